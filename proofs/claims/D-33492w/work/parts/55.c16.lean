/-! the component: choosing, the fewest tests -/
set_option maxRecDepth 100000
theorem ush_lN0 : lN 0 = lN 0 := rfl
/-- is there a lower place whose test shows all that t shows of o, and more, or has a lower number -/
def wkP (X : Nat → Nat) (o t u : Nat) : Bool := decide (u ≠ t) && (decide (adN (X t &&& o) (X u &&& o) = 0) && (decide (X t &&& o ≠ X u &&& o) || decide (u < t)))
def wkN (X : Nat → Nat) (o t : Nat) : Nat → Bool
  | 0 => false
  | n + 1 => wkN X o t n || wkP X o t n
theorem wkN_iff {X : Nat → Nat} {o t : Nat} : ∀ n, wkN X o t n = true ↔ ∃ u, u < n ∧ wkP X o t u = true := by
  intro n; induction n with
  | zero => exact ⟨fun h => (by cases h), fun ⟨u, hu, _⟩ => absurd hu (Nat.not_lt_zero u)⟩
  | succ n ih =>
    simp only [wkN, Bool.or_eq_true]
    rw [ih]
    constructor
    · rintro (⟨u, a, b⟩ | h)
      · exact ⟨u, by omega, b⟩
      · exact ⟨n, by omega, h⟩
    · rintro ⟨u, a, b⟩
      by_cases e : u = n
      · subst e; exact Or.inr b
      · exact Or.inl ⟨u, by omega, b⟩
theorem and_lt36 {a o : Nat} (h : o < 2 ^ 36) : a &&& o < 2 ^ 64 := Nat.lt_of_le_of_lt Nat.and_le_right (Nat.lt_trans h (by decide))
theorem adN_lt36 {a o b : Nat} (h : o < 2 ^ 36) : adN (a &&& o) b < 2 ^ 64 := Nat.lt_trans (adN_le2 (Nat.lt_of_le_of_lt Nat.and_le_right h)) (by decide)
/-- a test that no other one beats, and that shows at least what t shows of o -/
theorem wk_top {X : Nat → Nat} {o : Nat} : ∀ (m : Nat) (t : Nat), t < 64 → (64 * 2 ^ 36 - 64 * (X t &&& o) + t < m) → o < 2 ^ 36 → ∃ u, u < 64 ∧ wkN X o u 64 = false ∧ Sub (X t &&& o) (X u &&& o) := by
  intro m; induction m with
  | zero => intro t _ h; exact absurd h (Nat.not_lt_zero _)
  | succ m ih =>
    intro t ht hm ho
    cases hw : wkN X o t 64 with
    | false => exact ⟨t, ht, hw, fun _ h => h⟩
    | true =>
      obtain ⟨u, hu, hp⟩ := (wkN_iff 64).mp hw
      unfold wkP at hp
      simp only [Bool.and_eq_true, Bool.or_eq_true, decide_eq_true_eq] at hp
      obtain ⟨h1, h2, h3⟩ := hp
      have hs := adN_0.mp h2
      have hle : X t &&& o ≤ X u &&& o := by
        have e : (X t &&& o) &&& (X u &&& o) = X t &&& o := by
          apply Nat.eq_of_testBit_eq; intro i
          rw [Nat.testBit_and]
          cases hb : (X t &&& o).testBit i with
          | false => rfl
          | true => rw [hs i hb]; rfl
        rw [← e]; exact Nat.and_le_right
      have hu36 : X u &&& o < 2 ^ 36 := Nat.lt_of_le_of_lt Nat.and_le_right ho
      have hlt : 64 * 2 ^ 36 - 64 * (X u &&& o) + u < m := by
        rcases h3 with h3 | h3 <;> omega
      obtain ⟨v, a, b, c⟩ := ih u hu hlt ho
      exact ⟨v, a, b, fun i hi => c i (hs i hi)⟩
/-- the search by tests that no other one beats -/
theorem Cv_wk {X : Nat → Nat} {k o w : Nat} (ho : o < 2 ^ 36) (hw : o.testBit w = true) : Cv X (k + 1) o ↔ ∃ t, t < 64 ∧ (X t).testBit w = true ∧ wkN X o t 64 = false ∧ Cv X k (adN o (X t)) := by
  constructor
  · intro h
    obtain ⟨t, ht, hx, hc⟩ := (Cv_br hw).mp h
    obtain ⟨u, hu, hn, hs⟩ := wk_top (X := X) (o := o) _ t ht (Nat.lt_succ_self _) ho
    have hxu : (X u).testBit w = true := by
      have := hs w (by rw [Nat.testBit_and, hx, hw]; rfl)
      rw [Nat.testBit_and, Bool.and_eq_true] at this
      exact this.1
    refine ⟨u, hu, hxu, hn, Cv_sub hc ?_⟩
    intro i hi
    rw [adN_bit, Bool.and_eq_true] at hi ⊢
    refine ⟨hi.1, ?_⟩
    cases hb : (X t).testBit i with
    | false => rfl
    | true =>
      have := hs i (by rw [Nat.testBit_and, hb, hi.1]; rfl)
      rw [Nat.testBit_and, Bool.and_eq_true] at this
      rw [this.1] at hi; exact hi.2
  · rintro ⟨t, ht, hx, -, hc⟩
    exact (Cv_br hw).mpr ⟨t, ht, hx, hc⟩
theorem popc_ad {o x : Nat} : ∀ n, popc n o ≤ popc n (x &&& o) + popc n (adN o x) := by
  intro n; induction n with
  | zero => exact Nat.zero_le _
  | succ n ih =>
    cases ho : o.testBit n with
    | false => rw [popc_n ho, popc_n (by rw [Nat.testBit_and, ho, Bool.and_false]), popc_n (by rw [adN_bit, ho]; rfl)]; exact ih
    | true =>
      rw [popc_s ho]
      cases hx : x.testBit n with
      | true => rw [popc_s (s := x &&& o) (by rw [Nat.testBit_and, ho, hx]; rfl), popc_n (s := adN o x) (by rw [adN_bit, hx, Bool.not_true, Bool.and_false])]; omega
      | false => rw [popc_n (s := x &&& o) (by rw [Nat.testBit_and, hx]; rfl), popc_s (s := adN o x) (by rw [adN_bit, ho, hx]; rfl)]; omega
theorem popc_and {a b : Nat} : ∀ n, popc n (a &&& b) ≤ popc n b := by
  intro n; induction n with
  | zero => exact Nat.zero_le _
  | succ n ih =>
    cases hb : b.testBit n with
    | false => rw [popc_n hb, popc_n (by rw [Nat.testBit_and, hb, Bool.and_false])]; exact ih
    | true =>
      rw [popc_s hb]
      cases h : (a &&& b).testBit n with
      | true => rw [popc_s h]; omega
      | false => rw [popc_n h]; omega
theorem popc_sub {a b : Nat} (h : Sub a b) (n : Nat) : popc n a ≤ popc n b := by
  have e : a = a &&& b := by
    apply Nat.eq_of_testBit_eq; intro i
    rw [Nat.testBit_and]
    cases ha : a.testBit i with
    | false => rfl
    | true => rw [h i ha]; rfl
  rw [e]; exact popc_and n
theorem Cv_cnt {X : Nat → Nat} {m : Nat} : ∀ k o, (∀ t, t < 64 → popc 64 (X t &&& o) ≤ m) → Cv X k o → popc 64 o ≤ k * m := by
  intro k; induction k with
  | zero =>
    intro o _ h
    have h : o = 0 := h
    subst h
    rw [popc_zero (fun j _ => Nat.zero_testBit j)]; exact Nat.zero_le _
  | succ k ih =>
    intro o hm h
    rcases h with h | ⟨t, ht, hc⟩
    · subst h; rw [popc_zero (fun j _ => Nat.zero_testBit j)]; exact Nat.zero_le _
    · have h1 := @popc_ad o (X t) 64
      have h2 := hm t ht
      have h3 := ih (adN o (X t)) (fun u hu => Nat.le_trans (popc_sub (fun i hi => by rw [Nat.testBit_and, adN_bit, Bool.and_eq_true, Bool.and_eq_true] at hi; rw [Nat.testBit_and, hi.1, hi.2.1]; rfl) 64) (hm u hu)) hc
      rw [Nat.succ_mul]; omega
theorem popl_and (a b : Nat) : popl 64 (lN a &&& lN b) = popc 64 (a &&& b) := by rw [lN_and]; exact popl_lN _ 64 (Nat.le_refl _)
theorem Cv_few {X : Nat → Nat} {k o : Nat} (h : k * popl 64 (lN (X (stg X o) &&& o)) < popl 64 (lN o)) : ¬ Cv X k o := by
  intro hc
  rw [popl_lN _ 64 (Nat.le_refl _), popl_lN _ 64 (Nat.le_refl _)] at h
  have := Cv_cnt k o (m := popc 64 (X (stg X o) &&& o)) (fun t ht => by
    have := @stN_max X o 63 t (by omega)
    rw [popl_lN _ 64 (Nat.le_refl _), popl_lN _ 64 (Nat.le_refl _)] at this
    exact this) hc
  omega
/-- the hardest of the faults below n (0 for none, else + 1) -/
def hdN (Y : Nat → Int64) (o : Nat) : Nat → Nat
  | 0 => 0
  | n + 1 => if o.testBit n = true ∧ (hdN Y o n = 0 ∨ popl 64 (Y n) < popl 64 (Y (hdN Y o n - 1))) then n + 1 else hdN Y o n
theorem hdN_le {Y : Nat → Int64} {o : Nat} : ∀ n, hdN Y o n ≤ n := by
  intro n; induction n with
  | zero => exact Nat.le_refl _
  | succ n ih => simp only [hdN]; split <;> omega
theorem hdN_in {Y : Nat → Int64} {o : Nat} : ∀ n, hdN Y o n = 0 ∨ o.testBit (hdN Y o n - 1) = true := by
  intro n; induction n with
  | zero => exact Or.inl rfl
  | succ n ih =>
    simp only [hdN]; split
    · next h => exact Or.inr (by rw [Nat.add_sub_cancel]; exact h.1)
    · exact ih
theorem hdN_no {Y : Nat → Int64} {o : Nat} : ∀ n, hdN Y o n = 0 → ∀ i, i < n → o.testBit i = false := by
  intro n; induction n with
  | zero => intro _ i hi; exact absurd hi (Nat.not_lt_zero i)
  | succ n ih =>
    intro h i hi
    simp only [hdN] at h
    split at h
    · omega
    · next q =>
      by_cases e : i = n
      · subst e
        cases hb : o.testBit i with
        | false => rfl
        | true => exact absurd ⟨hb, Or.inl h⟩ q
      · exact ih h i (by omega)
theorem hdN_hit {Y : Nat → Int64} {o N : Nat} (ho : o < 2 ^ N) (h0 : ¬ o = 0) : hdN Y o N ≠ 0 ∧ hdN Y o N ≤ N ∧ o.testBit (hdN Y o N - 1) = true := by
  have h1 : hdN Y o N ≠ 0 := by
    intro h
    obtain ⟨f, hf⟩ := exists_bit h0
    have := hdN_no N h f (bit_small ho hf)
    rw [hf] at this; cases this
  refine ⟨h1, hdN_le N, ?_⟩
  rcases @hdN_in Y o N with h | h
  · exact absurd h h1
  · exact h
/-- no test below n goes on to a cover -/
def csN (X : Nat → Nat) (k o w n : Nat) : Prop := ∀ t, t < n → ¬ ((X t).testBit w = true ∧ wkN X o t 64 = false ∧ Cv X k (adN o (X t)))
theorem wkP_f1 {X : Nat → Nat} {o t u : Nat} (h : u = t) : wkP X o t u = false := by unfold wkP; rw [decide_eq_false (fun q => q h)]; rfl
theorem wkP_f2 {X : Nat → Nat} {o t u : Nat} (h : ¬ adN (X t &&& o) (X u &&& o) = 0) : wkP X o t u = false := by unfold wkP; rw [decide_eq_false h, Bool.false_and, Bool.and_false]
theorem wkP_f3 {X : Nat → Nat} {o t u : Nat} (h : X t &&& o = X u &&& o) (h2 : t ≤ u) : wkP X o t u = false := by unfold wkP; rw [decide_eq_false (show ¬ (X t &&& o ≠ X u &&& o) from fun q => q h), decide_eq_false (by omega : ¬ u < t), Bool.or_false, Bool.and_false, Bool.and_false]
theorem wkP_t {X : Nat → Nat} {o t u : Nat} (h : ¬ u = t) (h2 : adN (X t &&& o) (X u &&& o) = 0) (h3 : ¬ X t &&& o = X u &&& o ∨ u < t) : wkP X o t u = true := by
  unfold wkP; rw [decide_eq_true h, decide_eq_true h2, Bool.true_and, Bool.true_and, Bool.or_eq_true, decide_eq_true_eq, decide_eq_true_eq]; exact h3
set_option maxHeartbeats 4000000 in
set_option maxRecDepth 100000 in
theorem mt_X1_isWeaker (l : Launch) (D : va_G) (ca : Nat → ClassId) (cq : Nat → Nat) (xq : Nat → Nat) (kd : Nat → Int32) (fs : Nat → Int32) (sn : Nat → Int32) (ak : Nat → Int32) (ga : Int32) (ot : Int32) (bx : Int32) (se : Int32) (su : Int32) (ch : Int64) (ad : Int32) (tb_ : Nat → Int64) (va : Nat → Int32) (fy : Nat → Int64) (cn : Nat → Int32) (an : Nat → Int32) (sw : Nat → Int64) (sb : Nat → Int64) (sv : Value) (X_ : Nat → Nat) (t_ : Nat) (o_ : Nat) (hsb : ∀ t, t < 64 → sb t = lN (X_ t)) (ht : t_ < 64) (ho36 : o_ < 2 ^ 36) (nn : Nat) : Met l yX1_isWeaker (ws_ yX1_isWeaker cX1_isWeaker 9 (Option.some Jvm.ClassFile.FieldType.boolean)) ({ frames := 0, cells := 0, slots := 0, locals := 0 } : Room) (va_Pc [.ref (xq 0), .int (nI t_), .long (lN o_)] (PreW EvX D vwCl (TY ca) (WT ca cq xq kd fs sn ak ga ot bx se su ch ad tb_ va fy cn an sw sb sv) nn)) (va_Qi (fun (r_ : Int32) (_ : Unit) => r_ = bI (wkN X_ o_ t_ 64)) (PostW D vwCl (TY ca) (fun (_ : Unit) => (WT ca cq xq kd fs sn ak ga ot bx se su ch ad tb_ va fy cn an sw sb sv)) (va_A (WT ca cq xq kd fs sn ak ga ot bx se su ch ad tb_ va fy cn an sw sb sv) nn)) (va_A (WT ca cq xq kd fs sn ak ga ot bx se su ch ad tb_ va fy cn an sw sb sv) nn)) 0 0 (va_A (WT ca cq xq kd fs sn ak ga ot bx se su ch ad tb_ va fy cn an sw sb sv) nn) := by
  refine met_go (QA := fun A => va_Qi (fun (r_ : Int32) (_ : Unit) => r_ = bI (wkN X_ o_ t_ 64)) (PostW D vwCl (TY ca) (fun (_ : Unit) => (WT ca cq xq kd fs sn ak ga ot bx se su ch ad tb_ va fy cn an sw sb sv)) A) A) (by decide) (Nat.le_of_ble_eq_true rfl) (fun p e s m below meth c A ls QQ hQQ hx hb hr hts hown hlocks hml hA hP hK hD hE hl => ?_)
  have hown : s.vm.findClass RX1 = some m.cls := hown
  have hS : va_S A s.heap s.heap [] := va_S.rf
  have hl : lv_has ls 9 [(0, .ref (xq 0)), (1, .int (nI t_)), (2, .long (lN o_))] := hl
  generalize hHe : s.heap = H at hP ⊢
  have hS : va_S A s.heap H [] := hHe ▸ hS
  generalize ([] : List Loc) = locs at hS ⊢
  refine lv_aload_n hx hb dX1_isWeaker_0 rfl (lv_at hl 0 rfl) ?_
  refine gWT_5_shownBy_X1 hx hb hts hown hK hP dX1_isWeaker_1 ?_
  refine lv_iload_n hx hb dX1_isWeaker_4 rfl (lv_at hl 1 rfl) ?_
  refine ldWT_12 hx hb hK hP (by omega) dX1_isWeaker_5 ?_
  refine lv_topl (nm_r (e' := lN (X_ t_)) (hsb t_ (by omega)) ?_)
  refine lv_lload_n hx hb dX1_isWeaker_6 rfl (lv_at hl 2 rfl) ?_
  refine lv_land hx hb dX1_isWeaker_7 (lv_topl (nm_r (e' := lN ((X_ t_) &&& o_)) (klN_and (X_ t_) o_) ?_))
  refine lv_lstore (lv' := [(4, .long (lN ((X_ t_) &&& o_))), (0, .ref (xq 0)), (1, .int (nI t_)), (2, .long (lN o_))]) hx hb dX1_isWeaker_8 hl (by decide) rfl (fun ls hl => ?_)
  refine lv_iconst (v := nI 0) hx hb dX1_isWeaker_10 (by decide) ?_
  refine lv_istore (lv' := [(6, .int (nI 0)), (4, .long (lN ((X_ t_) &&& o_))), (0, .ref (xq 0)), (1, .int (nI t_)), (2, .long (lN o_))]) hx hb dX1_isWeaker_11 hl (by decide) rfl (fun ls hl => ?_)
  have lp_13 : ∀ (fu_13 : Nat) (u : Nat), 64 - u < fu_13 → (u ≤ 64) → (wkN X_ o_ t_ u = false) → ∀ (H : Heap) (locs : List Loc), va_P D vwCl (WT ca cq xq kd fs sn ak ga ot bx se su ch ad tb_ va fy cn an sw sb sv) H → va_D A (WT ca cq xq kd fs sn ak ga ot bx se su ch ad tb_ va fy cn an sw sb sv) → va_S A s.heap H locs → ∀ (ls : Array Slot), lv_has ls 9 [(6, .int (nI u)), (4, .long (lN ((X_ t_) &&& o_))), (0, .ref (xq 0)), (1, .int (nI t_)), (2, .long (lN o_))] → W p l e ({ frames := 0, cells := 0, slots := 0, locals := 0 } : Room) s m ([.ref (xq 0), .int (nI t_), .long (lN o_)] : List Value).toArray below meth c H locs 0 0 QQ (F0 m 13 ls []) := by
    intro fu_13
    induction fu_13 with
    | zero => intro u hfu; exact absurd hfu (Nat.not_lt_zero _)
    | succ fu_13 ih_13 =>
      intro u hfu hu hw_ H locs hP hD hS ls hl
      refine lv_iload hx hb dX1_isWeaker_13 (lv_at hl 0 rfl) ?_
      refine lv_bipush (v := nI 64) hx hb dX1_isWeaker_15 (by decide) ?_
      refine nv_icmp_ge (tgt := 73) hx hb dX1_isWeaker_17 (by decide) (by omega) (by omega) (fun c_17 => ?_) (fun c_17 => ?_)
      · skip
        have e_ : 64 = u := Eq.symm (by omega)
        subst e_
        refine lv_iconst (v := nI 0) hx hb dX1_isWeaker_73 (by decide) ?_
        subst hQQ
        refine (xe_z (b := false) () hx hb hr hlocks hK hP hD hS (congrArg bI hw_.symm) dX1_isWeaker_74)
      · skip
        refine lv_aload_n hx hb dX1_isWeaker_20 rfl (lv_at hl 2 rfl) ?_
        refine gWT_5_shownBy_X1 hx hb hts hown hK hP dX1_isWeaker_21 ?_
        refine lv_iload hx hb dX1_isWeaker_24 (lv_at hl 0 rfl) ?_
        refine ldWT_12 hx hb hK hP (by omega) dX1_isWeaker_26 ?_
        refine lv_topl (nm_r (e' := lN (X_ u)) (hsb u (by omega)) ?_)
        refine lv_lload_n hx hb dX1_isWeaker_27 rfl (lv_at hl 4 rfl) ?_
        refine lv_land hx hb dX1_isWeaker_28 (lv_topl (nm_r (e' := lN ((X_ u) &&& o_)) (klN_and (X_ u) o_) ?_))
        refine lv_lstore (lv' := [(7, .long (lN ((X_ u) &&& o_))), (6, .int (nI u)), (4, .long (lN ((X_ t_) &&& o_))), (0, .ref (xq 0)), (1, .int (nI t_)), (2, .long (lN o_))]) hx hb dX1_isWeaker_29 hl (by decide) rfl (fun ls hl => ?_)
        refine lv_iload hx hb dX1_isWeaker_31 (lv_at hl 1 rfl) ?_
        refine lv_iload_n hx hb dX1_isWeaker_33 rfl (lv_at hl 4 rfl) ?_
        refine nv_icmp_eq (tgt := 67) hx hb dX1_isWeaker_34 (by decide) (by omega) (by omega) (fun c_34 => ?_) (fun c_34 => ?_)
        · skip
          refine lv_iinc (v := nI (u + 1)) (lv' := [(6, .int (nI (u + 1))), (7, .long (lN ((X_ u) &&& o_))), (4, .long (lN ((X_ t_) &&& o_))), (0, .ref (xq 0)), (1, .int (nI t_)), (2, .long (lN o_))]) hx hb dX1_isWeaker_67 hl (k := 1) rfl (nI_add u 1) (by decide) rfl (fun ls hl => ?_)
          refine lv_goto (tgt := 13) hx hb dX1_isWeaker_70 (by decide) ?_
          exact ih_13  (u + 1) (by omega) (by omega) (by simp only [wkN]; rw [hw_, Bool.false_or]; first | exact wkP_f1 c_34 | exact wkP_f2 (fun h_ => c_47 (congrArg lN h_)) | exact wkP_f3 ((lN_inj (and_lt36 ho36) (and_lt36 ho36)).mp c_55) c_62) _ _ hP hD hS ls (lv_sub hl [0, 2, 3, 4, 5] rfl)
        · skip
          refine lv_lload hx hb dX1_isWeaker_37 (lv_at hl 2 rfl) ?_
          refine lv_lload hx hb dX1_isWeaker_39 (lv_at hl 0 rfl) ?_
          refine lv_ldc2 (v := (-1)) hx hb hown (hts _ q476) dX1_isWeaker_41 ?_
          refine lv_lxor hx hb dX1_isWeaker_44 ?_
          refine lv_land hx hb dX1_isWeaker_45 ?_
          refine lv_topl (nm_r (e' := lN (adN (X_ t_ &&& o_) (X_ u &&& o_))) (lN_adn) ?_)
          refine lv_lconst (v := lN 0) hx hb dX1_isWeaker_46 (by decide) ?_
          refine nv_lcmp_ne (tgt := 67) hx hb dX1_isWeaker_47 dX1_isWeaker_48 (by decide) (fun c_47 => ?_) (fun c_47 => ?_)
          · skip
            refine lv_iinc (v := nI (u + 1)) (lv' := [(6, .int (nI (u + 1))), (7, .long (lN ((X_ u) &&& o_))), (4, .long (lN ((X_ t_) &&& o_))), (0, .ref (xq 0)), (1, .int (nI t_)), (2, .long (lN o_))]) hx hb dX1_isWeaker_67 hl (k := 1) rfl (nI_add u 1) (by decide) rfl (fun ls hl => ?_)
            refine lv_goto (tgt := 13) hx hb dX1_isWeaker_70 (by decide) ?_
            exact ih_13  (u + 1) (by omega) (by omega) (by simp only [wkN]; rw [hw_, Bool.false_or]; first | exact wkP_f1 c_34 | exact wkP_f2 (fun h_ => c_47 (congrArg lN h_)) | exact wkP_f3 ((lN_inj (and_lt36 ho36) (and_lt36 ho36)).mp c_55) c_62) _ _ hP hD hS ls (lv_sub hl [0, 2, 3, 4, 5] rfl)
          · skip
            refine lv_lload hx hb dX1_isWeaker_51 (lv_at hl 2 rfl) ?_
            refine lv_lload hx hb dX1_isWeaker_53 (lv_at hl 0 rfl) ?_
            refine nv_lcmp_ne (tgt := 65) hx hb dX1_isWeaker_55 dX1_isWeaker_56 (by decide) (fun c_55 => ?_) (fun c_55 => ?_)
            · skip
              refine lv_iconst (v := nI 1) hx hb dX1_isWeaker_65 (by decide) ?_
              subst hQQ
              refine (xe_z (b := true) () hx hb hr hlocks hK hP hD hS (congrArg bI ((wkN_iff 64).mpr ⟨u, by omega, wkP_t c_34 ((lN_eq0 (adN_lt36 ho36)).mp c_47) (by first | exact Or.inr c_62 | exact Or.inl (fun h_ => c_55 (congrArg lN h_)))⟩).symm) dX1_isWeaker_66)
            · skip
              refine lv_iload hx hb dX1_isWeaker_59 (lv_at hl 1 rfl) ?_
              refine lv_iload_n hx hb dX1_isWeaker_61 rfl (lv_at hl 4 rfl) ?_
              refine nv_icmp_ge (tgt := 67) hx hb dX1_isWeaker_62 (by decide) (by omega) (by omega) (fun c_62 => ?_) (fun c_62 => ?_)
              · skip
                refine lv_iinc (v := nI (u + 1)) (lv' := [(6, .int (nI (u + 1))), (7, .long (lN ((X_ u) &&& o_))), (4, .long (lN ((X_ t_) &&& o_))), (0, .ref (xq 0)), (1, .int (nI t_)), (2, .long (lN o_))]) hx hb dX1_isWeaker_67 hl (k := 1) rfl (nI_add u 1) (by decide) rfl (fun ls hl => ?_)
                refine lv_goto (tgt := 13) hx hb dX1_isWeaker_70 (by decide) ?_
                exact ih_13  (u + 1) (by omega) (by omega) (by simp only [wkN]; rw [hw_, Bool.false_or]; first | exact wkP_f1 c_34 | exact wkP_f2 (fun h_ => c_47 (congrArg lN h_)) | exact wkP_f3 ((lN_inj (and_lt36 ho36) (and_lt36 ho36)).mp c_55) c_62) _ _ hP hD hS ls (lv_sub hl [0, 2, 3, 4, 5] rfl)
              · skip
                refine lv_iconst (v := nI 1) hx hb dX1_isWeaker_65 (by decide) ?_
                subst hQQ
                refine (xe_z (b := true) () hx hb hr hlocks hK hP hD hS (congrArg bI ((wkN_iff 64).mpr ⟨u, by omega, wkP_t c_34 ((lN_eq0 (adN_lt36 ho36)).mp c_47) (by first | exact Or.inr c_62 | exact Or.inl (fun h_ => c_55 (congrArg lN h_)))⟩).symm) dX1_isWeaker_66)
  exact lp_13 (64 - 0 + 1) 0 (Nat.lt_succ_self _) (by omega) rfl _ _ hP hD hS ls (lv_sub hl [0, 1, 2, 3, 4] rfl)
set_option maxHeartbeats 4000000 in
set_option maxRecDepth 100000 in
theorem mt_X1_strongest (l : Launch) (D : va_G) (ca : Nat → ClassId) (cq : Nat → Nat) (xq : Nat → Nat) (kd : Nat → Int32) (fs : Nat → Int32) (sn : Nat → Int32) (ak : Nat → Int32) (ga : Int32) (ot : Int32) (bx : Int32) (se : Int32) (su : Int32) (ch : Int64) (ad : Int32) (tb_ : Nat → Int64) (va : Nat → Int32) (fy : Nat → Int64) (cn : Nat → Int32) (an : Nat → Int32) (sw : Nat → Int64) (sb : Nat → Int64) (sv : Value) (X_ : Nat → Nat) (o_ : Nat) (hsb : ∀ t, t < 64 → sb t = lN (X_ t)) (nn : Nat) : Met l yX1_strongest (ws_ yX1_strongest cX1_strongest 5 (Option.some Jvm.ClassFile.FieldType.int)) ({ frames := 1, cells := 0, slots := 0, locals := 21 } : Room) (va_Pc [.ref (xq 0), .long (lN o_)] (PreW EvX D vwCl (TY ca) (WT ca cq xq kd fs sn ak ga ot bx se su ch ad tb_ va fy cn an sw sb sv) nn)) (va_Qi (fun (r_ : Int32) (_ : Unit) => r_ = nI (stg X_ o_)) (PostW D vwCl (TY ca) (fun (_ : Unit) => (WT ca cq xq kd fs sn ak ga ot bx se su ch ad tb_ va fy cn an sw sb sv)) (va_A (WT ca cq xq kd fs sn ak ga ot bx se su ch ad tb_ va fy cn an sw sb sv) nn)) (va_A (WT ca cq xq kd fs sn ak ga ot bx se su ch ad tb_ va fy cn an sw sb sv) nn)) 0 0 (va_A (WT ca cq xq kd fs sn ak ga ot bx se su ch ad tb_ va fy cn an sw sb sv) nn) := by
  refine met_go (QA := fun A => va_Qi (fun (r_ : Int32) (_ : Unit) => r_ = nI (stg X_ o_)) (PostW D vwCl (TY ca) (fun (_ : Unit) => (WT ca cq xq kd fs sn ak ga ot bx se su ch ad tb_ va fy cn an sw sb sv)) A) A) (by decide) (Nat.le_of_ble_eq_true rfl) (fun p e s m below meth c A ls QQ hQQ hx hb hr hts hown hlocks hml hA hP hK hD hE hl => ?_)
  have hown : s.vm.findClass RX1 = some m.cls := hown
  have hS : va_S A s.heap s.heap [] := va_S.rf
  have hl : lv_has ls 5 [(0, .ref (xq 0)), (1, .long (lN o_))] := hl
  generalize hHe : s.heap = H at hP ⊢
  have hS : va_S A s.heap H [] := hHe ▸ hS
  generalize ([] : List Loc) = locs at hS ⊢
  refine lv_iconst (v := nI 0) hx hb dX1_strongest_0 (by decide) ?_
  refine lv_istore_n (lv' := [(3, .int (nI 0)), (0, .ref (xq 0)), (1, .long (lN o_))]) hx hb dX1_strongest_1 rfl hl (by decide) rfl (fun ls hl => ?_)
  refine lv_iconst (v := nI 1) hx hb dX1_strongest_2 (by decide) ?_
  refine lv_istore (lv' := [(4, .int (nI 1)), (3, .int (nI 0)), (0, .ref (xq 0)), (1, .long (lN o_))]) hx hb dX1_strongest_3 hl (by decide) rfl (fun ls hl => ?_)
  have lp_5 : ∀ (fu_5 : Nat) (n : Nat), 63 - n < fu_5 → (n ≤ 63) → ∀ (H : Heap) (locs : List Loc), va_P D vwCl (WT ca cq xq kd fs sn ak ga ot bx se su ch ad tb_ va fy cn an sw sb sv) H → va_D A (WT ca cq xq kd fs sn ak ga ot bx se su ch ad tb_ va fy cn an sw sb sv) → va_S A s.heap H locs → ∀ (ls : Array Slot), lv_has ls 5 [(4, .int (nI (n + 1))), (3, .int (nI (stN X_ o_ n))), (0, .ref (xq 0)), (1, .long (lN o_))] → W p l e ({ frames := 1, cells := 0, slots := 0, locals := 21 } : Room) s m ([.ref (xq 0), .long (lN o_)] : List Value).toArray below meth c H locs 0 0 QQ (F0 m 5 ls []) := by
    intro fu_5
    induction fu_5 with
    | zero => intro n hfu; exact absurd hfu (Nat.not_lt_zero _)
    | succ fu_5 ih_5 =>
      intro n hfu hn H locs hP hD hS ls hl
      refine lv_iload hx hb dX1_strongest_5 (lv_at hl 0 rfl) ?_
      refine lv_bipush (v := nI 64) hx hb dX1_strongest_7 (by decide) ?_
      refine nv_icmp_ge (tgt := 51) hx hb dX1_strongest_9 (by decide) (by omega) (by omega) (fun c_9 => ?_) (fun c_9 => ?_)
      · skip
        have e_ : 63 = n := Eq.symm (by omega)
        subst e_
        refine lv_iload_n hx hb dX1_strongest_51 rfl (lv_at hl 1 rfl) ?_
        subst hQQ
        exact xe_i (v := nI (stN X_ o_ 63)) () hx hb hr hlocks hK hP hD hS (rfl) dX1_strongest_52
      · skip
        refine lv_aload_n hx hb dX1_strongest_12 rfl (lv_at hl 2 rfl) ?_
        refine gWT_5_shownBy_X1 hx hb hts hown hK hP dX1_strongest_13 ?_
        refine lv_iload hx hb dX1_strongest_16 (lv_at hl 0 rfl) ?_
        refine ldWT_12 hx hb hK hP (by omega) dX1_strongest_18 ?_
        refine lv_topl (nm_r (e' := lN (X_ (n + 1))) (hsb (n + 1) (by omega)) ?_)
        refine lv_lload_n hx hb dX1_strongest_19 rfl (lv_at hl 3 rfl) ?_
        refine lv_land hx hb dX1_strongest_20 (lv_topl (nm_r (e' := lN ((X_ (n + 1)) &&& o_)) (klN_and (X_ (n + 1)) o_) ?_))
        refine xc_i (xr_S (As := [.long (lN ((X_ (n + 1)) &&& o_))]) (rest := []) (mt_J16_bitCount_r l D ca (lN ((X_ (n + 1)) &&& o_))  H.size) ⟨hx, hb, hml, hown, hts⟩ (va_cwS 1 hts (lw_S q485 q486 q100 q487) rfl rfl rfl (by decide +kernel) ⟨Nat.le_of_ble_eq_true rfl, Nat.le_of_ble_eq_true rfl⟩) Ev0_ok trivial hK hS (Cut.app (wc := []) (wr := (WT ca cq xq kd fs sn ak ga ot bx se su ch ad tb_ va fy cn an sw sb sv)) hP hD hS hA) rfl hl.1 rfl (Nat.le_of_ble_eq_true rfl) dX1_strongest_21 ⟨Nat.le_of_ble_eq_true rfl, Nat.le_of_ble_eq_true rfl⟩) hS (Cut.app (wc := []) (wr := (WT ca cq xq kd fs sn ak ga ot bx se su ch ad tb_ va fy cn an sw sb sv)) hP hD hS hA) (fun r_2 u_3 H locs hq_21 hP hD hS => ?_)
        have hP : va_P D vwCl (WT ca cq xq kd fs sn ak ga ot bx se su ch ad tb_ va fy cn an sw sb sv) H := hP
        have hD : va_D A (WT ca cq xq kd fs sn ak ga ot bx se su ch ad tb_ va fy cn an sw sb sv) := hD
        have hp_21 : r_2 = nI (popl 64 (lN ((X_ (n + 1)) &&& o_))) := hq_21
        clear hq_21
        obtain rfl := hp_21
        refine lv_aload_n hx hb dX1_strongest_24 rfl (lv_at hl 2 rfl) ?_
        refine gWT_5_shownBy_X1 hx hb hts hown hK hP dX1_strongest_25 ?_
        refine lv_iload_n hx hb dX1_strongest_28 rfl (lv_at hl 1 rfl) ?_
        refine ldWT_12 hx hb hK hP (by have := @stN_le X_ o_ n; omega) dX1_strongest_29 ?_
        refine lv_topl (nm_r (e' := lN (X_ (stN X_ o_ n))) (hsb _ (by have := @stN_le X_ o_ n; omega)) ?_)
        refine lv_lload_n hx hb dX1_strongest_30 rfl (lv_at hl 3 rfl) ?_
        refine lv_land hx hb dX1_strongest_31 (lv_topl (nm_r (e' := lN ((X_ (stN X_ o_ n)) &&& o_)) (klN_and (X_ (stN X_ o_ n)) o_) ?_))
        refine xc_i (xr_S (As := [.long (lN ((X_ (stN X_ o_ n)) &&& o_))]) (rest := [.int (nI (popl 64 (lN ((X_ (n + 1)) &&& o_))))]) (mt_J16_bitCount_r l D ca (lN ((X_ (stN X_ o_ n)) &&& o_))  H.size) ⟨hx, hb, hml, hown, hts⟩ (va_cwS 1 hts (lw_S q485 q486 q100 q487) rfl rfl rfl (by decide +kernel) ⟨Nat.le_of_ble_eq_true rfl, Nat.le_of_ble_eq_true rfl⟩) Ev0_ok trivial hK hS (Cut.app (wc := []) (wr := (WT ca cq xq kd fs sn ak ga ot bx se su ch ad tb_ va fy cn an sw sb sv)) hP hD hS hA) rfl hl.1 rfl (Nat.le_of_ble_eq_true rfl) dX1_strongest_32 ⟨Nat.le_of_ble_eq_true rfl, Nat.le_of_ble_eq_true rfl⟩) hS (Cut.app (wc := []) (wr := (WT ca cq xq kd fs sn ak ga ot bx se su ch ad tb_ va fy cn an sw sb sv)) hP hD hS hA) (fun r_4 u_5 H locs hq_32 hP hD hS => ?_)
        have hP : va_P D vwCl (WT ca cq xq kd fs sn ak ga ot bx se su ch ad tb_ va fy cn an sw sb sv) H := hP
        have hD : va_D A (WT ca cq xq kd fs sn ak ga ot bx se su ch ad tb_ va fy cn an sw sb sv) := hD
        have hp_32 : r_4 = nI (popl 64 (lN ((X_ (stN X_ o_ n)) &&& o_))) := hq_32
        clear hq_32
        obtain rfl := hp_32
        refine nv_icmp_le (tgt := 43) hx hb dX1_strongest_35 (by decide) (by have := popl_le 64 (lN (X_ (n + 1) &&& o_)); omega) (by have := popl_le 64 (lN (X_ (stN X_ o_ n) &&& o_)); omega) (fun c_35 => ?_) (fun c_35 => ?_)
        · skip
          refine lv_iload_n hx hb dX1_strongest_43 rfl (lv_at hl 1 rfl) ?_
          refine lv_topi (nm_r (e' := nI (stN X_ o_ (n + 1))) (congrArg nI (by simp only [stN]; rw [if_neg (by omega)])) ?_)
          refine lv_istore_n (lv' := [(3, .int (nI (stN X_ o_ (n + 1)))), (4, .int (nI (n + 1))), (0, .ref (xq 0)), (1, .long (lN o_))]) hx hb dX1_strongest_44 rfl hl (by decide) rfl (fun ls hl => ?_)
          refine lv_iinc (v := nI (n + 1 + 1)) (lv' := [(4, .int (nI (n + 1 + 1))), (3, .int (nI (stN X_ o_ (n + 1)))), (0, .ref (xq 0)), (1, .long (lN o_))]) hx hb dX1_strongest_45 hl (k := 1) rfl (nI_add (n + 1) 1) (by decide) rfl (fun ls hl => ?_)
          refine lv_goto (tgt := 5) hx hb dX1_strongest_48 (by decide) ?_
          exact ih_5  (n + 1) (by omega) (by omega) _ _ hP hD hS ls (lv_sub hl [0, 1, 2, 3] rfl)
        · skip
          refine lv_iload hx hb dX1_strongest_38 (lv_at hl 0 rfl) ?_
          refine lv_goto (tgt := 44) hx hb dX1_strongest_40 (by decide) ?_
          refine lv_topi (nm_r (e' := nI (stN X_ o_ (n + 1))) (congrArg nI (by simp only [stN]; rw [if_pos c_35])) ?_)
          refine lv_istore_n (lv' := [(3, .int (nI (stN X_ o_ (n + 1)))), (4, .int (nI (n + 1))), (0, .ref (xq 0)), (1, .long (lN o_))]) hx hb dX1_strongest_44 rfl hl (by decide) rfl (fun ls hl => ?_)
          refine lv_iinc (v := nI (n + 1 + 1)) (lv' := [(4, .int (nI (n + 1 + 1))), (3, .int (nI (stN X_ o_ (n + 1)))), (0, .ref (xq 0)), (1, .long (lN o_))]) hx hb dX1_strongest_45 hl (k := 1) rfl (nI_add (n + 1) 1) (by decide) rfl (fun ls hl => ?_)
          refine lv_goto (tgt := 5) hx hb dX1_strongest_48 (by decide) ?_
          exact ih_5  (n + 1) (by omega) (by omega) _ _ hP hD hS ls (lv_sub hl [0, 1, 2, 3] rfl)
  have hl : lv_has ls 5 [(4, .int (nI 1)), (3, .int (nI (stN X_ o_ 0))), (0, .ref (xq 0)), (1, .long (lN o_))] := (congrArg (fun x_ => lv_has ls 5 [(4, .int (nI 1)), (3, .int x_), (0, .ref (xq 0)), (1, .long (lN o_))]) (show nI 0 = nI (stN X_ o_ 0) from rfl)).mp hl
  exact lp_5 (63 - 0 + 1) 0 (Nat.lt_succ_self _) (by omega) _ _ hP hD hS ls (lv_sub hl [0, 1, 2, 3] rfl)
theorem msk_bit {L : List Nat} {i : Nat} : (msk L).testBit i = true ↔ i ∈ L := by
  induction L with
  | nil => simp [msk]
  | cons t L ih =>
    simp only [msk]
    rw [Nat.testBit_or, tb_sh, Bool.or_eq_true, decide_eq_true_eq, ih, List.mem_cons]
    exact ⟨fun h => h.elim (fun e => Or.inl e.symm) Or.inr, fun h => h.elim (fun e => Or.inl e.symm) Or.inr⟩
theorem popc_or1 {s t : Nat} (h : s.testBit t = false) : ∀ n, popc n (1 <<< t ||| s) = popc n s + (if t < n then 1 else 0) := by
  intro n; induction n with
  | zero => rfl
  | succ n ih =>
    by_cases e : t = n
    · subst e
      rw [popc_s (by rw [Nat.testBit_or, tb_sh, decide_eq_true rfl]; rfl), popc_n h, ih, if_neg (by omega), if_pos (by omega)]
    · have e2 : (1 <<< t ||| s).testBit n = s.testBit n := by rw [Nat.testBit_or, tb_sh, decide_eq_false e, Bool.false_or]
      have e3 : (if t < n + 1 then 1 else 0) = (if t < n then 1 else 0) := by
        by_cases q : t < n
        · rw [if_pos q, if_pos (by omega)]
        · rw [if_neg q, if_neg (by omega)]
      cases hb : s.testBit n with
      | true => rw [popc_s (by rw [e2, hb]), popc_s hb, ih, e3]; omega
      | false => rw [popc_n (by rw [e2, hb]), popc_n hb, ih, e3]
theorem grd_mem {X : Nat → Nat} : ∀ k o t, AllSh X o → o < 2 ^ 63 → t ∈ grd X k o → t < 64 ∧ X t &&& o ≠ 0 := by
  intro k; induction k with
  | zero => intro o t _ _ h; cases h
  | succ k ih =>
    intro o t ha ho h
    by_cases h0 : o = 0
    · subst h0; rw [grd_e] at h; cases h
    · rw [grd_s h0] at h
      rcases List.mem_cons.mp h with e | h
      · subst e; exact ⟨stg_lt _ _, stg_hit ha h0 ho⟩
      · obtain ⟨h1, h2⟩ := ih _ t (AllSh_ad ha) (adN_le2 ho) h
        refine ⟨h1, fun e => h2 ?_⟩
        apply Nat.eq_of_testBit_eq; intro i
        have := congrArg (fun z => z.testBit i) e
        simp only [Nat.testBit_and, Nat.zero_testBit] at this
        rw [Nat.testBit_and, adN_bit, Nat.zero_testBit]
        cases hx : (X t).testBit i with
        | false => rfl
        | true => rw [hx, Bool.true_and] at this; rw [this]; rfl
theorem grd_pop {X : Nat → Nat} : ∀ k o, AllSh X o → o < 2 ^ 63 → popc 64 (msk (grd X k o)) = (grd X k o).length := by
  intro k; induction k with
  | zero => intro o _ _; exact popc_zero (fun j _ => Nat.zero_testBit j)
  | succ k ih =>
    intro o ha ho
    by_cases h0 : o = 0
    · subst h0; rw [grd_e]; exact popc_zero (fun j _ => Nat.zero_testBit j)
    · rw [grd_s h0]
      simp only [msk, List.length_cons]
      have hn : (msk (grd X k (adN o (X (stg X o))))).testBit (stg X o) = false := by
        cases hb : (msk (grd X k (adN o (X (stg X o))))).testBit (stg X o) with
        | false => rfl
        | true =>
          obtain ⟨-, h2⟩ := grd_mem k _ _ (AllSh_ad ha) (adN_le2 ho) (msk_bit.mp hb)
          exfalso; apply h2
          apply Nat.eq_of_testBit_eq; intro i
          rw [Nat.testBit_and, adN_bit, Nat.zero_testBit]
          cases (X (stg X o)).testBit i <;> cases o.testBit i <;> rfl
      rw [popc_or1 hn, ih _ (AllSh_ad ha) (adN_le2 ho), if_pos (stg_lt X o)]
theorem msk_lt {L : List Nat} (h : ∀ t, t ∈ L → t < 64) : msk L < 2 ^ 64 := by
  induction L with
  | nil => exact Nat.two_pow_pos 64
  | cons t L ih => exact Nat.or_lt_two_pow (sh_lt (h t List.mem_cons_self)) (ih (fun u hu => h u (List.mem_cons_of_mem _ hu)))
theorem chs_pop {C : Nat → Nat} (h0 : C 0 ≤ 12) : popl 64 (lN (msk (chs C))) = (chs C).length := by
  rw [popl_lN _ 64 (Nat.le_refl _)]
  exact grd_pop _ _ AllSh_open (Nat.lt_of_lt_of_le (opn_lt _) (Nat.pow_le_pow_right (by decide) (by omega)))
theorem chs_lt {C : Nat → Nat} (h0 : C 0 ≤ 12) : msk (chs C) < 2 ^ 64 :=
  msk_lt (fun t ht => (grd_mem _ _ _ AllSh_open (Nat.lt_of_lt_of_le (opn_lt _) (Nat.pow_le_pow_right (by decide) (by omega))) ht).1)
