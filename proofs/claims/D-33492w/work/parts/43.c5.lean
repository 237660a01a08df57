/-! the component: wires that are looked at -/
set_option maxRecDepth 100000
theorem n_ext {a b : Nat} (h : ∀ i, a.testBit i = b.testBit i) : a = b := Nat.eq_of_testBit_eq h
theorem stp_or {C : Nat → Nat} {g s t : Nat} : stp C g (s ||| t) = stp C g s ||| stp C g t := by
  apply n_ext; intro i
  unfold stp
  rw [Nat.testBit_or]
  cases hs : s.testBit (6 + g) <;> cases ht : t.testBit (6 + g) <;> simp only [Bool.or_false, Bool.or_true, Bool.false_eq_true, if_true, if_false, Nat.testBit_or] <;> (generalize Nat.testBit s i = a; generalize Nat.testBit t i = b; generalize Nat.testBit (1 <<< C (13 + g)) i = c; generalize Nat.testBit (if C (1 + g) < 6 then 1 <<< C (25 + g) else 0) i = d; cases a <;> cases b <;> cases c <;> cases d <;> rfl)
theorem bo_or {C : Nat → Nat} : ∀ {n s t : Nat}, bo C n (s ||| t) = bo C n s ||| bo C n t := by
  intro n; induction n with
  | zero => intro s t; rfl
  | succ n ih => intro s t; show bo C n (stp C n (s ||| t)) = bo C n (stp C n s) ||| bo C n (stp C n t); rw [stp_or, ih]
theorem bo_0 {C : Nat → Nat} : ∀ n, bo C n 0 = 0 := by
  intro n; induction n with
  | zero => rfl
  | succ n ih => show bo C n (stp C n 0) = 0; rw [← stp_n (by exact Nat.zero_testBit _), ih]
theorem bo_hi {C : Nat → Nat} {l : Nat} : ∀ {n m : Nat}, m ≤ n → l - 5 ≤ m → bo C n (1 <<< l) = bo C m (1 <<< l) := by
  intro n; induction n with
  | zero => intro m h _; rw [Nat.le_zero.mp h]
  | succ n ih =>
    intro m h h2
    by_cases e : m = n + 1
    · rw [e]
    · show bo C n (stp C n (1 <<< l)) = _
      have hb : (1 <<< l).testBit (6 + n) = false := by rw [tb_sh]; exact decide_eq_false (by omega)
      rw [← stp_n hb]
      exact ih (by omega) h2
/-- the lines that go to outputs below n -/
def lvF (C : Nat → Nat) : Nat → Nat
  | 0 => 0
  | n + 1 => lvF C n ||| (if (C 37).testBit n = true then bo C (n - 5) (1 <<< n) else 0)
def owF (C : Nat → Nat) : Nat → Nat
  | 0 => 0
  | n + 1 => owF C n ||| (if (C 37).testBit n = true then 1 <<< n else 0)
theorem owF_bit {C : Nat → Nat} : ∀ n i, (owF C n).testBit i = (decide (i < n) && (C 37).testBit i) := by
  intro n; induction n with
  | zero => intro i; simp [owF]
  | succ n ih =>
    intro i
    show (owF C n ||| _).testBit i = _
    rw [Nat.testBit_or, ih]
    cases hb : (C 37).testBit n with
    | true =>
      rw [if_pos rfl, tb_sh]
      by_cases e : n = i
      · subst e; simp [hb]
      · by_cases e2 : i < n
        · simp [e, e2, show i < n + 1 by omega]
        · simp [e, e2, show ¬ i < n + 1 by omega]
    | false =>
      rw [if_neg (by decide), Nat.zero_testBit, Bool.or_false]
      by_cases e : n = i
      · subst e; simp [hb]
      · by_cases e2 : i < n
        · simp [e2, show i < n + 1 by omega]
        · simp [e2, show ¬ i < n + 1 by omega]
theorem owF_all {C : Nat → Nat} (h : C 37 < 2 ^ (6 + C 0)) : owF C (6 + C 0) = C 37 := by
  apply n_ext; intro i
  rw [owF_bit]
  by_cases e : i < 6 + C 0
  · simp [e]
  · rw [Nat.testBit_lt_two_pow (Nat.lt_of_lt_of_le h (Nat.pow_le_pow_right (by decide) (by omega)))]; simp
theorem lvF_bo {C : Nat → Nat} : ∀ n, n ≤ 6 + C 0 → lvF C n = bo C (C 0) (owF C n) := by
  intro n; induction n with
  | zero => intro _; exact (bo_0 _).symm
  | succ n ih =>
    intro h
    show lvF C n ||| _ = bo C (C 0) (owF C n ||| _)
    rw [bo_or, ih (by omega)]
    congr 1
    split
    · exact (bo_hi (by omega) (by omega)).symm
    · exact (bo_0 _).symm
theorem lvF_all {C : Nat → Nat} (h : C 37 < 2 ^ (6 + C 0)) : lvF C (6 + C 0) = bo C (C 0) (C 37) := by rw [lvF_bo _ (Nat.le_refl _), owF_all h]
set_option maxHeartbeats 4000000 in
set_option maxRecDepth 100000 in
theorem mt_X1_lively (l : Launch) (D : va_G) (ca : Nat → ClassId) (cq : Nat → Nat) (xq : Nat → Nat) (ak : Nat → Int32) (tb_ : Nat → Int64) (va : Nat → Int32) (fy : Nat → Int64) (cn : Nat → Int32) (an : Nat → Int32) (sw : Nat → Int64) (sb : Nat → Int64) (sv : Value) (C : Nat → Nat) (h0 : C 0 ≤ 12) (hkd0 : ∀ k, k < 12 → C (1 + k) < 8) (hse : ∀ k, k < 12 → C (13 + k) < 6 + k ∧ C (25 + k) < 6 + k) (ho : C 37 < 2 ^ 18) (hosz : C 37 < 2 ^ (6 + C 0)) (nn : Nat) : Met l yX1_lively (ws_ yX1_lively cX1_lively 3 (Option.some Jvm.ClassFile.FieldType.int)) ({ frames := 2, cells := 0, slots := 0, locals := 45 } : Room) (va_Pc [.ref (xq 0)] (PreW EvX D vwCl (TY ca) (WT ca cq xq (kdC C) (fsC C) (snC C) ak (nI (C 0)) (nI (C 37)) (nI (C 38)) (fI (C 39)) (nI (C 40)) (lN (C 66)) (nI (C 41)) tb_ va fy cn an sw sb sv) nn)) (va_Qi (fun (r_ : Int32) (_ : Unit) => r_ = nI (bo C (C 0) (C 37))) (PostW D vwCl (TY ca) (fun (_ : Unit) => (WT ca cq xq (kdC C) (fsC C) (snC C) ak (nI (C 0)) (nI (C 37)) (nI (C 38)) (fI (C 39)) (nI (C 40)) (lN (C 66)) (nI (C 41)) tb_ va fy cn an sw sb sv)) (va_A (WT ca cq xq (kdC C) (fsC C) (snC C) ak (nI (C 0)) (nI (C 37)) (nI (C 38)) (fI (C 39)) (nI (C 40)) (lN (C 66)) (nI (C 41)) tb_ va fy cn an sw sb sv) nn)) (va_A (WT ca cq xq (kdC C) (fsC C) (snC C) ak (nI (C 0)) (nI (C 37)) (nI (C 38)) (fI (C 39)) (nI (C 40)) (lN (C 66)) (nI (C 41)) tb_ va fy cn an sw sb sv) nn)) 0 0 (va_A (WT ca cq xq (kdC C) (fsC C) (snC C) ak (nI (C 0)) (nI (C 37)) (nI (C 38)) (fI (C 39)) (nI (C 40)) (lN (C 66)) (nI (C 41)) tb_ va fy cn an sw sb sv) nn) := by
  refine met_go (QA := fun A => va_Qi (fun (r_ : Int32) (_ : Unit) => r_ = nI (bo C (C 0) (C 37))) (PostW D vwCl (TY ca) (fun (_ : Unit) => (WT ca cq xq (kdC C) (fsC C) (snC C) ak (nI (C 0)) (nI (C 37)) (nI (C 38)) (fI (C 39)) (nI (C 40)) (lN (C 66)) (nI (C 41)) tb_ va fy cn an sw sb sv)) A) A) (by decide) (Nat.le_of_ble_eq_true rfl) (fun p e s m below meth c A ls QQ hQQ hx hb hr hts hown hlocks hml hA hP hK hD hE hl => ?_)
  have hown : s.vm.findClass RX1 = some m.cls := hown
  have hS : va_S A s.heap s.heap [] := va_S.rf
  have hl : lv_has ls 3 [(0, .ref (xq 0))] := hl
  generalize hHe : s.heap = H at hP ⊢
  have hS : va_S A s.heap H [] := hHe ▸ hS
  generalize ([] : List Loc) = locs at hS ⊢
  refine lv_iconst (v := nI 0) hx hb dX1_lively_0 (by decide) ?_
  refine lv_istore_n (lv' := [(1, .int (nI 0)), (0, .ref (xq 0))]) hx hb dX1_lively_1 rfl hl (by decide) rfl (fun ls hl => ?_)
  refine lv_iconst (v := nI 0) hx hb dX1_lively_2 (by decide) ?_
  refine lv_istore_n (lv' := [(2, .int (nI 0)), (1, .int (nI 0)), (0, .ref (xq 0))]) hx hb dX1_lively_3 rfl hl (by decide) rfl (fun ls hl => ?_)
  have lp_4 : ∀ (fu_4 : Nat) (n : Nat), 6 + C 0 - n < fu_4 → (n ≤ 6 + C 0) → ∀ (H : Heap) (locs : List Loc), va_P D vwCl (WT ca cq xq (kdC C) (fsC C) (snC C) ak (nI (C 0)) (nI (C 37)) (nI (C 38)) (fI (C 39)) (nI (C 40)) (lN (C 66)) (nI (C 41)) tb_ va fy cn an sw sb sv) H → va_D A (WT ca cq xq (kdC C) (fsC C) (snC C) ak (nI (C 0)) (nI (C 37)) (nI (C 38)) (fI (C 39)) (nI (C 40)) (lN (C 66)) (nI (C 41)) tb_ va fy cn an sw sb sv) → va_S A s.heap H locs → ∀ (ls : Array Slot), lv_has ls 3 [(2, .int (nI n)), (1, .int (nI (lvF C n))), (0, .ref (xq 0))] → W p l e ({ frames := 2, cells := 0, slots := 0, locals := 45 } : Room) s m ([.ref (xq 0)] : List Value).toArray below meth c H locs 0 0 QQ (F0 m 4 ls []) := by
    intro fu_4
    induction fu_4 with
    | zero => intro n hfu; exact absurd hfu (Nat.not_lt_zero _)
    | succ fu_4 ih_4 =>
      intro n hfu hn H locs hP hD hS ls hl
      refine lv_iload_n hx hb dX1_lively_4 rfl (lv_at hl 0 rfl) ?_
      refine lv_aload_n hx hb dX1_lively_5 rfl (lv_at hl 2 rfl) ?_
      refine gWT_5_circuit_X1 hx hb hts hown hK hP dX1_lively_6 ?_
      refine xc_i (xr_V (b := cq 0) (ci := 1) (q0 := 0) (As := []) (rest := [.int (nI n)]) (mt_X2_lines l D ca cq (kdC C) (fsC C) (snC C) ak (nI (C 37)) (nI (C 38)) (fI (C 39)) (nI (C 40)) (lN (C 66)) (nI (C 41)) (C 0)  H.size) ⟨hx, hb, hml, hown, hts⟩ (cwV 0 hts (lw_V q477 q444 q445 q80 q446) rfl rfl rfl (by decide +kernel) ⟨Nat.le_of_ble_eq_true rfl, Nat.le_of_ble_eq_true rfl⟩) EvX_ok hE hK hS (Cut.app (wc := (WC ca cq (kdC C) (fsC C) (snC C) ak (nI (C 0)) (nI (C 37)) (nI (C 38)) (fI (C 39)) (nI (C 40)) (lN (C 66)) (nI (C 41)))) (wr := (WTr ca cq xq tb_ va fy cn an sw sb sv)) hP hD hS hA) rfl rfl rfl hl.1 rfl (Nat.le_of_ble_eq_true rfl) dX1_lively_9 ⟨Nat.le_of_ble_eq_true rfl, Nat.le_of_ble_eq_true rfl⟩) hS (Cut.app (wc := (WC ca cq (kdC C) (fsC C) (snC C) ak (nI (C 0)) (nI (C 37)) (nI (C 38)) (fI (C 39)) (nI (C 40)) (lN (C 66)) (nI (C 41)))) (wr := (WTr ca cq xq tb_ va fy cn an sw sb sv)) hP hD hS hA) (fun r_1 u_2 H locs hq_9 hP hD hS => ?_)
      have hP : va_P D vwCl (WT ca cq xq (kdC C) (fsC C) (snC C) ak (nI (C 0)) (nI (C 37)) (nI (C 38)) (fI (C 39)) (nI (C 40)) (lN (C 66)) (nI (C 41)) tb_ va fy cn an sw sb sv) H := hP
      have hD : va_D A (WT ca cq xq (kdC C) (fsC C) (snC C) ak (nI (C 0)) (nI (C 37)) (nI (C 38)) (fI (C 39)) (nI (C 40)) (lN (C 66)) (nI (C 41)) tb_ va fy cn an sw sb sv) := hD
      have hp_9 : r_1 = nI (6 + (C 0)) := hq_9
      clear hq_9
      obtain rfl := hp_9
      refine nv_icmp_ge (tgt := 47) hx hb dX1_lively_12 (by decide) (by omega) (by omega) (fun c_12 => ?_) (fun c_12 => ?_)
      · skip
        have e_ : 6 + C 0 = n := Eq.symm (by omega)
        subst e_
        refine lv_iload_n hx hb dX1_lively_47 rfl (lv_at hl 1 rfl) ?_
        subst hQQ
        exact xe_i (v := nI (lvF C (6 + C 0))) () hx hb hr hlocks hK hP hD hS (congrArg nI (lvF_all hosz)) dX1_lively_48
      · skip
        refine lv_iload_n hx hb dX1_lively_15 rfl (lv_at hl 1 rfl) ?_
        refine lv_aload_n hx hb dX1_lively_16 rfl (lv_at hl 2 rfl) ?_
        refine gWT_5_circuit_X1 hx hb hts hown hK hP dX1_lively_17 ?_
        refine gWT_0_outputs_X1 hE hx hb hts hown hK hP dX1_lively_20 ?_
        refine lv_iload_n hx hb dX1_lively_23 rfl (lv_at hl 0 rfl) ?_
        refine xc_i (xr_S (As := [.int (nI (C 37)), .int (nI n)]) (rest := [.int (nI (lvF C n))]) (mt_X1_isIn l D ca (C 37) n (by first | assumption | omega | (simp only [updN, forgetC, changedC]; (repeat' split) <;> omega)) (by first | assumption | omega | (simp only [updN, forgetC, changedC]; (repeat' split) <;> omega)) H.size) ⟨hx, hb, hml, hown, hts⟩ (va_cwS 2 hts (lw_S q464 q465 q79 q466) rfl rfl rfl (by decide +kernel) ⟨Nat.le_of_ble_eq_true rfl, Nat.le_of_ble_eq_true rfl⟩) Ev0_ok trivial hK hS (Cut.app (wc := []) (wr := (WT ca cq xq (kdC C) (fsC C) (snC C) ak (nI (C 0)) (nI (C 37)) (nI (C 38)) (fI (C 39)) (nI (C 40)) (lN (C 66)) (nI (C 41)) tb_ va fy cn an sw sb sv)) hP hD hS hA) rfl hl.1 rfl (Nat.le_of_ble_eq_true rfl) dX1_lively_24 ⟨Nat.le_of_ble_eq_true rfl, Nat.le_of_ble_eq_true rfl⟩) hS (Cut.app (wc := []) (wr := (WT ca cq xq (kdC C) (fsC C) (snC C) ak (nI (C 0)) (nI (C 37)) (nI (C 38)) (fI (C 39)) (nI (C 40)) (lN (C 66)) (nI (C 41)) tb_ va fy cn an sw sb sv)) hP hD hS hA) (fun r_4 u_5 H locs hq_24 hP hD hS => ?_)
        have hP : va_P D vwCl (WT ca cq xq (kdC C) (fsC C) (snC C) ak (nI (C 0)) (nI (C 37)) (nI (C 38)) (fI (C 39)) (nI (C 40)) (lN (C 66)) (nI (C 41)) tb_ va fy cn an sw sb sv) H := hP
        have hD : va_D A (WT ca cq xq (kdC C) (fsC C) (snC C) ak (nI (C 0)) (nI (C 37)) (nI (C 38)) (fI (C 39)) (nI (C 40)) (lN (C 66)) (nI (C 41)) tb_ va fy cn an sw sb sv) := hD
        have hp_24 : r_4 = bI ((C 37).testBit n) := hq_24
        clear hq_24
        obtain rfl := hp_24
        refine nv_ifb_eq (tgt := 38) hx hb dX1_lively_27 (by decide) (fun c_27 => ?_) (fun c_27 => ?_)
        · skip
          refine lv_iconst (v := nI 0) hx hb dX1_lively_38 (by decide) ?_
          refine nv_ior hx hb dX1_lively_39 ?_
          refine lv_istore_n (lv' := [(1, .int (nI ((lvF C n) ||| 0))), (2, .int (nI n)), (0, .ref (xq 0))]) hx hb dX1_lively_40 rfl hl (by decide) rfl (fun ls hl => ?_)
          refine lv_iinc (v := nI (n + 1)) (lv' := [(2, .int (nI (n + 1))), (1, .int (nI ((lvF C n) ||| 0))), (0, .ref (xq 0))]) hx hb dX1_lively_41 hl (k := 1) rfl (nI_add n 1) (by decide) rfl (fun ls hl => ?_)
          refine lv_goto (tgt := 4) hx hb dX1_lively_44 (by decide) ?_
          have hl : lv_has ls 3 [(2, .int (nI (n + 1))), (1, .int (nI (lvF C (n + 1)))), (0, .ref (xq 0))] := (congrArg (fun x_ => lv_has ls 3 [(2, .int (nI (n + 1))), (1, .int x_), (0, .ref (xq 0))]) (show nI ((lvF C n) ||| 0) = nI (lvF C (n + 1)) from congrArg nI (by simp only [lvF]; rw [if_neg (by rw [c_27]; decide)]))).mp hl
          exact ih_4  (n + 1) (by omega) (by omega) _ _ hP hD hS ls (lv_sub hl [0, 1, 2] rfl)
        · skip
          refine lv_aload_n hx hb dX1_lively_30 rfl (lv_at hl 2 rfl) ?_
          refine lv_iload_n hx hb dX1_lively_31 rfl (lv_at hl 0 rfl) ?_
          refine xc_i (xr_V (b := xq 0) (ci := 0) (q0 := 5) (As := [.int (nI n)]) (rest := [.int (nI (lvF C n))]) (mt_X1_behind l D ca cq xq ak tb_ va fy cn an sw sb sv C n (by first | assumption | omega | (simp only [updN, forgetC, changedC]; (repeat' split) <;> omega)) (by first | assumption | omega | (simp only [updN, forgetC, changedC]; (repeat' split) <;> omega)) (by first | assumption | omega | (simp only [updN, forgetC, changedC]; (repeat' split) <;> omega)) (by first | assumption | omega | (simp only [updN, forgetC, changedC]; (repeat' split) <;> omega)) H.size) ⟨hx, hb, hml, hown, hts⟩ (cwV 1 hts (lw_V q1005 q1007 qs18 q79 q1008) rfl rfl rfl (by decide +kernel) ⟨Nat.le_of_ble_eq_true rfl, Nat.le_of_ble_eq_true rfl⟩) EvX_ok hE hK hS (Cut.all hP hD hS hA) rfl rfl rfl hl.1 rfl (Nat.le_of_ble_eq_true rfl) dX1_lively_32 ⟨Nat.le_of_ble_eq_true rfl, Nat.le_of_ble_eq_true rfl⟩) hS (Cut.all hP hD hS hA) (fun r_7 u_8 H locs hq_32 hP hD hS => ?_)
          have hP : va_P D vwCl (WT ca cq xq (kdC C) (fsC C) (snC C) ak (nI (C 0)) (nI (C 37)) (nI (C 38)) (fI (C 39)) (nI (C 40)) (lN (C 66)) (nI (C 41)) tb_ va fy cn an sw sb sv) H := hP
          have hD : va_D A (WT ca cq xq (kdC C) (fsC C) (snC C) ak (nI (C 0)) (nI (C 37)) (nI (C 38)) (fI (C 39)) (nI (C 40)) (lN (C 66)) (nI (C 41)) tb_ va fy cn an sw sb sv) := hD
          have hp_32 : r_7 = nI (bo C (n - 5) (1 <<< n)) := hq_32
          clear hq_32
          obtain rfl := hp_32
          refine lv_goto (tgt := 39) hx hb dX1_lively_35 (by decide) ?_
          refine nv_ior hx hb dX1_lively_39 ?_
          refine lv_istore_n (lv' := [(1, .int (nI ((lvF C n) ||| (bo C (n - 5) (1 <<< n))))), (2, .int (nI n)), (0, .ref (xq 0))]) hx hb dX1_lively_40 rfl hl (by decide) rfl (fun ls hl => ?_)
          refine lv_iinc (v := nI (n + 1)) (lv' := [(2, .int (nI (n + 1))), (1, .int (nI ((lvF C n) ||| (bo C (n - 5) (1 <<< n))))), (0, .ref (xq 0))]) hx hb dX1_lively_41 hl (k := 1) rfl (nI_add n 1) (by decide) rfl (fun ls hl => ?_)
          refine lv_goto (tgt := 4) hx hb dX1_lively_44 (by decide) ?_
          have hl : lv_has ls 3 [(2, .int (nI (n + 1))), (1, .int (nI (lvF C (n + 1)))), (0, .ref (xq 0))] := (congrArg (fun x_ => lv_has ls 3 [(2, .int (nI (n + 1))), (1, .int x_), (0, .ref (xq 0))]) (show nI ((lvF C n) ||| (bo C (n - 5) (1 <<< n))) = nI (lvF C (n + 1)) from congrArg nI (by simp only [lvF]; rw [if_pos c_27]))).mp hl
          exact ih_4  (n + 1) (by omega) (by omega) _ _ hP hD hS ls (lv_sub hl [0, 1, 2] rfl)
  exact lp_4 (6 + C 0 - 0 + 1) 0 (Nat.lt_succ_self _) (by omega) _ _ hP hD hS ls (lv_sub hl [0, 1, 2] rfl)
set_option maxHeartbeats 4000000 in
set_option maxRecDepth 100000 in
theorem mt_X1_idleLines (l : Launch) (D : va_G) (ca : Nat → ClassId) (cq : Nat → Nat) (xq : Nat → Nat) (ak : Nat → Int32) (tb_ : Nat → Int64) (va : Nat → Int32) (fy : Nat → Int64) (cn : Nat → Int32) (an : Nat → Int32) (sw : Nat → Int64) (sb : Nat → Int64) (sv : Value) (C : Nat → Nat) (h0 : C 0 ≤ 12) (hkd0 : ∀ k, k < 12 → C (1 + k) < 8) (hse : ∀ k, k < 12 → C (13 + k) < 6 + k ∧ C (25 + k) < 6 + k) (ho : C 37 < 2 ^ 18) (hosz : C 37 < 2 ^ (6 + C 0)) (nn : Nat) : Met l yX1_idleLines (ws_ yX1_idleLines cX1_idleLines 1 (Option.some Jvm.ClassFile.FieldType.int)) ({ frames := 3, cells := 0, slots := 0, locals := 67 } : Room) (va_Pc [.ref (xq 0)] (PreW EvX D vwCl (TY ca) (WT ca cq xq (kdC C) (fsC C) (snC C) ak (nI (C 0)) (nI (C 37)) (nI (C 38)) (fI (C 39)) (nI (C 40)) (lN (C 66)) (nI (C 41)) tb_ va fy cn an sw sb sv) nn)) (va_Qi (fun (r_ : Int32) (_ : Unit) => r_ = nI (adN (1 <<< (6 + C 0) - 1) (bo C (C 0) (C 37)))) (PostW D vwCl (TY ca) (fun (_ : Unit) => (WT ca cq xq (kdC C) (fsC C) (snC C) ak (nI (C 0)) (nI (C 37)) (nI (C 38)) (fI (C 39)) (nI (C 40)) (lN (C 66)) (nI (C 41)) tb_ va fy cn an sw sb sv)) (va_A (WT ca cq xq (kdC C) (fsC C) (snC C) ak (nI (C 0)) (nI (C 37)) (nI (C 38)) (fI (C 39)) (nI (C 40)) (lN (C 66)) (nI (C 41)) tb_ va fy cn an sw sb sv) nn)) (va_A (WT ca cq xq (kdC C) (fsC C) (snC C) ak (nI (C 0)) (nI (C 37)) (nI (C 38)) (fI (C 39)) (nI (C 40)) (lN (C 66)) (nI (C 41)) tb_ va fy cn an sw sb sv) nn)) 0 0 (va_A (WT ca cq xq (kdC C) (fsC C) (snC C) ak (nI (C 0)) (nI (C 37)) (nI (C 38)) (fI (C 39)) (nI (C 40)) (lN (C 66)) (nI (C 41)) tb_ va fy cn an sw sb sv) nn) := by
  refine met_go (QA := fun A => va_Qi (fun (r_ : Int32) (_ : Unit) => r_ = nI (adN (1 <<< (6 + C 0) - 1) (bo C (C 0) (C 37)))) (PostW D vwCl (TY ca) (fun (_ : Unit) => (WT ca cq xq (kdC C) (fsC C) (snC C) ak (nI (C 0)) (nI (C 37)) (nI (C 38)) (fI (C 39)) (nI (C 40)) (lN (C 66)) (nI (C 41)) tb_ va fy cn an sw sb sv)) A) A) (by decide) (Nat.le_of_ble_eq_true rfl) (fun p e s m below meth c A ls QQ hQQ hx hb hr hts hown hlocks hml hA hP hK hD hE hl => ?_)
  have hown : s.vm.findClass RX1 = some m.cls := hown
  have hS : va_S A s.heap s.heap [] := va_S.rf
  have hl : lv_has ls 1 [(0, .ref (xq 0))] := hl
  generalize hHe : s.heap = H at hP ⊢
  have hS : va_S A s.heap H [] := hHe ▸ hS
  generalize ([] : List Loc) = locs at hS ⊢
  refine lv_iconst (v := nI 1) hx hb dX1_idleLines_0 (by decide) ?_
  refine lv_aload_n hx hb dX1_idleLines_1 rfl (lv_at hl 0 rfl) ?_
  refine gWT_5_circuit_X1 hx hb hts hown hK hP dX1_idleLines_2 ?_
  refine xc_i (xr_V (b := cq 0) (ci := 1) (q0 := 0) (As := []) (rest := [.int (nI 1)]) (mt_X2_lines l D ca cq (kdC C) (fsC C) (snC C) ak (nI (C 37)) (nI (C 38)) (fI (C 39)) (nI (C 40)) (lN (C 66)) (nI (C 41)) (C 0)  H.size) ⟨hx, hb, hml, hown, hts⟩ (cwV 0 hts (lw_V q477 q444 q445 q80 q446) rfl rfl rfl (by decide +kernel) ⟨Nat.le_of_ble_eq_true rfl, Nat.le_of_ble_eq_true rfl⟩) EvX_ok hE hK hS (Cut.app (wc := (WC ca cq (kdC C) (fsC C) (snC C) ak (nI (C 0)) (nI (C 37)) (nI (C 38)) (fI (C 39)) (nI (C 40)) (lN (C 66)) (nI (C 41)))) (wr := (WTr ca cq xq tb_ va fy cn an sw sb sv)) hP hD hS hA) rfl rfl rfl hl.1 rfl (Nat.le_of_ble_eq_true rfl) dX1_idleLines_5 ⟨Nat.le_of_ble_eq_true rfl, Nat.le_of_ble_eq_true rfl⟩) hS (Cut.app (wc := (WC ca cq (kdC C) (fsC C) (snC C) ak (nI (C 0)) (nI (C 37)) (nI (C 38)) (fI (C 39)) (nI (C 40)) (lN (C 66)) (nI (C 41)))) (wr := (WTr ca cq xq tb_ va fy cn an sw sb sv)) hP hD hS hA) (fun r_1 u_2 H locs hq_5 hP hD hS => ?_)
  have hP : va_P D vwCl (WT ca cq xq (kdC C) (fsC C) (snC C) ak (nI (C 0)) (nI (C 37)) (nI (C 38)) (fI (C 39)) (nI (C 40)) (lN (C 66)) (nI (C 41)) tb_ va fy cn an sw sb sv) H := hP
  have hD : va_D A (WT ca cq xq (kdC C) (fsC C) (snC C) ak (nI (C 0)) (nI (C 37)) (nI (C 38)) (fI (C 39)) (nI (C 40)) (lN (C 66)) (nI (C 41)) tb_ va fy cn an sw sb sv) := hD
  have hp_5 : r_1 = nI (6 + (C 0)) := hq_5
  clear hq_5
  obtain rfl := hp_5
  refine nv_ishl hx hb dX1_idleLines_8 (by omega) (by have : 2 ^ (6 + C 0) ≤ 2 ^ 18 := Nat.pow_le_pow_right (by decide) (by omega); omega) ?_
  refine lv_iconst (v := nI 1) hx hb dX1_idleLines_9 (by decide) ?_
  refine nv_isub hx hb dX1_idleLines_10 (by rw [Nat.one_shiftLeft]; exact Nat.two_pow_pos _) ?_
  refine lv_aload_n hx hb dX1_idleLines_11 rfl (lv_at hl 0 rfl) ?_
  refine xc_i (xr_V (b := xq 0) (ci := 0) (q0 := 5) (As := []) (rest := [.int (nI ((1 <<< (6 + (C 0))) - 1))]) (mt_X1_lively l D ca cq xq ak tb_ va fy cn an sw sb sv C (by first | assumption | omega | (simp only [updN, forgetC, changedC]; (repeat' split) <;> omega)) (by first | assumption | omega | (simp only [updN, forgetC, changedC]; (repeat' split) <;> omega)) (by first | assumption | omega | (simp only [updN, forgetC, changedC]; (repeat' split) <;> omega)) (by first | assumption | omega | (simp only [updN, forgetC, changedC]; (repeat' split) <;> omega)) (by first | assumption | omega | (simp only [updN, forgetC, changedC]; (repeat' split) <;> omega)) H.size) ⟨hx, hb, hml, hown, hts⟩ (cwV 0 hts (lw_V q1001 q1003 qs17 q79 q1004) rfl rfl rfl (by decide +kernel) ⟨Nat.le_of_ble_eq_true rfl, Nat.le_of_ble_eq_true rfl⟩) EvX_ok hE hK hS (Cut.all hP hD hS hA) rfl rfl rfl hl.1 rfl (Nat.le_of_ble_eq_true rfl) dX1_idleLines_12 ⟨Nat.le_of_ble_eq_true rfl, Nat.le_of_ble_eq_true rfl⟩) hS (Cut.all hP hD hS hA) (fun r_3 u_4 H locs hq_12 hP hD hS => ?_)
  have hP : va_P D vwCl (WT ca cq xq (kdC C) (fsC C) (snC C) ak (nI (C 0)) (nI (C 37)) (nI (C 38)) (fI (C 39)) (nI (C 40)) (lN (C 66)) (nI (C 41)) tb_ va fy cn an sw sb sv) H := hP
  have hD : va_D A (WT ca cq xq (kdC C) (fsC C) (snC C) ak (nI (C 0)) (nI (C 37)) (nI (C 38)) (fI (C 39)) (nI (C 40)) (lN (C 66)) (nI (C 41)) tb_ va fy cn an sw sb sv) := hD
  have hp_12 : r_3 = nI (bo C (C 0) (C 37)) := hq_12
  clear hq_12
  obtain rfl := hp_12
  refine lv_iconst (v := fI 0) hx hb dX1_idleLines_15 (by decide) ?_
  refine lv_ixor hx hb dX1_idleLines_16 ?_
  refine lv_iand hx hb dX1_idleLines_17 ?_
  refine lv_topi (nm_r (e' := nI (adN (1 <<< (6 + C 0) - 1) (bo C (C 0) (C 37)))) (nI_adn) ?_)
  subst hQQ
  exact xe_i (v := nI (adN (1 <<< (6 + C 0) - 1) (bo C (C 0) (C 37)))) () hx hb hr hlocks hK hP hD hS (rfl) dX1_idleLines_18
set_option maxHeartbeats 4000000 in
set_option maxRecDepth 100000 in
theorem mt_X1_assignments (l : Launch) (D : va_G) (ca : Nat → ClassId) (cq : Nat → Nat) (xq : Nat → Nat) (ak : Nat → Int32) (tb_ : Nat → Int64) (va : Nat → Int32) (fy : Nat → Int64) (cn : Nat → Int32) (an : Nat → Int32) (sw : Nat → Int64) (sb : Nat → Int64) (sv : Value) (C : Nat → Nat) (h0 : C 0 ≤ 12) (hbx : C 38 < 2 ^ 18) (hnb : popc 18 (C 38) ≤ 3) (hbsz : C 38 < 2 ^ C 0) (nn : Nat) : Met l yX1_assignments (ws_ yX1_assignments cX1_assignments 3 (Option.some Jvm.ClassFile.FieldType.int)) ({ frames := 1, cells := 0, slots := 0, locals := 20 } : Room) (va_Pc [.ref (xq 0)] (PreW EvX D vwCl (TY ca) (WT ca cq xq (kdC C) (fsC C) (snC C) ak (nI (C 0)) (nI (C 37)) (nI (C 38)) (fI (C 39)) (nI (C 40)) (lN (C 66)) (nI (C 41)) tb_ va fy cn an sw sb sv) nn)) (va_Qi (fun (r_ : Int32) (_ : Unit) => r_ = nI (ksm C)) (PostW D vwCl (TY ca) (fun (_ : Unit) => (WT ca cq xq (kdC C) (fsC C) (snC C) ak (nI (C 0)) (nI (C 37)) (nI (C 38)) (fI (C 39)) (nI (C 40)) (lN (C 66)) (nI (C 41)) tb_ va fy cn an sw sb sv)) (va_A (WT ca cq xq (kdC C) (fsC C) (snC C) ak (nI (C 0)) (nI (C 37)) (nI (C 38)) (fI (C 39)) (nI (C 40)) (lN (C 66)) (nI (C 41)) tb_ va fy cn an sw sb sv) nn)) (va_A (WT ca cq xq (kdC C) (fsC C) (snC C) ak (nI (C 0)) (nI (C 37)) (nI (C 38)) (fI (C 39)) (nI (C 40)) (lN (C 66)) (nI (C 41)) tb_ va fy cn an sw sb sv) nn)) 0 0 (va_A (WT ca cq xq (kdC C) (fsC C) (snC C) ak (nI (C 0)) (nI (C 37)) (nI (C 38)) (fI (C 39)) (nI (C 40)) (lN (C 66)) (nI (C 41)) tb_ va fy cn an sw sb sv) nn) := by
  refine met_go (QA := fun A => va_Qi (fun (r_ : Int32) (_ : Unit) => r_ = nI (ksm C)) (PostW D vwCl (TY ca) (fun (_ : Unit) => (WT ca cq xq (kdC C) (fsC C) (snC C) ak (nI (C 0)) (nI (C 37)) (nI (C 38)) (fI (C 39)) (nI (C 40)) (lN (C 66)) (nI (C 41)) tb_ va fy cn an sw sb sv)) A) A) (by decide) (Nat.le_of_ble_eq_true rfl) (fun p e s m below meth c A ls QQ hQQ hx hb hr hts hown hlocks hml hA hP hK hD hE hl => ?_)
  have hown : s.vm.findClass RX1 = some m.cls := hown
  have hS : va_S A s.heap s.heap [] := va_S.rf
  have hl : lv_has ls 3 [(0, .ref (xq 0))] := hl
  generalize hHe : s.heap = H at hP ⊢
  have hS : va_S A s.heap H [] := hHe ▸ hS
  generalize ([] : List Loc) = locs at hS ⊢
  have hpl := popc_le 18 (C 38)
  refine lv_iconst (v := nI 1) hx hb dX1_assignments_0 (by decide) ?_
  refine lv_istore_n (lv' := [(1, .int (nI 1)), (0, .ref (xq 0))]) hx hb dX1_assignments_1 rfl hl (by decide) rfl (fun ls hl => ?_)
  refine lv_aload_n hx hb dX1_assignments_2 rfl (lv_at hl 1 rfl) ?_
  refine gWT_5_circuit_X1 hx hb hts hown hK hP dX1_assignments_3 ?_
  refine gWT_0_boxes_X1 hE hx hb hts hown hK hP dX1_assignments_6 ?_
  refine xc_i (xr_S (As := [.int (nI (C 38))]) (rest := []) (mt_J15_bitCount l D ca (C 38) (by first | assumption | omega | (simp only [updN, forgetC, changedC]; (repeat' split) <;> omega)) H.size) ⟨hx, hb, hml, hown, hts⟩ (va_cwS 1 hts (lw_S q467 q468 q99 q469) rfl rfl rfl (by decide +kernel) ⟨Nat.le_of_ble_eq_true rfl, Nat.le_of_ble_eq_true rfl⟩) Ev0_ok trivial hK hS (Cut.app (wc := []) (wr := (WT ca cq xq (kdC C) (fsC C) (snC C) ak (nI (C 0)) (nI (C 37)) (nI (C 38)) (fI (C 39)) (nI (C 40)) (lN (C 66)) (nI (C 41)) tb_ va fy cn an sw sb sv)) hP hD hS hA) rfl hl.1 rfl (Nat.le_of_ble_eq_true rfl) dX1_assignments_9 ⟨Nat.le_of_ble_eq_true rfl, Nat.le_of_ble_eq_true rfl⟩) hS (Cut.app (wc := []) (wr := (WT ca cq xq (kdC C) (fsC C) (snC C) ak (nI (C 0)) (nI (C 37)) (nI (C 38)) (fI (C 39)) (nI (C 40)) (lN (C 66)) (nI (C 41)) tb_ va fy cn an sw sb sv)) hP hD hS hA) (fun r_1 u_2 H locs hq_9 hP hD hS => ?_)
  have hP : va_P D vwCl (WT ca cq xq (kdC C) (fsC C) (snC C) ak (nI (C 0)) (nI (C 37)) (nI (C 38)) (fI (C 39)) (nI (C 40)) (lN (C 66)) (nI (C 41)) tb_ va fy cn an sw sb sv) H := hP
  have hD : va_D A (WT ca cq xq (kdC C) (fsC C) (snC C) ak (nI (C 0)) (nI (C 37)) (nI (C 38)) (fI (C 39)) (nI (C 40)) (lN (C 66)) (nI (C 41)) tb_ va fy cn an sw sb sv) := hD
  have hp_9 : r_1 = nI (popc 18 (C 38)) := hq_9
  clear hq_9
  obtain rfl := hp_9
  refine lv_istore_n (lv' := [(2, .int (nI (popc 18 (C 38)))), (1, .int (nI 1)), (0, .ref (xq 0))]) hx hb dX1_assignments_12 rfl hl (by decide) rfl (fun ls hl => ?_)
  have lp_13 : ∀ (fu_13 : Nat) (i : Nat), popc 18 (C 38) - i < fu_13 → (i ≤ popc 18 (C 38)) → ∀ (H : Heap) (locs : List Loc), va_P D vwCl (WT ca cq xq (kdC C) (fsC C) (snC C) ak (nI (C 0)) (nI (C 37)) (nI (C 38)) (fI (C 39)) (nI (C 40)) (lN (C 66)) (nI (C 41)) tb_ va fy cn an sw sb sv) H → va_D A (WT ca cq xq (kdC C) (fsC C) (snC C) ak (nI (C 0)) (nI (C 37)) (nI (C 38)) (fI (C 39)) (nI (C 40)) (lN (C 66)) (nI (C 41)) tb_ va fy cn an sw sb sv) → va_S A s.heap H locs → ∀ (ls : Array Slot), lv_has ls 3 [(2, .int (nI (popc 18 (C 38) - i))), (1, .int (nI (6 ^ i))), (0, .ref (xq 0))] → W p l e ({ frames := 1, cells := 0, slots := 0, locals := 20 } : Room) s m ([.ref (xq 0)] : List Value).toArray below meth c H locs 0 0 QQ (F0 m 13 ls []) := by
    intro fu_13
    induction fu_13 with
    | zero => intro i hfu; exact absurd hfu (Nat.not_lt_zero _)
    | succ fu_13 ih_13 =>
      intro i hfu hi H locs hP hD hS ls hl
      refine lv_iload_n hx hb dX1_assignments_13 rfl (lv_at hl 0 rfl) ?_
      refine nv_if_le (tgt := 28) hx hb dX1_assignments_14 (by decide) (by omega) (fun c_14 => ?_) (fun c_14 => ?_)
      · skip
        have e_ : popc 18 (C 38) = i := Eq.symm (by omega)
        subst e_
        refine lv_iload_n hx hb dX1_assignments_28 rfl (lv_at hl 1 rfl) ?_
        subst hQQ
        exact xe_i (v := nI (6 ^ (popc 18 (C 38)))) () hx hb hr hlocks hK hP hD hS (congrArg nI (by unfold ksm rk; rw [popc_up hbsz (by omega)])) dX1_assignments_29
      · skip
        refine lv_iload_n hx hb dX1_assignments_17 rfl (lv_at hl 1 rfl) ?_
        refine lv_bipush (v := nI 6) hx hb dX1_assignments_18 (by decide) ?_
        refine nv_imul hx hb dX1_assignments_20 ?_
        refine lv_istore_n (lv' := [(1, .int (nI ((6 ^ i) * 6))), (2, .int (nI (popc 18 (C 38) - i))), (0, .ref (xq 0))]) hx hb dX1_assignments_21 rfl hl (by decide) rfl (fun ls hl => ?_)
        refine lv_iinc (v := nI (popc 18 (C 38) - i - 1)) (lv' := [(2, .int (nI (popc 18 (C 38) - i - 1))), (1, .int (nI ((6 ^ i) * 6))), (0, .ref (xq 0))]) hx hb dX1_assignments_22 hl (k := 1) rfl (by have h_ := (by omega : 0 < popc 18 (C 38) - i); exact sb_m1 h_) (by decide) rfl (fun ls hl => ?_)
        refine lv_goto (tgt := 13) hx hb dX1_assignments_25 (by decide) ?_
        have hl : lv_has ls 3 [(2, .int (nI (popc 18 (C 38) - i - 1))), (1, .int (nI (6 ^ (i + 1)))), (0, .ref (xq 0))] := (congrArg (fun x_ => lv_has ls 3 [(2, .int (nI (popc 18 (C 38) - i - 1))), (1, .int x_), (0, .ref (xq 0))]) (show nI ((6 ^ i) * 6) = nI (6 ^ (i + 1)) from congrArg nI (Nat.pow_succ (n := 6) (m := i)).symm)).mp hl
        have hl : lv_has ls 3 [(2, .int (nI (popc 18 (C 38) - (i + 1)))), (1, .int (nI (6 ^ (i + 1)))), (0, .ref (xq 0))] := (congrArg (fun x_ => lv_has ls 3 [(2, .int x_), (1, .int (nI (6 ^ (i + 1)))), (0, .ref (xq 0))]) (show nI (popc 18 (C 38) - i - 1) = nI (popc 18 (C 38) - (i + 1)) from congrArg nI (by omega))).mp hl
        exact ih_13  (i + 1) (by omega) (by omega) _ _ hP hD hS ls (lv_sub hl [0, 1, 2] rfl)
  have hl : lv_has ls 3 [(2, .int (nI (popc 18 (C 38)))), (1, .int (nI (6 ^ 0))), (0, .ref (xq 0))] := (congrArg (fun x_ => lv_has ls 3 [(2, .int (nI (popc 18 (C 38)))), (1, .int x_), (0, .ref (xq 0))]) (show nI 1 = nI (6 ^ 0) from rfl)).mp hl
  have hl : lv_has ls 3 [(2, .int (nI (popc 18 (C 38) - 0))), (1, .int (nI (6 ^ 0))), (0, .ref (xq 0))] := (congrArg (fun x_ => lv_has ls 3 [(2, .int x_), (1, .int (nI (6 ^ 0))), (0, .ref (xq 0))]) (show nI (popc 18 (C 38)) = nI (popc 18 (C 38) - 0) from rfl)).mp hl
  exact lp_13 (popc 18 (C 38) - 0 + 1) 0 (Nat.lt_succ_self _) (by omega) _ _ hP hD hS ls (lv_sub hl [0, 1, 2] rfl)
set_option maxHeartbeats 4000000 in
set_option maxRecDepth 100000 in
theorem mt_X1_faultsTold (l : Launch) (D : va_G) (ca : Nat → ClassId) (cq : Nat → Nat) (xq : Nat → Nat) (ak : Nat → Int32) (tb_ : Nat → Int64) (va : Nat → Int32) (fy : Nat → Int64) (cn : Nat → Int32) (an : Nat → Int32) (sw : Nat → Int64) (sb : Nat → Int64) (sv : Value) (C : Nat → Nat) (h0 : C 0 ≤ 12) (h40 : C 40 ≤ 1) (nn : Nat) : Met l yX1_faultsTold (ws_ yX1_faultsTold cX1_faultsTold 1 (Option.some Jvm.ClassFile.FieldType.int)) ({ frames := 2, cells := 0, slots := 0, locals := 40 } : Room) (va_Pc [.ref (xq 0)] (PreW EvX D vwCl (TY ca) (WT ca cq xq (kdC C) (fsC C) (snC C) ak (nI (C 0)) (nI (C 37)) (nI (C 38)) (fI (C 39)) (nI (C 40)) (lN (C 66)) (nI (C 41)) tb_ va fy cn an sw sb sv) nn)) (va_Qi (fun (r_ : Int32) (_ : Unit) => r_ = nI (fa C + 1)) (PostW D vwCl (TY ca) (fun (_ : Unit) => (WT ca cq xq (kdC C) (fsC C) (snC C) ak (nI (C 0)) (nI (C 37)) (nI (C 38)) (fI (C 39)) (nI (C 40)) (lN (C 66)) (nI (C 41)) tb_ va fy cn an sw sb sv)) (va_A (WT ca cq xq (kdC C) (fsC C) (snC C) ak (nI (C 0)) (nI (C 37)) (nI (C 38)) (fI (C 39)) (nI (C 40)) (lN (C 66)) (nI (C 41)) tb_ va fy cn an sw sb sv) nn)) (va_A (WT ca cq xq (kdC C) (fsC C) (snC C) ak (nI (C 0)) (nI (C 37)) (nI (C 38)) (fI (C 39)) (nI (C 40)) (lN (C 66)) (nI (C 41)) tb_ va fy cn an sw sb sv) nn)) 0 0 (va_A (WT ca cq xq (kdC C) (fsC C) (snC C) ak (nI (C 0)) (nI (C 37)) (nI (C 38)) (fI (C 39)) (nI (C 40)) (lN (C 66)) (nI (C 41)) tb_ va fy cn an sw sb sv) nn) := by
  refine met_go (QA := fun A => va_Qi (fun (r_ : Int32) (_ : Unit) => r_ = nI (fa C + 1)) (PostW D vwCl (TY ca) (fun (_ : Unit) => (WT ca cq xq (kdC C) (fsC C) (snC C) ak (nI (C 0)) (nI (C 37)) (nI (C 38)) (fI (C 39)) (nI (C 40)) (lN (C 66)) (nI (C 41)) tb_ va fy cn an sw sb sv)) A) A) (by decide) (Nat.le_of_ble_eq_true rfl) (fun p e s m below meth c A ls QQ hQQ hx hb hr hts hown hlocks hml hA hP hK hD hE hl => ?_)
  have hown : s.vm.findClass RX1 = some m.cls := hown
  have hS : va_S A s.heap s.heap [] := va_S.rf
  have hl : lv_has ls 1 [(0, .ref (xq 0))] := hl
  generalize hHe : s.heap = H at hP ⊢
  have hS : va_S A s.heap H [] := hHe ▸ hS
  generalize ([] : List Loc) = locs at hS ⊢
  refine lv_aload_n hx hb dX1_faultsTold_0 rfl (lv_at hl 0 rfl) ?_
  refine gWT_5_circuit_X1 hx hb hts hown hK hP dX1_faultsTold_1 ?_
  refine gWT_0_isSuspecting_X1 hE hx hb hts hown hK hP dX1_faultsTold_4 ?_
  refine nv_if_eq (tgt := 22) hx hb dX1_faultsTold_7 (by decide) (by omega) (fun c_7 => ?_) (fun c_7 => ?_)
  · skip
    refine lv_iconst (v := nI 1) hx hb dX1_faultsTold_22 (by decide) ?_
    subst hQQ
    exact xe_i (v := nI 1) () hx hb hr hlocks hK hP hD hS (congrArg nI (by unfold fa; first | (rw [if_pos (by omega)]; done) | (rw [if_neg (by omega)]; done) | (rw [if_pos (by omega)]; omega) | (rw [if_neg (by omega)]; omega))) dX1_faultsTold_23
  · skip
    refine lv_aload_n hx hb dX1_faultsTold_10 rfl (lv_at hl 0 rfl) ?_
    refine gWT_5_circuit_X1 hx hb hts hown hK hP dX1_faultsTold_11 ?_
    refine xc_i (xr_V (b := cq 0) (ci := 1) (q0 := 0) (As := []) (rest := []) (mt_X2_faults l D ca cq (kdC C) (fsC C) (snC C) ak (nI (C 37)) (nI (C 38)) (fI (C 39)) (nI (C 40)) (lN (C 66)) (nI (C 41)) (C 0)  H.size) ⟨hx, hb, hml, hown, hts⟩ (cwV 0 hts (lw_V q439 q440 q441 q80 q442) rfl rfl rfl (by decide +kernel) ⟨Nat.le_of_ble_eq_true rfl, Nat.le_of_ble_eq_true rfl⟩) EvX_ok hE hK hS (Cut.app (wc := (WC ca cq (kdC C) (fsC C) (snC C) ak (nI (C 0)) (nI (C 37)) (nI (C 38)) (fI (C 39)) (nI (C 40)) (lN (C 66)) (nI (C 41)))) (wr := (WTr ca cq xq tb_ va fy cn an sw sb sv)) hP hD hS hA) rfl rfl rfl hl.1 rfl (Nat.le_of_ble_eq_true rfl) dX1_faultsTold_14 ⟨Nat.le_of_ble_eq_true rfl, Nat.le_of_ble_eq_true rfl⟩) hS (Cut.app (wc := (WC ca cq (kdC C) (fsC C) (snC C) ak (nI (C 0)) (nI (C 37)) (nI (C 38)) (fI (C 39)) (nI (C 40)) (lN (C 66)) (nI (C 41)))) (wr := (WTr ca cq xq tb_ va fy cn an sw sb sv)) hP hD hS hA) (fun r_2 u_3 H locs hq_14 hP hD hS => ?_)
    have hP : va_P D vwCl (WT ca cq xq (kdC C) (fsC C) (snC C) ak (nI (C 0)) (nI (C 37)) (nI (C 38)) (fI (C 39)) (nI (C 40)) (lN (C 66)) (nI (C 41)) tb_ va fy cn an sw sb sv) H := hP
    have hD : va_D A (WT ca cq xq (kdC C) (fsC C) (snC C) ak (nI (C 0)) (nI (C 37)) (nI (C 38)) (fI (C 39)) (nI (C 40)) (lN (C 66)) (nI (C 41)) tb_ va fy cn an sw sb sv) := hD
    have hp_14 : r_2 = nI (2 * (6 + (C 0))) := hq_14
    clear hq_14
    obtain rfl := hp_14
    refine lv_iconst (v := nI 1) hx hb dX1_faultsTold_17 (by decide) ?_
    refine nv_iadd hx hb dX1_faultsTold_18 ?_
    refine lv_goto (tgt := 23) hx hb dX1_faultsTold_19 (by decide) ?_
    subst hQQ
    exact xe_i (v := nI ((2 * (6 + (C 0))) + 1)) () hx hb hr hlocks hK hP hD hS (congrArg nI (by unfold fa; first | (rw [if_pos (by omega)]; done) | (rw [if_neg (by omega)]; done) | (rw [if_pos (by omega)]; omega) | (rw [if_neg (by omega)]; omega))) dX1_faultsTold_23
set_option maxHeartbeats 4000000 in
set_option maxRecDepth 100000 in
theorem mt_X1_hypotheses (l : Launch) (D : va_G) (ca : Nat → ClassId) (cq : Nat → Nat) (xq : Nat → Nat) (ak : Nat → Int32) (tb_ : Nat → Int64) (va : Nat → Int32) (fy : Nat → Int64) (cn : Nat → Int32) (an : Nat → Int32) (sw : Nat → Int64) (sb : Nat → Int64) (sv : Value) (C : Nat → Nat) (h0 : C 0 ≤ 12) (hbx : C 38 < 2 ^ 18) (hnb : popc 18 (C 38) ≤ 3) (hbsz : C 38 < 2 ^ C 0) (h40 : C 40 ≤ 1) (nn : Nat) : Met l yX1_hypotheses (ws_ yX1_hypotheses cX1_hypotheses 1 (Option.some Jvm.ClassFile.FieldType.int)) ({ frames := 3, cells := 0, slots := 0, locals := 60 } : Room) (va_Pc [.ref (xq 0)] (PreW EvX D vwCl (TY ca) (WT ca cq xq (kdC C) (fsC C) (snC C) ak (nI (C 0)) (nI (C 37)) (nI (C 38)) (fI (C 39)) (nI (C 40)) (lN (C 66)) (nI (C 41)) tb_ va fy cn an sw sb sv) nn)) (va_Qi (fun (r_ : Int32) (_ : Unit) => r_ = nI (ksm C * (fa C + 1))) (PostW D vwCl (TY ca) (fun (_ : Unit) => (WT ca cq xq (kdC C) (fsC C) (snC C) ak (nI (C 0)) (nI (C 37)) (nI (C 38)) (fI (C 39)) (nI (C 40)) (lN (C 66)) (nI (C 41)) tb_ va fy cn an sw sb sv)) (va_A (WT ca cq xq (kdC C) (fsC C) (snC C) ak (nI (C 0)) (nI (C 37)) (nI (C 38)) (fI (C 39)) (nI (C 40)) (lN (C 66)) (nI (C 41)) tb_ va fy cn an sw sb sv) nn)) (va_A (WT ca cq xq (kdC C) (fsC C) (snC C) ak (nI (C 0)) (nI (C 37)) (nI (C 38)) (fI (C 39)) (nI (C 40)) (lN (C 66)) (nI (C 41)) tb_ va fy cn an sw sb sv) nn)) 0 0 (va_A (WT ca cq xq (kdC C) (fsC C) (snC C) ak (nI (C 0)) (nI (C 37)) (nI (C 38)) (fI (C 39)) (nI (C 40)) (lN (C 66)) (nI (C 41)) tb_ va fy cn an sw sb sv) nn) := by
  refine met_go (QA := fun A => va_Qi (fun (r_ : Int32) (_ : Unit) => r_ = nI (ksm C * (fa C + 1))) (PostW D vwCl (TY ca) (fun (_ : Unit) => (WT ca cq xq (kdC C) (fsC C) (snC C) ak (nI (C 0)) (nI (C 37)) (nI (C 38)) (fI (C 39)) (nI (C 40)) (lN (C 66)) (nI (C 41)) tb_ va fy cn an sw sb sv)) A) A) (by decide) (Nat.le_of_ble_eq_true rfl) (fun p e s m below meth c A ls QQ hQQ hx hb hr hts hown hlocks hml hA hP hK hD hE hl => ?_)
  have hown : s.vm.findClass RX1 = some m.cls := hown
  have hS : va_S A s.heap s.heap [] := va_S.rf
  have hl : lv_has ls 1 [(0, .ref (xq 0))] := hl
  generalize hHe : s.heap = H at hP ⊢
  have hS : va_S A s.heap H [] := hHe ▸ hS
  generalize ([] : List Loc) = locs at hS ⊢
  refine lv_aload_n hx hb dX1_hypotheses_0 rfl (lv_at hl 0 rfl) ?_
  refine xc_i (xr_V (b := xq 0) (ci := 0) (q0 := 5) (As := []) (rest := []) (mt_X1_assignments l D ca cq xq ak tb_ va fy cn an sw sb sv C (by first | assumption | omega | (simp only [updN, forgetC, changedC]; (repeat' split) <;> omega)) (by first | assumption | omega | (simp only [updN, forgetC, changedC]; (repeat' split) <;> omega)) (by first | assumption | omega | (simp only [updN, forgetC, changedC]; (repeat' split) <;> omega)) (by first | assumption | omega | (simp only [updN, forgetC, changedC]; (repeat' split) <;> omega)) H.size) ⟨hx, hb, hml, hown, hts⟩ (cwV 0 hts (lw_V q1091 q1093 qs24 q79 q1094) rfl rfl rfl (by decide +kernel) ⟨Nat.le_of_ble_eq_true rfl, Nat.le_of_ble_eq_true rfl⟩) EvX_ok hE hK hS (Cut.all hP hD hS hA) rfl rfl rfl hl.1 rfl (Nat.le_of_ble_eq_true rfl) dX1_hypotheses_1 ⟨Nat.le_of_ble_eq_true rfl, Nat.le_of_ble_eq_true rfl⟩) hS (Cut.all hP hD hS hA) (fun r_1 u_2 H locs hq_1 hP hD hS => ?_)
  have hP : va_P D vwCl (WT ca cq xq (kdC C) (fsC C) (snC C) ak (nI (C 0)) (nI (C 37)) (nI (C 38)) (fI (C 39)) (nI (C 40)) (lN (C 66)) (nI (C 41)) tb_ va fy cn an sw sb sv) H := hP
  have hD : va_D A (WT ca cq xq (kdC C) (fsC C) (snC C) ak (nI (C 0)) (nI (C 37)) (nI (C 38)) (fI (C 39)) (nI (C 40)) (lN (C 66)) (nI (C 41)) tb_ va fy cn an sw sb sv) := hD
  have hp_1 : r_1 = nI (ksm C) := hq_1
  clear hq_1
  obtain rfl := hp_1
  refine lv_aload_n hx hb dX1_hypotheses_4 rfl (lv_at hl 0 rfl) ?_
  refine xc_i (xr_V (b := xq 0) (ci := 0) (q0 := 5) (As := []) (rest := [.int (nI (ksm C))]) (mt_X1_faultsTold l D ca cq xq ak tb_ va fy cn an sw sb sv C (by first | assumption | omega | (simp only [updN, forgetC, changedC]; (repeat' split) <;> omega)) (by first | assumption | omega | (simp only [updN, forgetC, changedC]; (repeat' split) <;> omega)) H.size) ⟨hx, hb, hml, hown, hts⟩ (cwV 0 hts (lw_V q1095 q1097 qs25 q79 q1098) rfl rfl rfl (by decide +kernel) ⟨Nat.le_of_ble_eq_true rfl, Nat.le_of_ble_eq_true rfl⟩) EvX_ok hE hK hS (Cut.all hP hD hS hA) rfl rfl rfl hl.1 rfl (Nat.le_of_ble_eq_true rfl) dX1_hypotheses_5 ⟨Nat.le_of_ble_eq_true rfl, Nat.le_of_ble_eq_true rfl⟩) hS (Cut.all hP hD hS hA) (fun r_3 u_4 H locs hq_5 hP hD hS => ?_)
  have hP : va_P D vwCl (WT ca cq xq (kdC C) (fsC C) (snC C) ak (nI (C 0)) (nI (C 37)) (nI (C 38)) (fI (C 39)) (nI (C 40)) (lN (C 66)) (nI (C 41)) tb_ va fy cn an sw sb sv) H := hP
  have hD : va_D A (WT ca cq xq (kdC C) (fsC C) (snC C) ak (nI (C 0)) (nI (C 37)) (nI (C 38)) (fI (C 39)) (nI (C 40)) (lN (C 66)) (nI (C 41)) tb_ va fy cn an sw sb sv) := hD
  have hp_5 : r_3 = nI (fa C + 1) := hq_5
  clear hq_5
  obtain rfl := hp_5
  refine nv_imul hx hb dX1_hypotheses_8 ?_
  subst hQQ
  exact xe_i (v := nI ((ksm C) * (fa C + 1))) () hx hb hr hlocks hK hP hD hS (rfl) dX1_hypotheses_9
