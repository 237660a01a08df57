/-! the component: looks -/
set_option maxRecDepth 100000
theorem or_z {x y : Int64} : x ||| y = lN 0 ↔ x = lN 0 ∧ y = lN 0 := by
  constructor
  · intro h
    have hb : ∀ i, i < 64 → bit64 x i = false ∧ bit64 y i = false := fun i hi => by
      have := congrArg (fun z => bit64 z i) h
      simp only [bit_or, bit_lN _ _ hi, Nat.zero_testBit] at this
      simpa using this
    exact ⟨i64_ext fun i hi => by rw [(hb i hi).1, bit_lN _ _ hi, Nat.zero_testBit], i64_ext fun i hi => by rw [(hb i hi).2, bit_lN _ _ hi, Nat.zero_testBit]⟩
  · rintro ⟨rfl, rfl⟩; rfl
theorem xor_z {x y : Int64} : x ^^^ y = lN 0 ↔ x = y := by
  constructor
  · intro h
    apply i64_ext; intro i hi
    have := congrArg (fun z => bit64 z i) h
    simp only [bit_xor, bit_lN _ _ hi, Nat.zero_testBit] at this
    simpa using this
  · rintro rfl
    apply i64_ext; intro i hi
    rw [bit_xor, bit_lN _ _ hi, Nat.zero_testBit, Bool.xor_self]
theorem apF_z : ∀ (n : Nat) (X Y : Nat → Int64), apF n X Y = lN 0 ↔ ∀ k, k < n → X k = Y k := by
  intro n; induction n with
  | zero => intro X Y; exact ⟨fun _ k hk => absurd hk (Nat.not_lt_zero k), fun _ => rfl⟩
  | succ n ih =>
    intro X Y
    show apF n X Y ||| (X n ^^^ Y n) = lN 0 ↔ _
    rw [or_z, xor_z, ih]
    constructor
    · rintro ⟨h1, h2⟩ k hk
      by_cases e : k = n
      · subst e; exact h2
      · exact h1 k (by omega)
    · intro h; exact ⟨fun k hk => h k (by omega), h n (by omega)⟩
theorem lkx_ap {C : Nat → Nat} {f e : Nat} : lkx C f e = decide (apC C (f + 1) (e + 1) = lN 0) := by
  unfold lkx apC
  exact decide_eq_decide.mpr (apF_z _ _ _).symm
theorem lnw_y {C : Nat → Nat} {f e : Nat} (h : lnw C f e = true) (h2 : ¬ apC C (f + 1) (e + 1) = lN 0) : true = lnw C f (e + 1) := by
  simp only [lnw]; rw [h, lkx_ap, decide_eq_false h2]; rfl
theorem lnw_n {C : Nat → Nat} {f e : Nat} (h : lnw C f e = false) : false = lnw C f (e + 1) := by
  simp only [lnw]; rw [h]; rfl
theorem lnw_z {C : Nat → Nat} {f e : Nat} (h2 : apC C (f + 1) (e + 1) = lN 0) : false = lnw C f (e + 1) := by
  simp only [lnw]; rw [lkx_ap, decide_eq_true h2]; simp
set_option maxHeartbeats 4000000 in
set_option maxRecDepth 100000 in
theorem mt_X1_looksByPairs (l : Launch) (D : va_G) (ca : Nat → ClassId) (cq : Nat → Nat) (xq : Nat → Nat) (ak : Nat → Int32) (tb_ : Nat → Int64) (va : Nat → Int32) (fy : Nat → Int64) (cn : Nat → Int32) (an : Nat → Int32) (sw : Nat → Int64) (sb : Nat → Int64) (sv : Value) (C : Nat → Nat) (h0 : C 0 ≤ 12) (hkd0 : ∀ k, k < 12 → C (1 + k) < 8) (hse : ∀ k, k < 12 → C (13 + k) < 6 + k ∧ C (25 + k) < 6 + k) (ho : C 37 < 2 ^ 18) (hbx : C 38 < 2 ^ 18) (hno : popc 18 (C 37) ≤ 4) (nn : Nat) : Met l yX1_looksByPairs (ws_ yX1_looksByPairs cX1_looksByPairs 5 (Option.some Jvm.ClassFile.FieldType.int)) ({ frames := 4, cells := 0, slots := 0, locals := 95 } : Room) (va_Pc [.ref (xq 0)] (PreW EvX D vwCl (TY ca) (WT ca cq xq (kdC C) (fsC C) (snC C) ak (nI (C 0)) (nI (C 37)) (nI (C 38)) (fI (C 39)) (nI (C 40)) (lN (C 66)) (nI (C 41)) tb_ va fy cn an sw sb sv) nn)) (va_Qi (fun (r_ : Int32) (u_ : (Nat → Int64) × (Nat → Int64)) => r_ = nI (lks C (2 * (6 + C 0)))) (PostW D vwCl (TY ca) (fun (u_ : (Nat → Int64) × (Nat → Int64)) => (WT ca cq xq (kdC C) (fsC C) (snC C) ak (nI (C 0)) (nI (C 37)) (nI (C 38)) (fI (C 39)) (nI (C 40)) (lN (C 66)) (nI (C 41)) u_.1 va u_.2 cn an sw sb sv)) (va_A (WT ca cq xq (kdC C) (fsC C) (snC C) ak (nI (C 0)) (nI (C 37)) (nI (C 38)) (fI (C 39)) (nI (C 40)) (lN (C 66)) (nI (C 41)) tb_ va fy cn an sw sb sv) nn)) (va_A (WT ca cq xq (kdC C) (fsC C) (snC C) ak (nI (C 0)) (nI (C 37)) (nI (C 38)) (fI (C 39)) (nI (C 40)) (lN (C 66)) (nI (C 41)) tb_ va fy cn an sw sb sv) nn)) 0 0 (va_A (WT ca cq xq (kdC C) (fsC C) (snC C) ak (nI (C 0)) (nI (C 37)) (nI (C 38)) (fI (C 39)) (nI (C 40)) (lN (C 66)) (nI (C 41)) tb_ va fy cn an sw sb sv) nn) := by
  refine met_go (QA := fun A => va_Qi (fun (r_ : Int32) (u_ : (Nat → Int64) × (Nat → Int64)) => r_ = nI (lks C (2 * (6 + C 0)))) (PostW D vwCl (TY ca) (fun (u_ : (Nat → Int64) × (Nat → Int64)) => (WT ca cq xq (kdC C) (fsC C) (snC C) ak (nI (C 0)) (nI (C 37)) (nI (C 38)) (fI (C 39)) (nI (C 40)) (lN (C 66)) (nI (C 41)) u_.1 va u_.2 cn an sw sb sv)) A) A) (by decide) (Nat.le_of_ble_eq_true rfl) (fun p e s m below meth c A ls QQ hQQ hx hb hr hts hown hlocks hml hA hP hK hD hE hl => ?_)
  have hown : s.vm.findClass RX1 = some m.cls := hown
  have hS : va_S A s.heap s.heap [] := va_S.rf
  have hl : lv_has ls 5 [(0, .ref (xq 0))] := hl
  generalize hHe : s.heap = H at hP ⊢
  have hS : va_S A s.heap H [] := hHe ▸ hS
  generalize ([] : List Loc) = locs at hS ⊢
  refine lv_iconst (v := nI 0) hx hb dX1_looksByPairs_0 (by decide) ?_
  refine lv_istore_n (lv' := [(1, .int (nI 0)), (0, .ref (xq 0))]) hx hb dX1_looksByPairs_1 rfl hl (by decide) rfl (fun ls hl => ?_)
  refine lv_iconst (v := nI 0) hx hb dX1_looksByPairs_2 (by decide) ?_
  refine lv_istore_n (lv' := [(2, .int (nI 0)), (1, .int (nI 0)), (0, .ref (xq 0))]) hx hb dX1_looksByPairs_3 rfl hl (by decide) rfl (fun ls hl => ?_)
  have lp_4 : ∀ (fu_4 : Nat) (n : Nat) (t_ : Nat → Int64) (y_ : Nat → Int64), 2 * (6 + C 0) - n < fu_4 → (n ≤ 2 * (6 + C 0)) → ∀ (H : Heap) (locs : List Loc), va_P D vwCl (WT ca cq xq (kdC C) (fsC C) (snC C) ak (nI (C 0)) (nI (C 37)) (nI (C 38)) (fI (C 39)) (nI (C 40)) (lN (C 66)) (nI (C 41)) t_ va y_ cn an sw sb sv) H → va_D A (WT ca cq xq (kdC C) (fsC C) (snC C) ak (nI (C 0)) (nI (C 37)) (nI (C 38)) (fI (C 39)) (nI (C 40)) (lN (C 66)) (nI (C 41)) t_ va y_ cn an sw sb sv) → va_S A s.heap H locs → ∀ (ls : Array Slot), lv_has ls 5 [(2, .int (nI n)), (1, .int (nI (lks C n))), (0, .ref (xq 0))] → W p l e ({ frames := 4, cells := 0, slots := 0, locals := 95 } : Room) s m ([.ref (xq 0)] : List Value).toArray below meth c H locs 0 0 QQ (F0 m 4 ls []) := by
    intro fu_4
    induction fu_4 with
    | zero => intro n t_ y_ hfu; exact absurd hfu (Nat.not_lt_zero _)
    | succ fu_4 ih_4 =>
      intro n t_ y_ hfu hn H locs hP hD hS ls hl
      refine lv_iload_n hx hb dX1_looksByPairs_4 rfl (lv_at hl 0 rfl) ?_
      refine lv_aload_n hx hb dX1_looksByPairs_5 rfl (lv_at hl 2 rfl) ?_
      refine gWT_5_circuit_X1 hx hb hts hown hK hP dX1_looksByPairs_6 ?_
      refine xc_i (xr_V (b := cq 0) (ci := 1) (q0 := 0) (As := []) (rest := [.int (nI n)]) (mt_X2_faults l D ca cq (kdC C) (fsC C) (snC C) ak (nI (C 37)) (nI (C 38)) (fI (C 39)) (nI (C 40)) (lN (C 66)) (nI (C 41)) (C 0)  H.size) ⟨hx, hb, hml, hown, hts⟩ (cwV 0 hts (lw_V q439 q440 q441 q80 q442) rfl rfl rfl (by decide +kernel) ⟨Nat.le_of_ble_eq_true rfl, Nat.le_of_ble_eq_true rfl⟩) EvX_ok hE hK hS (Cut.app (wc := (WC ca cq (kdC C) (fsC C) (snC C) ak (nI (C 0)) (nI (C 37)) (nI (C 38)) (fI (C 39)) (nI (C 40)) (lN (C 66)) (nI (C 41)))) (wr := (WTr ca cq xq t_ va y_ cn an sw sb sv)) hP hD hS hA) rfl rfl rfl hl.1 rfl (Nat.le_of_ble_eq_true rfl) dX1_looksByPairs_9 ⟨Nat.le_of_ble_eq_true rfl, Nat.le_of_ble_eq_true rfl⟩) hS (Cut.app (wc := (WC ca cq (kdC C) (fsC C) (snC C) ak (nI (C 0)) (nI (C 37)) (nI (C 38)) (fI (C 39)) (nI (C 40)) (lN (C 66)) (nI (C 41)))) (wr := (WTr ca cq xq t_ va y_ cn an sw sb sv)) hP hD hS hA) (fun r_1 u_2 H locs hq_9 hP hD hS => ?_)
      have hP : va_P D vwCl (WT ca cq xq (kdC C) (fsC C) (snC C) ak (nI (C 0)) (nI (C 37)) (nI (C 38)) (fI (C 39)) (nI (C 40)) (lN (C 66)) (nI (C 41)) t_ va y_ cn an sw sb sv) H := hP
      have hD : va_D A (WT ca cq xq (kdC C) (fsC C) (snC C) ak (nI (C 0)) (nI (C 37)) (nI (C 38)) (fI (C 39)) (nI (C 40)) (lN (C 66)) (nI (C 41)) t_ va y_ cn an sw sb sv) := hD
      have hp_9 : r_1 = nI (2 * (6 + (C 0))) := hq_9
      clear hq_9
      obtain rfl := hp_9
      refine nv_icmp_ge (tgt := 72) hx hb dX1_looksByPairs_12 (by decide) (by omega) (by omega) (fun c_12 => ?_) (fun c_12 => ?_)
      · skip
        have e_ : 2 * (6 + C 0) = n := Eq.symm (by omega)
        subst e_
        refine lv_iload_n hx hb dX1_looksByPairs_72 rfl (lv_at hl 1 rfl) ?_
        subst hQQ
        exact xe_i (v := nI (lks C (2 * (6 + C 0)))) (t_, y_) hx hb hr hlocks hK hP hD hS (rfl) dX1_looksByPairs_73
      · skip
        refine lv_iconst (v := nI 1) hx hb dX1_looksByPairs_15 (by decide) ?_
        refine lv_istore_n (lv' := [(3, .int (nI 1)), (2, .int (nI n)), (1, .int (nI (lks C n))), (0, .ref (xq 0))]) hx hb dX1_looksByPairs_16 rfl hl (by decide) rfl (fun ls hl => ?_)
        refine lv_iconst (v := nI 0) hx hb dX1_looksByPairs_17 (by decide) ?_
        refine lv_istore (lv' := [(4, .int (nI 0)), (3, .int (nI 1)), (2, .int (nI n)), (1, .int (nI (lks C n))), (0, .ref (xq 0))]) hx hb dX1_looksByPairs_18 hl (by decide) rfl (fun ls hl => ?_)
        have lp_20 : ∀ (fu_20 : Nat) (k : Nat) (u_ : Nat → Int64) (v_ : Nat → Int64), n - k < fu_20 → (k ≤ n) → ∀ (H : Heap) (locs : List Loc), va_P D vwCl (WT ca cq xq (kdC C) (fsC C) (snC C) ak (nI (C 0)) (nI (C 37)) (nI (C 38)) (fI (C 39)) (nI (C 40)) (lN (C 66)) (nI (C 41)) u_ va v_ cn an sw sb sv) H → va_D A (WT ca cq xq (kdC C) (fsC C) (snC C) ak (nI (C 0)) (nI (C 37)) (nI (C 38)) (fI (C 39)) (nI (C 40)) (lN (C 66)) (nI (C 41)) u_ va v_ cn an sw sb sv) → va_S A s.heap H locs → ∀ (ls : Array Slot), lv_has ls 5 [(4, .int (nI k)), (3, .int (bI (lnw C n k))), (2, .int (nI n)), (1, .int (nI (lks C n))), (0, .ref (xq 0))] → W p l e ({ frames := 4, cells := 0, slots := 0, locals := 95 } : Room) s m ([.ref (xq 0)] : List Value).toArray below meth c H locs 0 0 QQ (F0 m 20 ls []) := by
          intro fu_20
          induction fu_20 with
          | zero => intro k u_ v_ hfu; exact absurd hfu (Nat.not_lt_zero _)
          | succ fu_20 ih_20 =>
            intro k u_ v_ hfu hk H locs hP hD hS ls hl
            refine lv_iload hx hb dX1_looksByPairs_20 (lv_at hl 0 rfl) ?_
            refine lv_iload_n hx hb dX1_looksByPairs_22 rfl (lv_at hl 2 rfl) ?_
            refine nv_icmp_ge (tgt := 54) hx hb dX1_looksByPairs_23 (by decide) (by omega) (by omega) (fun c_23 => ?_) (fun c_23 => ?_)
            · skip
              have e_ : n = k := Eq.symm (by omega)
              subst e_
              refine lv_iload_n hx hb dX1_looksByPairs_54 rfl (lv_at hl 3 rfl) ?_
              refine lv_iload_n hx hb dX1_looksByPairs_55 rfl (lv_at hl 1 rfl) ?_
              refine nv_ifb_eq (tgt := 63) hx hb dX1_looksByPairs_56 (by decide) (fun c_56 => ?_) (fun c_56 => ?_)
              · skip
                refine lv_iconst (v := nI 0) hx hb dX1_looksByPairs_63 (by decide) ?_
                refine nv_iadd hx hb dX1_looksByPairs_64 ?_
                refine lv_istore_n (lv' := [(1, .int (nI ((lks C n) + 0))), (4, .int (nI n)), (3, .int (bI (lnw C n n))), (2, .int (nI n)), (0, .ref (xq 0))]) hx hb dX1_looksByPairs_65 rfl hl (by decide) rfl (fun ls hl => ?_)
                refine lv_iinc (v := nI (n + 1)) (lv' := [(2, .int (nI (n + 1))), (1, .int (nI ((lks C n) + 0))), (4, .int (nI n)), (3, .int (bI (lnw C n n))), (0, .ref (xq 0))]) hx hb dX1_looksByPairs_66 hl (k := 3) rfl (nI_add n 1) (by decide) rfl (fun ls hl => ?_)
                refine lv_goto (tgt := 4) hx hb dX1_looksByPairs_69 (by decide) ?_
                have hl : lv_has ls 5 [(2, .int (nI (n + 1))), (1, .int (nI (lks C (n + 1)))), (4, .int (nI n)), (3, .int (bI (lnw C n n))), (0, .ref (xq 0))] := (congrArg (fun x_ => lv_has ls 5 [(2, .int (nI (n + 1))), (1, .int x_), (4, .int (nI n)), (3, .int (bI (lnw C n n))), (0, .ref (xq 0))]) (show nI ((lks C n) + 0) = nI (lks C (n + 1)) from congrArg nI (by simp only [lks]; rw [c_56]; rfl))).mp hl
                exact ih_4  (n + 1) u_ v_ (by omega) (by omega) _ _ hP hD hS ls (lv_sub hl [0, 1, 4] rfl)
              · skip
                refine lv_iconst (v := nI 1) hx hb dX1_looksByPairs_59 (by decide) ?_
                refine lv_goto (tgt := 64) hx hb dX1_looksByPairs_60 (by decide) ?_
                refine nv_iadd hx hb dX1_looksByPairs_64 ?_
                refine lv_istore_n (lv' := [(1, .int (nI ((lks C n) + 1))), (4, .int (nI n)), (3, .int (bI (lnw C n n))), (2, .int (nI n)), (0, .ref (xq 0))]) hx hb dX1_looksByPairs_65 rfl hl (by decide) rfl (fun ls hl => ?_)
                refine lv_iinc (v := nI (n + 1)) (lv' := [(2, .int (nI (n + 1))), (1, .int (nI ((lks C n) + 1))), (4, .int (nI n)), (3, .int (bI (lnw C n n))), (0, .ref (xq 0))]) hx hb dX1_looksByPairs_66 hl (k := 3) rfl (nI_add n 1) (by decide) rfl (fun ls hl => ?_)
                refine lv_goto (tgt := 4) hx hb dX1_looksByPairs_69 (by decide) ?_
                have hl : lv_has ls 5 [(2, .int (nI (n + 1))), (1, .int (nI (lks C (n + 1)))), (4, .int (nI n)), (3, .int (bI (lnw C n n))), (0, .ref (xq 0))] := (congrArg (fun x_ => lv_has ls 5 [(2, .int (nI (n + 1))), (1, .int x_), (4, .int (nI n)), (3, .int (bI (lnw C n n))), (0, .ref (xq 0))]) (show nI ((lks C n) + 1) = nI (lks C (n + 1)) from congrArg nI (by simp only [lks]; rw [c_56]; rfl))).mp hl
                exact ih_4  (n + 1) u_ v_ (by omega) (by omega) _ _ hP hD hS ls (lv_sub hl [0, 1, 4] rfl)
            · skip
              refine lv_iload_n hx hb dX1_looksByPairs_26 rfl (lv_at hl 1 rfl) ?_
              refine nv_ifb_eq (tgt := 46) hx hb dX1_looksByPairs_27 (by decide) (fun c_27 => ?_) (fun c_27 => ?_)
              · skip
                refine lv_iconst (v := nI 0) hx hb dX1_looksByPairs_46 (by decide) ?_
                refine lv_istore_n (lv' := [(3, .int (nI 0)), (4, .int (nI k)), (2, .int (nI n)), (1, .int (nI (lks C n))), (0, .ref (xq 0))]) hx hb dX1_looksByPairs_47 rfl hl (by decide) rfl (fun ls hl => ?_)
                refine lv_iinc (v := nI (k + 1)) (lv' := [(4, .int (nI (k + 1))), (3, .int (nI 0)), (2, .int (nI n)), (1, .int (nI (lks C n))), (0, .ref (xq 0))]) hx hb dX1_looksByPairs_48 hl (k := 1) rfl (nI_add k 1) (by decide) rfl (fun ls hl => ?_)
                refine lv_goto (tgt := 20) hx hb dX1_looksByPairs_51 (by decide) ?_
                have hl : lv_has ls 5 [(4, .int (nI (k + 1))), (3, .int (bI (lnw C n (k + 1)))), (2, .int (nI n)), (1, .int (nI (lks C n))), (0, .ref (xq 0))] := (congrArg (fun x_ => lv_has ls 5 [(4, .int (nI (k + 1))), (3, .int x_), (2, .int (nI n)), (1, .int (nI (lks C n))), (0, .ref (xq 0))]) (show nI 0 = bI (lnw C n (k + 1)) from show bI false = _ from congrArg bI (by first | exact lnw_n c_27 | exact lnw_z c_38))).mp hl
                exact ih_20  (k + 1) u_ v_ (by omega) (by omega) _ _ hP hD hS ls (lv_sub hl [0, 1, 2, 3, 4] rfl)
              · skip
                refine lv_aload_n hx hb dX1_looksByPairs_30 rfl (lv_at hl 4 rfl) ?_
                refine lv_iload_n hx hb dX1_looksByPairs_31 rfl (lv_at hl 2 rfl) ?_
                refine lv_topi (nm_r (e' := fI (n + 1)) (fI_S n) ?_)
                refine lv_iload hx hb dX1_looksByPairs_32 (lv_at hl 0 rfl) ?_
                refine lv_topi (nm_r (e' := fI (k + 1)) (fI_S k) ?_)
                refine xc_l (xr_V (b := xq 0) (ci := 0) (q0 := 5) (As := [.int (fI (n + 1)), .int (fI (k + 1))]) (rest := []) (mt_X1_testsBy l D ca cq xq ak u_ va v_ cn an sw sb sv C (n + 1) (k + 1) (by first | assumption | omega | (simp only [updN, forgetC, changedC]; (repeat' split) <;> omega)) (by first | assumption | omega | (simp only [updN, forgetC, changedC]; (repeat' split) <;> omega)) (by first | assumption | omega | (simp only [updN, forgetC, changedC]; (repeat' split) <;> omega)) (by first | assumption | omega | (simp only [updN, forgetC, changedC]; (repeat' split) <;> omega)) (by first | assumption | omega | (simp only [updN, forgetC, changedC]; (repeat' split) <;> omega)) (by first | assumption | omega | (simp only [updN, forgetC, changedC]; (repeat' split) <;> omega)) (by first | assumption | omega | (simp only [updN, forgetC, changedC]; (repeat' split) <;> omega)) (by first | assumption | omega | (simp only [updN, forgetC, changedC]; (repeat' split) <;> omega)) H.size) ⟨hx, hb, hml, hown, hts⟩ (cwV 2 hts (lw_V q447 q449 qs7 q79 q450) rfl rfl rfl (by decide +kernel) ⟨Nat.le_of_ble_eq_true rfl, Nat.le_of_ble_eq_true rfl⟩) EvX_ok hE hK hS (Cut.all hP hD hS hA) rfl rfl rfl hl.1 rfl (Nat.le_of_ble_eq_true rfl) dX1_looksByPairs_34 ⟨Nat.le_of_ble_eq_true rfl, Nat.le_of_ble_eq_true rfl⟩) hS (Cut.all hP hD hS hA) (fun r_7 u_8 H locs hq_34 hP hD hS => ?_)
                obtain ⟨tb1_9, fy1_10⟩ := u_8
                have hP : va_P D vwCl (WT ca cq xq (kdC C) (fsC C) (snC C) ak (nI (C 0)) (nI (C 37)) (nI (C 38)) (fI (C 39)) (nI (C 40)) (lN (C 66)) (nI (C 41)) tb1_9 va fy1_10 cn an sw sb sv) H := hP
                have hD : va_D A (WT ca cq xq (kdC C) (fsC C) (snC C) ak (nI (C 0)) (nI (C 37)) (nI (C 38)) (fI (C 39)) (nI (C 40)) (lN (C 66)) (nI (C 41)) tb1_9 va fy1_10 cn an sw sb sv) := hD
                have hp_34 : r_7 = apC C (n + 1) (k + 1) := hq_34
                clear hq_34
                obtain rfl := hp_34
                refine lv_lconst (v := lN 0) hx hb dX1_looksByPairs_37 (by decide) ?_
                refine nv_lcmp_eq (tgt := 46) hx hb dX1_looksByPairs_38 dX1_looksByPairs_39 (by decide) (fun c_38 => ?_) (fun c_38 => ?_)
                · skip
                  refine lv_iconst (v := nI 0) hx hb dX1_looksByPairs_46 (by decide) ?_
                  refine lv_istore_n (lv' := [(3, .int (nI 0)), (4, .int (nI k)), (2, .int (nI n)), (1, .int (nI (lks C n))), (0, .ref (xq 0))]) hx hb dX1_looksByPairs_47 rfl hl (by decide) rfl (fun ls hl => ?_)
                  refine lv_iinc (v := nI (k + 1)) (lv' := [(4, .int (nI (k + 1))), (3, .int (nI 0)), (2, .int (nI n)), (1, .int (nI (lks C n))), (0, .ref (xq 0))]) hx hb dX1_looksByPairs_48 hl (k := 1) rfl (nI_add k 1) (by decide) rfl (fun ls hl => ?_)
                  refine lv_goto (tgt := 20) hx hb dX1_looksByPairs_51 (by decide) ?_
                  have hl : lv_has ls 5 [(4, .int (nI (k + 1))), (3, .int (bI (lnw C n (k + 1)))), (2, .int (nI n)), (1, .int (nI (lks C n))), (0, .ref (xq 0))] := (congrArg (fun x_ => lv_has ls 5 [(4, .int (nI (k + 1))), (3, .int x_), (2, .int (nI n)), (1, .int (nI (lks C n))), (0, .ref (xq 0))]) (show nI 0 = bI (lnw C n (k + 1)) from show bI false = _ from congrArg bI (by first | exact lnw_n c_27 | exact lnw_z c_38))).mp hl
                  exact ih_20  (k + 1) tb1_9 fy1_10 (by omega) (by omega) _ _ hP hD hS ls (lv_sub hl [0, 1, 2, 3, 4] rfl)
                · skip
                  refine lv_iconst (v := nI 1) hx hb dX1_looksByPairs_42 (by decide) ?_
                  refine lv_goto (tgt := 47) hx hb dX1_looksByPairs_43 (by decide) ?_
                  refine lv_istore_n (lv' := [(3, .int (nI 1)), (4, .int (nI k)), (2, .int (nI n)), (1, .int (nI (lks C n))), (0, .ref (xq 0))]) hx hb dX1_looksByPairs_47 rfl hl (by decide) rfl (fun ls hl => ?_)
                  refine lv_iinc (v := nI (k + 1)) (lv' := [(4, .int (nI (k + 1))), (3, .int (nI 1)), (2, .int (nI n)), (1, .int (nI (lks C n))), (0, .ref (xq 0))]) hx hb dX1_looksByPairs_48 hl (k := 1) rfl (nI_add k 1) (by decide) rfl (fun ls hl => ?_)
                  refine lv_goto (tgt := 20) hx hb dX1_looksByPairs_51 (by decide) ?_
                  have hl : lv_has ls 5 [(4, .int (nI (k + 1))), (3, .int (bI (lnw C n (k + 1)))), (2, .int (nI n)), (1, .int (nI (lks C n))), (0, .ref (xq 0))] := (congrArg (fun x_ => lv_has ls 5 [(4, .int (nI (k + 1))), (3, .int x_), (2, .int (nI n)), (1, .int (nI (lks C n))), (0, .ref (xq 0))]) (show nI 1 = bI (lnw C n (k + 1)) from show bI true = _ from congrArg bI (lnw_y c_27 c_38))).mp hl
                  exact ih_20  (k + 1) tb1_9 fy1_10 (by omega) (by omega) _ _ hP hD hS ls (lv_sub hl [0, 1, 2, 3, 4] rfl)
        have hl : lv_has ls 5 [(4, .int (nI 0)), (3, .int (bI (lnw C n 0))), (2, .int (nI n)), (1, .int (nI (lks C n))), (0, .ref (xq 0))] := (congrArg (fun x_ => lv_has ls 5 [(4, .int (nI 0)), (3, .int x_), (2, .int (nI n)), (1, .int (nI (lks C n))), (0, .ref (xq 0))]) (show nI 1 = bI (lnw C n 0) from rfl)).mp hl
        exact lp_20 (n - 0 + 1) 0 t_ y_ (Nat.lt_succ_self _) (by omega) _ _ hP hD hS ls (lv_sub hl [0, 1, 2, 3, 4] rfl)
  exact lp_4 (2 * (6 + C 0) - 0 + 1) 0 tb_ fy (Nat.lt_succ_self _) (by omega) _ _ hP hD hS ls (lv_sub hl [0, 1, 2] rfl)
