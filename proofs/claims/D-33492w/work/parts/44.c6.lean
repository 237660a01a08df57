/-! the component: simple tellings of faults -/
set_option maxRecDepth 100000
theorem apF_c : ∀ (n : Nat) (X Y : Nat → Int64), apF n X Y = apF n Y X := by
  intro n; induction n with
  | zero => intros; rfl
  | succ n ih => intro X Y; show apF n X Y ||| (X n ^^^ Y n) = apF n Y X ||| (Y n ^^^ X n); rw [ih, xor_c]
theorem apC_c {C : Nat → Nat} {F G : Nat} : apC C F G = apC C G F := apF_c _ _ _
set_option maxHeartbeats 4000000 in
set_option maxRecDepth 100000 in
theorem mt_X1_needFault_ok (l : Launch) (D : va_G) (ca : Nat → ClassId) (cq : Nat → Nat) (xq : Nat → Nat) (ak : Nat → Int32) (tb_ : Nat → Int64) (va : Nat → Int32) (fy : Nat → Int64) (cn : Nat → Int32) (an : Nat → Int32) (sw : Nat → Int64) (sb : Nat → Int64) (sv : Value) (C : Nat → Nat) (F_ : Nat) (h0 : C 0 ≤ 12) (hF0 : F_ ≠ 0) (hF : F_ ≤ 2 * (6 + C 0)) (nn : Nat) : Met l yX1_needFault (ws_ yX1_needFault cX1_needFault 2 (Option.none : Option Jvm.ClassFile.FieldType)) ({ frames := 2, cells := 0, slots := 0, locals := 40 } : Room) (va_Pc [.ref (xq 0), .int (fI F_)] (PreW EvX D vwCl (TY ca) (WT ca cq xq (kdC C) (fsC C) (snC C) ak (nI (C 0)) (nI (C 37)) (nI (C 38)) (fI (C 39)) (nI (C 40)) (lN (C 66)) (nI (C 41)) tb_ va fy cn an sw sb sv) nn)) (va_Qv (fun (_ : Unit) => True) (PostW D vwCl (TY ca) (fun (_ : Unit) => (WT ca cq xq (kdC C) (fsC C) (snC C) ak (nI (C 0)) (nI (C 37)) (nI (C 38)) (fI (C 39)) (nI (C 40)) (lN (C 66)) (nI (C 41)) tb_ va fy cn an sw sb sv)) (va_A (WT ca cq xq (kdC C) (fsC C) (snC C) ak (nI (C 0)) (nI (C 37)) (nI (C 38)) (fI (C 39)) (nI (C 40)) (lN (C 66)) (nI (C 41)) tb_ va fy cn an sw sb sv) nn)) (va_A (WT ca cq xq (kdC C) (fsC C) (snC C) ak (nI (C 0)) (nI (C 37)) (nI (C 38)) (fI (C 39)) (nI (C 40)) (lN (C 66)) (nI (C 41)) tb_ va fy cn an sw sb sv) nn)) 0 0 (va_A (WT ca cq xq (kdC C) (fsC C) (snC C) ak (nI (C 0)) (nI (C 37)) (nI (C 38)) (fI (C 39)) (nI (C 40)) (lN (C 66)) (nI (C 41)) tb_ va fy cn an sw sb sv) nn) := by
  refine met_go (QA := fun A => va_Qv (fun (_ : Unit) => True) (PostW D vwCl (TY ca) (fun (_ : Unit) => (WT ca cq xq (kdC C) (fsC C) (snC C) ak (nI (C 0)) (nI (C 37)) (nI (C 38)) (fI (C 39)) (nI (C 40)) (lN (C 66)) (nI (C 41)) tb_ va fy cn an sw sb sv)) A) A) (by decide) (Nat.le_of_ble_eq_true rfl) (fun p e s m below meth c A ls QQ hQQ hx hb hr hts hown hlocks hml hA hP hK hD hE hl => ?_)
  have hown : s.vm.findClass RX1 = some m.cls := hown
  have hS : va_S A s.heap s.heap [] := va_S.rf
  have hl : lv_has ls 2 [(0, .ref (xq 0)), (1, .int (fI F_))] := hl
  generalize hHe : s.heap = H at hP ⊢
  have hS : va_S A s.heap H [] := hHe ▸ hS
  generalize ([] : List Loc) = locs at hS ⊢
  refine lv_iload_n hx hb dX1_needFault_0 rfl (lv_at hl 1 rfl) ?_
  refine lv_iconst (v := nI 0) hx hb dX1_needFault_1 (by decide) ?_
  refine lv_aload_n hx hb dX1_needFault_2 rfl (lv_at hl 0 rfl) ?_
  refine gWT_5_circuit_X1 hx hb hts hown hK hP dX1_needFault_3 ?_
  refine xc_i (xr_V (b := cq 0) (ci := 1) (q0 := 0) (As := []) (rest := [.int (nI 0), .int (fI F_)]) (mt_X2_faults l D ca cq (kdC C) (fsC C) (snC C) ak (nI (C 37)) (nI (C 38)) (fI (C 39)) (nI (C 40)) (lN (C 66)) (nI (C 41)) (C 0)  H.size) ⟨hx, hb, hml, hown, hts⟩ (cwV 0 hts (lw_V q439 q440 q441 q80 q442) rfl rfl rfl (by decide +kernel) ⟨Nat.le_of_ble_eq_true rfl, Nat.le_of_ble_eq_true rfl⟩) EvX_ok hE hK hS (Cut.app (wc := (WC ca cq (kdC C) (fsC C) (snC C) ak (nI (C 0)) (nI (C 37)) (nI (C 38)) (fI (C 39)) (nI (C 40)) (lN (C 66)) (nI (C 41)))) (wr := (WTr ca cq xq tb_ va fy cn an sw sb sv)) hP hD hS hA) rfl rfl rfl hl.1 rfl (Nat.le_of_ble_eq_true rfl) dX1_needFault_6 ⟨Nat.le_of_ble_eq_true rfl, Nat.le_of_ble_eq_true rfl⟩) hS (Cut.app (wc := (WC ca cq (kdC C) (fsC C) (snC C) ak (nI (C 0)) (nI (C 37)) (nI (C 38)) (fI (C 39)) (nI (C 40)) (lN (C 66)) (nI (C 41)))) (wr := (WTr ca cq xq tb_ va fy cn an sw sb sv)) hP hD hS hA) (fun r_1 u_2 H locs hq_6 hP hD hS => ?_)
  have hP : va_P D vwCl (WT ca cq xq (kdC C) (fsC C) (snC C) ak (nI (C 0)) (nI (C 37)) (nI (C 38)) (fI (C 39)) (nI (C 40)) (lN (C 66)) (nI (C 41)) tb_ va fy cn an sw sb sv) H := hP
  have hD : va_D A (WT ca cq xq (kdC C) (fsC C) (snC C) ak (nI (C 0)) (nI (C 37)) (nI (C 38)) (fI (C 39)) (nI (C 40)) (lN (C 66)) (nI (C 41)) tb_ va fy cn an sw sb sv) := hD
  have hp_6 : r_1 = nI (2 * (6 + (C 0))) := hq_6
  clear hq_6
  obtain rfl := hp_6
  refine lv_iconst (v := nI 1) hx hb dX1_needFault_9 (by decide) ?_
  refine lv_isub hx hb dX1_needFault_10 ?_
  refine xc_i (xr_S (As := [.int (fI F_), .int (nI 0), .int ((nI (2 * (6 + (C 0)))) - (nI 1))]) (rest := []) (mt_X1_isWithin l D ca (fI F_) (nI 0) ((nI (2 * (6 + (C 0)))) - (nI 1))  H.size) ⟨hx, hb, hml, hown, hts⟩ (va_cwS 3 hts (lw_S q1044 q926 q79 q927) rfl rfl rfl (by decide +kernel) ⟨Nat.le_of_ble_eq_true rfl, Nat.le_of_ble_eq_true rfl⟩) Ev0_ok trivial hK hS (Cut.app (wc := []) (wr := (WT ca cq xq (kdC C) (fsC C) (snC C) ak (nI (C 0)) (nI (C 37)) (nI (C 38)) (fI (C 39)) (nI (C 40)) (lN (C 66)) (nI (C 41)) tb_ va fy cn an sw sb sv)) hP hD hS hA) rfl hl.1 rfl (Nat.le_of_ble_eq_true rfl) dX1_needFault_11 ⟨Nat.le_of_ble_eq_true rfl, Nat.le_of_ble_eq_true rfl⟩) hS (Cut.app (wc := []) (wr := (WT ca cq xq (kdC C) (fsC C) (snC C) ak (nI (C 0)) (nI (C 37)) (nI (C 38)) (fI (C 39)) (nI (C 40)) (lN (C 66)) (nI (C 41)) tb_ va fy cn an sw sb sv)) hP hD hS hA) (fun r_3 u_4 H locs hq_11 hP hD hS => ?_)
  have hP : va_P D vwCl (WT ca cq xq (kdC C) (fsC C) (snC C) ak (nI (C 0)) (nI (C 37)) (nI (C 38)) (fI (C 39)) (nI (C 40)) (lN (C 66)) (nI (C 41)) tb_ va fy cn an sw sb sv) H := hP
  have hD : va_D A (WT ca cq xq (kdC C) (fsC C) (snC C) ak (nI (C 0)) (nI (C 37)) (nI (C 38)) (fI (C 39)) (nI (C 40)) (lN (C 66)) (nI (C 41)) tb_ va fy cn an sw sb sv) := hD
  have hp_11 : r_3 = bI (decide ((nI 0) ≤ (fI F_) ∧ (fI F_) ≤ ((nI (2 * (6 + (C 0)))) - (nI 1)))) := hq_11
  clear hq_11
  obtain rfl := hp_11
  refine xc_v (xr_S (As := [.int (bI (decide ((nI 0) ≤ (fI F_) ∧ (fI F_) ≤ ((nI (2 * (6 + (C 0)))) - (nI 1)))))]) (rest := []) (mt_X1_needArgument_ok l D ca (decide ((nI 0) ≤ (fI F_) ∧ (fI F_) ≤ ((nI (2 * (6 + (C 0)))) - (nI 1)))) ((inR_end (by omega)).trans (by rw [inR_fI (by omega)]; exact decide_eq_true ⟨hF0, hF⟩)) H.size) ⟨hx, hb, hml, hown, hts⟩ (va_cwS 1 hts (lw_S q1045 q1046 q79 q1047) rfl rfl rfl (by decide +kernel) ⟨Nat.le_of_ble_eq_true rfl, Nat.le_of_ble_eq_true rfl⟩) Ev0_ok trivial hK hS (Cut.app (wc := []) (wr := (WT ca cq xq (kdC C) (fsC C) (snC C) ak (nI (C 0)) (nI (C 37)) (nI (C 38)) (fI (C 39)) (nI (C 40)) (lN (C 66)) (nI (C 41)) tb_ va fy cn an sw sb sv)) hP hD hS hA) rfl hl.1 rfl (Nat.le_of_ble_eq_true rfl) dX1_needFault_14 ⟨Nat.le_of_ble_eq_true rfl, Nat.le_of_ble_eq_true rfl⟩) hS (Cut.app (wc := []) (wr := (WT ca cq xq (kdC C) (fsC C) (snC C) ak (nI (C 0)) (nI (C 37)) (nI (C 38)) (fI (C 39)) (nI (C 40)) (lN (C 66)) (nI (C 41)) tb_ va fy cn an sw sb sv)) hP hD hS hA) (fun u_6 H locs hq_14 hP hD hS => ?_)
  have hP : va_P D vwCl (WT ca cq xq (kdC C) (fsC C) (snC C) ak (nI (C 0)) (nI (C 37)) (nI (C 38)) (fI (C 39)) (nI (C 40)) (lN (C 66)) (nI (C 41)) tb_ va fy cn an sw sb sv) H := hP
  have hD : va_D A (WT ca cq xq (kdC C) (fsC C) (snC C) ak (nI (C 0)) (nI (C 37)) (nI (C 38)) (fI (C 39)) (nI (C 40)) (lN (C 66)) (nI (C 41)) tb_ va fy cn an sw sb sv) := hD
  subst hQQ
  exact xe_v () hx hb hr hlocks hK hP hD hS (trivial) dX1_needFault_17
set_option maxHeartbeats 4000000 in
set_option maxRecDepth 100000 in
theorem mt_X1_needTest_ok (l : Launch) (D : va_G) (ca : Nat → ClassId) (t_ : Nat) (ht : t_ < 64) (nn : Nat) : Met l yX1_needTest (ws_ yX1_needTest cX1_needTest 1 (Option.none : Option Jvm.ClassFile.FieldType)) ({ frames := 1, cells := 0, slots := 0, locals := 22 } : Room) (va_Pc [.int (nI t_)] (PreW Ev0 D vwCl (TY ca) ([] : va_W) nn)) (va_Qv (fun (_ : Unit) => True) (PostW D vwCl (TY ca) (fun (_ : Unit) => ([] : va_W)) (va_A ([] : va_W) nn)) (va_A ([] : va_W) nn)) 0 0 (va_A ([] : va_W) nn) := by
  refine met_go (QA := fun A => va_Qv (fun (_ : Unit) => True) (PostW D vwCl (TY ca) (fun (_ : Unit) => ([] : va_W)) A) A) (by decide) (Nat.le_of_ble_eq_true rfl) (fun p e s m below meth c A ls QQ hQQ hx hb hr hts hown hlocks hml hA hP hK hD hE hl => ?_)
  have hown : s.vm.findClass RX1 = some m.cls := hown
  have hS : va_S A s.heap s.heap [] := va_S.rf
  have hl : lv_has ls 1 [(0, .int (nI t_))] := hl
  generalize hHe : s.heap = H at hP ⊢
  have hS : va_S A s.heap H [] := hHe ▸ hS
  generalize ([] : List Loc) = locs at hS ⊢
  refine lv_iload_n hx hb dX1_needTest_0 rfl (lv_at hl 0 rfl) ?_
  refine lv_iconst (v := nI 0) hx hb dX1_needTest_1 (by decide) ?_
  refine lv_bipush (v := nI 63) hx hb dX1_needTest_2 (by decide) ?_
  refine xc_i (xr_S (As := [.int (nI t_), .int (nI 0), .int (nI 63)]) (rest := []) (mt_X1_isWithin l D ca (nI t_) (nI 0) (nI 63)  H.size) ⟨hx, hb, hml, hown, hts⟩ (va_cwS 3 hts (lw_S q1044 q926 q79 q927) rfl rfl rfl (by decide +kernel) ⟨Nat.le_of_ble_eq_true rfl, Nat.le_of_ble_eq_true rfl⟩) Ev0_ok hE hK hS (Cut.app (wc := []) (wr := ([] : va_W)) hP hD hS hA) rfl hl.1 rfl (Nat.le_of_ble_eq_true rfl) dX1_needTest_4 ⟨Nat.le_of_ble_eq_true rfl, Nat.le_of_ble_eq_true rfl⟩) hS (Cut.app (wc := []) (wr := ([] : va_W)) hP hD hS hA) (fun r_1 u_2 H locs hq_4 hP hD hS => ?_)
  have hP : va_P D vwCl ([] : va_W) H := hP
  have hD : va_D A ([] : va_W) := hD
  have hp_4 : r_1 = bI (decide ((nI 0) ≤ (nI t_) ∧ (nI t_) ≤ (nI 63))) := hq_4
  clear hq_4
  obtain rfl := hp_4
  refine xc_v (xr_S (As := [.int (bI (decide ((nI 0) ≤ (nI t_) ∧ (nI t_) ≤ (nI 63))))]) (rest := []) (mt_X1_needArgument_ok l D ca (decide ((nI 0) ≤ (nI t_) ∧ (nI t_) ≤ (nI 63))) (in_ok (by omega) (by decide)) H.size) ⟨hx, hb, hml, hown, hts⟩ (va_cwS 1 hts (lw_S q1045 q1046 q79 q1047) rfl rfl rfl (by decide +kernel) ⟨Nat.le_of_ble_eq_true rfl, Nat.le_of_ble_eq_true rfl⟩) Ev0_ok hE hK hS (Cut.app (wc := []) (wr := ([] : va_W)) hP hD hS hA) rfl hl.1 rfl (Nat.le_of_ble_eq_true rfl) dX1_needTest_7 ⟨Nat.le_of_ble_eq_true rfl, Nat.le_of_ble_eq_true rfl⟩) hS (Cut.app (wc := []) (wr := ([] : va_W)) hP hD hS hA) (fun u_4 H locs hq_7 hP hD hS => ?_)
  have hP : va_P D vwCl ([] : va_W) H := hP
  have hD : va_D A ([] : va_W) := hD
  subst hQQ
  exact xe_v () hx hb hr hlocks hK hP hD hS (trivial) dX1_needTest_10
set_option maxHeartbeats 4000000 in
set_option maxRecDepth 100000 in
theorem mt_X1_testsFor_ok (l : Launch) (D : va_G) (ca : Nat → ClassId) (cq : Nat → Nat) (xq : Nat → Nat) (ak : Nat → Int32) (tb_ : Nat → Int64) (va : Nat → Int32) (fy : Nat → Int64) (cn : Nat → Int32) (an : Nat → Int32) (sw : Nat → Int64) (sb : Nat → Int64) (sv : Value) (C : Nat → Nat) (F_ : Nat) (h0 : C 0 ≤ 12) (hkd0 : ∀ k, k < 12 → C (1 + k) < 8) (hse : ∀ k, k < 12 → C (13 + k) < 6 + k ∧ C (25 + k) < 6 + k) (ho : C 37 < 2 ^ 18) (hbx : C 38 < 2 ^ 18) (hno : popc 18 (C 37) ≤ 4) (hF0 : F_ ≠ 0) (hF : F_ ≤ 2 * (6 + C 0)) (nn : Nat) : Met l yX1_testsFor (ws_ yX1_testsFor cX1_testsFor 2 (Option.some Jvm.ClassFile.FieldType.long)) ({ frames := 4, cells := 0, slots := 0, locals := 95 } : Room) (va_Pc [.ref (xq 0), .int (fI F_)] (PreW EvX D vwCl (TY ca) (WT ca cq xq (kdC C) (fsC C) (snC C) ak (nI (C 0)) (nI (C 37)) (nI (C 38)) (fI (C 39)) (nI (C 40)) (lN (C 66)) (nI (C 41)) tb_ va fy cn an sw sb sv) nn)) (va_Ql (fun (r_ : Int64) (u_ : (Nat → Int64) × (Nat → Int64)) => r_ = apC C F_ 0) (PostW D vwCl (TY ca) (fun (u_ : (Nat → Int64) × (Nat → Int64)) => (WT ca cq xq (kdC C) (fsC C) (snC C) ak (nI (C 0)) (nI (C 37)) (nI (C 38)) (fI (C 39)) (nI (C 40)) (lN (C 66)) (nI (C 41)) u_.1 va u_.2 cn an sw sb sv)) (va_A (WT ca cq xq (kdC C) (fsC C) (snC C) ak (nI (C 0)) (nI (C 37)) (nI (C 38)) (fI (C 39)) (nI (C 40)) (lN (C 66)) (nI (C 41)) tb_ va fy cn an sw sb sv) nn)) (va_A (WT ca cq xq (kdC C) (fsC C) (snC C) ak (nI (C 0)) (nI (C 37)) (nI (C 38)) (fI (C 39)) (nI (C 40)) (lN (C 66)) (nI (C 41)) tb_ va fy cn an sw sb sv) nn)) 0 0 (va_A (WT ca cq xq (kdC C) (fsC C) (snC C) ak (nI (C 0)) (nI (C 37)) (nI (C 38)) (fI (C 39)) (nI (C 40)) (lN (C 66)) (nI (C 41)) tb_ va fy cn an sw sb sv) nn) := by
  refine met_go (QA := fun A => va_Ql (fun (r_ : Int64) (u_ : (Nat → Int64) × (Nat → Int64)) => r_ = apC C F_ 0) (PostW D vwCl (TY ca) (fun (u_ : (Nat → Int64) × (Nat → Int64)) => (WT ca cq xq (kdC C) (fsC C) (snC C) ak (nI (C 0)) (nI (C 37)) (nI (C 38)) (fI (C 39)) (nI (C 40)) (lN (C 66)) (nI (C 41)) u_.1 va u_.2 cn an sw sb sv)) A) A) (by decide) (Nat.le_of_ble_eq_true rfl) (fun p e s m below meth c A ls QQ hQQ hx hb hr hts hown hlocks hml hA hP hK hD hE hl => ?_)
  have hown : s.vm.findClass RX1 = some m.cls := hown
  have hS : va_S A s.heap s.heap [] := va_S.rf
  have hl : lv_has ls 2 [(0, .ref (xq 0)), (1, .int (fI F_))] := hl
  generalize hHe : s.heap = H at hP ⊢
  have hS : va_S A s.heap H [] := hHe ▸ hS
  generalize ([] : List Loc) = locs at hS ⊢
  refine lv_aload_n hx hb dX1_testsFor_0 rfl (lv_at hl 0 rfl) ?_
  refine lv_iload_n hx hb dX1_testsFor_1 rfl (lv_at hl 1 rfl) ?_
  refine xc_v (xr_V (b := xq 0) (ci := 0) (q0 := 5) (As := [.int (fI F_)]) (rest := []) (mt_X1_needFault_ok l D ca cq xq ak tb_ va fy cn an sw sb sv C F_ (by first | assumption | omega | (simp only [updN, forgetC, changedC]; (repeat' split) <;> omega)) (by first | assumption | omega | (simp only [updN, forgetC, changedC]; (repeat' split) <;> omega)) (by first | assumption | omega | (simp only [updN, forgetC, changedC]; (repeat' split) <;> omega)) H.size) ⟨hx, hb, hml, hown, hts⟩ (cwV 1 hts (lw_V q1040 q1042 qs21 q79 q1043) rfl rfl rfl (by decide +kernel) ⟨Nat.le_of_ble_eq_true rfl, Nat.le_of_ble_eq_true rfl⟩) EvX_ok hE hK hS (Cut.all hP hD hS hA) rfl rfl rfl hl.1 rfl (Nat.le_of_ble_eq_true rfl) dX1_testsFor_2 ⟨Nat.le_of_ble_eq_true rfl, Nat.le_of_ble_eq_true rfl⟩) hS (Cut.all hP hD hS hA) (fun u_2 H locs hq_2 hP hD hS => ?_)
  have hP : va_P D vwCl (WT ca cq xq (kdC C) (fsC C) (snC C) ak (nI (C 0)) (nI (C 37)) (nI (C 38)) (fI (C 39)) (nI (C 40)) (lN (C 66)) (nI (C 41)) tb_ va fy cn an sw sb sv) H := hP
  have hD : va_D A (WT ca cq xq (kdC C) (fsC C) (snC C) ak (nI (C 0)) (nI (C 37)) (nI (C 38)) (fI (C 39)) (nI (C 40)) (lN (C 66)) (nI (C 41)) tb_ va fy cn an sw sb sv) := hD
  refine lv_aload_n hx hb dX1_testsFor_5 rfl (lv_at hl 0 rfl) ?_
  refine lv_iload_n hx hb dX1_testsFor_6 rfl (lv_at hl 1 rfl) ?_
  refine lv_iconst (v := fI 0) hx hb dX1_testsFor_7 (by decide) ?_
  refine xc_l (xr_V (b := xq 0) (ci := 0) (q0 := 5) (As := [.int (fI F_), .int (fI 0)]) (rest := []) (mt_X1_testsBy l D ca cq xq ak tb_ va fy cn an sw sb sv C F_ 0 (by first | assumption | omega | (simp only [updN, forgetC, changedC]; (repeat' split) <;> omega)) (by first | assumption | omega | (simp only [updN, forgetC, changedC]; (repeat' split) <;> omega)) (by first | assumption | omega | (simp only [updN, forgetC, changedC]; (repeat' split) <;> omega)) (by first | assumption | omega | (simp only [updN, forgetC, changedC]; (repeat' split) <;> omega)) (by first | assumption | omega | (simp only [updN, forgetC, changedC]; (repeat' split) <;> omega)) (by first | assumption | omega | (simp only [updN, forgetC, changedC]; (repeat' split) <;> omega)) (by first | assumption | omega | (simp only [updN, forgetC, changedC]; (repeat' split) <;> omega)) (by first | assumption | omega | (simp only [updN, forgetC, changedC]; (repeat' split) <;> omega)) H.size) ⟨hx, hb, hml, hown, hts⟩ (cwV 2 hts (lw_V q447 q449 qs7 q79 q450) rfl rfl rfl (by decide +kernel) ⟨Nat.le_of_ble_eq_true rfl, Nat.le_of_ble_eq_true rfl⟩) EvX_ok hE hK hS (Cut.all hP hD hS hA) rfl rfl rfl hl.1 rfl (Nat.le_of_ble_eq_true rfl) dX1_testsFor_8 ⟨Nat.le_of_ble_eq_true rfl, Nat.le_of_ble_eq_true rfl⟩) hS (Cut.all hP hD hS hA) (fun r_3 u_4 H locs hq_8 hP hD hS => ?_)
  obtain ⟨tb1_5, fy1_6⟩ := u_4
  have hP : va_P D vwCl (WT ca cq xq (kdC C) (fsC C) (snC C) ak (nI (C 0)) (nI (C 37)) (nI (C 38)) (fI (C 39)) (nI (C 40)) (lN (C 66)) (nI (C 41)) tb1_5 va fy1_6 cn an sw sb sv) H := hP
  have hD : va_D A (WT ca cq xq (kdC C) (fsC C) (snC C) ak (nI (C 0)) (nI (C 37)) (nI (C 38)) (fI (C 39)) (nI (C 40)) (lN (C 66)) (nI (C 41)) tb1_5 va fy1_6 cn an sw sb sv) := hD
  have hp_8 : r_3 = apC C F_ 0 := hq_8
  clear hq_8
  obtain rfl := hp_8
  subst hQQ
  exact xe_l (v := apC C F_ 0) (tb1_5, fy1_6) hx hb hr hlocks hK hP hD hS (rfl) dX1_testsFor_11
set_option maxHeartbeats 4000000 in
set_option maxRecDepth 100000 in
theorem mt_X1_testsBetween_ok (l : Launch) (D : va_G) (ca : Nat → ClassId) (cq : Nat → Nat) (xq : Nat → Nat) (ak : Nat → Int32) (tb_ : Nat → Int64) (va : Nat → Int32) (fy : Nat → Int64) (cn : Nat → Int32) (an : Nat → Int32) (sw : Nat → Int64) (sb : Nat → Int64) (sv : Value) (C : Nat → Nat) (F_ : Nat) (G_ : Nat) (h0 : C 0 ≤ 12) (hkd0 : ∀ k, k < 12 → C (1 + k) < 8) (hse : ∀ k, k < 12 → C (13 + k) < 6 + k ∧ C (25 + k) < 6 + k) (ho : C 37 < 2 ^ 18) (hbx : C 38 < 2 ^ 18) (hno : popc 18 (C 37) ≤ 4) (hF0 : F_ ≠ 0) (hF : F_ ≤ 2 * (6 + C 0)) (hG0 : G_ ≠ 0) (hG : G_ ≤ 2 * (6 + C 0)) (nn : Nat) : Met l yX1_testsBetween (ws_ yX1_testsBetween cX1_testsBetween 3 (Option.some Jvm.ClassFile.FieldType.long)) ({ frames := 4, cells := 0, slots := 0, locals := 95 } : Room) (va_Pc [.ref (xq 0), .int (fI F_), .int (fI G_)] (PreW EvX D vwCl (TY ca) (WT ca cq xq (kdC C) (fsC C) (snC C) ak (nI (C 0)) (nI (C 37)) (nI (C 38)) (fI (C 39)) (nI (C 40)) (lN (C 66)) (nI (C 41)) tb_ va fy cn an sw sb sv) nn)) (va_Ql (fun (r_ : Int64) (u_ : (Nat → Int64) × (Nat → Int64)) => r_ = apC C F_ G_) (PostW D vwCl (TY ca) (fun (u_ : (Nat → Int64) × (Nat → Int64)) => (WT ca cq xq (kdC C) (fsC C) (snC C) ak (nI (C 0)) (nI (C 37)) (nI (C 38)) (fI (C 39)) (nI (C 40)) (lN (C 66)) (nI (C 41)) u_.1 va u_.2 cn an sw sb sv)) (va_A (WT ca cq xq (kdC C) (fsC C) (snC C) ak (nI (C 0)) (nI (C 37)) (nI (C 38)) (fI (C 39)) (nI (C 40)) (lN (C 66)) (nI (C 41)) tb_ va fy cn an sw sb sv) nn)) (va_A (WT ca cq xq (kdC C) (fsC C) (snC C) ak (nI (C 0)) (nI (C 37)) (nI (C 38)) (fI (C 39)) (nI (C 40)) (lN (C 66)) (nI (C 41)) tb_ va fy cn an sw sb sv) nn)) 0 0 (va_A (WT ca cq xq (kdC C) (fsC C) (snC C) ak (nI (C 0)) (nI (C 37)) (nI (C 38)) (fI (C 39)) (nI (C 40)) (lN (C 66)) (nI (C 41)) tb_ va fy cn an sw sb sv) nn) := by
  refine met_go (QA := fun A => va_Ql (fun (r_ : Int64) (u_ : (Nat → Int64) × (Nat → Int64)) => r_ = apC C F_ G_) (PostW D vwCl (TY ca) (fun (u_ : (Nat → Int64) × (Nat → Int64)) => (WT ca cq xq (kdC C) (fsC C) (snC C) ak (nI (C 0)) (nI (C 37)) (nI (C 38)) (fI (C 39)) (nI (C 40)) (lN (C 66)) (nI (C 41)) u_.1 va u_.2 cn an sw sb sv)) A) A) (by decide) (Nat.le_of_ble_eq_true rfl) (fun p e s m below meth c A ls QQ hQQ hx hb hr hts hown hlocks hml hA hP hK hD hE hl => ?_)
  have hown : s.vm.findClass RX1 = some m.cls := hown
  have hS : va_S A s.heap s.heap [] := va_S.rf
  have hl : lv_has ls 3 [(0, .ref (xq 0)), (1, .int (fI F_)), (2, .int (fI G_))] := hl
  generalize hHe : s.heap = H at hP ⊢
  have hS : va_S A s.heap H [] := hHe ▸ hS
  generalize ([] : List Loc) = locs at hS ⊢
  refine lv_aload_n hx hb dX1_testsBetween_0 rfl (lv_at hl 0 rfl) ?_
  refine lv_iload_n hx hb dX1_testsBetween_1 rfl (lv_at hl 1 rfl) ?_
  refine xc_v (xr_V (b := xq 0) (ci := 0) (q0 := 5) (As := [.int (fI F_)]) (rest := []) (mt_X1_needFault_ok l D ca cq xq ak tb_ va fy cn an sw sb sv C F_ (by first | assumption | omega | (simp only [updN, forgetC, changedC]; (repeat' split) <;> omega)) (by first | assumption | omega | (simp only [updN, forgetC, changedC]; (repeat' split) <;> omega)) (by first | assumption | omega | (simp only [updN, forgetC, changedC]; (repeat' split) <;> omega)) H.size) ⟨hx, hb, hml, hown, hts⟩ (cwV 1 hts (lw_V q1040 q1042 qs21 q79 q1043) rfl rfl rfl (by decide +kernel) ⟨Nat.le_of_ble_eq_true rfl, Nat.le_of_ble_eq_true rfl⟩) EvX_ok hE hK hS (Cut.all hP hD hS hA) rfl rfl rfl hl.1 rfl (Nat.le_of_ble_eq_true rfl) dX1_testsBetween_2 ⟨Nat.le_of_ble_eq_true rfl, Nat.le_of_ble_eq_true rfl⟩) hS (Cut.all hP hD hS hA) (fun u_2 H locs hq_2 hP hD hS => ?_)
  have hP : va_P D vwCl (WT ca cq xq (kdC C) (fsC C) (snC C) ak (nI (C 0)) (nI (C 37)) (nI (C 38)) (fI (C 39)) (nI (C 40)) (lN (C 66)) (nI (C 41)) tb_ va fy cn an sw sb sv) H := hP
  have hD : va_D A (WT ca cq xq (kdC C) (fsC C) (snC C) ak (nI (C 0)) (nI (C 37)) (nI (C 38)) (fI (C 39)) (nI (C 40)) (lN (C 66)) (nI (C 41)) tb_ va fy cn an sw sb sv) := hD
  refine lv_aload_n hx hb dX1_testsBetween_5 rfl (lv_at hl 0 rfl) ?_
  refine lv_iload_n hx hb dX1_testsBetween_6 rfl (lv_at hl 2 rfl) ?_
  refine xc_v (xr_V (b := xq 0) (ci := 0) (q0 := 5) (As := [.int (fI G_)]) (rest := []) (mt_X1_needFault_ok l D ca cq xq ak tb_ va fy cn an sw sb sv C G_ (by first | assumption | omega | (simp only [updN, forgetC, changedC]; (repeat' split) <;> omega)) (by first | assumption | omega | (simp only [updN, forgetC, changedC]; (repeat' split) <;> omega)) (by first | assumption | omega | (simp only [updN, forgetC, changedC]; (repeat' split) <;> omega)) H.size) ⟨hx, hb, hml, hown, hts⟩ (cwV 1 hts (lw_V q1040 q1042 qs21 q79 q1043) rfl rfl rfl (by decide +kernel) ⟨Nat.le_of_ble_eq_true rfl, Nat.le_of_ble_eq_true rfl⟩) EvX_ok hE hK hS (Cut.all hP hD hS hA) rfl rfl rfl hl.1 rfl (Nat.le_of_ble_eq_true rfl) dX1_testsBetween_7 ⟨Nat.le_of_ble_eq_true rfl, Nat.le_of_ble_eq_true rfl⟩) hS (Cut.all hP hD hS hA) (fun u_4 H locs hq_7 hP hD hS => ?_)
  have hP : va_P D vwCl (WT ca cq xq (kdC C) (fsC C) (snC C) ak (nI (C 0)) (nI (C 37)) (nI (C 38)) (fI (C 39)) (nI (C 40)) (lN (C 66)) (nI (C 41)) tb_ va fy cn an sw sb sv) H := hP
  have hD : va_D A (WT ca cq xq (kdC C) (fsC C) (snC C) ak (nI (C 0)) (nI (C 37)) (nI (C 38)) (fI (C 39)) (nI (C 40)) (lN (C 66)) (nI (C 41)) tb_ va fy cn an sw sb sv) := hD
  refine lv_aload_n hx hb dX1_testsBetween_10 rfl (lv_at hl 0 rfl) ?_
  refine lv_iload_n hx hb dX1_testsBetween_11 rfl (lv_at hl 1 rfl) ?_
  refine lv_iload_n hx hb dX1_testsBetween_12 rfl (lv_at hl 2 rfl) ?_
  refine xc_l (xr_V (b := xq 0) (ci := 0) (q0 := 5) (As := [.int (fI F_), .int (fI G_)]) (rest := []) (mt_X1_testsBy l D ca cq xq ak tb_ va fy cn an sw sb sv C F_ G_ (by first | assumption | omega | (simp only [updN, forgetC, changedC]; (repeat' split) <;> omega)) (by first | assumption | omega | (simp only [updN, forgetC, changedC]; (repeat' split) <;> omega)) (by first | assumption | omega | (simp only [updN, forgetC, changedC]; (repeat' split) <;> omega)) (by first | assumption | omega | (simp only [updN, forgetC, changedC]; (repeat' split) <;> omega)) (by first | assumption | omega | (simp only [updN, forgetC, changedC]; (repeat' split) <;> omega)) (by first | assumption | omega | (simp only [updN, forgetC, changedC]; (repeat' split) <;> omega)) (by first | assumption | omega | (simp only [updN, forgetC, changedC]; (repeat' split) <;> omega)) (by first | assumption | omega | (simp only [updN, forgetC, changedC]; (repeat' split) <;> omega)) H.size) ⟨hx, hb, hml, hown, hts⟩ (cwV 2 hts (lw_V q447 q449 qs7 q79 q450) rfl rfl rfl (by decide +kernel) ⟨Nat.le_of_ble_eq_true rfl, Nat.le_of_ble_eq_true rfl⟩) EvX_ok hE hK hS (Cut.all hP hD hS hA) rfl rfl rfl hl.1 rfl (Nat.le_of_ble_eq_true rfl) dX1_testsBetween_13 ⟨Nat.le_of_ble_eq_true rfl, Nat.le_of_ble_eq_true rfl⟩) hS (Cut.all hP hD hS hA) (fun r_5 u_6 H locs hq_13 hP hD hS => ?_)
  obtain ⟨tb1_7, fy1_8⟩ := u_6
  have hP : va_P D vwCl (WT ca cq xq (kdC C) (fsC C) (snC C) ak (nI (C 0)) (nI (C 37)) (nI (C 38)) (fI (C 39)) (nI (C 40)) (lN (C 66)) (nI (C 41)) tb1_7 va fy1_8 cn an sw sb sv) H := hP
  have hD : va_D A (WT ca cq xq (kdC C) (fsC C) (snC C) ak (nI (C 0)) (nI (C 37)) (nI (C 38)) (fI (C 39)) (nI (C 40)) (lN (C 66)) (nI (C 41)) tb1_7 va fy1_8 cn an sw sb sv) := hD
  have hp_13 : r_5 = apC C F_ G_ := hq_13
  clear hq_13
  obtain rfl := hp_13
  subst hQQ
  exact xe_l (v := apC C F_ G_) (tb1_7, fy1_8) hx hb hr hlocks hK hP hD hS (rfl) dX1_testsBetween_16
set_option maxHeartbeats 4000000 in
set_option maxRecDepth 100000 in
theorem mt_X1_alike_ok (l : Launch) (D : va_G) (ca : Nat → ClassId) (cq : Nat → Nat) (xq : Nat → Nat) (ak : Nat → Int32) (tb_ : Nat → Int64) (va : Nat → Int32) (fy : Nat → Int64) (cn : Nat → Int32) (an : Nat → Int32) (sw : Nat → Int64) (sb : Nat → Int64) (sv : Value) (C : Nat → Nat) (F_ : Nat) (h0 : C 0 ≤ 12) (hkd0 : ∀ k, k < 12 → C (1 + k) < 8) (hse : ∀ k, k < 12 → C (13 + k) < 6 + k ∧ C (25 + k) < 6 + k) (ho : C 37 < 2 ^ 18) (hbx : C 38 < 2 ^ 18) (hno : popc 18 (C 37) ≤ 4) (hF0 : F_ ≠ 0) (hF : F_ ≤ 2 * (6 + C 0)) (nn : Nat) : Met l yX1_alike (ws_ yX1_alike cX1_alike 5 (Option.some Jvm.ClassFile.FieldType.long)) ({ frames := 4, cells := 0, slots := 0, locals := 95 } : Room) (va_Pc [.ref (xq 0), .int (fI F_)] (PreW EvX D vwCl (TY ca) (WT ca cq xq (kdC C) (fsC C) (snC C) ak (nI (C 0)) (nI (C 37)) (nI (C 38)) (fI (C 39)) (nI (C 40)) (lN (C 66)) (nI (C 41)) tb_ va fy cn an sw sb sv) nn)) (va_Ql (fun (r_ : Int64) (u_ : (Nat → Int64) × (Nat → Int64)) => r_ = lN (alk C F_ (2 * (6 + C 0)))) (PostW D vwCl (TY ca) (fun (u_ : (Nat → Int64) × (Nat → Int64)) => (WT ca cq xq (kdC C) (fsC C) (snC C) ak (nI (C 0)) (nI (C 37)) (nI (C 38)) (fI (C 39)) (nI (C 40)) (lN (C 66)) (nI (C 41)) u_.1 va u_.2 cn an sw sb sv)) (va_A (WT ca cq xq (kdC C) (fsC C) (snC C) ak (nI (C 0)) (nI (C 37)) (nI (C 38)) (fI (C 39)) (nI (C 40)) (lN (C 66)) (nI (C 41)) tb_ va fy cn an sw sb sv) nn)) (va_A (WT ca cq xq (kdC C) (fsC C) (snC C) ak (nI (C 0)) (nI (C 37)) (nI (C 38)) (fI (C 39)) (nI (C 40)) (lN (C 66)) (nI (C 41)) tb_ va fy cn an sw sb sv) nn)) 0 0 (va_A (WT ca cq xq (kdC C) (fsC C) (snC C) ak (nI (C 0)) (nI (C 37)) (nI (C 38)) (fI (C 39)) (nI (C 40)) (lN (C 66)) (nI (C 41)) tb_ va fy cn an sw sb sv) nn) := by
  refine met_go (QA := fun A => va_Ql (fun (r_ : Int64) (u_ : (Nat → Int64) × (Nat → Int64)) => r_ = lN (alk C F_ (2 * (6 + C 0)))) (PostW D vwCl (TY ca) (fun (u_ : (Nat → Int64) × (Nat → Int64)) => (WT ca cq xq (kdC C) (fsC C) (snC C) ak (nI (C 0)) (nI (C 37)) (nI (C 38)) (fI (C 39)) (nI (C 40)) (lN (C 66)) (nI (C 41)) u_.1 va u_.2 cn an sw sb sv)) A) A) (by decide) (Nat.le_of_ble_eq_true rfl) (fun p e s m below meth c A ls QQ hQQ hx hb hr hts hown hlocks hml hA hP hK hD hE hl => ?_)
  have hown : s.vm.findClass RX1 = some m.cls := hown
  have hS : va_S A s.heap s.heap [] := va_S.rf
  have hl : lv_has ls 5 [(0, .ref (xq 0)), (1, .int (fI F_))] := hl
  generalize hHe : s.heap = H at hP ⊢
  have hS : va_S A s.heap H [] := hHe ▸ hS
  generalize ([] : List Loc) = locs at hS ⊢
  refine lv_aload_n hx hb dX1_alike_0 rfl (lv_at hl 0 rfl) ?_
  refine lv_iload_n hx hb dX1_alike_1 rfl (lv_at hl 1 rfl) ?_
  refine xc_v (xr_V (b := xq 0) (ci := 0) (q0 := 5) (As := [.int (fI F_)]) (rest := []) (mt_X1_needFault_ok l D ca cq xq ak tb_ va fy cn an sw sb sv C F_ (by first | assumption | omega | (simp only [updN, forgetC, changedC]; (repeat' split) <;> omega)) (by first | assumption | omega | (simp only [updN, forgetC, changedC]; (repeat' split) <;> omega)) (by first | assumption | omega | (simp only [updN, forgetC, changedC]; (repeat' split) <;> omega)) H.size) ⟨hx, hb, hml, hown, hts⟩ (cwV 1 hts (lw_V q1040 q1042 qs21 q79 q1043) rfl rfl rfl (by decide +kernel) ⟨Nat.le_of_ble_eq_true rfl, Nat.le_of_ble_eq_true rfl⟩) EvX_ok hE hK hS (Cut.all hP hD hS hA) rfl rfl rfl hl.1 rfl (Nat.le_of_ble_eq_true rfl) dX1_alike_2 ⟨Nat.le_of_ble_eq_true rfl, Nat.le_of_ble_eq_true rfl⟩) hS (Cut.all hP hD hS hA) (fun u_2 H locs hq_2 hP hD hS => ?_)
  have hP : va_P D vwCl (WT ca cq xq (kdC C) (fsC C) (snC C) ak (nI (C 0)) (nI (C 37)) (nI (C 38)) (fI (C 39)) (nI (C 40)) (lN (C 66)) (nI (C 41)) tb_ va fy cn an sw sb sv) H := hP
  have hD : va_D A (WT ca cq xq (kdC C) (fsC C) (snC C) ak (nI (C 0)) (nI (C 37)) (nI (C 38)) (fI (C 39)) (nI (C 40)) (lN (C 66)) (nI (C 41)) tb_ va fy cn an sw sb sv) := hD
  refine lv_lconst (v := lN 0) hx hb dX1_alike_5 (by decide) ?_
  refine lv_lstore_n (lv' := [(2, .long (lN 0)), (0, .ref (xq 0)), (1, .int (fI F_))]) hx hb dX1_alike_6 rfl hl (by decide) rfl (fun ls hl => ?_)
  refine lv_iconst (v := nI 0) hx hb dX1_alike_7 (by decide) ?_
  refine lv_istore (lv' := [(4, .int (nI 0)), (2, .long (lN 0)), (0, .ref (xq 0)), (1, .int (fI F_))]) hx hb dX1_alike_8 hl (by decide) rfl (fun ls hl => ?_)
  have lp_10 : ∀ (fu_10 : Nat) (i : Nat) (t_ : Nat → Int64) (y_ : Nat → Int64), 2 * (6 + C 0) - i < fu_10 → (i ≤ 2 * (6 + C 0)) → ∀ (H : Heap) (locs : List Loc), va_P D vwCl (WT ca cq xq (kdC C) (fsC C) (snC C) ak (nI (C 0)) (nI (C 37)) (nI (C 38)) (fI (C 39)) (nI (C 40)) (lN (C 66)) (nI (C 41)) t_ va y_ cn an sw sb sv) H → va_D A (WT ca cq xq (kdC C) (fsC C) (snC C) ak (nI (C 0)) (nI (C 37)) (nI (C 38)) (fI (C 39)) (nI (C 40)) (lN (C 66)) (nI (C 41)) t_ va y_ cn an sw sb sv) → va_S A s.heap H locs → ∀ (ls : Array Slot), lv_has ls 5 [(4, .int (nI i)), (2, .long (lN (alk C F_ i))), (0, .ref (xq 0)), (1, .int (fI F_))] → W p l e ({ frames := 4, cells := 0, slots := 0, locals := 95 } : Room) s m ([.ref (xq 0), .int (fI F_)] : List Value).toArray below meth c H locs 0 0 QQ (F0 m 10 ls []) := by
    intro fu_10
    induction fu_10 with
    | zero => intro i t_ y_ hfu; exact absurd hfu (Nat.not_lt_zero _)
    | succ fu_10 ih_10 =>
      intro i t_ y_ hfu hi H locs hP hD hS ls hl
      refine lv_iload hx hb dX1_alike_10 (lv_at hl 0 rfl) ?_
      refine lv_aload_n hx hb dX1_alike_12 rfl (lv_at hl 2 rfl) ?_
      refine gWT_5_circuit_X1 hx hb hts hown hK hP dX1_alike_13 ?_
      refine xc_i (xr_V (b := cq 0) (ci := 1) (q0 := 0) (As := []) (rest := [.int (nI i)]) (mt_X2_faults l D ca cq (kdC C) (fsC C) (snC C) ak (nI (C 37)) (nI (C 38)) (fI (C 39)) (nI (C 40)) (lN (C 66)) (nI (C 41)) (C 0)  H.size) ⟨hx, hb, hml, hown, hts⟩ (cwV 0 hts (lw_V q439 q440 q441 q80 q442) rfl rfl rfl (by decide +kernel) ⟨Nat.le_of_ble_eq_true rfl, Nat.le_of_ble_eq_true rfl⟩) EvX_ok hE hK hS (Cut.app (wc := (WC ca cq (kdC C) (fsC C) (snC C) ak (nI (C 0)) (nI (C 37)) (nI (C 38)) (fI (C 39)) (nI (C 40)) (lN (C 66)) (nI (C 41)))) (wr := (WTr ca cq xq t_ va y_ cn an sw sb sv)) hP hD hS hA) rfl rfl rfl hl.1 rfl (Nat.le_of_ble_eq_true rfl) dX1_alike_16 ⟨Nat.le_of_ble_eq_true rfl, Nat.le_of_ble_eq_true rfl⟩) hS (Cut.app (wc := (WC ca cq (kdC C) (fsC C) (snC C) ak (nI (C 0)) (nI (C 37)) (nI (C 38)) (fI (C 39)) (nI (C 40)) (lN (C 66)) (nI (C 41)))) (wr := (WTr ca cq xq t_ va y_ cn an sw sb sv)) hP hD hS hA) (fun r_3 u_4 H locs hq_16 hP hD hS => ?_)
      have hP : va_P D vwCl (WT ca cq xq (kdC C) (fsC C) (snC C) ak (nI (C 0)) (nI (C 37)) (nI (C 38)) (fI (C 39)) (nI (C 40)) (lN (C 66)) (nI (C 41)) t_ va y_ cn an sw sb sv) H := hP
      have hD : va_D A (WT ca cq xq (kdC C) (fsC C) (snC C) ak (nI (C 0)) (nI (C 37)) (nI (C 38)) (fI (C 39)) (nI (C 40)) (lN (C 66)) (nI (C 41)) t_ va y_ cn an sw sb sv) := hD
      have hp_16 : r_3 = nI (2 * (6 + (C 0))) := hq_16
      clear hq_16
      obtain rfl := hp_16
      refine nv_icmp_ge (tgt := 51) hx hb dX1_alike_19 (by decide) (by omega) (by omega) (fun c_19 => ?_) (fun c_19 => ?_)
      · skip
        have e_ : 2 * (6 + C 0) = i := Eq.symm (by omega)
        subst e_
        refine lv_lload_n hx hb dX1_alike_51 rfl (lv_at hl 1 rfl) ?_
        subst hQQ
        exact xe_l (v := lN (alk C F_ (2 * (6 + C 0)))) (t_, y_) hx hb hr hlocks hK hP hD hS (rfl) dX1_alike_52
      · skip
        refine lv_lload_n hx hb dX1_alike_22 rfl (lv_at hl 1 rfl) ?_
        refine lv_aload_n hx hb dX1_alike_23 rfl (lv_at hl 2 rfl) ?_
        refine lv_iload_n hx hb dX1_alike_24 rfl (lv_at hl 3 rfl) ?_
        refine lv_iload hx hb dX1_alike_25 (lv_at hl 0 rfl) ?_
        refine lv_topi (nm_r (e' := fI (i + 1)) (fI_S i) ?_)
        refine xc_l (xr_V (b := xq 0) (ci := 0) (q0 := 5) (As := [.int (fI F_), .int (fI (i + 1))]) (rest := [.long (lN (alk C F_ i))]) (mt_X1_testsBy l D ca cq xq ak t_ va y_ cn an sw sb sv C F_ (i + 1) (by first | assumption | omega | (simp only [updN, forgetC, changedC]; (repeat' split) <;> omega)) (by first | assumption | omega | (simp only [updN, forgetC, changedC]; (repeat' split) <;> omega)) (by first | assumption | omega | (simp only [updN, forgetC, changedC]; (repeat' split) <;> omega)) (by first | assumption | omega | (simp only [updN, forgetC, changedC]; (repeat' split) <;> omega)) (by first | assumption | omega | (simp only [updN, forgetC, changedC]; (repeat' split) <;> omega)) (by first | assumption | omega | (simp only [updN, forgetC, changedC]; (repeat' split) <;> omega)) (by first | assumption | omega | (simp only [updN, forgetC, changedC]; (repeat' split) <;> omega)) (by first | assumption | omega | (simp only [updN, forgetC, changedC]; (repeat' split) <;> omega)) H.size) ⟨hx, hb, hml, hown, hts⟩ (cwV 2 hts (lw_V q447 q449 qs7 q79 q450) rfl rfl rfl (by decide +kernel) ⟨Nat.le_of_ble_eq_true rfl, Nat.le_of_ble_eq_true rfl⟩) EvX_ok hE hK hS (Cut.all hP hD hS hA) rfl rfl rfl hl.1 rfl (Nat.le_of_ble_eq_true rfl) dX1_alike_27 ⟨Nat.le_of_ble_eq_true rfl, Nat.le_of_ble_eq_true rfl⟩) hS (Cut.all hP hD hS hA) (fun r_6 u_7 H locs hq_27 hP hD hS => ?_)
        obtain ⟨tb1_8, fy1_9⟩ := u_7
        have hP : va_P D vwCl (WT ca cq xq (kdC C) (fsC C) (snC C) ak (nI (C 0)) (nI (C 37)) (nI (C 38)) (fI (C 39)) (nI (C 40)) (lN (C 66)) (nI (C 41)) tb1_8 va fy1_9 cn an sw sb sv) H := hP
        have hD : va_D A (WT ca cq xq (kdC C) (fsC C) (snC C) ak (nI (C 0)) (nI (C 37)) (nI (C 38)) (fI (C 39)) (nI (C 40)) (lN (C 66)) (nI (C 41)) tb1_8 va fy1_9 cn an sw sb sv) := hD
        have hp_27 : r_6 = apC C F_ (i + 1) := hq_27
        clear hq_27
        obtain rfl := hp_27
        refine lv_lconst (v := lN 0) hx hb dX1_alike_30 (by decide) ?_
        refine nv_lcmp_ne (tgt := 42) hx hb dX1_alike_31 dX1_alike_32 (by decide) (fun c_31 => ?_) (fun c_31 => ?_)
        · skip
          refine lv_lconst (v := lN 0) hx hb dX1_alike_42 (by decide) ?_
          refine lv_lor hx hb dX1_alike_43 ?_
          refine lv_lstore_n (lv' := [(2, .long ((lN (alk C F_ i)) ||| (lN 0))), (4, .int (nI i)), (0, .ref (xq 0)), (1, .int (fI F_))]) hx hb dX1_alike_44 rfl hl (by decide) rfl (fun ls hl => ?_)
          refine lv_iinc (v := nI (i + 1)) (lv' := [(4, .int (nI (i + 1))), (2, .long ((lN (alk C F_ i)) ||| (lN 0))), (0, .ref (xq 0)), (1, .int (fI F_))]) hx hb dX1_alike_45 hl (k := 1) rfl (nI_add i 1) (by decide) rfl (fun ls hl => ?_)
          refine lv_goto (tgt := 10) hx hb dX1_alike_48 (by decide) ?_
          have hl : lv_has ls 5 [(4, .int (nI (i + 1))), (2, .long (lN (alk C F_ (i + 1)))), (0, .ref (xq 0)), (1, .int (fI F_))] := (congrArg (fun x_ => lv_has ls 5 [(4, .int (nI (i + 1))), (2, .long x_), (0, .ref (xq 0)), (1, .int (fI F_))]) (show (lN (alk C F_ i)) ||| (lN 0) = lN (alk C F_ (i + 1)) from by rw [lN_or]; simp only [alk]; rw [if_neg (fun h_ => c_31 (apC_c.trans h_))])).mp hl
          exact ih_10  (i + 1) tb1_8 fy1_9 (by omega) (by omega) _ _ hP hD hS ls (lv_sub hl [0, 1, 2, 3] rfl)
        · skip
          refine lv_lconst (v := lN 1) hx hb dX1_alike_35 (by decide) ?_
          refine lv_iload hx hb dX1_alike_36 (lv_at hl 0 rfl) ?_
          refine lv_lshl (v := shl64 (lN 1) i) hx hb dX1_alike_38 rfl ?_
          refine lv_goto (tgt := 43) hx hb dX1_alike_39 (by decide) ?_
          refine lv_lor hx hb dX1_alike_43 ?_
          refine lv_lstore_n (lv' := [(2, .long ((lN (alk C F_ i)) ||| (shl64 (lN 1) i))), (4, .int (nI i)), (0, .ref (xq 0)), (1, .int (fI F_))]) hx hb dX1_alike_44 rfl hl (by decide) rfl (fun ls hl => ?_)
          refine lv_iinc (v := nI (i + 1)) (lv' := [(4, .int (nI (i + 1))), (2, .long ((lN (alk C F_ i)) ||| (shl64 (lN 1) i))), (0, .ref (xq 0)), (1, .int (fI F_))]) hx hb dX1_alike_45 hl (k := 1) rfl (nI_add i 1) (by decide) rfl (fun ls hl => ?_)
          refine lv_goto (tgt := 10) hx hb dX1_alike_48 (by decide) ?_
          have hl : lv_has ls 5 [(4, .int (nI (i + 1))), (2, .long (lN (alk C F_ (i + 1)))), (0, .ref (xq 0)), (1, .int (fI F_))] := (congrArg (fun x_ => lv_has ls 5 [(4, .int (nI (i + 1))), (2, .long x_), (0, .ref (xq 0)), (1, .int (fI F_))]) (show (lN (alk C F_ i)) ||| (shl64 (lN 1) i) = lN (alk C F_ (i + 1)) from by rw [shl_lN (by omega), lN_or]; simp only [alk]; rw [if_pos (apC_c.trans c_31)])).mp hl
          exact ih_10  (i + 1) tb1_8 fy1_9 (by omega) (by omega) _ _ hP hD hS ls (lv_sub hl [0, 1, 2, 3] rfl)
  exact lp_10 (2 * (6 + C 0) - 0 + 1) 0 tb_ fy (Nat.lt_succ_self _) (by omega) _ _ hP hD hS ls (lv_sub hl [0, 1, 2, 3] rfl)
set_option maxHeartbeats 4000000 in
set_option maxRecDepth 100000 in
theorem mt_X1_gates (l : Launch) (D : va_G) (ca : Nat → ClassId) (cq : Nat → Nat) (xq : Nat → Nat) (ak : Nat → Int32) (tb_ : Nat → Int64) (va : Nat → Int32) (fy : Nat → Int64) (cn : Nat → Int32) (an : Nat → Int32) (sw : Nat → Int64) (sb : Nat → Int64) (sv : Value) (C : Nat → Nat)  (nn : Nat) : Met l yX1_gates (ws_ yX1_gates cX1_gates 1 (Option.some Jvm.ClassFile.FieldType.int)) ({ frames := 0, cells := 0, slots := 0, locals := 0 } : Room) (va_Pc [.ref (xq 0)] (PreW EvX D vwCl (TY ca) (WT ca cq xq (kdC C) (fsC C) (snC C) ak (nI (C 0)) (nI (C 37)) (nI (C 38)) (fI (C 39)) (nI (C 40)) (lN (C 66)) (nI (C 41)) tb_ va fy cn an sw sb sv) nn)) (va_Qi (fun (r_ : Int32) (_ : Unit) => r_ = nI (C 0)) (PostW D vwCl (TY ca) (fun (_ : Unit) => (WT ca cq xq (kdC C) (fsC C) (snC C) ak (nI (C 0)) (nI (C 37)) (nI (C 38)) (fI (C 39)) (nI (C 40)) (lN (C 66)) (nI (C 41)) tb_ va fy cn an sw sb sv)) (va_A (WT ca cq xq (kdC C) (fsC C) (snC C) ak (nI (C 0)) (nI (C 37)) (nI (C 38)) (fI (C 39)) (nI (C 40)) (lN (C 66)) (nI (C 41)) tb_ va fy cn an sw sb sv) nn)) (va_A (WT ca cq xq (kdC C) (fsC C) (snC C) ak (nI (C 0)) (nI (C 37)) (nI (C 38)) (fI (C 39)) (nI (C 40)) (lN (C 66)) (nI (C 41)) tb_ va fy cn an sw sb sv) nn)) 0 0 (va_A (WT ca cq xq (kdC C) (fsC C) (snC C) ak (nI (C 0)) (nI (C 37)) (nI (C 38)) (fI (C 39)) (nI (C 40)) (lN (C 66)) (nI (C 41)) tb_ va fy cn an sw sb sv) nn) := by
  refine met_go (QA := fun A => va_Qi (fun (r_ : Int32) (_ : Unit) => r_ = nI (C 0)) (PostW D vwCl (TY ca) (fun (_ : Unit) => (WT ca cq xq (kdC C) (fsC C) (snC C) ak (nI (C 0)) (nI (C 37)) (nI (C 38)) (fI (C 39)) (nI (C 40)) (lN (C 66)) (nI (C 41)) tb_ va fy cn an sw sb sv)) A) A) (by decide) (Nat.le_of_ble_eq_true rfl) (fun p e s m below meth c A ls QQ hQQ hx hb hr hts hown hlocks hml hA hP hK hD hE hl => ?_)
  have hown : s.vm.findClass RX1 = some m.cls := hown
  have hS : va_S A s.heap s.heap [] := va_S.rf
  have hl : lv_has ls 1 [(0, .ref (xq 0))] := hl
  generalize hHe : s.heap = H at hP ⊢
  have hS : va_S A s.heap H [] := hHe ▸ hS
  generalize ([] : List Loc) = locs at hS ⊢
  refine lv_aload_n hx hb dX1_gates_0 rfl (lv_at hl 0 rfl) ?_
  refine gWT_5_circuit_X1 hx hb hts hown hK hP dX1_gates_1 ?_
  refine gWT_0_gates_X1 hE hx hb hts hown hK hP dX1_gates_4 ?_
  subst hQQ
  exact xe_i (v := nI (C 0)) () hx hb hr hlocks hK hP hD hS (rfl) dX1_gates_7
set_option maxHeartbeats 4000000 in
set_option maxRecDepth 100000 in
theorem mt_X1_outputs (l : Launch) (D : va_G) (ca : Nat → ClassId) (cq : Nat → Nat) (xq : Nat → Nat) (ak : Nat → Int32) (tb_ : Nat → Int64) (va : Nat → Int32) (fy : Nat → Int64) (cn : Nat → Int32) (an : Nat → Int32) (sw : Nat → Int64) (sb : Nat → Int64) (sv : Value) (C : Nat → Nat)  (nn : Nat) : Met l yX1_outputs (ws_ yX1_outputs cX1_outputs 1 (Option.some Jvm.ClassFile.FieldType.int)) ({ frames := 0, cells := 0, slots := 0, locals := 0 } : Room) (va_Pc [.ref (xq 0)] (PreW EvX D vwCl (TY ca) (WT ca cq xq (kdC C) (fsC C) (snC C) ak (nI (C 0)) (nI (C 37)) (nI (C 38)) (fI (C 39)) (nI (C 40)) (lN (C 66)) (nI (C 41)) tb_ va fy cn an sw sb sv) nn)) (va_Qi (fun (r_ : Int32) (_ : Unit) => r_ = nI (C 37)) (PostW D vwCl (TY ca) (fun (_ : Unit) => (WT ca cq xq (kdC C) (fsC C) (snC C) ak (nI (C 0)) (nI (C 37)) (nI (C 38)) (fI (C 39)) (nI (C 40)) (lN (C 66)) (nI (C 41)) tb_ va fy cn an sw sb sv)) (va_A (WT ca cq xq (kdC C) (fsC C) (snC C) ak (nI (C 0)) (nI (C 37)) (nI (C 38)) (fI (C 39)) (nI (C 40)) (lN (C 66)) (nI (C 41)) tb_ va fy cn an sw sb sv) nn)) (va_A (WT ca cq xq (kdC C) (fsC C) (snC C) ak (nI (C 0)) (nI (C 37)) (nI (C 38)) (fI (C 39)) (nI (C 40)) (lN (C 66)) (nI (C 41)) tb_ va fy cn an sw sb sv) nn)) 0 0 (va_A (WT ca cq xq (kdC C) (fsC C) (snC C) ak (nI (C 0)) (nI (C 37)) (nI (C 38)) (fI (C 39)) (nI (C 40)) (lN (C 66)) (nI (C 41)) tb_ va fy cn an sw sb sv) nn) := by
  refine met_go (QA := fun A => va_Qi (fun (r_ : Int32) (_ : Unit) => r_ = nI (C 37)) (PostW D vwCl (TY ca) (fun (_ : Unit) => (WT ca cq xq (kdC C) (fsC C) (snC C) ak (nI (C 0)) (nI (C 37)) (nI (C 38)) (fI (C 39)) (nI (C 40)) (lN (C 66)) (nI (C 41)) tb_ va fy cn an sw sb sv)) A) A) (by decide) (Nat.le_of_ble_eq_true rfl) (fun p e s m below meth c A ls QQ hQQ hx hb hr hts hown hlocks hml hA hP hK hD hE hl => ?_)
  have hown : s.vm.findClass RX1 = some m.cls := hown
  have hS : va_S A s.heap s.heap [] := va_S.rf
  have hl : lv_has ls 1 [(0, .ref (xq 0))] := hl
  generalize hHe : s.heap = H at hP ⊢
  have hS : va_S A s.heap H [] := hHe ▸ hS
  generalize ([] : List Loc) = locs at hS ⊢
  refine lv_aload_n hx hb dX1_outputs_0 rfl (lv_at hl 0 rfl) ?_
  refine gWT_5_circuit_X1 hx hb hts hown hK hP dX1_outputs_1 ?_
  refine gWT_0_outputs_X1 hE hx hb hts hown hK hP dX1_outputs_4 ?_
  subst hQQ
  exact xe_i (v := nI (C 37)) () hx hb hr hlocks hK hP hD hS (rfl) dX1_outputs_7
set_option maxHeartbeats 4000000 in
set_option maxRecDepth 100000 in
theorem mt_X1_boxes (l : Launch) (D : va_G) (ca : Nat → ClassId) (cq : Nat → Nat) (xq : Nat → Nat) (ak : Nat → Int32) (tb_ : Nat → Int64) (va : Nat → Int32) (fy : Nat → Int64) (cn : Nat → Int32) (an : Nat → Int32) (sw : Nat → Int64) (sb : Nat → Int64) (sv : Value) (C : Nat → Nat)  (nn : Nat) : Met l yX1_boxes (ws_ yX1_boxes cX1_boxes 1 (Option.some Jvm.ClassFile.FieldType.int)) ({ frames := 0, cells := 0, slots := 0, locals := 0 } : Room) (va_Pc [.ref (xq 0)] (PreW EvX D vwCl (TY ca) (WT ca cq xq (kdC C) (fsC C) (snC C) ak (nI (C 0)) (nI (C 37)) (nI (C 38)) (fI (C 39)) (nI (C 40)) (lN (C 66)) (nI (C 41)) tb_ va fy cn an sw sb sv) nn)) (va_Qi (fun (r_ : Int32) (_ : Unit) => r_ = nI (C 38)) (PostW D vwCl (TY ca) (fun (_ : Unit) => (WT ca cq xq (kdC C) (fsC C) (snC C) ak (nI (C 0)) (nI (C 37)) (nI (C 38)) (fI (C 39)) (nI (C 40)) (lN (C 66)) (nI (C 41)) tb_ va fy cn an sw sb sv)) (va_A (WT ca cq xq (kdC C) (fsC C) (snC C) ak (nI (C 0)) (nI (C 37)) (nI (C 38)) (fI (C 39)) (nI (C 40)) (lN (C 66)) (nI (C 41)) tb_ va fy cn an sw sb sv) nn)) (va_A (WT ca cq xq (kdC C) (fsC C) (snC C) ak (nI (C 0)) (nI (C 37)) (nI (C 38)) (fI (C 39)) (nI (C 40)) (lN (C 66)) (nI (C 41)) tb_ va fy cn an sw sb sv) nn)) 0 0 (va_A (WT ca cq xq (kdC C) (fsC C) (snC C) ak (nI (C 0)) (nI (C 37)) (nI (C 38)) (fI (C 39)) (nI (C 40)) (lN (C 66)) (nI (C 41)) tb_ va fy cn an sw sb sv) nn) := by
  refine met_go (QA := fun A => va_Qi (fun (r_ : Int32) (_ : Unit) => r_ = nI (C 38)) (PostW D vwCl (TY ca) (fun (_ : Unit) => (WT ca cq xq (kdC C) (fsC C) (snC C) ak (nI (C 0)) (nI (C 37)) (nI (C 38)) (fI (C 39)) (nI (C 40)) (lN (C 66)) (nI (C 41)) tb_ va fy cn an sw sb sv)) A) A) (by decide) (Nat.le_of_ble_eq_true rfl) (fun p e s m below meth c A ls QQ hQQ hx hb hr hts hown hlocks hml hA hP hK hD hE hl => ?_)
  have hown : s.vm.findClass RX1 = some m.cls := hown
  have hS : va_S A s.heap s.heap [] := va_S.rf
  have hl : lv_has ls 1 [(0, .ref (xq 0))] := hl
  generalize hHe : s.heap = H at hP ⊢
  have hS : va_S A s.heap H [] := hHe ▸ hS
  generalize ([] : List Loc) = locs at hS ⊢
  refine lv_aload_n hx hb dX1_boxes_0 rfl (lv_at hl 0 rfl) ?_
  refine gWT_5_circuit_X1 hx hb hts hown hK hP dX1_boxes_1 ?_
  refine gWT_0_boxes_X1 hE hx hb hts hown hK hP dX1_boxes_4 ?_
  subst hQQ
  exact xe_i (v := nI (C 38)) () hx hb hr hlocks hK hP hD hS (rfl) dX1_boxes_7
set_option maxHeartbeats 4000000 in
set_option maxRecDepth 100000 in
theorem mt_X1_asked (l : Launch) (D : va_G) (ca : Nat → ClassId) (cq : Nat → Nat) (xq : Nat → Nat) (ak : Nat → Int32) (tb_ : Nat → Int64) (va : Nat → Int32) (fy : Nat → Int64) (cn : Nat → Int32) (an : Nat → Int32) (sw : Nat → Int64) (sb : Nat → Int64) (sv : Value) (C : Nat → Nat)  (nn : Nat) : Met l yX1_asked (ws_ yX1_asked cX1_asked 1 (Option.some Jvm.ClassFile.FieldType.int)) ({ frames := 0, cells := 0, slots := 0, locals := 0 } : Room) (va_Pc [.ref (xq 0)] (PreW EvX D vwCl (TY ca) (WT ca cq xq (kdC C) (fsC C) (snC C) ak (nI (C 0)) (nI (C 37)) (nI (C 38)) (fI (C 39)) (nI (C 40)) (lN (C 66)) (nI (C 41)) tb_ va fy cn an sw sb sv) nn)) (va_Qi (fun (r_ : Int32) (_ : Unit) => r_ = nI (C 41)) (PostW D vwCl (TY ca) (fun (_ : Unit) => (WT ca cq xq (kdC C) (fsC C) (snC C) ak (nI (C 0)) (nI (C 37)) (nI (C 38)) (fI (C 39)) (nI (C 40)) (lN (C 66)) (nI (C 41)) tb_ va fy cn an sw sb sv)) (va_A (WT ca cq xq (kdC C) (fsC C) (snC C) ak (nI (C 0)) (nI (C 37)) (nI (C 38)) (fI (C 39)) (nI (C 40)) (lN (C 66)) (nI (C 41)) tb_ va fy cn an sw sb sv) nn)) (va_A (WT ca cq xq (kdC C) (fsC C) (snC C) ak (nI (C 0)) (nI (C 37)) (nI (C 38)) (fI (C 39)) (nI (C 40)) (lN (C 66)) (nI (C 41)) tb_ va fy cn an sw sb sv) nn)) 0 0 (va_A (WT ca cq xq (kdC C) (fsC C) (snC C) ak (nI (C 0)) (nI (C 37)) (nI (C 38)) (fI (C 39)) (nI (C 40)) (lN (C 66)) (nI (C 41)) tb_ va fy cn an sw sb sv) nn) := by
  refine met_go (QA := fun A => va_Qi (fun (r_ : Int32) (_ : Unit) => r_ = nI (C 41)) (PostW D vwCl (TY ca) (fun (_ : Unit) => (WT ca cq xq (kdC C) (fsC C) (snC C) ak (nI (C 0)) (nI (C 37)) (nI (C 38)) (fI (C 39)) (nI (C 40)) (lN (C 66)) (nI (C 41)) tb_ va fy cn an sw sb sv)) A) A) (by decide) (Nat.le_of_ble_eq_true rfl) (fun p e s m below meth c A ls QQ hQQ hx hb hr hts hown hlocks hml hA hP hK hD hE hl => ?_)
  have hown : s.vm.findClass RX1 = some m.cls := hown
  have hS : va_S A s.heap s.heap [] := va_S.rf
  have hl : lv_has ls 1 [(0, .ref (xq 0))] := hl
  generalize hHe : s.heap = H at hP ⊢
  have hS : va_S A s.heap H [] := hHe ▸ hS
  generalize ([] : List Loc) = locs at hS ⊢
  refine lv_aload_n hx hb dX1_asked_0 rfl (lv_at hl 0 rfl) ?_
  refine gWT_5_circuit_X1 hx hb hts hown hK hP dX1_asked_1 ?_
  refine gWT_0_asked_X1 hE hx hb hts hown hK hP dX1_asked_4 ?_
  subst hQQ
  exact xe_i (v := nI (C 41)) () hx hb hr hlocks hK hP hD hS (rfl) dX1_asked_7
set_option maxHeartbeats 4000000 in
set_option maxRecDepth 100000 in
theorem mt_X1_secret (l : Launch) (D : va_G) (ca : Nat → ClassId) (cq : Nat → Nat) (xq : Nat → Nat) (ak : Nat → Int32) (tb_ : Nat → Int64) (va : Nat → Int32) (fy : Nat → Int64) (cn : Nat → Int32) (an : Nat → Int32) (sw : Nat → Int64) (sb : Nat → Int64) (sv : Value) (C : Nat → Nat)  (nn : Nat) : Met l yX1_secret (ws_ yX1_secret cX1_secret 1 (Option.some Jvm.ClassFile.FieldType.int)) ({ frames := 0, cells := 0, slots := 0, locals := 0 } : Room) (va_Pc [.ref (xq 0)] (PreW EvX D vwCl (TY ca) (WT ca cq xq (kdC C) (fsC C) (snC C) ak (nI (C 0)) (nI (C 37)) (nI (C 38)) (fI (C 39)) (nI (C 40)) (lN (C 66)) (nI (C 41)) tb_ va fy cn an sw sb sv) nn)) (va_Qi (fun (r_ : Int32) (_ : Unit) => r_ = fI (C 39)) (PostW D vwCl (TY ca) (fun (_ : Unit) => (WT ca cq xq (kdC C) (fsC C) (snC C) ak (nI (C 0)) (nI (C 37)) (nI (C 38)) (fI (C 39)) (nI (C 40)) (lN (C 66)) (nI (C 41)) tb_ va fy cn an sw sb sv)) (va_A (WT ca cq xq (kdC C) (fsC C) (snC C) ak (nI (C 0)) (nI (C 37)) (nI (C 38)) (fI (C 39)) (nI (C 40)) (lN (C 66)) (nI (C 41)) tb_ va fy cn an sw sb sv) nn)) (va_A (WT ca cq xq (kdC C) (fsC C) (snC C) ak (nI (C 0)) (nI (C 37)) (nI (C 38)) (fI (C 39)) (nI (C 40)) (lN (C 66)) (nI (C 41)) tb_ va fy cn an sw sb sv) nn)) 0 0 (va_A (WT ca cq xq (kdC C) (fsC C) (snC C) ak (nI (C 0)) (nI (C 37)) (nI (C 38)) (fI (C 39)) (nI (C 40)) (lN (C 66)) (nI (C 41)) tb_ va fy cn an sw sb sv) nn) := by
  refine met_go (QA := fun A => va_Qi (fun (r_ : Int32) (_ : Unit) => r_ = fI (C 39)) (PostW D vwCl (TY ca) (fun (_ : Unit) => (WT ca cq xq (kdC C) (fsC C) (snC C) ak (nI (C 0)) (nI (C 37)) (nI (C 38)) (fI (C 39)) (nI (C 40)) (lN (C 66)) (nI (C 41)) tb_ va fy cn an sw sb sv)) A) A) (by decide) (Nat.le_of_ble_eq_true rfl) (fun p e s m below meth c A ls QQ hQQ hx hb hr hts hown hlocks hml hA hP hK hD hE hl => ?_)
  have hown : s.vm.findClass RX1 = some m.cls := hown
  have hS : va_S A s.heap s.heap [] := va_S.rf
  have hl : lv_has ls 1 [(0, .ref (xq 0))] := hl
  generalize hHe : s.heap = H at hP ⊢
  have hS : va_S A s.heap H [] := hHe ▸ hS
  generalize ([] : List Loc) = locs at hS ⊢
  refine lv_aload_n hx hb dX1_secret_0 rfl (lv_at hl 0 rfl) ?_
  refine gWT_5_circuit_X1 hx hb hts hown hK hP dX1_secret_1 ?_
  refine gWT_0_secret_X1 hE hx hb hts hown hK hP dX1_secret_4 ?_
  subst hQQ
  exact xe_i (v := fI (C 39)) () hx hb hr hlocks hK hP hD hS (rfl) dX1_secret_7
set_option maxHeartbeats 4000000 in
set_option maxRecDepth 100000 in
theorem mt_X1_chosen (l : Launch) (D : va_G) (ca : Nat → ClassId) (cq : Nat → Nat) (xq : Nat → Nat) (ak : Nat → Int32) (tb_ : Nat → Int64) (va : Nat → Int32) (fy : Nat → Int64) (cn : Nat → Int32) (an : Nat → Int32) (sw : Nat → Int64) (sb : Nat → Int64) (sv : Value) (C : Nat → Nat)  (nn : Nat) : Met l yX1_chosen (ws_ yX1_chosen cX1_chosen 1 (Option.some Jvm.ClassFile.FieldType.long)) ({ frames := 0, cells := 0, slots := 0, locals := 0 } : Room) (va_Pc [.ref (xq 0)] (PreW EvX D vwCl (TY ca) (WT ca cq xq (kdC C) (fsC C) (snC C) ak (nI (C 0)) (nI (C 37)) (nI (C 38)) (fI (C 39)) (nI (C 40)) (lN (C 66)) (nI (C 41)) tb_ va fy cn an sw sb sv) nn)) (va_Ql (fun (r_ : Int64) (_ : Unit) => r_ = lN (C 66)) (PostW D vwCl (TY ca) (fun (_ : Unit) => (WT ca cq xq (kdC C) (fsC C) (snC C) ak (nI (C 0)) (nI (C 37)) (nI (C 38)) (fI (C 39)) (nI (C 40)) (lN (C 66)) (nI (C 41)) tb_ va fy cn an sw sb sv)) (va_A (WT ca cq xq (kdC C) (fsC C) (snC C) ak (nI (C 0)) (nI (C 37)) (nI (C 38)) (fI (C 39)) (nI (C 40)) (lN (C 66)) (nI (C 41)) tb_ va fy cn an sw sb sv) nn)) (va_A (WT ca cq xq (kdC C) (fsC C) (snC C) ak (nI (C 0)) (nI (C 37)) (nI (C 38)) (fI (C 39)) (nI (C 40)) (lN (C 66)) (nI (C 41)) tb_ va fy cn an sw sb sv) nn)) 0 0 (va_A (WT ca cq xq (kdC C) (fsC C) (snC C) ak (nI (C 0)) (nI (C 37)) (nI (C 38)) (fI (C 39)) (nI (C 40)) (lN (C 66)) (nI (C 41)) tb_ va fy cn an sw sb sv) nn) := by
  refine met_go (QA := fun A => va_Ql (fun (r_ : Int64) (_ : Unit) => r_ = lN (C 66)) (PostW D vwCl (TY ca) (fun (_ : Unit) => (WT ca cq xq (kdC C) (fsC C) (snC C) ak (nI (C 0)) (nI (C 37)) (nI (C 38)) (fI (C 39)) (nI (C 40)) (lN (C 66)) (nI (C 41)) tb_ va fy cn an sw sb sv)) A) A) (by decide) (Nat.le_of_ble_eq_true rfl) (fun p e s m below meth c A ls QQ hQQ hx hb hr hts hown hlocks hml hA hP hK hD hE hl => ?_)
  have hown : s.vm.findClass RX1 = some m.cls := hown
  have hS : va_S A s.heap s.heap [] := va_S.rf
  have hl : lv_has ls 1 [(0, .ref (xq 0))] := hl
  generalize hHe : s.heap = H at hP ⊢
  have hS : va_S A s.heap H [] := hHe ▸ hS
  generalize ([] : List Loc) = locs at hS ⊢
  refine lv_aload_n hx hb dX1_chosen_0 rfl (lv_at hl 0 rfl) ?_
  refine gWT_5_circuit_X1 hx hb hts hown hK hP dX1_chosen_1 ?_
  refine gWT_0_chosen_X1 hE hx hb hts hown hK hP dX1_chosen_4 ?_
  subst hQQ
  exact xe_l (v := lN (C 66)) () hx hb hr hlocks hK hP hD hS (rfl) dX1_chosen_7
set_option maxHeartbeats 4000000 in
set_option maxRecDepth 100000 in
theorem mt_X1_kindOf_ok (l : Launch) (D : va_G) (ca : Nat → ClassId) (cq : Nat → Nat) (xq : Nat → Nat) (ak : Nat → Int32) (tb_ : Nat → Int64) (va : Nat → Int32) (fy : Nat → Int64) (cn : Nat → Int32) (an : Nat → Int32) (sw : Nat → Int64) (sb : Nat → Int64) (sv : Value) (C : Nat → Nat) (g_ : Nat) (h0 : C 0 ≤ 12) (hg : g_ < C 0) (nn : Nat) : Met l yX1_kindOf (ws_ yX1_kindOf cX1_kindOf 2 (Option.some Jvm.ClassFile.FieldType.int)) ({ frames := 2, cells := 0, slots := 0, locals := 43 } : Room) (va_Pc [.ref (xq 0), .int (nI g_)] (PreW EvX D vwCl (TY ca) (WT ca cq xq (kdC C) (fsC C) (snC C) ak (nI (C 0)) (nI (C 37)) (nI (C 38)) (fI (C 39)) (nI (C 40)) (lN (C 66)) (nI (C 41)) tb_ va fy cn an sw sb sv) nn)) (va_Qi (fun (r_ : Int32) (_ : Unit) => r_ = nI (C (1 + g_))) (PostW D vwCl (TY ca) (fun (_ : Unit) => (WT ca cq xq (kdC C) (fsC C) (snC C) ak (nI (C 0)) (nI (C 37)) (nI (C 38)) (fI (C 39)) (nI (C 40)) (lN (C 66)) (nI (C 41)) tb_ va fy cn an sw sb sv)) (va_A (WT ca cq xq (kdC C) (fsC C) (snC C) ak (nI (C 0)) (nI (C 37)) (nI (C 38)) (fI (C 39)) (nI (C 40)) (lN (C 66)) (nI (C 41)) tb_ va fy cn an sw sb sv) nn)) (va_A (WT ca cq xq (kdC C) (fsC C) (snC C) ak (nI (C 0)) (nI (C 37)) (nI (C 38)) (fI (C 39)) (nI (C 40)) (lN (C 66)) (nI (C 41)) tb_ va fy cn an sw sb sv) nn)) 0 0 (va_A (WT ca cq xq (kdC C) (fsC C) (snC C) ak (nI (C 0)) (nI (C 37)) (nI (C 38)) (fI (C 39)) (nI (C 40)) (lN (C 66)) (nI (C 41)) tb_ va fy cn an sw sb sv) nn) := by
  refine met_go (QA := fun A => va_Qi (fun (r_ : Int32) (_ : Unit) => r_ = nI (C (1 + g_))) (PostW D vwCl (TY ca) (fun (_ : Unit) => (WT ca cq xq (kdC C) (fsC C) (snC C) ak (nI (C 0)) (nI (C 37)) (nI (C 38)) (fI (C 39)) (nI (C 40)) (lN (C 66)) (nI (C 41)) tb_ va fy cn an sw sb sv)) A) A) (by decide) (Nat.le_of_ble_eq_true rfl) (fun p e s m below meth c A ls QQ hQQ hx hb hr hts hown hlocks hml hA hP hK hD hE hl => ?_)
  have hown : s.vm.findClass RX1 = some m.cls := hown
  have hS : va_S A s.heap s.heap [] := va_S.rf
  have hl : lv_has ls 2 [(0, .ref (xq 0)), (1, .int (nI g_))] := hl
  generalize hHe : s.heap = H at hP ⊢
  have hS : va_S A s.heap H [] := hHe ▸ hS
  generalize ([] : List Loc) = locs at hS ⊢
  refine lv_aload_n hx hb dX1_kindOf_0 rfl (lv_at hl 0 rfl) ?_
  refine gWT_5_circuit_X1 hx hb hts hown hK hP dX1_kindOf_1 ?_
  refine lv_iload_n hx hb dX1_kindOf_4 rfl (lv_at hl 1 rfl) ?_
  refine xc_i (xr_V (b := cq 0) (ci := 1) (q0 := 0) (As := [.int (nI g_)]) (rest := []) (mt_X2_isGate l D ca cq (kdC C) (fsC C) (snC C) ak (nI (C 37)) (nI (C 38)) (fI (C 39)) (nI (C 40)) (lN (C 66)) (nI (C 41)) (C 0) (nI g_) (by first | assumption | omega | (simp only [updN, forgetC, changedC]; (repeat' split) <;> omega)) H.size) ⟨hx, hb, hml, hown, hts⟩ (cwV 1 hts (lw_V q1470 q1241 q1242 q80 q1243) rfl rfl rfl (by decide +kernel) ⟨Nat.le_of_ble_eq_true rfl, Nat.le_of_ble_eq_true rfl⟩) EvX_ok hE hK hS (Cut.app (wc := (WC ca cq (kdC C) (fsC C) (snC C) ak (nI (C 0)) (nI (C 37)) (nI (C 38)) (fI (C 39)) (nI (C 40)) (lN (C 66)) (nI (C 41)))) (wr := (WTr ca cq xq tb_ va fy cn an sw sb sv)) hP hD hS hA) rfl rfl rfl hl.1 rfl (Nat.le_of_ble_eq_true rfl) dX1_kindOf_5 ⟨Nat.le_of_ble_eq_true rfl, Nat.le_of_ble_eq_true rfl⟩) hS (Cut.app (wc := (WC ca cq (kdC C) (fsC C) (snC C) ak (nI (C 0)) (nI (C 37)) (nI (C 38)) (fI (C 39)) (nI (C 40)) (lN (C 66)) (nI (C 41)))) (wr := (WTr ca cq xq tb_ va fy cn an sw sb sv)) hP hD hS hA) (fun r_1 u_2 H locs hq_5 hP hD hS => ?_)
  have hP : va_P D vwCl (WT ca cq xq (kdC C) (fsC C) (snC C) ak (nI (C 0)) (nI (C 37)) (nI (C 38)) (fI (C 39)) (nI (C 40)) (lN (C 66)) (nI (C 41)) tb_ va fy cn an sw sb sv) H := hP
  have hD : va_D A (WT ca cq xq (kdC C) (fsC C) (snC C) ak (nI (C 0)) (nI (C 37)) (nI (C 38)) (fI (C 39)) (nI (C 40)) (lN (C 66)) (nI (C 41)) tb_ va fy cn an sw sb sv) := hD
  have hp_5 : r_1 = bI (inR (C 0) (nI g_)) := hq_5
  clear hq_5
  obtain rfl := hp_5
  refine xc_v (xr_S (As := [.int (bI (inR (C 0) (nI g_)))]) (rest := []) (mt_X1_needThere_ok l D ca (inR (C 0) (nI g_)) (inR_ok hg (by omega)) H.size) ⟨hx, hb, hml, hown, hts⟩ (va_cwS 1 hts (lw_S q1471 q1179 q79 q1180) rfl rfl rfl (by decide +kernel) ⟨Nat.le_of_ble_eq_true rfl, Nat.le_of_ble_eq_true rfl⟩) Ev0_ok trivial hK hS (Cut.app (wc := []) (wr := (WT ca cq xq (kdC C) (fsC C) (snC C) ak (nI (C 0)) (nI (C 37)) (nI (C 38)) (fI (C 39)) (nI (C 40)) (lN (C 66)) (nI (C 41)) tb_ va fy cn an sw sb sv)) hP hD hS hA) rfl hl.1 rfl (Nat.le_of_ble_eq_true rfl) dX1_kindOf_8 ⟨Nat.le_of_ble_eq_true rfl, Nat.le_of_ble_eq_true rfl⟩) hS (Cut.app (wc := []) (wr := (WT ca cq xq (kdC C) (fsC C) (snC C) ak (nI (C 0)) (nI (C 37)) (nI (C 38)) (fI (C 39)) (nI (C 40)) (lN (C 66)) (nI (C 41)) tb_ va fy cn an sw sb sv)) hP hD hS hA) (fun u_4 H locs hq_8 hP hD hS => ?_)
  have hP : va_P D vwCl (WT ca cq xq (kdC C) (fsC C) (snC C) ak (nI (C 0)) (nI (C 37)) (nI (C 38)) (fI (C 39)) (nI (C 40)) (lN (C 66)) (nI (C 41)) tb_ va fy cn an sw sb sv) H := hP
  have hD : va_D A (WT ca cq xq (kdC C) (fsC C) (snC C) ak (nI (C 0)) (nI (C 37)) (nI (C 38)) (fI (C 39)) (nI (C 40)) (lN (C 66)) (nI (C 41)) tb_ va fy cn an sw sb sv) := hD
  refine lv_aload_n hx hb dX1_kindOf_11 rfl (lv_at hl 0 rfl) ?_
  refine gWT_5_circuit_X1 hx hb hts hown hK hP dX1_kindOf_12 ?_
  refine gWT_0_kinds_X1 hE hx hb hts hown hK hP dX1_kindOf_15 ?_
  refine lv_iload_n hx hb dX1_kindOf_18 rfl (lv_at hl 1 rfl) ?_
  refine ldWT_1 hx hb hK hP (by omega) dX1_kindOf_19 ?_
  refine lv_topi (nm_r (e' := nI (C (1 + g_))) (rfl) ?_)
  subst hQQ
  exact xe_i (v := nI (C (1 + g_))) () hx hb hr hlocks hK hP hD hS (rfl) dX1_kindOf_20
set_option maxHeartbeats 4000000 in
set_option maxRecDepth 100000 in
theorem mt_X1_sourceOf_ok (l : Launch) (D : va_G) (ca : Nat → ClassId) (cq : Nat → Nat) (xq : Nat → Nat) (ak : Nat → Int32) (tb_ : Nat → Int64) (va : Nat → Int32) (fy : Nat → Int64) (cn : Nat → Int32) (an : Nat → Int32) (sw : Nat → Int64) (sb : Nat → Int64) (sv : Value) (C : Nat → Nat) (g_ : Nat) (w_ : Nat) (h0 : C 0 ≤ 12) (hg : g_ < C 0) (hw : w_ < 2) (nn : Nat) : Met l yX1_sourceOf (ws_ yX1_sourceOf cX1_sourceOf 3 (Option.some Jvm.ClassFile.FieldType.int)) ({ frames := 2, cells := 0, slots := 0, locals := 43 } : Room) (va_Pc [.ref (xq 0), .int (nI g_), .int (nI w_)] (PreW EvX D vwCl (TY ca) (WT ca cq xq (kdC C) (fsC C) (snC C) ak (nI (C 0)) (nI (C 37)) (nI (C 38)) (fI (C 39)) (nI (C 40)) (lN (C 66)) (nI (C 41)) tb_ va fy cn an sw sb sv) nn)) (va_Qi (fun (r_ : Int32) (_ : Unit) => r_ = nI (C ((if w_ = 0 then 13 else 25) + g_))) (PostW D vwCl (TY ca) (fun (_ : Unit) => (WT ca cq xq (kdC C) (fsC C) (snC C) ak (nI (C 0)) (nI (C 37)) (nI (C 38)) (fI (C 39)) (nI (C 40)) (lN (C 66)) (nI (C 41)) tb_ va fy cn an sw sb sv)) (va_A (WT ca cq xq (kdC C) (fsC C) (snC C) ak (nI (C 0)) (nI (C 37)) (nI (C 38)) (fI (C 39)) (nI (C 40)) (lN (C 66)) (nI (C 41)) tb_ va fy cn an sw sb sv) nn)) (va_A (WT ca cq xq (kdC C) (fsC C) (snC C) ak (nI (C 0)) (nI (C 37)) (nI (C 38)) (fI (C 39)) (nI (C 40)) (lN (C 66)) (nI (C 41)) tb_ va fy cn an sw sb sv) nn)) 0 0 (va_A (WT ca cq xq (kdC C) (fsC C) (snC C) ak (nI (C 0)) (nI (C 37)) (nI (C 38)) (fI (C 39)) (nI (C 40)) (lN (C 66)) (nI (C 41)) tb_ va fy cn an sw sb sv) nn) := by
  refine met_go (QA := fun A => va_Qi (fun (r_ : Int32) (_ : Unit) => r_ = nI (C ((if w_ = 0 then 13 else 25) + g_))) (PostW D vwCl (TY ca) (fun (_ : Unit) => (WT ca cq xq (kdC C) (fsC C) (snC C) ak (nI (C 0)) (nI (C 37)) (nI (C 38)) (fI (C 39)) (nI (C 40)) (lN (C 66)) (nI (C 41)) tb_ va fy cn an sw sb sv)) A) A) (by decide) (Nat.le_of_ble_eq_true rfl) (fun p e s m below meth c A ls QQ hQQ hx hb hr hts hown hlocks hml hA hP hK hD hE hl => ?_)
  have hown : s.vm.findClass RX1 = some m.cls := hown
  have hS : va_S A s.heap s.heap [] := va_S.rf
  have hl : lv_has ls 3 [(0, .ref (xq 0)), (1, .int (nI g_)), (2, .int (nI w_))] := hl
  generalize hHe : s.heap = H at hP ⊢
  have hS : va_S A s.heap H [] := hHe ▸ hS
  generalize ([] : List Loc) = locs at hS ⊢
  refine lv_aload_n hx hb dX1_sourceOf_0 rfl (lv_at hl 0 rfl) ?_
  refine gWT_5_circuit_X1 hx hb hts hown hK hP dX1_sourceOf_1 ?_
  refine lv_iload_n hx hb dX1_sourceOf_4 rfl (lv_at hl 1 rfl) ?_
  refine xc_i (xr_V (b := cq 0) (ci := 1) (q0 := 0) (As := [.int (nI g_)]) (rest := []) (mt_X2_isGate l D ca cq (kdC C) (fsC C) (snC C) ak (nI (C 37)) (nI (C 38)) (fI (C 39)) (nI (C 40)) (lN (C 66)) (nI (C 41)) (C 0) (nI g_) (by first | assumption | omega | (simp only [updN, forgetC, changedC]; (repeat' split) <;> omega)) H.size) ⟨hx, hb, hml, hown, hts⟩ (cwV 1 hts (lw_V q1470 q1241 q1242 q80 q1243) rfl rfl rfl (by decide +kernel) ⟨Nat.le_of_ble_eq_true rfl, Nat.le_of_ble_eq_true rfl⟩) EvX_ok hE hK hS (Cut.app (wc := (WC ca cq (kdC C) (fsC C) (snC C) ak (nI (C 0)) (nI (C 37)) (nI (C 38)) (fI (C 39)) (nI (C 40)) (lN (C 66)) (nI (C 41)))) (wr := (WTr ca cq xq tb_ va fy cn an sw sb sv)) hP hD hS hA) rfl rfl rfl hl.1 rfl (Nat.le_of_ble_eq_true rfl) dX1_sourceOf_5 ⟨Nat.le_of_ble_eq_true rfl, Nat.le_of_ble_eq_true rfl⟩) hS (Cut.app (wc := (WC ca cq (kdC C) (fsC C) (snC C) ak (nI (C 0)) (nI (C 37)) (nI (C 38)) (fI (C 39)) (nI (C 40)) (lN (C 66)) (nI (C 41)))) (wr := (WTr ca cq xq tb_ va fy cn an sw sb sv)) hP hD hS hA) (fun r_1 u_2 H locs hq_5 hP hD hS => ?_)
  have hP : va_P D vwCl (WT ca cq xq (kdC C) (fsC C) (snC C) ak (nI (C 0)) (nI (C 37)) (nI (C 38)) (fI (C 39)) (nI (C 40)) (lN (C 66)) (nI (C 41)) tb_ va fy cn an sw sb sv) H := hP
  have hD : va_D A (WT ca cq xq (kdC C) (fsC C) (snC C) ak (nI (C 0)) (nI (C 37)) (nI (C 38)) (fI (C 39)) (nI (C 40)) (lN (C 66)) (nI (C 41)) tb_ va fy cn an sw sb sv) := hD
  have hp_5 : r_1 = bI (inR (C 0) (nI g_)) := hq_5
  clear hq_5
  obtain rfl := hp_5
  refine xc_v (xr_S (As := [.int (bI (inR (C 0) (nI g_)))]) (rest := []) (mt_X1_needThere_ok l D ca (inR (C 0) (nI g_)) (inR_ok hg (by omega)) H.size) ⟨hx, hb, hml, hown, hts⟩ (va_cwS 1 hts (lw_S q1471 q1179 q79 q1180) rfl rfl rfl (by decide +kernel) ⟨Nat.le_of_ble_eq_true rfl, Nat.le_of_ble_eq_true rfl⟩) Ev0_ok trivial hK hS (Cut.app (wc := []) (wr := (WT ca cq xq (kdC C) (fsC C) (snC C) ak (nI (C 0)) (nI (C 37)) (nI (C 38)) (fI (C 39)) (nI (C 40)) (lN (C 66)) (nI (C 41)) tb_ va fy cn an sw sb sv)) hP hD hS hA) rfl hl.1 rfl (Nat.le_of_ble_eq_true rfl) dX1_sourceOf_8 ⟨Nat.le_of_ble_eq_true rfl, Nat.le_of_ble_eq_true rfl⟩) hS (Cut.app (wc := []) (wr := (WT ca cq xq (kdC C) (fsC C) (snC C) ak (nI (C 0)) (nI (C 37)) (nI (C 38)) (fI (C 39)) (nI (C 40)) (lN (C 66)) (nI (C 41)) tb_ va fy cn an sw sb sv)) hP hD hS hA) (fun u_4 H locs hq_8 hP hD hS => ?_)
  have hP : va_P D vwCl (WT ca cq xq (kdC C) (fsC C) (snC C) ak (nI (C 0)) (nI (C 37)) (nI (C 38)) (fI (C 39)) (nI (C 40)) (lN (C 66)) (nI (C 41)) tb_ va fy cn an sw sb sv) H := hP
  have hD : va_D A (WT ca cq xq (kdC C) (fsC C) (snC C) ak (nI (C 0)) (nI (C 37)) (nI (C 38)) (fI (C 39)) (nI (C 40)) (lN (C 66)) (nI (C 41)) tb_ va fy cn an sw sb sv) := hD
  refine lv_iload_n hx hb dX1_sourceOf_11 rfl (lv_at hl 2 rfl) ?_
  refine lv_iconst (v := nI 0) hx hb dX1_sourceOf_12 (by decide) ?_
  refine lv_iconst (v := nI 1) hx hb dX1_sourceOf_13 (by decide) ?_
  refine xc_i (xr_S (As := [.int (nI w_), .int (nI 0), .int (nI 1)]) (rest := []) (mt_X1_isWithin l D ca (nI w_) (nI 0) (nI 1)  H.size) ⟨hx, hb, hml, hown, hts⟩ (va_cwS 3 hts (lw_S q1044 q926 q79 q927) rfl rfl rfl (by decide +kernel) ⟨Nat.le_of_ble_eq_true rfl, Nat.le_of_ble_eq_true rfl⟩) Ev0_ok trivial hK hS (Cut.app (wc := []) (wr := (WT ca cq xq (kdC C) (fsC C) (snC C) ak (nI (C 0)) (nI (C 37)) (nI (C 38)) (fI (C 39)) (nI (C 40)) (lN (C 66)) (nI (C 41)) tb_ va fy cn an sw sb sv)) hP hD hS hA) rfl hl.1 rfl (Nat.le_of_ble_eq_true rfl) dX1_sourceOf_14 ⟨Nat.le_of_ble_eq_true rfl, Nat.le_of_ble_eq_true rfl⟩) hS (Cut.app (wc := []) (wr := (WT ca cq xq (kdC C) (fsC C) (snC C) ak (nI (C 0)) (nI (C 37)) (nI (C 38)) (fI (C 39)) (nI (C 40)) (lN (C 66)) (nI (C 41)) tb_ va fy cn an sw sb sv)) hP hD hS hA) (fun r_5 u_6 H locs hq_14 hP hD hS => ?_)
  have hP : va_P D vwCl (WT ca cq xq (kdC C) (fsC C) (snC C) ak (nI (C 0)) (nI (C 37)) (nI (C 38)) (fI (C 39)) (nI (C 40)) (lN (C 66)) (nI (C 41)) tb_ va fy cn an sw sb sv) H := hP
  have hD : va_D A (WT ca cq xq (kdC C) (fsC C) (snC C) ak (nI (C 0)) (nI (C 37)) (nI (C 38)) (fI (C 39)) (nI (C 40)) (lN (C 66)) (nI (C 41)) tb_ va fy cn an sw sb sv) := hD
  have hp_14 : r_5 = bI (decide ((nI 0) ≤ (nI w_) ∧ (nI w_) ≤ (nI 1))) := hq_14
  clear hq_14
  obtain rfl := hp_14
  refine xc_v (xr_S (As := [.int (bI (decide ((nI 0) ≤ (nI w_) ∧ (nI w_) ≤ (nI 1))))]) (rest := []) (mt_X1_needArgument_ok l D ca (decide ((nI 0) ≤ (nI w_) ∧ (nI w_) ≤ (nI 1))) (in_ok (by omega) (by decide)) H.size) ⟨hx, hb, hml, hown, hts⟩ (va_cwS 1 hts (lw_S q1045 q1046 q79 q1047) rfl rfl rfl (by decide +kernel) ⟨Nat.le_of_ble_eq_true rfl, Nat.le_of_ble_eq_true rfl⟩) Ev0_ok trivial hK hS (Cut.app (wc := []) (wr := (WT ca cq xq (kdC C) (fsC C) (snC C) ak (nI (C 0)) (nI (C 37)) (nI (C 38)) (fI (C 39)) (nI (C 40)) (lN (C 66)) (nI (C 41)) tb_ va fy cn an sw sb sv)) hP hD hS hA) rfl hl.1 rfl (Nat.le_of_ble_eq_true rfl) dX1_sourceOf_17 ⟨Nat.le_of_ble_eq_true rfl, Nat.le_of_ble_eq_true rfl⟩) hS (Cut.app (wc := []) (wr := (WT ca cq xq (kdC C) (fsC C) (snC C) ak (nI (C 0)) (nI (C 37)) (nI (C 38)) (fI (C 39)) (nI (C 40)) (lN (C 66)) (nI (C 41)) tb_ va fy cn an sw sb sv)) hP hD hS hA) (fun u_8 H locs hq_17 hP hD hS => ?_)
  have hP : va_P D vwCl (WT ca cq xq (kdC C) (fsC C) (snC C) ak (nI (C 0)) (nI (C 37)) (nI (C 38)) (fI (C 39)) (nI (C 40)) (lN (C 66)) (nI (C 41)) tb_ va fy cn an sw sb sv) H := hP
  have hD : va_D A (WT ca cq xq (kdC C) (fsC C) (snC C) ak (nI (C 0)) (nI (C 37)) (nI (C 38)) (fI (C 39)) (nI (C 40)) (lN (C 66)) (nI (C 41)) tb_ va fy cn an sw sb sv) := hD
  refine lv_iload_n hx hb dX1_sourceOf_20 rfl (lv_at hl 2 rfl) ?_
  refine nv_if_ne (tgt := 36) hx hb dX1_sourceOf_21 (by decide) (by omega) (fun c_21 => ?_) (fun c_21 => ?_)
  · skip
    refine lv_aload_n hx hb dX1_sourceOf_36 rfl (lv_at hl 0 rfl) ?_
    refine gWT_5_circuit_X1 hx hb hts hown hK hP dX1_sourceOf_37 ?_
    refine gWT_0_seconds_X1 hE hx hb hts hown hK hP dX1_sourceOf_40 ?_
    refine lv_iload_n hx hb dX1_sourceOf_43 rfl (lv_at hl 1 rfl) ?_
    refine ldWT_3 hx hb hK hP (by omega) dX1_sourceOf_44 ?_
    refine lv_topi (nm_r (e' := nI (C (25 + g_))) (rfl) ?_)
    subst hQQ
    exact xe_i (v := nI (C (25 + g_))) () hx hb hr hlocks hK hP hD hS (congrArg nI (by rw [if_neg c_21])) dX1_sourceOf_45
  · skip
    refine lv_aload_n hx hb dX1_sourceOf_24 rfl (lv_at hl 0 rfl) ?_
    refine gWT_5_circuit_X1 hx hb hts hown hK hP dX1_sourceOf_25 ?_
    refine gWT_0_firsts_X1 hE hx hb hts hown hK hP dX1_sourceOf_28 ?_
    refine lv_iload_n hx hb dX1_sourceOf_31 rfl (lv_at hl 1 rfl) ?_
    refine ldWT_2 hx hb hK hP (by omega) dX1_sourceOf_32 ?_
    refine lv_topi (nm_r (e' := nI (C (13 + g_))) (rfl) ?_)
    refine lv_goto (tgt := 45) hx hb dX1_sourceOf_33 (by decide) ?_
    subst hQQ
    exact xe_i (v := nI (C (13 + g_))) () hx hb hr hlocks hK hP hD hS (congrArg nI (by rw [if_pos c_21])) dX1_sourceOf_45
