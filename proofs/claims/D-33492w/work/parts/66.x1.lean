/-! the component: what throws -/
set_option maxRecDepth 100000
theorem sec_ge {x : Int32} : fI 0 ≤ x ↔ (x = fI 0 ∨ nI 0 ≤ x) := by
  have h0 : (fI 0).toInt = -1 := by decide
  have h1 : (nI 0).toInt = 0 := rfl
  rw [i32_le, i32_le, h0, h1]
  constructor
  · intro h
    by_cases e : x.toInt = -1
    · exact Or.inl (Int32.toInt_inj.mp (e.trans h0.symm))
    · right; omega
  · rintro (h | h)
    · rw [h, h0]; omega
    · omega
theorem sec_bad {n : Nat} {x : Int32} (hn : n < 2 ^ 31) (h0 : x ≠ fI 0) (hc : inR n x = false) : decide (fI 0 ≤ x ∧ x ≤ nI n - nI 1) = false := by
  rw [← inR_end hn] at hc
  apply decide_eq_false
  intro h
  refine of_decide_eq_false hc ⟨?_, h.2⟩
  rcases sec_ge.mp h.1 with q | q
  · exact absurd q h0
  · exact q
set_option maxHeartbeats 4000000 in
set_option maxRecDepth 100000 in
theorem mt_X2_addGate_thrT (l : Launch) (hlf : l.stackTraces = false) (D : va_G) (ca : Nat → ClassId) (cq : Nat → Nat) (ak : Nat → Int32) (C : Nat → Nat) (kd_ : Int32) (f_ : Int32) (s_ : Int32) (h0 : C 0 ≤ 12) (hc : (inR (6 + C 0) f_ && inR (6 + C 0) s_) = false) (nn : Nat) : vx_Met l yX2_addGate (ws_ yX2_addGate cX2_addGate 4 (Option.some Jvm.ClassFile.FieldType.int)) ({ frames := 9, cells := 1, slots := 6, locals := 220 } : Room) (va_Pc [.ref (cq 0), .int kd_, .int f_, .int s_] (PreW EvY D vwCl (TY ca) (WC ca cq (kdC C) (fsC C) (snC C) ak (nI (C 0)) (nI (C 37)) (nI (C 38)) (fI (C 39)) (nI (C 40)) (lN (C 66)) (nI (C 41))) nn)) (QN (va_A (WC ca cq (kdC C) (fsC C) (snC C) ak (nI (C 0)) (nI (C 37)) (nI (C 38)) (fI (C 39)) (nI (C 40)) (lN (C 66)) (nI (C 41))) nn)) (XT "java/lang/IndexOutOfBoundsException" D vwCl (TY ca) (WC ca cq (kdC C) (fsC C) (snC C) ak (nI (C 0)) (nI (C 37)) (nI (C 38)) (fI (C 39)) (nI (C 40)) (lN (C 66)) (nI (C 41))) (va_A (WC ca cq (kdC C) (fsC C) (snC C) ak (nI (C 0)) (nI (C 37)) (nI (C 38)) (fI (C 39)) (nI (C 40)) (lN (C 66)) (nI (C 41))) nn)) 1 6 (va_A (WC ca cq (kdC C) (fsC C) (snC C) ak (nI (C 0)) (nI (C 37)) (nI (C 38)) (fI (C 39)) (nI (C 40)) (lN (C 66)) (nI (C 41))) nn) := by
  refine met_goX (QA := fun A => QN A) (XA := fun A => XT "java/lang/IndexOutOfBoundsException" D vwCl (TY ca) (WC ca cq (kdC C) (fsC C) (snC C) ak (nI (C 0)) (nI (C 37)) (nI (C 38)) (fI (C 39)) (nI (C 40)) (lN (C 66)) (nI (C 41))) A) (by decide) (Nat.le_of_ble_eq_true rfl) (fun p e s m below meth c A ls QQ hQQ hex hnm hx hb hr hts hown hlocks hml hA hP hK hD hE hl => ?_)
  have hown : s.vm.findClass RX2 = some m.cls := hown
  have hS : va_S A s.heap s.heap [] := va_S.rf
  have hl : lv_has ls 4 [(0, .ref (cq 0)), (1, .int kd_), (2, .int f_), (3, .int s_)] := hl
  generalize hHe : s.heap = H at hP ⊢
  have hS : va_S A s.heap H [] := hHe ▸ hS
  generalize ([] : List Loc) = locs at hS ⊢
  refine lv_aload_n hx hb dX2_addGate_0 rfl (lv_at hl 0 rfl) ?_
  refine lv_iload_n hx hb dX2_addGate_1 rfl (lv_at hl 2 rfl) ?_
  refine xc_i (xr_V (b := cq 0) (ci := 1) (q0 := 0) (As := [.int f_]) (rest := []) (mt_X2_isLine l D ca cq (kdC C) (fsC C) (snC C) ak (nI (C 37)) (nI (C 38)) (fI (C 39)) (nI (C 40)) (lN (C 66)) (nI (C 41)) (C 0) f_ (by first | assumption | omega | (simp only [updN, forgetC, changedC]; (repeat' split) <;> omega)) H.size) ⟨hx, hb, hml, hown, hts⟩ (cwV 1 hts (lw_V q1173 q1174 q1175 q80 q1176) rfl rfl rfl (by decide +kernel) ⟨Nat.le_of_ble_eq_true rfl, Nat.le_of_ble_eq_true rfl⟩) EvX_ok hE.1 hK hS (Cut.all hP hD hS hA) rfl rfl rfl hl.1 rfl (Nat.le_of_ble_eq_true rfl) dX2_addGate_2 ⟨Nat.le_of_ble_eq_true rfl, Nat.le_of_ble_eq_true rfl⟩) hS (Cut.all hP hD hS hA) (fun r_1 u_2 H locs hq_2 hP hD hS => ?_)
  have hP : va_P D vwCl (WC ca cq (kdC C) (fsC C) (snC C) ak (nI (C 0)) (nI (C 37)) (nI (C 38)) (fI (C 39)) (nI (C 40)) (lN (C 66)) (nI (C 41))) H := hP
  have hD : va_D A (WC ca cq (kdC C) (fsC C) (snC C) ak (nI (C 0)) (nI (C 37)) (nI (C 38)) (fI (C 39)) (nI (C 40)) (lN (C 66)) (nI (C 41))) := hD
  have hp_2 : r_1 = bI (inR (6 + (C 0)) f_) := hq_2
  clear hq_2
  obtain rfl := hp_2
  refine nv_ifb_eq (tgt := 20) hx hb dX2_addGate_5 (by decide) (fun c_5 => ?_) (fun c_5 => ?_)
  · skip
    refine lv_iconst (v := nI 0) hx hb dX2_addGate_20 (by decide) ?_
    subst hQQ
    exact xt_out (xt_SN (As := [.int (nI 0)]) (rest := []) (mt_X1_needThere_thr l hlf D ca false rfl H.size) ⟨hx, hb, hml, hown, hts⟩ ⟨va_cnB 1 hts (lw_meth q1180) rfl rfl rfl (hE.1.1 _ q1178 rfl) (hts _ q79) (by decide +kernel) ⟨Nat.le_of_ble_eq_true rfl, Nat.le_of_ble_eq_true rfl⟩, hts _ q1179, trivial⟩ EvY_ok hE hK hS (Cut.app (wc := []) (wr := (WC ca cq (kdC C) (fsC C) (snC C) ak (nI (C 0)) (nI (C 37)) (nI (C 38)) (fI (C 39)) (nI (C 40)) (lN (C 66)) (nI (C 41)))) hP hD hS hA) rfl hl.1 rfl (Nat.le_of_ble_eq_true rfl) dX2_addGate_21 ⟨Nat.le_of_ble_eq_true rfl, Nat.le_of_ble_eq_true rfl⟩) hS (Cut.app (wc := []) (wr := (WC ca cq (kdC C) (fsC C) (snC C) ak (nI (C 0)) (nI (C 37)) (nI (C 38)) (fI (C 39)) (nI (C 40)) (lN (C 66)) (nI (C 41)))) hP hD hS hA) xt_same hex hlocks hK (by decide) (by decide)
  · skip
    refine lv_aload_n hx hb dX2_addGate_8 rfl (lv_at hl 0 rfl) ?_
    refine lv_iload_n hx hb dX2_addGate_9 rfl (lv_at hl 3 rfl) ?_
    refine xc_i (xr_V (b := cq 0) (ci := 1) (q0 := 0) (As := [.int s_]) (rest := []) (mt_X2_isLine l D ca cq (kdC C) (fsC C) (snC C) ak (nI (C 37)) (nI (C 38)) (fI (C 39)) (nI (C 40)) (lN (C 66)) (nI (C 41)) (C 0) s_ (by first | assumption | omega | (simp only [updN, forgetC, changedC]; (repeat' split) <;> omega)) H.size) ⟨hx, hb, hml, hown, hts⟩ (cwV 1 hts (lw_V q1173 q1174 q1175 q80 q1176) rfl rfl rfl (by decide +kernel) ⟨Nat.le_of_ble_eq_true rfl, Nat.le_of_ble_eq_true rfl⟩) EvX_ok hE.1 hK hS (Cut.all hP hD hS hA) rfl rfl rfl hl.1 rfl (Nat.le_of_ble_eq_true rfl) dX2_addGate_10 ⟨Nat.le_of_ble_eq_true rfl, Nat.le_of_ble_eq_true rfl⟩) hS (Cut.all hP hD hS hA) (fun r_4 u_5 H locs hq_10 hP hD hS => ?_)
    have hP : va_P D vwCl (WC ca cq (kdC C) (fsC C) (snC C) ak (nI (C 0)) (nI (C 37)) (nI (C 38)) (fI (C 39)) (nI (C 40)) (lN (C 66)) (nI (C 41))) H := hP
    have hD : va_D A (WC ca cq (kdC C) (fsC C) (snC C) ak (nI (C 0)) (nI (C 37)) (nI (C 38)) (fI (C 39)) (nI (C 40)) (lN (C 66)) (nI (C 41))) := hD
    have hp_10 : r_4 = bI (inR (6 + (C 0)) s_) := hq_10
    clear hq_10
    obtain rfl := hp_10
    refine nv_ifb_eq (tgt := 20) hx hb dX2_addGate_13 (by decide) (fun c_13 => ?_) (fun c_13 => ?_)
    · skip
      refine lv_iconst (v := nI 0) hx hb dX2_addGate_20 (by decide) ?_
      subst hQQ
      exact xt_out (xt_SN (As := [.int (nI 0)]) (rest := []) (mt_X1_needThere_thr l hlf D ca false rfl H.size) ⟨hx, hb, hml, hown, hts⟩ ⟨va_cnB 1 hts (lw_meth q1180) rfl rfl rfl (hE.1.1 _ q1178 rfl) (hts _ q79) (by decide +kernel) ⟨Nat.le_of_ble_eq_true rfl, Nat.le_of_ble_eq_true rfl⟩, hts _ q1179, trivial⟩ EvY_ok hE hK hS (Cut.app (wc := []) (wr := (WC ca cq (kdC C) (fsC C) (snC C) ak (nI (C 0)) (nI (C 37)) (nI (C 38)) (fI (C 39)) (nI (C 40)) (lN (C 66)) (nI (C 41)))) hP hD hS hA) rfl hl.1 rfl (Nat.le_of_ble_eq_true rfl) dX2_addGate_21 ⟨Nat.le_of_ble_eq_true rfl, Nat.le_of_ble_eq_true rfl⟩) hS (Cut.app (wc := []) (wr := (WC ca cq (kdC C) (fsC C) (snC C) ak (nI (C 0)) (nI (C 37)) (nI (C 38)) (fI (C 39)) (nI (C 40)) (lN (C 66)) (nI (C 41)))) hP hD hS hA) xt_same hex hlocks hK (by decide) (by decide)
    · skip
      refine lv_iconst (v := nI 1) hx hb dX2_addGate_16 (by decide) ?_
      refine lv_goto (tgt := 21) hx hb dX2_addGate_17 (by decide) ?_
      exfalso; clear hP hD hS hK hts; simp_all
set_option maxHeartbeats 4000000 in
set_option maxRecDepth 100000 in
theorem mt_X2_addGate_thrA (l : Launch) (hlf : l.stackTraces = false) (D : va_G) (ca : Nat → ClassId) (cq : Nat → Nat) (ak : Nat → Int32) (C : Nat → Nat) (kd_ : Int32) (f_ : Nat) (s_ : Nat) (h0 : C 0 ≤ 12) (hf : f_ < 6 + C 0) (hse : s_ < 6 + C 0) (hc : inR 8 kd_ = false) (nn : Nat) : vx_Met l yX2_addGate (ws_ yX2_addGate cX2_addGate 4 (Option.some Jvm.ClassFile.FieldType.int)) ({ frames := 9, cells := 1, slots := 6, locals := 220 } : Room) (va_Pc [.ref (cq 0), .int kd_, .int (nI f_), .int (nI s_)] (PreW EvY D vwCl (TY ca) (WC ca cq (kdC C) (fsC C) (snC C) ak (nI (C 0)) (nI (C 37)) (nI (C 38)) (fI (C 39)) (nI (C 40)) (lN (C 66)) (nI (C 41))) nn)) (QN (va_A (WC ca cq (kdC C) (fsC C) (snC C) ak (nI (C 0)) (nI (C 37)) (nI (C 38)) (fI (C 39)) (nI (C 40)) (lN (C 66)) (nI (C 41))) nn)) (XT "java/lang/IllegalArgumentException" D vwCl (TY ca) (WC ca cq (kdC C) (fsC C) (snC C) ak (nI (C 0)) (nI (C 37)) (nI (C 38)) (fI (C 39)) (nI (C 40)) (lN (C 66)) (nI (C 41))) (va_A (WC ca cq (kdC C) (fsC C) (snC C) ak (nI (C 0)) (nI (C 37)) (nI (C 38)) (fI (C 39)) (nI (C 40)) (lN (C 66)) (nI (C 41))) nn)) 1 6 (va_A (WC ca cq (kdC C) (fsC C) (snC C) ak (nI (C 0)) (nI (C 37)) (nI (C 38)) (fI (C 39)) (nI (C 40)) (lN (C 66)) (nI (C 41))) nn) := by
  refine met_goX (QA := fun A => QN A) (XA := fun A => XT "java/lang/IllegalArgumentException" D vwCl (TY ca) (WC ca cq (kdC C) (fsC C) (snC C) ak (nI (C 0)) (nI (C 37)) (nI (C 38)) (fI (C 39)) (nI (C 40)) (lN (C 66)) (nI (C 41))) A) (by decide) (Nat.le_of_ble_eq_true rfl) (fun p e s m below meth c A ls QQ hQQ hex hnm hx hb hr hts hown hlocks hml hA hP hK hD hE hl => ?_)
  have hown : s.vm.findClass RX2 = some m.cls := hown
  have hS : va_S A s.heap s.heap [] := va_S.rf
  have hl : lv_has ls 4 [(0, .ref (cq 0)), (1, .int kd_), (2, .int (nI f_)), (3, .int (nI s_))] := hl
  generalize hHe : s.heap = H at hP ⊢
  have hS : va_S A s.heap H [] := hHe ▸ hS
  generalize ([] : List Loc) = locs at hS ⊢
  refine lv_aload_n hx hb dX2_addGate_0 rfl (lv_at hl 0 rfl) ?_
  refine lv_iload_n hx hb dX2_addGate_1 rfl (lv_at hl 2 rfl) ?_
  refine xc_i (xr_V (b := cq 0) (ci := 1) (q0 := 0) (As := [.int (nI f_)]) (rest := []) (mt_X2_isLine l D ca cq (kdC C) (fsC C) (snC C) ak (nI (C 37)) (nI (C 38)) (fI (C 39)) (nI (C 40)) (lN (C 66)) (nI (C 41)) (C 0) (nI f_) (by first | assumption | omega | (simp only [updN, forgetC, changedC]; (repeat' split) <;> omega)) H.size) ⟨hx, hb, hml, hown, hts⟩ (cwV 1 hts (lw_V q1173 q1174 q1175 q80 q1176) rfl rfl rfl (by decide +kernel) ⟨Nat.le_of_ble_eq_true rfl, Nat.le_of_ble_eq_true rfl⟩) EvX_ok hE.1 hK hS (Cut.all hP hD hS hA) rfl rfl rfl hl.1 rfl (Nat.le_of_ble_eq_true rfl) dX2_addGate_2 ⟨Nat.le_of_ble_eq_true rfl, Nat.le_of_ble_eq_true rfl⟩) hS (Cut.all hP hD hS hA) (fun r_1 u_2 H locs hq_2 hP hD hS => ?_)
  have hP : va_P D vwCl (WC ca cq (kdC C) (fsC C) (snC C) ak (nI (C 0)) (nI (C 37)) (nI (C 38)) (fI (C 39)) (nI (C 40)) (lN (C 66)) (nI (C 41))) H := hP
  have hD : va_D A (WC ca cq (kdC C) (fsC C) (snC C) ak (nI (C 0)) (nI (C 37)) (nI (C 38)) (fI (C 39)) (nI (C 40)) (lN (C 66)) (nI (C 41))) := hD
  have hp_2 : r_1 = bI (inR (6 + (C 0)) (nI f_)) := hq_2
  clear hq_2
  obtain rfl := hp_2
  refine nv_ifb_eq (tgt := 20) hx hb dX2_addGate_5 (by decide) (fun c_5 => (absurd c_5 (by rw [inR_ok hf (by omega)]; decide))) (fun c_5 => ?_)
  refine lv_aload_n hx hb dX2_addGate_8 rfl (lv_at hl 0 rfl) ?_
  refine lv_iload_n hx hb dX2_addGate_9 rfl (lv_at hl 3 rfl) ?_
  refine xc_i (xr_V (b := cq 0) (ci := 1) (q0 := 0) (As := [.int (nI s_)]) (rest := []) (mt_X2_isLine l D ca cq (kdC C) (fsC C) (snC C) ak (nI (C 37)) (nI (C 38)) (fI (C 39)) (nI (C 40)) (lN (C 66)) (nI (C 41)) (C 0) (nI s_) (by first | assumption | omega | (simp only [updN, forgetC, changedC]; (repeat' split) <;> omega)) H.size) ⟨hx, hb, hml, hown, hts⟩ (cwV 1 hts (lw_V q1173 q1174 q1175 q80 q1176) rfl rfl rfl (by decide +kernel) ⟨Nat.le_of_ble_eq_true rfl, Nat.le_of_ble_eq_true rfl⟩) EvX_ok hE.1 hK hS (Cut.all hP hD hS hA) rfl rfl rfl hl.1 rfl (Nat.le_of_ble_eq_true rfl) dX2_addGate_10 ⟨Nat.le_of_ble_eq_true rfl, Nat.le_of_ble_eq_true rfl⟩) hS (Cut.all hP hD hS hA) (fun r_3 u_4 H locs hq_10 hP hD hS => ?_)
  have hP : va_P D vwCl (WC ca cq (kdC C) (fsC C) (snC C) ak (nI (C 0)) (nI (C 37)) (nI (C 38)) (fI (C 39)) (nI (C 40)) (lN (C 66)) (nI (C 41))) H := hP
  have hD : va_D A (WC ca cq (kdC C) (fsC C) (snC C) ak (nI (C 0)) (nI (C 37)) (nI (C 38)) (fI (C 39)) (nI (C 40)) (lN (C 66)) (nI (C 41))) := hD
  have hp_10 : r_3 = bI (inR (6 + (C 0)) (nI s_)) := hq_10
  clear hq_10
  obtain rfl := hp_10
  refine nv_ifb_eq (tgt := 20) hx hb dX2_addGate_13 (by decide) (fun c_13 => (absurd c_13 (by rw [inR_ok hse (by omega)]; decide))) (fun c_13 => ?_)
  refine lv_iconst (v := nI 1) hx hb dX2_addGate_16 (by decide) ?_
  refine lv_goto (tgt := 21) hx hb dX2_addGate_17 (by decide) ?_
  refine xc_v (xr_SN (As := [.int (nI 1)]) (rest := []) (mt_X1_needThere_ok l D ca true rfl H.size) ⟨hx, hb, hml, hown, hts⟩ ⟨va_cnB 1 hts (lw_meth q1180) rfl rfl rfl (hE.1.1 _ q1178 rfl) (hts _ q79) (by decide +kernel) ⟨Nat.le_of_ble_eq_true rfl, Nat.le_of_ble_eq_true rfl⟩, hts _ q1179, trivial⟩ Ev0_ok trivial hK hS (Cut.app (wc := []) (wr := (WC ca cq (kdC C) (fsC C) (snC C) ak (nI (C 0)) (nI (C 37)) (nI (C 38)) (fI (C 39)) (nI (C 40)) (lN (C 66)) (nI (C 41)))) hP hD hS hA) rfl hl.1 rfl (Nat.le_of_ble_eq_true rfl) dX2_addGate_21 ⟨Nat.le_of_ble_eq_true rfl, Nat.le_of_ble_eq_true rfl⟩) hS (Cut.app (wc := []) (wr := (WC ca cq (kdC C) (fsC C) (snC C) ak (nI (C 0)) (nI (C 37)) (nI (C 38)) (fI (C 39)) (nI (C 40)) (lN (C 66)) (nI (C 41)))) hP hD hS hA) (fun u_6 H locs hq_21 hP hD hS => ?_)
  have hP : va_P D vwCl (WC ca cq (kdC C) (fsC C) (snC C) ak (nI (C 0)) (nI (C 37)) (nI (C 38)) (fI (C 39)) (nI (C 40)) (lN (C 66)) (nI (C 41))) H := hP
  have hD : va_D A (WC ca cq (kdC C) (fsC C) (snC C) ak (nI (C 0)) (nI (C 37)) (nI (C 38)) (fI (C 39)) (nI (C 40)) (lN (C 66)) (nI (C 41))) := hD
  refine lv_iload_n hx hb dX2_addGate_24 rfl (lv_at hl 1 rfl) ?_
  refine lv_iconst (v := nI 0) hx hb dX2_addGate_25 (by decide) ?_
  refine lv_bipush (v := nI 7) hx hb dX2_addGate_26 (by decide) ?_
  refine xc_i (xr_SN (As := [.int kd_, .int (nI 0), .int (nI 7)]) (rest := []) (mt_X1_isWithin l D ca kd_ (nI 0) (nI 7)  H.size) ⟨hx, hb, hml, hown, hts⟩ ⟨va_cnB 3 hts (lw_meth q927) rfl rfl rfl (hE.1.1 _ q1177 rfl) (hts _ q79) (by decide +kernel) ⟨Nat.le_of_ble_eq_true rfl, Nat.le_of_ble_eq_true rfl⟩, hts _ q926, trivial⟩ Ev0_ok trivial hK hS (Cut.app (wc := []) (wr := (WC ca cq (kdC C) (fsC C) (snC C) ak (nI (C 0)) (nI (C 37)) (nI (C 38)) (fI (C 39)) (nI (C 40)) (lN (C 66)) (nI (C 41)))) hP hD hS hA) rfl hl.1 rfl (Nat.le_of_ble_eq_true rfl) dX2_addGate_28 ⟨Nat.le_of_ble_eq_true rfl, Nat.le_of_ble_eq_true rfl⟩) hS (Cut.app (wc := []) (wr := (WC ca cq (kdC C) (fsC C) (snC C) ak (nI (C 0)) (nI (C 37)) (nI (C 38)) (fI (C 39)) (nI (C 40)) (lN (C 66)) (nI (C 41)))) hP hD hS hA) (fun r_7 u_8 H locs hq_28 hP hD hS => ?_)
  have hP : va_P D vwCl (WC ca cq (kdC C) (fsC C) (snC C) ak (nI (C 0)) (nI (C 37)) (nI (C 38)) (fI (C 39)) (nI (C 40)) (lN (C 66)) (nI (C 41))) H := hP
  have hD : va_D A (WC ca cq (kdC C) (fsC C) (snC C) ak (nI (C 0)) (nI (C 37)) (nI (C 38)) (fI (C 39)) (nI (C 40)) (lN (C 66)) (nI (C 41))) := hD
  have hp_28 : r_7 = bI (decide ((nI 0) ≤ kd_ ∧ kd_ ≤ (nI 7))) := hq_28
  clear hq_28
  obtain rfl := hp_28
  subst hQQ
  exact xt_out (xt_SN (As := [.int (bI (decide ((nI 0) ≤ kd_ ∧ kd_ ≤ (nI 7))))]) (rest := []) (mt_X1_needArgument_thr l hlf D ca (decide ((nI 0) ≤ kd_ ∧ kd_ ≤ (nI 7))) ((inR_lit (by decide)).trans hc) H.size) ⟨hx, hb, hml, hown, hts⟩ ⟨va_cnB 1 hts (lw_meth q1047) rfl rfl rfl (hE.1.1 _ q1194 rfl) (hts _ q79) (by decide +kernel) ⟨Nat.le_of_ble_eq_true rfl, Nat.le_of_ble_eq_true rfl⟩, hts _ q1046, trivial⟩ EvY_ok hE hK hS (Cut.app (wc := []) (wr := (WC ca cq (kdC C) (fsC C) (snC C) ak (nI (C 0)) (nI (C 37)) (nI (C 38)) (fI (C 39)) (nI (C 40)) (lN (C 66)) (nI (C 41)))) hP hD hS hA) rfl hl.1 rfl (Nat.le_of_ble_eq_true rfl) dX2_addGate_31 ⟨Nat.le_of_ble_eq_true rfl, Nat.le_of_ble_eq_true rfl⟩) hS (Cut.app (wc := []) (wr := (WC ca cq (kdC C) (fsC C) (snC C) ak (nI (C 0)) (nI (C 37)) (nI (C 38)) (fI (C 39)) (nI (C 40)) (lN (C 66)) (nI (C 41)))) hP hD hS hA) xt_same hex hlocks hK (by decide) (by decide)
set_option maxHeartbeats 4000000 in
set_option maxRecDepth 100000 in
theorem mt_X2_addGate_thrS (l : Launch) (hlf : l.stackTraces = false) (D : va_G) (ca : Nat → ClassId) (cq : Nat → Nat) (ak : Nat → Int32) (C : Nat → Nat) (kd_ : Nat) (f_ : Nat) (s_ : Nat) (h0 : C 0 ≤ 12) (hf : f_ < 6 + C 0) (hse : s_ < 6 + C 0) (hkd : kd_ < 8) (hc : C 0 = 12) (nn : Nat) : vx_Met l yX2_addGate (ws_ yX2_addGate cX2_addGate 4 (Option.some Jvm.ClassFile.FieldType.int)) ({ frames := 9, cells := 1, slots := 6, locals := 220 } : Room) (va_Pc [.ref (cq 0), .int (nI kd_), .int (nI f_), .int (nI s_)] (PreW EvY D vwCl (TY ca) (WC ca cq (kdC C) (fsC C) (snC C) ak (nI (C 0)) (nI (C 37)) (nI (C 38)) (fI (C 39)) (nI (C 40)) (lN (C 66)) (nI (C 41))) nn)) (QN (va_A (WC ca cq (kdC C) (fsC C) (snC C) ak (nI (C 0)) (nI (C 37)) (nI (C 38)) (fI (C 39)) (nI (C 40)) (lN (C 66)) (nI (C 41))) nn)) (XT "java/lang/IllegalStateException" D vwCl (TY ca) (WC ca cq (kdC C) (fsC C) (snC C) ak (nI (C 0)) (nI (C 37)) (nI (C 38)) (fI (C 39)) (nI (C 40)) (lN (C 66)) (nI (C 41))) (va_A (WC ca cq (kdC C) (fsC C) (snC C) ak (nI (C 0)) (nI (C 37)) (nI (C 38)) (fI (C 39)) (nI (C 40)) (lN (C 66)) (nI (C 41))) nn)) 1 6 (va_A (WC ca cq (kdC C) (fsC C) (snC C) ak (nI (C 0)) (nI (C 37)) (nI (C 38)) (fI (C 39)) (nI (C 40)) (lN (C 66)) (nI (C 41))) nn) := by
  refine met_goX (QA := fun A => QN A) (XA := fun A => XT "java/lang/IllegalStateException" D vwCl (TY ca) (WC ca cq (kdC C) (fsC C) (snC C) ak (nI (C 0)) (nI (C 37)) (nI (C 38)) (fI (C 39)) (nI (C 40)) (lN (C 66)) (nI (C 41))) A) (by decide) (Nat.le_of_ble_eq_true rfl) (fun p e s m below meth c A ls QQ hQQ hex hnm hx hb hr hts hown hlocks hml hA hP hK hD hE hl => ?_)
  have hown : s.vm.findClass RX2 = some m.cls := hown
  have hS : va_S A s.heap s.heap [] := va_S.rf
  have hl : lv_has ls 4 [(0, .ref (cq 0)), (1, .int (nI kd_)), (2, .int (nI f_)), (3, .int (nI s_))] := hl
  generalize hHe : s.heap = H at hP ⊢
  have hS : va_S A s.heap H [] := hHe ▸ hS
  generalize ([] : List Loc) = locs at hS ⊢
  refine lv_aload_n hx hb dX2_addGate_0 rfl (lv_at hl 0 rfl) ?_
  refine lv_iload_n hx hb dX2_addGate_1 rfl (lv_at hl 2 rfl) ?_
  refine xc_i (xr_V (b := cq 0) (ci := 1) (q0 := 0) (As := [.int (nI f_)]) (rest := []) (mt_X2_isLine l D ca cq (kdC C) (fsC C) (snC C) ak (nI (C 37)) (nI (C 38)) (fI (C 39)) (nI (C 40)) (lN (C 66)) (nI (C 41)) (C 0) (nI f_) (by first | assumption | omega | (simp only [updN, forgetC, changedC]; (repeat' split) <;> omega)) H.size) ⟨hx, hb, hml, hown, hts⟩ (cwV 1 hts (lw_V q1173 q1174 q1175 q80 q1176) rfl rfl rfl (by decide +kernel) ⟨Nat.le_of_ble_eq_true rfl, Nat.le_of_ble_eq_true rfl⟩) EvX_ok hE.1 hK hS (Cut.all hP hD hS hA) rfl rfl rfl hl.1 rfl (Nat.le_of_ble_eq_true rfl) dX2_addGate_2 ⟨Nat.le_of_ble_eq_true rfl, Nat.le_of_ble_eq_true rfl⟩) hS (Cut.all hP hD hS hA) (fun r_1 u_2 H locs hq_2 hP hD hS => ?_)
  have hP : va_P D vwCl (WC ca cq (kdC C) (fsC C) (snC C) ak (nI (C 0)) (nI (C 37)) (nI (C 38)) (fI (C 39)) (nI (C 40)) (lN (C 66)) (nI (C 41))) H := hP
  have hD : va_D A (WC ca cq (kdC C) (fsC C) (snC C) ak (nI (C 0)) (nI (C 37)) (nI (C 38)) (fI (C 39)) (nI (C 40)) (lN (C 66)) (nI (C 41))) := hD
  have hp_2 : r_1 = bI (inR (6 + (C 0)) (nI f_)) := hq_2
  clear hq_2
  obtain rfl := hp_2
  refine nv_ifb_eq (tgt := 20) hx hb dX2_addGate_5 (by decide) (fun c_5 => (absurd c_5 (by rw [inR_ok hf (by omega)]; decide))) (fun c_5 => ?_)
  refine lv_aload_n hx hb dX2_addGate_8 rfl (lv_at hl 0 rfl) ?_
  refine lv_iload_n hx hb dX2_addGate_9 rfl (lv_at hl 3 rfl) ?_
  refine xc_i (xr_V (b := cq 0) (ci := 1) (q0 := 0) (As := [.int (nI s_)]) (rest := []) (mt_X2_isLine l D ca cq (kdC C) (fsC C) (snC C) ak (nI (C 37)) (nI (C 38)) (fI (C 39)) (nI (C 40)) (lN (C 66)) (nI (C 41)) (C 0) (nI s_) (by first | assumption | omega | (simp only [updN, forgetC, changedC]; (repeat' split) <;> omega)) H.size) ⟨hx, hb, hml, hown, hts⟩ (cwV 1 hts (lw_V q1173 q1174 q1175 q80 q1176) rfl rfl rfl (by decide +kernel) ⟨Nat.le_of_ble_eq_true rfl, Nat.le_of_ble_eq_true rfl⟩) EvX_ok hE.1 hK hS (Cut.all hP hD hS hA) rfl rfl rfl hl.1 rfl (Nat.le_of_ble_eq_true rfl) dX2_addGate_10 ⟨Nat.le_of_ble_eq_true rfl, Nat.le_of_ble_eq_true rfl⟩) hS (Cut.all hP hD hS hA) (fun r_3 u_4 H locs hq_10 hP hD hS => ?_)
  have hP : va_P D vwCl (WC ca cq (kdC C) (fsC C) (snC C) ak (nI (C 0)) (nI (C 37)) (nI (C 38)) (fI (C 39)) (nI (C 40)) (lN (C 66)) (nI (C 41))) H := hP
  have hD : va_D A (WC ca cq (kdC C) (fsC C) (snC C) ak (nI (C 0)) (nI (C 37)) (nI (C 38)) (fI (C 39)) (nI (C 40)) (lN (C 66)) (nI (C 41))) := hD
  have hp_10 : r_3 = bI (inR (6 + (C 0)) (nI s_)) := hq_10
  clear hq_10
  obtain rfl := hp_10
  refine nv_ifb_eq (tgt := 20) hx hb dX2_addGate_13 (by decide) (fun c_13 => (absurd c_13 (by rw [inR_ok hse (by omega)]; decide))) (fun c_13 => ?_)
  refine lv_iconst (v := nI 1) hx hb dX2_addGate_16 (by decide) ?_
  refine lv_goto (tgt := 21) hx hb dX2_addGate_17 (by decide) ?_
  refine xc_v (xr_SN (As := [.int (nI 1)]) (rest := []) (mt_X1_needThere_ok l D ca true rfl H.size) ⟨hx, hb, hml, hown, hts⟩ ⟨va_cnB 1 hts (lw_meth q1180) rfl rfl rfl (hE.1.1 _ q1178 rfl) (hts _ q79) (by decide +kernel) ⟨Nat.le_of_ble_eq_true rfl, Nat.le_of_ble_eq_true rfl⟩, hts _ q1179, trivial⟩ Ev0_ok trivial hK hS (Cut.app (wc := []) (wr := (WC ca cq (kdC C) (fsC C) (snC C) ak (nI (C 0)) (nI (C 37)) (nI (C 38)) (fI (C 39)) (nI (C 40)) (lN (C 66)) (nI (C 41)))) hP hD hS hA) rfl hl.1 rfl (Nat.le_of_ble_eq_true rfl) dX2_addGate_21 ⟨Nat.le_of_ble_eq_true rfl, Nat.le_of_ble_eq_true rfl⟩) hS (Cut.app (wc := []) (wr := (WC ca cq (kdC C) (fsC C) (snC C) ak (nI (C 0)) (nI (C 37)) (nI (C 38)) (fI (C 39)) (nI (C 40)) (lN (C 66)) (nI (C 41)))) hP hD hS hA) (fun u_6 H locs hq_21 hP hD hS => ?_)
  have hP : va_P D vwCl (WC ca cq (kdC C) (fsC C) (snC C) ak (nI (C 0)) (nI (C 37)) (nI (C 38)) (fI (C 39)) (nI (C 40)) (lN (C 66)) (nI (C 41))) H := hP
  have hD : va_D A (WC ca cq (kdC C) (fsC C) (snC C) ak (nI (C 0)) (nI (C 37)) (nI (C 38)) (fI (C 39)) (nI (C 40)) (lN (C 66)) (nI (C 41))) := hD
  refine lv_iload_n hx hb dX2_addGate_24 rfl (lv_at hl 1 rfl) ?_
  refine lv_iconst (v := nI 0) hx hb dX2_addGate_25 (by decide) ?_
  refine lv_bipush (v := nI 7) hx hb dX2_addGate_26 (by decide) ?_
  refine xc_i (xr_SN (As := [.int (nI kd_), .int (nI 0), .int (nI 7)]) (rest := []) (mt_X1_isWithin l D ca (nI kd_) (nI 0) (nI 7)  H.size) ⟨hx, hb, hml, hown, hts⟩ ⟨va_cnB 3 hts (lw_meth q927) rfl rfl rfl (hE.1.1 _ q1177 rfl) (hts _ q79) (by decide +kernel) ⟨Nat.le_of_ble_eq_true rfl, Nat.le_of_ble_eq_true rfl⟩, hts _ q926, trivial⟩ Ev0_ok trivial hK hS (Cut.app (wc := []) (wr := (WC ca cq (kdC C) (fsC C) (snC C) ak (nI (C 0)) (nI (C 37)) (nI (C 38)) (fI (C 39)) (nI (C 40)) (lN (C 66)) (nI (C 41)))) hP hD hS hA) rfl hl.1 rfl (Nat.le_of_ble_eq_true rfl) dX2_addGate_28 ⟨Nat.le_of_ble_eq_true rfl, Nat.le_of_ble_eq_true rfl⟩) hS (Cut.app (wc := []) (wr := (WC ca cq (kdC C) (fsC C) (snC C) ak (nI (C 0)) (nI (C 37)) (nI (C 38)) (fI (C 39)) (nI (C 40)) (lN (C 66)) (nI (C 41)))) hP hD hS hA) (fun r_7 u_8 H locs hq_28 hP hD hS => ?_)
  have hP : va_P D vwCl (WC ca cq (kdC C) (fsC C) (snC C) ak (nI (C 0)) (nI (C 37)) (nI (C 38)) (fI (C 39)) (nI (C 40)) (lN (C 66)) (nI (C 41))) H := hP
  have hD : va_D A (WC ca cq (kdC C) (fsC C) (snC C) ak (nI (C 0)) (nI (C 37)) (nI (C 38)) (fI (C 39)) (nI (C 40)) (lN (C 66)) (nI (C 41))) := hD
  have hp_28 : r_7 = bI (decide ((nI 0) ≤ (nI kd_) ∧ (nI kd_) ≤ (nI 7))) := hq_28
  clear hq_28
  obtain rfl := hp_28
  refine xc_v (xr_SN (As := [.int (bI (decide ((nI 0) ≤ (nI kd_) ∧ (nI kd_) ≤ (nI 7))))]) (rest := []) (mt_X1_needArgument_ok l D ca (decide ((nI 0) ≤ (nI kd_) ∧ (nI kd_) ≤ (nI 7))) (in_ok (by omega) (by decide)) H.size) ⟨hx, hb, hml, hown, hts⟩ ⟨va_cnB 1 hts (lw_meth q1047) rfl rfl rfl (hE.1.1 _ q1194 rfl) (hts _ q79) (by decide +kernel) ⟨Nat.le_of_ble_eq_true rfl, Nat.le_of_ble_eq_true rfl⟩, hts _ q1046, trivial⟩ Ev0_ok trivial hK hS (Cut.app (wc := []) (wr := (WC ca cq (kdC C) (fsC C) (snC C) ak (nI (C 0)) (nI (C 37)) (nI (C 38)) (fI (C 39)) (nI (C 40)) (lN (C 66)) (nI (C 41)))) hP hD hS hA) rfl hl.1 rfl (Nat.le_of_ble_eq_true rfl) dX2_addGate_31 ⟨Nat.le_of_ble_eq_true rfl, Nat.le_of_ble_eq_true rfl⟩) hS (Cut.app (wc := []) (wr := (WC ca cq (kdC C) (fsC C) (snC C) ak (nI (C 0)) (nI (C 37)) (nI (C 38)) (fI (C 39)) (nI (C 40)) (lN (C 66)) (nI (C 41)))) hP hD hS hA) (fun u_10 H locs hq_31 hP hD hS => ?_)
  have hP : va_P D vwCl (WC ca cq (kdC C) (fsC C) (snC C) ak (nI (C 0)) (nI (C 37)) (nI (C 38)) (fI (C 39)) (nI (C 40)) (lN (C 66)) (nI (C 41))) H := hP
  have hD : va_D A (WC ca cq (kdC C) (fsC C) (snC C) ak (nI (C 0)) (nI (C 37)) (nI (C 38)) (fI (C 39)) (nI (C 40)) (lN (C 66)) (nI (C 41))) := hD
  refine lv_aload_n hx hb dX2_addGate_34 rfl (lv_at hl 0 rfl) ?_
  refine gWC_0_gates_X2 hx hb hts hown hK hP dX2_addGate_35 ?_
  refine lv_bipush (v := nI 12) hx hb dX2_addGate_38 (by decide) ?_
  refine nv_icmp_ge (tgt := 47) hx hb dX2_addGate_40 (by decide) (by omega) (by omega) (fun c_40 => ?_) (fun c_40 => ?_)
  · skip
    refine lv_iconst (v := nI 0) hx hb dX2_addGate_47 (by decide) ?_
    subst hQQ
    exact xt_out (xt_SN (As := [.int (nI 0)]) (rest := []) (mt_X1_needState_thr l hlf D ca false rfl H.size) ⟨hx, hb, hml, hown, hts⟩ ⟨va_cnB 1 hts (lw_meth q1197) rfl rfl rfl (hE.1.1 _ q1195 rfl) (hts _ q79) (by decide +kernel) ⟨Nat.le_of_ble_eq_true rfl, Nat.le_of_ble_eq_true rfl⟩, hts _ q1196, trivial⟩ EvY_ok hE hK hS (Cut.app (wc := []) (wr := (WC ca cq (kdC C) (fsC C) (snC C) ak (nI (C 0)) (nI (C 37)) (nI (C 38)) (fI (C 39)) (nI (C 40)) (lN (C 66)) (nI (C 41)))) hP hD hS hA) rfl hl.1 rfl (Nat.le_of_ble_eq_true rfl) dX2_addGate_48 ⟨Nat.le_of_ble_eq_true rfl, Nat.le_of_ble_eq_true rfl⟩) hS (Cut.app (wc := []) (wr := (WC ca cq (kdC C) (fsC C) (snC C) ak (nI (C 0)) (nI (C 37)) (nI (C 38)) (fI (C 39)) (nI (C 40)) (lN (C 66)) (nI (C 41)))) hP hD hS hA) xt_same hex hlocks hK (by decide) (by decide)
  · skip
    refine lv_iconst (v := nI 1) hx hb dX2_addGate_43 (by decide) ?_
    refine lv_goto (tgt := 48) hx hb dX2_addGate_44 (by decide) ?_
    exfalso; clear hP hD hS hK hts; omega
set_option maxHeartbeats 4000000 in
set_option maxRecDepth 100000 in
theorem mt_X2_dropGate_thrS (l : Launch) (hlf : l.stackTraces = false) (D : va_G) (ca : Nat → ClassId) (cq : Nat → Nat) (ak : Nat → Int32) (C : Nat → Nat) (h0 : C 0 ≤ 12) (hc : C 0 = 0) (nn : Nat) : vx_Met l yX2_dropGate (ws_ yX2_dropGate cX2_dropGate 1 (Option.some Jvm.ClassFile.FieldType.int)) ({ frames := 9, cells := 1, slots := 6, locals := 220 } : Room) (va_Pc [.ref (cq 0)] (PreW EvY D vwCl (TY ca) (WC ca cq (kdC C) (fsC C) (snC C) ak (nI (C 0)) (nI (C 37)) (nI (C 38)) (fI (C 39)) (nI (C 40)) (lN (C 66)) (nI (C 41))) nn)) (QN (va_A (WC ca cq (kdC C) (fsC C) (snC C) ak (nI (C 0)) (nI (C 37)) (nI (C 38)) (fI (C 39)) (nI (C 40)) (lN (C 66)) (nI (C 41))) nn)) (XT "java/lang/IllegalStateException" D vwCl (TY ca) (WC ca cq (kdC C) (fsC C) (snC C) ak (nI (C 0)) (nI (C 37)) (nI (C 38)) (fI (C 39)) (nI (C 40)) (lN (C 66)) (nI (C 41))) (va_A (WC ca cq (kdC C) (fsC C) (snC C) ak (nI (C 0)) (nI (C 37)) (nI (C 38)) (fI (C 39)) (nI (C 40)) (lN (C 66)) (nI (C 41))) nn)) 1 6 (va_A (WC ca cq (kdC C) (fsC C) (snC C) ak (nI (C 0)) (nI (C 37)) (nI (C 38)) (fI (C 39)) (nI (C 40)) (lN (C 66)) (nI (C 41))) nn) := by
  refine met_goX (QA := fun A => QN A) (XA := fun A => XT "java/lang/IllegalStateException" D vwCl (TY ca) (WC ca cq (kdC C) (fsC C) (snC C) ak (nI (C 0)) (nI (C 37)) (nI (C 38)) (fI (C 39)) (nI (C 40)) (lN (C 66)) (nI (C 41))) A) (by decide) (Nat.le_of_ble_eq_true rfl) (fun p e s m below meth c A ls QQ hQQ hex hnm hx hb hr hts hown hlocks hml hA hP hK hD hE hl => ?_)
  have hown : s.vm.findClass RX2 = some m.cls := hown
  have hS : va_S A s.heap s.heap [] := va_S.rf
  have hl : lv_has ls 1 [(0, .ref (cq 0))] := hl
  generalize hHe : s.heap = H at hP ⊢
  have hS : va_S A s.heap H [] := hHe ▸ hS
  generalize ([] : List Loc) = locs at hS ⊢
  refine lv_aload_n hx hb dX2_dropGate_0 rfl (lv_at hl 0 rfl) ?_
  refine gWC_0_gates_X2 hx hb hts hown hK hP dX2_dropGate_1 ?_
  refine nv_if_le (tgt := 11) hx hb dX2_dropGate_4 (by decide) (by omega) (fun c_4 => ?_) (fun c_4 => ?_)
  · skip
    refine lv_iconst (v := nI 0) hx hb dX2_dropGate_11 (by decide) ?_
    subst hQQ
    exact xt_out (xt_SN (As := [.int (nI 0)]) (rest := []) (mt_X1_needState_thr l hlf D ca false rfl H.size) ⟨hx, hb, hml, hown, hts⟩ ⟨va_cnB 1 hts (lw_meth q1197) rfl rfl rfl (hE.1.1 _ q1195 rfl) (hts _ q79) (by decide +kernel) ⟨Nat.le_of_ble_eq_true rfl, Nat.le_of_ble_eq_true rfl⟩, hts _ q1196, trivial⟩ EvY_ok hE hK hS (Cut.app (wc := []) (wr := (WC ca cq (kdC C) (fsC C) (snC C) ak (nI (C 0)) (nI (C 37)) (nI (C 38)) (fI (C 39)) (nI (C 40)) (lN (C 66)) (nI (C 41)))) hP hD hS hA) rfl hl.1 rfl (Nat.le_of_ble_eq_true rfl) dX2_dropGate_12 ⟨Nat.le_of_ble_eq_true rfl, Nat.le_of_ble_eq_true rfl⟩) hS (Cut.app (wc := []) (wr := (WC ca cq (kdC C) (fsC C) (snC C) ak (nI (C 0)) (nI (C 37)) (nI (C 38)) (fI (C 39)) (nI (C 40)) (lN (C 66)) (nI (C 41)))) hP hD hS hA) xt_same hex hlocks hK (by decide) (by decide)
  · skip
    refine lv_iconst (v := nI 1) hx hb dX2_dropGate_7 (by decide) ?_
    refine lv_goto (tgt := 12) hx hb dX2_dropGate_8 (by decide) ?_
    exfalso; clear hP hD hS hK hts; omega
set_option maxHeartbeats 4000000 in
set_option maxRecDepth 100000 in
theorem mt_X2_setKind_thrT (l : Launch) (hlf : l.stackTraces = false) (D : va_G) (ca : Nat → ClassId) (cq : Nat → Nat) (ak : Nat → Int32) (C : Nat → Nat) (g_ : Int32) (kd_ : Int32) (h0 : C 0 ≤ 12) (hc : inR (C 0) g_ = false) (nn : Nat) : vx_Met l yX2_setKind (ws_ yX2_setKind cX2_setKind 4 (Option.some Jvm.ClassFile.FieldType.int)) ({ frames := 9, cells := 1, slots := 6, locals := 220 } : Room) (va_Pc [.ref (cq 0), .int g_, .int kd_] (PreW EvY D vwCl (TY ca) (WC ca cq (kdC C) (fsC C) (snC C) ak (nI (C 0)) (nI (C 37)) (nI (C 38)) (fI (C 39)) (nI (C 40)) (lN (C 66)) (nI (C 41))) nn)) (QN (va_A (WC ca cq (kdC C) (fsC C) (snC C) ak (nI (C 0)) (nI (C 37)) (nI (C 38)) (fI (C 39)) (nI (C 40)) (lN (C 66)) (nI (C 41))) nn)) (XT "java/lang/IndexOutOfBoundsException" D vwCl (TY ca) (WC ca cq (kdC C) (fsC C) (snC C) ak (nI (C 0)) (nI (C 37)) (nI (C 38)) (fI (C 39)) (nI (C 40)) (lN (C 66)) (nI (C 41))) (va_A (WC ca cq (kdC C) (fsC C) (snC C) ak (nI (C 0)) (nI (C 37)) (nI (C 38)) (fI (C 39)) (nI (C 40)) (lN (C 66)) (nI (C 41))) nn)) 1 6 (va_A (WC ca cq (kdC C) (fsC C) (snC C) ak (nI (C 0)) (nI (C 37)) (nI (C 38)) (fI (C 39)) (nI (C 40)) (lN (C 66)) (nI (C 41))) nn) := by
  refine met_goX (QA := fun A => QN A) (XA := fun A => XT "java/lang/IndexOutOfBoundsException" D vwCl (TY ca) (WC ca cq (kdC C) (fsC C) (snC C) ak (nI (C 0)) (nI (C 37)) (nI (C 38)) (fI (C 39)) (nI (C 40)) (lN (C 66)) (nI (C 41))) A) (by decide) (Nat.le_of_ble_eq_true rfl) (fun p e s m below meth c A ls QQ hQQ hex hnm hx hb hr hts hown hlocks hml hA hP hK hD hE hl => ?_)
  have hown : s.vm.findClass RX2 = some m.cls := hown
  have hS : va_S A s.heap s.heap [] := va_S.rf
  have hl : lv_has ls 4 [(0, .ref (cq 0)), (1, .int g_), (2, .int kd_)] := hl
  generalize hHe : s.heap = H at hP ⊢
  have hS : va_S A s.heap H [] := hHe ▸ hS
  generalize ([] : List Loc) = locs at hS ⊢
  refine lv_aload_n hx hb dX2_setKind_0 rfl (lv_at hl 0 rfl) ?_
  refine lv_iload_n hx hb dX2_setKind_1 rfl (lv_at hl 1 rfl) ?_
  refine xc_i (xr_V (b := cq 0) (ci := 1) (q0 := 0) (As := [.int g_]) (rest := []) (mt_X2_isGate l D ca cq (kdC C) (fsC C) (snC C) ak (nI (C 37)) (nI (C 38)) (fI (C 39)) (nI (C 40)) (lN (C 66)) (nI (C 41)) (C 0) g_ (by first | assumption | omega | (simp only [updN, forgetC, changedC]; (repeat' split) <;> omega)) H.size) ⟨hx, hb, hml, hown, hts⟩ (cwV 1 hts (lw_V q1240 q1241 q1242 q80 q1243) rfl rfl rfl (by decide +kernel) ⟨Nat.le_of_ble_eq_true rfl, Nat.le_of_ble_eq_true rfl⟩) EvX_ok hE.1 hK hS (Cut.all hP hD hS hA) rfl rfl rfl hl.1 rfl (Nat.le_of_ble_eq_true rfl) dX2_setKind_2 ⟨Nat.le_of_ble_eq_true rfl, Nat.le_of_ble_eq_true rfl⟩) hS (Cut.all hP hD hS hA) (fun r_1 u_2 H locs hq_2 hP hD hS => ?_)
  have hP : va_P D vwCl (WC ca cq (kdC C) (fsC C) (snC C) ak (nI (C 0)) (nI (C 37)) (nI (C 38)) (fI (C 39)) (nI (C 40)) (lN (C 66)) (nI (C 41))) H := hP
  have hD : va_D A (WC ca cq (kdC C) (fsC C) (snC C) ak (nI (C 0)) (nI (C 37)) (nI (C 38)) (fI (C 39)) (nI (C 40)) (lN (C 66)) (nI (C 41))) := hD
  have hp_2 : r_1 = bI (inR (C 0) g_) := hq_2
  clear hq_2
  obtain rfl := hp_2
  subst hQQ
  exact xt_out (xt_SN (As := [.int (bI (inR (C 0) g_))]) (rest := []) (mt_X1_needThere_thr l hlf D ca (inR (C 0) g_) hc H.size) ⟨hx, hb, hml, hown, hts⟩ ⟨va_cnB 1 hts (lw_meth q1180) rfl rfl rfl (hE.1.1 _ q1178 rfl) (hts _ q79) (by decide +kernel) ⟨Nat.le_of_ble_eq_true rfl, Nat.le_of_ble_eq_true rfl⟩, hts _ q1179, trivial⟩ EvY_ok hE hK hS (Cut.app (wc := []) (wr := (WC ca cq (kdC C) (fsC C) (snC C) ak (nI (C 0)) (nI (C 37)) (nI (C 38)) (fI (C 39)) (nI (C 40)) (lN (C 66)) (nI (C 41)))) hP hD hS hA) rfl hl.1 rfl (Nat.le_of_ble_eq_true rfl) dX2_setKind_5 ⟨Nat.le_of_ble_eq_true rfl, Nat.le_of_ble_eq_true rfl⟩) hS (Cut.app (wc := []) (wr := (WC ca cq (kdC C) (fsC C) (snC C) ak (nI (C 0)) (nI (C 37)) (nI (C 38)) (fI (C 39)) (nI (C 40)) (lN (C 66)) (nI (C 41)))) hP hD hS hA) xt_same hex hlocks hK (by decide) (by decide)
set_option maxHeartbeats 4000000 in
set_option maxRecDepth 100000 in
theorem mt_X2_setKind_thrA (l : Launch) (hlf : l.stackTraces = false) (D : va_G) (ca : Nat → ClassId) (cq : Nat → Nat) (ak : Nat → Int32) (C : Nat → Nat) (g_ : Nat) (kd_ : Int32) (h0 : C 0 ≤ 12) (hg : g_ < C 0) (hc : inR 8 kd_ = false) (nn : Nat) : vx_Met l yX2_setKind (ws_ yX2_setKind cX2_setKind 4 (Option.some Jvm.ClassFile.FieldType.int)) ({ frames := 9, cells := 1, slots := 6, locals := 220 } : Room) (va_Pc [.ref (cq 0), .int (nI g_), .int kd_] (PreW EvY D vwCl (TY ca) (WC ca cq (kdC C) (fsC C) (snC C) ak (nI (C 0)) (nI (C 37)) (nI (C 38)) (fI (C 39)) (nI (C 40)) (lN (C 66)) (nI (C 41))) nn)) (QN (va_A (WC ca cq (kdC C) (fsC C) (snC C) ak (nI (C 0)) (nI (C 37)) (nI (C 38)) (fI (C 39)) (nI (C 40)) (lN (C 66)) (nI (C 41))) nn)) (XT "java/lang/IllegalArgumentException" D vwCl (TY ca) (WC ca cq (kdC C) (fsC C) (snC C) ak (nI (C 0)) (nI (C 37)) (nI (C 38)) (fI (C 39)) (nI (C 40)) (lN (C 66)) (nI (C 41))) (va_A (WC ca cq (kdC C) (fsC C) (snC C) ak (nI (C 0)) (nI (C 37)) (nI (C 38)) (fI (C 39)) (nI (C 40)) (lN (C 66)) (nI (C 41))) nn)) 1 6 (va_A (WC ca cq (kdC C) (fsC C) (snC C) ak (nI (C 0)) (nI (C 37)) (nI (C 38)) (fI (C 39)) (nI (C 40)) (lN (C 66)) (nI (C 41))) nn) := by
  refine met_goX (QA := fun A => QN A) (XA := fun A => XT "java/lang/IllegalArgumentException" D vwCl (TY ca) (WC ca cq (kdC C) (fsC C) (snC C) ak (nI (C 0)) (nI (C 37)) (nI (C 38)) (fI (C 39)) (nI (C 40)) (lN (C 66)) (nI (C 41))) A) (by decide) (Nat.le_of_ble_eq_true rfl) (fun p e s m below meth c A ls QQ hQQ hex hnm hx hb hr hts hown hlocks hml hA hP hK hD hE hl => ?_)
  have hown : s.vm.findClass RX2 = some m.cls := hown
  have hS : va_S A s.heap s.heap [] := va_S.rf
  have hl : lv_has ls 4 [(0, .ref (cq 0)), (1, .int (nI g_)), (2, .int kd_)] := hl
  generalize hHe : s.heap = H at hP ⊢
  have hS : va_S A s.heap H [] := hHe ▸ hS
  generalize ([] : List Loc) = locs at hS ⊢
  refine lv_aload_n hx hb dX2_setKind_0 rfl (lv_at hl 0 rfl) ?_
  refine lv_iload_n hx hb dX2_setKind_1 rfl (lv_at hl 1 rfl) ?_
  refine xc_i (xr_V (b := cq 0) (ci := 1) (q0 := 0) (As := [.int (nI g_)]) (rest := []) (mt_X2_isGate l D ca cq (kdC C) (fsC C) (snC C) ak (nI (C 37)) (nI (C 38)) (fI (C 39)) (nI (C 40)) (lN (C 66)) (nI (C 41)) (C 0) (nI g_) (by first | assumption | omega | (simp only [updN, forgetC, changedC]; (repeat' split) <;> omega)) H.size) ⟨hx, hb, hml, hown, hts⟩ (cwV 1 hts (lw_V q1240 q1241 q1242 q80 q1243) rfl rfl rfl (by decide +kernel) ⟨Nat.le_of_ble_eq_true rfl, Nat.le_of_ble_eq_true rfl⟩) EvX_ok hE.1 hK hS (Cut.all hP hD hS hA) rfl rfl rfl hl.1 rfl (Nat.le_of_ble_eq_true rfl) dX2_setKind_2 ⟨Nat.le_of_ble_eq_true rfl, Nat.le_of_ble_eq_true rfl⟩) hS (Cut.all hP hD hS hA) (fun r_1 u_2 H locs hq_2 hP hD hS => ?_)
  have hP : va_P D vwCl (WC ca cq (kdC C) (fsC C) (snC C) ak (nI (C 0)) (nI (C 37)) (nI (C 38)) (fI (C 39)) (nI (C 40)) (lN (C 66)) (nI (C 41))) H := hP
  have hD : va_D A (WC ca cq (kdC C) (fsC C) (snC C) ak (nI (C 0)) (nI (C 37)) (nI (C 38)) (fI (C 39)) (nI (C 40)) (lN (C 66)) (nI (C 41))) := hD
  have hp_2 : r_1 = bI (inR (C 0) (nI g_)) := hq_2
  clear hq_2
  obtain rfl := hp_2
  refine xc_v (xr_SN (As := [.int (bI (inR (C 0) (nI g_)))]) (rest := []) (mt_X1_needThere_ok l D ca (inR (C 0) (nI g_)) (inR_ok hg (by omega)) H.size) ⟨hx, hb, hml, hown, hts⟩ ⟨va_cnB 1 hts (lw_meth q1180) rfl rfl rfl (hE.1.1 _ q1178 rfl) (hts _ q79) (by decide +kernel) ⟨Nat.le_of_ble_eq_true rfl, Nat.le_of_ble_eq_true rfl⟩, hts _ q1179, trivial⟩ Ev0_ok trivial hK hS (Cut.app (wc := []) (wr := (WC ca cq (kdC C) (fsC C) (snC C) ak (nI (C 0)) (nI (C 37)) (nI (C 38)) (fI (C 39)) (nI (C 40)) (lN (C 66)) (nI (C 41)))) hP hD hS hA) rfl hl.1 rfl (Nat.le_of_ble_eq_true rfl) dX2_setKind_5 ⟨Nat.le_of_ble_eq_true rfl, Nat.le_of_ble_eq_true rfl⟩) hS (Cut.app (wc := []) (wr := (WC ca cq (kdC C) (fsC C) (snC C) ak (nI (C 0)) (nI (C 37)) (nI (C 38)) (fI (C 39)) (nI (C 40)) (lN (C 66)) (nI (C 41)))) hP hD hS hA) (fun u_4 H locs hq_5 hP hD hS => ?_)
  have hP : va_P D vwCl (WC ca cq (kdC C) (fsC C) (snC C) ak (nI (C 0)) (nI (C 37)) (nI (C 38)) (fI (C 39)) (nI (C 40)) (lN (C 66)) (nI (C 41))) H := hP
  have hD : va_D A (WC ca cq (kdC C) (fsC C) (snC C) ak (nI (C 0)) (nI (C 37)) (nI (C 38)) (fI (C 39)) (nI (C 40)) (lN (C 66)) (nI (C 41))) := hD
  refine lv_iload_n hx hb dX2_setKind_8 rfl (lv_at hl 2 rfl) ?_
  refine lv_iconst (v := nI 0) hx hb dX2_setKind_9 (by decide) ?_
  refine lv_bipush (v := nI 7) hx hb dX2_setKind_10 (by decide) ?_
  refine xc_i (xr_SN (As := [.int kd_, .int (nI 0), .int (nI 7)]) (rest := []) (mt_X1_isWithin l D ca kd_ (nI 0) (nI 7)  H.size) ⟨hx, hb, hml, hown, hts⟩ ⟨va_cnB 3 hts (lw_meth q927) rfl rfl rfl (hE.1.1 _ q1177 rfl) (hts _ q79) (by decide +kernel) ⟨Nat.le_of_ble_eq_true rfl, Nat.le_of_ble_eq_true rfl⟩, hts _ q926, trivial⟩ Ev0_ok trivial hK hS (Cut.app (wc := []) (wr := (WC ca cq (kdC C) (fsC C) (snC C) ak (nI (C 0)) (nI (C 37)) (nI (C 38)) (fI (C 39)) (nI (C 40)) (lN (C 66)) (nI (C 41)))) hP hD hS hA) rfl hl.1 rfl (Nat.le_of_ble_eq_true rfl) dX2_setKind_12 ⟨Nat.le_of_ble_eq_true rfl, Nat.le_of_ble_eq_true rfl⟩) hS (Cut.app (wc := []) (wr := (WC ca cq (kdC C) (fsC C) (snC C) ak (nI (C 0)) (nI (C 37)) (nI (C 38)) (fI (C 39)) (nI (C 40)) (lN (C 66)) (nI (C 41)))) hP hD hS hA) (fun r_5 u_6 H locs hq_12 hP hD hS => ?_)
  have hP : va_P D vwCl (WC ca cq (kdC C) (fsC C) (snC C) ak (nI (C 0)) (nI (C 37)) (nI (C 38)) (fI (C 39)) (nI (C 40)) (lN (C 66)) (nI (C 41))) H := hP
  have hD : va_D A (WC ca cq (kdC C) (fsC C) (snC C) ak (nI (C 0)) (nI (C 37)) (nI (C 38)) (fI (C 39)) (nI (C 40)) (lN (C 66)) (nI (C 41))) := hD
  have hp_12 : r_5 = bI (decide ((nI 0) ≤ kd_ ∧ kd_ ≤ (nI 7))) := hq_12
  clear hq_12
  obtain rfl := hp_12
  subst hQQ
  exact xt_out (xt_SN (As := [.int (bI (decide ((nI 0) ≤ kd_ ∧ kd_ ≤ (nI 7))))]) (rest := []) (mt_X1_needArgument_thr l hlf D ca (decide ((nI 0) ≤ kd_ ∧ kd_ ≤ (nI 7))) ((inR_lit (by decide)).trans hc) H.size) ⟨hx, hb, hml, hown, hts⟩ ⟨va_cnB 1 hts (lw_meth q1047) rfl rfl rfl (hE.1.1 _ q1194 rfl) (hts _ q79) (by decide +kernel) ⟨Nat.le_of_ble_eq_true rfl, Nat.le_of_ble_eq_true rfl⟩, hts _ q1046, trivial⟩ EvY_ok hE hK hS (Cut.app (wc := []) (wr := (WC ca cq (kdC C) (fsC C) (snC C) ak (nI (C 0)) (nI (C 37)) (nI (C 38)) (fI (C 39)) (nI (C 40)) (lN (C 66)) (nI (C 41)))) hP hD hS hA) rfl hl.1 rfl (Nat.le_of_ble_eq_true rfl) dX2_setKind_15 ⟨Nat.le_of_ble_eq_true rfl, Nat.le_of_ble_eq_true rfl⟩) hS (Cut.app (wc := []) (wr := (WC ca cq (kdC C) (fsC C) (snC C) ak (nI (C 0)) (nI (C 37)) (nI (C 38)) (fI (C 39)) (nI (C 40)) (lN (C 66)) (nI (C 41)))) hP hD hS hA) xt_same hex hlocks hK (by decide) (by decide)
set_option maxHeartbeats 4000000 in
set_option maxRecDepth 100000 in
theorem mt_X2_setKind_thrS (l : Launch) (hlf : l.stackTraces = false) (D : va_G) (ca : Nat → ClassId) (cq : Nat → Nat) (ak : Nat → Int32) (C : Nat → Nat) (g_ : Nat) (kd_ : Nat) (h0 : C 0 ≤ 12) (hg : g_ < C 0) (hbx : C 38 < 2 ^ 18) (hkd : kd_ < 8) (hbk : (C 38).testBit g_ = true) (hc : 6 ≤ kd_) (nn : Nat) : vx_Met l yX2_setKind (ws_ yX2_setKind cX2_setKind 4 (Option.some Jvm.ClassFile.FieldType.int)) ({ frames := 9, cells := 1, slots := 6, locals := 220 } : Room) (va_Pc [.ref (cq 0), .int (nI g_), .int (nI kd_)] (PreW EvY D vwCl (TY ca) (WC ca cq (kdC C) (fsC C) (snC C) ak (nI (C 0)) (nI (C 37)) (nI (C 38)) (fI (C 39)) (nI (C 40)) (lN (C 66)) (nI (C 41))) nn)) (QN (va_A (WC ca cq (kdC C) (fsC C) (snC C) ak (nI (C 0)) (nI (C 37)) (nI (C 38)) (fI (C 39)) (nI (C 40)) (lN (C 66)) (nI (C 41))) nn)) (XT "java/lang/IllegalStateException" D vwCl (TY ca) (WC ca cq (kdC C) (fsC C) (snC C) ak (nI (C 0)) (nI (C 37)) (nI (C 38)) (fI (C 39)) (nI (C 40)) (lN (C 66)) (nI (C 41))) (va_A (WC ca cq (kdC C) (fsC C) (snC C) ak (nI (C 0)) (nI (C 37)) (nI (C 38)) (fI (C 39)) (nI (C 40)) (lN (C 66)) (nI (C 41))) nn)) 1 6 (va_A (WC ca cq (kdC C) (fsC C) (snC C) ak (nI (C 0)) (nI (C 37)) (nI (C 38)) (fI (C 39)) (nI (C 40)) (lN (C 66)) (nI (C 41))) nn) := by
  refine met_goX (QA := fun A => QN A) (XA := fun A => XT "java/lang/IllegalStateException" D vwCl (TY ca) (WC ca cq (kdC C) (fsC C) (snC C) ak (nI (C 0)) (nI (C 37)) (nI (C 38)) (fI (C 39)) (nI (C 40)) (lN (C 66)) (nI (C 41))) A) (by decide) (Nat.le_of_ble_eq_true rfl) (fun p e s m below meth c A ls QQ hQQ hex hnm hx hb hr hts hown hlocks hml hA hP hK hD hE hl => ?_)
  have hown : s.vm.findClass RX2 = some m.cls := hown
  have hS : va_S A s.heap s.heap [] := va_S.rf
  have hl : lv_has ls 4 [(0, .ref (cq 0)), (1, .int (nI g_)), (2, .int (nI kd_))] := hl
  generalize hHe : s.heap = H at hP ⊢
  have hS : va_S A s.heap H [] := hHe ▸ hS
  generalize ([] : List Loc) = locs at hS ⊢
  refine lv_aload_n hx hb dX2_setKind_0 rfl (lv_at hl 0 rfl) ?_
  refine lv_iload_n hx hb dX2_setKind_1 rfl (lv_at hl 1 rfl) ?_
  refine xc_i (xr_V (b := cq 0) (ci := 1) (q0 := 0) (As := [.int (nI g_)]) (rest := []) (mt_X2_isGate l D ca cq (kdC C) (fsC C) (snC C) ak (nI (C 37)) (nI (C 38)) (fI (C 39)) (nI (C 40)) (lN (C 66)) (nI (C 41)) (C 0) (nI g_) (by first | assumption | omega | (simp only [updN, forgetC, changedC]; (repeat' split) <;> omega)) H.size) ⟨hx, hb, hml, hown, hts⟩ (cwV 1 hts (lw_V q1240 q1241 q1242 q80 q1243) rfl rfl rfl (by decide +kernel) ⟨Nat.le_of_ble_eq_true rfl, Nat.le_of_ble_eq_true rfl⟩) EvX_ok hE.1 hK hS (Cut.all hP hD hS hA) rfl rfl rfl hl.1 rfl (Nat.le_of_ble_eq_true rfl) dX2_setKind_2 ⟨Nat.le_of_ble_eq_true rfl, Nat.le_of_ble_eq_true rfl⟩) hS (Cut.all hP hD hS hA) (fun r_1 u_2 H locs hq_2 hP hD hS => ?_)
  have hP : va_P D vwCl (WC ca cq (kdC C) (fsC C) (snC C) ak (nI (C 0)) (nI (C 37)) (nI (C 38)) (fI (C 39)) (nI (C 40)) (lN (C 66)) (nI (C 41))) H := hP
  have hD : va_D A (WC ca cq (kdC C) (fsC C) (snC C) ak (nI (C 0)) (nI (C 37)) (nI (C 38)) (fI (C 39)) (nI (C 40)) (lN (C 66)) (nI (C 41))) := hD
  have hp_2 : r_1 = bI (inR (C 0) (nI g_)) := hq_2
  clear hq_2
  obtain rfl := hp_2
  refine xc_v (xr_SN (As := [.int (bI (inR (C 0) (nI g_)))]) (rest := []) (mt_X1_needThere_ok l D ca (inR (C 0) (nI g_)) (inR_ok hg (by omega)) H.size) ⟨hx, hb, hml, hown, hts⟩ ⟨va_cnB 1 hts (lw_meth q1180) rfl rfl rfl (hE.1.1 _ q1178 rfl) (hts _ q79) (by decide +kernel) ⟨Nat.le_of_ble_eq_true rfl, Nat.le_of_ble_eq_true rfl⟩, hts _ q1179, trivial⟩ Ev0_ok trivial hK hS (Cut.app (wc := []) (wr := (WC ca cq (kdC C) (fsC C) (snC C) ak (nI (C 0)) (nI (C 37)) (nI (C 38)) (fI (C 39)) (nI (C 40)) (lN (C 66)) (nI (C 41)))) hP hD hS hA) rfl hl.1 rfl (Nat.le_of_ble_eq_true rfl) dX2_setKind_5 ⟨Nat.le_of_ble_eq_true rfl, Nat.le_of_ble_eq_true rfl⟩) hS (Cut.app (wc := []) (wr := (WC ca cq (kdC C) (fsC C) (snC C) ak (nI (C 0)) (nI (C 37)) (nI (C 38)) (fI (C 39)) (nI (C 40)) (lN (C 66)) (nI (C 41)))) hP hD hS hA) (fun u_4 H locs hq_5 hP hD hS => ?_)
  have hP : va_P D vwCl (WC ca cq (kdC C) (fsC C) (snC C) ak (nI (C 0)) (nI (C 37)) (nI (C 38)) (fI (C 39)) (nI (C 40)) (lN (C 66)) (nI (C 41))) H := hP
  have hD : va_D A (WC ca cq (kdC C) (fsC C) (snC C) ak (nI (C 0)) (nI (C 37)) (nI (C 38)) (fI (C 39)) (nI (C 40)) (lN (C 66)) (nI (C 41))) := hD
  refine lv_iload_n hx hb dX2_setKind_8 rfl (lv_at hl 2 rfl) ?_
  refine lv_iconst (v := nI 0) hx hb dX2_setKind_9 (by decide) ?_
  refine lv_bipush (v := nI 7) hx hb dX2_setKind_10 (by decide) ?_
  refine xc_i (xr_SN (As := [.int (nI kd_), .int (nI 0), .int (nI 7)]) (rest := []) (mt_X1_isWithin l D ca (nI kd_) (nI 0) (nI 7)  H.size) ⟨hx, hb, hml, hown, hts⟩ ⟨va_cnB 3 hts (lw_meth q927) rfl rfl rfl (hE.1.1 _ q1177 rfl) (hts _ q79) (by decide +kernel) ⟨Nat.le_of_ble_eq_true rfl, Nat.le_of_ble_eq_true rfl⟩, hts _ q926, trivial⟩ Ev0_ok trivial hK hS (Cut.app (wc := []) (wr := (WC ca cq (kdC C) (fsC C) (snC C) ak (nI (C 0)) (nI (C 37)) (nI (C 38)) (fI (C 39)) (nI (C 40)) (lN (C 66)) (nI (C 41)))) hP hD hS hA) rfl hl.1 rfl (Nat.le_of_ble_eq_true rfl) dX2_setKind_12 ⟨Nat.le_of_ble_eq_true rfl, Nat.le_of_ble_eq_true rfl⟩) hS (Cut.app (wc := []) (wr := (WC ca cq (kdC C) (fsC C) (snC C) ak (nI (C 0)) (nI (C 37)) (nI (C 38)) (fI (C 39)) (nI (C 40)) (lN (C 66)) (nI (C 41)))) hP hD hS hA) (fun r_5 u_6 H locs hq_12 hP hD hS => ?_)
  have hP : va_P D vwCl (WC ca cq (kdC C) (fsC C) (snC C) ak (nI (C 0)) (nI (C 37)) (nI (C 38)) (fI (C 39)) (nI (C 40)) (lN (C 66)) (nI (C 41))) H := hP
  have hD : va_D A (WC ca cq (kdC C) (fsC C) (snC C) ak (nI (C 0)) (nI (C 37)) (nI (C 38)) (fI (C 39)) (nI (C 40)) (lN (C 66)) (nI (C 41))) := hD
  have hp_12 : r_5 = bI (decide ((nI 0) ≤ (nI kd_) ∧ (nI kd_) ≤ (nI 7))) := hq_12
  clear hq_12
  obtain rfl := hp_12
  refine xc_v (xr_SN (As := [.int (bI (decide ((nI 0) ≤ (nI kd_) ∧ (nI kd_) ≤ (nI 7))))]) (rest := []) (mt_X1_needArgument_ok l D ca (decide ((nI 0) ≤ (nI kd_) ∧ (nI kd_) ≤ (nI 7))) (in_ok (by omega) (by decide)) H.size) ⟨hx, hb, hml, hown, hts⟩ ⟨va_cnB 1 hts (lw_meth q1047) rfl rfl rfl (hE.1.1 _ q1194 rfl) (hts _ q79) (by decide +kernel) ⟨Nat.le_of_ble_eq_true rfl, Nat.le_of_ble_eq_true rfl⟩, hts _ q1046, trivial⟩ Ev0_ok trivial hK hS (Cut.app (wc := []) (wr := (WC ca cq (kdC C) (fsC C) (snC C) ak (nI (C 0)) (nI (C 37)) (nI (C 38)) (fI (C 39)) (nI (C 40)) (lN (C 66)) (nI (C 41)))) hP hD hS hA) rfl hl.1 rfl (Nat.le_of_ble_eq_true rfl) dX2_setKind_15 ⟨Nat.le_of_ble_eq_true rfl, Nat.le_of_ble_eq_true rfl⟩) hS (Cut.app (wc := []) (wr := (WC ca cq (kdC C) (fsC C) (snC C) ak (nI (C 0)) (nI (C 37)) (nI (C 38)) (fI (C 39)) (nI (C 40)) (lN (C 66)) (nI (C 41)))) hP hD hS hA) (fun u_8 H locs hq_15 hP hD hS => ?_)
  have hP : va_P D vwCl (WC ca cq (kdC C) (fsC C) (snC C) ak (nI (C 0)) (nI (C 37)) (nI (C 38)) (fI (C 39)) (nI (C 40)) (lN (C 66)) (nI (C 41))) H := hP
  have hD : va_D A (WC ca cq (kdC C) (fsC C) (snC C) ak (nI (C 0)) (nI (C 37)) (nI (C 38)) (fI (C 39)) (nI (C 40)) (lN (C 66)) (nI (C 41))) := hD
  refine lv_aload_n hx hb dX2_setKind_18 rfl (lv_at hl 0 rfl) ?_
  refine gWC_0_boxes_X2 hx hb hts hown hK hP dX2_setKind_19 ?_
  refine lv_iload_n hx hb dX2_setKind_22 rfl (lv_at hl 1 rfl) ?_
  refine xc_i (xr_SN (As := [.int (nI (C 38)), .int (nI g_)]) (rest := []) (mt_X1_isIn l D ca (C 38) g_ (by first | assumption | omega | (simp only [updN, forgetC, changedC]; (repeat' split) <;> omega)) (by first | assumption | omega | (simp only [updN, forgetC, changedC]; (repeat' split) <;> omega)) H.size) ⟨hx, hb, hml, hown, hts⟩ ⟨va_cnB 2 hts (lw_meth q466) rfl rfl rfl (hE.1.1 _ q1244 rfl) (hts _ q79) (by decide +kernel) ⟨Nat.le_of_ble_eq_true rfl, Nat.le_of_ble_eq_true rfl⟩, hts _ q465, trivial⟩ Ev0_ok trivial hK hS (Cut.app (wc := []) (wr := (WC ca cq (kdC C) (fsC C) (snC C) ak (nI (C 0)) (nI (C 37)) (nI (C 38)) (fI (C 39)) (nI (C 40)) (lN (C 66)) (nI (C 41)))) hP hD hS hA) rfl hl.1 rfl (Nat.le_of_ble_eq_true rfl) dX2_setKind_23 ⟨Nat.le_of_ble_eq_true rfl, Nat.le_of_ble_eq_true rfl⟩) hS (Cut.app (wc := []) (wr := (WC ca cq (kdC C) (fsC C) (snC C) ak (nI (C 0)) (nI (C 37)) (nI (C 38)) (fI (C 39)) (nI (C 40)) (lN (C 66)) (nI (C 41)))) hP hD hS hA) (fun r_9 u_10 H locs hq_23 hP hD hS => ?_)
  have hP : va_P D vwCl (WC ca cq (kdC C) (fsC C) (snC C) ak (nI (C 0)) (nI (C 37)) (nI (C 38)) (fI (C 39)) (nI (C 40)) (lN (C 66)) (nI (C 41))) H := hP
  have hD : va_D A (WC ca cq (kdC C) (fsC C) (snC C) ak (nI (C 0)) (nI (C 37)) (nI (C 38)) (fI (C 39)) (nI (C 40)) (lN (C 66)) (nI (C 41))) := hD
  have hp_23 : r_9 = bI ((C 38).testBit g_) := hq_23
  clear hq_23
  obtain rfl := hp_23
  refine nv_ifb_eq (tgt := 35) hx hb dX2_setKind_26 (by decide) (fun c_26 => (absurd c_26 (by rw [hbk]; decide))) (fun c_26 => ?_)
  refine lv_iload_n hx hb dX2_setKind_29 rfl (lv_at hl 2 rfl) ?_
  refine lv_bipush (v := nI 6) hx hb dX2_setKind_30 (by decide) ?_
  refine nv_icmp_ge (tgt := 39) hx hb dX2_setKind_32 (by decide) (by omega) (by omega) (fun c_32 => ?_) (fun c_32 => ?_)
  · skip
    refine lv_iconst (v := nI 0) hx hb dX2_setKind_39 (by decide) ?_
    subst hQQ
    exact xt_out (xt_SN (As := [.int (nI 0)]) (rest := []) (mt_X1_needState_thr l hlf D ca false rfl H.size) ⟨hx, hb, hml, hown, hts⟩ ⟨va_cnB 1 hts (lw_meth q1197) rfl rfl rfl (hE.1.1 _ q1195 rfl) (hts _ q79) (by decide +kernel) ⟨Nat.le_of_ble_eq_true rfl, Nat.le_of_ble_eq_true rfl⟩, hts _ q1196, trivial⟩ EvY_ok hE hK hS (Cut.app (wc := []) (wr := (WC ca cq (kdC C) (fsC C) (snC C) ak (nI (C 0)) (nI (C 37)) (nI (C 38)) (fI (C 39)) (nI (C 40)) (lN (C 66)) (nI (C 41)))) hP hD hS hA) rfl hl.1 rfl (Nat.le_of_ble_eq_true rfl) dX2_setKind_40 ⟨Nat.le_of_ble_eq_true rfl, Nat.le_of_ble_eq_true rfl⟩) hS (Cut.app (wc := []) (wr := (WC ca cq (kdC C) (fsC C) (snC C) ak (nI (C 0)) (nI (C 37)) (nI (C 38)) (fI (C 39)) (nI (C 40)) (lN (C 66)) (nI (C 41)))) hP hD hS hA) xt_same hex hlocks hK (by decide) (by decide)
  · skip
    refine lv_iconst (v := nI 1) hx hb dX2_setKind_35 (by decide) ?_
    refine lv_goto (tgt := 40) hx hb dX2_setKind_36 (by decide) ?_
    exfalso; clear hP hD hS hK hts; omega
set_option maxHeartbeats 4000000 in
set_option maxRecDepth 100000 in
theorem mt_X2_setSource_thrT (l : Launch) (hlf : l.stackTraces = false) (D : va_G) (ca : Nat → ClassId) (cq : Nat → Nat) (ak : Nat → Int32) (C : Nat → Nat) (g_ : Int32) (w_ : Int32) (l_ : Int32) (h0 : C 0 ≤ 12) (hc : (inR (C 0) g_ && inR (6 + C 0) l_) = false) (nn : Nat) : vx_Met l yX2_setSource (ws_ yX2_setSource cX2_setSource 6 (Option.some Jvm.ClassFile.FieldType.int)) ({ frames := 9, cells := 1, slots := 6, locals := 220 } : Room) (va_Pc [.ref (cq 0), .int g_, .int w_, .int l_] (PreW EvY D vwCl (TY ca) (WC ca cq (kdC C) (fsC C) (snC C) ak (nI (C 0)) (nI (C 37)) (nI (C 38)) (fI (C 39)) (nI (C 40)) (lN (C 66)) (nI (C 41))) nn)) (QN (va_A (WC ca cq (kdC C) (fsC C) (snC C) ak (nI (C 0)) (nI (C 37)) (nI (C 38)) (fI (C 39)) (nI (C 40)) (lN (C 66)) (nI (C 41))) nn)) (XT "java/lang/IndexOutOfBoundsException" D vwCl (TY ca) (WC ca cq (kdC C) (fsC C) (snC C) ak (nI (C 0)) (nI (C 37)) (nI (C 38)) (fI (C 39)) (nI (C 40)) (lN (C 66)) (nI (C 41))) (va_A (WC ca cq (kdC C) (fsC C) (snC C) ak (nI (C 0)) (nI (C 37)) (nI (C 38)) (fI (C 39)) (nI (C 40)) (lN (C 66)) (nI (C 41))) nn)) 1 6 (va_A (WC ca cq (kdC C) (fsC C) (snC C) ak (nI (C 0)) (nI (C 37)) (nI (C 38)) (fI (C 39)) (nI (C 40)) (lN (C 66)) (nI (C 41))) nn) := by
  refine met_goX (QA := fun A => QN A) (XA := fun A => XT "java/lang/IndexOutOfBoundsException" D vwCl (TY ca) (WC ca cq (kdC C) (fsC C) (snC C) ak (nI (C 0)) (nI (C 37)) (nI (C 38)) (fI (C 39)) (nI (C 40)) (lN (C 66)) (nI (C 41))) A) (by decide) (Nat.le_of_ble_eq_true rfl) (fun p e s m below meth c A ls QQ hQQ hex hnm hx hb hr hts hown hlocks hml hA hP hK hD hE hl => ?_)
  have hown : s.vm.findClass RX2 = some m.cls := hown
  have hS : va_S A s.heap s.heap [] := va_S.rf
  have hl : lv_has ls 6 [(0, .ref (cq 0)), (1, .int g_), (2, .int w_), (3, .int l_)] := hl
  generalize hHe : s.heap = H at hP ⊢
  have hS : va_S A s.heap H [] := hHe ▸ hS
  generalize ([] : List Loc) = locs at hS ⊢
  refine lv_aload_n hx hb dX2_setSource_0 rfl (lv_at hl 0 rfl) ?_
  refine lv_iload_n hx hb dX2_setSource_1 rfl (lv_at hl 1 rfl) ?_
  refine xc_i (xr_V (b := cq 0) (ci := 1) (q0 := 0) (As := [.int g_]) (rest := []) (mt_X2_isGate l D ca cq (kdC C) (fsC C) (snC C) ak (nI (C 37)) (nI (C 38)) (fI (C 39)) (nI (C 40)) (lN (C 66)) (nI (C 41)) (C 0) g_ (by first | assumption | omega | (simp only [updN, forgetC, changedC]; (repeat' split) <;> omega)) H.size) ⟨hx, hb, hml, hown, hts⟩ (cwV 1 hts (lw_V q1240 q1241 q1242 q80 q1243) rfl rfl rfl (by decide +kernel) ⟨Nat.le_of_ble_eq_true rfl, Nat.le_of_ble_eq_true rfl⟩) EvX_ok hE.1 hK hS (Cut.all hP hD hS hA) rfl rfl rfl hl.1 rfl (Nat.le_of_ble_eq_true rfl) dX2_setSource_2 ⟨Nat.le_of_ble_eq_true rfl, Nat.le_of_ble_eq_true rfl⟩) hS (Cut.all hP hD hS hA) (fun r_1 u_2 H locs hq_2 hP hD hS => ?_)
  have hP : va_P D vwCl (WC ca cq (kdC C) (fsC C) (snC C) ak (nI (C 0)) (nI (C 37)) (nI (C 38)) (fI (C 39)) (nI (C 40)) (lN (C 66)) (nI (C 41))) H := hP
  have hD : va_D A (WC ca cq (kdC C) (fsC C) (snC C) ak (nI (C 0)) (nI (C 37)) (nI (C 38)) (fI (C 39)) (nI (C 40)) (lN (C 66)) (nI (C 41))) := hD
  have hp_2 : r_1 = bI (inR (C 0) g_) := hq_2
  clear hq_2
  obtain rfl := hp_2
  refine nv_ifb_eq (tgt := 20) hx hb dX2_setSource_5 (by decide) (fun c_5 => ?_) (fun c_5 => ?_)
  · skip
    refine lv_iconst (v := nI 0) hx hb dX2_setSource_20 (by decide) ?_
    subst hQQ
    exact xt_out (xt_SN (As := [.int (nI 0)]) (rest := []) (mt_X1_needThere_thr l hlf D ca false rfl H.size) ⟨hx, hb, hml, hown, hts⟩ ⟨va_cnB 1 hts (lw_meth q1180) rfl rfl rfl (hE.1.1 _ q1178 rfl) (hts _ q79) (by decide +kernel) ⟨Nat.le_of_ble_eq_true rfl, Nat.le_of_ble_eq_true rfl⟩, hts _ q1179, trivial⟩ EvY_ok hE hK hS (Cut.app (wc := []) (wr := (WC ca cq (kdC C) (fsC C) (snC C) ak (nI (C 0)) (nI (C 37)) (nI (C 38)) (fI (C 39)) (nI (C 40)) (lN (C 66)) (nI (C 41)))) hP hD hS hA) rfl hl.1 rfl (Nat.le_of_ble_eq_true rfl) dX2_setSource_21 ⟨Nat.le_of_ble_eq_true rfl, Nat.le_of_ble_eq_true rfl⟩) hS (Cut.app (wc := []) (wr := (WC ca cq (kdC C) (fsC C) (snC C) ak (nI (C 0)) (nI (C 37)) (nI (C 38)) (fI (C 39)) (nI (C 40)) (lN (C 66)) (nI (C 41)))) hP hD hS hA) xt_same hex hlocks hK (by decide) (by decide)
  · skip
    refine lv_aload_n hx hb dX2_setSource_8 rfl (lv_at hl 0 rfl) ?_
    refine lv_iload_n hx hb dX2_setSource_9 rfl (lv_at hl 3 rfl) ?_
    refine xc_i (xr_V (b := cq 0) (ci := 1) (q0 := 0) (As := [.int l_]) (rest := []) (mt_X2_isLine l D ca cq (kdC C) (fsC C) (snC C) ak (nI (C 37)) (nI (C 38)) (fI (C 39)) (nI (C 40)) (lN (C 66)) (nI (C 41)) (C 0) l_ (by first | assumption | omega | (simp only [updN, forgetC, changedC]; (repeat' split) <;> omega)) H.size) ⟨hx, hb, hml, hown, hts⟩ (cwV 1 hts (lw_V q1173 q1174 q1175 q80 q1176) rfl rfl rfl (by decide +kernel) ⟨Nat.le_of_ble_eq_true rfl, Nat.le_of_ble_eq_true rfl⟩) EvX_ok hE.1 hK hS (Cut.all hP hD hS hA) rfl rfl rfl hl.1 rfl (Nat.le_of_ble_eq_true rfl) dX2_setSource_10 ⟨Nat.le_of_ble_eq_true rfl, Nat.le_of_ble_eq_true rfl⟩) hS (Cut.all hP hD hS hA) (fun r_4 u_5 H locs hq_10 hP hD hS => ?_)
    have hP : va_P D vwCl (WC ca cq (kdC C) (fsC C) (snC C) ak (nI (C 0)) (nI (C 37)) (nI (C 38)) (fI (C 39)) (nI (C 40)) (lN (C 66)) (nI (C 41))) H := hP
    have hD : va_D A (WC ca cq (kdC C) (fsC C) (snC C) ak (nI (C 0)) (nI (C 37)) (nI (C 38)) (fI (C 39)) (nI (C 40)) (lN (C 66)) (nI (C 41))) := hD
    have hp_10 : r_4 = bI (inR (6 + (C 0)) l_) := hq_10
    clear hq_10
    obtain rfl := hp_10
    refine nv_ifb_eq (tgt := 20) hx hb dX2_setSource_13 (by decide) (fun c_13 => ?_) (fun c_13 => ?_)
    · skip
      refine lv_iconst (v := nI 0) hx hb dX2_setSource_20 (by decide) ?_
      subst hQQ
      exact xt_out (xt_SN (As := [.int (nI 0)]) (rest := []) (mt_X1_needThere_thr l hlf D ca false rfl H.size) ⟨hx, hb, hml, hown, hts⟩ ⟨va_cnB 1 hts (lw_meth q1180) rfl rfl rfl (hE.1.1 _ q1178 rfl) (hts _ q79) (by decide +kernel) ⟨Nat.le_of_ble_eq_true rfl, Nat.le_of_ble_eq_true rfl⟩, hts _ q1179, trivial⟩ EvY_ok hE hK hS (Cut.app (wc := []) (wr := (WC ca cq (kdC C) (fsC C) (snC C) ak (nI (C 0)) (nI (C 37)) (nI (C 38)) (fI (C 39)) (nI (C 40)) (lN (C 66)) (nI (C 41)))) hP hD hS hA) rfl hl.1 rfl (Nat.le_of_ble_eq_true rfl) dX2_setSource_21 ⟨Nat.le_of_ble_eq_true rfl, Nat.le_of_ble_eq_true rfl⟩) hS (Cut.app (wc := []) (wr := (WC ca cq (kdC C) (fsC C) (snC C) ak (nI (C 0)) (nI (C 37)) (nI (C 38)) (fI (C 39)) (nI (C 40)) (lN (C 66)) (nI (C 41)))) hP hD hS hA) xt_same hex hlocks hK (by decide) (by decide)
    · skip
      refine lv_iconst (v := nI 1) hx hb dX2_setSource_16 (by decide) ?_
      refine lv_goto (tgt := 21) hx hb dX2_setSource_17 (by decide) ?_
      exfalso; clear hP hD hS hK hts; simp_all
set_option maxHeartbeats 4000000 in
set_option maxRecDepth 100000 in
theorem mt_X2_setSource_thrA (l : Launch) (hlf : l.stackTraces = false) (D : va_G) (ca : Nat → ClassId) (cq : Nat → Nat) (ak : Nat → Int32) (C : Nat → Nat) (g_ : Nat) (w_ : Int32) (l_ : Nat) (h0 : C 0 ≤ 12) (hg : g_ < C 0) (hl0 : l_ < 6 + C 0) (hc : (inR 2 w_ && decide (l_ < 6 + g_)) = false) (nn : Nat) : vx_Met l yX2_setSource (ws_ yX2_setSource cX2_setSource 6 (Option.some Jvm.ClassFile.FieldType.int)) ({ frames := 9, cells := 1, slots := 6, locals := 220 } : Room) (va_Pc [.ref (cq 0), .int (nI g_), .int w_, .int (nI l_)] (PreW EvY D vwCl (TY ca) (WC ca cq (kdC C) (fsC C) (snC C) ak (nI (C 0)) (nI (C 37)) (nI (C 38)) (fI (C 39)) (nI (C 40)) (lN (C 66)) (nI (C 41))) nn)) (QN (va_A (WC ca cq (kdC C) (fsC C) (snC C) ak (nI (C 0)) (nI (C 37)) (nI (C 38)) (fI (C 39)) (nI (C 40)) (lN (C 66)) (nI (C 41))) nn)) (XT "java/lang/IllegalArgumentException" D vwCl (TY ca) (WC ca cq (kdC C) (fsC C) (snC C) ak (nI (C 0)) (nI (C 37)) (nI (C 38)) (fI (C 39)) (nI (C 40)) (lN (C 66)) (nI (C 41))) (va_A (WC ca cq (kdC C) (fsC C) (snC C) ak (nI (C 0)) (nI (C 37)) (nI (C 38)) (fI (C 39)) (nI (C 40)) (lN (C 66)) (nI (C 41))) nn)) 1 6 (va_A (WC ca cq (kdC C) (fsC C) (snC C) ak (nI (C 0)) (nI (C 37)) (nI (C 38)) (fI (C 39)) (nI (C 40)) (lN (C 66)) (nI (C 41))) nn) := by
  refine met_goX (QA := fun A => QN A) (XA := fun A => XT "java/lang/IllegalArgumentException" D vwCl (TY ca) (WC ca cq (kdC C) (fsC C) (snC C) ak (nI (C 0)) (nI (C 37)) (nI (C 38)) (fI (C 39)) (nI (C 40)) (lN (C 66)) (nI (C 41))) A) (by decide) (Nat.le_of_ble_eq_true rfl) (fun p e s m below meth c A ls QQ hQQ hex hnm hx hb hr hts hown hlocks hml hA hP hK hD hE hl => ?_)
  have hown : s.vm.findClass RX2 = some m.cls := hown
  have hS : va_S A s.heap s.heap [] := va_S.rf
  have hl : lv_has ls 6 [(0, .ref (cq 0)), (1, .int (nI g_)), (2, .int w_), (3, .int (nI l_))] := hl
  generalize hHe : s.heap = H at hP ⊢
  have hS : va_S A s.heap H [] := hHe ▸ hS
  generalize ([] : List Loc) = locs at hS ⊢
  refine lv_aload_n hx hb dX2_setSource_0 rfl (lv_at hl 0 rfl) ?_
  refine lv_iload_n hx hb dX2_setSource_1 rfl (lv_at hl 1 rfl) ?_
  refine xc_i (xr_V (b := cq 0) (ci := 1) (q0 := 0) (As := [.int (nI g_)]) (rest := []) (mt_X2_isGate l D ca cq (kdC C) (fsC C) (snC C) ak (nI (C 37)) (nI (C 38)) (fI (C 39)) (nI (C 40)) (lN (C 66)) (nI (C 41)) (C 0) (nI g_) (by first | assumption | omega | (simp only [updN, forgetC, changedC]; (repeat' split) <;> omega)) H.size) ⟨hx, hb, hml, hown, hts⟩ (cwV 1 hts (lw_V q1240 q1241 q1242 q80 q1243) rfl rfl rfl (by decide +kernel) ⟨Nat.le_of_ble_eq_true rfl, Nat.le_of_ble_eq_true rfl⟩) EvX_ok hE.1 hK hS (Cut.all hP hD hS hA) rfl rfl rfl hl.1 rfl (Nat.le_of_ble_eq_true rfl) dX2_setSource_2 ⟨Nat.le_of_ble_eq_true rfl, Nat.le_of_ble_eq_true rfl⟩) hS (Cut.all hP hD hS hA) (fun r_1 u_2 H locs hq_2 hP hD hS => ?_)
  have hP : va_P D vwCl (WC ca cq (kdC C) (fsC C) (snC C) ak (nI (C 0)) (nI (C 37)) (nI (C 38)) (fI (C 39)) (nI (C 40)) (lN (C 66)) (nI (C 41))) H := hP
  have hD : va_D A (WC ca cq (kdC C) (fsC C) (snC C) ak (nI (C 0)) (nI (C 37)) (nI (C 38)) (fI (C 39)) (nI (C 40)) (lN (C 66)) (nI (C 41))) := hD
  have hp_2 : r_1 = bI (inR (C 0) (nI g_)) := hq_2
  clear hq_2
  obtain rfl := hp_2
  refine nv_ifb_eq (tgt := 20) hx hb dX2_setSource_5 (by decide) (fun c_5 => (absurd c_5 (by rw [inR_ok hg (by omega)]; decide))) (fun c_5 => ?_)
  refine lv_aload_n hx hb dX2_setSource_8 rfl (lv_at hl 0 rfl) ?_
  refine lv_iload_n hx hb dX2_setSource_9 rfl (lv_at hl 3 rfl) ?_
  refine xc_i (xr_V (b := cq 0) (ci := 1) (q0 := 0) (As := [.int (nI l_)]) (rest := []) (mt_X2_isLine l D ca cq (kdC C) (fsC C) (snC C) ak (nI (C 37)) (nI (C 38)) (fI (C 39)) (nI (C 40)) (lN (C 66)) (nI (C 41)) (C 0) (nI l_) (by first | assumption | omega | (simp only [updN, forgetC, changedC]; (repeat' split) <;> omega)) H.size) ⟨hx, hb, hml, hown, hts⟩ (cwV 1 hts (lw_V q1173 q1174 q1175 q80 q1176) rfl rfl rfl (by decide +kernel) ⟨Nat.le_of_ble_eq_true rfl, Nat.le_of_ble_eq_true rfl⟩) EvX_ok hE.1 hK hS (Cut.all hP hD hS hA) rfl rfl rfl hl.1 rfl (Nat.le_of_ble_eq_true rfl) dX2_setSource_10 ⟨Nat.le_of_ble_eq_true rfl, Nat.le_of_ble_eq_true rfl⟩) hS (Cut.all hP hD hS hA) (fun r_3 u_4 H locs hq_10 hP hD hS => ?_)
  have hP : va_P D vwCl (WC ca cq (kdC C) (fsC C) (snC C) ak (nI (C 0)) (nI (C 37)) (nI (C 38)) (fI (C 39)) (nI (C 40)) (lN (C 66)) (nI (C 41))) H := hP
  have hD : va_D A (WC ca cq (kdC C) (fsC C) (snC C) ak (nI (C 0)) (nI (C 37)) (nI (C 38)) (fI (C 39)) (nI (C 40)) (lN (C 66)) (nI (C 41))) := hD
  have hp_10 : r_3 = bI (inR (6 + (C 0)) (nI l_)) := hq_10
  clear hq_10
  obtain rfl := hp_10
  refine nv_ifb_eq (tgt := 20) hx hb dX2_setSource_13 (by decide) (fun c_13 => (absurd c_13 (by rw [inR_ok hl0 (by omega)]; decide))) (fun c_13 => ?_)
  refine lv_iconst (v := nI 1) hx hb dX2_setSource_16 (by decide) ?_
  refine lv_goto (tgt := 21) hx hb dX2_setSource_17 (by decide) ?_
  refine xc_v (xr_SN (As := [.int (nI 1)]) (rest := []) (mt_X1_needThere_ok l D ca true rfl H.size) ⟨hx, hb, hml, hown, hts⟩ ⟨va_cnB 1 hts (lw_meth q1180) rfl rfl rfl (hE.1.1 _ q1178 rfl) (hts _ q79) (by decide +kernel) ⟨Nat.le_of_ble_eq_true rfl, Nat.le_of_ble_eq_true rfl⟩, hts _ q1179, trivial⟩ Ev0_ok trivial hK hS (Cut.app (wc := []) (wr := (WC ca cq (kdC C) (fsC C) (snC C) ak (nI (C 0)) (nI (C 37)) (nI (C 38)) (fI (C 39)) (nI (C 40)) (lN (C 66)) (nI (C 41)))) hP hD hS hA) rfl hl.1 rfl (Nat.le_of_ble_eq_true rfl) dX2_setSource_21 ⟨Nat.le_of_ble_eq_true rfl, Nat.le_of_ble_eq_true rfl⟩) hS (Cut.app (wc := []) (wr := (WC ca cq (kdC C) (fsC C) (snC C) ak (nI (C 0)) (nI (C 37)) (nI (C 38)) (fI (C 39)) (nI (C 40)) (lN (C 66)) (nI (C 41)))) hP hD hS hA) (fun u_6 H locs hq_21 hP hD hS => ?_)
  have hP : va_P D vwCl (WC ca cq (kdC C) (fsC C) (snC C) ak (nI (C 0)) (nI (C 37)) (nI (C 38)) (fI (C 39)) (nI (C 40)) (lN (C 66)) (nI (C 41))) H := hP
  have hD : va_D A (WC ca cq (kdC C) (fsC C) (snC C) ak (nI (C 0)) (nI (C 37)) (nI (C 38)) (fI (C 39)) (nI (C 40)) (lN (C 66)) (nI (C 41))) := hD
  refine lv_iload_n hx hb dX2_setSource_24 rfl (lv_at hl 2 rfl) ?_
  refine lv_iconst (v := nI 0) hx hb dX2_setSource_25 (by decide) ?_
  refine lv_iconst (v := nI 1) hx hb dX2_setSource_26 (by decide) ?_
  refine xc_i (xr_SN (As := [.int w_, .int (nI 0), .int (nI 1)]) (rest := []) (mt_X1_isWithin l D ca w_ (nI 0) (nI 1)  H.size) ⟨hx, hb, hml, hown, hts⟩ ⟨va_cnB 3 hts (lw_meth q927) rfl rfl rfl (hE.1.1 _ q1177 rfl) (hts _ q79) (by decide +kernel) ⟨Nat.le_of_ble_eq_true rfl, Nat.le_of_ble_eq_true rfl⟩, hts _ q926, trivial⟩ Ev0_ok trivial hK hS (Cut.app (wc := []) (wr := (WC ca cq (kdC C) (fsC C) (snC C) ak (nI (C 0)) (nI (C 37)) (nI (C 38)) (fI (C 39)) (nI (C 40)) (lN (C 66)) (nI (C 41)))) hP hD hS hA) rfl hl.1 rfl (Nat.le_of_ble_eq_true rfl) dX2_setSource_27 ⟨Nat.le_of_ble_eq_true rfl, Nat.le_of_ble_eq_true rfl⟩) hS (Cut.app (wc := []) (wr := (WC ca cq (kdC C) (fsC C) (snC C) ak (nI (C 0)) (nI (C 37)) (nI (C 38)) (fI (C 39)) (nI (C 40)) (lN (C 66)) (nI (C 41)))) hP hD hS hA) (fun r_7 u_8 H locs hq_27 hP hD hS => ?_)
  have hP : va_P D vwCl (WC ca cq (kdC C) (fsC C) (snC C) ak (nI (C 0)) (nI (C 37)) (nI (C 38)) (fI (C 39)) (nI (C 40)) (lN (C 66)) (nI (C 41))) H := hP
  have hD : va_D A (WC ca cq (kdC C) (fsC C) (snC C) ak (nI (C 0)) (nI (C 37)) (nI (C 38)) (fI (C 39)) (nI (C 40)) (lN (C 66)) (nI (C 41))) := hD
  have hp_27 : r_7 = bI (decide ((nI 0) ≤ w_ ∧ w_ ≤ (nI 1))) := hq_27
  clear hq_27
  obtain rfl := hp_27
  refine nv_ifb_eq (tgt := 45) hx hb dX2_setSource_30 (by decide) (fun c_30 => ?_) (fun c_30 => ?_)
  · skip
    refine lv_iconst (v := nI 0) hx hb dX2_setSource_45 (by decide) ?_
    subst hQQ
    exact xt_out (xt_SN (As := [.int (nI 0)]) (rest := []) (mt_X1_needArgument_thr l hlf D ca false rfl H.size) ⟨hx, hb, hml, hown, hts⟩ ⟨va_cnB 1 hts (lw_meth q1047) rfl rfl rfl (hE.1.1 _ q1194 rfl) (hts _ q79) (by decide +kernel) ⟨Nat.le_of_ble_eq_true rfl, Nat.le_of_ble_eq_true rfl⟩, hts _ q1046, trivial⟩ EvY_ok hE hK hS (Cut.app (wc := []) (wr := (WC ca cq (kdC C) (fsC C) (snC C) ak (nI (C 0)) (nI (C 37)) (nI (C 38)) (fI (C 39)) (nI (C 40)) (lN (C 66)) (nI (C 41)))) hP hD hS hA) rfl hl.1 rfl (Nat.le_of_ble_eq_true rfl) dX2_setSource_46 ⟨Nat.le_of_ble_eq_true rfl, Nat.le_of_ble_eq_true rfl⟩) hS (Cut.app (wc := []) (wr := (WC ca cq (kdC C) (fsC C) (snC C) ak (nI (C 0)) (nI (C 37)) (nI (C 38)) (fI (C 39)) (nI (C 40)) (lN (C 66)) (nI (C 41)))) hP hD hS hA) xt_same hex hlocks hK (by decide) (by decide)
  · skip
    rw [inR_lit (by decide)] at c_30
    refine lv_iload_n hx hb dX2_setSource_33 rfl (lv_at hl 3 rfl) ?_
    refine lv_bipush (v := nI 6) hx hb dX2_setSource_34 (by decide) ?_
    refine lv_iload_n hx hb dX2_setSource_36 rfl (lv_at hl 1 rfl) ?_
    refine nv_iadd hx hb dX2_setSource_37 ?_
    refine nv_icmp_ge (tgt := 45) hx hb dX2_setSource_38 (by decide) (by omega) (by omega) (fun c_38 => ?_) (fun c_38 => ?_)
    · skip
      refine lv_iconst (v := nI 0) hx hb dX2_setSource_45 (by decide) ?_
      subst hQQ
      exact xt_out (xt_SN (As := [.int (nI 0)]) (rest := []) (mt_X1_needArgument_thr l hlf D ca false rfl H.size) ⟨hx, hb, hml, hown, hts⟩ ⟨va_cnB 1 hts (lw_meth q1047) rfl rfl rfl (hE.1.1 _ q1194 rfl) (hts _ q79) (by decide +kernel) ⟨Nat.le_of_ble_eq_true rfl, Nat.le_of_ble_eq_true rfl⟩, hts _ q1046, trivial⟩ EvY_ok hE hK hS (Cut.app (wc := []) (wr := (WC ca cq (kdC C) (fsC C) (snC C) ak (nI (C 0)) (nI (C 37)) (nI (C 38)) (fI (C 39)) (nI (C 40)) (lN (C 66)) (nI (C 41)))) hP hD hS hA) rfl hl.1 rfl (Nat.le_of_ble_eq_true rfl) dX2_setSource_46 ⟨Nat.le_of_ble_eq_true rfl, Nat.le_of_ble_eq_true rfl⟩) hS (Cut.app (wc := []) (wr := (WC ca cq (kdC C) (fsC C) (snC C) ak (nI (C 0)) (nI (C 37)) (nI (C 38)) (fI (C 39)) (nI (C 40)) (lN (C 66)) (nI (C 41)))) hP hD hS hA) xt_same hex hlocks hK (by decide) (by decide)
    · skip
      refine lv_iconst (v := nI 1) hx hb dX2_setSource_41 (by decide) ?_
      refine lv_goto (tgt := 46) hx hb dX2_setSource_42 (by decide) ?_
      exfalso; clear hP hD hS hK hts; rw [c_30] at hc; simp at hc; omega
set_option maxHeartbeats 4000000 in
set_option maxRecDepth 100000 in
theorem mt_X2_turnOutput_thrT (l : Launch) (hlf : l.stackTraces = false) (D : va_G) (ca : Nat → ClassId) (cq : Nat → Nat) (ak : Nat → Int32) (C : Nat → Nat) (l_ : Int32) (h0 : C 0 ≤ 12) (hc : inR (6 + C 0) l_ = false) (nn : Nat) : vx_Met l yX2_turnOutput (ws_ yX2_turnOutput cX2_turnOutput 2 (Option.some Jvm.ClassFile.FieldType.int)) ({ frames := 9, cells := 1, slots := 6, locals := 220 } : Room) (va_Pc [.ref (cq 0), .int l_] (PreW EvY D vwCl (TY ca) (WC ca cq (kdC C) (fsC C) (snC C) ak (nI (C 0)) (nI (C 37)) (nI (C 38)) (fI (C 39)) (nI (C 40)) (lN (C 66)) (nI (C 41))) nn)) (QN (va_A (WC ca cq (kdC C) (fsC C) (snC C) ak (nI (C 0)) (nI (C 37)) (nI (C 38)) (fI (C 39)) (nI (C 40)) (lN (C 66)) (nI (C 41))) nn)) (XT "java/lang/IndexOutOfBoundsException" D vwCl (TY ca) (WC ca cq (kdC C) (fsC C) (snC C) ak (nI (C 0)) (nI (C 37)) (nI (C 38)) (fI (C 39)) (nI (C 40)) (lN (C 66)) (nI (C 41))) (va_A (WC ca cq (kdC C) (fsC C) (snC C) ak (nI (C 0)) (nI (C 37)) (nI (C 38)) (fI (C 39)) (nI (C 40)) (lN (C 66)) (nI (C 41))) nn)) 1 6 (va_A (WC ca cq (kdC C) (fsC C) (snC C) ak (nI (C 0)) (nI (C 37)) (nI (C 38)) (fI (C 39)) (nI (C 40)) (lN (C 66)) (nI (C 41))) nn) := by
  refine met_goX (QA := fun A => QN A) (XA := fun A => XT "java/lang/IndexOutOfBoundsException" D vwCl (TY ca) (WC ca cq (kdC C) (fsC C) (snC C) ak (nI (C 0)) (nI (C 37)) (nI (C 38)) (fI (C 39)) (nI (C 40)) (lN (C 66)) (nI (C 41))) A) (by decide) (Nat.le_of_ble_eq_true rfl) (fun p e s m below meth c A ls QQ hQQ hex hnm hx hb hr hts hown hlocks hml hA hP hK hD hE hl => ?_)
  have hown : s.vm.findClass RX2 = some m.cls := hown
  have hS : va_S A s.heap s.heap [] := va_S.rf
  have hl : lv_has ls 2 [(0, .ref (cq 0)), (1, .int l_)] := hl
  generalize hHe : s.heap = H at hP ⊢
  have hS : va_S A s.heap H [] := hHe ▸ hS
  generalize ([] : List Loc) = locs at hS ⊢
  refine lv_aload_n hx hb dX2_turnOutput_0 rfl (lv_at hl 0 rfl) ?_
  refine lv_iload_n hx hb dX2_turnOutput_1 rfl (lv_at hl 1 rfl) ?_
  refine xc_i (xr_V (b := cq 0) (ci := 1) (q0 := 0) (As := [.int l_]) (rest := []) (mt_X2_isLine l D ca cq (kdC C) (fsC C) (snC C) ak (nI (C 37)) (nI (C 38)) (fI (C 39)) (nI (C 40)) (lN (C 66)) (nI (C 41)) (C 0) l_ (by first | assumption | omega | (simp only [updN, forgetC, changedC]; (repeat' split) <;> omega)) H.size) ⟨hx, hb, hml, hown, hts⟩ (cwV 1 hts (lw_V q1173 q1174 q1175 q80 q1176) rfl rfl rfl (by decide +kernel) ⟨Nat.le_of_ble_eq_true rfl, Nat.le_of_ble_eq_true rfl⟩) EvX_ok hE.1 hK hS (Cut.all hP hD hS hA) rfl rfl rfl hl.1 rfl (Nat.le_of_ble_eq_true rfl) dX2_turnOutput_2 ⟨Nat.le_of_ble_eq_true rfl, Nat.le_of_ble_eq_true rfl⟩) hS (Cut.all hP hD hS hA) (fun r_1 u_2 H locs hq_2 hP hD hS => ?_)
  have hP : va_P D vwCl (WC ca cq (kdC C) (fsC C) (snC C) ak (nI (C 0)) (nI (C 37)) (nI (C 38)) (fI (C 39)) (nI (C 40)) (lN (C 66)) (nI (C 41))) H := hP
  have hD : va_D A (WC ca cq (kdC C) (fsC C) (snC C) ak (nI (C 0)) (nI (C 37)) (nI (C 38)) (fI (C 39)) (nI (C 40)) (lN (C 66)) (nI (C 41))) := hD
  have hp_2 : r_1 = bI (inR (6 + (C 0)) l_) := hq_2
  clear hq_2
  obtain rfl := hp_2
  subst hQQ
  exact xt_out (xt_SN (As := [.int (bI (inR (6 + (C 0)) l_))]) (rest := []) (mt_X1_needThere_thr l hlf D ca (inR (6 + (C 0)) l_) hc H.size) ⟨hx, hb, hml, hown, hts⟩ ⟨va_cnB 1 hts (lw_meth q1180) rfl rfl rfl (hE.1.1 _ q1178 rfl) (hts _ q79) (by decide +kernel) ⟨Nat.le_of_ble_eq_true rfl, Nat.le_of_ble_eq_true rfl⟩, hts _ q1179, trivial⟩ EvY_ok hE hK hS (Cut.app (wc := []) (wr := (WC ca cq (kdC C) (fsC C) (snC C) ak (nI (C 0)) (nI (C 37)) (nI (C 38)) (fI (C 39)) (nI (C 40)) (lN (C 66)) (nI (C 41)))) hP hD hS hA) rfl hl.1 rfl (Nat.le_of_ble_eq_true rfl) dX2_turnOutput_5 ⟨Nat.le_of_ble_eq_true rfl, Nat.le_of_ble_eq_true rfl⟩) hS (Cut.app (wc := []) (wr := (WC ca cq (kdC C) (fsC C) (snC C) ak (nI (C 0)) (nI (C 37)) (nI (C 38)) (fI (C 39)) (nI (C 40)) (lN (C 66)) (nI (C 41)))) hP hD hS hA) xt_same hex hlocks hK (by decide) (by decide)
set_option maxHeartbeats 4000000 in
set_option maxRecDepth 100000 in
theorem mt_X2_turnOutput_thrS (l : Launch) (hlf : l.stackTraces = false) (D : va_G) (ca : Nat → ClassId) (cq : Nat → Nat) (ak : Nat → Int32) (C : Nat → Nat) (l_ : Nat) (h0 : C 0 ≤ 12) (hl0 : l_ < 6 + C 0) (ho : C 37 < 2 ^ 18) (hb0 : (C 37).testBit l_ = false) (hc : popc 18 (C 37) = 4) (nn : Nat) : vx_Met l yX2_turnOutput (ws_ yX2_turnOutput cX2_turnOutput 2 (Option.some Jvm.ClassFile.FieldType.int)) ({ frames := 9, cells := 1, slots := 6, locals := 220 } : Room) (va_Pc [.ref (cq 0), .int (nI l_)] (PreW EvY D vwCl (TY ca) (WC ca cq (kdC C) (fsC C) (snC C) ak (nI (C 0)) (nI (C 37)) (nI (C 38)) (fI (C 39)) (nI (C 40)) (lN (C 66)) (nI (C 41))) nn)) (QN (va_A (WC ca cq (kdC C) (fsC C) (snC C) ak (nI (C 0)) (nI (C 37)) (nI (C 38)) (fI (C 39)) (nI (C 40)) (lN (C 66)) (nI (C 41))) nn)) (XT "java/lang/IllegalStateException" D vwCl (TY ca) (WC ca cq (kdC C) (fsC C) (snC C) ak (nI (C 0)) (nI (C 37)) (nI (C 38)) (fI (C 39)) (nI (C 40)) (lN (C 66)) (nI (C 41))) (va_A (WC ca cq (kdC C) (fsC C) (snC C) ak (nI (C 0)) (nI (C 37)) (nI (C 38)) (fI (C 39)) (nI (C 40)) (lN (C 66)) (nI (C 41))) nn)) 1 6 (va_A (WC ca cq (kdC C) (fsC C) (snC C) ak (nI (C 0)) (nI (C 37)) (nI (C 38)) (fI (C 39)) (nI (C 40)) (lN (C 66)) (nI (C 41))) nn) := by
  refine met_goX (QA := fun A => QN A) (XA := fun A => XT "java/lang/IllegalStateException" D vwCl (TY ca) (WC ca cq (kdC C) (fsC C) (snC C) ak (nI (C 0)) (nI (C 37)) (nI (C 38)) (fI (C 39)) (nI (C 40)) (lN (C 66)) (nI (C 41))) A) (by decide) (Nat.le_of_ble_eq_true rfl) (fun p e s m below meth c A ls QQ hQQ hex hnm hx hb hr hts hown hlocks hml hA hP hK hD hE hl => ?_)
  have hown : s.vm.findClass RX2 = some m.cls := hown
  have hS : va_S A s.heap s.heap [] := va_S.rf
  have hl : lv_has ls 2 [(0, .ref (cq 0)), (1, .int (nI l_))] := hl
  generalize hHe : s.heap = H at hP ⊢
  have hS : va_S A s.heap H [] := hHe ▸ hS
  generalize ([] : List Loc) = locs at hS ⊢
  refine lv_aload_n hx hb dX2_turnOutput_0 rfl (lv_at hl 0 rfl) ?_
  refine lv_iload_n hx hb dX2_turnOutput_1 rfl (lv_at hl 1 rfl) ?_
  refine xc_i (xr_V (b := cq 0) (ci := 1) (q0 := 0) (As := [.int (nI l_)]) (rest := []) (mt_X2_isLine l D ca cq (kdC C) (fsC C) (snC C) ak (nI (C 37)) (nI (C 38)) (fI (C 39)) (nI (C 40)) (lN (C 66)) (nI (C 41)) (C 0) (nI l_) (by first | assumption | omega | (simp only [updN, forgetC, changedC]; (repeat' split) <;> omega)) H.size) ⟨hx, hb, hml, hown, hts⟩ (cwV 1 hts (lw_V q1173 q1174 q1175 q80 q1176) rfl rfl rfl (by decide +kernel) ⟨Nat.le_of_ble_eq_true rfl, Nat.le_of_ble_eq_true rfl⟩) EvX_ok hE.1 hK hS (Cut.all hP hD hS hA) rfl rfl rfl hl.1 rfl (Nat.le_of_ble_eq_true rfl) dX2_turnOutput_2 ⟨Nat.le_of_ble_eq_true rfl, Nat.le_of_ble_eq_true rfl⟩) hS (Cut.all hP hD hS hA) (fun r_1 u_2 H locs hq_2 hP hD hS => ?_)
  have hP : va_P D vwCl (WC ca cq (kdC C) (fsC C) (snC C) ak (nI (C 0)) (nI (C 37)) (nI (C 38)) (fI (C 39)) (nI (C 40)) (lN (C 66)) (nI (C 41))) H := hP
  have hD : va_D A (WC ca cq (kdC C) (fsC C) (snC C) ak (nI (C 0)) (nI (C 37)) (nI (C 38)) (fI (C 39)) (nI (C 40)) (lN (C 66)) (nI (C 41))) := hD
  have hp_2 : r_1 = bI (inR (6 + (C 0)) (nI l_)) := hq_2
  clear hq_2
  obtain rfl := hp_2
  refine xc_v (xr_SN (As := [.int (bI (inR (6 + (C 0)) (nI l_)))]) (rest := []) (mt_X1_needThere_ok l D ca (inR (6 + (C 0)) (nI l_)) (inR_ok hl0 (by omega)) H.size) ⟨hx, hb, hml, hown, hts⟩ ⟨va_cnB 1 hts (lw_meth q1180) rfl rfl rfl (hE.1.1 _ q1178 rfl) (hts _ q79) (by decide +kernel) ⟨Nat.le_of_ble_eq_true rfl, Nat.le_of_ble_eq_true rfl⟩, hts _ q1179, trivial⟩ Ev0_ok trivial hK hS (Cut.app (wc := []) (wr := (WC ca cq (kdC C) (fsC C) (snC C) ak (nI (C 0)) (nI (C 37)) (nI (C 38)) (fI (C 39)) (nI (C 40)) (lN (C 66)) (nI (C 41)))) hP hD hS hA) rfl hl.1 rfl (Nat.le_of_ble_eq_true rfl) dX2_turnOutput_5 ⟨Nat.le_of_ble_eq_true rfl, Nat.le_of_ble_eq_true rfl⟩) hS (Cut.app (wc := []) (wr := (WC ca cq (kdC C) (fsC C) (snC C) ak (nI (C 0)) (nI (C 37)) (nI (C 38)) (fI (C 39)) (nI (C 40)) (lN (C 66)) (nI (C 41)))) hP hD hS hA) (fun u_4 H locs hq_5 hP hD hS => ?_)
  have hP : va_P D vwCl (WC ca cq (kdC C) (fsC C) (snC C) ak (nI (C 0)) (nI (C 37)) (nI (C 38)) (fI (C 39)) (nI (C 40)) (lN (C 66)) (nI (C 41))) H := hP
  have hD : va_D A (WC ca cq (kdC C) (fsC C) (snC C) ak (nI (C 0)) (nI (C 37)) (nI (C 38)) (fI (C 39)) (nI (C 40)) (lN (C 66)) (nI (C 41))) := hD
  refine lv_aload_n hx hb dX2_turnOutput_8 rfl (lv_at hl 0 rfl) ?_
  refine gWC_0_outputs_X2 hx hb hts hown hK hP dX2_turnOutput_9 ?_
  refine lv_iload_n hx hb dX2_turnOutput_12 rfl (lv_at hl 1 rfl) ?_
  refine xc_i (xr_SN (As := [.int (nI (C 37)), .int (nI l_)]) (rest := []) (mt_X1_isIn l D ca (C 37) l_ (by first | assumption | omega | (simp only [updN, forgetC, changedC]; (repeat' split) <;> omega)) (by first | assumption | omega | (simp only [updN, forgetC, changedC]; (repeat' split) <;> omega)) H.size) ⟨hx, hb, hml, hown, hts⟩ ⟨va_cnB 2 hts (lw_meth q466) rfl rfl rfl (hE.1.1 _ q1244 rfl) (hts _ q79) (by decide +kernel) ⟨Nat.le_of_ble_eq_true rfl, Nat.le_of_ble_eq_true rfl⟩, hts _ q465, trivial⟩ Ev0_ok trivial hK hS (Cut.app (wc := []) (wr := (WC ca cq (kdC C) (fsC C) (snC C) ak (nI (C 0)) (nI (C 37)) (nI (C 38)) (fI (C 39)) (nI (C 40)) (lN (C 66)) (nI (C 41)))) hP hD hS hA) rfl hl.1 rfl (Nat.le_of_ble_eq_true rfl) dX2_turnOutput_13 ⟨Nat.le_of_ble_eq_true rfl, Nat.le_of_ble_eq_true rfl⟩) hS (Cut.app (wc := []) (wr := (WC ca cq (kdC C) (fsC C) (snC C) ak (nI (C 0)) (nI (C 37)) (nI (C 38)) (fI (C 39)) (nI (C 40)) (lN (C 66)) (nI (C 41)))) hP hD hS hA) (fun r_5 u_6 H locs hq_13 hP hD hS => ?_)
  have hP : va_P D vwCl (WC ca cq (kdC C) (fsC C) (snC C) ak (nI (C 0)) (nI (C 37)) (nI (C 38)) (fI (C 39)) (nI (C 40)) (lN (C 66)) (nI (C 41))) H := hP
  have hD : va_D A (WC ca cq (kdC C) (fsC C) (snC C) ak (nI (C 0)) (nI (C 37)) (nI (C 38)) (fI (C 39)) (nI (C 40)) (lN (C 66)) (nI (C 41))) := hD
  have hp_13 : r_5 = bI ((C 37).testBit l_) := hq_13
  clear hq_13
  obtain rfl := hp_13
  refine nv_ifb_ne (tgt := 30) hx hb dX2_turnOutput_16 (by decide) (fun c_16 => (absurd c_16 (by rw [hb0]; decide))) (fun c_16 => ?_)
  refine lv_aload_n hx hb dX2_turnOutput_19 rfl (lv_at hl 0 rfl) ?_
  refine gWC_0_outputs_X2 hx hb hts hown hK hP dX2_turnOutput_20 ?_
  refine xc_i (xr_S (As := [.int (nI (C 37))]) (rest := []) (mt_J15_bitCount l D ca (C 37) (by first | assumption | omega | (simp only [updN, forgetC, changedC]; (repeat' split) <;> omega)) H.size) ⟨hx, hb, hml, hown, hts⟩ (va_cwS 1 hts (lw_S q1271 q468 q99 q469) rfl rfl rfl (by decide +kernel) ⟨Nat.le_of_ble_eq_true rfl, Nat.le_of_ble_eq_true rfl⟩) Ev0_ok trivial hK hS (Cut.app (wc := []) (wr := (WC ca cq (kdC C) (fsC C) (snC C) ak (nI (C 0)) (nI (C 37)) (nI (C 38)) (fI (C 39)) (nI (C 40)) (lN (C 66)) (nI (C 41)))) hP hD hS hA) rfl hl.1 rfl (Nat.le_of_ble_eq_true rfl) dX2_turnOutput_23 ⟨Nat.le_of_ble_eq_true rfl, Nat.le_of_ble_eq_true rfl⟩) hS (Cut.app (wc := []) (wr := (WC ca cq (kdC C) (fsC C) (snC C) ak (nI (C 0)) (nI (C 37)) (nI (C 38)) (fI (C 39)) (nI (C 40)) (lN (C 66)) (nI (C 41)))) hP hD hS hA) (fun r_7 u_8 H locs hq_23 hP hD hS => ?_)
  have hP : va_P D vwCl (WC ca cq (kdC C) (fsC C) (snC C) ak (nI (C 0)) (nI (C 37)) (nI (C 38)) (fI (C 39)) (nI (C 40)) (lN (C 66)) (nI (C 41))) H := hP
  have hD : va_D A (WC ca cq (kdC C) (fsC C) (snC C) ak (nI (C 0)) (nI (C 37)) (nI (C 38)) (fI (C 39)) (nI (C 40)) (lN (C 66)) (nI (C 41))) := hD
  have hp_23 : r_7 = nI (popc 18 (C 37)) := hq_23
  clear hq_23
  obtain rfl := hp_23
  refine lv_iconst (v := nI 4) hx hb dX2_turnOutput_26 (by decide) ?_
  refine nv_icmp_ge (tgt := 34) hx hb dX2_turnOutput_27 (by decide) (by have := popc_le 18 (C 37); omega) (by omega) (fun c_27 => ?_) (fun c_27 => ?_)
  · skip
    refine lv_iconst (v := nI 0) hx hb dX2_turnOutput_34 (by decide) ?_
    subst hQQ
    exact xt_out (xt_SN (As := [.int (nI 0)]) (rest := []) (mt_X1_needState_thr l hlf D ca false rfl H.size) ⟨hx, hb, hml, hown, hts⟩ ⟨va_cnB 1 hts (lw_meth q1197) rfl rfl rfl (hE.1.1 _ q1195 rfl) (hts _ q79) (by decide +kernel) ⟨Nat.le_of_ble_eq_true rfl, Nat.le_of_ble_eq_true rfl⟩, hts _ q1196, trivial⟩ EvY_ok hE hK hS (Cut.app (wc := []) (wr := (WC ca cq (kdC C) (fsC C) (snC C) ak (nI (C 0)) (nI (C 37)) (nI (C 38)) (fI (C 39)) (nI (C 40)) (lN (C 66)) (nI (C 41)))) hP hD hS hA) rfl hl.1 rfl (Nat.le_of_ble_eq_true rfl) dX2_turnOutput_35 ⟨Nat.le_of_ble_eq_true rfl, Nat.le_of_ble_eq_true rfl⟩) hS (Cut.app (wc := []) (wr := (WC ca cq (kdC C) (fsC C) (snC C) ak (nI (C 0)) (nI (C 37)) (nI (C 38)) (fI (C 39)) (nI (C 40)) (lN (C 66)) (nI (C 41)))) hP hD hS hA) xt_same hex hlocks hK (by decide) (by decide)
  · skip
    refine lv_iconst (v := nI 1) hx hb dX2_turnOutput_30 (by decide) ?_
    refine lv_goto (tgt := 35) hx hb dX2_turnOutput_31 (by decide) ?_
    exfalso; clear hP hD hS hK hts; omega
set_option maxHeartbeats 4000000 in
set_option maxRecDepth 100000 in
theorem mt_X2_turnBox_thrT (l : Launch) (hlf : l.stackTraces = false) (D : va_G) (ca : Nat → ClassId) (cq : Nat → Nat) (ak : Nat → Int32) (C : Nat → Nat) (g_ : Int32) (h0 : C 0 ≤ 12) (hc : inR (C 0) g_ = false) (nn : Nat) : vx_Met l yX2_turnBox (ws_ yX2_turnBox cX2_turnBox 2 (Option.some Jvm.ClassFile.FieldType.int)) ({ frames := 9, cells := 1, slots := 6, locals := 220 } : Room) (va_Pc [.ref (cq 0), .int g_] (PreW EvY D vwCl (TY ca) (WC ca cq (kdC C) (fsC C) (snC C) ak (nI (C 0)) (nI (C 37)) (nI (C 38)) (fI (C 39)) (nI (C 40)) (lN (C 66)) (nI (C 41))) nn)) (QN (va_A (WC ca cq (kdC C) (fsC C) (snC C) ak (nI (C 0)) (nI (C 37)) (nI (C 38)) (fI (C 39)) (nI (C 40)) (lN (C 66)) (nI (C 41))) nn)) (XT "java/lang/IndexOutOfBoundsException" D vwCl (TY ca) (WC ca cq (kdC C) (fsC C) (snC C) ak (nI (C 0)) (nI (C 37)) (nI (C 38)) (fI (C 39)) (nI (C 40)) (lN (C 66)) (nI (C 41))) (va_A (WC ca cq (kdC C) (fsC C) (snC C) ak (nI (C 0)) (nI (C 37)) (nI (C 38)) (fI (C 39)) (nI (C 40)) (lN (C 66)) (nI (C 41))) nn)) 1 6 (va_A (WC ca cq (kdC C) (fsC C) (snC C) ak (nI (C 0)) (nI (C 37)) (nI (C 38)) (fI (C 39)) (nI (C 40)) (lN (C 66)) (nI (C 41))) nn) := by
  refine met_goX (QA := fun A => QN A) (XA := fun A => XT "java/lang/IndexOutOfBoundsException" D vwCl (TY ca) (WC ca cq (kdC C) (fsC C) (snC C) ak (nI (C 0)) (nI (C 37)) (nI (C 38)) (fI (C 39)) (nI (C 40)) (lN (C 66)) (nI (C 41))) A) (by decide) (Nat.le_of_ble_eq_true rfl) (fun p e s m below meth c A ls QQ hQQ hex hnm hx hb hr hts hown hlocks hml hA hP hK hD hE hl => ?_)
  have hown : s.vm.findClass RX2 = some m.cls := hown
  have hS : va_S A s.heap s.heap [] := va_S.rf
  have hl : lv_has ls 2 [(0, .ref (cq 0)), (1, .int g_)] := hl
  generalize hHe : s.heap = H at hP ⊢
  have hS : va_S A s.heap H [] := hHe ▸ hS
  generalize ([] : List Loc) = locs at hS ⊢
  refine lv_aload_n hx hb dX2_turnBox_0 rfl (lv_at hl 0 rfl) ?_
  refine lv_iload_n hx hb dX2_turnBox_1 rfl (lv_at hl 1 rfl) ?_
  refine xc_i (xr_V (b := cq 0) (ci := 1) (q0 := 0) (As := [.int g_]) (rest := []) (mt_X2_isGate l D ca cq (kdC C) (fsC C) (snC C) ak (nI (C 37)) (nI (C 38)) (fI (C 39)) (nI (C 40)) (lN (C 66)) (nI (C 41)) (C 0) g_ (by first | assumption | omega | (simp only [updN, forgetC, changedC]; (repeat' split) <;> omega)) H.size) ⟨hx, hb, hml, hown, hts⟩ (cwV 1 hts (lw_V q1240 q1241 q1242 q80 q1243) rfl rfl rfl (by decide +kernel) ⟨Nat.le_of_ble_eq_true rfl, Nat.le_of_ble_eq_true rfl⟩) EvX_ok hE.1 hK hS (Cut.all hP hD hS hA) rfl rfl rfl hl.1 rfl (Nat.le_of_ble_eq_true rfl) dX2_turnBox_2 ⟨Nat.le_of_ble_eq_true rfl, Nat.le_of_ble_eq_true rfl⟩) hS (Cut.all hP hD hS hA) (fun r_1 u_2 H locs hq_2 hP hD hS => ?_)
  have hP : va_P D vwCl (WC ca cq (kdC C) (fsC C) (snC C) ak (nI (C 0)) (nI (C 37)) (nI (C 38)) (fI (C 39)) (nI (C 40)) (lN (C 66)) (nI (C 41))) H := hP
  have hD : va_D A (WC ca cq (kdC C) (fsC C) (snC C) ak (nI (C 0)) (nI (C 37)) (nI (C 38)) (fI (C 39)) (nI (C 40)) (lN (C 66)) (nI (C 41))) := hD
  have hp_2 : r_1 = bI (inR (C 0) g_) := hq_2
  clear hq_2
  obtain rfl := hp_2
  subst hQQ
  exact xt_out (xt_SN (As := [.int (bI (inR (C 0) g_))]) (rest := []) (mt_X1_needThere_thr l hlf D ca (inR (C 0) g_) hc H.size) ⟨hx, hb, hml, hown, hts⟩ ⟨va_cnB 1 hts (lw_meth q1180) rfl rfl rfl (hE.1.1 _ q1178 rfl) (hts _ q79) (by decide +kernel) ⟨Nat.le_of_ble_eq_true rfl, Nat.le_of_ble_eq_true rfl⟩, hts _ q1179, trivial⟩ EvY_ok hE hK hS (Cut.app (wc := []) (wr := (WC ca cq (kdC C) (fsC C) (snC C) ak (nI (C 0)) (nI (C 37)) (nI (C 38)) (fI (C 39)) (nI (C 40)) (lN (C 66)) (nI (C 41)))) hP hD hS hA) rfl hl.1 rfl (Nat.le_of_ble_eq_true rfl) dX2_turnBox_5 ⟨Nat.le_of_ble_eq_true rfl, Nat.le_of_ble_eq_true rfl⟩) hS (Cut.app (wc := []) (wr := (WC ca cq (kdC C) (fsC C) (snC C) ak (nI (C 0)) (nI (C 37)) (nI (C 38)) (fI (C 39)) (nI (C 40)) (lN (C 66)) (nI (C 41)))) hP hD hS hA) xt_same hex hlocks hK (by decide) (by decide)
set_option maxHeartbeats 4000000 in
set_option maxRecDepth 100000 in
theorem mt_X2_turnBox_thrS (l : Launch) (hlf : l.stackTraces = false) (D : va_G) (ca : Nat → ClassId) (cq : Nat → Nat) (ak : Nat → Int32) (C : Nat → Nat) (g_ : Nat) (h0 : C 0 ≤ 12) (hg : g_ < C 0) (hbx : C 38 < 2 ^ 18) (hkd0 : ∀ k, k < 12 → C (1 + k) < 8) (hb0 : (C 38).testBit g_ = false) (hc : popc 18 (C 38) = 3 ∨ 6 ≤ C (1 + g_)) (hnb : popc 18 (C 38) ≤ 3) (nn : Nat) : vx_Met l yX2_turnBox (ws_ yX2_turnBox cX2_turnBox 2 (Option.some Jvm.ClassFile.FieldType.int)) ({ frames := 9, cells := 1, slots := 6, locals := 220 } : Room) (va_Pc [.ref (cq 0), .int (nI g_)] (PreW EvY D vwCl (TY ca) (WC ca cq (kdC C) (fsC C) (snC C) ak (nI (C 0)) (nI (C 37)) (nI (C 38)) (fI (C 39)) (nI (C 40)) (lN (C 66)) (nI (C 41))) nn)) (QN (va_A (WC ca cq (kdC C) (fsC C) (snC C) ak (nI (C 0)) (nI (C 37)) (nI (C 38)) (fI (C 39)) (nI (C 40)) (lN (C 66)) (nI (C 41))) nn)) (XT "java/lang/IllegalStateException" D vwCl (TY ca) (WC ca cq (kdC C) (fsC C) (snC C) ak (nI (C 0)) (nI (C 37)) (nI (C 38)) (fI (C 39)) (nI (C 40)) (lN (C 66)) (nI (C 41))) (va_A (WC ca cq (kdC C) (fsC C) (snC C) ak (nI (C 0)) (nI (C 37)) (nI (C 38)) (fI (C 39)) (nI (C 40)) (lN (C 66)) (nI (C 41))) nn)) 1 6 (va_A (WC ca cq (kdC C) (fsC C) (snC C) ak (nI (C 0)) (nI (C 37)) (nI (C 38)) (fI (C 39)) (nI (C 40)) (lN (C 66)) (nI (C 41))) nn) := by
  refine met_goX (QA := fun A => QN A) (XA := fun A => XT "java/lang/IllegalStateException" D vwCl (TY ca) (WC ca cq (kdC C) (fsC C) (snC C) ak (nI (C 0)) (nI (C 37)) (nI (C 38)) (fI (C 39)) (nI (C 40)) (lN (C 66)) (nI (C 41))) A) (by decide) (Nat.le_of_ble_eq_true rfl) (fun p e s m below meth c A ls QQ hQQ hex hnm hx hb hr hts hown hlocks hml hA hP hK hD hE hl => ?_)
  have hown : s.vm.findClass RX2 = some m.cls := hown
  have hS : va_S A s.heap s.heap [] := va_S.rf
  have hl : lv_has ls 2 [(0, .ref (cq 0)), (1, .int (nI g_))] := hl
  generalize hHe : s.heap = H at hP ⊢
  have hS : va_S A s.heap H [] := hHe ▸ hS
  generalize ([] : List Loc) = locs at hS ⊢
  refine lv_aload_n hx hb dX2_turnBox_0 rfl (lv_at hl 0 rfl) ?_
  refine lv_iload_n hx hb dX2_turnBox_1 rfl (lv_at hl 1 rfl) ?_
  refine xc_i (xr_V (b := cq 0) (ci := 1) (q0 := 0) (As := [.int (nI g_)]) (rest := []) (mt_X2_isGate l D ca cq (kdC C) (fsC C) (snC C) ak (nI (C 37)) (nI (C 38)) (fI (C 39)) (nI (C 40)) (lN (C 66)) (nI (C 41)) (C 0) (nI g_) (by first | assumption | omega | (simp only [updN, forgetC, changedC]; (repeat' split) <;> omega)) H.size) ⟨hx, hb, hml, hown, hts⟩ (cwV 1 hts (lw_V q1240 q1241 q1242 q80 q1243) rfl rfl rfl (by decide +kernel) ⟨Nat.le_of_ble_eq_true rfl, Nat.le_of_ble_eq_true rfl⟩) EvX_ok hE.1 hK hS (Cut.all hP hD hS hA) rfl rfl rfl hl.1 rfl (Nat.le_of_ble_eq_true rfl) dX2_turnBox_2 ⟨Nat.le_of_ble_eq_true rfl, Nat.le_of_ble_eq_true rfl⟩) hS (Cut.all hP hD hS hA) (fun r_1 u_2 H locs hq_2 hP hD hS => ?_)
  have hP : va_P D vwCl (WC ca cq (kdC C) (fsC C) (snC C) ak (nI (C 0)) (nI (C 37)) (nI (C 38)) (fI (C 39)) (nI (C 40)) (lN (C 66)) (nI (C 41))) H := hP
  have hD : va_D A (WC ca cq (kdC C) (fsC C) (snC C) ak (nI (C 0)) (nI (C 37)) (nI (C 38)) (fI (C 39)) (nI (C 40)) (lN (C 66)) (nI (C 41))) := hD
  have hp_2 : r_1 = bI (inR (C 0) (nI g_)) := hq_2
  clear hq_2
  obtain rfl := hp_2
  refine xc_v (xr_SN (As := [.int (bI (inR (C 0) (nI g_)))]) (rest := []) (mt_X1_needThere_ok l D ca (inR (C 0) (nI g_)) (inR_ok hg (by omega)) H.size) ⟨hx, hb, hml, hown, hts⟩ ⟨va_cnB 1 hts (lw_meth q1180) rfl rfl rfl (hE.1.1 _ q1178 rfl) (hts _ q79) (by decide +kernel) ⟨Nat.le_of_ble_eq_true rfl, Nat.le_of_ble_eq_true rfl⟩, hts _ q1179, trivial⟩ Ev0_ok trivial hK hS (Cut.app (wc := []) (wr := (WC ca cq (kdC C) (fsC C) (snC C) ak (nI (C 0)) (nI (C 37)) (nI (C 38)) (fI (C 39)) (nI (C 40)) (lN (C 66)) (nI (C 41)))) hP hD hS hA) rfl hl.1 rfl (Nat.le_of_ble_eq_true rfl) dX2_turnBox_5 ⟨Nat.le_of_ble_eq_true rfl, Nat.le_of_ble_eq_true rfl⟩) hS (Cut.app (wc := []) (wr := (WC ca cq (kdC C) (fsC C) (snC C) ak (nI (C 0)) (nI (C 37)) (nI (C 38)) (fI (C 39)) (nI (C 40)) (lN (C 66)) (nI (C 41)))) hP hD hS hA) (fun u_4 H locs hq_5 hP hD hS => ?_)
  have hP : va_P D vwCl (WC ca cq (kdC C) (fsC C) (snC C) ak (nI (C 0)) (nI (C 37)) (nI (C 38)) (fI (C 39)) (nI (C 40)) (lN (C 66)) (nI (C 41))) H := hP
  have hD : va_D A (WC ca cq (kdC C) (fsC C) (snC C) ak (nI (C 0)) (nI (C 37)) (nI (C 38)) (fI (C 39)) (nI (C 40)) (lN (C 66)) (nI (C 41))) := hD
  refine lv_aload_n hx hb dX2_turnBox_8 rfl (lv_at hl 0 rfl) ?_
  refine gWC_0_boxes_X2 hx hb hts hown hK hP dX2_turnBox_9 ?_
  refine lv_iload_n hx hb dX2_turnBox_12 rfl (lv_at hl 1 rfl) ?_
  refine xc_i (xr_SN (As := [.int (nI (C 38)), .int (nI g_)]) (rest := []) (mt_X1_isIn l D ca (C 38) g_ (by first | assumption | omega | (simp only [updN, forgetC, changedC]; (repeat' split) <;> omega)) (by first | assumption | omega | (simp only [updN, forgetC, changedC]; (repeat' split) <;> omega)) H.size) ⟨hx, hb, hml, hown, hts⟩ ⟨va_cnB 2 hts (lw_meth q466) rfl rfl rfl (hE.1.1 _ q1244 rfl) (hts _ q79) (by decide +kernel) ⟨Nat.le_of_ble_eq_true rfl, Nat.le_of_ble_eq_true rfl⟩, hts _ q465, trivial⟩ Ev0_ok trivial hK hS (Cut.app (wc := []) (wr := (WC ca cq (kdC C) (fsC C) (snC C) ak (nI (C 0)) (nI (C 37)) (nI (C 38)) (fI (C 39)) (nI (C 40)) (lN (C 66)) (nI (C 41)))) hP hD hS hA) rfl hl.1 rfl (Nat.le_of_ble_eq_true rfl) dX2_turnBox_13 ⟨Nat.le_of_ble_eq_true rfl, Nat.le_of_ble_eq_true rfl⟩) hS (Cut.app (wc := []) (wr := (WC ca cq (kdC C) (fsC C) (snC C) ak (nI (C 0)) (nI (C 37)) (nI (C 38)) (fI (C 39)) (nI (C 40)) (lN (C 66)) (nI (C 41)))) hP hD hS hA) (fun r_5 u_6 H locs hq_13 hP hD hS => ?_)
  have hP : va_P D vwCl (WC ca cq (kdC C) (fsC C) (snC C) ak (nI (C 0)) (nI (C 37)) (nI (C 38)) (fI (C 39)) (nI (C 40)) (lN (C 66)) (nI (C 41))) H := hP
  have hD : va_D A (WC ca cq (kdC C) (fsC C) (snC C) ak (nI (C 0)) (nI (C 37)) (nI (C 38)) (fI (C 39)) (nI (C 40)) (lN (C 66)) (nI (C 41))) := hD
  have hp_13 : r_5 = bI ((C 38).testBit g_) := hq_13
  clear hq_13
  obtain rfl := hp_13
  refine nv_ifb_ne (tgt := 41) hx hb dX2_turnBox_16 (by decide) (fun c_16 => (absurd c_16 (by rw [hb0]; decide))) (fun c_16 => ?_)
  refine lv_aload_n hx hb dX2_turnBox_19 rfl (lv_at hl 0 rfl) ?_
  refine gWC_0_boxes_X2 hx hb hts hown hK hP dX2_turnBox_20 ?_
  refine xc_i (xr_S (As := [.int (nI (C 38))]) (rest := []) (mt_J15_bitCount l D ca (C 38) (by first | assumption | omega | (simp only [updN, forgetC, changedC]; (repeat' split) <;> omega)) H.size) ⟨hx, hb, hml, hown, hts⟩ (va_cwS 1 hts (lw_S q1271 q468 q99 q469) rfl rfl rfl (by decide +kernel) ⟨Nat.le_of_ble_eq_true rfl, Nat.le_of_ble_eq_true rfl⟩) Ev0_ok trivial hK hS (Cut.app (wc := []) (wr := (WC ca cq (kdC C) (fsC C) (snC C) ak (nI (C 0)) (nI (C 37)) (nI (C 38)) (fI (C 39)) (nI (C 40)) (lN (C 66)) (nI (C 41)))) hP hD hS hA) rfl hl.1 rfl (Nat.le_of_ble_eq_true rfl) dX2_turnBox_23 ⟨Nat.le_of_ble_eq_true rfl, Nat.le_of_ble_eq_true rfl⟩) hS (Cut.app (wc := []) (wr := (WC ca cq (kdC C) (fsC C) (snC C) ak (nI (C 0)) (nI (C 37)) (nI (C 38)) (fI (C 39)) (nI (C 40)) (lN (C 66)) (nI (C 41)))) hP hD hS hA) (fun r_7 u_8 H locs hq_23 hP hD hS => ?_)
  have hP : va_P D vwCl (WC ca cq (kdC C) (fsC C) (snC C) ak (nI (C 0)) (nI (C 37)) (nI (C 38)) (fI (C 39)) (nI (C 40)) (lN (C 66)) (nI (C 41))) H := hP
  have hD : va_D A (WC ca cq (kdC C) (fsC C) (snC C) ak (nI (C 0)) (nI (C 37)) (nI (C 38)) (fI (C 39)) (nI (C 40)) (lN (C 66)) (nI (C 41))) := hD
  have hp_23 : r_7 = nI (popc 18 (C 38)) := hq_23
  clear hq_23
  obtain rfl := hp_23
  refine lv_iconst (v := nI 3) hx hb dX2_turnBox_26 (by decide) ?_
  refine nv_icmp_ge (tgt := 45) hx hb dX2_turnBox_27 (by decide) (by have := popc_le 18 (C 38); omega) (by omega) (fun c_27 => ?_) (fun c_27 => ?_)
  · skip
    refine lv_iconst (v := nI 0) hx hb dX2_turnBox_45 (by decide) ?_
    subst hQQ
    exact xt_out (xt_SN (As := [.int (nI 0)]) (rest := []) (mt_X1_needState_thr l hlf D ca false rfl H.size) ⟨hx, hb, hml, hown, hts⟩ ⟨va_cnB 1 hts (lw_meth q1197) rfl rfl rfl (hE.1.1 _ q1195 rfl) (hts _ q79) (by decide +kernel) ⟨Nat.le_of_ble_eq_true rfl, Nat.le_of_ble_eq_true rfl⟩, hts _ q1196, trivial⟩ EvY_ok hE hK hS (Cut.app (wc := []) (wr := (WC ca cq (kdC C) (fsC C) (snC C) ak (nI (C 0)) (nI (C 37)) (nI (C 38)) (fI (C 39)) (nI (C 40)) (lN (C 66)) (nI (C 41)))) hP hD hS hA) rfl hl.1 rfl (Nat.le_of_ble_eq_true rfl) dX2_turnBox_46 ⟨Nat.le_of_ble_eq_true rfl, Nat.le_of_ble_eq_true rfl⟩) hS (Cut.app (wc := []) (wr := (WC ca cq (kdC C) (fsC C) (snC C) ak (nI (C 0)) (nI (C 37)) (nI (C 38)) (fI (C 39)) (nI (C 40)) (lN (C 66)) (nI (C 41)))) hP hD hS hA) xt_same hex hlocks hK (by decide) (by decide)
  · skip
    refine lv_aload_n hx hb dX2_turnBox_30 rfl (lv_at hl 0 rfl) ?_
    refine gWC_0_kinds_X2 hx hb hts hown hK hP dX2_turnBox_31 ?_
    refine lv_iload_n hx hb dX2_turnBox_34 rfl (lv_at hl 1 rfl) ?_
    refine ldWC_1 hx hb hK hP (by omega) dX2_turnBox_35 ?_
    refine lv_topi (nm_r (e' := nI (C (1 + g_))) (rfl) ?_)
    refine lv_bipush (v := nI 6) hx hb dX2_turnBox_36 (by decide) ?_
    refine nv_icmp_ge (tgt := 45) hx hb dX2_turnBox_38 (by decide) (by have := hkd0 g_ (by omega); omega) (by omega) (fun c_38 => ?_) (fun c_38 => ?_)
    · skip
      refine lv_iconst (v := nI 0) hx hb dX2_turnBox_45 (by decide) ?_
      subst hQQ
      exact xt_out (xt_SN (As := [.int (nI 0)]) (rest := []) (mt_X1_needState_thr l hlf D ca false rfl H.size) ⟨hx, hb, hml, hown, hts⟩ ⟨va_cnB 1 hts (lw_meth q1197) rfl rfl rfl (hE.1.1 _ q1195 rfl) (hts _ q79) (by decide +kernel) ⟨Nat.le_of_ble_eq_true rfl, Nat.le_of_ble_eq_true rfl⟩, hts _ q1196, trivial⟩ EvY_ok hE hK hS (Cut.app (wc := []) (wr := (WC ca cq (kdC C) (fsC C) (snC C) ak (nI (C 0)) (nI (C 37)) (nI (C 38)) (fI (C 39)) (nI (C 40)) (lN (C 66)) (nI (C 41)))) hP hD hS hA) rfl hl.1 rfl (Nat.le_of_ble_eq_true rfl) dX2_turnBox_46 ⟨Nat.le_of_ble_eq_true rfl, Nat.le_of_ble_eq_true rfl⟩) hS (Cut.app (wc := []) (wr := (WC ca cq (kdC C) (fsC C) (snC C) ak (nI (C 0)) (nI (C 37)) (nI (C 38)) (fI (C 39)) (nI (C 40)) (lN (C 66)) (nI (C 41)))) hP hD hS hA) xt_same hex hlocks hK (by decide) (by decide)
    · skip
      refine lv_iconst (v := nI 1) hx hb dX2_turnBox_41 (by decide) ?_
      refine lv_goto (tgt := 46) hx hb dX2_turnBox_42 (by decide) ?_
      exfalso; clear hP hD hS hK hts; omega
set_option maxHeartbeats 4000000 in
set_option maxRecDepth 100000 in
theorem mt_X1_needFault_thr (l : Launch) (hlf : l.stackTraces = false) (D : va_G) (ca : Nat → ClassId) (cq : Nat → Nat) (xq : Nat → Nat) (ak : Nat → Int32) (tb_ : Nat → Int64) (va : Nat → Int32) (fy : Nat → Int64) (cn : Nat → Int32) (an : Nat → Int32) (sw : Nat → Int64) (sb : Nat → Int64) (sv : Value) (C : Nat → Nat) (x_ : Int32) (h0 : C 0 ≤ 12) (hc : inR (2 * (6 + C 0)) x_ = false) (nn : Nat) : vx_Met l yX1_needFault (ws_ yX1_needFault cX1_needFault 2 (Option.none : Option Jvm.ClassFile.FieldType)) ({ frames := 9, cells := 1, slots := 6, locals := 220 } : Room) (va_Pc [.ref (xq 0), .int x_] (PreW EvY D vwCl (TY ca) (WT ca cq xq (kdC C) (fsC C) (snC C) ak (nI (C 0)) (nI (C 37)) (nI (C 38)) (fI (C 39)) (nI (C 40)) (lN (C 66)) (nI (C 41)) tb_ va fy cn an sw sb sv) nn)) (QN (va_A (WT ca cq xq (kdC C) (fsC C) (snC C) ak (nI (C 0)) (nI (C 37)) (nI (C 38)) (fI (C 39)) (nI (C 40)) (lN (C 66)) (nI (C 41)) tb_ va fy cn an sw sb sv) nn)) (XT "java/lang/IllegalArgumentException" D vwCl (TY ca) (WT ca cq xq (kdC C) (fsC C) (snC C) ak (nI (C 0)) (nI (C 37)) (nI (C 38)) (fI (C 39)) (nI (C 40)) (lN (C 66)) (nI (C 41)) tb_ va fy cn an sw sb sv) (va_A (WT ca cq xq (kdC C) (fsC C) (snC C) ak (nI (C 0)) (nI (C 37)) (nI (C 38)) (fI (C 39)) (nI (C 40)) (lN (C 66)) (nI (C 41)) tb_ va fy cn an sw sb sv) nn)) 1 6 (va_A (WT ca cq xq (kdC C) (fsC C) (snC C) ak (nI (C 0)) (nI (C 37)) (nI (C 38)) (fI (C 39)) (nI (C 40)) (lN (C 66)) (nI (C 41)) tb_ va fy cn an sw sb sv) nn) := by
  refine met_goX (QA := fun A => QN A) (XA := fun A => XT "java/lang/IllegalArgumentException" D vwCl (TY ca) (WT ca cq xq (kdC C) (fsC C) (snC C) ak (nI (C 0)) (nI (C 37)) (nI (C 38)) (fI (C 39)) (nI (C 40)) (lN (C 66)) (nI (C 41)) tb_ va fy cn an sw sb sv) A) (by decide) (Nat.le_of_ble_eq_true rfl) (fun p e s m below meth c A ls QQ hQQ hex hnm hx hb hr hts hown hlocks hml hA hP hK hD hE hl => ?_)
  have hown : s.vm.findClass RX1 = some m.cls := hown
  have hS : va_S A s.heap s.heap [] := va_S.rf
  have hl : lv_has ls 2 [(0, .ref (xq 0)), (1, .int x_)] := hl
  generalize hHe : s.heap = H at hP ⊢
  have hS : va_S A s.heap H [] := hHe ▸ hS
  generalize ([] : List Loc) = locs at hS ⊢
  refine lv_iload_n hx hb dX1_needFault_0 rfl (lv_at hl 1 rfl) ?_
  refine lv_iconst (v := nI 0) hx hb dX1_needFault_1 (by decide) ?_
  refine lv_aload_n hx hb dX1_needFault_2 rfl (lv_at hl 0 rfl) ?_
  refine gWT_5_circuit_X1 hx hb hts hown hK hP dX1_needFault_3 ?_
  refine xc_i (xr_V (b := cq 0) (ci := 1) (q0 := 0) (As := []) (rest := [.int (nI 0), .int x_]) (mt_X2_faults l D ca cq (kdC C) (fsC C) (snC C) ak (nI (C 37)) (nI (C 38)) (fI (C 39)) (nI (C 40)) (lN (C 66)) (nI (C 41)) (C 0)  H.size) ⟨hx, hb, hml, hown, hts⟩ (cwV 0 hts (lw_V q439 q440 q441 q80 q442) rfl rfl rfl (by decide +kernel) ⟨Nat.le_of_ble_eq_true rfl, Nat.le_of_ble_eq_true rfl⟩) EvX_ok hE.1 hK hS (Cut.app (wc := (WC ca cq (kdC C) (fsC C) (snC C) ak (nI (C 0)) (nI (C 37)) (nI (C 38)) (fI (C 39)) (nI (C 40)) (lN (C 66)) (nI (C 41)))) (wr := (WTr ca cq xq tb_ va fy cn an sw sb sv)) hP hD hS hA) rfl rfl rfl hl.1 rfl (Nat.le_of_ble_eq_true rfl) dX1_needFault_6 ⟨Nat.le_of_ble_eq_true rfl, Nat.le_of_ble_eq_true rfl⟩) hS (Cut.app (wc := (WC ca cq (kdC C) (fsC C) (snC C) ak (nI (C 0)) (nI (C 37)) (nI (C 38)) (fI (C 39)) (nI (C 40)) (lN (C 66)) (nI (C 41)))) (wr := (WTr ca cq xq tb_ va fy cn an sw sb sv)) hP hD hS hA) (fun r_1 u_2 H locs hq_6 hP hD hS => ?_)
  have hP : va_P D vwCl (WT ca cq xq (kdC C) (fsC C) (snC C) ak (nI (C 0)) (nI (C 37)) (nI (C 38)) (fI (C 39)) (nI (C 40)) (lN (C 66)) (nI (C 41)) tb_ va fy cn an sw sb sv) H := hP
  have hD : va_D A (WT ca cq xq (kdC C) (fsC C) (snC C) ak (nI (C 0)) (nI (C 37)) (nI (C 38)) (fI (C 39)) (nI (C 40)) (lN (C 66)) (nI (C 41)) tb_ va fy cn an sw sb sv) := hD
  have hp_6 : r_1 = nI (2 * (6 + (C 0))) := hq_6
  clear hq_6
  obtain rfl := hp_6
  refine lv_iconst (v := nI 1) hx hb dX1_needFault_9 (by decide) ?_
  refine lv_isub hx hb dX1_needFault_10 ?_
  refine xc_i (xr_S (As := [.int x_, .int (nI 0), .int ((nI (2 * (6 + (C 0)))) - (nI 1))]) (rest := []) (mt_X1_isWithin l D ca x_ (nI 0) ((nI (2 * (6 + (C 0)))) - (nI 1))  H.size) ⟨hx, hb, hml, hown, hts⟩ (va_cwS 3 hts (lw_S q1044 q926 q79 q927) rfl rfl rfl (by decide +kernel) ⟨Nat.le_of_ble_eq_true rfl, Nat.le_of_ble_eq_true rfl⟩) Ev0_ok trivial hK hS (Cut.app (wc := []) (wr := (WT ca cq xq (kdC C) (fsC C) (snC C) ak (nI (C 0)) (nI (C 37)) (nI (C 38)) (fI (C 39)) (nI (C 40)) (lN (C 66)) (nI (C 41)) tb_ va fy cn an sw sb sv)) hP hD hS hA) rfl hl.1 rfl (Nat.le_of_ble_eq_true rfl) dX1_needFault_11 ⟨Nat.le_of_ble_eq_true rfl, Nat.le_of_ble_eq_true rfl⟩) hS (Cut.app (wc := []) (wr := (WT ca cq xq (kdC C) (fsC C) (snC C) ak (nI (C 0)) (nI (C 37)) (nI (C 38)) (fI (C 39)) (nI (C 40)) (lN (C 66)) (nI (C 41)) tb_ va fy cn an sw sb sv)) hP hD hS hA) (fun r_3 u_4 H locs hq_11 hP hD hS => ?_)
  have hP : va_P D vwCl (WT ca cq xq (kdC C) (fsC C) (snC C) ak (nI (C 0)) (nI (C 37)) (nI (C 38)) (fI (C 39)) (nI (C 40)) (lN (C 66)) (nI (C 41)) tb_ va fy cn an sw sb sv) H := hP
  have hD : va_D A (WT ca cq xq (kdC C) (fsC C) (snC C) ak (nI (C 0)) (nI (C 37)) (nI (C 38)) (fI (C 39)) (nI (C 40)) (lN (C 66)) (nI (C 41)) tb_ va fy cn an sw sb sv) := hD
  have hp_11 : r_3 = bI (decide ((nI 0) ≤ x_ ∧ x_ ≤ ((nI (2 * (6 + (C 0)))) - (nI 1)))) := hq_11
  clear hq_11
  obtain rfl := hp_11
  subst hQQ
  exact xt_out (xt_S (As := [.int (bI (decide ((nI 0) ≤ x_ ∧ x_ ≤ ((nI (2 * (6 + (C 0)))) - (nI 1)))))]) (rest := []) (mt_X1_needArgument_thr l hlf D ca (decide ((nI 0) ≤ x_ ∧ x_ ≤ ((nI (2 * (6 + (C 0)))) - (nI 1)))) ((inR_end (by omega)).trans hc) H.size) ⟨hx, hb, hml, hown, hts⟩ (va_cwS 1 hts (lw_S q1045 q1046 q79 q1047) rfl rfl rfl (by decide +kernel) ⟨Nat.le_of_ble_eq_true rfl, Nat.le_of_ble_eq_true rfl⟩) EvY_ok hE hK hS (Cut.app (wc := []) (wr := (WT ca cq xq (kdC C) (fsC C) (snC C) ak (nI (C 0)) (nI (C 37)) (nI (C 38)) (fI (C 39)) (nI (C 40)) (lN (C 66)) (nI (C 41)) tb_ va fy cn an sw sb sv)) hP hD hS hA) rfl hl.1 rfl (Nat.le_of_ble_eq_true rfl) dX1_needFault_14 ⟨Nat.le_of_ble_eq_true rfl, Nat.le_of_ble_eq_true rfl⟩) hS (Cut.app (wc := []) (wr := (WT ca cq xq (kdC C) (fsC C) (snC C) ak (nI (C 0)) (nI (C 37)) (nI (C 38)) (fI (C 39)) (nI (C 40)) (lN (C 66)) (nI (C 41)) tb_ va fy cn an sw sb sv)) hP hD hS hA) xt_same hex hlocks hK (by decide) (by decide)
set_option maxHeartbeats 4000000 in
set_option maxRecDepth 100000 in
theorem mt_X1_needTest_thr (l : Launch) (hlf : l.stackTraces = false) (D : va_G) (ca : Nat → ClassId) (x_ : Int32) (hc : inR 64 x_ = false) (nn : Nat) : vx_Met l yX1_needTest (ws_ yX1_needTest cX1_needTest 1 (Option.none : Option Jvm.ClassFile.FieldType)) ({ frames := 9, cells := 1, slots := 6, locals := 220 } : Room) (va_Pc [.int x_] (PreW EvY D vwCl (TY ca) ([] : va_W) nn)) (QN (va_A ([] : va_W) nn)) (XT "java/lang/IllegalArgumentException" D vwCl (TY ca) ([] : va_W) (va_A ([] : va_W) nn)) 1 6 (va_A ([] : va_W) nn) := by
  refine met_goX (QA := fun A => QN A) (XA := fun A => XT "java/lang/IllegalArgumentException" D vwCl (TY ca) ([] : va_W) A) (by decide) (Nat.le_of_ble_eq_true rfl) (fun p e s m below meth c A ls QQ hQQ hex hnm hx hb hr hts hown hlocks hml hA hP hK hD hE hl => ?_)
  have hown : s.vm.findClass RX1 = some m.cls := hown
  have hS : va_S A s.heap s.heap [] := va_S.rf
  have hl : lv_has ls 1 [(0, .int x_)] := hl
  generalize hHe : s.heap = H at hP ⊢
  have hS : va_S A s.heap H [] := hHe ▸ hS
  generalize ([] : List Loc) = locs at hS ⊢
  refine lv_iload_n hx hb dX1_needTest_0 rfl (lv_at hl 0 rfl) ?_
  refine lv_iconst (v := nI 0) hx hb dX1_needTest_1 (by decide) ?_
  refine lv_bipush (v := nI 63) hx hb dX1_needTest_2 (by decide) ?_
  refine xc_i (xr_S (As := [.int x_, .int (nI 0), .int (nI 63)]) (rest := []) (mt_X1_isWithin l D ca x_ (nI 0) (nI 63)  H.size) ⟨hx, hb, hml, hown, hts⟩ (va_cwS 3 hts (lw_S q1044 q926 q79 q927) rfl rfl rfl (by decide +kernel) ⟨Nat.le_of_ble_eq_true rfl, Nat.le_of_ble_eq_true rfl⟩) Ev0_ok trivial hK hS (Cut.app (wc := []) (wr := ([] : va_W)) hP hD hS hA) rfl hl.1 rfl (Nat.le_of_ble_eq_true rfl) dX1_needTest_4 ⟨Nat.le_of_ble_eq_true rfl, Nat.le_of_ble_eq_true rfl⟩) hS (Cut.app (wc := []) (wr := ([] : va_W)) hP hD hS hA) (fun r_1 u_2 H locs hq_4 hP hD hS => ?_)
  have hP : va_P D vwCl ([] : va_W) H := hP
  have hD : va_D A ([] : va_W) := hD
  have hp_4 : r_1 = bI (decide ((nI 0) ≤ x_ ∧ x_ ≤ (nI 63))) := hq_4
  clear hq_4
  obtain rfl := hp_4
  subst hQQ
  exact xt_out (xt_S (As := [.int (bI (decide ((nI 0) ≤ x_ ∧ x_ ≤ (nI 63))))]) (rest := []) (mt_X1_needArgument_thr l hlf D ca (decide ((nI 0) ≤ x_ ∧ x_ ≤ (nI 63))) ((inR_lit (by decide)).trans hc) H.size) ⟨hx, hb, hml, hown, hts⟩ (va_cwS 1 hts (lw_S q1045 q1046 q79 q1047) rfl rfl rfl (by decide +kernel) ⟨Nat.le_of_ble_eq_true rfl, Nat.le_of_ble_eq_true rfl⟩) EvY_ok hE hK hS (Cut.app (wc := []) (wr := ([] : va_W)) hP hD hS hA) rfl hl.1 rfl (Nat.le_of_ble_eq_true rfl) dX1_needTest_7 ⟨Nat.le_of_ble_eq_true rfl, Nat.le_of_ble_eq_true rfl⟩) hS (Cut.app (wc := []) (wr := ([] : va_W)) hP hD hS hA) xt_same hex hlocks hK (by decide) (by decide)
set_option maxHeartbeats 4000000 in
set_option maxRecDepth 100000 in
theorem mt_X1_kindOf_thr (l : Launch) (hlf : l.stackTraces = false) (D : va_G) (ca : Nat → ClassId) (cq : Nat → Nat) (xq : Nat → Nat) (ak : Nat → Int32) (tb_ : Nat → Int64) (va : Nat → Int32) (fy : Nat → Int64) (cn : Nat → Int32) (an : Nat → Int32) (sw : Nat → Int64) (sb : Nat → Int64) (sv : Value) (C : Nat → Nat) (g_ : Int32) (h0 : C 0 ≤ 12) (hc : inR (C 0) g_ = false) (nn : Nat) : vx_Met l yX1_kindOf (ws_ yX1_kindOf cX1_kindOf 2 (Option.some Jvm.ClassFile.FieldType.int)) ({ frames := 9, cells := 1, slots := 6, locals := 220 } : Room) (va_Pc [.ref (xq 0), .int g_] (PreW EvY D vwCl (TY ca) (WT ca cq xq (kdC C) (fsC C) (snC C) ak (nI (C 0)) (nI (C 37)) (nI (C 38)) (fI (C 39)) (nI (C 40)) (lN (C 66)) (nI (C 41)) tb_ va fy cn an sw sb sv) nn)) (QN (va_A (WT ca cq xq (kdC C) (fsC C) (snC C) ak (nI (C 0)) (nI (C 37)) (nI (C 38)) (fI (C 39)) (nI (C 40)) (lN (C 66)) (nI (C 41)) tb_ va fy cn an sw sb sv) nn)) (XT "java/lang/IndexOutOfBoundsException" D vwCl (TY ca) (WT ca cq xq (kdC C) (fsC C) (snC C) ak (nI (C 0)) (nI (C 37)) (nI (C 38)) (fI (C 39)) (nI (C 40)) (lN (C 66)) (nI (C 41)) tb_ va fy cn an sw sb sv) (va_A (WT ca cq xq (kdC C) (fsC C) (snC C) ak (nI (C 0)) (nI (C 37)) (nI (C 38)) (fI (C 39)) (nI (C 40)) (lN (C 66)) (nI (C 41)) tb_ va fy cn an sw sb sv) nn)) 1 6 (va_A (WT ca cq xq (kdC C) (fsC C) (snC C) ak (nI (C 0)) (nI (C 37)) (nI (C 38)) (fI (C 39)) (nI (C 40)) (lN (C 66)) (nI (C 41)) tb_ va fy cn an sw sb sv) nn) := by
  refine met_goX (QA := fun A => QN A) (XA := fun A => XT "java/lang/IndexOutOfBoundsException" D vwCl (TY ca) (WT ca cq xq (kdC C) (fsC C) (snC C) ak (nI (C 0)) (nI (C 37)) (nI (C 38)) (fI (C 39)) (nI (C 40)) (lN (C 66)) (nI (C 41)) tb_ va fy cn an sw sb sv) A) (by decide) (Nat.le_of_ble_eq_true rfl) (fun p e s m below meth c A ls QQ hQQ hex hnm hx hb hr hts hown hlocks hml hA hP hK hD hE hl => ?_)
  have hown : s.vm.findClass RX1 = some m.cls := hown
  have hS : va_S A s.heap s.heap [] := va_S.rf
  have hl : lv_has ls 2 [(0, .ref (xq 0)), (1, .int g_)] := hl
  generalize hHe : s.heap = H at hP ⊢
  have hS : va_S A s.heap H [] := hHe ▸ hS
  generalize ([] : List Loc) = locs at hS ⊢
  refine lv_aload_n hx hb dX1_kindOf_0 rfl (lv_at hl 0 rfl) ?_
  refine gWT_5_circuit_X1 hx hb hts hown hK hP dX1_kindOf_1 ?_
  refine lv_iload_n hx hb dX1_kindOf_4 rfl (lv_at hl 1 rfl) ?_
  refine xc_i (xr_V (b := cq 0) (ci := 1) (q0 := 0) (As := [.int g_]) (rest := []) (mt_X2_isGate l D ca cq (kdC C) (fsC C) (snC C) ak (nI (C 37)) (nI (C 38)) (fI (C 39)) (nI (C 40)) (lN (C 66)) (nI (C 41)) (C 0) g_ (by first | assumption | omega | (simp only [updN, forgetC, changedC]; (repeat' split) <;> omega)) H.size) ⟨hx, hb, hml, hown, hts⟩ (cwV 1 hts (lw_V q1470 q1241 q1242 q80 q1243) rfl rfl rfl (by decide +kernel) ⟨Nat.le_of_ble_eq_true rfl, Nat.le_of_ble_eq_true rfl⟩) EvX_ok hE.1 hK hS (Cut.app (wc := (WC ca cq (kdC C) (fsC C) (snC C) ak (nI (C 0)) (nI (C 37)) (nI (C 38)) (fI (C 39)) (nI (C 40)) (lN (C 66)) (nI (C 41)))) (wr := (WTr ca cq xq tb_ va fy cn an sw sb sv)) hP hD hS hA) rfl rfl rfl hl.1 rfl (Nat.le_of_ble_eq_true rfl) dX1_kindOf_5 ⟨Nat.le_of_ble_eq_true rfl, Nat.le_of_ble_eq_true rfl⟩) hS (Cut.app (wc := (WC ca cq (kdC C) (fsC C) (snC C) ak (nI (C 0)) (nI (C 37)) (nI (C 38)) (fI (C 39)) (nI (C 40)) (lN (C 66)) (nI (C 41)))) (wr := (WTr ca cq xq tb_ va fy cn an sw sb sv)) hP hD hS hA) (fun r_1 u_2 H locs hq_5 hP hD hS => ?_)
  have hP : va_P D vwCl (WT ca cq xq (kdC C) (fsC C) (snC C) ak (nI (C 0)) (nI (C 37)) (nI (C 38)) (fI (C 39)) (nI (C 40)) (lN (C 66)) (nI (C 41)) tb_ va fy cn an sw sb sv) H := hP
  have hD : va_D A (WT ca cq xq (kdC C) (fsC C) (snC C) ak (nI (C 0)) (nI (C 37)) (nI (C 38)) (fI (C 39)) (nI (C 40)) (lN (C 66)) (nI (C 41)) tb_ va fy cn an sw sb sv) := hD
  have hp_5 : r_1 = bI (inR (C 0) g_) := hq_5
  clear hq_5
  obtain rfl := hp_5
  subst hQQ
  exact xt_out (xt_S (As := [.int (bI (inR (C 0) g_))]) (rest := []) (mt_X1_needThere_thr l hlf D ca (inR (C 0) g_) hc H.size) ⟨hx, hb, hml, hown, hts⟩ (va_cwS 1 hts (lw_S q1471 q1179 q79 q1180) rfl rfl rfl (by decide +kernel) ⟨Nat.le_of_ble_eq_true rfl, Nat.le_of_ble_eq_true rfl⟩) EvY_ok hE hK hS (Cut.app (wc := []) (wr := (WT ca cq xq (kdC C) (fsC C) (snC C) ak (nI (C 0)) (nI (C 37)) (nI (C 38)) (fI (C 39)) (nI (C 40)) (lN (C 66)) (nI (C 41)) tb_ va fy cn an sw sb sv)) hP hD hS hA) rfl hl.1 rfl (Nat.le_of_ble_eq_true rfl) dX1_kindOf_8 ⟨Nat.le_of_ble_eq_true rfl, Nat.le_of_ble_eq_true rfl⟩) hS (Cut.app (wc := []) (wr := (WT ca cq xq (kdC C) (fsC C) (snC C) ak (nI (C 0)) (nI (C 37)) (nI (C 38)) (fI (C 39)) (nI (C 40)) (lN (C 66)) (nI (C 41)) tb_ va fy cn an sw sb sv)) hP hD hS hA) xt_same hex hlocks hK (by decide) (by decide)
set_option maxHeartbeats 4000000 in
set_option maxRecDepth 100000 in
theorem mt_X1_sourceOf_thrT (l : Launch) (hlf : l.stackTraces = false) (D : va_G) (ca : Nat → ClassId) (cq : Nat → Nat) (xq : Nat → Nat) (ak : Nat → Int32) (tb_ : Nat → Int64) (va : Nat → Int32) (fy : Nat → Int64) (cn : Nat → Int32) (an : Nat → Int32) (sw : Nat → Int64) (sb : Nat → Int64) (sv : Value) (C : Nat → Nat) (g_ : Int32) (w_ : Int32) (h0 : C 0 ≤ 12) (hc : inR (C 0) g_ = false) (nn : Nat) : vx_Met l yX1_sourceOf (ws_ yX1_sourceOf cX1_sourceOf 3 (Option.some Jvm.ClassFile.FieldType.int)) ({ frames := 9, cells := 1, slots := 6, locals := 220 } : Room) (va_Pc [.ref (xq 0), .int g_, .int w_] (PreW EvY D vwCl (TY ca) (WT ca cq xq (kdC C) (fsC C) (snC C) ak (nI (C 0)) (nI (C 37)) (nI (C 38)) (fI (C 39)) (nI (C 40)) (lN (C 66)) (nI (C 41)) tb_ va fy cn an sw sb sv) nn)) (QN (va_A (WT ca cq xq (kdC C) (fsC C) (snC C) ak (nI (C 0)) (nI (C 37)) (nI (C 38)) (fI (C 39)) (nI (C 40)) (lN (C 66)) (nI (C 41)) tb_ va fy cn an sw sb sv) nn)) (XT "java/lang/IndexOutOfBoundsException" D vwCl (TY ca) (WT ca cq xq (kdC C) (fsC C) (snC C) ak (nI (C 0)) (nI (C 37)) (nI (C 38)) (fI (C 39)) (nI (C 40)) (lN (C 66)) (nI (C 41)) tb_ va fy cn an sw sb sv) (va_A (WT ca cq xq (kdC C) (fsC C) (snC C) ak (nI (C 0)) (nI (C 37)) (nI (C 38)) (fI (C 39)) (nI (C 40)) (lN (C 66)) (nI (C 41)) tb_ va fy cn an sw sb sv) nn)) 1 6 (va_A (WT ca cq xq (kdC C) (fsC C) (snC C) ak (nI (C 0)) (nI (C 37)) (nI (C 38)) (fI (C 39)) (nI (C 40)) (lN (C 66)) (nI (C 41)) tb_ va fy cn an sw sb sv) nn) := by
  refine met_goX (QA := fun A => QN A) (XA := fun A => XT "java/lang/IndexOutOfBoundsException" D vwCl (TY ca) (WT ca cq xq (kdC C) (fsC C) (snC C) ak (nI (C 0)) (nI (C 37)) (nI (C 38)) (fI (C 39)) (nI (C 40)) (lN (C 66)) (nI (C 41)) tb_ va fy cn an sw sb sv) A) (by decide) (Nat.le_of_ble_eq_true rfl) (fun p e s m below meth c A ls QQ hQQ hex hnm hx hb hr hts hown hlocks hml hA hP hK hD hE hl => ?_)
  have hown : s.vm.findClass RX1 = some m.cls := hown
  have hS : va_S A s.heap s.heap [] := va_S.rf
  have hl : lv_has ls 3 [(0, .ref (xq 0)), (1, .int g_), (2, .int w_)] := hl
  generalize hHe : s.heap = H at hP ⊢
  have hS : va_S A s.heap H [] := hHe ▸ hS
  generalize ([] : List Loc) = locs at hS ⊢
  refine lv_aload_n hx hb dX1_sourceOf_0 rfl (lv_at hl 0 rfl) ?_
  refine gWT_5_circuit_X1 hx hb hts hown hK hP dX1_sourceOf_1 ?_
  refine lv_iload_n hx hb dX1_sourceOf_4 rfl (lv_at hl 1 rfl) ?_
  refine xc_i (xr_V (b := cq 0) (ci := 1) (q0 := 0) (As := [.int g_]) (rest := []) (mt_X2_isGate l D ca cq (kdC C) (fsC C) (snC C) ak (nI (C 37)) (nI (C 38)) (fI (C 39)) (nI (C 40)) (lN (C 66)) (nI (C 41)) (C 0) g_ (by first | assumption | omega | (simp only [updN, forgetC, changedC]; (repeat' split) <;> omega)) H.size) ⟨hx, hb, hml, hown, hts⟩ (cwV 1 hts (lw_V q1470 q1241 q1242 q80 q1243) rfl rfl rfl (by decide +kernel) ⟨Nat.le_of_ble_eq_true rfl, Nat.le_of_ble_eq_true rfl⟩) EvX_ok hE.1 hK hS (Cut.app (wc := (WC ca cq (kdC C) (fsC C) (snC C) ak (nI (C 0)) (nI (C 37)) (nI (C 38)) (fI (C 39)) (nI (C 40)) (lN (C 66)) (nI (C 41)))) (wr := (WTr ca cq xq tb_ va fy cn an sw sb sv)) hP hD hS hA) rfl rfl rfl hl.1 rfl (Nat.le_of_ble_eq_true rfl) dX1_sourceOf_5 ⟨Nat.le_of_ble_eq_true rfl, Nat.le_of_ble_eq_true rfl⟩) hS (Cut.app (wc := (WC ca cq (kdC C) (fsC C) (snC C) ak (nI (C 0)) (nI (C 37)) (nI (C 38)) (fI (C 39)) (nI (C 40)) (lN (C 66)) (nI (C 41)))) (wr := (WTr ca cq xq tb_ va fy cn an sw sb sv)) hP hD hS hA) (fun r_1 u_2 H locs hq_5 hP hD hS => ?_)
  have hP : va_P D vwCl (WT ca cq xq (kdC C) (fsC C) (snC C) ak (nI (C 0)) (nI (C 37)) (nI (C 38)) (fI (C 39)) (nI (C 40)) (lN (C 66)) (nI (C 41)) tb_ va fy cn an sw sb sv) H := hP
  have hD : va_D A (WT ca cq xq (kdC C) (fsC C) (snC C) ak (nI (C 0)) (nI (C 37)) (nI (C 38)) (fI (C 39)) (nI (C 40)) (lN (C 66)) (nI (C 41)) tb_ va fy cn an sw sb sv) := hD
  have hp_5 : r_1 = bI (inR (C 0) g_) := hq_5
  clear hq_5
  obtain rfl := hp_5
  subst hQQ
  exact xt_out (xt_S (As := [.int (bI (inR (C 0) g_))]) (rest := []) (mt_X1_needThere_thr l hlf D ca (inR (C 0) g_) hc H.size) ⟨hx, hb, hml, hown, hts⟩ (va_cwS 1 hts (lw_S q1471 q1179 q79 q1180) rfl rfl rfl (by decide +kernel) ⟨Nat.le_of_ble_eq_true rfl, Nat.le_of_ble_eq_true rfl⟩) EvY_ok hE hK hS (Cut.app (wc := []) (wr := (WT ca cq xq (kdC C) (fsC C) (snC C) ak (nI (C 0)) (nI (C 37)) (nI (C 38)) (fI (C 39)) (nI (C 40)) (lN (C 66)) (nI (C 41)) tb_ va fy cn an sw sb sv)) hP hD hS hA) rfl hl.1 rfl (Nat.le_of_ble_eq_true rfl) dX1_sourceOf_8 ⟨Nat.le_of_ble_eq_true rfl, Nat.le_of_ble_eq_true rfl⟩) hS (Cut.app (wc := []) (wr := (WT ca cq xq (kdC C) (fsC C) (snC C) ak (nI (C 0)) (nI (C 37)) (nI (C 38)) (fI (C 39)) (nI (C 40)) (lN (C 66)) (nI (C 41)) tb_ va fy cn an sw sb sv)) hP hD hS hA) xt_same hex hlocks hK (by decide) (by decide)
set_option maxHeartbeats 4000000 in
set_option maxRecDepth 100000 in
theorem mt_X1_sourceOf_thrA (l : Launch) (hlf : l.stackTraces = false) (D : va_G) (ca : Nat → ClassId) (cq : Nat → Nat) (xq : Nat → Nat) (ak : Nat → Int32) (tb_ : Nat → Int64) (va : Nat → Int32) (fy : Nat → Int64) (cn : Nat → Int32) (an : Nat → Int32) (sw : Nat → Int64) (sb : Nat → Int64) (sv : Value) (C : Nat → Nat) (g_ : Nat) (w_ : Int32) (h0 : C 0 ≤ 12) (hg : g_ < C 0) (hc : inR 2 w_ = false) (nn : Nat) : vx_Met l yX1_sourceOf (ws_ yX1_sourceOf cX1_sourceOf 3 (Option.some Jvm.ClassFile.FieldType.int)) ({ frames := 9, cells := 1, slots := 6, locals := 220 } : Room) (va_Pc [.ref (xq 0), .int (nI g_), .int w_] (PreW EvY D vwCl (TY ca) (WT ca cq xq (kdC C) (fsC C) (snC C) ak (nI (C 0)) (nI (C 37)) (nI (C 38)) (fI (C 39)) (nI (C 40)) (lN (C 66)) (nI (C 41)) tb_ va fy cn an sw sb sv) nn)) (QN (va_A (WT ca cq xq (kdC C) (fsC C) (snC C) ak (nI (C 0)) (nI (C 37)) (nI (C 38)) (fI (C 39)) (nI (C 40)) (lN (C 66)) (nI (C 41)) tb_ va fy cn an sw sb sv) nn)) (XT "java/lang/IllegalArgumentException" D vwCl (TY ca) (WT ca cq xq (kdC C) (fsC C) (snC C) ak (nI (C 0)) (nI (C 37)) (nI (C 38)) (fI (C 39)) (nI (C 40)) (lN (C 66)) (nI (C 41)) tb_ va fy cn an sw sb sv) (va_A (WT ca cq xq (kdC C) (fsC C) (snC C) ak (nI (C 0)) (nI (C 37)) (nI (C 38)) (fI (C 39)) (nI (C 40)) (lN (C 66)) (nI (C 41)) tb_ va fy cn an sw sb sv) nn)) 1 6 (va_A (WT ca cq xq (kdC C) (fsC C) (snC C) ak (nI (C 0)) (nI (C 37)) (nI (C 38)) (fI (C 39)) (nI (C 40)) (lN (C 66)) (nI (C 41)) tb_ va fy cn an sw sb sv) nn) := by
  refine met_goX (QA := fun A => QN A) (XA := fun A => XT "java/lang/IllegalArgumentException" D vwCl (TY ca) (WT ca cq xq (kdC C) (fsC C) (snC C) ak (nI (C 0)) (nI (C 37)) (nI (C 38)) (fI (C 39)) (nI (C 40)) (lN (C 66)) (nI (C 41)) tb_ va fy cn an sw sb sv) A) (by decide) (Nat.le_of_ble_eq_true rfl) (fun p e s m below meth c A ls QQ hQQ hex hnm hx hb hr hts hown hlocks hml hA hP hK hD hE hl => ?_)
  have hown : s.vm.findClass RX1 = some m.cls := hown
  have hS : va_S A s.heap s.heap [] := va_S.rf
  have hl : lv_has ls 3 [(0, .ref (xq 0)), (1, .int (nI g_)), (2, .int w_)] := hl
  generalize hHe : s.heap = H at hP ⊢
  have hS : va_S A s.heap H [] := hHe ▸ hS
  generalize ([] : List Loc) = locs at hS ⊢
  refine lv_aload_n hx hb dX1_sourceOf_0 rfl (lv_at hl 0 rfl) ?_
  refine gWT_5_circuit_X1 hx hb hts hown hK hP dX1_sourceOf_1 ?_
  refine lv_iload_n hx hb dX1_sourceOf_4 rfl (lv_at hl 1 rfl) ?_
  refine xc_i (xr_V (b := cq 0) (ci := 1) (q0 := 0) (As := [.int (nI g_)]) (rest := []) (mt_X2_isGate l D ca cq (kdC C) (fsC C) (snC C) ak (nI (C 37)) (nI (C 38)) (fI (C 39)) (nI (C 40)) (lN (C 66)) (nI (C 41)) (C 0) (nI g_) (by first | assumption | omega | (simp only [updN, forgetC, changedC]; (repeat' split) <;> omega)) H.size) ⟨hx, hb, hml, hown, hts⟩ (cwV 1 hts (lw_V q1470 q1241 q1242 q80 q1243) rfl rfl rfl (by decide +kernel) ⟨Nat.le_of_ble_eq_true rfl, Nat.le_of_ble_eq_true rfl⟩) EvX_ok hE.1 hK hS (Cut.app (wc := (WC ca cq (kdC C) (fsC C) (snC C) ak (nI (C 0)) (nI (C 37)) (nI (C 38)) (fI (C 39)) (nI (C 40)) (lN (C 66)) (nI (C 41)))) (wr := (WTr ca cq xq tb_ va fy cn an sw sb sv)) hP hD hS hA) rfl rfl rfl hl.1 rfl (Nat.le_of_ble_eq_true rfl) dX1_sourceOf_5 ⟨Nat.le_of_ble_eq_true rfl, Nat.le_of_ble_eq_true rfl⟩) hS (Cut.app (wc := (WC ca cq (kdC C) (fsC C) (snC C) ak (nI (C 0)) (nI (C 37)) (nI (C 38)) (fI (C 39)) (nI (C 40)) (lN (C 66)) (nI (C 41)))) (wr := (WTr ca cq xq tb_ va fy cn an sw sb sv)) hP hD hS hA) (fun r_1 u_2 H locs hq_5 hP hD hS => ?_)
  have hP : va_P D vwCl (WT ca cq xq (kdC C) (fsC C) (snC C) ak (nI (C 0)) (nI (C 37)) (nI (C 38)) (fI (C 39)) (nI (C 40)) (lN (C 66)) (nI (C 41)) tb_ va fy cn an sw sb sv) H := hP
  have hD : va_D A (WT ca cq xq (kdC C) (fsC C) (snC C) ak (nI (C 0)) (nI (C 37)) (nI (C 38)) (fI (C 39)) (nI (C 40)) (lN (C 66)) (nI (C 41)) tb_ va fy cn an sw sb sv) := hD
  have hp_5 : r_1 = bI (inR (C 0) (nI g_)) := hq_5
  clear hq_5
  obtain rfl := hp_5
  refine xc_v (xr_S (As := [.int (bI (inR (C 0) (nI g_)))]) (rest := []) (mt_X1_needThere_ok l D ca (inR (C 0) (nI g_)) (inR_ok hg (by omega)) H.size) ⟨hx, hb, hml, hown, hts⟩ (va_cwS 1 hts (lw_S q1471 q1179 q79 q1180) rfl rfl rfl (by decide +kernel) ⟨Nat.le_of_ble_eq_true rfl, Nat.le_of_ble_eq_true rfl⟩) Ev0_ok trivial hK hS (Cut.app (wc := []) (wr := (WT ca cq xq (kdC C) (fsC C) (snC C) ak (nI (C 0)) (nI (C 37)) (nI (C 38)) (fI (C 39)) (nI (C 40)) (lN (C 66)) (nI (C 41)) tb_ va fy cn an sw sb sv)) hP hD hS hA) rfl hl.1 rfl (Nat.le_of_ble_eq_true rfl) dX1_sourceOf_8 ⟨Nat.le_of_ble_eq_true rfl, Nat.le_of_ble_eq_true rfl⟩) hS (Cut.app (wc := []) (wr := (WT ca cq xq (kdC C) (fsC C) (snC C) ak (nI (C 0)) (nI (C 37)) (nI (C 38)) (fI (C 39)) (nI (C 40)) (lN (C 66)) (nI (C 41)) tb_ va fy cn an sw sb sv)) hP hD hS hA) (fun u_4 H locs hq_8 hP hD hS => ?_)
  have hP : va_P D vwCl (WT ca cq xq (kdC C) (fsC C) (snC C) ak (nI (C 0)) (nI (C 37)) (nI (C 38)) (fI (C 39)) (nI (C 40)) (lN (C 66)) (nI (C 41)) tb_ va fy cn an sw sb sv) H := hP
  have hD : va_D A (WT ca cq xq (kdC C) (fsC C) (snC C) ak (nI (C 0)) (nI (C 37)) (nI (C 38)) (fI (C 39)) (nI (C 40)) (lN (C 66)) (nI (C 41)) tb_ va fy cn an sw sb sv) := hD
  refine lv_iload_n hx hb dX1_sourceOf_11 rfl (lv_at hl 2 rfl) ?_
  refine lv_iconst (v := nI 0) hx hb dX1_sourceOf_12 (by decide) ?_
  refine lv_iconst (v := nI 1) hx hb dX1_sourceOf_13 (by decide) ?_
  refine xc_i (xr_S (As := [.int w_, .int (nI 0), .int (nI 1)]) (rest := []) (mt_X1_isWithin l D ca w_ (nI 0) (nI 1)  H.size) ⟨hx, hb, hml, hown, hts⟩ (va_cwS 3 hts (lw_S q1044 q926 q79 q927) rfl rfl rfl (by decide +kernel) ⟨Nat.le_of_ble_eq_true rfl, Nat.le_of_ble_eq_true rfl⟩) Ev0_ok trivial hK hS (Cut.app (wc := []) (wr := (WT ca cq xq (kdC C) (fsC C) (snC C) ak (nI (C 0)) (nI (C 37)) (nI (C 38)) (fI (C 39)) (nI (C 40)) (lN (C 66)) (nI (C 41)) tb_ va fy cn an sw sb sv)) hP hD hS hA) rfl hl.1 rfl (Nat.le_of_ble_eq_true rfl) dX1_sourceOf_14 ⟨Nat.le_of_ble_eq_true rfl, Nat.le_of_ble_eq_true rfl⟩) hS (Cut.app (wc := []) (wr := (WT ca cq xq (kdC C) (fsC C) (snC C) ak (nI (C 0)) (nI (C 37)) (nI (C 38)) (fI (C 39)) (nI (C 40)) (lN (C 66)) (nI (C 41)) tb_ va fy cn an sw sb sv)) hP hD hS hA) (fun r_5 u_6 H locs hq_14 hP hD hS => ?_)
  have hP : va_P D vwCl (WT ca cq xq (kdC C) (fsC C) (snC C) ak (nI (C 0)) (nI (C 37)) (nI (C 38)) (fI (C 39)) (nI (C 40)) (lN (C 66)) (nI (C 41)) tb_ va fy cn an sw sb sv) H := hP
  have hD : va_D A (WT ca cq xq (kdC C) (fsC C) (snC C) ak (nI (C 0)) (nI (C 37)) (nI (C 38)) (fI (C 39)) (nI (C 40)) (lN (C 66)) (nI (C 41)) tb_ va fy cn an sw sb sv) := hD
  have hp_14 : r_5 = bI (decide ((nI 0) ≤ w_ ∧ w_ ≤ (nI 1))) := hq_14
  clear hq_14
  obtain rfl := hp_14
  subst hQQ
  exact xt_out (xt_S (As := [.int (bI (decide ((nI 0) ≤ w_ ∧ w_ ≤ (nI 1))))]) (rest := []) (mt_X1_needArgument_thr l hlf D ca (decide ((nI 0) ≤ w_ ∧ w_ ≤ (nI 1))) ((inR_lit (by decide)).trans hc) H.size) ⟨hx, hb, hml, hown, hts⟩ (va_cwS 1 hts (lw_S q1045 q1046 q79 q1047) rfl rfl rfl (by decide +kernel) ⟨Nat.le_of_ble_eq_true rfl, Nat.le_of_ble_eq_true rfl⟩) EvY_ok hE hK hS (Cut.app (wc := []) (wr := (WT ca cq xq (kdC C) (fsC C) (snC C) ak (nI (C 0)) (nI (C 37)) (nI (C 38)) (fI (C 39)) (nI (C 40)) (lN (C 66)) (nI (C 41)) tb_ va fy cn an sw sb sv)) hP hD hS hA) rfl hl.1 rfl (Nat.le_of_ble_eq_true rfl) dX1_sourceOf_17 ⟨Nat.le_of_ble_eq_true rfl, Nat.le_of_ble_eq_true rfl⟩) hS (Cut.app (wc := []) (wr := (WT ca cq xq (kdC C) (fsC C) (snC C) ak (nI (C 0)) (nI (C 37)) (nI (C 38)) (fI (C 39)) (nI (C 40)) (lN (C 66)) (nI (C 41)) tb_ va fy cn an sw sb sv)) hP hD hS hA) xt_same hex hlocks hK (by decide) (by decide)
set_option maxHeartbeats 4000000 in
set_option maxRecDepth 100000 in
theorem mt_X1_valueOf_thrT (l : Launch) (hlf : l.stackTraces = false) (D : va_G) (ca : Nat → ClassId) (cq : Nat → Nat) (xq : Nat → Nat) (ak : Nat → Int32) (tb_ : Nat → Int64) (va : Nat → Int32) (fy : Nat → Int64) (cn : Nat → Int32) (an : Nat → Int32) (sw : Nat → Int64) (sb : Nat → Int64) (sv : Value) (C : Nat → Nat) (l_ : Int32) (t_ : Int32) (h0 : C 0 ≤ 12) (hc : inR (6 + C 0) l_ = false) (nn : Nat) : vx_Met l yX1_valueOf (ws_ yX1_valueOf cX1_valueOf 3 (Option.some Jvm.ClassFile.FieldType.int)) ({ frames := 9, cells := 1, slots := 6, locals := 220 } : Room) (va_Pc [.ref (xq 0), .int l_, .int t_] (PreW EvY D vwCl (TY ca) (WT ca cq xq (kdC C) (fsC C) (snC C) ak (nI (C 0)) (nI (C 37)) (nI (C 38)) (fI (C 39)) (nI (C 40)) (lN (C 66)) (nI (C 41)) tb_ va fy cn an sw sb sv) nn)) (QN (va_A (WT ca cq xq (kdC C) (fsC C) (snC C) ak (nI (C 0)) (nI (C 37)) (nI (C 38)) (fI (C 39)) (nI (C 40)) (lN (C 66)) (nI (C 41)) tb_ va fy cn an sw sb sv) nn)) (XT "java/lang/IndexOutOfBoundsException" D vwCl (TY ca) (WT ca cq xq (kdC C) (fsC C) (snC C) ak (nI (C 0)) (nI (C 37)) (nI (C 38)) (fI (C 39)) (nI (C 40)) (lN (C 66)) (nI (C 41)) tb_ va fy cn an sw sb sv) (va_A (WT ca cq xq (kdC C) (fsC C) (snC C) ak (nI (C 0)) (nI (C 37)) (nI (C 38)) (fI (C 39)) (nI (C 40)) (lN (C 66)) (nI (C 41)) tb_ va fy cn an sw sb sv) nn)) 1 6 (va_A (WT ca cq xq (kdC C) (fsC C) (snC C) ak (nI (C 0)) (nI (C 37)) (nI (C 38)) (fI (C 39)) (nI (C 40)) (lN (C 66)) (nI (C 41)) tb_ va fy cn an sw sb sv) nn) := by
  refine met_goX (QA := fun A => QN A) (XA := fun A => XT "java/lang/IndexOutOfBoundsException" D vwCl (TY ca) (WT ca cq xq (kdC C) (fsC C) (snC C) ak (nI (C 0)) (nI (C 37)) (nI (C 38)) (fI (C 39)) (nI (C 40)) (lN (C 66)) (nI (C 41)) tb_ va fy cn an sw sb sv) A) (by decide) (Nat.le_of_ble_eq_true rfl) (fun p e s m below meth c A ls QQ hQQ hex hnm hx hb hr hts hown hlocks hml hA hP hK hD hE hl => ?_)
  have hown : s.vm.findClass RX1 = some m.cls := hown
  have hS : va_S A s.heap s.heap [] := va_S.rf
  have hl : lv_has ls 3 [(0, .ref (xq 0)), (1, .int l_), (2, .int t_)] := hl
  generalize hHe : s.heap = H at hP ⊢
  have hS : va_S A s.heap H [] := hHe ▸ hS
  generalize ([] : List Loc) = locs at hS ⊢
  refine lv_aload_n hx hb dX1_valueOf_0 rfl (lv_at hl 0 rfl) ?_
  refine gWT_5_circuit_X1 hx hb hts hown hK hP dX1_valueOf_1 ?_
  refine lv_iload_n hx hb dX1_valueOf_4 rfl (lv_at hl 1 rfl) ?_
  refine xc_i (xr_V (b := cq 0) (ci := 1) (q0 := 0) (As := [.int l_]) (rest := []) (mt_X2_isLine l D ca cq (kdC C) (fsC C) (snC C) ak (nI (C 37)) (nI (C 38)) (fI (C 39)) (nI (C 40)) (lN (C 66)) (nI (C 41)) (C 0) l_ (by first | assumption | omega | (simp only [updN, forgetC, changedC]; (repeat' split) <;> omega)) H.size) ⟨hx, hb, hml, hown, hts⟩ (cwV 1 hts (lw_V q1486 q1174 q1175 q80 q1176) rfl rfl rfl (by decide +kernel) ⟨Nat.le_of_ble_eq_true rfl, Nat.le_of_ble_eq_true rfl⟩) EvX_ok hE.1 hK hS (Cut.app (wc := (WC ca cq (kdC C) (fsC C) (snC C) ak (nI (C 0)) (nI (C 37)) (nI (C 38)) (fI (C 39)) (nI (C 40)) (lN (C 66)) (nI (C 41)))) (wr := (WTr ca cq xq tb_ va fy cn an sw sb sv)) hP hD hS hA) rfl rfl rfl hl.1 rfl (Nat.le_of_ble_eq_true rfl) dX1_valueOf_5 ⟨Nat.le_of_ble_eq_true rfl, Nat.le_of_ble_eq_true rfl⟩) hS (Cut.app (wc := (WC ca cq (kdC C) (fsC C) (snC C) ak (nI (C 0)) (nI (C 37)) (nI (C 38)) (fI (C 39)) (nI (C 40)) (lN (C 66)) (nI (C 41)))) (wr := (WTr ca cq xq tb_ va fy cn an sw sb sv)) hP hD hS hA) (fun r_1 u_2 H locs hq_5 hP hD hS => ?_)
  have hP : va_P D vwCl (WT ca cq xq (kdC C) (fsC C) (snC C) ak (nI (C 0)) (nI (C 37)) (nI (C 38)) (fI (C 39)) (nI (C 40)) (lN (C 66)) (nI (C 41)) tb_ va fy cn an sw sb sv) H := hP
  have hD : va_D A (WT ca cq xq (kdC C) (fsC C) (snC C) ak (nI (C 0)) (nI (C 37)) (nI (C 38)) (fI (C 39)) (nI (C 40)) (lN (C 66)) (nI (C 41)) tb_ va fy cn an sw sb sv) := hD
  have hp_5 : r_1 = bI (inR (6 + (C 0)) l_) := hq_5
  clear hq_5
  obtain rfl := hp_5
  subst hQQ
  exact xt_out (xt_S (As := [.int (bI (inR (6 + (C 0)) l_))]) (rest := []) (mt_X1_needThere_thr l hlf D ca (inR (6 + (C 0)) l_) hc H.size) ⟨hx, hb, hml, hown, hts⟩ (va_cwS 1 hts (lw_S q1471 q1179 q79 q1180) rfl rfl rfl (by decide +kernel) ⟨Nat.le_of_ble_eq_true rfl, Nat.le_of_ble_eq_true rfl⟩) EvY_ok hE hK hS (Cut.app (wc := []) (wr := (WT ca cq xq (kdC C) (fsC C) (snC C) ak (nI (C 0)) (nI (C 37)) (nI (C 38)) (fI (C 39)) (nI (C 40)) (lN (C 66)) (nI (C 41)) tb_ va fy cn an sw sb sv)) hP hD hS hA) rfl hl.1 rfl (Nat.le_of_ble_eq_true rfl) dX1_valueOf_8 ⟨Nat.le_of_ble_eq_true rfl, Nat.le_of_ble_eq_true rfl⟩) hS (Cut.app (wc := []) (wr := (WT ca cq xq (kdC C) (fsC C) (snC C) ak (nI (C 0)) (nI (C 37)) (nI (C 38)) (fI (C 39)) (nI (C 40)) (lN (C 66)) (nI (C 41)) tb_ va fy cn an sw sb sv)) hP hD hS hA) xt_same hex hlocks hK (by decide) (by decide)
set_option maxHeartbeats 4000000 in
set_option maxRecDepth 100000 in
theorem mt_X1_valueOf_thrA (l : Launch) (hlf : l.stackTraces = false) (D : va_G) (ca : Nat → ClassId) (cq : Nat → Nat) (xq : Nat → Nat) (ak : Nat → Int32) (tb_ : Nat → Int64) (va : Nat → Int32) (fy : Nat → Int64) (cn : Nat → Int32) (an : Nat → Int32) (sw : Nat → Int64) (sb : Nat → Int64) (sv : Value) (C : Nat → Nat) (l_ : Nat) (t_ : Int32) (h0 : C 0 ≤ 12) (hl0 : l_ < 6 + C 0) (hc : inR 64 t_ = false) (nn : Nat) : vx_Met l yX1_valueOf (ws_ yX1_valueOf cX1_valueOf 3 (Option.some Jvm.ClassFile.FieldType.int)) ({ frames := 10, cells := 1, slots := 6, locals := 240 } : Room) (va_Pc [.ref (xq 0), .int (nI l_), .int t_] (PreW EvY D vwCl (TY ca) (WT ca cq xq (kdC C) (fsC C) (snC C) ak (nI (C 0)) (nI (C 37)) (nI (C 38)) (fI (C 39)) (nI (C 40)) (lN (C 66)) (nI (C 41)) tb_ va fy cn an sw sb sv) nn)) (QN (va_A (WT ca cq xq (kdC C) (fsC C) (snC C) ak (nI (C 0)) (nI (C 37)) (nI (C 38)) (fI (C 39)) (nI (C 40)) (lN (C 66)) (nI (C 41)) tb_ va fy cn an sw sb sv) nn)) (XT "java/lang/IllegalArgumentException" D vwCl (TY ca) (WT ca cq xq (kdC C) (fsC C) (snC C) ak (nI (C 0)) (nI (C 37)) (nI (C 38)) (fI (C 39)) (nI (C 40)) (lN (C 66)) (nI (C 41)) tb_ va fy cn an sw sb sv) (va_A (WT ca cq xq (kdC C) (fsC C) (snC C) ak (nI (C 0)) (nI (C 37)) (nI (C 38)) (fI (C 39)) (nI (C 40)) (lN (C 66)) (nI (C 41)) tb_ va fy cn an sw sb sv) nn)) 1 6 (va_A (WT ca cq xq (kdC C) (fsC C) (snC C) ak (nI (C 0)) (nI (C 37)) (nI (C 38)) (fI (C 39)) (nI (C 40)) (lN (C 66)) (nI (C 41)) tb_ va fy cn an sw sb sv) nn) := by
  refine met_goX (QA := fun A => QN A) (XA := fun A => XT "java/lang/IllegalArgumentException" D vwCl (TY ca) (WT ca cq xq (kdC C) (fsC C) (snC C) ak (nI (C 0)) (nI (C 37)) (nI (C 38)) (fI (C 39)) (nI (C 40)) (lN (C 66)) (nI (C 41)) tb_ va fy cn an sw sb sv) A) (by decide) (Nat.le_of_ble_eq_true rfl) (fun p e s m below meth c A ls QQ hQQ hex hnm hx hb hr hts hown hlocks hml hA hP hK hD hE hl => ?_)
  have hown : s.vm.findClass RX1 = some m.cls := hown
  have hS : va_S A s.heap s.heap [] := va_S.rf
  have hl : lv_has ls 3 [(0, .ref (xq 0)), (1, .int (nI l_)), (2, .int t_)] := hl
  generalize hHe : s.heap = H at hP ⊢
  have hS : va_S A s.heap H [] := hHe ▸ hS
  generalize ([] : List Loc) = locs at hS ⊢
  refine lv_aload_n hx hb dX1_valueOf_0 rfl (lv_at hl 0 rfl) ?_
  refine gWT_5_circuit_X1 hx hb hts hown hK hP dX1_valueOf_1 ?_
  refine lv_iload_n hx hb dX1_valueOf_4 rfl (lv_at hl 1 rfl) ?_
  refine xc_i (xr_V (b := cq 0) (ci := 1) (q0 := 0) (As := [.int (nI l_)]) (rest := []) (mt_X2_isLine l D ca cq (kdC C) (fsC C) (snC C) ak (nI (C 37)) (nI (C 38)) (fI (C 39)) (nI (C 40)) (lN (C 66)) (nI (C 41)) (C 0) (nI l_) (by first | assumption | omega | (simp only [updN, forgetC, changedC]; (repeat' split) <;> omega)) H.size) ⟨hx, hb, hml, hown, hts⟩ (cwV 1 hts (lw_V q1486 q1174 q1175 q80 q1176) rfl rfl rfl (by decide +kernel) ⟨Nat.le_of_ble_eq_true rfl, Nat.le_of_ble_eq_true rfl⟩) EvX_ok hE.1 hK hS (Cut.app (wc := (WC ca cq (kdC C) (fsC C) (snC C) ak (nI (C 0)) (nI (C 37)) (nI (C 38)) (fI (C 39)) (nI (C 40)) (lN (C 66)) (nI (C 41)))) (wr := (WTr ca cq xq tb_ va fy cn an sw sb sv)) hP hD hS hA) rfl rfl rfl hl.1 rfl (Nat.le_of_ble_eq_true rfl) dX1_valueOf_5 ⟨Nat.le_of_ble_eq_true rfl, Nat.le_of_ble_eq_true rfl⟩) hS (Cut.app (wc := (WC ca cq (kdC C) (fsC C) (snC C) ak (nI (C 0)) (nI (C 37)) (nI (C 38)) (fI (C 39)) (nI (C 40)) (lN (C 66)) (nI (C 41)))) (wr := (WTr ca cq xq tb_ va fy cn an sw sb sv)) hP hD hS hA) (fun r_1 u_2 H locs hq_5 hP hD hS => ?_)
  have hP : va_P D vwCl (WT ca cq xq (kdC C) (fsC C) (snC C) ak (nI (C 0)) (nI (C 37)) (nI (C 38)) (fI (C 39)) (nI (C 40)) (lN (C 66)) (nI (C 41)) tb_ va fy cn an sw sb sv) H := hP
  have hD : va_D A (WT ca cq xq (kdC C) (fsC C) (snC C) ak (nI (C 0)) (nI (C 37)) (nI (C 38)) (fI (C 39)) (nI (C 40)) (lN (C 66)) (nI (C 41)) tb_ va fy cn an sw sb sv) := hD
  have hp_5 : r_1 = bI (inR (6 + (C 0)) (nI l_)) := hq_5
  clear hq_5
  obtain rfl := hp_5
  refine xc_v (xr_S (As := [.int (bI (inR (6 + (C 0)) (nI l_)))]) (rest := []) (mt_X1_needThere_ok l D ca (inR (6 + (C 0)) (nI l_)) (inR_ok hl0 (by omega)) H.size) ⟨hx, hb, hml, hown, hts⟩ (va_cwS 1 hts (lw_S q1471 q1179 q79 q1180) rfl rfl rfl (by decide +kernel) ⟨Nat.le_of_ble_eq_true rfl, Nat.le_of_ble_eq_true rfl⟩) Ev0_ok trivial hK hS (Cut.app (wc := []) (wr := (WT ca cq xq (kdC C) (fsC C) (snC C) ak (nI (C 0)) (nI (C 37)) (nI (C 38)) (fI (C 39)) (nI (C 40)) (lN (C 66)) (nI (C 41)) tb_ va fy cn an sw sb sv)) hP hD hS hA) rfl hl.1 rfl (Nat.le_of_ble_eq_true rfl) dX1_valueOf_8 ⟨Nat.le_of_ble_eq_true rfl, Nat.le_of_ble_eq_true rfl⟩) hS (Cut.app (wc := []) (wr := (WT ca cq xq (kdC C) (fsC C) (snC C) ak (nI (C 0)) (nI (C 37)) (nI (C 38)) (fI (C 39)) (nI (C 40)) (lN (C 66)) (nI (C 41)) tb_ va fy cn an sw sb sv)) hP hD hS hA) (fun u_4 H locs hq_8 hP hD hS => ?_)
  have hP : va_P D vwCl (WT ca cq xq (kdC C) (fsC C) (snC C) ak (nI (C 0)) (nI (C 37)) (nI (C 38)) (fI (C 39)) (nI (C 40)) (lN (C 66)) (nI (C 41)) tb_ va fy cn an sw sb sv) H := hP
  have hD : va_D A (WT ca cq xq (kdC C) (fsC C) (snC C) ak (nI (C 0)) (nI (C 37)) (nI (C 38)) (fI (C 39)) (nI (C 40)) (lN (C 66)) (nI (C 41)) tb_ va fy cn an sw sb sv) := hD
  refine lv_iload_n hx hb dX1_valueOf_11 rfl (lv_at hl 2 rfl) ?_
  subst hQQ
  exact xt_out (xt_S (As := [.int t_]) (rest := []) (mt_X1_needTest_thr l hlf D ca t_ hc H.size) ⟨hx, hb, hml, hown, hts⟩ (va_cwS 1 hts (lw_S q1299 q1300 q79 q1301) rfl rfl rfl (by decide +kernel) ⟨Nat.le_of_ble_eq_true rfl, Nat.le_of_ble_eq_true rfl⟩) EvY_ok hE hK hS (Cut.app (wc := []) (wr := (WT ca cq xq (kdC C) (fsC C) (snC C) ak (nI (C 0)) (nI (C 37)) (nI (C 38)) (fI (C 39)) (nI (C 40)) (lN (C 66)) (nI (C 41)) tb_ va fy cn an sw sb sv)) hP hD hS hA) rfl hl.1 rfl (Nat.le_of_ble_eq_true rfl) dX1_valueOf_12 ⟨Nat.le_of_ble_eq_true rfl, Nat.le_of_ble_eq_true rfl⟩) hS (Cut.app (wc := []) (wr := (WT ca cq xq (kdC C) (fsC C) (snC C) ak (nI (C 0)) (nI (C 37)) (nI (C 38)) (fI (C 39)) (nI (C 40)) (lN (C 66)) (nI (C 41)) tb_ va fy cn an sw sb sv)) hP hD hS hA) xt_same hex hlocks hK (by decide) (by decide)
set_option maxHeartbeats 4000000 in
set_option maxRecDepth 100000 in
theorem mt_X1_tableOf_thr (l : Launch) (hlf : l.stackTraces = false) (D : va_G) (ca : Nat → ClassId) (cq : Nat → Nat) (xq : Nat → Nat) (ak : Nat → Int32) (tb_ : Nat → Int64) (va : Nat → Int32) (fy : Nat → Int64) (cn : Nat → Int32) (an : Nat → Int32) (sw : Nat → Int64) (sb : Nat → Int64) (sv : Value) (C : Nat → Nat) (l_ : Int32) (b_ : Int32) (h0 : C 0 ≤ 12) (hc : inR (6 + C 0) l_ = false) (nn : Nat) : vx_Met l yX1_tableOf (ws_ yX1_tableOf cX1_tableOf 6 (Option.some Jvm.ClassFile.FieldType.long)) ({ frames := 9, cells := 1, slots := 6, locals := 220 } : Room) (va_Pc [.ref (xq 0), .int l_, .int b_] (PreW EvY D vwCl (TY ca) (WT ca cq xq (kdC C) (fsC C) (snC C) ak (nI (C 0)) (nI (C 37)) (nI (C 38)) (fI (C 39)) (nI (C 40)) (lN (C 66)) (nI (C 41)) tb_ va fy cn an sw sb sv) nn)) (QN (va_A (WT ca cq xq (kdC C) (fsC C) (snC C) ak (nI (C 0)) (nI (C 37)) (nI (C 38)) (fI (C 39)) (nI (C 40)) (lN (C 66)) (nI (C 41)) tb_ va fy cn an sw sb sv) nn)) (XT "java/lang/IndexOutOfBoundsException" D vwCl (TY ca) (WT ca cq xq (kdC C) (fsC C) (snC C) ak (nI (C 0)) (nI (C 37)) (nI (C 38)) (fI (C 39)) (nI (C 40)) (lN (C 66)) (nI (C 41)) tb_ va fy cn an sw sb sv) (va_A (WT ca cq xq (kdC C) (fsC C) (snC C) ak (nI (C 0)) (nI (C 37)) (nI (C 38)) (fI (C 39)) (nI (C 40)) (lN (C 66)) (nI (C 41)) tb_ va fy cn an sw sb sv) nn)) 1 6 (va_A (WT ca cq xq (kdC C) (fsC C) (snC C) ak (nI (C 0)) (nI (C 37)) (nI (C 38)) (fI (C 39)) (nI (C 40)) (lN (C 66)) (nI (C 41)) tb_ va fy cn an sw sb sv) nn) := by
  refine met_goX (QA := fun A => QN A) (XA := fun A => XT "java/lang/IndexOutOfBoundsException" D vwCl (TY ca) (WT ca cq xq (kdC C) (fsC C) (snC C) ak (nI (C 0)) (nI (C 37)) (nI (C 38)) (fI (C 39)) (nI (C 40)) (lN (C 66)) (nI (C 41)) tb_ va fy cn an sw sb sv) A) (by decide) (Nat.le_of_ble_eq_true rfl) (fun p e s m below meth c A ls QQ hQQ hex hnm hx hb hr hts hown hlocks hml hA hP hK hD hE hl => ?_)
  have hown : s.vm.findClass RX1 = some m.cls := hown
  have hS : va_S A s.heap s.heap [] := va_S.rf
  have hl : lv_has ls 6 [(0, .ref (xq 0)), (1, .int l_), (2, .int b_)] := hl
  generalize hHe : s.heap = H at hP ⊢
  have hS : va_S A s.heap H [] := hHe ▸ hS
  generalize ([] : List Loc) = locs at hS ⊢
  refine lv_aload_n hx hb dX1_tableOf_0 rfl (lv_at hl 0 rfl) ?_
  refine gWT_5_circuit_X1 hx hb hts hown hK hP dX1_tableOf_1 ?_
  refine lv_iload_n hx hb dX1_tableOf_4 rfl (lv_at hl 1 rfl) ?_
  refine xc_i (xr_V (b := cq 0) (ci := 1) (q0 := 0) (As := [.int l_]) (rest := []) (mt_X2_isLine l D ca cq (kdC C) (fsC C) (snC C) ak (nI (C 37)) (nI (C 38)) (fI (C 39)) (nI (C 40)) (lN (C 66)) (nI (C 41)) (C 0) l_ (by first | assumption | omega | (simp only [updN, forgetC, changedC]; (repeat' split) <;> omega)) H.size) ⟨hx, hb, hml, hown, hts⟩ (cwV 1 hts (lw_V q1486 q1174 q1175 q80 q1176) rfl rfl rfl (by decide +kernel) ⟨Nat.le_of_ble_eq_true rfl, Nat.le_of_ble_eq_true rfl⟩) EvX_ok hE.1 hK hS (Cut.app (wc := (WC ca cq (kdC C) (fsC C) (snC C) ak (nI (C 0)) (nI (C 37)) (nI (C 38)) (fI (C 39)) (nI (C 40)) (lN (C 66)) (nI (C 41)))) (wr := (WTr ca cq xq tb_ va fy cn an sw sb sv)) hP hD hS hA) rfl rfl rfl hl.1 rfl (Nat.le_of_ble_eq_true rfl) dX1_tableOf_5 ⟨Nat.le_of_ble_eq_true rfl, Nat.le_of_ble_eq_true rfl⟩) hS (Cut.app (wc := (WC ca cq (kdC C) (fsC C) (snC C) ak (nI (C 0)) (nI (C 37)) (nI (C 38)) (fI (C 39)) (nI (C 40)) (lN (C 66)) (nI (C 41)))) (wr := (WTr ca cq xq tb_ va fy cn an sw sb sv)) hP hD hS hA) (fun r_1 u_2 H locs hq_5 hP hD hS => ?_)
  have hP : va_P D vwCl (WT ca cq xq (kdC C) (fsC C) (snC C) ak (nI (C 0)) (nI (C 37)) (nI (C 38)) (fI (C 39)) (nI (C 40)) (lN (C 66)) (nI (C 41)) tb_ va fy cn an sw sb sv) H := hP
  have hD : va_D A (WT ca cq xq (kdC C) (fsC C) (snC C) ak (nI (C 0)) (nI (C 37)) (nI (C 38)) (fI (C 39)) (nI (C 40)) (lN (C 66)) (nI (C 41)) tb_ va fy cn an sw sb sv) := hD
  have hp_5 : r_1 = bI (inR (6 + (C 0)) l_) := hq_5
  clear hq_5
  obtain rfl := hp_5
  subst hQQ
  exact xt_out (xt_S (As := [.int (bI (inR (6 + (C 0)) l_))]) (rest := []) (mt_X1_needThere_thr l hlf D ca (inR (6 + (C 0)) l_) hc H.size) ⟨hx, hb, hml, hown, hts⟩ (va_cwS 1 hts (lw_S q1471 q1179 q79 q1180) rfl rfl rfl (by decide +kernel) ⟨Nat.le_of_ble_eq_true rfl, Nat.le_of_ble_eq_true rfl⟩) EvY_ok hE hK hS (Cut.app (wc := []) (wr := (WT ca cq xq (kdC C) (fsC C) (snC C) ak (nI (C 0)) (nI (C 37)) (nI (C 38)) (fI (C 39)) (nI (C 40)) (lN (C 66)) (nI (C 41)) tb_ va fy cn an sw sb sv)) hP hD hS hA) rfl hl.1 rfl (Nat.le_of_ble_eq_true rfl) dX1_tableOf_8 ⟨Nat.le_of_ble_eq_true rfl, Nat.le_of_ble_eq_true rfl⟩) hS (Cut.app (wc := []) (wr := (WT ca cq xq (kdC C) (fsC C) (snC C) ak (nI (C 0)) (nI (C 37)) (nI (C 38)) (fI (C 39)) (nI (C 40)) (lN (C 66)) (nI (C 41)) tb_ va fy cn an sw sb sv)) hP hD hS hA) xt_same hex hlocks hK (by decide) (by decide)
set_option maxHeartbeats 4000000 in
set_option maxRecDepth 100000 in
theorem mt_X1_inputsOf_thr (l : Launch) (hlf : l.stackTraces = false) (D : va_G) (ca : Nat → ClassId) (cq : Nat → Nat) (xq : Nat → Nat) (ak : Nat → Int32) (tb_ : Nat → Int64) (va : Nat → Int32) (fy : Nat → Int64) (cn : Nat → Int32) (an : Nat → Int32) (sw : Nat → Int64) (sb : Nat → Int64) (sv : Value) (C : Nat → Nat) (l_ : Int32) (b_ : Int32) (h0 : C 0 ≤ 12) (hc : inR (6 + C 0) l_ = false) (nn : Nat) : vx_Met l yX1_inputsOf (ws_ yX1_inputsOf cX1_inputsOf 7 (Option.some Jvm.ClassFile.FieldType.int)) ({ frames := 9, cells := 1, slots := 6, locals := 220 } : Room) (va_Pc [.ref (xq 0), .int l_, .int b_] (PreW EvY D vwCl (TY ca) (WT ca cq xq (kdC C) (fsC C) (snC C) ak (nI (C 0)) (nI (C 37)) (nI (C 38)) (fI (C 39)) (nI (C 40)) (lN (C 66)) (nI (C 41)) tb_ va fy cn an sw sb sv) nn)) (QN (va_A (WT ca cq xq (kdC C) (fsC C) (snC C) ak (nI (C 0)) (nI (C 37)) (nI (C 38)) (fI (C 39)) (nI (C 40)) (lN (C 66)) (nI (C 41)) tb_ va fy cn an sw sb sv) nn)) (XT "java/lang/IndexOutOfBoundsException" D vwCl (TY ca) (WT ca cq xq (kdC C) (fsC C) (snC C) ak (nI (C 0)) (nI (C 37)) (nI (C 38)) (fI (C 39)) (nI (C 40)) (lN (C 66)) (nI (C 41)) tb_ va fy cn an sw sb sv) (va_A (WT ca cq xq (kdC C) (fsC C) (snC C) ak (nI (C 0)) (nI (C 37)) (nI (C 38)) (fI (C 39)) (nI (C 40)) (lN (C 66)) (nI (C 41)) tb_ va fy cn an sw sb sv) nn)) 1 6 (va_A (WT ca cq xq (kdC C) (fsC C) (snC C) ak (nI (C 0)) (nI (C 37)) (nI (C 38)) (fI (C 39)) (nI (C 40)) (lN (C 66)) (nI (C 41)) tb_ va fy cn an sw sb sv) nn) := by
  refine met_goX (QA := fun A => QN A) (XA := fun A => XT "java/lang/IndexOutOfBoundsException" D vwCl (TY ca) (WT ca cq xq (kdC C) (fsC C) (snC C) ak (nI (C 0)) (nI (C 37)) (nI (C 38)) (fI (C 39)) (nI (C 40)) (lN (C 66)) (nI (C 41)) tb_ va fy cn an sw sb sv) A) (by decide) (Nat.le_of_ble_eq_true rfl) (fun p e s m below meth c A ls QQ hQQ hex hnm hx hb hr hts hown hlocks hml hA hP hK hD hE hl => ?_)
  have hown : s.vm.findClass RX1 = some m.cls := hown
  have hS : va_S A s.heap s.heap [] := va_S.rf
  have hl : lv_has ls 7 [(0, .ref (xq 0)), (1, .int l_), (2, .int b_)] := hl
  generalize hHe : s.heap = H at hP ⊢
  have hS : va_S A s.heap H [] := hHe ▸ hS
  generalize ([] : List Loc) = locs at hS ⊢
  refine lv_aload_n hx hb dX1_inputsOf_0 rfl (lv_at hl 0 rfl) ?_
  refine gWT_5_circuit_X1 hx hb hts hown hK hP dX1_inputsOf_1 ?_
  refine lv_iload_n hx hb dX1_inputsOf_4 rfl (lv_at hl 1 rfl) ?_
  refine xc_i (xr_V (b := cq 0) (ci := 1) (q0 := 0) (As := [.int l_]) (rest := []) (mt_X2_isLine l D ca cq (kdC C) (fsC C) (snC C) ak (nI (C 37)) (nI (C 38)) (fI (C 39)) (nI (C 40)) (lN (C 66)) (nI (C 41)) (C 0) l_ (by first | assumption | omega | (simp only [updN, forgetC, changedC]; (repeat' split) <;> omega)) H.size) ⟨hx, hb, hml, hown, hts⟩ (cwV 1 hts (lw_V q1486 q1174 q1175 q80 q1176) rfl rfl rfl (by decide +kernel) ⟨Nat.le_of_ble_eq_true rfl, Nat.le_of_ble_eq_true rfl⟩) EvX_ok hE.1 hK hS (Cut.app (wc := (WC ca cq (kdC C) (fsC C) (snC C) ak (nI (C 0)) (nI (C 37)) (nI (C 38)) (fI (C 39)) (nI (C 40)) (lN (C 66)) (nI (C 41)))) (wr := (WTr ca cq xq tb_ va fy cn an sw sb sv)) hP hD hS hA) rfl rfl rfl hl.1 rfl (Nat.le_of_ble_eq_true rfl) dX1_inputsOf_5 ⟨Nat.le_of_ble_eq_true rfl, Nat.le_of_ble_eq_true rfl⟩) hS (Cut.app (wc := (WC ca cq (kdC C) (fsC C) (snC C) ak (nI (C 0)) (nI (C 37)) (nI (C 38)) (fI (C 39)) (nI (C 40)) (lN (C 66)) (nI (C 41)))) (wr := (WTr ca cq xq tb_ va fy cn an sw sb sv)) hP hD hS hA) (fun r_1 u_2 H locs hq_5 hP hD hS => ?_)
  have hP : va_P D vwCl (WT ca cq xq (kdC C) (fsC C) (snC C) ak (nI (C 0)) (nI (C 37)) (nI (C 38)) (fI (C 39)) (nI (C 40)) (lN (C 66)) (nI (C 41)) tb_ va fy cn an sw sb sv) H := hP
  have hD : va_D A (WT ca cq xq (kdC C) (fsC C) (snC C) ak (nI (C 0)) (nI (C 37)) (nI (C 38)) (fI (C 39)) (nI (C 40)) (lN (C 66)) (nI (C 41)) tb_ va fy cn an sw sb sv) := hD
  have hp_5 : r_1 = bI (inR (6 + (C 0)) l_) := hq_5
  clear hq_5
  obtain rfl := hp_5
  subst hQQ
  exact xt_out (xt_S (As := [.int (bI (inR (6 + (C 0)) l_))]) (rest := []) (mt_X1_needThere_thr l hlf D ca (inR (6 + (C 0)) l_) hc H.size) ⟨hx, hb, hml, hown, hts⟩ (va_cwS 1 hts (lw_S q1471 q1179 q79 q1180) rfl rfl rfl (by decide +kernel) ⟨Nat.le_of_ble_eq_true rfl, Nat.le_of_ble_eq_true rfl⟩) EvY_ok hE hK hS (Cut.app (wc := []) (wr := (WT ca cq xq (kdC C) (fsC C) (snC C) ak (nI (C 0)) (nI (C 37)) (nI (C 38)) (fI (C 39)) (nI (C 40)) (lN (C 66)) (nI (C 41)) tb_ va fy cn an sw sb sv)) hP hD hS hA) rfl hl.1 rfl (Nat.le_of_ble_eq_true rfl) dX1_inputsOf_8 ⟨Nat.le_of_ble_eq_true rfl, Nat.le_of_ble_eq_true rfl⟩) hS (Cut.app (wc := []) (wr := (WT ca cq xq (kdC C) (fsC C) (snC C) ak (nI (C 0)) (nI (C 37)) (nI (C 38)) (fI (C 39)) (nI (C 40)) (lN (C 66)) (nI (C 41)) tb_ va fy cn an sw sb sv)) hP hD hS hA) xt_same hex hlocks hK (by decide) (by decide)
set_option maxHeartbeats 4000000 in
set_option maxRecDepth 100000 in
theorem mt_X1_depthOf_thr (l : Launch) (hlf : l.stackTraces = false) (D : va_G) (ca : Nat → ClassId) (cq : Nat → Nat) (xq : Nat → Nat) (ak : Nat → Int32) (tb_ : Nat → Int64) (va : Nat → Int32) (fy : Nat → Int64) (cn : Nat → Int32) (an : Nat → Int32) (sw : Nat → Int64) (sb : Nat → Int64) (sv : Value) (C : Nat → Nat) (l_ : Int32) (h0 : C 0 ≤ 12) (hc : inR (6 + C 0) l_ = false) (nn : Nat) : vx_Met l yX1_depthOf (ws_ yX1_depthOf cX1_depthOf 5 (Option.some Jvm.ClassFile.FieldType.int)) ({ frames := 9, cells := 1, slots := 6, locals := 220 } : Room) (va_Pc [.ref (xq 0), .int l_] (PreW EvY D vwCl (TY ca) (WT ca cq xq (kdC C) (fsC C) (snC C) ak (nI (C 0)) (nI (C 37)) (nI (C 38)) (fI (C 39)) (nI (C 40)) (lN (C 66)) (nI (C 41)) tb_ va fy cn an sw sb sv) nn)) (QN (va_A (WT ca cq xq (kdC C) (fsC C) (snC C) ak (nI (C 0)) (nI (C 37)) (nI (C 38)) (fI (C 39)) (nI (C 40)) (lN (C 66)) (nI (C 41)) tb_ va fy cn an sw sb sv) nn)) (XT "java/lang/IndexOutOfBoundsException" D vwCl (TY ca) (WT ca cq xq (kdC C) (fsC C) (snC C) ak (nI (C 0)) (nI (C 37)) (nI (C 38)) (fI (C 39)) (nI (C 40)) (lN (C 66)) (nI (C 41)) tb_ va fy cn an sw sb sv) (va_A (WT ca cq xq (kdC C) (fsC C) (snC C) ak (nI (C 0)) (nI (C 37)) (nI (C 38)) (fI (C 39)) (nI (C 40)) (lN (C 66)) (nI (C 41)) tb_ va fy cn an sw sb sv) nn)) 1 6 (va_A (WT ca cq xq (kdC C) (fsC C) (snC C) ak (nI (C 0)) (nI (C 37)) (nI (C 38)) (fI (C 39)) (nI (C 40)) (lN (C 66)) (nI (C 41)) tb_ va fy cn an sw sb sv) nn) := by
  refine met_goX (QA := fun A => QN A) (XA := fun A => XT "java/lang/IndexOutOfBoundsException" D vwCl (TY ca) (WT ca cq xq (kdC C) (fsC C) (snC C) ak (nI (C 0)) (nI (C 37)) (nI (C 38)) (fI (C 39)) (nI (C 40)) (lN (C 66)) (nI (C 41)) tb_ va fy cn an sw sb sv) A) (by decide) (Nat.le_of_ble_eq_true rfl) (fun p e s m below meth c A ls QQ hQQ hex hnm hx hb hr hts hown hlocks hml hA hP hK hD hE hl => ?_)
  have hown : s.vm.findClass RX1 = some m.cls := hown
  have hS : va_S A s.heap s.heap [] := va_S.rf
  have hl : lv_has ls 5 [(0, .ref (xq 0)), (1, .int l_)] := hl
  generalize hHe : s.heap = H at hP ⊢
  have hS : va_S A s.heap H [] := hHe ▸ hS
  generalize ([] : List Loc) = locs at hS ⊢
  refine lv_aload_n hx hb dX1_depthOf_0 rfl (lv_at hl 0 rfl) ?_
  refine gWT_5_circuit_X1 hx hb hts hown hK hP dX1_depthOf_1 ?_
  refine lv_iload_n hx hb dX1_depthOf_4 rfl (lv_at hl 1 rfl) ?_
  refine xc_i (xr_V (b := cq 0) (ci := 1) (q0 := 0) (As := [.int l_]) (rest := []) (mt_X2_isLine l D ca cq (kdC C) (fsC C) (snC C) ak (nI (C 37)) (nI (C 38)) (fI (C 39)) (nI (C 40)) (lN (C 66)) (nI (C 41)) (C 0) l_ (by first | assumption | omega | (simp only [updN, forgetC, changedC]; (repeat' split) <;> omega)) H.size) ⟨hx, hb, hml, hown, hts⟩ (cwV 1 hts (lw_V q1486 q1174 q1175 q80 q1176) rfl rfl rfl (by decide +kernel) ⟨Nat.le_of_ble_eq_true rfl, Nat.le_of_ble_eq_true rfl⟩) EvX_ok hE.1 hK hS (Cut.app (wc := (WC ca cq (kdC C) (fsC C) (snC C) ak (nI (C 0)) (nI (C 37)) (nI (C 38)) (fI (C 39)) (nI (C 40)) (lN (C 66)) (nI (C 41)))) (wr := (WTr ca cq xq tb_ va fy cn an sw sb sv)) hP hD hS hA) rfl rfl rfl hl.1 rfl (Nat.le_of_ble_eq_true rfl) dX1_depthOf_5 ⟨Nat.le_of_ble_eq_true rfl, Nat.le_of_ble_eq_true rfl⟩) hS (Cut.app (wc := (WC ca cq (kdC C) (fsC C) (snC C) ak (nI (C 0)) (nI (C 37)) (nI (C 38)) (fI (C 39)) (nI (C 40)) (lN (C 66)) (nI (C 41)))) (wr := (WTr ca cq xq tb_ va fy cn an sw sb sv)) hP hD hS hA) (fun r_1 u_2 H locs hq_5 hP hD hS => ?_)
  have hP : va_P D vwCl (WT ca cq xq (kdC C) (fsC C) (snC C) ak (nI (C 0)) (nI (C 37)) (nI (C 38)) (fI (C 39)) (nI (C 40)) (lN (C 66)) (nI (C 41)) tb_ va fy cn an sw sb sv) H := hP
  have hD : va_D A (WT ca cq xq (kdC C) (fsC C) (snC C) ak (nI (C 0)) (nI (C 37)) (nI (C 38)) (fI (C 39)) (nI (C 40)) (lN (C 66)) (nI (C 41)) tb_ va fy cn an sw sb sv) := hD
  have hp_5 : r_1 = bI (inR (6 + (C 0)) l_) := hq_5
  clear hq_5
  obtain rfl := hp_5
  subst hQQ
  exact xt_out (xt_S (As := [.int (bI (inR (6 + (C 0)) l_))]) (rest := []) (mt_X1_needThere_thr l hlf D ca (inR (6 + (C 0)) l_) hc H.size) ⟨hx, hb, hml, hown, hts⟩ (va_cwS 1 hts (lw_S q1471 q1179 q79 q1180) rfl rfl rfl (by decide +kernel) ⟨Nat.le_of_ble_eq_true rfl, Nat.le_of_ble_eq_true rfl⟩) EvY_ok hE hK hS (Cut.app (wc := []) (wr := (WT ca cq xq (kdC C) (fsC C) (snC C) ak (nI (C 0)) (nI (C 37)) (nI (C 38)) (fI (C 39)) (nI (C 40)) (lN (C 66)) (nI (C 41)) tb_ va fy cn an sw sb sv)) hP hD hS hA) rfl hl.1 rfl (Nat.le_of_ble_eq_true rfl) dX1_depthOf_8 ⟨Nat.le_of_ble_eq_true rfl, Nat.le_of_ble_eq_true rfl⟩) hS (Cut.app (wc := []) (wr := (WT ca cq xq (kdC C) (fsC C) (snC C) ak (nI (C 0)) (nI (C 37)) (nI (C 38)) (fI (C 39)) (nI (C 40)) (lN (C 66)) (nI (C 41)) tb_ va fy cn an sw sb sv)) hP hD hS hA) xt_same hex hlocks hK (by decide) (by decide)
set_option maxHeartbeats 4000000 in
set_option maxRecDepth 100000 in
theorem mt_X1_answerTo_thr (l : Launch) (hlf : l.stackTraces = false) (D : va_G) (ca : Nat → ClassId) (cq : Nat → Nat) (xq : Nat → Nat) (ak : Nat → Int32) (tb_ : Nat → Int64) (va : Nat → Int32) (fy : Nat → Int64) (cn : Nat → Int32) (an : Nat → Int32) (sw : Nat → Int64) (sb : Nat → Int64) (sv : Value) (C : Nat → Nat) (t_ : Int32) (h0 : C 0 ≤ 12) (hc : inR 64 t_ = false) (nn : Nat) : vx_Met l yX1_answerTo (ws_ yX1_answerTo cX1_answerTo 2 (Option.some Jvm.ClassFile.FieldType.int)) ({ frames := 10, cells := 1, slots := 6, locals := 240 } : Room) (va_Pc [.ref (xq 0), .int t_] (PreW EvY D vwCl (TY ca) (WT ca cq xq (kdC C) (fsC C) (snC C) ak (nI (C 0)) (nI (C 37)) (nI (C 38)) (fI (C 39)) (nI (C 40)) (lN (C 66)) (nI (C 41)) tb_ va fy cn an sw sb sv) nn)) (QN (va_A (WT ca cq xq (kdC C) (fsC C) (snC C) ak (nI (C 0)) (nI (C 37)) (nI (C 38)) (fI (C 39)) (nI (C 40)) (lN (C 66)) (nI (C 41)) tb_ va fy cn an sw sb sv) nn)) (XT "java/lang/IllegalArgumentException" D vwCl (TY ca) (WT ca cq xq (kdC C) (fsC C) (snC C) ak (nI (C 0)) (nI (C 37)) (nI (C 38)) (fI (C 39)) (nI (C 40)) (lN (C 66)) (nI (C 41)) tb_ va fy cn an sw sb sv) (va_A (WT ca cq xq (kdC C) (fsC C) (snC C) ak (nI (C 0)) (nI (C 37)) (nI (C 38)) (fI (C 39)) (nI (C 40)) (lN (C 66)) (nI (C 41)) tb_ va fy cn an sw sb sv) nn)) 1 6 (va_A (WT ca cq xq (kdC C) (fsC C) (snC C) ak (nI (C 0)) (nI (C 37)) (nI (C 38)) (fI (C 39)) (nI (C 40)) (lN (C 66)) (nI (C 41)) tb_ va fy cn an sw sb sv) nn) := by
  refine met_goX (QA := fun A => QN A) (XA := fun A => XT "java/lang/IllegalArgumentException" D vwCl (TY ca) (WT ca cq xq (kdC C) (fsC C) (snC C) ak (nI (C 0)) (nI (C 37)) (nI (C 38)) (fI (C 39)) (nI (C 40)) (lN (C 66)) (nI (C 41)) tb_ va fy cn an sw sb sv) A) (by decide) (Nat.le_of_ble_eq_true rfl) (fun p e s m below meth c A ls QQ hQQ hex hnm hx hb hr hts hown hlocks hml hA hP hK hD hE hl => ?_)
  have hown : s.vm.findClass RX1 = some m.cls := hown
  have hS : va_S A s.heap s.heap [] := va_S.rf
  have hl : lv_has ls 2 [(0, .ref (xq 0)), (1, .int t_)] := hl
  generalize hHe : s.heap = H at hP ⊢
  have hS : va_S A s.heap H [] := hHe ▸ hS
  generalize ([] : List Loc) = locs at hS ⊢
  refine lv_iload_n hx hb dX1_answerTo_0 rfl (lv_at hl 1 rfl) ?_
  subst hQQ
  exact xt_out (xt_S (As := [.int t_]) (rest := []) (mt_X1_needTest_thr l hlf D ca t_ hc H.size) ⟨hx, hb, hml, hown, hts⟩ (va_cwS 1 hts (lw_S q1299 q1300 q79 q1301) rfl rfl rfl (by decide +kernel) ⟨Nat.le_of_ble_eq_true rfl, Nat.le_of_ble_eq_true rfl⟩) EvY_ok hE hK hS (Cut.app (wc := []) (wr := (WT ca cq xq (kdC C) (fsC C) (snC C) ak (nI (C 0)) (nI (C 37)) (nI (C 38)) (fI (C 39)) (nI (C 40)) (lN (C 66)) (nI (C 41)) tb_ va fy cn an sw sb sv)) hP hD hS hA) rfl hl.1 rfl (Nat.le_of_ble_eq_true rfl) dX1_answerTo_1 ⟨Nat.le_of_ble_eq_true rfl, Nat.le_of_ble_eq_true rfl⟩) hS (Cut.app (wc := []) (wr := (WT ca cq xq (kdC C) (fsC C) (snC C) ak (nI (C 0)) (nI (C 37)) (nI (C 38)) (fI (C 39)) (nI (C 40)) (lN (C 66)) (nI (C 41)) tb_ va fy cn an sw sb sv)) hP hD hS hA) xt_same hex hlocks hK (by decide) (by decide)
set_option maxHeartbeats 4000000 in
set_option maxRecDepth 100000 in
theorem mt_X1_worstLeft_thr (l : Launch) (hlf : l.stackTraces = false) (D : va_G) (ca : Nat → ClassId) (cq : Nat → Nat) (xq : Nat → Nat) (ak : Nat → Int32) (tb_ : Nat → Int64) (va : Nat → Int32) (fy : Nat → Int64) (cn : Nat → Int32) (an : Nat → Int32) (sw : Nat → Int64) (sb : Nat → Int64) (sv : Value) (C : Nat → Nat) (t_ : Int32) (h0 : C 0 ≤ 12) (hc : inR 64 t_ = false) (nn : Nat) : vx_Met l yX1_worstLeft (ws_ yX1_worstLeft cX1_worstLeft 2 (Option.some Jvm.ClassFile.FieldType.int)) ({ frames := 10, cells := 1, slots := 6, locals := 240 } : Room) (va_Pc [.ref (xq 0), .int t_] (PreW EvY D vwCl (TY ca) (WT ca cq xq (kdC C) (fsC C) (snC C) ak (nI (C 0)) (nI (C 37)) (nI (C 38)) (fI (C 39)) (nI (C 40)) (lN (C 66)) (nI (C 41)) tb_ va fy cn an sw sb sv) nn)) (QN (va_A (WT ca cq xq (kdC C) (fsC C) (snC C) ak (nI (C 0)) (nI (C 37)) (nI (C 38)) (fI (C 39)) (nI (C 40)) (lN (C 66)) (nI (C 41)) tb_ va fy cn an sw sb sv) nn)) (XT "java/lang/IllegalArgumentException" D vwCl (TY ca) (WT ca cq xq (kdC C) (fsC C) (snC C) ak (nI (C 0)) (nI (C 37)) (nI (C 38)) (fI (C 39)) (nI (C 40)) (lN (C 66)) (nI (C 41)) tb_ va fy cn an sw sb sv) (va_A (WT ca cq xq (kdC C) (fsC C) (snC C) ak (nI (C 0)) (nI (C 37)) (nI (C 38)) (fI (C 39)) (nI (C 40)) (lN (C 66)) (nI (C 41)) tb_ va fy cn an sw sb sv) nn)) 1 6 (va_A (WT ca cq xq (kdC C) (fsC C) (snC C) ak (nI (C 0)) (nI (C 37)) (nI (C 38)) (fI (C 39)) (nI (C 40)) (lN (C 66)) (nI (C 41)) tb_ va fy cn an sw sb sv) nn) := by
  refine met_goX (QA := fun A => QN A) (XA := fun A => XT "java/lang/IllegalArgumentException" D vwCl (TY ca) (WT ca cq xq (kdC C) (fsC C) (snC C) ak (nI (C 0)) (nI (C 37)) (nI (C 38)) (fI (C 39)) (nI (C 40)) (lN (C 66)) (nI (C 41)) tb_ va fy cn an sw sb sv) A) (by decide) (Nat.le_of_ble_eq_true rfl) (fun p e s m below meth c A ls QQ hQQ hex hnm hx hb hr hts hown hlocks hml hA hP hK hD hE hl => ?_)
  have hown : s.vm.findClass RX1 = some m.cls := hown
  have hS : va_S A s.heap s.heap [] := va_S.rf
  have hl : lv_has ls 2 [(0, .ref (xq 0)), (1, .int t_)] := hl
  generalize hHe : s.heap = H at hP ⊢
  have hS : va_S A s.heap H [] := hHe ▸ hS
  generalize ([] : List Loc) = locs at hS ⊢
  refine lv_iload_n hx hb dX1_worstLeft_0 rfl (lv_at hl 1 rfl) ?_
  subst hQQ
  exact xt_out (xt_S (As := [.int t_]) (rest := []) (mt_X1_needTest_thr l hlf D ca t_ hc H.size) ⟨hx, hb, hml, hown, hts⟩ (va_cwS 1 hts (lw_S q1299 q1300 q79 q1301) rfl rfl rfl (by decide +kernel) ⟨Nat.le_of_ble_eq_true rfl, Nat.le_of_ble_eq_true rfl⟩) EvY_ok hE hK hS (Cut.app (wc := []) (wr := (WT ca cq xq (kdC C) (fsC C) (snC C) ak (nI (C 0)) (nI (C 37)) (nI (C 38)) (fI (C 39)) (nI (C 40)) (lN (C 66)) (nI (C 41)) tb_ va fy cn an sw sb sv)) hP hD hS hA) rfl hl.1 rfl (Nat.le_of_ble_eq_true rfl) dX1_worstLeft_1 ⟨Nat.le_of_ble_eq_true rfl, Nat.le_of_ble_eq_true rfl⟩) hS (Cut.app (wc := []) (wr := (WT ca cq xq (kdC C) (fsC C) (snC C) ak (nI (C 0)) (nI (C 37)) (nI (C 38)) (fI (C 39)) (nI (C 40)) (lN (C 66)) (nI (C 41)) tb_ va fy cn an sw sb sv)) hP hD hS hA) xt_same hex hlocks hK (by decide) (by decide)
set_option maxHeartbeats 4000000 in
set_option maxRecDepth 100000 in
theorem mt_X1_meanLeft_thr (l : Launch) (hlf : l.stackTraces = false) (D : va_G) (ca : Nat → ClassId) (cq : Nat → Nat) (xq : Nat → Nat) (ak : Nat → Int32) (tb_ : Nat → Int64) (va : Nat → Int32) (fy : Nat → Int64) (cn : Nat → Int32) (an : Nat → Int32) (sw : Nat → Int64) (sb : Nat → Int64) (sv : Value) (C : Nat → Nat) (t_ : Int32) (h0 : C 0 ≤ 12) (hc : inR 64 t_ = false) (nn : Nat) : vx_Met l yX1_meanLeft (ws_ yX1_meanLeft cX1_meanLeft 8 (Option.some Jvm.ClassFile.FieldType.double)) ({ frames := 10, cells := 1, slots := 6, locals := 240 } : Room) (va_Pc [.ref (xq 0), .int t_] (PreW EvY D vwCl (TY ca) (WT ca cq xq (kdC C) (fsC C) (snC C) ak (nI (C 0)) (nI (C 37)) (nI (C 38)) (fI (C 39)) (nI (C 40)) (lN (C 66)) (nI (C 41)) tb_ va fy cn an sw sb sv) nn)) (QN (va_A (WT ca cq xq (kdC C) (fsC C) (snC C) ak (nI (C 0)) (nI (C 37)) (nI (C 38)) (fI (C 39)) (nI (C 40)) (lN (C 66)) (nI (C 41)) tb_ va fy cn an sw sb sv) nn)) (XT "java/lang/IllegalArgumentException" D vwCl (TY ca) (WT ca cq xq (kdC C) (fsC C) (snC C) ak (nI (C 0)) (nI (C 37)) (nI (C 38)) (fI (C 39)) (nI (C 40)) (lN (C 66)) (nI (C 41)) tb_ va fy cn an sw sb sv) (va_A (WT ca cq xq (kdC C) (fsC C) (snC C) ak (nI (C 0)) (nI (C 37)) (nI (C 38)) (fI (C 39)) (nI (C 40)) (lN (C 66)) (nI (C 41)) tb_ va fy cn an sw sb sv) nn)) 1 6 (va_A (WT ca cq xq (kdC C) (fsC C) (snC C) ak (nI (C 0)) (nI (C 37)) (nI (C 38)) (fI (C 39)) (nI (C 40)) (lN (C 66)) (nI (C 41)) tb_ va fy cn an sw sb sv) nn) := by
  refine met_goX (QA := fun A => QN A) (XA := fun A => XT "java/lang/IllegalArgumentException" D vwCl (TY ca) (WT ca cq xq (kdC C) (fsC C) (snC C) ak (nI (C 0)) (nI (C 37)) (nI (C 38)) (fI (C 39)) (nI (C 40)) (lN (C 66)) (nI (C 41)) tb_ va fy cn an sw sb sv) A) (by decide) (Nat.le_of_ble_eq_true rfl) (fun p e s m below meth c A ls QQ hQQ hex hnm hx hb hr hts hown hlocks hml hA hP hK hD hE hl => ?_)
  have hown : s.vm.findClass RX1 = some m.cls := hown
  have hS : va_S A s.heap s.heap [] := va_S.rf
  have hl : lv_has ls 8 [(0, .ref (xq 0)), (1, .int t_)] := hl
  generalize hHe : s.heap = H at hP ⊢
  have hS : va_S A s.heap H [] := hHe ▸ hS
  generalize ([] : List Loc) = locs at hS ⊢
  refine lv_iload_n hx hb dX1_meanLeft_0 rfl (lv_at hl 1 rfl) ?_
  subst hQQ
  exact xt_out (xt_S (As := [.int t_]) (rest := []) (mt_X1_needTest_thr l hlf D ca t_ hc H.size) ⟨hx, hb, hml, hown, hts⟩ (va_cwS 1 hts (lw_S q1299 q1300 q79 q1301) rfl rfl rfl (by decide +kernel) ⟨Nat.le_of_ble_eq_true rfl, Nat.le_of_ble_eq_true rfl⟩) EvY_ok hE hK hS (Cut.app (wc := []) (wr := (WT ca cq xq (kdC C) (fsC C) (snC C) ak (nI (C 0)) (nI (C 37)) (nI (C 38)) (fI (C 39)) (nI (C 40)) (lN (C 66)) (nI (C 41)) tb_ va fy cn an sw sb sv)) hP hD hS hA) rfl hl.1 rfl (Nat.le_of_ble_eq_true rfl) dX1_meanLeft_1 ⟨Nat.le_of_ble_eq_true rfl, Nat.le_of_ble_eq_true rfl⟩) hS (Cut.app (wc := []) (wr := (WT ca cq xq (kdC C) (fsC C) (snC C) ak (nI (C 0)) (nI (C 37)) (nI (C 38)) (fI (C 39)) (nI (C 40)) (lN (C 66)) (nI (C 41)) tb_ va fy cn an sw sb sv)) hP hD hS hA) xt_same hex hlocks hK (by decide) (by decide)
set_option maxHeartbeats 4000000 in
set_option maxRecDepth 100000 in
theorem mt_X1_shows_thr1 (l : Launch) (hlf : l.stackTraces = false) (D : va_G) (ca : Nat → ClassId) (cq : Nat → Nat) (xq : Nat → Nat) (ak : Nat → Int32) (tb_ : Nat → Int64) (va : Nat → Int32) (fy : Nat → Int64) (cn : Nat → Int32) (an : Nat → Int32) (sw : Nat → Int64) (sb : Nat → Int64) (sv : Value) (C : Nat → Nat) (t_ : Int32) (x_ : Int32) (h0 : C 0 ≤ 12) (hc : inR (2 * (6 + C 0)) x_ = false) (nn : Nat) : vx_Met l yX1_shows (ws_ yX1_shows cX1_shows 3 (Option.some Jvm.ClassFile.FieldType.boolean)) ({ frames := 10, cells := 1, slots := 6, locals := 241 } : Room) (va_Pc [.ref (xq 0), .int t_, .int x_] (PreW EvY D vwCl (TY ca) (WT ca cq xq (kdC C) (fsC C) (snC C) ak (nI (C 0)) (nI (C 37)) (nI (C 38)) (fI (C 39)) (nI (C 40)) (lN (C 66)) (nI (C 41)) tb_ va fy cn an sw sb sv) nn)) (QN (va_A (WT ca cq xq (kdC C) (fsC C) (snC C) ak (nI (C 0)) (nI (C 37)) (nI (C 38)) (fI (C 39)) (nI (C 40)) (lN (C 66)) (nI (C 41)) tb_ va fy cn an sw sb sv) nn)) (XT "java/lang/IllegalArgumentException" D vwCl (TY ca) (WT ca cq xq (kdC C) (fsC C) (snC C) ak (nI (C 0)) (nI (C 37)) (nI (C 38)) (fI (C 39)) (nI (C 40)) (lN (C 66)) (nI (C 41)) tb_ va fy cn an sw sb sv) (va_A (WT ca cq xq (kdC C) (fsC C) (snC C) ak (nI (C 0)) (nI (C 37)) (nI (C 38)) (fI (C 39)) (nI (C 40)) (lN (C 66)) (nI (C 41)) tb_ va fy cn an sw sb sv) nn)) 1 6 (va_A (WT ca cq xq (kdC C) (fsC C) (snC C) ak (nI (C 0)) (nI (C 37)) (nI (C 38)) (fI (C 39)) (nI (C 40)) (lN (C 66)) (nI (C 41)) tb_ va fy cn an sw sb sv) nn) := by
  refine met_goX (QA := fun A => QN A) (XA := fun A => XT "java/lang/IllegalArgumentException" D vwCl (TY ca) (WT ca cq xq (kdC C) (fsC C) (snC C) ak (nI (C 0)) (nI (C 37)) (nI (C 38)) (fI (C 39)) (nI (C 40)) (lN (C 66)) (nI (C 41)) tb_ va fy cn an sw sb sv) A) (by decide) (Nat.le_of_ble_eq_true rfl) (fun p e s m below meth c A ls QQ hQQ hex hnm hx hb hr hts hown hlocks hml hA hP hK hD hE hl => ?_)
  have hown : s.vm.findClass RX1 = some m.cls := hown
  have hS : va_S A s.heap s.heap [] := va_S.rf
  have hl : lv_has ls 3 [(0, .ref (xq 0)), (1, .int t_), (2, .int x_)] := hl
  generalize hHe : s.heap = H at hP ⊢
  have hS : va_S A s.heap H [] := hHe ▸ hS
  generalize ([] : List Loc) = locs at hS ⊢
  refine lv_aload_n hx hb dX1_shows_0 rfl (lv_at hl 0 rfl) ?_
  refine lv_iload_n hx hb dX1_shows_1 rfl (lv_at hl 2 rfl) ?_
  subst hQQ
  exact xt_out (xt_V (b := xq 0) (ci := 0) (q0 := 5) (As := [.int x_]) (rest := []) (mt_X1_needFault_thr l hlf D ca cq xq ak tb_ va fy cn an sw sb sv C x_ (by first | assumption | omega | (simp only [updN, forgetC, changedC]; (repeat' split) <;> omega)) (by first | assumption | omega | (simp only [updN, forgetC, changedC]; (repeat' split) <;> omega)) H.size) ⟨hx, hb, hml, hown, hts⟩ (cwV 1 hts (lw_V q1040 q1042 qs21 q79 q1043) rfl rfl rfl (by decide +kernel) ⟨Nat.le_of_ble_eq_true rfl, Nat.le_of_ble_eq_true rfl⟩) EvY_ok hE hK hS (Cut.all hP hD hS hA) rfl rfl rfl hl.1 rfl (Nat.le_of_ble_eq_true rfl) dX1_shows_2 ⟨Nat.le_of_ble_eq_true rfl, Nat.le_of_ble_eq_true rfl⟩) hS (Cut.all hP hD hS hA) xt_same hex hlocks hK (by decide) (by decide)
set_option maxHeartbeats 4000000 in
set_option maxRecDepth 100000 in
theorem mt_X1_shows_thr2 (l : Launch) (hlf : l.stackTraces = false) (D : va_G) (ca : Nat → ClassId) (cq : Nat → Nat) (xq : Nat → Nat) (ak : Nat → Int32) (tb_ : Nat → Int64) (va : Nat → Int32) (fy : Nat → Int64) (cn : Nat → Int32) (an : Nat → Int32) (sw : Nat → Int64) (sb : Nat → Int64) (sv : Value) (C : Nat → Nat) (t_ : Int32) (F_ : Nat) (h0 : C 0 ≤ 12) (hF0 : F_ ≠ 0) (hF : F_ ≤ 2 * (6 + C 0)) (hc : inR 64 t_ = false) (nn : Nat) : vx_Met l yX1_shows (ws_ yX1_shows cX1_shows 3 (Option.some Jvm.ClassFile.FieldType.boolean)) ({ frames := 10, cells := 1, slots := 6, locals := 240 } : Room) (va_Pc [.ref (xq 0), .int t_, .int (fI F_)] (PreW EvY D vwCl (TY ca) (WT ca cq xq (kdC C) (fsC C) (snC C) ak (nI (C 0)) (nI (C 37)) (nI (C 38)) (fI (C 39)) (nI (C 40)) (lN (C 66)) (nI (C 41)) tb_ va fy cn an sw sb sv) nn)) (QN (va_A (WT ca cq xq (kdC C) (fsC C) (snC C) ak (nI (C 0)) (nI (C 37)) (nI (C 38)) (fI (C 39)) (nI (C 40)) (lN (C 66)) (nI (C 41)) tb_ va fy cn an sw sb sv) nn)) (XT "java/lang/IllegalArgumentException" D vwCl (TY ca) (WT ca cq xq (kdC C) (fsC C) (snC C) ak (nI (C 0)) (nI (C 37)) (nI (C 38)) (fI (C 39)) (nI (C 40)) (lN (C 66)) (nI (C 41)) tb_ va fy cn an sw sb sv) (va_A (WT ca cq xq (kdC C) (fsC C) (snC C) ak (nI (C 0)) (nI (C 37)) (nI (C 38)) (fI (C 39)) (nI (C 40)) (lN (C 66)) (nI (C 41)) tb_ va fy cn an sw sb sv) nn)) 1 6 (va_A (WT ca cq xq (kdC C) (fsC C) (snC C) ak (nI (C 0)) (nI (C 37)) (nI (C 38)) (fI (C 39)) (nI (C 40)) (lN (C 66)) (nI (C 41)) tb_ va fy cn an sw sb sv) nn) := by
  refine met_goX (QA := fun A => QN A) (XA := fun A => XT "java/lang/IllegalArgumentException" D vwCl (TY ca) (WT ca cq xq (kdC C) (fsC C) (snC C) ak (nI (C 0)) (nI (C 37)) (nI (C 38)) (fI (C 39)) (nI (C 40)) (lN (C 66)) (nI (C 41)) tb_ va fy cn an sw sb sv) A) (by decide) (Nat.le_of_ble_eq_true rfl) (fun p e s m below meth c A ls QQ hQQ hex hnm hx hb hr hts hown hlocks hml hA hP hK hD hE hl => ?_)
  have hown : s.vm.findClass RX1 = some m.cls := hown
  have hS : va_S A s.heap s.heap [] := va_S.rf
  have hl : lv_has ls 3 [(0, .ref (xq 0)), (1, .int t_), (2, .int (fI F_))] := hl
  generalize hHe : s.heap = H at hP ⊢
  have hS : va_S A s.heap H [] := hHe ▸ hS
  generalize ([] : List Loc) = locs at hS ⊢
  refine lv_aload_n hx hb dX1_shows_0 rfl (lv_at hl 0 rfl) ?_
  refine lv_iload_n hx hb dX1_shows_1 rfl (lv_at hl 2 rfl) ?_
  refine xc_v (xr_V (b := xq 0) (ci := 0) (q0 := 5) (As := [.int (fI F_)]) (rest := []) (mt_X1_needFault_ok l D ca cq xq ak tb_ va fy cn an sw sb sv C F_ (by first | assumption | omega | (simp only [updN, forgetC, changedC]; (repeat' split) <;> omega)) (by first | assumption | omega | (simp only [updN, forgetC, changedC]; (repeat' split) <;> omega)) (by first | assumption | omega | (simp only [updN, forgetC, changedC]; (repeat' split) <;> omega)) H.size) ⟨hx, hb, hml, hown, hts⟩ (cwV 1 hts (lw_V q1040 q1042 qs21 q79 q1043) rfl rfl rfl (by decide +kernel) ⟨Nat.le_of_ble_eq_true rfl, Nat.le_of_ble_eq_true rfl⟩) EvX_ok hE.1 hK hS (Cut.all hP hD hS hA) rfl rfl rfl hl.1 rfl (Nat.le_of_ble_eq_true rfl) dX1_shows_2 ⟨Nat.le_of_ble_eq_true rfl, Nat.le_of_ble_eq_true rfl⟩) hS (Cut.all hP hD hS hA) (fun u_2 H locs hq_2 hP hD hS => ?_)
  have hP : va_P D vwCl (WT ca cq xq (kdC C) (fsC C) (snC C) ak (nI (C 0)) (nI (C 37)) (nI (C 38)) (fI (C 39)) (nI (C 40)) (lN (C 66)) (nI (C 41)) tb_ va fy cn an sw sb sv) H := hP
  have hD : va_D A (WT ca cq xq (kdC C) (fsC C) (snC C) ak (nI (C 0)) (nI (C 37)) (nI (C 38)) (fI (C 39)) (nI (C 40)) (lN (C 66)) (nI (C 41)) tb_ va fy cn an sw sb sv) := hD
  refine lv_iload_n hx hb dX1_shows_5 rfl (lv_at hl 1 rfl) ?_
  subst hQQ
  exact xt_out (xt_S (As := [.int t_]) (rest := []) (mt_X1_needTest_thr l hlf D ca t_ hc H.size) ⟨hx, hb, hml, hown, hts⟩ (va_cwS 1 hts (lw_S q1299 q1300 q79 q1301) rfl rfl rfl (by decide +kernel) ⟨Nat.le_of_ble_eq_true rfl, Nat.le_of_ble_eq_true rfl⟩) EvY_ok hE hK hS (Cut.app (wc := []) (wr := (WT ca cq xq (kdC C) (fsC C) (snC C) ak (nI (C 0)) (nI (C 37)) (nI (C 38)) (fI (C 39)) (nI (C 40)) (lN (C 66)) (nI (C 41)) tb_ va fy cn an sw sb sv)) hP hD hS hA) rfl hl.1 rfl (Nat.le_of_ble_eq_true rfl) dX1_shows_6 ⟨Nat.le_of_ble_eq_true rfl, Nat.le_of_ble_eq_true rfl⟩) hS (Cut.app (wc := []) (wr := (WT ca cq xq (kdC C) (fsC C) (snC C) ak (nI (C 0)) (nI (C 37)) (nI (C 38)) (fI (C 39)) (nI (C 40)) (lN (C 66)) (nI (C 41)) tb_ va fy cn an sw sb sv)) hP hD hS hA) xt_same hex hlocks hK (by decide) (by decide)
set_option maxHeartbeats 4000000 in
set_option maxRecDepth 100000 in
theorem mt_X1_testsFor_thr (l : Launch) (hlf : l.stackTraces = false) (D : va_G) (ca : Nat → ClassId) (cq : Nat → Nat) (xq : Nat → Nat) (ak : Nat → Int32) (tb_ : Nat → Int64) (va : Nat → Int32) (fy : Nat → Int64) (cn : Nat → Int32) (an : Nat → Int32) (sw : Nat → Int64) (sb : Nat → Int64) (sv : Value) (C : Nat → Nat) (x_ : Int32) (h0 : C 0 ≤ 12) (hc : inR (2 * (6 + C 0)) x_ = false) (nn : Nat) : vx_Met l yX1_testsFor (ws_ yX1_testsFor cX1_testsFor 2 (Option.some Jvm.ClassFile.FieldType.long)) ({ frames := 10, cells := 1, slots := 6, locals := 241 } : Room) (va_Pc [.ref (xq 0), .int x_] (PreW EvY D vwCl (TY ca) (WT ca cq xq (kdC C) (fsC C) (snC C) ak (nI (C 0)) (nI (C 37)) (nI (C 38)) (fI (C 39)) (nI (C 40)) (lN (C 66)) (nI (C 41)) tb_ va fy cn an sw sb sv) nn)) (QN (va_A (WT ca cq xq (kdC C) (fsC C) (snC C) ak (nI (C 0)) (nI (C 37)) (nI (C 38)) (fI (C 39)) (nI (C 40)) (lN (C 66)) (nI (C 41)) tb_ va fy cn an sw sb sv) nn)) (XT "java/lang/IllegalArgumentException" D vwCl (TY ca) (WT ca cq xq (kdC C) (fsC C) (snC C) ak (nI (C 0)) (nI (C 37)) (nI (C 38)) (fI (C 39)) (nI (C 40)) (lN (C 66)) (nI (C 41)) tb_ va fy cn an sw sb sv) (va_A (WT ca cq xq (kdC C) (fsC C) (snC C) ak (nI (C 0)) (nI (C 37)) (nI (C 38)) (fI (C 39)) (nI (C 40)) (lN (C 66)) (nI (C 41)) tb_ va fy cn an sw sb sv) nn)) 1 6 (va_A (WT ca cq xq (kdC C) (fsC C) (snC C) ak (nI (C 0)) (nI (C 37)) (nI (C 38)) (fI (C 39)) (nI (C 40)) (lN (C 66)) (nI (C 41)) tb_ va fy cn an sw sb sv) nn) := by
  refine met_goX (QA := fun A => QN A) (XA := fun A => XT "java/lang/IllegalArgumentException" D vwCl (TY ca) (WT ca cq xq (kdC C) (fsC C) (snC C) ak (nI (C 0)) (nI (C 37)) (nI (C 38)) (fI (C 39)) (nI (C 40)) (lN (C 66)) (nI (C 41)) tb_ va fy cn an sw sb sv) A) (by decide) (Nat.le_of_ble_eq_true rfl) (fun p e s m below meth c A ls QQ hQQ hex hnm hx hb hr hts hown hlocks hml hA hP hK hD hE hl => ?_)
  have hown : s.vm.findClass RX1 = some m.cls := hown
  have hS : va_S A s.heap s.heap [] := va_S.rf
  have hl : lv_has ls 2 [(0, .ref (xq 0)), (1, .int x_)] := hl
  generalize hHe : s.heap = H at hP ⊢
  have hS : va_S A s.heap H [] := hHe ▸ hS
  generalize ([] : List Loc) = locs at hS ⊢
  refine lv_aload_n hx hb dX1_testsFor_0 rfl (lv_at hl 0 rfl) ?_
  refine lv_iload_n hx hb dX1_testsFor_1 rfl (lv_at hl 1 rfl) ?_
  subst hQQ
  exact xt_out (xt_V (b := xq 0) (ci := 0) (q0 := 5) (As := [.int x_]) (rest := []) (mt_X1_needFault_thr l hlf D ca cq xq ak tb_ va fy cn an sw sb sv C x_ (by first | assumption | omega | (simp only [updN, forgetC, changedC]; (repeat' split) <;> omega)) (by first | assumption | omega | (simp only [updN, forgetC, changedC]; (repeat' split) <;> omega)) H.size) ⟨hx, hb, hml, hown, hts⟩ (cwV 1 hts (lw_V q1040 q1042 qs21 q79 q1043) rfl rfl rfl (by decide +kernel) ⟨Nat.le_of_ble_eq_true rfl, Nat.le_of_ble_eq_true rfl⟩) EvY_ok hE hK hS (Cut.all hP hD hS hA) rfl rfl rfl hl.1 rfl (Nat.le_of_ble_eq_true rfl) dX1_testsFor_2 ⟨Nat.le_of_ble_eq_true rfl, Nat.le_of_ble_eq_true rfl⟩) hS (Cut.all hP hD hS hA) xt_same hex hlocks hK (by decide) (by decide)
set_option maxHeartbeats 4000000 in
set_option maxRecDepth 100000 in
theorem mt_X1_whyHidden_thr (l : Launch) (hlf : l.stackTraces = false) (D : va_G) (ca : Nat → ClassId) (cq : Nat → Nat) (xq : Nat → Nat) (ak : Nat → Int32) (tb_ : Nat → Int64) (va : Nat → Int32) (fy : Nat → Int64) (cn : Nat → Int32) (an : Nat → Int32) (sw : Nat → Int64) (sb : Nat → Int64) (sv : Value) (C : Nat → Nat) (x_ : Int32) (h0 : C 0 ≤ 12) (hc : inR (2 * (6 + C 0)) x_ = false) (nn : Nat) : vx_Met l yX1_whyHidden (ws_ yX1_whyHidden cX1_whyHidden 2 (Option.some Jvm.ClassFile.FieldType.int)) ({ frames := 10, cells := 1, slots := 6, locals := 241 } : Room) (va_Pc [.ref (xq 0), .int x_] (PreW EvY D vwCl (TY ca) (WT ca cq xq (kdC C) (fsC C) (snC C) ak (nI (C 0)) (nI (C 37)) (nI (C 38)) (fI (C 39)) (nI (C 40)) (lN (C 66)) (nI (C 41)) tb_ va fy cn an sw sb sv) nn)) (QN (va_A (WT ca cq xq (kdC C) (fsC C) (snC C) ak (nI (C 0)) (nI (C 37)) (nI (C 38)) (fI (C 39)) (nI (C 40)) (lN (C 66)) (nI (C 41)) tb_ va fy cn an sw sb sv) nn)) (XT "java/lang/IllegalArgumentException" D vwCl (TY ca) (WT ca cq xq (kdC C) (fsC C) (snC C) ak (nI (C 0)) (nI (C 37)) (nI (C 38)) (fI (C 39)) (nI (C 40)) (lN (C 66)) (nI (C 41)) tb_ va fy cn an sw sb sv) (va_A (WT ca cq xq (kdC C) (fsC C) (snC C) ak (nI (C 0)) (nI (C 37)) (nI (C 38)) (fI (C 39)) (nI (C 40)) (lN (C 66)) (nI (C 41)) tb_ va fy cn an sw sb sv) nn)) 1 6 (va_A (WT ca cq xq (kdC C) (fsC C) (snC C) ak (nI (C 0)) (nI (C 37)) (nI (C 38)) (fI (C 39)) (nI (C 40)) (lN (C 66)) (nI (C 41)) tb_ va fy cn an sw sb sv) nn) := by
  refine met_goX (QA := fun A => QN A) (XA := fun A => XT "java/lang/IllegalArgumentException" D vwCl (TY ca) (WT ca cq xq (kdC C) (fsC C) (snC C) ak (nI (C 0)) (nI (C 37)) (nI (C 38)) (fI (C 39)) (nI (C 40)) (lN (C 66)) (nI (C 41)) tb_ va fy cn an sw sb sv) A) (by decide) (Nat.le_of_ble_eq_true rfl) (fun p e s m below meth c A ls QQ hQQ hex hnm hx hb hr hts hown hlocks hml hA hP hK hD hE hl => ?_)
  have hown : s.vm.findClass RX1 = some m.cls := hown
  have hS : va_S A s.heap s.heap [] := va_S.rf
  have hl : lv_has ls 2 [(0, .ref (xq 0)), (1, .int x_)] := hl
  generalize hHe : s.heap = H at hP ⊢
  have hS : va_S A s.heap H [] := hHe ▸ hS
  generalize ([] : List Loc) = locs at hS ⊢
  refine lv_aload_n hx hb dX1_whyHidden_0 rfl (lv_at hl 0 rfl) ?_
  refine lv_iload_n hx hb dX1_whyHidden_1 rfl (lv_at hl 1 rfl) ?_
  subst hQQ
  exact xt_out (xt_V (b := xq 0) (ci := 0) (q0 := 5) (As := [.int x_]) (rest := []) (mt_X1_needFault_thr l hlf D ca cq xq ak tb_ va fy cn an sw sb sv C x_ (by first | assumption | omega | (simp only [updN, forgetC, changedC]; (repeat' split) <;> omega)) (by first | assumption | omega | (simp only [updN, forgetC, changedC]; (repeat' split) <;> omega)) H.size) ⟨hx, hb, hml, hown, hts⟩ (cwV 1 hts (lw_V q1040 q1042 qs21 q79 q1043) rfl rfl rfl (by decide +kernel) ⟨Nat.le_of_ble_eq_true rfl, Nat.le_of_ble_eq_true rfl⟩) EvY_ok hE hK hS (Cut.all hP hD hS hA) rfl rfl rfl hl.1 rfl (Nat.le_of_ble_eq_true rfl) dX1_whyHidden_2 ⟨Nat.le_of_ble_eq_true rfl, Nat.le_of_ble_eq_true rfl⟩) hS (Cut.all hP hD hS hA) xt_same hex hlocks hK (by decide) (by decide)
set_option maxHeartbeats 4000000 in
set_option maxRecDepth 100000 in
theorem mt_X1_alike_thr (l : Launch) (hlf : l.stackTraces = false) (D : va_G) (ca : Nat → ClassId) (cq : Nat → Nat) (xq : Nat → Nat) (ak : Nat → Int32) (tb_ : Nat → Int64) (va : Nat → Int32) (fy : Nat → Int64) (cn : Nat → Int32) (an : Nat → Int32) (sw : Nat → Int64) (sb : Nat → Int64) (sv : Value) (C : Nat → Nat) (x_ : Int32) (h0 : C 0 ≤ 12) (hc : inR (2 * (6 + C 0)) x_ = false) (nn : Nat) : vx_Met l yX1_alike (ws_ yX1_alike cX1_alike 5 (Option.some Jvm.ClassFile.FieldType.long)) ({ frames := 10, cells := 1, slots := 6, locals := 241 } : Room) (va_Pc [.ref (xq 0), .int x_] (PreW EvY D vwCl (TY ca) (WT ca cq xq (kdC C) (fsC C) (snC C) ak (nI (C 0)) (nI (C 37)) (nI (C 38)) (fI (C 39)) (nI (C 40)) (lN (C 66)) (nI (C 41)) tb_ va fy cn an sw sb sv) nn)) (QN (va_A (WT ca cq xq (kdC C) (fsC C) (snC C) ak (nI (C 0)) (nI (C 37)) (nI (C 38)) (fI (C 39)) (nI (C 40)) (lN (C 66)) (nI (C 41)) tb_ va fy cn an sw sb sv) nn)) (XT "java/lang/IllegalArgumentException" D vwCl (TY ca) (WT ca cq xq (kdC C) (fsC C) (snC C) ak (nI (C 0)) (nI (C 37)) (nI (C 38)) (fI (C 39)) (nI (C 40)) (lN (C 66)) (nI (C 41)) tb_ va fy cn an sw sb sv) (va_A (WT ca cq xq (kdC C) (fsC C) (snC C) ak (nI (C 0)) (nI (C 37)) (nI (C 38)) (fI (C 39)) (nI (C 40)) (lN (C 66)) (nI (C 41)) tb_ va fy cn an sw sb sv) nn)) 1 6 (va_A (WT ca cq xq (kdC C) (fsC C) (snC C) ak (nI (C 0)) (nI (C 37)) (nI (C 38)) (fI (C 39)) (nI (C 40)) (lN (C 66)) (nI (C 41)) tb_ va fy cn an sw sb sv) nn) := by
  refine met_goX (QA := fun A => QN A) (XA := fun A => XT "java/lang/IllegalArgumentException" D vwCl (TY ca) (WT ca cq xq (kdC C) (fsC C) (snC C) ak (nI (C 0)) (nI (C 37)) (nI (C 38)) (fI (C 39)) (nI (C 40)) (lN (C 66)) (nI (C 41)) tb_ va fy cn an sw sb sv) A) (by decide) (Nat.le_of_ble_eq_true rfl) (fun p e s m below meth c A ls QQ hQQ hex hnm hx hb hr hts hown hlocks hml hA hP hK hD hE hl => ?_)
  have hown : s.vm.findClass RX1 = some m.cls := hown
  have hS : va_S A s.heap s.heap [] := va_S.rf
  have hl : lv_has ls 5 [(0, .ref (xq 0)), (1, .int x_)] := hl
  generalize hHe : s.heap = H at hP ⊢
  have hS : va_S A s.heap H [] := hHe ▸ hS
  generalize ([] : List Loc) = locs at hS ⊢
  refine lv_aload_n hx hb dX1_alike_0 rfl (lv_at hl 0 rfl) ?_
  refine lv_iload_n hx hb dX1_alike_1 rfl (lv_at hl 1 rfl) ?_
  subst hQQ
  exact xt_out (xt_V (b := xq 0) (ci := 0) (q0 := 5) (As := [.int x_]) (rest := []) (mt_X1_needFault_thr l hlf D ca cq xq ak tb_ va fy cn an sw sb sv C x_ (by first | assumption | omega | (simp only [updN, forgetC, changedC]; (repeat' split) <;> omega)) (by first | assumption | omega | (simp only [updN, forgetC, changedC]; (repeat' split) <;> omega)) H.size) ⟨hx, hb, hml, hown, hts⟩ (cwV 1 hts (lw_V q1040 q1042 qs21 q79 q1043) rfl rfl rfl (by decide +kernel) ⟨Nat.le_of_ble_eq_true rfl, Nat.le_of_ble_eq_true rfl⟩) EvY_ok hE hK hS (Cut.all hP hD hS hA) rfl rfl rfl hl.1 rfl (Nat.le_of_ble_eq_true rfl) dX1_alike_2 ⟨Nat.le_of_ble_eq_true rfl, Nat.le_of_ble_eq_true rfl⟩) hS (Cut.all hP hD hS hA) xt_same hex hlocks hK (by decide) (by decide)
set_option maxHeartbeats 4000000 in
set_option maxRecDepth 100000 in
theorem mt_X1_testsBetween_thr1 (l : Launch) (hlf : l.stackTraces = false) (D : va_G) (ca : Nat → ClassId) (cq : Nat → Nat) (xq : Nat → Nat) (ak : Nat → Int32) (tb_ : Nat → Int64) (va : Nat → Int32) (fy : Nat → Int64) (cn : Nat → Int32) (an : Nat → Int32) (sw : Nat → Int64) (sb : Nat → Int64) (sv : Value) (C : Nat → Nat) (x_ : Int32) (y_ : Int32) (h0 : C 0 ≤ 12) (hc : inR (2 * (6 + C 0)) x_ = false) (nn : Nat) : vx_Met l yX1_testsBetween (ws_ yX1_testsBetween cX1_testsBetween 3 (Option.some Jvm.ClassFile.FieldType.long)) ({ frames := 10, cells := 1, slots := 6, locals := 241 } : Room) (va_Pc [.ref (xq 0), .int x_, .int y_] (PreW EvY D vwCl (TY ca) (WT ca cq xq (kdC C) (fsC C) (snC C) ak (nI (C 0)) (nI (C 37)) (nI (C 38)) (fI (C 39)) (nI (C 40)) (lN (C 66)) (nI (C 41)) tb_ va fy cn an sw sb sv) nn)) (QN (va_A (WT ca cq xq (kdC C) (fsC C) (snC C) ak (nI (C 0)) (nI (C 37)) (nI (C 38)) (fI (C 39)) (nI (C 40)) (lN (C 66)) (nI (C 41)) tb_ va fy cn an sw sb sv) nn)) (XT "java/lang/IllegalArgumentException" D vwCl (TY ca) (WT ca cq xq (kdC C) (fsC C) (snC C) ak (nI (C 0)) (nI (C 37)) (nI (C 38)) (fI (C 39)) (nI (C 40)) (lN (C 66)) (nI (C 41)) tb_ va fy cn an sw sb sv) (va_A (WT ca cq xq (kdC C) (fsC C) (snC C) ak (nI (C 0)) (nI (C 37)) (nI (C 38)) (fI (C 39)) (nI (C 40)) (lN (C 66)) (nI (C 41)) tb_ va fy cn an sw sb sv) nn)) 1 6 (va_A (WT ca cq xq (kdC C) (fsC C) (snC C) ak (nI (C 0)) (nI (C 37)) (nI (C 38)) (fI (C 39)) (nI (C 40)) (lN (C 66)) (nI (C 41)) tb_ va fy cn an sw sb sv) nn) := by
  refine met_goX (QA := fun A => QN A) (XA := fun A => XT "java/lang/IllegalArgumentException" D vwCl (TY ca) (WT ca cq xq (kdC C) (fsC C) (snC C) ak (nI (C 0)) (nI (C 37)) (nI (C 38)) (fI (C 39)) (nI (C 40)) (lN (C 66)) (nI (C 41)) tb_ va fy cn an sw sb sv) A) (by decide) (Nat.le_of_ble_eq_true rfl) (fun p e s m below meth c A ls QQ hQQ hex hnm hx hb hr hts hown hlocks hml hA hP hK hD hE hl => ?_)
  have hown : s.vm.findClass RX1 = some m.cls := hown
  have hS : va_S A s.heap s.heap [] := va_S.rf
  have hl : lv_has ls 3 [(0, .ref (xq 0)), (1, .int x_), (2, .int y_)] := hl
  generalize hHe : s.heap = H at hP ⊢
  have hS : va_S A s.heap H [] := hHe ▸ hS
  generalize ([] : List Loc) = locs at hS ⊢
  refine lv_aload_n hx hb dX1_testsBetween_0 rfl (lv_at hl 0 rfl) ?_
  refine lv_iload_n hx hb dX1_testsBetween_1 rfl (lv_at hl 1 rfl) ?_
  subst hQQ
  exact xt_out (xt_V (b := xq 0) (ci := 0) (q0 := 5) (As := [.int x_]) (rest := []) (mt_X1_needFault_thr l hlf D ca cq xq ak tb_ va fy cn an sw sb sv C x_ (by first | assumption | omega | (simp only [updN, forgetC, changedC]; (repeat' split) <;> omega)) (by first | assumption | omega | (simp only [updN, forgetC, changedC]; (repeat' split) <;> omega)) H.size) ⟨hx, hb, hml, hown, hts⟩ (cwV 1 hts (lw_V q1040 q1042 qs21 q79 q1043) rfl rfl rfl (by decide +kernel) ⟨Nat.le_of_ble_eq_true rfl, Nat.le_of_ble_eq_true rfl⟩) EvY_ok hE hK hS (Cut.all hP hD hS hA) rfl rfl rfl hl.1 rfl (Nat.le_of_ble_eq_true rfl) dX1_testsBetween_2 ⟨Nat.le_of_ble_eq_true rfl, Nat.le_of_ble_eq_true rfl⟩) hS (Cut.all hP hD hS hA) xt_same hex hlocks hK (by decide) (by decide)
set_option maxHeartbeats 4000000 in
set_option maxRecDepth 100000 in
theorem mt_X1_testsBetween_thr2 (l : Launch) (hlf : l.stackTraces = false) (D : va_G) (ca : Nat → ClassId) (cq : Nat → Nat) (xq : Nat → Nat) (ak : Nat → Int32) (tb_ : Nat → Int64) (va : Nat → Int32) (fy : Nat → Int64) (cn : Nat → Int32) (an : Nat → Int32) (sw : Nat → Int64) (sb : Nat → Int64) (sv : Value) (C : Nat → Nat) (F_ : Nat) (x_ : Int32) (h0 : C 0 ≤ 12) (hF0 : F_ ≠ 0) (hF : F_ ≤ 2 * (6 + C 0)) (hc : inR (2 * (6 + C 0)) x_ = false) (nn : Nat) : vx_Met l yX1_testsBetween (ws_ yX1_testsBetween cX1_testsBetween 3 (Option.some Jvm.ClassFile.FieldType.long)) ({ frames := 10, cells := 1, slots := 6, locals := 241 } : Room) (va_Pc [.ref (xq 0), .int (fI F_), .int x_] (PreW EvY D vwCl (TY ca) (WT ca cq xq (kdC C) (fsC C) (snC C) ak (nI (C 0)) (nI (C 37)) (nI (C 38)) (fI (C 39)) (nI (C 40)) (lN (C 66)) (nI (C 41)) tb_ va fy cn an sw sb sv) nn)) (QN (va_A (WT ca cq xq (kdC C) (fsC C) (snC C) ak (nI (C 0)) (nI (C 37)) (nI (C 38)) (fI (C 39)) (nI (C 40)) (lN (C 66)) (nI (C 41)) tb_ va fy cn an sw sb sv) nn)) (XT "java/lang/IllegalArgumentException" D vwCl (TY ca) (WT ca cq xq (kdC C) (fsC C) (snC C) ak (nI (C 0)) (nI (C 37)) (nI (C 38)) (fI (C 39)) (nI (C 40)) (lN (C 66)) (nI (C 41)) tb_ va fy cn an sw sb sv) (va_A (WT ca cq xq (kdC C) (fsC C) (snC C) ak (nI (C 0)) (nI (C 37)) (nI (C 38)) (fI (C 39)) (nI (C 40)) (lN (C 66)) (nI (C 41)) tb_ va fy cn an sw sb sv) nn)) 1 6 (va_A (WT ca cq xq (kdC C) (fsC C) (snC C) ak (nI (C 0)) (nI (C 37)) (nI (C 38)) (fI (C 39)) (nI (C 40)) (lN (C 66)) (nI (C 41)) tb_ va fy cn an sw sb sv) nn) := by
  refine met_goX (QA := fun A => QN A) (XA := fun A => XT "java/lang/IllegalArgumentException" D vwCl (TY ca) (WT ca cq xq (kdC C) (fsC C) (snC C) ak (nI (C 0)) (nI (C 37)) (nI (C 38)) (fI (C 39)) (nI (C 40)) (lN (C 66)) (nI (C 41)) tb_ va fy cn an sw sb sv) A) (by decide) (Nat.le_of_ble_eq_true rfl) (fun p e s m below meth c A ls QQ hQQ hex hnm hx hb hr hts hown hlocks hml hA hP hK hD hE hl => ?_)
  have hown : s.vm.findClass RX1 = some m.cls := hown
  have hS : va_S A s.heap s.heap [] := va_S.rf
  have hl : lv_has ls 3 [(0, .ref (xq 0)), (1, .int (fI F_)), (2, .int x_)] := hl
  generalize hHe : s.heap = H at hP ⊢
  have hS : va_S A s.heap H [] := hHe ▸ hS
  generalize ([] : List Loc) = locs at hS ⊢
  refine lv_aload_n hx hb dX1_testsBetween_0 rfl (lv_at hl 0 rfl) ?_
  refine lv_iload_n hx hb dX1_testsBetween_1 rfl (lv_at hl 1 rfl) ?_
  refine xc_v (xr_V (b := xq 0) (ci := 0) (q0 := 5) (As := [.int (fI F_)]) (rest := []) (mt_X1_needFault_ok l D ca cq xq ak tb_ va fy cn an sw sb sv C F_ (by first | assumption | omega | (simp only [updN, forgetC, changedC]; (repeat' split) <;> omega)) (by first | assumption | omega | (simp only [updN, forgetC, changedC]; (repeat' split) <;> omega)) (by first | assumption | omega | (simp only [updN, forgetC, changedC]; (repeat' split) <;> omega)) H.size) ⟨hx, hb, hml, hown, hts⟩ (cwV 1 hts (lw_V q1040 q1042 qs21 q79 q1043) rfl rfl rfl (by decide +kernel) ⟨Nat.le_of_ble_eq_true rfl, Nat.le_of_ble_eq_true rfl⟩) EvX_ok hE.1 hK hS (Cut.all hP hD hS hA) rfl rfl rfl hl.1 rfl (Nat.le_of_ble_eq_true rfl) dX1_testsBetween_2 ⟨Nat.le_of_ble_eq_true rfl, Nat.le_of_ble_eq_true rfl⟩) hS (Cut.all hP hD hS hA) (fun u_2 H locs hq_2 hP hD hS => ?_)
  have hP : va_P D vwCl (WT ca cq xq (kdC C) (fsC C) (snC C) ak (nI (C 0)) (nI (C 37)) (nI (C 38)) (fI (C 39)) (nI (C 40)) (lN (C 66)) (nI (C 41)) tb_ va fy cn an sw sb sv) H := hP
  have hD : va_D A (WT ca cq xq (kdC C) (fsC C) (snC C) ak (nI (C 0)) (nI (C 37)) (nI (C 38)) (fI (C 39)) (nI (C 40)) (lN (C 66)) (nI (C 41)) tb_ va fy cn an sw sb sv) := hD
  refine lv_aload_n hx hb dX1_testsBetween_5 rfl (lv_at hl 0 rfl) ?_
  refine lv_iload_n hx hb dX1_testsBetween_6 rfl (lv_at hl 2 rfl) ?_
  subst hQQ
  exact xt_out (xt_V (b := xq 0) (ci := 0) (q0 := 5) (As := [.int x_]) (rest := []) (mt_X1_needFault_thr l hlf D ca cq xq ak tb_ va fy cn an sw sb sv C x_ (by first | assumption | omega | (simp only [updN, forgetC, changedC]; (repeat' split) <;> omega)) (by first | assumption | omega | (simp only [updN, forgetC, changedC]; (repeat' split) <;> omega)) H.size) ⟨hx, hb, hml, hown, hts⟩ (cwV 1 hts (lw_V q1040 q1042 qs21 q79 q1043) rfl rfl rfl (by decide +kernel) ⟨Nat.le_of_ble_eq_true rfl, Nat.le_of_ble_eq_true rfl⟩) EvY_ok hE hK hS (Cut.all hP hD hS hA) rfl rfl rfl hl.1 rfl (Nat.le_of_ble_eq_true rfl) dX1_testsBetween_7 ⟨Nat.le_of_ble_eq_true rfl, Nat.le_of_ble_eq_true rfl⟩) hS (Cut.all hP hD hS hA) xt_same hex hlocks hK (by decide) (by decide)
set_option maxHeartbeats 4000000 in
set_option maxRecDepth 100000 in
theorem mt_X1_askedAt_thr (l : Launch) (hlf : l.stackTraces = false) (D : va_G) (ca : Nat → ClassId) (cq : Nat → Nat) (xq : Nat → Nat) (ak : Nat → Int32) (tb_ : Nat → Int64) (va : Nat → Int32) (fy : Nat → Int64) (cn : Nat → Int32) (an : Nat → Int32) (sw : Nat → Int64) (sb : Nat → Int64) (sv : Value) (C : Nat → Nat) (x_ : Int32) (h0 : C 0 ≤ 12) (h41 : C 41 ≤ 12) (hc : inR (C 41) x_ = false) (nn : Nat) : vx_Met l yX1_askedAt (ws_ yX1_askedAt cX1_askedAt 2 (Option.some Jvm.ClassFile.FieldType.int)) ({ frames := 9, cells := 1, slots := 6, locals := 220 } : Room) (va_Pc [.ref (xq 0), .int x_] (PreW EvY D vwCl (TY ca) (WT ca cq xq (kdC C) (fsC C) (snC C) ak (nI (C 0)) (nI (C 37)) (nI (C 38)) (fI (C 39)) (nI (C 40)) (lN (C 66)) (nI (C 41)) tb_ va fy cn an sw sb sv) nn)) (QN (va_A (WT ca cq xq (kdC C) (fsC C) (snC C) ak (nI (C 0)) (nI (C 37)) (nI (C 38)) (fI (C 39)) (nI (C 40)) (lN (C 66)) (nI (C 41)) tb_ va fy cn an sw sb sv) nn)) (XT "java/lang/IndexOutOfBoundsException" D vwCl (TY ca) (WT ca cq xq (kdC C) (fsC C) (snC C) ak (nI (C 0)) (nI (C 37)) (nI (C 38)) (fI (C 39)) (nI (C 40)) (lN (C 66)) (nI (C 41)) tb_ va fy cn an sw sb sv) (va_A (WT ca cq xq (kdC C) (fsC C) (snC C) ak (nI (C 0)) (nI (C 37)) (nI (C 38)) (fI (C 39)) (nI (C 40)) (lN (C 66)) (nI (C 41)) tb_ va fy cn an sw sb sv) nn)) 1 6 (va_A (WT ca cq xq (kdC C) (fsC C) (snC C) ak (nI (C 0)) (nI (C 37)) (nI (C 38)) (fI (C 39)) (nI (C 40)) (lN (C 66)) (nI (C 41)) tb_ va fy cn an sw sb sv) nn) := by
  refine met_goX (QA := fun A => QN A) (XA := fun A => XT "java/lang/IndexOutOfBoundsException" D vwCl (TY ca) (WT ca cq xq (kdC C) (fsC C) (snC C) ak (nI (C 0)) (nI (C 37)) (nI (C 38)) (fI (C 39)) (nI (C 40)) (lN (C 66)) (nI (C 41)) tb_ va fy cn an sw sb sv) A) (by decide) (Nat.le_of_ble_eq_true rfl) (fun p e s m below meth c A ls QQ hQQ hex hnm hx hb hr hts hown hlocks hml hA hP hK hD hE hl => ?_)
  have hown : s.vm.findClass RX1 = some m.cls := hown
  have hS : va_S A s.heap s.heap [] := va_S.rf
  have hl : lv_has ls 2 [(0, .ref (xq 0)), (1, .int x_)] := hl
  generalize hHe : s.heap = H at hP ⊢
  have hS : va_S A s.heap H [] := hHe ▸ hS
  generalize ([] : List Loc) = locs at hS ⊢
  refine lv_iload_n hx hb dX1_askedAt_0 rfl (lv_at hl 1 rfl) ?_
  refine lv_iconst (v := nI 0) hx hb dX1_askedAt_1 (by decide) ?_
  refine lv_aload_n hx hb dX1_askedAt_2 rfl (lv_at hl 0 rfl) ?_
  refine gWT_5_circuit_X1 hx hb hts hown hK hP dX1_askedAt_3 ?_
  refine gWT_0_asked_X1 hE.1 hx hb hts hown hK hP dX1_askedAt_6 ?_
  refine lv_iconst (v := nI 1) hx hb dX1_askedAt_9 (by decide) ?_
  refine lv_isub hx hb dX1_askedAt_10 ?_
  refine xc_i (xr_S (As := [.int x_, .int (nI 0), .int ((nI (C 41)) - (nI 1))]) (rest := []) (mt_X1_isWithin l D ca x_ (nI 0) ((nI (C 41)) - (nI 1))  H.size) ⟨hx, hb, hml, hown, hts⟩ (va_cwS 3 hts (lw_S q1044 q926 q79 q927) rfl rfl rfl (by decide +kernel) ⟨Nat.le_of_ble_eq_true rfl, Nat.le_of_ble_eq_true rfl⟩) Ev0_ok trivial hK hS (Cut.app (wc := []) (wr := (WT ca cq xq (kdC C) (fsC C) (snC C) ak (nI (C 0)) (nI (C 37)) (nI (C 38)) (fI (C 39)) (nI (C 40)) (lN (C 66)) (nI (C 41)) tb_ va fy cn an sw sb sv)) hP hD hS hA) rfl hl.1 rfl (Nat.le_of_ble_eq_true rfl) dX1_askedAt_11 ⟨Nat.le_of_ble_eq_true rfl, Nat.le_of_ble_eq_true rfl⟩) hS (Cut.app (wc := []) (wr := (WT ca cq xq (kdC C) (fsC C) (snC C) ak (nI (C 0)) (nI (C 37)) (nI (C 38)) (fI (C 39)) (nI (C 40)) (lN (C 66)) (nI (C 41)) tb_ va fy cn an sw sb sv)) hP hD hS hA) (fun r_1 u_2 H locs hq_11 hP hD hS => ?_)
  have hP : va_P D vwCl (WT ca cq xq (kdC C) (fsC C) (snC C) ak (nI (C 0)) (nI (C 37)) (nI (C 38)) (fI (C 39)) (nI (C 40)) (lN (C 66)) (nI (C 41)) tb_ va fy cn an sw sb sv) H := hP
  have hD : va_D A (WT ca cq xq (kdC C) (fsC C) (snC C) ak (nI (C 0)) (nI (C 37)) (nI (C 38)) (fI (C 39)) (nI (C 40)) (lN (C 66)) (nI (C 41)) tb_ va fy cn an sw sb sv) := hD
  have hp_11 : r_1 = bI (decide ((nI 0) ≤ x_ ∧ x_ ≤ ((nI (C 41)) - (nI 1)))) := hq_11
  clear hq_11
  obtain rfl := hp_11
  subst hQQ
  exact xt_out (xt_S (As := [.int (bI (decide ((nI 0) ≤ x_ ∧ x_ ≤ ((nI (C 41)) - (nI 1)))))]) (rest := []) (mt_X1_needThere_thr l hlf D ca (decide ((nI 0) ≤ x_ ∧ x_ ≤ ((nI (C 41)) - (nI 1)))) ((inR_end (by omega)).trans hc) H.size) ⟨hx, hb, hml, hown, hts⟩ (va_cwS 1 hts (lw_S q1471 q1179 q79 q1180) rfl rfl rfl (by decide +kernel) ⟨Nat.le_of_ble_eq_true rfl, Nat.le_of_ble_eq_true rfl⟩) EvY_ok hE hK hS (Cut.app (wc := []) (wr := (WT ca cq xq (kdC C) (fsC C) (snC C) ak (nI (C 0)) (nI (C 37)) (nI (C 38)) (fI (C 39)) (nI (C 40)) (lN (C 66)) (nI (C 41)) tb_ va fy cn an sw sb sv)) hP hD hS hA) rfl hl.1 rfl (Nat.le_of_ble_eq_true rfl) dX1_askedAt_14 ⟨Nat.le_of_ble_eq_true rfl, Nat.le_of_ble_eq_true rfl⟩) hS (Cut.app (wc := []) (wr := (WT ca cq xq (kdC C) (fsC C) (snC C) ak (nI (C 0)) (nI (C 37)) (nI (C 38)) (fI (C 39)) (nI (C 40)) (lN (C 66)) (nI (C 41)) tb_ va fy cn an sw sb sv)) hP hD hS hA) xt_same hex hlocks hK (by decide) (by decide)
set_option maxHeartbeats 4000000 in
set_option maxRecDepth 100000 in
theorem mt_X1_candidateAt_thr (l : Launch) (hlf : l.stackTraces = false) (D : va_G) (ca : Nat → ClassId) (cq : Nat → Nat) (xq : Nat → Nat) (ak : Nat → Int32) (tb_ : Nat → Int64) (va : Nat → Int32) (fy : Nat → Int64) (cn : Nat → Int32) (an : Nat → Int32) (sw : Nat → Int64) (sb : Nat → Int64) (sv : Value) (C : Nat → Nat) (x_ : Int32) (h0 : C 0 ≤ 12) (hc : x_ < 0) (nn : Nat) : vx_Met l yX1_candidateAt (ws_ yX1_candidateAt cX1_candidateAt 7 (Option.some Jvm.ClassFile.FieldType.int)) ({ frames := 9, cells := 1, slots := 6, locals := 220 } : Room) (va_Pc [.ref (xq 0), .int x_] (PreW EvY D vwCl (TY ca) (WT ca cq xq (kdC C) (fsC C) (snC C) ak (nI (C 0)) (nI (C 37)) (nI (C 38)) (fI (C 39)) (nI (C 40)) (lN (C 66)) (nI (C 41)) tb_ va fy cn an sw sb sv) nn)) (QN (va_A (WT ca cq xq (kdC C) (fsC C) (snC C) ak (nI (C 0)) (nI (C 37)) (nI (C 38)) (fI (C 39)) (nI (C 40)) (lN (C 66)) (nI (C 41)) tb_ va fy cn an sw sb sv) nn)) (XT "java/lang/IllegalArgumentException" D vwCl (TY ca) (WT ca cq xq (kdC C) (fsC C) (snC C) ak (nI (C 0)) (nI (C 37)) (nI (C 38)) (fI (C 39)) (nI (C 40)) (lN (C 66)) (nI (C 41)) tb_ va fy cn an sw sb sv) (va_A (WT ca cq xq (kdC C) (fsC C) (snC C) ak (nI (C 0)) (nI (C 37)) (nI (C 38)) (fI (C 39)) (nI (C 40)) (lN (C 66)) (nI (C 41)) tb_ va fy cn an sw sb sv) nn)) 1 6 (va_A (WT ca cq xq (kdC C) (fsC C) (snC C) ak (nI (C 0)) (nI (C 37)) (nI (C 38)) (fI (C 39)) (nI (C 40)) (lN (C 66)) (nI (C 41)) tb_ va fy cn an sw sb sv) nn) := by
  refine met_goX (QA := fun A => QN A) (XA := fun A => XT "java/lang/IllegalArgumentException" D vwCl (TY ca) (WT ca cq xq (kdC C) (fsC C) (snC C) ak (nI (C 0)) (nI (C 37)) (nI (C 38)) (fI (C 39)) (nI (C 40)) (lN (C 66)) (nI (C 41)) tb_ va fy cn an sw sb sv) A) (by decide) (Nat.le_of_ble_eq_true rfl) (fun p e s m below meth c A ls QQ hQQ hex hnm hx hb hr hts hown hlocks hml hA hP hK hD hE hl => ?_)
  have hown : s.vm.findClass RX1 = some m.cls := hown
  have hS : va_S A s.heap s.heap [] := va_S.rf
  have hl : lv_has ls 7 [(0, .ref (xq 0)), (1, .int x_)] := hl
  generalize hHe : s.heap = H at hP ⊢
  have hS : va_S A s.heap H [] := hHe ▸ hS
  generalize ([] : List Loc) = locs at hS ⊢
  refine lv_iload_n hx hb dX1_candidateAt_0 rfl (lv_at hl 1 rfl) ?_
  refine lv_if_lt (tgt := 8) hx hb dX1_candidateAt_1 (by decide) (fun c_1 => ?_) (fun c_1 => absurd hc c_1)
  refine lv_iconst (v := nI 0) hx hb dX1_candidateAt_8 (by decide) ?_
  subst hQQ
  exact xt_out (xt_S (As := [.int (nI 0)]) (rest := []) (mt_X1_needArgument_thr l hlf D ca false rfl H.size) ⟨hx, hb, hml, hown, hts⟩ (va_cwS 1 hts (lw_S q1045 q1046 q79 q1047) rfl rfl rfl (by decide +kernel) ⟨Nat.le_of_ble_eq_true rfl, Nat.le_of_ble_eq_true rfl⟩) EvY_ok hE hK hS (Cut.app (wc := []) (wr := (WT ca cq xq (kdC C) (fsC C) (snC C) ak (nI (C 0)) (nI (C 37)) (nI (C 38)) (fI (C 39)) (nI (C 40)) (lN (C 66)) (nI (C 41)) tb_ va fy cn an sw sb sv)) hP hD hS hA) rfl hl.1 rfl (Nat.le_of_ble_eq_true rfl) dX1_candidateAt_9 ⟨Nat.le_of_ble_eq_true rfl, Nat.le_of_ble_eq_true rfl⟩) hS (Cut.app (wc := []) (wr := (WT ca cq xq (kdC C) (fsC C) (snC C) ak (nI (C 0)) (nI (C 37)) (nI (C 38)) (fI (C 39)) (nI (C 40)) (lN (C 66)) (nI (C 41)) tb_ va fy cn an sw sb sv)) hP hD hS hA) xt_same hex hlocks hK (by decide) (by decide)
set_option maxHeartbeats 4000000 in
set_option maxRecDepth 100000 in
theorem mt_X1_doAsk_thr (l : Launch) (hlf : l.stackTraces = false) (D : va_G) (ca : Nat → ClassId) (cq : Nat → Nat) (xq : Nat → Nat) (ak : Nat → Int32) (tb_ : Nat → Int64) (va : Nat → Int32) (fy : Nat → Int64) (cn : Nat → Int32) (an : Nat → Int32) (sw : Nat → Int64) (sb : Nat → Int64) (sv : Value) (C : Nat → Nat) (t_ : Int32) (h0 : C 0 ≤ 12) (hc : C 41 = 12) (nn : Nat) : vx_Met l yX1_doAsk (ws_ yX1_doAsk cX1_doAsk 3 (Option.some Jvm.ClassFile.FieldType.int)) ({ frames := 9, cells := 1, slots := 6, locals := 220 } : Room) (va_Pc [.ref (xq 0), .int t_] (PreW EvY D vwCl (TY ca) (WT ca cq xq (kdC C) (fsC C) (snC C) ak (nI (C 0)) (nI (C 37)) (nI (C 38)) (fI (C 39)) (nI (C 40)) (lN (C 66)) (nI (C 41)) tb_ va fy cn an sw sb sv) nn)) (QN (va_A (WT ca cq xq (kdC C) (fsC C) (snC C) ak (nI (C 0)) (nI (C 37)) (nI (C 38)) (fI (C 39)) (nI (C 40)) (lN (C 66)) (nI (C 41)) tb_ va fy cn an sw sb sv) nn)) (XT "java/lang/IllegalStateException" D vwCl (TY ca) (WT ca cq xq (kdC C) (fsC C) (snC C) ak (nI (C 0)) (nI (C 37)) (nI (C 38)) (fI (C 39)) (nI (C 40)) (lN (C 66)) (nI (C 41)) tb_ va fy cn an sw sb sv) (va_A (WT ca cq xq (kdC C) (fsC C) (snC C) ak (nI (C 0)) (nI (C 37)) (nI (C 38)) (fI (C 39)) (nI (C 40)) (lN (C 66)) (nI (C 41)) tb_ va fy cn an sw sb sv) nn)) 1 6 (va_A (WT ca cq xq (kdC C) (fsC C) (snC C) ak (nI (C 0)) (nI (C 37)) (nI (C 38)) (fI (C 39)) (nI (C 40)) (lN (C 66)) (nI (C 41)) tb_ va fy cn an sw sb sv) nn) := by
  refine met_goX (QA := fun A => QN A) (XA := fun A => XT "java/lang/IllegalStateException" D vwCl (TY ca) (WT ca cq xq (kdC C) (fsC C) (snC C) ak (nI (C 0)) (nI (C 37)) (nI (C 38)) (fI (C 39)) (nI (C 40)) (lN (C 66)) (nI (C 41)) tb_ va fy cn an sw sb sv) A) (by decide) (Nat.le_of_ble_eq_true rfl) (fun p e s m below meth c A ls QQ hQQ hex hnm hx hb hr hts hown hlocks hml hA hP hK hD hE hl => ?_)
  have hown : s.vm.findClass RX1 = some m.cls := hown
  have hS : va_S A s.heap s.heap [] := va_S.rf
  have hl : lv_has ls 3 [(0, .ref (xq 0)), (1, .int t_)] := hl
  generalize hHe : s.heap = H at hP ⊢
  have hS : va_S A s.heap H [] := hHe ▸ hS
  generalize ([] : List Loc) = locs at hS ⊢
  refine lv_aload_n hx hb dX1_doAsk_0 rfl (lv_at hl 0 rfl) ?_
  refine gWT_5_circuit_X1 hx hb hts hown hK hP dX1_doAsk_1 ?_
  refine gWT_0_asked_X1 hE.1 hx hb hts hown hK hP dX1_doAsk_4 ?_
  refine lv_bipush (v := nI 12) hx hb dX1_doAsk_7 (by decide) ?_
  refine nv_icmp_ge (tgt := 16) hx hb dX1_doAsk_9 (by decide) (by omega) (by omega) (fun c_9 => ?_) (fun c_9 => ?_)
  · skip
    refine lv_iconst (v := nI 0) hx hb dX1_doAsk_16 (by decide) ?_
    subst hQQ
    exact xt_out (xt_S (As := [.int (nI 0)]) (rest := []) (mt_X1_needState_thr l hlf D ca false rfl H.size) ⟨hx, hb, hml, hown, hts⟩ (va_cwS 1 hts (lw_S q1302 q1196 q79 q1197) rfl rfl rfl (by decide +kernel) ⟨Nat.le_of_ble_eq_true rfl, Nat.le_of_ble_eq_true rfl⟩) EvY_ok hE hK hS (Cut.app (wc := []) (wr := (WT ca cq xq (kdC C) (fsC C) (snC C) ak (nI (C 0)) (nI (C 37)) (nI (C 38)) (fI (C 39)) (nI (C 40)) (lN (C 66)) (nI (C 41)) tb_ va fy cn an sw sb sv)) hP hD hS hA) rfl hl.1 rfl (Nat.le_of_ble_eq_true rfl) dX1_doAsk_17 ⟨Nat.le_of_ble_eq_true rfl, Nat.le_of_ble_eq_true rfl⟩) hS (Cut.app (wc := []) (wr := (WT ca cq xq (kdC C) (fsC C) (snC C) ak (nI (C 0)) (nI (C 37)) (nI (C 38)) (fI (C 39)) (nI (C 40)) (lN (C 66)) (nI (C 41)) tb_ va fy cn an sw sb sv)) hP hD hS hA) xt_same hex hlocks hK (by decide) (by decide)
  · skip
    refine lv_iconst (v := nI 1) hx hb dX1_doAsk_12 (by decide) ?_
    refine lv_goto (tgt := 17) hx hb dX1_doAsk_13 (by decide) ?_
    exfalso; clear hP hD hS hK hts; omega
set_option maxHeartbeats 4000000 in
set_option maxRecDepth 100000 in
theorem mt_X1_ask_thrA (l : Launch) (hlf : l.stackTraces = false) (D : va_G) (ca : Nat → ClassId) (cq : Nat → Nat) (xq : Nat → Nat) (ak : Nat → Int32) (tb_ : Nat → Int64) (va : Nat → Int32) (fy : Nat → Int64) (cn : Nat → Int32) (an : Nat → Int32) (sw : Nat → Int64) (sb : Nat → Int64) (sv : Value) (C : Nat → Nat) (t_ : Int32) (h0 : C 0 ≤ 12) (hc : inR 64 t_ = false) (nn : Nat) : vx_Met l yX1_ask (ws_ yX1_ask cX1_ask 2 (Option.some Jvm.ClassFile.FieldType.int)) ({ frames := 10, cells := 1, slots := 6, locals := 240 } : Room) (va_Pc [.ref (xq 0), .int t_] (PreW EvY D vwCl (TY ca) (WT ca cq xq (kdC C) (fsC C) (snC C) ak (nI (C 0)) (nI (C 37)) (nI (C 38)) (fI (C 39)) (nI (C 40)) (lN (C 66)) (nI (C 41)) tb_ va fy cn an sw sb sv) nn)) (QN (va_A (WT ca cq xq (kdC C) (fsC C) (snC C) ak (nI (C 0)) (nI (C 37)) (nI (C 38)) (fI (C 39)) (nI (C 40)) (lN (C 66)) (nI (C 41)) tb_ va fy cn an sw sb sv) nn)) (XT "java/lang/IllegalArgumentException" D vwCl (TY ca) (WT ca cq xq (kdC C) (fsC C) (snC C) ak (nI (C 0)) (nI (C 37)) (nI (C 38)) (fI (C 39)) (nI (C 40)) (lN (C 66)) (nI (C 41)) tb_ va fy cn an sw sb sv) (va_A (WT ca cq xq (kdC C) (fsC C) (snC C) ak (nI (C 0)) (nI (C 37)) (nI (C 38)) (fI (C 39)) (nI (C 40)) (lN (C 66)) (nI (C 41)) tb_ va fy cn an sw sb sv) nn)) 1 6 (va_A (WT ca cq xq (kdC C) (fsC C) (snC C) ak (nI (C 0)) (nI (C 37)) (nI (C 38)) (fI (C 39)) (nI (C 40)) (lN (C 66)) (nI (C 41)) tb_ va fy cn an sw sb sv) nn) := by
  refine met_goX (QA := fun A => QN A) (XA := fun A => XT "java/lang/IllegalArgumentException" D vwCl (TY ca) (WT ca cq xq (kdC C) (fsC C) (snC C) ak (nI (C 0)) (nI (C 37)) (nI (C 38)) (fI (C 39)) (nI (C 40)) (lN (C 66)) (nI (C 41)) tb_ va fy cn an sw sb sv) A) (by decide) (Nat.le_of_ble_eq_true rfl) (fun p e s m below meth c A ls QQ hQQ hex hnm hx hb hr hts hown hlocks hml hA hP hK hD hE hl => ?_)
  have hown : s.vm.findClass RX1 = some m.cls := hown
  have hS : va_S A s.heap s.heap [] := va_S.rf
  have hl : lv_has ls 2 [(0, .ref (xq 0)), (1, .int t_)] := hl
  generalize hHe : s.heap = H at hP ⊢
  have hS : va_S A s.heap H [] := hHe ▸ hS
  generalize ([] : List Loc) = locs at hS ⊢
  refine lv_iload_n hx hb dX1_ask_0 rfl (lv_at hl 1 rfl) ?_
  subst hQQ
  exact xt_out (xt_S (As := [.int t_]) (rest := []) (mt_X1_needTest_thr l hlf D ca t_ hc H.size) ⟨hx, hb, hml, hown, hts⟩ (va_cwS 1 hts (lw_S q1299 q1300 q79 q1301) rfl rfl rfl (by decide +kernel) ⟨Nat.le_of_ble_eq_true rfl, Nat.le_of_ble_eq_true rfl⟩) EvY_ok hE hK hS (Cut.app (wc := []) (wr := (WT ca cq xq (kdC C) (fsC C) (snC C) ak (nI (C 0)) (nI (C 37)) (nI (C 38)) (fI (C 39)) (nI (C 40)) (lN (C 66)) (nI (C 41)) tb_ va fy cn an sw sb sv)) hP hD hS hA) rfl hl.1 rfl (Nat.le_of_ble_eq_true rfl) dX1_ask_1 ⟨Nat.le_of_ble_eq_true rfl, Nat.le_of_ble_eq_true rfl⟩) hS (Cut.app (wc := []) (wr := (WT ca cq xq (kdC C) (fsC C) (snC C) ak (nI (C 0)) (nI (C 37)) (nI (C 38)) (fI (C 39)) (nI (C 40)) (lN (C 66)) (nI (C 41)) tb_ va fy cn an sw sb sv)) hP hD hS hA) xt_same hex hlocks hK (by decide) (by decide)
set_option maxHeartbeats 4000000 in
set_option maxRecDepth 100000 in
theorem mt_X1_ask_thrS (l : Launch) (hlf : l.stackTraces = false) (D : va_G) (ca : Nat → ClassId) (cq : Nat → Nat) (xq : Nat → Nat) (ak : Nat → Int32) (tb_ : Nat → Int64) (va : Nat → Int32) (fy : Nat → Int64) (cn : Nat → Int32) (an : Nat → Int32) (sw : Nat → Int64) (sb : Nat → Int64) (sv : Value) (C : Nat → Nat) (t_ : Nat) (h0 : C 0 ≤ 12) (ht : t_ < 64) (hc : C 41 = 12) (nn : Nat) : vx_Met l yX1_ask (ws_ yX1_ask cX1_ask 2 (Option.some Jvm.ClassFile.FieldType.int)) ({ frames := 9, cells := 1, slots := 6, locals := 220 } : Room) (va_Pc [.ref (xq 0), .int (nI t_)] (PreW EvY D vwCl (TY ca) (WT ca cq xq (kdC C) (fsC C) (snC C) ak (nI (C 0)) (nI (C 37)) (nI (C 38)) (fI (C 39)) (nI (C 40)) (lN (C 66)) (nI (C 41)) tb_ va fy cn an sw sb sv) nn)) (QN (va_A (WT ca cq xq (kdC C) (fsC C) (snC C) ak (nI (C 0)) (nI (C 37)) (nI (C 38)) (fI (C 39)) (nI (C 40)) (lN (C 66)) (nI (C 41)) tb_ va fy cn an sw sb sv) nn)) (XT "java/lang/IllegalStateException" D vwCl (TY ca) (WT ca cq xq (kdC C) (fsC C) (snC C) ak (nI (C 0)) (nI (C 37)) (nI (C 38)) (fI (C 39)) (nI (C 40)) (lN (C 66)) (nI (C 41)) tb_ va fy cn an sw sb sv) (va_A (WT ca cq xq (kdC C) (fsC C) (snC C) ak (nI (C 0)) (nI (C 37)) (nI (C 38)) (fI (C 39)) (nI (C 40)) (lN (C 66)) (nI (C 41)) tb_ va fy cn an sw sb sv) nn)) 1 6 (va_A (WT ca cq xq (kdC C) (fsC C) (snC C) ak (nI (C 0)) (nI (C 37)) (nI (C 38)) (fI (C 39)) (nI (C 40)) (lN (C 66)) (nI (C 41)) tb_ va fy cn an sw sb sv) nn) := by
  refine met_goX (QA := fun A => QN A) (XA := fun A => XT "java/lang/IllegalStateException" D vwCl (TY ca) (WT ca cq xq (kdC C) (fsC C) (snC C) ak (nI (C 0)) (nI (C 37)) (nI (C 38)) (fI (C 39)) (nI (C 40)) (lN (C 66)) (nI (C 41)) tb_ va fy cn an sw sb sv) A) (by decide) (Nat.le_of_ble_eq_true rfl) (fun p e s m below meth c A ls QQ hQQ hex hnm hx hb hr hts hown hlocks hml hA hP hK hD hE hl => ?_)
  have hown : s.vm.findClass RX1 = some m.cls := hown
  have hS : va_S A s.heap s.heap [] := va_S.rf
  have hl : lv_has ls 2 [(0, .ref (xq 0)), (1, .int (nI t_))] := hl
  generalize hHe : s.heap = H at hP ⊢
  have hS : va_S A s.heap H [] := hHe ▸ hS
  generalize ([] : List Loc) = locs at hS ⊢
  refine lv_iload_n hx hb dX1_ask_0 rfl (lv_at hl 1 rfl) ?_
  refine xc_v (xr_S (As := [.int (nI t_)]) (rest := []) (mt_X1_needTest_ok l D ca t_ (by first | assumption | omega | (simp only [updN, forgetC, changedC]; (repeat' split) <;> omega)) H.size) ⟨hx, hb, hml, hown, hts⟩ (va_cwS 1 hts (lw_S q1299 q1300 q79 q1301) rfl rfl rfl (by decide +kernel) ⟨Nat.le_of_ble_eq_true rfl, Nat.le_of_ble_eq_true rfl⟩) Ev0_ok trivial hK hS (Cut.app (wc := []) (wr := (WT ca cq xq (kdC C) (fsC C) (snC C) ak (nI (C 0)) (nI (C 37)) (nI (C 38)) (fI (C 39)) (nI (C 40)) (lN (C 66)) (nI (C 41)) tb_ va fy cn an sw sb sv)) hP hD hS hA) rfl hl.1 rfl (Nat.le_of_ble_eq_true rfl) dX1_ask_1 ⟨Nat.le_of_ble_eq_true rfl, Nat.le_of_ble_eq_true rfl⟩) hS (Cut.app (wc := []) (wr := (WT ca cq xq (kdC C) (fsC C) (snC C) ak (nI (C 0)) (nI (C 37)) (nI (C 38)) (fI (C 39)) (nI (C 40)) (lN (C 66)) (nI (C 41)) tb_ va fy cn an sw sb sv)) hP hD hS hA) (fun u_2 H locs hq_1 hP hD hS => ?_)
  have hP : va_P D vwCl (WT ca cq xq (kdC C) (fsC C) (snC C) ak (nI (C 0)) (nI (C 37)) (nI (C 38)) (fI (C 39)) (nI (C 40)) (lN (C 66)) (nI (C 41)) tb_ va fy cn an sw sb sv) H := hP
  have hD : va_D A (WT ca cq xq (kdC C) (fsC C) (snC C) ak (nI (C 0)) (nI (C 37)) (nI (C 38)) (fI (C 39)) (nI (C 40)) (lN (C 66)) (nI (C 41)) tb_ va fy cn an sw sb sv) := hD
  refine lv_aload_n hx hb dX1_ask_4 rfl (lv_at hl 0 rfl) ?_
  refine gWT_5_circuit_X1 hx hb hts hown hK hP dX1_ask_5 ?_
  refine gWT_0_asked_X1 hE.1 hx hb hts hown hK hP dX1_ask_8 ?_
  refine lv_bipush (v := nI 12) hx hb dX1_ask_11 (by decide) ?_
  refine nv_icmp_ge (tgt := 20) hx hb dX1_ask_13 (by decide) (by omega) (by omega) (fun c_13 => ?_) (fun c_13 => ?_)
  · skip
    refine lv_iconst (v := nI 0) hx hb dX1_ask_20 (by decide) ?_
    subst hQQ
    exact xt_out (xt_S (As := [.int (nI 0)]) (rest := []) (mt_X1_needState_thr l hlf D ca false rfl H.size) ⟨hx, hb, hml, hown, hts⟩ (va_cwS 1 hts (lw_S q1302 q1196 q79 q1197) rfl rfl rfl (by decide +kernel) ⟨Nat.le_of_ble_eq_true rfl, Nat.le_of_ble_eq_true rfl⟩) EvY_ok hE hK hS (Cut.app (wc := []) (wr := (WT ca cq xq (kdC C) (fsC C) (snC C) ak (nI (C 0)) (nI (C 37)) (nI (C 38)) (fI (C 39)) (nI (C 40)) (lN (C 66)) (nI (C 41)) tb_ va fy cn an sw sb sv)) hP hD hS hA) rfl hl.1 rfl (Nat.le_of_ble_eq_true rfl) dX1_ask_21 ⟨Nat.le_of_ble_eq_true rfl, Nat.le_of_ble_eq_true rfl⟩) hS (Cut.app (wc := []) (wr := (WT ca cq xq (kdC C) (fsC C) (snC C) ak (nI (C 0)) (nI (C 37)) (nI (C 38)) (fI (C 39)) (nI (C 40)) (lN (C 66)) (nI (C 41)) tb_ va fy cn an sw sb sv)) hP hD hS hA) xt_same hex hlocks hK (by decide) (by decide)
  · skip
    refine lv_iconst (v := nI 1) hx hb dX1_ask_16 (by decide) ?_
    refine lv_goto (tgt := 21) hx hb dX1_ask_17 (by decide) ?_
    exfalso; clear hP hD hS hK hts; omega
set_option maxHeartbeats 4000000 in
set_option maxRecDepth 100000 in
theorem mt_X1_askBest_thr (l : Launch) (hlf : l.stackTraces = false) (D : va_G) (ca : Nat → ClassId) (cq : Nat → Nat) (xq : Nat → Nat) (ak : Nat → Int32) (tb_ : Nat → Int64) (va : Nat → Int32) (fy : Nat → Int64) (cn : Nat → Int32) (an : Nat → Int32) (sw : Nat → Int64) (sb : Nat → Int64) (sv : Value) (C : Nat → Nat) (x_ : Int32) (h0 : C 0 ≤ 12) (hc : decide (nI 1 ≤ x_ ∧ x_ ≤ nI 12) = false) (nn : Nat) : vx_Met l yX1_askBest (ws_ yX1_askBest cX1_askBest 3 (Option.some Jvm.ClassFile.FieldType.int)) ({ frames := 9, cells := 1, slots := 6, locals := 220 } : Room) (va_Pc [.ref (xq 0), .int x_] (PreW EvY D vwCl (TY ca) (WT ca cq xq (kdC C) (fsC C) (snC C) ak (nI (C 0)) (nI (C 37)) (nI (C 38)) (fI (C 39)) (nI (C 40)) (lN (C 66)) (nI (C 41)) tb_ va fy cn an sw sb sv) nn)) (QN (va_A (WT ca cq xq (kdC C) (fsC C) (snC C) ak (nI (C 0)) (nI (C 37)) (nI (C 38)) (fI (C 39)) (nI (C 40)) (lN (C 66)) (nI (C 41)) tb_ va fy cn an sw sb sv) nn)) (XT "java/lang/IllegalArgumentException" D vwCl (TY ca) (WT ca cq xq (kdC C) (fsC C) (snC C) ak (nI (C 0)) (nI (C 37)) (nI (C 38)) (fI (C 39)) (nI (C 40)) (lN (C 66)) (nI (C 41)) tb_ va fy cn an sw sb sv) (va_A (WT ca cq xq (kdC C) (fsC C) (snC C) ak (nI (C 0)) (nI (C 37)) (nI (C 38)) (fI (C 39)) (nI (C 40)) (lN (C 66)) (nI (C 41)) tb_ va fy cn an sw sb sv) nn)) 1 6 (va_A (WT ca cq xq (kdC C) (fsC C) (snC C) ak (nI (C 0)) (nI (C 37)) (nI (C 38)) (fI (C 39)) (nI (C 40)) (lN (C 66)) (nI (C 41)) tb_ va fy cn an sw sb sv) nn) := by
  refine met_goX (QA := fun A => QN A) (XA := fun A => XT "java/lang/IllegalArgumentException" D vwCl (TY ca) (WT ca cq xq (kdC C) (fsC C) (snC C) ak (nI (C 0)) (nI (C 37)) (nI (C 38)) (fI (C 39)) (nI (C 40)) (lN (C 66)) (nI (C 41)) tb_ va fy cn an sw sb sv) A) (by decide) (Nat.le_of_ble_eq_true rfl) (fun p e s m below meth c A ls QQ hQQ hex hnm hx hb hr hts hown hlocks hml hA hP hK hD hE hl => ?_)
  have hown : s.vm.findClass RX1 = some m.cls := hown
  have hS : va_S A s.heap s.heap [] := va_S.rf
  have hl : lv_has ls 3 [(0, .ref (xq 0)), (1, .int x_)] := hl
  generalize hHe : s.heap = H at hP ⊢
  have hS : va_S A s.heap H [] := hHe ▸ hS
  generalize ([] : List Loc) = locs at hS ⊢
  refine lv_iload_n hx hb dX1_askBest_0 rfl (lv_at hl 1 rfl) ?_
  refine lv_iconst (v := nI 1) hx hb dX1_askBest_1 (by decide) ?_
  refine lv_bipush (v := nI 12) hx hb dX1_askBest_2 (by decide) ?_
  refine xc_i (xr_S (As := [.int x_, .int (nI 1), .int (nI 12)]) (rest := []) (mt_X1_isWithin l D ca x_ (nI 1) (nI 12)  H.size) ⟨hx, hb, hml, hown, hts⟩ (va_cwS 3 hts (lw_S q1044 q926 q79 q927) rfl rfl rfl (by decide +kernel) ⟨Nat.le_of_ble_eq_true rfl, Nat.le_of_ble_eq_true rfl⟩) Ev0_ok trivial hK hS (Cut.app (wc := []) (wr := (WT ca cq xq (kdC C) (fsC C) (snC C) ak (nI (C 0)) (nI (C 37)) (nI (C 38)) (fI (C 39)) (nI (C 40)) (lN (C 66)) (nI (C 41)) tb_ va fy cn an sw sb sv)) hP hD hS hA) rfl hl.1 rfl (Nat.le_of_ble_eq_true rfl) dX1_askBest_4 ⟨Nat.le_of_ble_eq_true rfl, Nat.le_of_ble_eq_true rfl⟩) hS (Cut.app (wc := []) (wr := (WT ca cq xq (kdC C) (fsC C) (snC C) ak (nI (C 0)) (nI (C 37)) (nI (C 38)) (fI (C 39)) (nI (C 40)) (lN (C 66)) (nI (C 41)) tb_ va fy cn an sw sb sv)) hP hD hS hA) (fun r_1 u_2 H locs hq_4 hP hD hS => ?_)
  have hP : va_P D vwCl (WT ca cq xq (kdC C) (fsC C) (snC C) ak (nI (C 0)) (nI (C 37)) (nI (C 38)) (fI (C 39)) (nI (C 40)) (lN (C 66)) (nI (C 41)) tb_ va fy cn an sw sb sv) H := hP
  have hD : va_D A (WT ca cq xq (kdC C) (fsC C) (snC C) ak (nI (C 0)) (nI (C 37)) (nI (C 38)) (fI (C 39)) (nI (C 40)) (lN (C 66)) (nI (C 41)) tb_ va fy cn an sw sb sv) := hD
  have hp_4 : r_1 = bI (decide ((nI 1) ≤ x_ ∧ x_ ≤ (nI 12))) := hq_4
  clear hq_4
  obtain rfl := hp_4
  subst hQQ
  exact xt_out (xt_S (As := [.int (bI (decide ((nI 1) ≤ x_ ∧ x_ ≤ (nI 12))))]) (rest := []) (mt_X1_needArgument_thr l hlf D ca (decide ((nI 1) ≤ x_ ∧ x_ ≤ (nI 12))) hc H.size) ⟨hx, hb, hml, hown, hts⟩ (va_cwS 1 hts (lw_S q1045 q1046 q79 q1047) rfl rfl rfl (by decide +kernel) ⟨Nat.le_of_ble_eq_true rfl, Nat.le_of_ble_eq_true rfl⟩) EvY_ok hE hK hS (Cut.app (wc := []) (wr := (WT ca cq xq (kdC C) (fsC C) (snC C) ak (nI (C 0)) (nI (C 37)) (nI (C 38)) (fI (C 39)) (nI (C 40)) (lN (C 66)) (nI (C 41)) tb_ va fy cn an sw sb sv)) hP hD hS hA) rfl hl.1 rfl (Nat.le_of_ble_eq_true rfl) dX1_askBest_7 ⟨Nat.le_of_ble_eq_true rfl, Nat.le_of_ble_eq_true rfl⟩) hS (Cut.app (wc := []) (wr := (WT ca cq xq (kdC C) (fsC C) (snC C) ak (nI (C 0)) (nI (C 37)) (nI (C 38)) (fI (C 39)) (nI (C 40)) (lN (C 66)) (nI (C 41)) tb_ va fy cn an sw sb sv)) hP hD hS hA) xt_same hex hlocks hK (by decide) (by decide)
set_option maxHeartbeats 4000000 in
set_option maxRecDepth 100000 in
theorem mt_X1_setSecret_thr (l : Launch) (hlf : l.stackTraces = false) (D : va_G) (ca : Nat → ClassId) (cq : Nat → Nat) (xq : Nat → Nat) (ak : Nat → Int32) (tb_ : Nat → Int64) (va : Nat → Int32) (fy : Nat → Int64) (cn : Nat → Int32) (an : Nat → Int32) (sw : Nat → Int64) (sb : Nat → Int64) (sv : Value) (C : Nat → Nat) (x_ : Int32) (h0 : C 0 ≤ 12) (hc0 : x_ ≠ fI 0) (hc : inR (2 * (6 + C 0)) x_ = false) (nn : Nat) : vx_Met l yX1_setSecret (ws_ yX1_setSecret cX1_setSecret 3 (Option.some Jvm.ClassFile.FieldType.int)) ({ frames := 9, cells := 1, slots := 6, locals := 220 } : Room) (va_Pc [.ref (xq 0), .int x_] (PreW EvY D vwCl (TY ca) (WT ca cq xq (kdC C) (fsC C) (snC C) ak (nI (C 0)) (nI (C 37)) (nI (C 38)) (fI (C 39)) (nI (C 40)) (lN (C 66)) (nI (C 41)) tb_ va fy cn an sw sb sv) nn)) (QN (va_A (WT ca cq xq (kdC C) (fsC C) (snC C) ak (nI (C 0)) (nI (C 37)) (nI (C 38)) (fI (C 39)) (nI (C 40)) (lN (C 66)) (nI (C 41)) tb_ va fy cn an sw sb sv) nn)) (XT "java/lang/IllegalArgumentException" D vwCl (TY ca) (WT ca cq xq (kdC C) (fsC C) (snC C) ak (nI (C 0)) (nI (C 37)) (nI (C 38)) (fI (C 39)) (nI (C 40)) (lN (C 66)) (nI (C 41)) tb_ va fy cn an sw sb sv) (va_A (WT ca cq xq (kdC C) (fsC C) (snC C) ak (nI (C 0)) (nI (C 37)) (nI (C 38)) (fI (C 39)) (nI (C 40)) (lN (C 66)) (nI (C 41)) tb_ va fy cn an sw sb sv) nn)) 1 6 (va_A (WT ca cq xq (kdC C) (fsC C) (snC C) ak (nI (C 0)) (nI (C 37)) (nI (C 38)) (fI (C 39)) (nI (C 40)) (lN (C 66)) (nI (C 41)) tb_ va fy cn an sw sb sv) nn) := by
  refine met_goX (QA := fun A => QN A) (XA := fun A => XT "java/lang/IllegalArgumentException" D vwCl (TY ca) (WT ca cq xq (kdC C) (fsC C) (snC C) ak (nI (C 0)) (nI (C 37)) (nI (C 38)) (fI (C 39)) (nI (C 40)) (lN (C 66)) (nI (C 41)) tb_ va fy cn an sw sb sv) A) (by decide) (Nat.le_of_ble_eq_true rfl) (fun p e s m below meth c A ls QQ hQQ hex hnm hx hb hr hts hown hlocks hml hA hP hK hD hE hl => ?_)
  have hown : s.vm.findClass RX1 = some m.cls := hown
  have hS : va_S A s.heap s.heap [] := va_S.rf
  have hl : lv_has ls 3 [(0, .ref (xq 0)), (1, .int x_)] := hl
  generalize hHe : s.heap = H at hP ⊢
  have hS : va_S A s.heap H [] := hHe ▸ hS
  generalize ([] : List Loc) = locs at hS ⊢
  refine lv_iload_n hx hb dX1_setSecret_0 rfl (lv_at hl 1 rfl) ?_
  refine lv_iconst (v := fI 0) hx hb dX1_setSecret_1 (by decide) ?_
  refine lv_aload_n hx hb dX1_setSecret_2 rfl (lv_at hl 0 rfl) ?_
  refine gWT_5_circuit_X1 hx hb hts hown hK hP dX1_setSecret_3 ?_
  refine xc_i (xr_V (b := cq 0) (ci := 1) (q0 := 0) (As := []) (rest := [.int (fI 0), .int x_]) (mt_X2_faults l D ca cq (kdC C) (fsC C) (snC C) ak (nI (C 37)) (nI (C 38)) (fI (C 39)) (nI (C 40)) (lN (C 66)) (nI (C 41)) (C 0)  H.size) ⟨hx, hb, hml, hown, hts⟩ (cwV 0 hts (lw_V q439 q440 q441 q80 q442) rfl rfl rfl (by decide +kernel) ⟨Nat.le_of_ble_eq_true rfl, Nat.le_of_ble_eq_true rfl⟩) EvX_ok hE.1 hK hS (Cut.app (wc := (WC ca cq (kdC C) (fsC C) (snC C) ak (nI (C 0)) (nI (C 37)) (nI (C 38)) (fI (C 39)) (nI (C 40)) (lN (C 66)) (nI (C 41)))) (wr := (WTr ca cq xq tb_ va fy cn an sw sb sv)) hP hD hS hA) rfl rfl rfl hl.1 rfl (Nat.le_of_ble_eq_true rfl) dX1_setSecret_6 ⟨Nat.le_of_ble_eq_true rfl, Nat.le_of_ble_eq_true rfl⟩) hS (Cut.app (wc := (WC ca cq (kdC C) (fsC C) (snC C) ak (nI (C 0)) (nI (C 37)) (nI (C 38)) (fI (C 39)) (nI (C 40)) (lN (C 66)) (nI (C 41)))) (wr := (WTr ca cq xq tb_ va fy cn an sw sb sv)) hP hD hS hA) (fun r_1 u_2 H locs hq_6 hP hD hS => ?_)
  have hP : va_P D vwCl (WT ca cq xq (kdC C) (fsC C) (snC C) ak (nI (C 0)) (nI (C 37)) (nI (C 38)) (fI (C 39)) (nI (C 40)) (lN (C 66)) (nI (C 41)) tb_ va fy cn an sw sb sv) H := hP
  have hD : va_D A (WT ca cq xq (kdC C) (fsC C) (snC C) ak (nI (C 0)) (nI (C 37)) (nI (C 38)) (fI (C 39)) (nI (C 40)) (lN (C 66)) (nI (C 41)) tb_ va fy cn an sw sb sv) := hD
  have hp_6 : r_1 = nI (2 * (6 + (C 0))) := hq_6
  clear hq_6
  obtain rfl := hp_6
  refine lv_iconst (v := nI 1) hx hb dX1_setSecret_9 (by decide) ?_
  refine lv_isub hx hb dX1_setSecret_10 ?_
  refine xc_i (xr_S (As := [.int x_, .int (fI 0), .int ((nI (2 * (6 + (C 0)))) - (nI 1))]) (rest := []) (mt_X1_isWithin l D ca x_ (fI 0) ((nI (2 * (6 + (C 0)))) - (nI 1))  H.size) ⟨hx, hb, hml, hown, hts⟩ (va_cwS 3 hts (lw_S q1044 q926 q79 q927) rfl rfl rfl (by decide +kernel) ⟨Nat.le_of_ble_eq_true rfl, Nat.le_of_ble_eq_true rfl⟩) Ev0_ok trivial hK hS (Cut.app (wc := []) (wr := (WT ca cq xq (kdC C) (fsC C) (snC C) ak (nI (C 0)) (nI (C 37)) (nI (C 38)) (fI (C 39)) (nI (C 40)) (lN (C 66)) (nI (C 41)) tb_ va fy cn an sw sb sv)) hP hD hS hA) rfl hl.1 rfl (Nat.le_of_ble_eq_true rfl) dX1_setSecret_11 ⟨Nat.le_of_ble_eq_true rfl, Nat.le_of_ble_eq_true rfl⟩) hS (Cut.app (wc := []) (wr := (WT ca cq xq (kdC C) (fsC C) (snC C) ak (nI (C 0)) (nI (C 37)) (nI (C 38)) (fI (C 39)) (nI (C 40)) (lN (C 66)) (nI (C 41)) tb_ va fy cn an sw sb sv)) hP hD hS hA) (fun r_3 u_4 H locs hq_11 hP hD hS => ?_)
  have hP : va_P D vwCl (WT ca cq xq (kdC C) (fsC C) (snC C) ak (nI (C 0)) (nI (C 37)) (nI (C 38)) (fI (C 39)) (nI (C 40)) (lN (C 66)) (nI (C 41)) tb_ va fy cn an sw sb sv) H := hP
  have hD : va_D A (WT ca cq xq (kdC C) (fsC C) (snC C) ak (nI (C 0)) (nI (C 37)) (nI (C 38)) (fI (C 39)) (nI (C 40)) (lN (C 66)) (nI (C 41)) tb_ va fy cn an sw sb sv) := hD
  have hp_11 : r_3 = bI (decide ((fI 0) ≤ x_ ∧ x_ ≤ ((nI (2 * (6 + (C 0)))) - (nI 1)))) := hq_11
  clear hq_11
  obtain rfl := hp_11
  subst hQQ
  exact xt_out (xt_S (As := [.int (bI (decide ((fI 0) ≤ x_ ∧ x_ ≤ ((nI (2 * (6 + (C 0)))) - (nI 1)))))]) (rest := []) (mt_X1_needArgument_thr l hlf D ca (decide ((fI 0) ≤ x_ ∧ x_ ≤ ((nI (2 * (6 + (C 0)))) - (nI 1)))) (sec_bad (by omega) hc0 hc) H.size) ⟨hx, hb, hml, hown, hts⟩ (va_cwS 1 hts (lw_S q1045 q1046 q79 q1047) rfl rfl rfl (by decide +kernel) ⟨Nat.le_of_ble_eq_true rfl, Nat.le_of_ble_eq_true rfl⟩) EvY_ok hE hK hS (Cut.app (wc := []) (wr := (WT ca cq xq (kdC C) (fsC C) (snC C) ak (nI (C 0)) (nI (C 37)) (nI (C 38)) (fI (C 39)) (nI (C 40)) (lN (C 66)) (nI (C 41)) tb_ va fy cn an sw sb sv)) hP hD hS hA) rfl hl.1 rfl (Nat.le_of_ble_eq_true rfl) dX1_setSecret_14 ⟨Nat.le_of_ble_eq_true rfl, Nat.le_of_ble_eq_true rfl⟩) hS (Cut.app (wc := []) (wr := (WT ca cq xq (kdC C) (fsC C) (snC C) ak (nI (C 0)) (nI (C 37)) (nI (C 38)) (fI (C 39)) (nI (C 40)) (lN (C 66)) (nI (C 41)) tb_ va fy cn an sw sb sv)) hP hD hS hA) xt_same hex hlocks hK (by decide) (by decide)
