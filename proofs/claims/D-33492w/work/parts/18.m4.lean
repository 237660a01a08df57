/-! contracts of the model: what is told of lines and faults -/
set_option maxRecDepth 100000
set_option maxHeartbeats 4000000 in
set_option maxRecDepth 100000 in
theorem mt_X3_askedAt_ok (l : Launch) (D : va_G) (ca : Nat → ClassId) (q : Nat → Nat) (th : Int32) (st : Int32) (ik : Int32) (ln : Int32) (ou : Int32) (pa : Int32) (iw : Int32) (so : Int32) (na : Int32) (nb : Int32) (fo : Int32) (nu : Int32) (al : Int32) (be : Nat → Int32) (ke : Nat → Int32) (te : Nat → Int32) (ti : Nat → Int32) (ne : Nat → Int32) (wa : Nat → Int32) (ta : Nat → Int64) (out : Nat → Int64) (pl : Nat → Int64) (lo : Nat → Int64) (sh : Nat → Int64) (le : Nat → Int64) (C : Nat → Nat) (n_ : Nat) (hn : n_ < C 41) (hak : C 41 ≤ 12) (nn : Nat) : Met l yX3_askedAt (ws_ yX3_askedAt cX3_askedAt 2 (Option.some Jvm.ClassFile.FieldType.int)) ({ frames := 1, cells := 0, slots := 0, locals := 22 } : Room) (va_Pc [.ref (q 0), .int (nI n_)] (PreW Ev0 D vwCl (TY ca) (WM ca q th st ik ln ou pa iw so na nb fo nu al (zOf C) be ke te ti ne wa ta out pl lo sh le) nn)) (va_Qi (fun (r_ : Int32) (_ : Unit) => r_ = nI (16 * C (42 + n_) + C (54 + n_))) (PostW D vwCl (TY ca) (fun (_ : Unit) => (WM ca q (nI 0) st ik ln ou pa iw so na nb fo nu al (zOf C) be ke te ti ne wa ta out pl lo sh le)) (va_A (WM ca q th st ik ln ou pa iw so na nb fo nu al (zOf C) be ke te ti ne wa ta out pl lo sh le) nn)) (va_A (WM ca q th st ik ln ou pa iw so na nb fo nu al (zOf C) be ke te ti ne wa ta out pl lo sh le) nn)) 0 0 (va_A (WM ca q th st ik ln ou pa iw so na nb fo nu al (zOf C) be ke te ti ne wa ta out pl lo sh le) nn) := by
  refine met_go (QA := fun A => va_Qi (fun (r_ : Int32) (_ : Unit) => r_ = nI (16 * C (42 + n_) + C (54 + n_))) (PostW D vwCl (TY ca) (fun (_ : Unit) => (WM ca q (nI 0) st ik ln ou pa iw so na nb fo nu al (zOf C) be ke te ti ne wa ta out pl lo sh le)) A) A) (by decide) (Nat.le_of_ble_eq_true rfl) (fun p e s m below meth c A ls QQ hQQ hx hb hr hts hown hlocks hml hA hP hK hD hE hl => ?_)
  have hown : s.vm.findClass RX3 = some m.cls := hown
  have hS : va_S A s.heap s.heap [] := va_S.rf
  have hl : lv_has ls 2 [(0, .ref (q 0)), (1, .int (nI n_))] := hl
  generalize hHe : s.heap = H at hP ⊢
  have hS : va_S A s.heap H [] := hHe ▸ hS
  generalize ([] : List Loc) = locs at hS ⊢
  refine lv_aload_n hx hb dX3_askedAt_0 rfl (lv_at hl 0 rfl) ?_
  refine lv_iload_n hx hb dX3_askedAt_1 rfl (lv_at hl 1 rfl) ?_
  refine lv_iconst (v := nI 0) hx hb dX3_askedAt_2 (by decide) ?_
  refine lv_aload_n hx hb dX3_askedAt_3 rfl (lv_at hl 0 rfl) ?_
  refine gWM_0_z_X3 hx hb hts hown hK hP dX3_askedAt_4 ?_
  refine lv_bipush (v := nI 41) hx hb dX3_askedAt_7 (by decide) ?_
  refine ldWM_1 hx hb hK hP (by omega) dX3_askedAt_9 ?_
  refine lv_topi (nm_r (e' := nI (C 41)) (rfl) ?_)
  refine lv_iconst (v := nI 1) hx hb dX3_askedAt_10 (by decide) ?_
  refine lv_isub hx hb dX3_askedAt_11 ?_
  refine xc_i (xr_S (As := [.int (nI n_), .int (nI 0), .int ((nI (C 41)) - (nI 1))]) (rest := [.ref (q 0)]) (mt_X3_in l D ca (nI n_) (nI 0) ((nI (C 41)) - (nI 1))  H.size) ⟨hx, hb, hml, hown, hts⟩ (va_cwS 3 hts (lw_S q1700 q1701 q87 q1702) rfl rfl rfl (by decide +kernel) ⟨Nat.le_of_ble_eq_true rfl, Nat.le_of_ble_eq_true rfl⟩) Ev0_ok hE hK hS (Cut.app (wc := []) (wr := (WM ca q th st ik ln ou pa iw so na nb fo nu al (zOf C) be ke te ti ne wa ta out pl lo sh le)) hP hD hS hA) rfl hl.1 rfl (Nat.le_of_ble_eq_true rfl) dX3_askedAt_12 ⟨Nat.le_of_ble_eq_true rfl, Nat.le_of_ble_eq_true rfl⟩) hS (Cut.app (wc := []) (wr := (WM ca q th st ik ln ou pa iw so na nb fo nu al (zOf C) be ke te ti ne wa ta out pl lo sh le)) hP hD hS hA) (fun r_1 u_2 H locs hq_12 hP hD hS => ?_)
  have hP : va_P D vwCl (WM ca q th st ik ln ou pa iw so na nb fo nu al (zOf C) be ke te ti ne wa ta out pl lo sh le) H := hP
  have hD : va_D A (WM ca q th st ik ln ou pa iw so na nb fo nu al (zOf C) be ke te ti ne wa ta out pl lo sh le) := hD
  have hp_12 : r_1 = bI (decide ((nI 0) ≤ (nI n_) ∧ (nI n_) ≤ ((nI (C 41)) - (nI 1)))) := hq_12
  clear hq_12
  obtain rfl := hp_12
  refine nv_ifb_eq (tgt := 22) hx hb dX3_askedAt_15 (by decide) (fun c_15 => (absurd c_15 (by rw [inR_end (by omega), inR_ok hn (by omega)]; decide))) (fun c_15 => ?_)
  refine lv_iconst (v := nI 0) hx hb dX3_askedAt_18 (by decide) ?_
  refine lv_goto (tgt := 23) hx hb dX3_askedAt_19 (by decide) ?_
  refine pWM_0_thrown_X3 hx hb hts hown hK hP hD hS dX3_askedAt_23 (fun H locs hP hD hS => ?_)
  refine lv_aload_n hx hb dX3_askedAt_26 rfl (lv_at hl 0 rfl) ?_
  refine gWM_0_thrown_X3 hx hb hts hown hK hP dX3_askedAt_27 ?_
  refine nv_if_le (tgt := 37) hx hb dX3_askedAt_30 (by decide) (by omega) (fun c_30 => ?_) (fun c_30 => absurd c_30 (by decide))
  refine lv_bipush (v := nI 16) hx hb dX3_askedAt_37 (by decide) ?_
  refine lv_aload_n hx hb dX3_askedAt_39 rfl (lv_at hl 0 rfl) ?_
  refine gWM_0_z_X3 hx hb hts hown hK hP dX3_askedAt_40 ?_
  refine lv_bipush (v := nI 42) hx hb dX3_askedAt_43 (by decide) ?_
  refine lv_iload_n hx hb dX3_askedAt_45 rfl (lv_at hl 1 rfl) ?_
  refine nv_iadd hx hb dX3_askedAt_46 ?_
  refine ldWM_1 hx hb hK hP (by omega) dX3_askedAt_47 ?_
  refine lv_topi (nm_r (e' := nI (C (42 + n_))) (zOf_n (by omega)) ?_)
  refine nv_imul hx hb dX3_askedAt_48 ?_
  refine lv_aload_n hx hb dX3_askedAt_49 rfl (lv_at hl 0 rfl) ?_
  refine gWM_0_z_X3 hx hb hts hown hK hP dX3_askedAt_50 ?_
  refine lv_bipush (v := nI 54) hx hb dX3_askedAt_53 (by decide) ?_
  refine lv_iload_n hx hb dX3_askedAt_55 rfl (lv_at hl 1 rfl) ?_
  refine nv_iadd hx hb dX3_askedAt_56 ?_
  refine ldWM_1 hx hb hK hP (by omega) dX3_askedAt_57 ?_
  refine lv_topi (nm_r (e' := nI (C (54 + n_))) (zOf_n (by omega)) ?_)
  refine nv_iadd hx hb dX3_askedAt_58 ?_
  subst hQQ
  exact xe_i (v := nI ((16 * (C (42 + n_))) + (C (54 + n_)))) () hx hb hr hlocks hK hP hD hS (rfl) dX3_askedAt_59
set_option maxHeartbeats 4000000 in
set_option maxRecDepth 100000 in
theorem mt_X3_askedAt_no (l : Launch) (D : va_G) (ca : Nat → ClassId) (q : Nat → Nat) (th : Int32) (st : Int32) (ik : Int32) (ln : Int32) (ou : Int32) (pa : Int32) (iw : Int32) (so : Int32) (na : Int32) (nb : Int32) (fo : Int32) (nu : Int32) (al : Int32) (be : Nat → Int32) (ke : Nat → Int32) (te : Nat → Int32) (ti : Nat → Int32) (ne : Nat → Int32) (wa : Nat → Int32) (ta : Nat → Int64) (out : Nat → Int64) (pl : Nat → Int64) (lo : Nat → Int64) (sh : Nat → Int64) (le : Nat → Int64) (C : Nat → Nat) (x_ : Int32) (hc : inR (C 41) x_ = false) (hak : C 41 ≤ 12) (nn : Nat) : Met l yX3_askedAt (ws_ yX3_askedAt cX3_askedAt 2 (Option.some Jvm.ClassFile.FieldType.int)) ({ frames := 1, cells := 0, slots := 0, locals := 22 } : Room) (va_Pc [.ref (q 0), .int x_] (PreW Ev0 D vwCl (TY ca) (WM ca q th st ik ln ou pa iw so na nb fo nu al (zOf C) be ke te ti ne wa ta out pl lo sh le) nn)) (va_Qi (fun (r_ : Int32) (_ : Unit) => r_ = nI 0) (PostW D vwCl (TY ca) (fun (_ : Unit) => (WM ca q (nI 1) st ik ln ou pa iw so na nb fo nu al (zOf C) be ke te ti ne wa ta out pl lo sh le)) (va_A (WM ca q th st ik ln ou pa iw so na nb fo nu al (zOf C) be ke te ti ne wa ta out pl lo sh le) nn)) (va_A (WM ca q th st ik ln ou pa iw so na nb fo nu al (zOf C) be ke te ti ne wa ta out pl lo sh le) nn)) 0 0 (va_A (WM ca q th st ik ln ou pa iw so na nb fo nu al (zOf C) be ke te ti ne wa ta out pl lo sh le) nn) := by
  refine met_go (QA := fun A => va_Qi (fun (r_ : Int32) (_ : Unit) => r_ = nI 0) (PostW D vwCl (TY ca) (fun (_ : Unit) => (WM ca q (nI 1) st ik ln ou pa iw so na nb fo nu al (zOf C) be ke te ti ne wa ta out pl lo sh le)) A) A) (by decide) (Nat.le_of_ble_eq_true rfl) (fun p e s m below meth c A ls QQ hQQ hx hb hr hts hown hlocks hml hA hP hK hD hE hl => ?_)
  have hown : s.vm.findClass RX3 = some m.cls := hown
  have hS : va_S A s.heap s.heap [] := va_S.rf
  have hl : lv_has ls 2 [(0, .ref (q 0)), (1, .int x_)] := hl
  generalize hHe : s.heap = H at hP ⊢
  have hS : va_S A s.heap H [] := hHe ▸ hS
  generalize ([] : List Loc) = locs at hS ⊢
  refine lv_aload_n hx hb dX3_askedAt_0 rfl (lv_at hl 0 rfl) ?_
  refine lv_iload_n hx hb dX3_askedAt_1 rfl (lv_at hl 1 rfl) ?_
  refine lv_iconst (v := nI 0) hx hb dX3_askedAt_2 (by decide) ?_
  refine lv_aload_n hx hb dX3_askedAt_3 rfl (lv_at hl 0 rfl) ?_
  refine gWM_0_z_X3 hx hb hts hown hK hP dX3_askedAt_4 ?_
  refine lv_bipush (v := nI 41) hx hb dX3_askedAt_7 (by decide) ?_
  refine ldWM_1 hx hb hK hP (by omega) dX3_askedAt_9 ?_
  refine lv_topi (nm_r (e' := nI (C 41)) (rfl) ?_)
  refine lv_iconst (v := nI 1) hx hb dX3_askedAt_10 (by decide) ?_
  refine lv_isub hx hb dX3_askedAt_11 ?_
  refine xc_i (xr_S (As := [.int x_, .int (nI 0), .int ((nI (C 41)) - (nI 1))]) (rest := [.ref (q 0)]) (mt_X3_in l D ca x_ (nI 0) ((nI (C 41)) - (nI 1))  H.size) ⟨hx, hb, hml, hown, hts⟩ (va_cwS 3 hts (lw_S q1700 q1701 q87 q1702) rfl rfl rfl (by decide +kernel) ⟨Nat.le_of_ble_eq_true rfl, Nat.le_of_ble_eq_true rfl⟩) Ev0_ok hE hK hS (Cut.app (wc := []) (wr := (WM ca q th st ik ln ou pa iw so na nb fo nu al (zOf C) be ke te ti ne wa ta out pl lo sh le)) hP hD hS hA) rfl hl.1 rfl (Nat.le_of_ble_eq_true rfl) dX3_askedAt_12 ⟨Nat.le_of_ble_eq_true rfl, Nat.le_of_ble_eq_true rfl⟩) hS (Cut.app (wc := []) (wr := (WM ca q th st ik ln ou pa iw so na nb fo nu al (zOf C) be ke te ti ne wa ta out pl lo sh le)) hP hD hS hA) (fun r_1 u_2 H locs hq_12 hP hD hS => ?_)
  have hP : va_P D vwCl (WM ca q th st ik ln ou pa iw so na nb fo nu al (zOf C) be ke te ti ne wa ta out pl lo sh le) H := hP
  have hD : va_D A (WM ca q th st ik ln ou pa iw so na nb fo nu al (zOf C) be ke te ti ne wa ta out pl lo sh le) := hD
  have hp_12 : r_1 = bI (decide ((nI 0) ≤ x_ ∧ x_ ≤ ((nI (C 41)) - (nI 1)))) := hq_12
  clear hq_12
  obtain rfl := hp_12
  refine nv_ifb_eq (tgt := 22) hx hb dX3_askedAt_15 (by decide) (fun c_15 => ?_) (fun c_15 => (absurd c_15 (by rw [inR_end (by omega), hc]; decide)))
  refine lv_iconst (v := nI 1) hx hb dX3_askedAt_22 (by decide) ?_
  refine pWM_0_thrown_X3 hx hb hts hown hK hP hD hS dX3_askedAt_23 (fun H locs hP hD hS => ?_)
  refine lv_aload_n hx hb dX3_askedAt_26 rfl (lv_at hl 0 rfl) ?_
  refine gWM_0_thrown_X3 hx hb hts hown hK hP dX3_askedAt_27 ?_
  refine nv_if_le (tgt := 37) hx hb dX3_askedAt_30 (by decide) (by omega) (fun c_30 => absurd c_30 (by decide)) (fun c_30 => ?_)
  refine lv_iconst (v := nI 0) hx hb dX3_askedAt_33 (by decide) ?_
  refine lv_goto (tgt := 59) hx hb dX3_askedAt_34 (by decide) ?_
  subst hQQ
  exact xe_i (v := nI 0) () hx hb hr hlocks hK hP hD hS (rfl) dX3_askedAt_59
set_option maxHeartbeats 4000000 in
set_option maxRecDepth 100000 in
theorem mt_X3_sourceOf_ok (l : Launch) (D : va_G) (ca : Nat → ClassId) (q : Nat → Nat) (th : Int32) (st : Int32) (ik : Int32) (ln : Int32) (ou : Int32) (pa : Int32) (iw : Int32) (so : Int32) (na : Int32) (nb : Int32) (fo : Int32) (nu : Int32) (al : Int32) (be : Nat → Int32) (ke : Nat → Int32) (te : Nat → Int32) (ti : Nat → Int32) (ne : Nat → Int32) (wa : Nat → Int32) (ta : Nat → Int64) (out : Nat → Int64) (pl : Nat → Int64) (lo : Nat → Int64) (sh : Nat → Int64) (le : Nat → Int64) (C : Nat → Nat) (g_ : Nat) (w_ : Nat) (h0 : C 0 ≤ 12) (hg : g_ < C 0) (hw : w_ < 2) (nn : Nat) : Met l yX3_sourceOf (ws_ yX3_sourceOf cX3_sourceOf 3 (Option.some Jvm.ClassFile.FieldType.int)) ({ frames := 2, cells := 0, slots := 0, locals := 43 } : Room) (va_Pc [.ref (q 0), .int (nI g_), .int (nI w_)] (PreW Ev0 D vwCl (TY ca) (WM ca q th st ik ln ou pa iw so na nb fo nu al (zOf C) be ke te ti ne wa ta out pl lo sh le) nn)) (va_Qi (fun (r_ : Int32) (_ : Unit) => r_ = nI (C ((if w_ = 0 then 13 else 25) + g_))) (PostW D vwCl (TY ca) (fun (_ : Unit) => (WM ca q (nI 0) st ik ln ou pa iw so na nb fo nu al (zOf C) be ke te ti ne wa ta out pl lo sh le)) (va_A (WM ca q th st ik ln ou pa iw so na nb fo nu al (zOf C) be ke te ti ne wa ta out pl lo sh le) nn)) (va_A (WM ca q th st ik ln ou pa iw so na nb fo nu al (zOf C) be ke te ti ne wa ta out pl lo sh le) nn)) 0 0 (va_A (WM ca q th st ik ln ou pa iw so na nb fo nu al (zOf C) be ke te ti ne wa ta out pl lo sh le) nn) := by
  refine met_go (QA := fun A => va_Qi (fun (r_ : Int32) (_ : Unit) => r_ = nI (C ((if w_ = 0 then 13 else 25) + g_))) (PostW D vwCl (TY ca) (fun (_ : Unit) => (WM ca q (nI 0) st ik ln ou pa iw so na nb fo nu al (zOf C) be ke te ti ne wa ta out pl lo sh le)) A) A) (by decide) (Nat.le_of_ble_eq_true rfl) (fun p e s m below meth c A ls QQ hQQ hx hb hr hts hown hlocks hml hA hP hK hD hE hl => ?_)
  have hown : s.vm.findClass RX3 = some m.cls := hown
  have hS : va_S A s.heap s.heap [] := va_S.rf
  have hl : lv_has ls 3 [(0, .ref (q 0)), (1, .int (nI g_)), (2, .int (nI w_))] := hl
  generalize hHe : s.heap = H at hP ⊢
  have hS : va_S A s.heap H [] := hHe ▸ hS
  generalize ([] : List Loc) = locs at hS ⊢
  refine lv_aload_n hx hb dX3_sourceOf_0 rfl (lv_at hl 0 rfl) ?_
  refine lv_aload_n hx hb dX3_sourceOf_1 rfl (lv_at hl 0 rfl) ?_
  refine lv_iload_n hx hb dX3_sourceOf_2 rfl (lv_at hl 1 rfl) ?_
  refine xc_i (xr_V (b := q 0) (ci := 2) (q0 := 0) (As := [.int (nI g_)]) (rest := [.ref (q 0)]) (mt_X3_isGate l D ca q th st ik ln ou pa iw so na nb fo nu al be ke te ti ne wa ta out pl lo sh le C (nI g_) (by first | assumption | omega | (simp only [updN, forgetC, changedC]; (repeat' split) <;> omega)) H.size) ⟨hx, hb, hml, hown, hts⟩ (cwV 1 hts (lw_V q1727 q1729 qs50 q87 q1730) rfl rfl rfl (by decide +kernel) ⟨Nat.le_of_ble_eq_true rfl, Nat.le_of_ble_eq_true rfl⟩) Ev0_ok hE hK hS (Cut.all hP hD hS hA) rfl rfl rfl hl.1 rfl (Nat.le_of_ble_eq_true rfl) dX3_sourceOf_3 ⟨Nat.le_of_ble_eq_true rfl, Nat.le_of_ble_eq_true rfl⟩) hS (Cut.all hP hD hS hA) (fun r_1 u_2 H locs hq_3 hP hD hS => ?_)
  have hP : va_P D vwCl (WM ca q th st ik ln ou pa iw so na nb fo nu al (zOf C) be ke te ti ne wa ta out pl lo sh le) H := hP
  have hD : va_D A (WM ca q th st ik ln ou pa iw so na nb fo nu al (zOf C) be ke te ti ne wa ta out pl lo sh le) := hD
  have hp_3 : r_1 = bI (inR (C 0) (nI g_)) := hq_3
  clear hq_3
  obtain rfl := hp_3
  refine nv_ifb_ne (tgt := 13) hx hb dX3_sourceOf_6 (by decide) (fun c_6 => ?_) (fun c_6 => (absurd c_6 (by rw [inR_ok (by omega) (by omega)]; decide)))
  refine lv_iload_n hx hb dX3_sourceOf_13 rfl (lv_at hl 2 rfl) ?_
  refine lv_iconst (v := nI 0) hx hb dX3_sourceOf_14 (by decide) ?_
  refine lv_iconst (v := nI 1) hx hb dX3_sourceOf_15 (by decide) ?_
  refine xc_i (xr_S (As := [.int (nI w_), .int (nI 0), .int (nI 1)]) (rest := [.ref (q 0)]) (mt_X3_in l D ca (nI w_) (nI 0) (nI 1)  H.size) ⟨hx, hb, hml, hown, hts⟩ (va_cwS 3 hts (lw_S q1700 q1701 q87 q1702) rfl rfl rfl (by decide +kernel) ⟨Nat.le_of_ble_eq_true rfl, Nat.le_of_ble_eq_true rfl⟩) Ev0_ok hE hK hS (Cut.app (wc := []) (wr := (WM ca q th st ik ln ou pa iw so na nb fo nu al (zOf C) be ke te ti ne wa ta out pl lo sh le)) hP hD hS hA) rfl hl.1 rfl (Nat.le_of_ble_eq_true rfl) dX3_sourceOf_16 ⟨Nat.le_of_ble_eq_true rfl, Nat.le_of_ble_eq_true rfl⟩) hS (Cut.app (wc := []) (wr := (WM ca q th st ik ln ou pa iw so na nb fo nu al (zOf C) be ke te ti ne wa ta out pl lo sh le)) hP hD hS hA) (fun r_3 u_4 H locs hq_16 hP hD hS => ?_)
  have hP : va_P D vwCl (WM ca q th st ik ln ou pa iw so na nb fo nu al (zOf C) be ke te ti ne wa ta out pl lo sh le) H := hP
  have hD : va_D A (WM ca q th st ik ln ou pa iw so na nb fo nu al (zOf C) be ke te ti ne wa ta out pl lo sh le) := hD
  have hp_16 : r_3 = bI (decide ((nI 0) ≤ (nI w_) ∧ (nI w_) ≤ (nI 1))) := hq_16
  clear hq_16
  obtain rfl := hp_16
  refine nv_ifb_eq (tgt := 26) hx hb dX3_sourceOf_19 (by decide) (fun c_19 => (absurd c_19 (by rw [in_ok (by omega) (by decide)]; decide))) (fun c_19 => ?_)
  refine lv_iconst (v := nI 0) hx hb dX3_sourceOf_22 (by decide) ?_
  refine lv_goto (tgt := 27) hx hb dX3_sourceOf_23 (by decide) ?_
  refine pWM_0_thrown_X3 hx hb hts hown hK hP hD hS dX3_sourceOf_27 (fun H locs hP hD hS => ?_)
  refine lv_aload_n hx hb dX3_sourceOf_30 rfl (lv_at hl 0 rfl) ?_
  refine gWM_0_thrown_X3 hx hb hts hown hK hP dX3_sourceOf_31 ?_
  refine nv_if_le (tgt := 41) hx hb dX3_sourceOf_34 (by decide) (by omega) (fun c_34 => ?_) (fun c_34 => absurd c_34 (by decide))
  refine lv_aload_n hx hb dX3_sourceOf_41 rfl (lv_at hl 0 rfl) ?_
  refine gWM_0_z_X3 hx hb hts hown hK hP dX3_sourceOf_42 ?_
  refine lv_iload_n hx hb dX3_sourceOf_45 rfl (lv_at hl 2 rfl) ?_
  refine nv_if_ne (tgt := 54) hx hb dX3_sourceOf_46 (by decide) (by omega) (fun c_46 => ?_) (fun c_46 => ?_)
  · skip
    have hk_ : (if w_ = 0 then 13 else 25) = 25 := if_neg c_46
    refine lv_bipush (v := nI 25) hx hb dX3_sourceOf_54 (by decide) ?_
    refine lv_iload_n hx hb dX3_sourceOf_56 rfl (lv_at hl 1 rfl) ?_
    refine nv_iadd hx hb dX3_sourceOf_57 ?_
    refine lv_topi (nm_r (e' := nI ((if w_ = 0 then 13 else 25) + g_)) (by rw [hk_]) ?_)
    refine ldWM_1 hx hb hK hP (by omega) dX3_sourceOf_58 ?_
    refine lv_topi (nm_r (e' := nI (C ((if w_ = 0 then 13 else 25) + g_))) (zOf_n (by omega)) ?_)
    subst hQQ
    exact xe_i (v := nI (C ((if w_ = 0 then 13 else 25) + g_))) () hx hb hr hlocks hK hP hD hS (rfl) dX3_sourceOf_59
  · skip
    have hk_ : (if w_ = 0 then 13 else 25) = 13 := if_pos c_46
    refine lv_bipush (v := nI 13) hx hb dX3_sourceOf_49 (by decide) ?_
    refine lv_goto (tgt := 56) hx hb dX3_sourceOf_51 (by decide) ?_
    refine lv_iload_n hx hb dX3_sourceOf_56 rfl (lv_at hl 1 rfl) ?_
    refine nv_iadd hx hb dX3_sourceOf_57 ?_
    refine lv_topi (nm_r (e' := nI ((if w_ = 0 then 13 else 25) + g_)) (by rw [hk_]) ?_)
    refine ldWM_1 hx hb hK hP (by omega) dX3_sourceOf_58 ?_
    refine lv_topi (nm_r (e' := nI (C ((if w_ = 0 then 13 else 25) + g_))) (zOf_n (by omega)) ?_)
    subst hQQ
    exact xe_i (v := nI (C ((if w_ = 0 then 13 else 25) + g_))) () hx hb hr hlocks hK hP hD hS (rfl) dX3_sourceOf_59
set_option maxHeartbeats 4000000 in
set_option maxRecDepth 100000 in
theorem mt_X3_sourceOf_no1 (l : Launch) (D : va_G) (ca : Nat → ClassId) (q : Nat → Nat) (th : Int32) (st : Int32) (ik : Int32) (ln : Int32) (ou : Int32) (pa : Int32) (iw : Int32) (so : Int32) (na : Int32) (nb : Int32) (fo : Int32) (nu : Int32) (al : Int32) (be : Nat → Int32) (ke : Nat → Int32) (te : Nat → Int32) (ti : Nat → Int32) (ne : Nat → Int32) (wa : Nat → Int32) (ta : Nat → Int64) (out : Nat → Int64) (pl : Nat → Int64) (lo : Nat → Int64) (sh : Nat → Int64) (le : Nat → Int64) (C : Nat → Nat) (g_ : Int32) (w_ : Int32) (h0 : C 0 ≤ 12) (hc : inR (C 0) g_ = false) (nn : Nat) : Met l yX3_sourceOf (ws_ yX3_sourceOf cX3_sourceOf 3 (Option.some Jvm.ClassFile.FieldType.int)) ({ frames := 2, cells := 0, slots := 0, locals := 43 } : Room) (va_Pc [.ref (q 0), .int g_, .int w_] (PreW Ev0 D vwCl (TY ca) (WM ca q th st ik ln ou pa iw so na nb fo nu al (zOf C) be ke te ti ne wa ta out pl lo sh le) nn)) (va_Qi (fun (r_ : Int32) (_ : Unit) => r_ = nI 0) (PostW D vwCl (TY ca) (fun (_ : Unit) => (WM ca q (nI 1) st ik ln ou pa iw so na nb fo nu al (zOf C) be ke te ti ne wa ta out pl lo sh le)) (va_A (WM ca q th st ik ln ou pa iw so na nb fo nu al (zOf C) be ke te ti ne wa ta out pl lo sh le) nn)) (va_A (WM ca q th st ik ln ou pa iw so na nb fo nu al (zOf C) be ke te ti ne wa ta out pl lo sh le) nn)) 0 0 (va_A (WM ca q th st ik ln ou pa iw so na nb fo nu al (zOf C) be ke te ti ne wa ta out pl lo sh le) nn) := by
  refine met_go (QA := fun A => va_Qi (fun (r_ : Int32) (_ : Unit) => r_ = nI 0) (PostW D vwCl (TY ca) (fun (_ : Unit) => (WM ca q (nI 1) st ik ln ou pa iw so na nb fo nu al (zOf C) be ke te ti ne wa ta out pl lo sh le)) A) A) (by decide) (Nat.le_of_ble_eq_true rfl) (fun p e s m below meth c A ls QQ hQQ hx hb hr hts hown hlocks hml hA hP hK hD hE hl => ?_)
  have hown : s.vm.findClass RX3 = some m.cls := hown
  have hS : va_S A s.heap s.heap [] := va_S.rf
  have hl : lv_has ls 3 [(0, .ref (q 0)), (1, .int g_), (2, .int w_)] := hl
  generalize hHe : s.heap = H at hP ⊢
  have hS : va_S A s.heap H [] := hHe ▸ hS
  generalize ([] : List Loc) = locs at hS ⊢
  refine lv_aload_n hx hb dX3_sourceOf_0 rfl (lv_at hl 0 rfl) ?_
  refine lv_aload_n hx hb dX3_sourceOf_1 rfl (lv_at hl 0 rfl) ?_
  refine lv_iload_n hx hb dX3_sourceOf_2 rfl (lv_at hl 1 rfl) ?_
  refine xc_i (xr_V (b := q 0) (ci := 2) (q0 := 0) (As := [.int g_]) (rest := [.ref (q 0)]) (mt_X3_isGate l D ca q th st ik ln ou pa iw so na nb fo nu al be ke te ti ne wa ta out pl lo sh le C g_ (by first | assumption | omega | (simp only [updN, forgetC, changedC]; (repeat' split) <;> omega)) H.size) ⟨hx, hb, hml, hown, hts⟩ (cwV 1 hts (lw_V q1727 q1729 qs50 q87 q1730) rfl rfl rfl (by decide +kernel) ⟨Nat.le_of_ble_eq_true rfl, Nat.le_of_ble_eq_true rfl⟩) Ev0_ok hE hK hS (Cut.all hP hD hS hA) rfl rfl rfl hl.1 rfl (Nat.le_of_ble_eq_true rfl) dX3_sourceOf_3 ⟨Nat.le_of_ble_eq_true rfl, Nat.le_of_ble_eq_true rfl⟩) hS (Cut.all hP hD hS hA) (fun r_1 u_2 H locs hq_3 hP hD hS => ?_)
  have hP : va_P D vwCl (WM ca q th st ik ln ou pa iw so na nb fo nu al (zOf C) be ke te ti ne wa ta out pl lo sh le) H := hP
  have hD : va_D A (WM ca q th st ik ln ou pa iw so na nb fo nu al (zOf C) be ke te ti ne wa ta out pl lo sh le) := hD
  have hp_3 : r_1 = bI (inR (C 0) g_) := hq_3
  clear hq_3
  obtain rfl := hp_3
  refine nv_ifb_ne (tgt := 13) hx hb dX3_sourceOf_6 (by decide) (fun c_6 => (absurd c_6 (by rw [hc]; decide))) (fun c_6 => ?_)
  refine lv_iconst (v := nI 1) hx hb dX3_sourceOf_9 (by decide) ?_
  refine lv_goto (tgt := 27) hx hb dX3_sourceOf_10 (by decide) ?_
  refine pWM_0_thrown_X3 hx hb hts hown hK hP hD hS dX3_sourceOf_27 (fun H locs hP hD hS => ?_)
  refine lv_aload_n hx hb dX3_sourceOf_30 rfl (lv_at hl 0 rfl) ?_
  refine gWM_0_thrown_X3 hx hb hts hown hK hP dX3_sourceOf_31 ?_
  refine nv_if_le (tgt := 41) hx hb dX3_sourceOf_34 (by decide) (by omega) (fun c_34 => absurd c_34 (by decide)) (fun c_34 => ?_)
  refine lv_iconst (v := nI 0) hx hb dX3_sourceOf_37 (by decide) ?_
  refine lv_goto (tgt := 59) hx hb dX3_sourceOf_38 (by decide) ?_
  subst hQQ
  exact xe_i (v := nI 0) () hx hb hr hlocks hK hP hD hS (rfl) dX3_sourceOf_59
set_option maxHeartbeats 4000000 in
set_option maxRecDepth 100000 in
theorem mt_X3_sourceOf_no2 (l : Launch) (D : va_G) (ca : Nat → ClassId) (q : Nat → Nat) (th : Int32) (st : Int32) (ik : Int32) (ln : Int32) (ou : Int32) (pa : Int32) (iw : Int32) (so : Int32) (na : Int32) (nb : Int32) (fo : Int32) (nu : Int32) (al : Int32) (be : Nat → Int32) (ke : Nat → Int32) (te : Nat → Int32) (ti : Nat → Int32) (ne : Nat → Int32) (wa : Nat → Int32) (ta : Nat → Int64) (out : Nat → Int64) (pl : Nat → Int64) (lo : Nat → Int64) (sh : Nat → Int64) (le : Nat → Int64) (C : Nat → Nat) (g_ : Nat) (w_ : Int32) (h0 : C 0 ≤ 12) (hg : g_ < C 0) (hc : inR 2 w_ = false) (nn : Nat) : Met l yX3_sourceOf (ws_ yX3_sourceOf cX3_sourceOf 3 (Option.some Jvm.ClassFile.FieldType.int)) ({ frames := 2, cells := 0, slots := 0, locals := 43 } : Room) (va_Pc [.ref (q 0), .int (nI g_), .int w_] (PreW Ev0 D vwCl (TY ca) (WM ca q th st ik ln ou pa iw so na nb fo nu al (zOf C) be ke te ti ne wa ta out pl lo sh le) nn)) (va_Qi (fun (r_ : Int32) (_ : Unit) => r_ = nI 0) (PostW D vwCl (TY ca) (fun (_ : Unit) => (WM ca q (nI 2) st ik ln ou pa iw so na nb fo nu al (zOf C) be ke te ti ne wa ta out pl lo sh le)) (va_A (WM ca q th st ik ln ou pa iw so na nb fo nu al (zOf C) be ke te ti ne wa ta out pl lo sh le) nn)) (va_A (WM ca q th st ik ln ou pa iw so na nb fo nu al (zOf C) be ke te ti ne wa ta out pl lo sh le) nn)) 0 0 (va_A (WM ca q th st ik ln ou pa iw so na nb fo nu al (zOf C) be ke te ti ne wa ta out pl lo sh le) nn) := by
  refine met_go (QA := fun A => va_Qi (fun (r_ : Int32) (_ : Unit) => r_ = nI 0) (PostW D vwCl (TY ca) (fun (_ : Unit) => (WM ca q (nI 2) st ik ln ou pa iw so na nb fo nu al (zOf C) be ke te ti ne wa ta out pl lo sh le)) A) A) (by decide) (Nat.le_of_ble_eq_true rfl) (fun p e s m below meth c A ls QQ hQQ hx hb hr hts hown hlocks hml hA hP hK hD hE hl => ?_)
  have hown : s.vm.findClass RX3 = some m.cls := hown
  have hS : va_S A s.heap s.heap [] := va_S.rf
  have hl : lv_has ls 3 [(0, .ref (q 0)), (1, .int (nI g_)), (2, .int w_)] := hl
  generalize hHe : s.heap = H at hP ⊢
  have hS : va_S A s.heap H [] := hHe ▸ hS
  generalize ([] : List Loc) = locs at hS ⊢
  refine lv_aload_n hx hb dX3_sourceOf_0 rfl (lv_at hl 0 rfl) ?_
  refine lv_aload_n hx hb dX3_sourceOf_1 rfl (lv_at hl 0 rfl) ?_
  refine lv_iload_n hx hb dX3_sourceOf_2 rfl (lv_at hl 1 rfl) ?_
  refine xc_i (xr_V (b := q 0) (ci := 2) (q0 := 0) (As := [.int (nI g_)]) (rest := [.ref (q 0)]) (mt_X3_isGate l D ca q th st ik ln ou pa iw so na nb fo nu al be ke te ti ne wa ta out pl lo sh le C (nI g_) (by first | assumption | omega | (simp only [updN, forgetC, changedC]; (repeat' split) <;> omega)) H.size) ⟨hx, hb, hml, hown, hts⟩ (cwV 1 hts (lw_V q1727 q1729 qs50 q87 q1730) rfl rfl rfl (by decide +kernel) ⟨Nat.le_of_ble_eq_true rfl, Nat.le_of_ble_eq_true rfl⟩) Ev0_ok hE hK hS (Cut.all hP hD hS hA) rfl rfl rfl hl.1 rfl (Nat.le_of_ble_eq_true rfl) dX3_sourceOf_3 ⟨Nat.le_of_ble_eq_true rfl, Nat.le_of_ble_eq_true rfl⟩) hS (Cut.all hP hD hS hA) (fun r_1 u_2 H locs hq_3 hP hD hS => ?_)
  have hP : va_P D vwCl (WM ca q th st ik ln ou pa iw so na nb fo nu al (zOf C) be ke te ti ne wa ta out pl lo sh le) H := hP
  have hD : va_D A (WM ca q th st ik ln ou pa iw so na nb fo nu al (zOf C) be ke te ti ne wa ta out pl lo sh le) := hD
  have hp_3 : r_1 = bI (inR (C 0) (nI g_)) := hq_3
  clear hq_3
  obtain rfl := hp_3
  refine nv_ifb_ne (tgt := 13) hx hb dX3_sourceOf_6 (by decide) (fun c_6 => ?_) (fun c_6 => (absurd c_6 (by rw [inR_ok (by omega) (by omega)]; decide)))
  refine lv_iload_n hx hb dX3_sourceOf_13 rfl (lv_at hl 2 rfl) ?_
  refine lv_iconst (v := nI 0) hx hb dX3_sourceOf_14 (by decide) ?_
  refine lv_iconst (v := nI 1) hx hb dX3_sourceOf_15 (by decide) ?_
  refine xc_i (xr_S (As := [.int w_, .int (nI 0), .int (nI 1)]) (rest := [.ref (q 0)]) (mt_X3_in l D ca w_ (nI 0) (nI 1)  H.size) ⟨hx, hb, hml, hown, hts⟩ (va_cwS 3 hts (lw_S q1700 q1701 q87 q1702) rfl rfl rfl (by decide +kernel) ⟨Nat.le_of_ble_eq_true rfl, Nat.le_of_ble_eq_true rfl⟩) Ev0_ok hE hK hS (Cut.app (wc := []) (wr := (WM ca q th st ik ln ou pa iw so na nb fo nu al (zOf C) be ke te ti ne wa ta out pl lo sh le)) hP hD hS hA) rfl hl.1 rfl (Nat.le_of_ble_eq_true rfl) dX3_sourceOf_16 ⟨Nat.le_of_ble_eq_true rfl, Nat.le_of_ble_eq_true rfl⟩) hS (Cut.app (wc := []) (wr := (WM ca q th st ik ln ou pa iw so na nb fo nu al (zOf C) be ke te ti ne wa ta out pl lo sh le)) hP hD hS hA) (fun r_3 u_4 H locs hq_16 hP hD hS => ?_)
  have hP : va_P D vwCl (WM ca q th st ik ln ou pa iw so na nb fo nu al (zOf C) be ke te ti ne wa ta out pl lo sh le) H := hP
  have hD : va_D A (WM ca q th st ik ln ou pa iw so na nb fo nu al (zOf C) be ke te ti ne wa ta out pl lo sh le) := hD
  have hp_16 : r_3 = bI (decide ((nI 0) ≤ w_ ∧ w_ ≤ (nI 1))) := hq_16
  clear hq_16
  obtain rfl := hp_16
  refine nv_ifb_eq (tgt := 26) hx hb dX3_sourceOf_19 (by decide) (fun c_19 => ?_) (fun c_19 => (absurd c_19 (by rw [inR_lit (by decide), hc]; decide)))
  refine lv_iconst (v := nI 2) hx hb dX3_sourceOf_26 (by decide) ?_
  refine pWM_0_thrown_X3 hx hb hts hown hK hP hD hS dX3_sourceOf_27 (fun H locs hP hD hS => ?_)
  refine lv_aload_n hx hb dX3_sourceOf_30 rfl (lv_at hl 0 rfl) ?_
  refine gWM_0_thrown_X3 hx hb hts hown hK hP dX3_sourceOf_31 ?_
  refine nv_if_le (tgt := 41) hx hb dX3_sourceOf_34 (by decide) (by omega) (fun c_34 => absurd c_34 (by decide)) (fun c_34 => ?_)
  refine lv_iconst (v := nI 0) hx hb dX3_sourceOf_37 (by decide) ?_
  refine lv_goto (tgt := 59) hx hb dX3_sourceOf_38 (by decide) ?_
  subst hQQ
  exact xe_i (v := nI 0) () hx hb hr hlocks hK hP hD hS (rfl) dX3_sourceOf_59
set_option maxHeartbeats 4000000 in
set_option maxRecDepth 100000 in
theorem mt_X3_valueOf_ok (l : Launch) (D : va_G) (ca : Nat → ClassId) (q : Nat → Nat) (th : Int32) (st : Int32) (ik : Int32) (ln : Int32) (ou : Int32) (pa : Int32) (iw : Int32) (so : Int32) (na : Int32) (nb : Int32) (fo : Int32) (nu : Int32) (al : Int32) (be : Nat → Int32) (ke : Nat → Int32) (te : Nat → Int32) (ti : Nat → Int32) (ne : Nat → Int32) (wa : Nat → Int32) (ta : Nat → Int64) (out : Nat → Int64) (pl : Nat → Int64) (lo : Nat → Int64) (sh : Nat → Int64) (le : Nat → Int64) (C : Nat → Nat) (l_ : Nat) (t_ : Nat) (h0 : C 0 ≤ 12) (hkd0 : ∀ k, k < 12 → C (1 + k) < 8) (hse : ∀ k, k < 12 → C (13 + k) < 6 + k ∧ C (25 + k) < 6 + k) (ho : C 37 < 2 ^ 18) (hbx : C 38 < 2 ^ 18) (hno : popc 18 (C 37) ≤ 4) (hl0 : l_ < 6 + C 0) (ht : t_ < 64) (nn : Nat) : Met l yX3_valueOf (ws_ yX3_valueOf cX3_valueOf 3 (Option.some Jvm.ClassFile.FieldType.int)) ({ frames := 2, cells := 0, slots := 0, locals := 51 } : Room) (va_Pc [.ref (q 0), .int (nI l_), .int (nI t_)] (PreW Ev0 D vwCl (TY ca) (WM ca q th st ik ln ou pa iw so na nb fo nu al (zOf C) be ke te ti ne wa ta out pl lo sh le) nn)) (va_Qi (fun (r_ : Int32) (u_ : (Nat → Int64) × (Nat → Int64)) => r_ = nI (b2n (bit64 (tb C 0 0 l_) t_))) (PostW D vwCl (TY ca) (fun (u_ : (Nat → Int64) × (Nat → Int64)) => (WM ca q (nI 0) st ik ln (nI (no C)) pa iw so na nb fo nu al (zOf C) be ke te ti ne wa u_.1 u_.2 pl lo sh le)) (va_A (WM ca q th st ik ln ou pa iw so na nb fo nu al (zOf C) be ke te ti ne wa ta out pl lo sh le) nn)) (va_A (WM ca q th st ik ln ou pa iw so na nb fo nu al (zOf C) be ke te ti ne wa ta out pl lo sh le) nn)) 0 0 (va_A (WM ca q th st ik ln ou pa iw so na nb fo nu al (zOf C) be ke te ti ne wa ta out pl lo sh le) nn) := by
  refine met_go (QA := fun A => va_Qi (fun (r_ : Int32) (u_ : (Nat → Int64) × (Nat → Int64)) => r_ = nI (b2n (bit64 (tb C 0 0 l_) t_))) (PostW D vwCl (TY ca) (fun (u_ : (Nat → Int64) × (Nat → Int64)) => (WM ca q (nI 0) st ik ln (nI (no C)) pa iw so na nb fo nu al (zOf C) be ke te ti ne wa u_.1 u_.2 pl lo sh le)) A) A) (by decide) (Nat.le_of_ble_eq_true rfl) (fun p e s m below meth c A ls QQ hQQ hx hb hr hts hown hlocks hml hA hP hK hD hE hl => ?_)
  have hown : s.vm.findClass RX3 = some m.cls := hown
  have hS : va_S A s.heap s.heap [] := va_S.rf
  have hl : lv_has ls 3 [(0, .ref (q 0)), (1, .int (nI l_)), (2, .int (nI t_))] := hl
  generalize hHe : s.heap = H at hP ⊢
  have hS : va_S A s.heap H [] := hHe ▸ hS
  generalize ([] : List Loc) = locs at hS ⊢
  refine lv_aload_n hx hb dX3_valueOf_0 rfl (lv_at hl 0 rfl) ?_
  refine lv_aload_n hx hb dX3_valueOf_1 rfl (lv_at hl 0 rfl) ?_
  refine lv_iload_n hx hb dX3_valueOf_2 rfl (lv_at hl 1 rfl) ?_
  refine xc_i (xr_V (b := q 0) (ci := 2) (q0 := 0) (As := [.int (nI l_)]) (rest := [.ref (q 0)]) (mt_X3_isLine l D ca q th st ik ln ou pa iw so na nb fo nu al be ke te ti ne wa ta out pl lo sh le C (nI l_) (by first | assumption | omega | (simp only [updN, forgetC, changedC]; (repeat' split) <;> omega)) H.size) ⟨hx, hb, hml, hown, hts⟩ (cwV 1 hts (lw_V q1692 q1694 qs44 q87 q1695) rfl rfl rfl (by decide +kernel) ⟨Nat.le_of_ble_eq_true rfl, Nat.le_of_ble_eq_true rfl⟩) Ev0_ok hE hK hS (Cut.all hP hD hS hA) rfl rfl rfl hl.1 rfl (Nat.le_of_ble_eq_true rfl) dX3_valueOf_3 ⟨Nat.le_of_ble_eq_true rfl, Nat.le_of_ble_eq_true rfl⟩) hS (Cut.all hP hD hS hA) (fun r_1 u_2 H locs hq_3 hP hD hS => ?_)
  have hP : va_P D vwCl (WM ca q th st ik ln ou pa iw so na nb fo nu al (zOf C) be ke te ti ne wa ta out pl lo sh le) H := hP
  have hD : va_D A (WM ca q th st ik ln ou pa iw so na nb fo nu al (zOf C) be ke te ti ne wa ta out pl lo sh le) := hD
  have hp_3 : r_1 = bI (inR (6 + C 0) (nI l_)) := hq_3
  clear hq_3
  obtain rfl := hp_3
  refine nv_ifb_ne (tgt := 13) hx hb dX3_valueOf_6 (by decide) (fun c_6 => ?_) (fun c_6 => (absurd c_6 (by rw [inR_ok (by omega) (by omega)]; decide)))
  refine lv_iload_n hx hb dX3_valueOf_13 rfl (lv_at hl 2 rfl) ?_
  refine lv_iconst (v := nI 0) hx hb dX3_valueOf_14 (by decide) ?_
  refine lv_bipush (v := nI 63) hx hb dX3_valueOf_15 (by decide) ?_
  refine xc_i (xr_S (As := [.int (nI t_), .int (nI 0), .int (nI 63)]) (rest := [.ref (q 0)]) (mt_X3_in l D ca (nI t_) (nI 0) (nI 63)  H.size) ⟨hx, hb, hml, hown, hts⟩ (va_cwS 3 hts (lw_S q1700 q1701 q87 q1702) rfl rfl rfl (by decide +kernel) ⟨Nat.le_of_ble_eq_true rfl, Nat.le_of_ble_eq_true rfl⟩) Ev0_ok hE hK hS (Cut.app (wc := []) (wr := (WM ca q th st ik ln ou pa iw so na nb fo nu al (zOf C) be ke te ti ne wa ta out pl lo sh le)) hP hD hS hA) rfl hl.1 rfl (Nat.le_of_ble_eq_true rfl) dX3_valueOf_17 ⟨Nat.le_of_ble_eq_true rfl, Nat.le_of_ble_eq_true rfl⟩) hS (Cut.app (wc := []) (wr := (WM ca q th st ik ln ou pa iw so na nb fo nu al (zOf C) be ke te ti ne wa ta out pl lo sh le)) hP hD hS hA) (fun r_3 u_4 H locs hq_17 hP hD hS => ?_)
  have hP : va_P D vwCl (WM ca q th st ik ln ou pa iw so na nb fo nu al (zOf C) be ke te ti ne wa ta out pl lo sh le) H := hP
  have hD : va_D A (WM ca q th st ik ln ou pa iw so na nb fo nu al (zOf C) be ke te ti ne wa ta out pl lo sh le) := hD
  have hp_17 : r_3 = bI (decide ((nI 0) ≤ (nI t_) ∧ (nI t_) ≤ (nI 63))) := hq_17
  clear hq_17
  obtain rfl := hp_17
  refine nv_ifb_eq (tgt := 27) hx hb dX3_valueOf_20 (by decide) (fun c_20 => (absurd c_20 (by rw [in_ok (by omega) (by decide)]; decide))) (fun c_20 => ?_)
  refine lv_iconst (v := nI 0) hx hb dX3_valueOf_23 (by decide) ?_
  refine lv_goto (tgt := 28) hx hb dX3_valueOf_24 (by decide) ?_
  refine pWM_0_thrown_X3 hx hb hts hown hK hP hD hS dX3_valueOf_28 (fun H locs hP hD hS => ?_)
  refine lv_aload_n hx hb dX3_valueOf_31 rfl (lv_at hl 0 rfl) ?_
  refine gWM_0_thrown_X3 hx hb hts hown hK hP dX3_valueOf_32 ?_
  refine nv_if_le (tgt := 40) hx hb dX3_valueOf_35 (by decide) (by omega) (fun c_35 => ?_) (fun c_35 => absurd c_35 (by decide))
  refine lv_aload_n hx hb dX3_valueOf_40 rfl (lv_at hl 0 rfl) ?_
  refine lv_iconst (v := fI 0) hx hb dX3_valueOf_41 (by decide) ?_
  refine lv_iconst (v := fI 0) hx hb dX3_valueOf_42 (by decide) ?_
  refine xc_v (xr_V (b := q 0) (ci := 2) (q0 := 0) (As := [.int (fI 0), .int (fI 0)]) (rest := []) (mt_X3_lay l D ca q (nI 0) st ik ln ou pa iw so na nb fo nu al be ke te ti ne wa ta out pl lo sh le C 0 0 (by first | assumption | omega | (simp only [updN, forgetC, changedC]; (repeat' split) <;> omega)) (by first | assumption | omega | (simp only [updN, forgetC, changedC]; (repeat' split) <;> omega)) (by first | assumption | omega | (simp only [updN, forgetC, changedC]; (repeat' split) <;> omega)) (by first | assumption | omega | (simp only [updN, forgetC, changedC]; (repeat' split) <;> omega)) (by first | assumption | omega | (simp only [updN, forgetC, changedC]; (repeat' split) <;> omega)) (by first | assumption | omega | (simp only [updN, forgetC, changedC]; (repeat' split) <;> omega)) (by first | assumption | omega | (simp only [updN, forgetC, changedC]; (repeat' split) <;> omega)) (by first | assumption | omega | (simp only [updN, forgetC, changedC]; (repeat' split) <;> omega)) H.size) ⟨hx, hb, hml, hown, hts⟩ (cwV 2 hts (lw_V q1781 q1783 qs56 q87 q1784) rfl rfl rfl (by decide +kernel) ⟨Nat.le_of_ble_eq_true rfl, Nat.le_of_ble_eq_true rfl⟩) Ev0_ok hE hK hS (Cut.all hP hD hS hA) rfl rfl rfl hl.1 rfl (Nat.le_of_ble_eq_true rfl) dX3_valueOf_43 ⟨Nat.le_of_ble_eq_true rfl, Nat.le_of_ble_eq_true rfl⟩) hS (Cut.all hP hD hS hA) (fun u_6 H locs hq_43 hP hD hS => ?_)
  have hP : va_P D vwCl (WM ca q (nI 0) st ik ln (nI (no C)) pa iw so na nb fo nu al (zOf C) be ke te ti ne wa (fillL (6 + C 0) (tb C 0 0) ta) (outF C (tb C 0 0) (6 + C 0) out) pl lo sh le) H := hP
  have hD : va_D A (WM ca q (nI 0) st ik ln (nI (no C)) pa iw so na nb fo nu al (zOf C) be ke te ti ne wa (fillL (6 + C 0) (tb C 0 0) ta) (outF C (tb C 0 0) (6 + C 0) out) pl lo sh le) := hD
  refine lv_aload_n hx hb dX3_valueOf_46 rfl (lv_at hl 0 rfl) ?_
  refine gWM_0_table_X3 hx hb hts hown hK hP dX3_valueOf_47 ?_
  refine lv_iload_n hx hb dX3_valueOf_50 rfl (lv_at hl 1 rfl) ?_
  refine ldWM_5 hx hb hK hP (by omega) dX3_valueOf_51 ?_
  refine lv_topl (nm_r (e' := tb C 0 0 l_) (fillL_at (by omega)) ?_)
  refine lv_iload_n hx hb dX3_valueOf_52 rfl (lv_at hl 2 rfl) ?_
  refine lv_lushr (v := ush64 (tb C 0 0 l_) t_) hx hb dX3_valueOf_53 rfl ?_
  refine lv_lconst (v := lN 1) hx hb dX3_valueOf_54 (by decide) ?_
  refine lv_land hx hb dX3_valueOf_55 ?_
  refine lv_topl (nm_r (e' := lN (b2n (bit64 (tb C 0 0 l_) t_))) (ush_1 _ ht) ?_)
  refine lv_l2i (v := nI (b2n (bit64 (tb C 0 0 l_) t_))) hx hb dX3_valueOf_56 (lN_i _) ?_
  subst hQQ
  exact xe_i (v := nI (b2n (bit64 (tb C 0 0 l_) t_))) (fillL (6 + C 0) (tb C 0 0) ta, outF C (tb C 0 0) (6 + C 0) out) hx hb hr hlocks hK hP hD hS (rfl) dX3_valueOf_57
set_option maxHeartbeats 4000000 in
set_option maxRecDepth 100000 in
theorem mt_X3_valueOf_no1 (l : Launch) (D : va_G) (ca : Nat → ClassId) (q : Nat → Nat) (th : Int32) (st : Int32) (ik : Int32) (ln : Int32) (ou : Int32) (pa : Int32) (iw : Int32) (so : Int32) (na : Int32) (nb : Int32) (fo : Int32) (nu : Int32) (al : Int32) (be : Nat → Int32) (ke : Nat → Int32) (te : Nat → Int32) (ti : Nat → Int32) (ne : Nat → Int32) (wa : Nat → Int32) (ta : Nat → Int64) (out : Nat → Int64) (pl : Nat → Int64) (lo : Nat → Int64) (sh : Nat → Int64) (le : Nat → Int64) (C : Nat → Nat) (l_ : Int32) (t_ : Int32) (h0 : C 0 ≤ 12) (hc : inR (6 + C 0) l_ = false) (nn : Nat) : Met l yX3_valueOf (ws_ yX3_valueOf cX3_valueOf 3 (Option.some Jvm.ClassFile.FieldType.int)) ({ frames := 2, cells := 0, slots := 0, locals := 43 } : Room) (va_Pc [.ref (q 0), .int l_, .int t_] (PreW Ev0 D vwCl (TY ca) (WM ca q th st ik ln ou pa iw so na nb fo nu al (zOf C) be ke te ti ne wa ta out pl lo sh le) nn)) (va_Qi (fun (r_ : Int32) (_ : Unit) => r_ = nI 0) (PostW D vwCl (TY ca) (fun (_ : Unit) => (WM ca q (nI 1) st ik ln ou pa iw so na nb fo nu al (zOf C) be ke te ti ne wa ta out pl lo sh le)) (va_A (WM ca q th st ik ln ou pa iw so na nb fo nu al (zOf C) be ke te ti ne wa ta out pl lo sh le) nn)) (va_A (WM ca q th st ik ln ou pa iw so na nb fo nu al (zOf C) be ke te ti ne wa ta out pl lo sh le) nn)) 0 0 (va_A (WM ca q th st ik ln ou pa iw so na nb fo nu al (zOf C) be ke te ti ne wa ta out pl lo sh le) nn) := by
  refine met_go (QA := fun A => va_Qi (fun (r_ : Int32) (_ : Unit) => r_ = nI 0) (PostW D vwCl (TY ca) (fun (_ : Unit) => (WM ca q (nI 1) st ik ln ou pa iw so na nb fo nu al (zOf C) be ke te ti ne wa ta out pl lo sh le)) A) A) (by decide) (Nat.le_of_ble_eq_true rfl) (fun p e s m below meth c A ls QQ hQQ hx hb hr hts hown hlocks hml hA hP hK hD hE hl => ?_)
  have hown : s.vm.findClass RX3 = some m.cls := hown
  have hS : va_S A s.heap s.heap [] := va_S.rf
  have hl : lv_has ls 3 [(0, .ref (q 0)), (1, .int l_), (2, .int t_)] := hl
  generalize hHe : s.heap = H at hP ⊢
  have hS : va_S A s.heap H [] := hHe ▸ hS
  generalize ([] : List Loc) = locs at hS ⊢
  refine lv_aload_n hx hb dX3_valueOf_0 rfl (lv_at hl 0 rfl) ?_
  refine lv_aload_n hx hb dX3_valueOf_1 rfl (lv_at hl 0 rfl) ?_
  refine lv_iload_n hx hb dX3_valueOf_2 rfl (lv_at hl 1 rfl) ?_
  refine xc_i (xr_V (b := q 0) (ci := 2) (q0 := 0) (As := [.int l_]) (rest := [.ref (q 0)]) (mt_X3_isLine l D ca q th st ik ln ou pa iw so na nb fo nu al be ke te ti ne wa ta out pl lo sh le C l_ (by first | assumption | omega | (simp only [updN, forgetC, changedC]; (repeat' split) <;> omega)) H.size) ⟨hx, hb, hml, hown, hts⟩ (cwV 1 hts (lw_V q1692 q1694 qs44 q87 q1695) rfl rfl rfl (by decide +kernel) ⟨Nat.le_of_ble_eq_true rfl, Nat.le_of_ble_eq_true rfl⟩) Ev0_ok hE hK hS (Cut.all hP hD hS hA) rfl rfl rfl hl.1 rfl (Nat.le_of_ble_eq_true rfl) dX3_valueOf_3 ⟨Nat.le_of_ble_eq_true rfl, Nat.le_of_ble_eq_true rfl⟩) hS (Cut.all hP hD hS hA) (fun r_1 u_2 H locs hq_3 hP hD hS => ?_)
  have hP : va_P D vwCl (WM ca q th st ik ln ou pa iw so na nb fo nu al (zOf C) be ke te ti ne wa ta out pl lo sh le) H := hP
  have hD : va_D A (WM ca q th st ik ln ou pa iw so na nb fo nu al (zOf C) be ke te ti ne wa ta out pl lo sh le) := hD
  have hp_3 : r_1 = bI (inR (6 + C 0) l_) := hq_3
  clear hq_3
  obtain rfl := hp_3
  refine nv_ifb_ne (tgt := 13) hx hb dX3_valueOf_6 (by decide) (fun c_6 => (absurd c_6 (by rw [hc]; decide))) (fun c_6 => ?_)
  refine lv_iconst (v := nI 1) hx hb dX3_valueOf_9 (by decide) ?_
  refine lv_goto (tgt := 28) hx hb dX3_valueOf_10 (by decide) ?_
  refine pWM_0_thrown_X3 hx hb hts hown hK hP hD hS dX3_valueOf_28 (fun H locs hP hD hS => ?_)
  refine lv_aload_n hx hb dX3_valueOf_31 rfl (lv_at hl 0 rfl) ?_
  refine gWM_0_thrown_X3 hx hb hts hown hK hP dX3_valueOf_32 ?_
  refine nv_if_le (tgt := 40) hx hb dX3_valueOf_35 (by decide) (by omega) (fun c_35 => absurd c_35 (by decide)) (fun c_35 => ?_)
  refine lv_iconst (v := nI 0) hx hb dX3_valueOf_38 (by decide) ?_
  subst hQQ
  exact xe_i (v := nI 0) () hx hb hr hlocks hK hP hD hS (rfl) dX3_valueOf_39
set_option maxHeartbeats 4000000 in
set_option maxRecDepth 100000 in
theorem mt_X3_valueOf_no2 (l : Launch) (D : va_G) (ca : Nat → ClassId) (q : Nat → Nat) (th : Int32) (st : Int32) (ik : Int32) (ln : Int32) (ou : Int32) (pa : Int32) (iw : Int32) (so : Int32) (na : Int32) (nb : Int32) (fo : Int32) (nu : Int32) (al : Int32) (be : Nat → Int32) (ke : Nat → Int32) (te : Nat → Int32) (ti : Nat → Int32) (ne : Nat → Int32) (wa : Nat → Int32) (ta : Nat → Int64) (out : Nat → Int64) (pl : Nat → Int64) (lo : Nat → Int64) (sh : Nat → Int64) (le : Nat → Int64) (C : Nat → Nat) (l_ : Nat) (t_ : Int32) (h0 : C 0 ≤ 12) (hl0 : l_ < 6 + C 0) (hc : inR 64 t_ = false) (nn : Nat) : Met l yX3_valueOf (ws_ yX3_valueOf cX3_valueOf 3 (Option.some Jvm.ClassFile.FieldType.int)) ({ frames := 2, cells := 0, slots := 0, locals := 43 } : Room) (va_Pc [.ref (q 0), .int (nI l_), .int t_] (PreW Ev0 D vwCl (TY ca) (WM ca q th st ik ln ou pa iw so na nb fo nu al (zOf C) be ke te ti ne wa ta out pl lo sh le) nn)) (va_Qi (fun (r_ : Int32) (_ : Unit) => r_ = nI 0) (PostW D vwCl (TY ca) (fun (_ : Unit) => (WM ca q (nI 2) st ik ln ou pa iw so na nb fo nu al (zOf C) be ke te ti ne wa ta out pl lo sh le)) (va_A (WM ca q th st ik ln ou pa iw so na nb fo nu al (zOf C) be ke te ti ne wa ta out pl lo sh le) nn)) (va_A (WM ca q th st ik ln ou pa iw so na nb fo nu al (zOf C) be ke te ti ne wa ta out pl lo sh le) nn)) 0 0 (va_A (WM ca q th st ik ln ou pa iw so na nb fo nu al (zOf C) be ke te ti ne wa ta out pl lo sh le) nn) := by
  refine met_go (QA := fun A => va_Qi (fun (r_ : Int32) (_ : Unit) => r_ = nI 0) (PostW D vwCl (TY ca) (fun (_ : Unit) => (WM ca q (nI 2) st ik ln ou pa iw so na nb fo nu al (zOf C) be ke te ti ne wa ta out pl lo sh le)) A) A) (by decide) (Nat.le_of_ble_eq_true rfl) (fun p e s m below meth c A ls QQ hQQ hx hb hr hts hown hlocks hml hA hP hK hD hE hl => ?_)
  have hown : s.vm.findClass RX3 = some m.cls := hown
  have hS : va_S A s.heap s.heap [] := va_S.rf
  have hl : lv_has ls 3 [(0, .ref (q 0)), (1, .int (nI l_)), (2, .int t_)] := hl
  generalize hHe : s.heap = H at hP ⊢
  have hS : va_S A s.heap H [] := hHe ▸ hS
  generalize ([] : List Loc) = locs at hS ⊢
  refine lv_aload_n hx hb dX3_valueOf_0 rfl (lv_at hl 0 rfl) ?_
  refine lv_aload_n hx hb dX3_valueOf_1 rfl (lv_at hl 0 rfl) ?_
  refine lv_iload_n hx hb dX3_valueOf_2 rfl (lv_at hl 1 rfl) ?_
  refine xc_i (xr_V (b := q 0) (ci := 2) (q0 := 0) (As := [.int (nI l_)]) (rest := [.ref (q 0)]) (mt_X3_isLine l D ca q th st ik ln ou pa iw so na nb fo nu al be ke te ti ne wa ta out pl lo sh le C (nI l_) (by first | assumption | omega | (simp only [updN, forgetC, changedC]; (repeat' split) <;> omega)) H.size) ⟨hx, hb, hml, hown, hts⟩ (cwV 1 hts (lw_V q1692 q1694 qs44 q87 q1695) rfl rfl rfl (by decide +kernel) ⟨Nat.le_of_ble_eq_true rfl, Nat.le_of_ble_eq_true rfl⟩) Ev0_ok hE hK hS (Cut.all hP hD hS hA) rfl rfl rfl hl.1 rfl (Nat.le_of_ble_eq_true rfl) dX3_valueOf_3 ⟨Nat.le_of_ble_eq_true rfl, Nat.le_of_ble_eq_true rfl⟩) hS (Cut.all hP hD hS hA) (fun r_1 u_2 H locs hq_3 hP hD hS => ?_)
  have hP : va_P D vwCl (WM ca q th st ik ln ou pa iw so na nb fo nu al (zOf C) be ke te ti ne wa ta out pl lo sh le) H := hP
  have hD : va_D A (WM ca q th st ik ln ou pa iw so na nb fo nu al (zOf C) be ke te ti ne wa ta out pl lo sh le) := hD
  have hp_3 : r_1 = bI (inR (6 + C 0) (nI l_)) := hq_3
  clear hq_3
  obtain rfl := hp_3
  refine nv_ifb_ne (tgt := 13) hx hb dX3_valueOf_6 (by decide) (fun c_6 => ?_) (fun c_6 => (absurd c_6 (by rw [inR_ok (by omega) (by omega)]; decide)))
  refine lv_iload_n hx hb dX3_valueOf_13 rfl (lv_at hl 2 rfl) ?_
  refine lv_iconst (v := nI 0) hx hb dX3_valueOf_14 (by decide) ?_
  refine lv_bipush (v := nI 63) hx hb dX3_valueOf_15 (by decide) ?_
  refine xc_i (xr_S (As := [.int t_, .int (nI 0), .int (nI 63)]) (rest := [.ref (q 0)]) (mt_X3_in l D ca t_ (nI 0) (nI 63)  H.size) ⟨hx, hb, hml, hown, hts⟩ (va_cwS 3 hts (lw_S q1700 q1701 q87 q1702) rfl rfl rfl (by decide +kernel) ⟨Nat.le_of_ble_eq_true rfl, Nat.le_of_ble_eq_true rfl⟩) Ev0_ok hE hK hS (Cut.app (wc := []) (wr := (WM ca q th st ik ln ou pa iw so na nb fo nu al (zOf C) be ke te ti ne wa ta out pl lo sh le)) hP hD hS hA) rfl hl.1 rfl (Nat.le_of_ble_eq_true rfl) dX3_valueOf_17 ⟨Nat.le_of_ble_eq_true rfl, Nat.le_of_ble_eq_true rfl⟩) hS (Cut.app (wc := []) (wr := (WM ca q th st ik ln ou pa iw so na nb fo nu al (zOf C) be ke te ti ne wa ta out pl lo sh le)) hP hD hS hA) (fun r_3 u_4 H locs hq_17 hP hD hS => ?_)
  have hP : va_P D vwCl (WM ca q th st ik ln ou pa iw so na nb fo nu al (zOf C) be ke te ti ne wa ta out pl lo sh le) H := hP
  have hD : va_D A (WM ca q th st ik ln ou pa iw so na nb fo nu al (zOf C) be ke te ti ne wa ta out pl lo sh le) := hD
  have hp_17 : r_3 = bI (decide ((nI 0) ≤ t_ ∧ t_ ≤ (nI 63))) := hq_17
  clear hq_17
  obtain rfl := hp_17
  refine nv_ifb_eq (tgt := 27) hx hb dX3_valueOf_20 (by decide) (fun c_20 => ?_) (fun c_20 => (absurd c_20 (by rw [inR_lit (by decide), hc]; decide)))
  refine lv_iconst (v := nI 2) hx hb dX3_valueOf_27 (by decide) ?_
  refine pWM_0_thrown_X3 hx hb hts hown hK hP hD hS dX3_valueOf_28 (fun H locs hP hD hS => ?_)
  refine lv_aload_n hx hb dX3_valueOf_31 rfl (lv_at hl 0 rfl) ?_
  refine gWM_0_thrown_X3 hx hb hts hown hK hP dX3_valueOf_32 ?_
  refine nv_if_le (tgt := 40) hx hb dX3_valueOf_35 (by decide) (by omega) (fun c_35 => absurd c_35 (by decide)) (fun c_35 => ?_)
  refine lv_iconst (v := nI 0) hx hb dX3_valueOf_38 (by decide) ?_
  subst hQQ
  exact xe_i (v := nI 0) () hx hb hr hlocks hK hP hD hS (rfl) dX3_valueOf_39
set_option maxHeartbeats 4000000 in
set_option maxRecDepth 100000 in
theorem mt_X3_tableOf_ok (l : Launch) (D : va_G) (ca : Nat → ClassId) (q : Nat → Nat) (th : Int32) (st : Int32) (ik : Int32) (ln : Int32) (ou : Int32) (pa : Int32) (iw : Int32) (so : Int32) (na : Int32) (nb : Int32) (fo : Int32) (nu : Int32) (al : Int32) (be : Nat → Int32) (ke : Nat → Int32) (te : Nat → Int32) (ti : Nat → Int32) (ne : Nat → Int32) (wa : Nat → Int32) (ta : Nat → Int64) (out : Nat → Int64) (pl : Nat → Int64) (lo : Nat → Int64) (sh : Nat → Int64) (le : Nat → Int64) (C : Nat → Nat) (l_ : Nat) (b_ : Bool) (h0 : C 0 ≤ 12) (hkd0 : ∀ k, k < 12 → C (1 + k) < 8) (hse : ∀ k, k < 12 → C (13 + k) < 6 + k ∧ C (25 + k) < 6 + k) (ho : C 37 < 2 ^ 18) (hbx : C 38 < 2 ^ 18) (hno : popc 18 (C 37) ≤ 4) (hl0 : l_ < 6 + C 0) (nn : Nat) : Met l yX3_tableOf (ws_ yX3_tableOf cX3_tableOf 3 (Option.some Jvm.ClassFile.FieldType.long)) ({ frames := 2, cells := 0, slots := 0, locals := 51 } : Room) (va_Pc [.ref (q 0), .int (nI l_), .int (bI b_)] (PreW Ev0 D vwCl (TY ca) (WM ca q th st ik ln ou pa iw so na nb fo nu al (zOf C) be ke te ti ne wa ta out pl lo sh le) nn)) (va_Ql (fun (r_ : Int64) (u_ : (Nat → Int64) × (Nat → Int64)) => r_ = tb C 0 0 l_) (PostW D vwCl (TY ca) (fun (u_ : (Nat → Int64) × (Nat → Int64)) => (WM ca q (nI 0) st ik ln (nI (no C)) pa iw so na nb fo nu al (zOf C) be ke te ti ne wa u_.1 u_.2 pl lo sh le)) (va_A (WM ca q th st ik ln ou pa iw so na nb fo nu al (zOf C) be ke te ti ne wa ta out pl lo sh le) nn)) (va_A (WM ca q th st ik ln ou pa iw so na nb fo nu al (zOf C) be ke te ti ne wa ta out pl lo sh le) nn)) 0 0 (va_A (WM ca q th st ik ln ou pa iw so na nb fo nu al (zOf C) be ke te ti ne wa ta out pl lo sh le) nn) := by
  refine met_go (QA := fun A => va_Ql (fun (r_ : Int64) (u_ : (Nat → Int64) × (Nat → Int64)) => r_ = tb C 0 0 l_) (PostW D vwCl (TY ca) (fun (u_ : (Nat → Int64) × (Nat → Int64)) => (WM ca q (nI 0) st ik ln (nI (no C)) pa iw so na nb fo nu al (zOf C) be ke te ti ne wa u_.1 u_.2 pl lo sh le)) A) A) (by decide) (Nat.le_of_ble_eq_true rfl) (fun p e s m below meth c A ls QQ hQQ hx hb hr hts hown hlocks hml hA hP hK hD hE hl => ?_)
  have hown : s.vm.findClass RX3 = some m.cls := hown
  have hS : va_S A s.heap s.heap [] := va_S.rf
  have hl : lv_has ls 3 [(0, .ref (q 0)), (1, .int (nI l_)), (2, .int (bI b_))] := hl
  generalize hHe : s.heap = H at hP ⊢
  have hS : va_S A s.heap H [] := hHe ▸ hS
  generalize ([] : List Loc) = locs at hS ⊢
  refine lv_aload_n hx hb dX3_tableOf_0 rfl (lv_at hl 0 rfl) ?_
  refine lv_aload_n hx hb dX3_tableOf_1 rfl (lv_at hl 0 rfl) ?_
  refine lv_iload_n hx hb dX3_tableOf_2 rfl (lv_at hl 1 rfl) ?_
  refine xc_i (xr_V (b := q 0) (ci := 2) (q0 := 0) (As := [.int (nI l_)]) (rest := [.ref (q 0)]) (mt_X3_isLine l D ca q th st ik ln ou pa iw so na nb fo nu al be ke te ti ne wa ta out pl lo sh le C (nI l_) (by first | assumption | omega | (simp only [updN, forgetC, changedC]; (repeat' split) <;> omega)) H.size) ⟨hx, hb, hml, hown, hts⟩ (cwV 1 hts (lw_V q1692 q1694 qs44 q87 q1695) rfl rfl rfl (by decide +kernel) ⟨Nat.le_of_ble_eq_true rfl, Nat.le_of_ble_eq_true rfl⟩) Ev0_ok hE hK hS (Cut.all hP hD hS hA) rfl rfl rfl hl.1 rfl (Nat.le_of_ble_eq_true rfl) dX3_tableOf_3 ⟨Nat.le_of_ble_eq_true rfl, Nat.le_of_ble_eq_true rfl⟩) hS (Cut.all hP hD hS hA) (fun r_1 u_2 H locs hq_3 hP hD hS => ?_)
  have hP : va_P D vwCl (WM ca q th st ik ln ou pa iw so na nb fo nu al (zOf C) be ke te ti ne wa ta out pl lo sh le) H := hP
  have hD : va_D A (WM ca q th st ik ln ou pa iw so na nb fo nu al (zOf C) be ke te ti ne wa ta out pl lo sh le) := hD
  have hp_3 : r_1 = bI (inR (6 + C 0) (nI l_)) := hq_3
  clear hq_3
  obtain rfl := hp_3
  refine nv_ifb_eq (tgt := 13) hx hb dX3_tableOf_6 (by decide) (fun c_6 => (absurd c_6 (by rw [inR_ok (by omega) (by omega)]; decide))) (fun c_6 => ?_)
  refine lv_iconst (v := nI 0) hx hb dX3_tableOf_9 (by decide) ?_
  refine lv_goto (tgt := 14) hx hb dX3_tableOf_10 (by decide) ?_
  refine pWM_0_thrown_X3 hx hb hts hown hK hP hD hS dX3_tableOf_14 (fun H locs hP hD hS => ?_)
  refine lv_aload_n hx hb dX3_tableOf_17 rfl (lv_at hl 0 rfl) ?_
  refine gWM_0_thrown_X3 hx hb hts hown hK hP dX3_tableOf_18 ?_
  refine nv_if_le (tgt := 26) hx hb dX3_tableOf_21 (by decide) (by omega) (fun c_21 => ?_) (fun c_21 => absurd c_21 (by decide))
  refine lv_aload_n hx hb dX3_tableOf_26 rfl (lv_at hl 0 rfl) ?_
  refine lv_iconst (v := fI 0) hx hb dX3_tableOf_27 (by decide) ?_
  refine lv_iconst (v := fI 0) hx hb dX3_tableOf_28 (by decide) ?_
  refine xc_v (xr_V (b := q 0) (ci := 2) (q0 := 0) (As := [.int (fI 0), .int (fI 0)]) (rest := []) (mt_X3_lay l D ca q (nI 0) st ik ln ou pa iw so na nb fo nu al be ke te ti ne wa ta out pl lo sh le C 0 0 (by first | assumption | omega | (simp only [updN, forgetC, changedC]; (repeat' split) <;> omega)) (by first | assumption | omega | (simp only [updN, forgetC, changedC]; (repeat' split) <;> omega)) (by first | assumption | omega | (simp only [updN, forgetC, changedC]; (repeat' split) <;> omega)) (by first | assumption | omega | (simp only [updN, forgetC, changedC]; (repeat' split) <;> omega)) (by first | assumption | omega | (simp only [updN, forgetC, changedC]; (repeat' split) <;> omega)) (by first | assumption | omega | (simp only [updN, forgetC, changedC]; (repeat' split) <;> omega)) (by first | assumption | omega | (simp only [updN, forgetC, changedC]; (repeat' split) <;> omega)) (by first | assumption | omega | (simp only [updN, forgetC, changedC]; (repeat' split) <;> omega)) H.size) ⟨hx, hb, hml, hown, hts⟩ (cwV 2 hts (lw_V q1781 q1783 qs56 q87 q1784) rfl rfl rfl (by decide +kernel) ⟨Nat.le_of_ble_eq_true rfl, Nat.le_of_ble_eq_true rfl⟩) Ev0_ok hE hK hS (Cut.all hP hD hS hA) rfl rfl rfl hl.1 rfl (Nat.le_of_ble_eq_true rfl) dX3_tableOf_29 ⟨Nat.le_of_ble_eq_true rfl, Nat.le_of_ble_eq_true rfl⟩) hS (Cut.all hP hD hS hA) (fun u_4 H locs hq_29 hP hD hS => ?_)
  have hP : va_P D vwCl (WM ca q (nI 0) st ik ln (nI (no C)) pa iw so na nb fo nu al (zOf C) be ke te ti ne wa (fillL (6 + C 0) (tb C 0 0) ta) (outF C (tb C 0 0) (6 + C 0) out) pl lo sh le) H := hP
  have hD : va_D A (WM ca q (nI 0) st ik ln (nI (no C)) pa iw so na nb fo nu al (zOf C) be ke te ti ne wa (fillL (6 + C 0) (tb C 0 0) ta) (outF C (tb C 0 0) (6 + C 0) out) pl lo sh le) := hD
  refine lv_aload_n hx hb dX3_tableOf_32 rfl (lv_at hl 0 rfl) ?_
  refine gWM_0_table_X3 hx hb hts hown hK hP dX3_tableOf_33 ?_
  refine lv_iload_n hx hb dX3_tableOf_36 rfl (lv_at hl 1 rfl) ?_
  refine ldWM_5 hx hb hK hP (by omega) dX3_tableOf_37 ?_
  refine lv_topl (nm_r (e' := tb C 0 0 l_) (fillL_at (by omega)) ?_)
  subst hQQ
  exact xe_l (v := tb C 0 0 l_) (fillL (6 + C 0) (tb C 0 0) ta, outF C (tb C 0 0) (6 + C 0) out) hx hb hr hlocks hK hP hD hS (rfl) dX3_tableOf_38
set_option maxHeartbeats 4000000 in
set_option maxRecDepth 100000 in
theorem mt_X3_tableOf_no (l : Launch) (D : va_G) (ca : Nat → ClassId) (q : Nat → Nat) (th : Int32) (st : Int32) (ik : Int32) (ln : Int32) (ou : Int32) (pa : Int32) (iw : Int32) (so : Int32) (na : Int32) (nb : Int32) (fo : Int32) (nu : Int32) (al : Int32) (be : Nat → Int32) (ke : Nat → Int32) (te : Nat → Int32) (ti : Nat → Int32) (ne : Nat → Int32) (wa : Nat → Int32) (ta : Nat → Int64) (out : Nat → Int64) (pl : Nat → Int64) (lo : Nat → Int64) (sh : Nat → Int64) (le : Nat → Int64) (C : Nat → Nat) (l_ : Int32) (b_ : Bool) (h0 : C 0 ≤ 12) (hc : inR (6 + C 0) l_ = false) (nn : Nat) : Met l yX3_tableOf (ws_ yX3_tableOf cX3_tableOf 3 (Option.some Jvm.ClassFile.FieldType.long)) ({ frames := 2, cells := 0, slots := 0, locals := 43 } : Room) (va_Pc [.ref (q 0), .int l_, .int (bI b_)] (PreW Ev0 D vwCl (TY ca) (WM ca q th st ik ln ou pa iw so na nb fo nu al (zOf C) be ke te ti ne wa ta out pl lo sh le) nn)) (va_Ql (fun (r_ : Int64) (_ : Unit) => r_ = lN 0) (PostW D vwCl (TY ca) (fun (_ : Unit) => (WM ca q (nI 1) st ik ln ou pa iw so na nb fo nu al (zOf C) be ke te ti ne wa ta out pl lo sh le)) (va_A (WM ca q th st ik ln ou pa iw so na nb fo nu al (zOf C) be ke te ti ne wa ta out pl lo sh le) nn)) (va_A (WM ca q th st ik ln ou pa iw so na nb fo nu al (zOf C) be ke te ti ne wa ta out pl lo sh le) nn)) 0 0 (va_A (WM ca q th st ik ln ou pa iw so na nb fo nu al (zOf C) be ke te ti ne wa ta out pl lo sh le) nn) := by
  refine met_go (QA := fun A => va_Ql (fun (r_ : Int64) (_ : Unit) => r_ = lN 0) (PostW D vwCl (TY ca) (fun (_ : Unit) => (WM ca q (nI 1) st ik ln ou pa iw so na nb fo nu al (zOf C) be ke te ti ne wa ta out pl lo sh le)) A) A) (by decide) (Nat.le_of_ble_eq_true rfl) (fun p e s m below meth c A ls QQ hQQ hx hb hr hts hown hlocks hml hA hP hK hD hE hl => ?_)
  have hown : s.vm.findClass RX3 = some m.cls := hown
  have hS : va_S A s.heap s.heap [] := va_S.rf
  have hl : lv_has ls 3 [(0, .ref (q 0)), (1, .int l_), (2, .int (bI b_))] := hl
  generalize hHe : s.heap = H at hP ⊢
  have hS : va_S A s.heap H [] := hHe ▸ hS
  generalize ([] : List Loc) = locs at hS ⊢
  refine lv_aload_n hx hb dX3_tableOf_0 rfl (lv_at hl 0 rfl) ?_
  refine lv_aload_n hx hb dX3_tableOf_1 rfl (lv_at hl 0 rfl) ?_
  refine lv_iload_n hx hb dX3_tableOf_2 rfl (lv_at hl 1 rfl) ?_
  refine xc_i (xr_V (b := q 0) (ci := 2) (q0 := 0) (As := [.int l_]) (rest := [.ref (q 0)]) (mt_X3_isLine l D ca q th st ik ln ou pa iw so na nb fo nu al be ke te ti ne wa ta out pl lo sh le C l_ (by first | assumption | omega | (simp only [updN, forgetC, changedC]; (repeat' split) <;> omega)) H.size) ⟨hx, hb, hml, hown, hts⟩ (cwV 1 hts (lw_V q1692 q1694 qs44 q87 q1695) rfl rfl rfl (by decide +kernel) ⟨Nat.le_of_ble_eq_true rfl, Nat.le_of_ble_eq_true rfl⟩) Ev0_ok hE hK hS (Cut.all hP hD hS hA) rfl rfl rfl hl.1 rfl (Nat.le_of_ble_eq_true rfl) dX3_tableOf_3 ⟨Nat.le_of_ble_eq_true rfl, Nat.le_of_ble_eq_true rfl⟩) hS (Cut.all hP hD hS hA) (fun r_1 u_2 H locs hq_3 hP hD hS => ?_)
  have hP : va_P D vwCl (WM ca q th st ik ln ou pa iw so na nb fo nu al (zOf C) be ke te ti ne wa ta out pl lo sh le) H := hP
  have hD : va_D A (WM ca q th st ik ln ou pa iw so na nb fo nu al (zOf C) be ke te ti ne wa ta out pl lo sh le) := hD
  have hp_3 : r_1 = bI (inR (6 + C 0) l_) := hq_3
  clear hq_3
  obtain rfl := hp_3
  refine nv_ifb_eq (tgt := 13) hx hb dX3_tableOf_6 (by decide) (fun c_6 => ?_) (fun c_6 => (absurd c_6 (by rw [hc]; decide)))
  refine lv_iconst (v := nI 1) hx hb dX3_tableOf_13 (by decide) ?_
  refine pWM_0_thrown_X3 hx hb hts hown hK hP hD hS dX3_tableOf_14 (fun H locs hP hD hS => ?_)
  refine lv_aload_n hx hb dX3_tableOf_17 rfl (lv_at hl 0 rfl) ?_
  refine gWM_0_thrown_X3 hx hb hts hown hK hP dX3_tableOf_18 ?_
  refine nv_if_le (tgt := 26) hx hb dX3_tableOf_21 (by decide) (by omega) (fun c_21 => absurd c_21 (by decide)) (fun c_21 => ?_)
  refine lv_lconst (v := lN 0) hx hb dX3_tableOf_24 (by decide) ?_
  subst hQQ
  exact xe_l (v := lN 0) () hx hb hr hlocks hK hP hD hS (rfl) dX3_tableOf_25
set_option maxHeartbeats 4000000 in
set_option maxRecDepth 100000 in
theorem mt_X3_answerTo_ok (l : Launch) (D : va_G) (ca : Nat → ClassId) (q : Nat → Nat) (th : Int32) (st : Int32) (ik : Int32) (ln : Int32) (ou : Int32) (pa : Int32) (iw : Int32) (so : Int32) (na : Int32) (nb : Int32) (fo : Int32) (nu : Int32) (al : Int32) (be : Nat → Int32) (ke : Nat → Int32) (te : Nat → Int32) (ti : Nat → Int32) (ne : Nat → Int32) (wa : Nat → Int32) (ta : Nat → Int64) (out : Nat → Int64) (pl : Nat → Int64) (lo : Nat → Int64) (sh : Nat → Int64) (le : Nat → Int64) (C : Nat → Nat) (t_ : Nat) (h0 : C 0 ≤ 12) (hkd0 : ∀ k, k < 12 → C (1 + k) < 8) (hse : ∀ k, k < 12 → C (13 + k) < 6 + k ∧ C (25 + k) < 6 + k) (ho : C 37 < 2 ^ 18) (hbx : C 38 < 2 ^ 18) (hno : popc 18 (C 37) ≤ 4) (ht : t_ < 64) (nn : Nat) : Met l yX3_answerTo (ws_ yX3_answerTo cX3_answerTo 2 (Option.some Jvm.ClassFile.FieldType.int)) ({ frames := 2, cells := 0, slots := 0, locals := 51 } : Room) (va_Pc [.ref (q 0), .int (nI t_)] (PreW Ev0 D vwCl (TY ca) (WM ca q th st ik ln ou pa iw so na nb fo nu al (zOf C) be ke te ti ne wa ta out pl lo sh le) nn)) (va_Qi (fun (r_ : Int32) (u_ : (Nat → Int64) × (Nat → Int64)) => r_ = nI (anC C 0 0 t_)) (PostW D vwCl (TY ca) (fun (u_ : (Nat → Int64) × (Nat → Int64)) => (WM ca q (nI 0) st ik ln (nI (no C)) pa iw so na nb fo nu al (zOf C) be ke te ti ne wa u_.1 u_.2 pl lo sh le)) (va_A (WM ca q th st ik ln ou pa iw so na nb fo nu al (zOf C) be ke te ti ne wa ta out pl lo sh le) nn)) (va_A (WM ca q th st ik ln ou pa iw so na nb fo nu al (zOf C) be ke te ti ne wa ta out pl lo sh le) nn)) 0 0 (va_A (WM ca q th st ik ln ou pa iw so na nb fo nu al (zOf C) be ke te ti ne wa ta out pl lo sh le) nn) := by
  refine met_go (QA := fun A => va_Qi (fun (r_ : Int32) (u_ : (Nat → Int64) × (Nat → Int64)) => r_ = nI (anC C 0 0 t_)) (PostW D vwCl (TY ca) (fun (u_ : (Nat → Int64) × (Nat → Int64)) => (WM ca q (nI 0) st ik ln (nI (no C)) pa iw so na nb fo nu al (zOf C) be ke te ti ne wa u_.1 u_.2 pl lo sh le)) A) A) (by decide) (Nat.le_of_ble_eq_true rfl) (fun p e s m below meth c A ls QQ hQQ hx hb hr hts hown hlocks hml hA hP hK hD hE hl => ?_)
  have hown : s.vm.findClass RX3 = some m.cls := hown
  have hS : va_S A s.heap s.heap [] := va_S.rf
  have hl : lv_has ls 2 [(0, .ref (q 0)), (1, .int (nI t_))] := hl
  generalize hHe : s.heap = H at hP ⊢
  have hS : va_S A s.heap H [] := hHe ▸ hS
  generalize ([] : List Loc) = locs at hS ⊢
  have hnc : no C ≤ 4 := Nat.le_trans (popc_mono (by omega)) hno
  refine lv_aload_n hx hb dX3_answerTo_0 rfl (lv_at hl 0 rfl) ?_
  refine lv_iload_n hx hb dX3_answerTo_1 rfl (lv_at hl 1 rfl) ?_
  refine lv_iconst (v := nI 0) hx hb dX3_answerTo_2 (by decide) ?_
  refine lv_bipush (v := nI 63) hx hb dX3_answerTo_3 (by decide) ?_
  refine xc_i (xr_S (As := [.int (nI t_), .int (nI 0), .int (nI 63)]) (rest := [.ref (q 0)]) (mt_X3_in l D ca (nI t_) (nI 0) (nI 63)  H.size) ⟨hx, hb, hml, hown, hts⟩ (va_cwS 3 hts (lw_S q1700 q1701 q87 q1702) rfl rfl rfl (by decide +kernel) ⟨Nat.le_of_ble_eq_true rfl, Nat.le_of_ble_eq_true rfl⟩) Ev0_ok hE hK hS (Cut.app (wc := []) (wr := (WM ca q th st ik ln ou pa iw so na nb fo nu al (zOf C) be ke te ti ne wa ta out pl lo sh le)) hP hD hS hA) rfl hl.1 rfl (Nat.le_of_ble_eq_true rfl) dX3_answerTo_5 ⟨Nat.le_of_ble_eq_true rfl, Nat.le_of_ble_eq_true rfl⟩) hS (Cut.app (wc := []) (wr := (WM ca q th st ik ln ou pa iw so na nb fo nu al (zOf C) be ke te ti ne wa ta out pl lo sh le)) hP hD hS hA) (fun r_1 u_2 H locs hq_5 hP hD hS => ?_)
  have hP : va_P D vwCl (WM ca q th st ik ln ou pa iw so na nb fo nu al (zOf C) be ke te ti ne wa ta out pl lo sh le) H := hP
  have hD : va_D A (WM ca q th st ik ln ou pa iw so na nb fo nu al (zOf C) be ke te ti ne wa ta out pl lo sh le) := hD
  have hp_5 : r_1 = bI (decide ((nI 0) ≤ (nI t_) ∧ (nI t_) ≤ (nI 63))) := hq_5
  clear hq_5
  obtain rfl := hp_5
  refine nv_ifb_eq (tgt := 15) hx hb dX3_answerTo_8 (by decide) (fun c_8 => (absurd c_8 (by rw [in_ok (by omega) (by decide)]; decide))) (fun c_8 => ?_)
  refine lv_iconst (v := nI 0) hx hb dX3_answerTo_11 (by decide) ?_
  refine lv_goto (tgt := 16) hx hb dX3_answerTo_12 (by decide) ?_
  refine pWM_0_thrown_X3 hx hb hts hown hK hP hD hS dX3_answerTo_16 (fun H locs hP hD hS => ?_)
  refine lv_aload_n hx hb dX3_answerTo_19 rfl (lv_at hl 0 rfl) ?_
  refine gWM_0_thrown_X3 hx hb hts hown hK hP dX3_answerTo_20 ?_
  refine nv_if_le (tgt := 28) hx hb dX3_answerTo_23 (by decide) (by omega) (fun c_23 => ?_) (fun c_23 => absurd c_23 (by decide))
  refine lv_aload_n hx hb dX3_answerTo_28 rfl (lv_at hl 0 rfl) ?_
  refine lv_iconst (v := fI 0) hx hb dX3_answerTo_29 (by decide) ?_
  refine lv_iconst (v := fI 0) hx hb dX3_answerTo_30 (by decide) ?_
  refine xc_v (xr_V (b := q 0) (ci := 2) (q0 := 0) (As := [.int (fI 0), .int (fI 0)]) (rest := []) (mt_X3_lay l D ca q (nI 0) st ik ln ou pa iw so na nb fo nu al be ke te ti ne wa ta out pl lo sh le C 0 0 (by first | assumption | omega | (simp only [updN, forgetC, changedC]; (repeat' split) <;> omega)) (by first | assumption | omega | (simp only [updN, forgetC, changedC]; (repeat' split) <;> omega)) (by first | assumption | omega | (simp only [updN, forgetC, changedC]; (repeat' split) <;> omega)) (by first | assumption | omega | (simp only [updN, forgetC, changedC]; (repeat' split) <;> omega)) (by first | assumption | omega | (simp only [updN, forgetC, changedC]; (repeat' split) <;> omega)) (by first | assumption | omega | (simp only [updN, forgetC, changedC]; (repeat' split) <;> omega)) (by first | assumption | omega | (simp only [updN, forgetC, changedC]; (repeat' split) <;> omega)) (by first | assumption | omega | (simp only [updN, forgetC, changedC]; (repeat' split) <;> omega)) H.size) ⟨hx, hb, hml, hown, hts⟩ (cwV 2 hts (lw_V q1781 q1783 qs56 q87 q1784) rfl rfl rfl (by decide +kernel) ⟨Nat.le_of_ble_eq_true rfl, Nat.le_of_ble_eq_true rfl⟩) Ev0_ok hE hK hS (Cut.all hP hD hS hA) rfl rfl rfl hl.1 rfl (Nat.le_of_ble_eq_true rfl) dX3_answerTo_31 ⟨Nat.le_of_ble_eq_true rfl, Nat.le_of_ble_eq_true rfl⟩) hS (Cut.all hP hD hS hA) (fun u_4 H locs hq_31 hP hD hS => ?_)
  have hP : va_P D vwCl (WM ca q (nI 0) st ik ln (nI (no C)) pa iw so na nb fo nu al (zOf C) be ke te ti ne wa (fillL (6 + C 0) (tb C 0 0) ta) (outF C (tb C 0 0) (6 + C 0) out) pl lo sh le) H := hP
  have hD : va_D A (WM ca q (nI 0) st ik ln (nI (no C)) pa iw so na nb fo nu al (zOf C) be ke te ti ne wa (fillL (6 + C 0) (tb C 0 0) ta) (outF C (tb C 0 0) (6 + C 0) out) pl lo sh le) := hD
  refine lv_aload_n hx hb dX3_answerTo_34 rfl (lv_at hl 0 rfl) ?_
  refine lv_iload_n hx hb dX3_answerTo_35 rfl (lv_at hl 1 rfl) ?_
  refine xc_i (xr_V (b := q 0) (ci := 2) (q0 := 0) (As := [.int (nI t_)]) (rest := []) (mt_X3_answer l D ca q (nI 0) st ik ln pa iw so na nb fo nu al (zOf C) be ke te ti ne wa (fillL (6 + C 0) (tb C 0 0) ta) (outF C (tb C 0 0) (6 + C 0) out) pl lo sh le (no C) t_ (by first | assumption | omega | (simp only [updN, forgetC, changedC]; (repeat' split) <;> omega)) (by first | assumption | omega | (simp only [updN, forgetC, changedC]; (repeat' split) <;> omega)) H.size) ⟨hx, hb, hml, hown, hts⟩ (cwV 1 hts (lw_V q1796 q1798 qs58 q87 q1799) rfl rfl rfl (by decide +kernel) ⟨Nat.le_of_ble_eq_true rfl, Nat.le_of_ble_eq_true rfl⟩) Ev0_ok hE hK hS (Cut.all hP hD hS hA) rfl rfl rfl hl.1 rfl (Nat.le_of_ble_eq_true rfl) dX3_answerTo_36 ⟨Nat.le_of_ble_eq_true rfl, Nat.le_of_ble_eq_true rfl⟩) hS (Cut.all hP hD hS hA) (fun r_5 u_6 H locs hq_36 hP hD hS => ?_)
  have hP : va_P D vwCl (WM ca q (nI 0) st ik ln (nI (no C)) pa iw so na nb fo nu al (zOf C) be ke te ti ne wa (fillL (6 + C 0) (tb C 0 0) ta) (outF C (tb C 0 0) (6 + C 0) out) pl lo sh le) H := hP
  have hD : va_D A (WM ca q (nI 0) st ik ln (nI (no C)) pa iw so na nb fo nu al (zOf C) be ke te ti ne wa (fillL (6 + C 0) (tb C 0 0) ta) (outF C (tb C 0 0) (6 + C 0) out) pl lo sh le) := hD
  have hp_36 : r_5 = nI (anF (no C) (outF C (tb C 0 0) (6 + C 0) out) t_) := hq_36
  clear hq_36
  obtain rfl := hp_36
  refine lv_topi (nm_r (e' := nI (anC C 0 0 t_)) (congrArg nI anC_of) ?_)
  subst hQQ
  exact xe_i (v := nI (anC C 0 0 t_)) (fillL (6 + C 0) (tb C 0 0) ta, outF C (tb C 0 0) (6 + C 0) out) hx hb hr hlocks hK hP hD hS (rfl) dX3_answerTo_39
set_option maxHeartbeats 4000000 in
set_option maxRecDepth 100000 in
theorem mt_X3_answerTo_no (l : Launch) (D : va_G) (ca : Nat → ClassId) (q : Nat → Nat) (th : Int32) (st : Int32) (ik : Int32) (ln : Int32) (ou : Int32) (pa : Int32) (iw : Int32) (so : Int32) (na : Int32) (nb : Int32) (fo : Int32) (nu : Int32) (al : Int32) (be : Nat → Int32) (ke : Nat → Int32) (te : Nat → Int32) (ti : Nat → Int32) (ne : Nat → Int32) (wa : Nat → Int32) (ta : Nat → Int64) (out : Nat → Int64) (pl : Nat → Int64) (lo : Nat → Int64) (sh : Nat → Int64) (le : Nat → Int64) (C : Nat → Nat) (t_ : Int32) (hc : inR 64 t_ = false) (nn : Nat) : Met l yX3_answerTo (ws_ yX3_answerTo cX3_answerTo 2 (Option.some Jvm.ClassFile.FieldType.int)) ({ frames := 1, cells := 0, slots := 0, locals := 22 } : Room) (va_Pc [.ref (q 0), .int t_] (PreW Ev0 D vwCl (TY ca) (WM ca q th st ik ln ou pa iw so na nb fo nu al (zOf C) be ke te ti ne wa ta out pl lo sh le) nn)) (va_Qi (fun (r_ : Int32) (_ : Unit) => r_ = nI 0) (PostW D vwCl (TY ca) (fun (_ : Unit) => (WM ca q (nI 1) st ik ln ou pa iw so na nb fo nu al (zOf C) be ke te ti ne wa ta out pl lo sh le)) (va_A (WM ca q th st ik ln ou pa iw so na nb fo nu al (zOf C) be ke te ti ne wa ta out pl lo sh le) nn)) (va_A (WM ca q th st ik ln ou pa iw so na nb fo nu al (zOf C) be ke te ti ne wa ta out pl lo sh le) nn)) 0 0 (va_A (WM ca q th st ik ln ou pa iw so na nb fo nu al (zOf C) be ke te ti ne wa ta out pl lo sh le) nn) := by
  refine met_go (QA := fun A => va_Qi (fun (r_ : Int32) (_ : Unit) => r_ = nI 0) (PostW D vwCl (TY ca) (fun (_ : Unit) => (WM ca q (nI 1) st ik ln ou pa iw so na nb fo nu al (zOf C) be ke te ti ne wa ta out pl lo sh le)) A) A) (by decide) (Nat.le_of_ble_eq_true rfl) (fun p e s m below meth c A ls QQ hQQ hx hb hr hts hown hlocks hml hA hP hK hD hE hl => ?_)
  have hown : s.vm.findClass RX3 = some m.cls := hown
  have hS : va_S A s.heap s.heap [] := va_S.rf
  have hl : lv_has ls 2 [(0, .ref (q 0)), (1, .int t_)] := hl
  generalize hHe : s.heap = H at hP ⊢
  have hS : va_S A s.heap H [] := hHe ▸ hS
  generalize ([] : List Loc) = locs at hS ⊢
  refine lv_aload_n hx hb dX3_answerTo_0 rfl (lv_at hl 0 rfl) ?_
  refine lv_iload_n hx hb dX3_answerTo_1 rfl (lv_at hl 1 rfl) ?_
  refine lv_iconst (v := nI 0) hx hb dX3_answerTo_2 (by decide) ?_
  refine lv_bipush (v := nI 63) hx hb dX3_answerTo_3 (by decide) ?_
  refine xc_i (xr_S (As := [.int t_, .int (nI 0), .int (nI 63)]) (rest := [.ref (q 0)]) (mt_X3_in l D ca t_ (nI 0) (nI 63)  H.size) ⟨hx, hb, hml, hown, hts⟩ (va_cwS 3 hts (lw_S q1700 q1701 q87 q1702) rfl rfl rfl (by decide +kernel) ⟨Nat.le_of_ble_eq_true rfl, Nat.le_of_ble_eq_true rfl⟩) Ev0_ok hE hK hS (Cut.app (wc := []) (wr := (WM ca q th st ik ln ou pa iw so na nb fo nu al (zOf C) be ke te ti ne wa ta out pl lo sh le)) hP hD hS hA) rfl hl.1 rfl (Nat.le_of_ble_eq_true rfl) dX3_answerTo_5 ⟨Nat.le_of_ble_eq_true rfl, Nat.le_of_ble_eq_true rfl⟩) hS (Cut.app (wc := []) (wr := (WM ca q th st ik ln ou pa iw so na nb fo nu al (zOf C) be ke te ti ne wa ta out pl lo sh le)) hP hD hS hA) (fun r_1 u_2 H locs hq_5 hP hD hS => ?_)
  have hP : va_P D vwCl (WM ca q th st ik ln ou pa iw so na nb fo nu al (zOf C) be ke te ti ne wa ta out pl lo sh le) H := hP
  have hD : va_D A (WM ca q th st ik ln ou pa iw so na nb fo nu al (zOf C) be ke te ti ne wa ta out pl lo sh le) := hD
  have hp_5 : r_1 = bI (decide ((nI 0) ≤ t_ ∧ t_ ≤ (nI 63))) := hq_5
  clear hq_5
  obtain rfl := hp_5
  refine nv_ifb_eq (tgt := 15) hx hb dX3_answerTo_8 (by decide) (fun c_8 => ?_) (fun c_8 => (absurd c_8 (by rw [inR_lit (by decide), hc]; decide)))
  refine lv_iconst (v := nI 1) hx hb dX3_answerTo_15 (by decide) ?_
  refine pWM_0_thrown_X3 hx hb hts hown hK hP hD hS dX3_answerTo_16 (fun H locs hP hD hS => ?_)
  refine lv_aload_n hx hb dX3_answerTo_19 rfl (lv_at hl 0 rfl) ?_
  refine gWM_0_thrown_X3 hx hb hts hown hK hP dX3_answerTo_20 ?_
  refine nv_if_le (tgt := 28) hx hb dX3_answerTo_23 (by decide) (by omega) (fun c_23 => absurd c_23 (by decide)) (fun c_23 => ?_)
  refine lv_iconst (v := nI 0) hx hb dX3_answerTo_26 (by decide) ?_
  subst hQQ
  exact xe_i (v := nI 0) () hx hb hr hlocks hK hP hD hS (rfl) dX3_answerTo_27
set_option maxHeartbeats 4000000 in
set_option maxRecDepth 100000 in
theorem mt_X3_reads (l : Launch) (D : va_G) (ca : Nat → ClassId) (q : Nat → Nat) (th : Int32) (st : Int32) (ik : Int32) (ln : Int32) (ou : Int32) (pa : Int32) (iw : Int32) (so : Int32) (na : Int32) (nb : Int32) (fo : Int32) (nu : Int32) (al : Int32) (be : Nat → Int32) (ke : Nat → Int32) (te : Nat → Int32) (ti : Nat → Int32) (ne : Nat → Int32) (wa : Nat → Int32) (ta : Nat → Int64) (out : Nat → Int64) (pl : Nat → Int64) (lo : Nat → Int64) (sh : Nat → Int64) (le : Nat → Int64) (C : Nat → Nat) (g_ : Nat) (l_ : Nat) (hg : g_ < 12) (hl0 : l_ < 100) (hkd0 : ∀ k, k < 12 → C (1 + k) < 8) (hse : ∀ k, k < 12 → C (13 + k) < 6 + k ∧ C (25 + k) < 6 + k) (nn : Nat) : Met l yX3_reads (ws_ yX3_reads cX3_reads 3 (Option.some Jvm.ClassFile.FieldType.boolean)) ({ frames := 0, cells := 0, slots := 0, locals := 0 } : Room) (va_Pc [.ref (q 0), .int (nI g_), .int (nI l_)] (PreW Ev0 D vwCl (TY ca) (WM ca q th st ik ln ou pa iw so na nb fo nu al (zOf C) be ke te ti ne wa ta out pl lo sh le) nn)) (va_Qi (fun (r_ : Int32) (_ : Unit) => r_ = bI (rdB C g_ l_)) (PostW D vwCl (TY ca) (fun (_ : Unit) => (WM ca q th st ik ln ou pa iw so na nb fo nu al (zOf C) be ke te ti ne wa ta out pl lo sh le)) (va_A (WM ca q th st ik ln ou pa iw so na nb fo nu al (zOf C) be ke te ti ne wa ta out pl lo sh le) nn)) (va_A (WM ca q th st ik ln ou pa iw so na nb fo nu al (zOf C) be ke te ti ne wa ta out pl lo sh le) nn)) 0 0 (va_A (WM ca q th st ik ln ou pa iw so na nb fo nu al (zOf C) be ke te ti ne wa ta out pl lo sh le) nn) := by
  refine met_go (QA := fun A => va_Qi (fun (r_ : Int32) (_ : Unit) => r_ = bI (rdB C g_ l_)) (PostW D vwCl (TY ca) (fun (_ : Unit) => (WM ca q th st ik ln ou pa iw so na nb fo nu al (zOf C) be ke te ti ne wa ta out pl lo sh le)) A) A) (by decide) (Nat.le_of_ble_eq_true rfl) (fun p e s m below meth c A ls QQ hQQ hx hb hr hts hown hlocks hml hA hP hK hD hE hl => ?_)
  have hown : s.vm.findClass RX3 = some m.cls := hown
  have hS : va_S A s.heap s.heap [] := va_S.rf
  have hl : lv_has ls 3 [(0, .ref (q 0)), (1, .int (nI g_)), (2, .int (nI l_))] := hl
  generalize hHe : s.heap = H at hP ⊢
  have hS : va_S A s.heap H [] := hHe ▸ hS
  generalize ([] : List Loc) = locs at hS ⊢
  refine lv_aload_n hx hb dX3_reads_0 rfl (lv_at hl 0 rfl) ?_
  refine gWM_0_z_X3 hx hb hts hown hK hP dX3_reads_1 ?_
  refine lv_bipush (v := nI 13) hx hb dX3_reads_4 (by decide) ?_
  refine lv_iload_n hx hb dX3_reads_6 rfl (lv_at hl 1 rfl) ?_
  refine nv_iadd hx hb dX3_reads_7 ?_
  refine ldWM_1 hx hb hK hP (by omega) dX3_reads_8 ?_
  refine lv_topi (nm_r (e' := nI (C (13 + g_))) (zOf_n (by omega)) ?_)
  refine lv_iload_n hx hb dX3_reads_9 rfl (lv_at hl 2 rfl) ?_
  refine nv_icmp_eq (tgt := 39) hx hb dX3_reads_10 (by decide) (by have := hse g_ hg; omega) (by omega) (fun c_10 => ?_) (fun c_10 => ?_)
  · skip
    refine lv_iconst (v := nI 1) hx hb dX3_reads_39 (by decide) ?_
    refine lv_goto (tgt := 44) hx hb dX3_reads_40 (by decide) ?_
    subst hQQ
    refine (xe_z (b := true) () hx hb hr hlocks hK hP hD hS (congrArg bI (by simp only [rdB]; symm; first | (simp [*]; done) | (simp; omega))) dX3_reads_44)
  · skip
    refine lv_aload_n hx hb dX3_reads_13 rfl (lv_at hl 0 rfl) ?_
    refine gWM_0_z_X3 hx hb hts hown hK hP dX3_reads_14 ?_
    refine lv_iconst (v := nI 1) hx hb dX3_reads_17 (by decide) ?_
    refine lv_iload_n hx hb dX3_reads_18 rfl (lv_at hl 1 rfl) ?_
    refine nv_iadd hx hb dX3_reads_19 ?_
    refine ldWM_1 hx hb hK hP (by omega) dX3_reads_20 ?_
    refine lv_topi (nm_r (e' := nI (C (1 + g_))) (zOf_n (by omega)) ?_)
    refine lv_bipush (v := nI 6) hx hb dX3_reads_21 (by decide) ?_
    refine nv_icmp_ge (tgt := 43) hx hb dX3_reads_23 (by decide) (by have := hkd0 g_ hg; omega) (by omega) (fun c_23 => ?_) (fun c_23 => ?_)
    · skip
      refine lv_iconst (v := nI 0) hx hb dX3_reads_43 (by decide) ?_
      subst hQQ
      refine (xe_z (b := false) () hx hb hr hlocks hK hP hD hS (congrArg bI (by simp only [rdB]; symm; first | (simp [*]; done) | (simp; omega))) dX3_reads_44)
    · skip
      refine lv_aload_n hx hb dX3_reads_26 rfl (lv_at hl 0 rfl) ?_
      refine gWM_0_z_X3 hx hb hts hown hK hP dX3_reads_27 ?_
      refine lv_bipush (v := nI 25) hx hb dX3_reads_30 (by decide) ?_
      refine lv_iload_n hx hb dX3_reads_32 rfl (lv_at hl 1 rfl) ?_
      refine nv_iadd hx hb dX3_reads_33 ?_
      refine ldWM_1 hx hb hK hP (by omega) dX3_reads_34 ?_
      refine lv_topi (nm_r (e' := nI (C (25 + g_))) (zOf_n (by omega)) ?_)
      refine lv_iload_n hx hb dX3_reads_35 rfl (lv_at hl 2 rfl) ?_
      refine nv_icmp_ne (tgt := 43) hx hb dX3_reads_36 (by decide) (by have := hse g_ hg; omega) (by omega) (fun c_36 => ?_) (fun c_36 => ?_)
      · skip
        refine lv_iconst (v := nI 0) hx hb dX3_reads_43 (by decide) ?_
        subst hQQ
        refine (xe_z (b := false) () hx hb hr hlocks hK hP hD hS (congrArg bI (by simp only [rdB]; symm; first | (simp [*]; done) | (simp; omega))) dX3_reads_44)
      · skip
        refine lv_iconst (v := nI 1) hx hb dX3_reads_39 (by decide) ?_
        refine lv_goto (tgt := 44) hx hb dX3_reads_40 (by decide) ?_
        subst hQQ
        refine (xe_z (b := true) () hx hb hr hlocks hK hP hD hS (congrArg bI (by simp only [rdB]; symm; first | (simp [*]; done) | (simp; omega))) dX3_reads_44)
set_option maxHeartbeats 4000000 in
set_option maxRecDepth 100000 in
theorem mt_X3_busy (l : Launch) (D : va_G) (ca : Nat → ClassId) (q : Nat → Nat) (th : Int32) (st : Int32) (ik : Int32) (ln : Int32) (ou : Int32) (pa : Int32) (iw : Int32) (so : Int32) (na : Int32) (nb : Int32) (fo : Int32) (nu : Int32) (al : Int32) (be : Nat → Int32) (ke : Nat → Int32) (te : Nat → Int32) (ti : Nat → Int32) (ne : Nat → Int32) (wa : Nat → Int32) (ta : Nat → Int64) (out : Nat → Int64) (pl : Nat → Int64) (lo : Nat → Int64) (sh : Nat → Int64) (le : Nat → Int64) (C : Nat → Nat) (h0 : C 0 ≤ 12) (hkd0 : ∀ k, k < 12 → C (1 + k) < 8) (hse : ∀ k, k < 12 → C (13 + k) < 6 + k ∧ C (25 + k) < 6 + k) (ho : C 37 < 2 ^ 18) (nn : Nat) : Met l yX3_busy (ws_ yX3_busy cX3_busy 4 (Option.some Jvm.ClassFile.FieldType.int)) ({ frames := 1, cells := 0, slots := 0, locals := 22 } : Room) (va_Pc [.ref (q 0)] (PreW Ev0 D vwCl (TY ca) (WM ca q th st ik ln ou pa iw so na nb fo nu al (zOf C) be ke te ti ne wa ta out pl lo sh le) nn)) (va_Qi (fun (r_ : Int32) (_ : Unit) => r_ = nI (bo C (C 0) (C 37))) (PostW D vwCl (TY ca) (fun (_ : Unit) => (WM ca q th st ik ln ou pa iw so na nb fo nu al (zOf C) be ke te ti ne wa ta out pl lo sh le)) (va_A (WM ca q th st ik ln ou pa iw so na nb fo nu al (zOf C) be ke te ti ne wa ta out pl lo sh le) nn)) (va_A (WM ca q th st ik ln ou pa iw so na nb fo nu al (zOf C) be ke te ti ne wa ta out pl lo sh le) nn)) 0 0 (va_A (WM ca q th st ik ln ou pa iw so na nb fo nu al (zOf C) be ke te ti ne wa ta out pl lo sh le) nn) := by
  refine met_go (QA := fun A => va_Qi (fun (r_ : Int32) (_ : Unit) => r_ = nI (bo C (C 0) (C 37))) (PostW D vwCl (TY ca) (fun (_ : Unit) => (WM ca q th st ik ln ou pa iw so na nb fo nu al (zOf C) be ke te ti ne wa ta out pl lo sh le)) A) A) (by decide) (Nat.le_of_ble_eq_true rfl) (fun p e s m below meth c A ls QQ hQQ hx hb hr hts hown hlocks hml hA hP hK hD hE hl => ?_)
  have hown : s.vm.findClass RX3 = some m.cls := hown
  have hS : va_S A s.heap s.heap [] := va_S.rf
  have hl : lv_has ls 4 [(0, .ref (q 0))] := hl
  generalize hHe : s.heap = H at hP ⊢
  have hS : va_S A s.heap H [] := hHe ▸ hS
  generalize ([] : List Loc) = locs at hS ⊢
  refine lv_aload_n hx hb dX3_busy_0 rfl (lv_at hl 0 rfl) ?_
  refine gWM_0_z_X3 hx hb hts hown hK hP dX3_busy_1 ?_
  refine lv_bipush (v := nI 37) hx hb dX3_busy_4 (by decide) ?_
  refine ldWM_1 hx hb hK hP (by omega) dX3_busy_6 ?_
  refine lv_topi (nm_r (e' := nI (C 37)) (rfl) ?_)
  refine lv_istore_n (lv' := [(1, .int (nI (C 37))), (0, .ref (q 0))]) hx hb dX3_busy_7 rfl hl (by decide) rfl (fun ls hl => ?_)
  refine lv_aload_n hx hb dX3_busy_8 rfl (lv_at hl 1 rfl) ?_
  refine gWM_0_z_X3 hx hb hts hown hK hP dX3_busy_9 ?_
  refine lv_iconst (v := nI 0) hx hb dX3_busy_12 (by decide) ?_
  refine ldWM_1 hx hb hK hP (by omega) dX3_busy_13 ?_
  refine lv_topi (nm_r (e' := nI (C 0)) (rfl) ?_)
  refine lv_iconst (v := nI 1) hx hb dX3_busy_14 (by decide) ?_
  refine lv_isub hx hb dX3_busy_15 ?_
  refine lv_topi (nm_r (e' := fI (C 0)) (rfl) ?_)
  refine lv_istore_n (lv' := [(2, .int (fI (C 0))), (1, .int (nI (C 37))), (0, .ref (q 0))]) hx hb dX3_busy_16 rfl hl (by decide) rfl (fun ls hl => ?_)
  have lp_17 : ∀ (fu_17 : Nat) (n : Nat) (s_ : Nat), n < fu_17 → (n ≤ C 0) → (bo C n s_ = bo C (C 0) (C 37)) → (s_ < 2 ^ 18) → ∀ (H : Heap) (locs : List Loc), va_P D vwCl (WM ca q th st ik ln ou pa iw so na nb fo nu al (zOf C) be ke te ti ne wa ta out pl lo sh le) H → va_D A (WM ca q th st ik ln ou pa iw so na nb fo nu al (zOf C) be ke te ti ne wa ta out pl lo sh le) → va_S A s.heap H locs → ∀ (ls : Array Slot), lv_has ls 4 [(2, .int (fI n)), (1, .int (nI s_)), (0, .ref (q 0))] → W p l e ({ frames := 1, cells := 0, slots := 0, locals := 22 } : Room) s m ([.ref (q 0)] : List Value).toArray below meth c H locs 0 0 QQ (F0 m 17 ls []) := by
    intro fu_17
    induction fu_17 with
    | zero => intro n s_ hfu; exact absurd hfu (Nat.not_lt_zero _)
    | succ fu_17 ih_17 =>
      intro n s_ hfu hn hR hsb H locs hP hD hS ls hl
      refine lv_iload_n hx hb dX3_busy_17 rfl (lv_at hl 0 rfl) ?_
      refine nv_if_ltf (tgt := 73) hx hb dX3_busy_18 (by decide) (by omega) (fun c_18 => ?_) (fun c_18 => ?_)
      · skip
        have hR : s_ = bo C (C 0) (C 37) := by rw [← hR, c_18]; rfl
        refine lv_iload_n hx hb dX3_busy_73 rfl (lv_at hl 1 rfl) ?_
        subst hQQ
        exact xe_i (v := nI s_) () hx hb hr hlocks hK hP hD hS (congrArg nI hR) dX3_busy_74
      · skip
        obtain ⟨w, rfl⟩ := Nat.exists_eq_succ_of_ne_zero c_18
        have hl : lv_has ls 4 [(2, .int (nI w)), (1, .int (nI s_)), (0, .ref (q 0))] := (congrArg (fun x_ => lv_has ls 4 [(2, .int x_), (1, .int (nI s_)), (0, .ref (q 0))]) (show fI (w + 1) = nI w from (fI_S w).symm)).mp hl
        refine lv_iconst (v := nI 0) hx hb dX3_busy_21 (by decide) ?_
        refine lv_istore_n (lv' := [(3, .int (nI 0)), (2, .int (nI w)), (1, .int (nI s_)), (0, .ref (q 0))]) hx hb dX3_busy_22 rfl hl (by decide) rfl (fun ls hl => ?_)
        have lp_23 : ∀ (fu_23 : Nat) (j : Nat), 6 + w - j < fu_23 → (j ≤ 6 + w) → ∀ (H : Heap) (locs : List Loc), va_P D vwCl (WM ca q th st ik ln ou pa iw so na nb fo nu al (zOf C) be ke te ti ne wa ta out pl lo sh le) H → va_D A (WM ca q th st ik ln ou pa iw so na nb fo nu al (zOf C) be ke te ti ne wa ta out pl lo sh le) → va_S A s.heap H locs → ∀ (ls : Array Slot), lv_has ls 4 [(3, .int (nI j)), (2, .int (nI w)), (1, .int (nI (bi C w j s_))), (0, .ref (q 0))] → W p l e ({ frames := 1, cells := 0, slots := 0, locals := 22 } : Room) s m ([.ref (q 0)] : List Value).toArray below meth c H locs 0 0 QQ (F0 m 23 ls []) := by
          intro fu_23
          induction fu_23 with
          | zero => intro j hfu; exact absurd hfu (Nat.not_lt_zero _)
          | succ fu_23 ih_23 =>
            intro j hfu hj H locs hP hD hS ls hl
            refine lv_iload_n hx hb dX3_busy_23 rfl (lv_at hl 0 rfl) ?_
            refine lv_bipush (v := nI 6) hx hb dX3_busy_24 (by decide) ?_
            refine lv_iload_n hx hb dX3_busy_26 rfl (lv_at hl 1 rfl) ?_
            refine nv_iadd hx hb dX3_busy_27 ?_
            refine nv_icmp_ge (tgt := 67) hx hb dX3_busy_28 (by decide) (by omega) (by omega) (fun c_28 => ?_) (fun c_28 => ?_)
            · skip
              have e_ : 6 + w = j := Eq.symm (by omega)
              subst e_
              have hl : lv_has ls 4 [(3, .int (nI (6 + w))), (2, .int (nI w)), (1, .int (nI (stp C w s_))), (0, .ref (q 0))] := (congrArg (fun x_ => lv_has ls 4 [(3, .int (nI (6 + w))), (2, .int (nI w)), (1, .int x_), (0, .ref (q 0))]) (show nI (bi C w (6 + w) s_) = nI (stp C w s_) from congrArg nI (bi_st (by have := hse w (by omega); omega) (by have := hse w (by omega); omega)))).mp hl
              refine lv_iinc (v := fI w) (lv' := [(2, .int (fI w)), (3, .int (nI (6 + w))), (1, .int (nI (stp C w s_))), (0, .ref (q 0))]) hx hb dX3_busy_67 hl (k := 1) rfl (fI_dec w) (by decide) rfl (fun ls hl => ?_)
              refine lv_goto (tgt := 17) hx hb dX3_busy_70 (by decide) ?_
              exact ih_17  w (stp C w s_) (by omega) (by omega) hR (stp_lt (by have := hse w (by omega); omega) (by have := hse w (by omega); omega) hsb) _ _ hP hD hS ls (lv_sub hl [0, 2, 3] rfl)
            · skip
              refine lv_iload_n hx hb dX3_busy_31 rfl (lv_at hl 2 rfl) ?_
              refine lv_iload_n hx hb dX3_busy_32 rfl (lv_at hl 2 rfl) ?_
              refine lv_bipush (v := nI 6) hx hb dX3_busy_33 (by decide) ?_
              refine lv_iload_n hx hb dX3_busy_35 rfl (lv_at hl 1 rfl) ?_
              refine nv_iadd hx hb dX3_busy_36 ?_
              refine xc_i (xr_S (As := [.int (nI (bi C w j s_)), .int (nI (6 + w))]) (rest := [.int (nI (bi C w j s_))]) (mt_X3_has l D ca (bi C w j s_) (6 + w) (by omega) (Nat.lt_trans (bi_lt (by omega) hsb) (by decide)) H.size) ⟨hx, hb, hml, hown, hts⟩ (va_cwS 2 hts (lw_S q1731 q1732 q87 q1733) rfl rfl rfl (by decide +kernel) ⟨Nat.le_of_ble_eq_true rfl, Nat.le_of_ble_eq_true rfl⟩) Ev0_ok hE hK hS (Cut.app (wc := []) (wr := (WM ca q th st ik ln ou pa iw so na nb fo nu al (zOf C) be ke te ti ne wa ta out pl lo sh le)) hP hD hS hA) rfl hl.1 rfl (Nat.le_of_ble_eq_true rfl) dX3_busy_37 ⟨Nat.le_of_ble_eq_true rfl, Nat.le_of_ble_eq_true rfl⟩) hS (Cut.app (wc := []) (wr := (WM ca q th st ik ln ou pa iw so na nb fo nu al (zOf C) be ke te ti ne wa ta out pl lo sh le)) hP hD hS hA) (fun r_3 u_4 H locs hq_37 hP hD hS => ?_)
              have hP : va_P D vwCl (WM ca q th st ik ln ou pa iw so na nb fo nu al (zOf C) be ke te ti ne wa ta out pl lo sh le) H := hP
              have hD : va_D A (WM ca q th st ik ln ou pa iw so na nb fo nu al (zOf C) be ke te ti ne wa ta out pl lo sh le) := hD
              have hp_37 : r_3 = bI ((bi C w j s_).testBit (6 + w)) := hq_37
              clear hq_37
              obtain rfl := hp_37
              refine nv_ifb_eq (tgt := 58) hx hb dX3_busy_40 (by decide) (fun c_40 => ?_) (fun c_40 => ?_)
              · skip
                refine lv_iconst (v := nI 0) hx hb dX3_busy_58 (by decide) ?_
                refine nv_ior hx hb dX3_busy_59 ?_
                refine lv_topi (nm_r (e' := nI (bi C w (j + 1) s_)) (congrArg nI (by simp only [bi]; rw [if_neg (by simp [*])])) ?_)
                refine lv_istore_n (lv' := [(1, .int (nI (bi C w (j + 1) s_))), (3, .int (nI j)), (2, .int (nI w)), (0, .ref (q 0))]) hx hb dX3_busy_60 rfl hl (by decide) rfl (fun ls hl => ?_)
                refine lv_iinc (v := nI (j + 1)) (lv' := [(3, .int (nI (j + 1))), (1, .int (nI (bi C w (j + 1) s_))), (2, .int (nI w)), (0, .ref (q 0))]) hx hb dX3_busy_61 hl (k := 1) rfl (nI_add j 1) (by decide) rfl (fun ls hl => ?_)
                refine lv_goto (tgt := 23) hx hb dX3_busy_64 (by decide) ?_
                exact ih_23  (j + 1) (by omega) (by omega) _ _ hP hD hS ls (lv_sub hl [0, 2, 1, 3] rfl)
              · skip
                refine lv_aload_n hx hb dX3_busy_43 rfl (lv_at hl 3 rfl) ?_
                refine lv_iload_n hx hb dX3_busy_44 rfl (lv_at hl 1 rfl) ?_
                refine lv_iload_n hx hb dX3_busy_45 rfl (lv_at hl 0 rfl) ?_
                refine xc_i (xr_V (b := q 0) (ci := 2) (q0 := 0) (As := [.int (nI w), .int (nI j)]) (rest := [.int (nI (bi C w j s_))]) (mt_X3_reads l D ca q th st ik ln ou pa iw so na nb fo nu al be ke te ti ne wa ta out pl lo sh le C w j (by omega) (by omega) hkd0 hse H.size) ⟨hx, hb, hml, hown, hts⟩ (cwV 2 hts (lw_V q1942 q1944 qs76 q87 q1945) rfl rfl rfl (by decide +kernel) ⟨Nat.le_of_ble_eq_true rfl, Nat.le_of_ble_eq_true rfl⟩) Ev0_ok hE hK hS (Cut.all hP hD hS hA) rfl rfl rfl hl.1 rfl (Nat.le_of_ble_eq_true rfl) dX3_busy_46 ⟨Nat.le_of_ble_eq_true rfl, Nat.le_of_ble_eq_true rfl⟩) hS (Cut.all hP hD hS hA) (fun r_6 u_7 H locs hq_46 hP hD hS => ?_)
                have hP : va_P D vwCl (WM ca q th st ik ln ou pa iw so na nb fo nu al (zOf C) be ke te ti ne wa ta out pl lo sh le) H := hP
                have hD : va_D A (WM ca q th st ik ln ou pa iw so na nb fo nu al (zOf C) be ke te ti ne wa ta out pl lo sh le) := hD
                have hp_46 : r_6 = bI (rdB C w j) := hq_46
                clear hq_46
                obtain rfl := hp_46
                refine nv_ifb_eq (tgt := 58) hx hb dX3_busy_49 (by decide) (fun c_49 => ?_) (fun c_49 => ?_)
                · skip
                  refine lv_iconst (v := nI 0) hx hb dX3_busy_58 (by decide) ?_
                  refine nv_ior hx hb dX3_busy_59 ?_
                  refine lv_topi (nm_r (e' := nI (bi C w (j + 1) s_)) (congrArg nI (by simp only [bi]; rw [if_neg (by simp [*])])) ?_)
                  refine lv_istore_n (lv' := [(1, .int (nI (bi C w (j + 1) s_))), (3, .int (nI j)), (2, .int (nI w)), (0, .ref (q 0))]) hx hb dX3_busy_60 rfl hl (by decide) rfl (fun ls hl => ?_)
                  refine lv_iinc (v := nI (j + 1)) (lv' := [(3, .int (nI (j + 1))), (1, .int (nI (bi C w (j + 1) s_))), (2, .int (nI w)), (0, .ref (q 0))]) hx hb dX3_busy_61 hl (k := 1) rfl (nI_add j 1) (by decide) rfl (fun ls hl => ?_)
                  refine lv_goto (tgt := 23) hx hb dX3_busy_64 (by decide) ?_
                  exact ih_23  (j + 1) (by omega) (by omega) _ _ hP hD hS ls (lv_sub hl [0, 2, 1, 3] rfl)
                · skip
                  refine lv_iconst (v := nI 1) hx hb dX3_busy_52 (by decide) ?_
                  refine lv_iload_n hx hb dX3_busy_53 rfl (lv_at hl 0 rfl) ?_
                  refine nv_ishl hx hb dX3_busy_54 (by omega) (sh1_ok (by omega)) ?_
                  refine lv_goto (tgt := 59) hx hb dX3_busy_55 (by decide) ?_
                  refine nv_ior hx hb dX3_busy_59 ?_
                  refine lv_topi (nm_r (e' := nI (bi C w (j + 1) s_)) (congrArg nI (by simp only [bi]; rw [if_pos (by simp [c_40, c_49])])) ?_)
                  refine lv_istore_n (lv' := [(1, .int (nI (bi C w (j + 1) s_))), (3, .int (nI j)), (2, .int (nI w)), (0, .ref (q 0))]) hx hb dX3_busy_60 rfl hl (by decide) rfl (fun ls hl => ?_)
                  refine lv_iinc (v := nI (j + 1)) (lv' := [(3, .int (nI (j + 1))), (1, .int (nI (bi C w (j + 1) s_))), (2, .int (nI w)), (0, .ref (q 0))]) hx hb dX3_busy_61 hl (k := 1) rfl (nI_add j 1) (by decide) rfl (fun ls hl => ?_)
                  refine lv_goto (tgt := 23) hx hb dX3_busy_64 (by decide) ?_
                  exact ih_23  (j + 1) (by omega) (by omega) _ _ hP hD hS ls (lv_sub hl [0, 2, 1, 3] rfl)
        exact lp_23 (6 + w - 0 + 1) 0 (Nat.lt_succ_self _) (by omega) _ _ hP hD hS ls (lv_sub hl [0, 1, 2, 3] rfl)
  exact lp_17 ((C 0) + 1) (C 0) (C 37) (Nat.lt_succ_self _) (Nat.le_refl _) rfl ho _ _ hP hD hS ls (lv_sub hl [0, 1, 2] rfl)
set_option maxHeartbeats 4000000 in
set_option maxRecDepth 100000 in
theorem mt_X3_idleLines (l : Launch) (D : va_G) (ca : Nat → ClassId) (q : Nat → Nat) (th : Int32) (st : Int32) (ik : Int32) (ln : Int32) (ou : Int32) (pa : Int32) (iw : Int32) (so : Int32) (na : Int32) (nb : Int32) (fo : Int32) (nu : Int32) (al : Int32) (be : Nat → Int32) (ke : Nat → Int32) (te : Nat → Int32) (ti : Nat → Int32) (ne : Nat → Int32) (wa : Nat → Int32) (ta : Nat → Int64) (out : Nat → Int64) (pl : Nat → Int64) (lo : Nat → Int64) (sh : Nat → Int64) (le : Nat → Int64) (C : Nat → Nat) (h0 : C 0 ≤ 12) (hkd0 : ∀ k, k < 12 → C (1 + k) < 8) (hse : ∀ k, k < 12 → C (13 + k) < 6 + k ∧ C (25 + k) < 6 + k) (ho : C 37 < 2 ^ 18) (nn : Nat) : Met l yX3_idleLines (ws_ yX3_idleLines cX3_idleLines 1 (Option.some Jvm.ClassFile.FieldType.int)) ({ frames := 2, cells := 0, slots := 0, locals := 45 } : Room) (va_Pc [.ref (q 0)] (PreW Ev0 D vwCl (TY ca) (WM ca q th st ik ln ou pa iw so na nb fo nu al (zOf C) be ke te ti ne wa ta out pl lo sh le) nn)) (va_Qi (fun (r_ : Int32) (_ : Unit) => r_ = nI (adN (1 <<< (6 + C 0) - 1) (bo C (C 0) (C 37)))) (PostW D vwCl (TY ca) (fun (_ : Unit) => (WM ca q (nI 0) st ik ln ou pa iw so na nb fo nu al (zOf C) be ke te ti ne wa ta out pl lo sh le)) (va_A (WM ca q th st ik ln ou pa iw so na nb fo nu al (zOf C) be ke te ti ne wa ta out pl lo sh le) nn)) (va_A (WM ca q th st ik ln ou pa iw so na nb fo nu al (zOf C) be ke te ti ne wa ta out pl lo sh le) nn)) 0 0 (va_A (WM ca q th st ik ln ou pa iw so na nb fo nu al (zOf C) be ke te ti ne wa ta out pl lo sh le) nn) := by
  refine met_go (QA := fun A => va_Qi (fun (r_ : Int32) (_ : Unit) => r_ = nI (adN (1 <<< (6 + C 0) - 1) (bo C (C 0) (C 37)))) (PostW D vwCl (TY ca) (fun (_ : Unit) => (WM ca q (nI 0) st ik ln ou pa iw so na nb fo nu al (zOf C) be ke te ti ne wa ta out pl lo sh le)) A) A) (by decide) (Nat.le_of_ble_eq_true rfl) (fun p e s m below meth c A ls QQ hQQ hx hb hr hts hown hlocks hml hA hP hK hD hE hl => ?_)
  have hown : s.vm.findClass RX3 = some m.cls := hown
  have hS : va_S A s.heap s.heap [] := va_S.rf
  have hl : lv_has ls 1 [(0, .ref (q 0))] := hl
  generalize hHe : s.heap = H at hP ⊢
  have hS : va_S A s.heap H [] := hHe ▸ hS
  generalize ([] : List Loc) = locs at hS ⊢
  refine lv_aload_n hx hb dX3_idleLines_0 rfl (lv_at hl 0 rfl) ?_
  refine lv_iconst (v := nI 0) hx hb dX3_idleLines_1 (by decide) ?_
  refine pWM_0_thrown_X3 hx hb hts hown hK hP hD hS dX3_idleLines_2 (fun H locs hP hD hS => ?_)
  refine lv_iconst (v := nI 1) hx hb dX3_idleLines_5 (by decide) ?_
  refine lv_aload_n hx hb dX3_idleLines_6 rfl (lv_at hl 0 rfl) ?_
  refine xc_i (xr_V (b := q 0) (ci := 2) (q0 := 0) (As := []) (rest := [.int (nI 1)]) (mt_X3_lines l D ca q (nI 0) st ik ln ou pa iw so na nb fo nu al be ke te ti ne wa ta out pl lo sh le C  H.size) ⟨hx, hb, hml, hown, hts⟩ (cwV 0 hts (lw_V q1696 q1698 qs45 q87 q1699) rfl rfl rfl (by decide +kernel) ⟨Nat.le_of_ble_eq_true rfl, Nat.le_of_ble_eq_true rfl⟩) Ev0_ok hE hK hS (Cut.all hP hD hS hA) rfl rfl rfl hl.1 rfl (Nat.le_of_ble_eq_true rfl) dX3_idleLines_7 ⟨Nat.le_of_ble_eq_true rfl, Nat.le_of_ble_eq_true rfl⟩) hS (Cut.all hP hD hS hA) (fun r_1 u_2 H locs hq_7 hP hD hS => ?_)
  have hP : va_P D vwCl (WM ca q (nI 0) st ik ln ou pa iw so na nb fo nu al (zOf C) be ke te ti ne wa ta out pl lo sh le) H := hP
  have hD : va_D A (WM ca q (nI 0) st ik ln ou pa iw so na nb fo nu al (zOf C) be ke te ti ne wa ta out pl lo sh le) := hD
  have hp_7 : r_1 = nI (6 + C 0) := hq_7
  clear hq_7
  obtain rfl := hp_7
  refine nv_ishl hx hb dX3_idleLines_10 (by omega) (by have : 2 ^ (6 + C 0) ≤ 2 ^ 18 := Nat.pow_le_pow_right (by decide) (by omega); omega) ?_
  refine lv_iconst (v := nI 1) hx hb dX3_idleLines_11 (by decide) ?_
  refine nv_isub hx hb dX3_idleLines_12 (by rw [Nat.one_shiftLeft]; exact Nat.one_le_two_pow) ?_
  refine lv_aload_n hx hb dX3_idleLines_13 rfl (lv_at hl 0 rfl) ?_
  refine xc_i (xr_V (b := q 0) (ci := 2) (q0 := 0) (As := []) (rest := [.int (nI ((1 <<< (6 + C 0)) - 1))]) (mt_X3_busy l D ca q (nI 0) st ik ln ou pa iw so na nb fo nu al be ke te ti ne wa ta out pl lo sh le C (by first | assumption | omega | (simp only [updN, forgetC, changedC]; (repeat' split) <;> omega)) (by first | assumption | omega | (simp only [updN, forgetC, changedC]; (repeat' split) <;> omega)) (by first | assumption | omega | (simp only [updN, forgetC, changedC]; (repeat' split) <;> omega)) (by first | assumption | omega | (simp only [updN, forgetC, changedC]; (repeat' split) <;> omega)) H.size) ⟨hx, hb, hml, hown, hts⟩ (cwV 0 hts (lw_V q1955 q1957 qs77 q87 q1958) rfl rfl rfl (by decide +kernel) ⟨Nat.le_of_ble_eq_true rfl, Nat.le_of_ble_eq_true rfl⟩) Ev0_ok hE hK hS (Cut.all hP hD hS hA) rfl rfl rfl hl.1 rfl (Nat.le_of_ble_eq_true rfl) dX3_idleLines_14 ⟨Nat.le_of_ble_eq_true rfl, Nat.le_of_ble_eq_true rfl⟩) hS (Cut.all hP hD hS hA) (fun r_3 u_4 H locs hq_14 hP hD hS => ?_)
  have hP : va_P D vwCl (WM ca q (nI 0) st ik ln ou pa iw so na nb fo nu al (zOf C) be ke te ti ne wa ta out pl lo sh le) H := hP
  have hD : va_D A (WM ca q (nI 0) st ik ln ou pa iw so na nb fo nu al (zOf C) be ke te ti ne wa ta out pl lo sh le) := hD
  have hp_14 : r_3 = nI (bo C (C 0) (C 37)) := hq_14
  clear hq_14
  obtain rfl := hp_14
  refine lv_iconst (v := fI 0) hx hb dX3_idleLines_17 (by decide) ?_
  refine lv_ixor hx hb dX3_idleLines_18 ?_
  refine lv_iand hx hb dX3_idleLines_19 ?_
  refine lv_topi (nm_r (e' := nI (adN (1 <<< (6 + C 0) - 1) (bo C (C 0) (C 37)))) (nI_adn) ?_)
  subst hQQ
  exact xe_i (v := nI (adN (1 <<< (6 + C 0) - 1) (bo C (C 0) (C 37)))) () hx hb hr hlocks hK hP hD hS (rfl) dX3_idleLines_20
set_option maxHeartbeats 4000000 in
set_option maxRecDepth 100000 in
theorem mt_X3_inputsOf_wires (l : Launch) (D : va_G) (ca : Nat → ClassId) (q : Nat → Nat) (th : Int32) (st : Int32) (ik : Int32) (ln : Int32) (ou : Int32) (pa : Int32) (iw : Int32) (so : Int32) (na : Int32) (nb : Int32) (fo : Int32) (nu : Int32) (al : Int32) (be : Nat → Int32) (ke : Nat → Int32) (te : Nat → Int32) (ti : Nat → Int32) (ne : Nat → Int32) (wa : Nat → Int32) (ta : Nat → Int64) (out : Nat → Int64) (pl : Nat → Int64) (lo : Nat → Int64) (sh : Nat → Int64) (le : Nat → Int64) (C : Nat → Nat) (l_ : Nat) (h0 : C 0 ≤ 12) (hkd0 : ∀ k, k < 12 → C (1 + k) < 8) (hse : ∀ k, k < 12 → C (13 + k) < 6 + k ∧ C (25 + k) < 6 + k) (ho : C 37 < 2 ^ 18) (hl0 : l_ < 6 + C 0) (nn : Nat) : Met l yX3_inputsOf (ws_ yX3_inputsOf cX3_inputsOf 6 (Option.some Jvm.ClassFile.FieldType.int)) ({ frames := 2, cells := 0, slots := 0, locals := 43 } : Room) (va_Pc [.ref (q 0), .int (nI l_), .int (nI 0)] (PreW Ev0 D vwCl (TY ca) (WM ca q th st ik ln ou pa iw so na nb fo nu al (zOf C) be ke te ti ne wa ta out pl lo sh le) nn)) (va_Qi (fun (r_ : Int32) (_ : Unit) => r_ = nI (bo C (C 0) (1 <<< l_) &&& 63)) (PostW D vwCl (TY ca) (fun (_ : Unit) => (WM ca q (nI 0) st ik ln ou pa iw so na nb fo nu al (zOf C) be ke te ti ne wa ta out pl lo sh le)) (va_A (WM ca q th st ik ln ou pa iw so na nb fo nu al (zOf C) be ke te ti ne wa ta out pl lo sh le) nn)) (va_A (WM ca q th st ik ln ou pa iw so na nb fo nu al (zOf C) be ke te ti ne wa ta out pl lo sh le) nn)) 0 0 (va_A (WM ca q th st ik ln ou pa iw so na nb fo nu al (zOf C) be ke te ti ne wa ta out pl lo sh le) nn) := by
  refine met_go (QA := fun A => va_Qi (fun (r_ : Int32) (_ : Unit) => r_ = nI (bo C (C 0) (1 <<< l_) &&& 63)) (PostW D vwCl (TY ca) (fun (_ : Unit) => (WM ca q (nI 0) st ik ln ou pa iw so na nb fo nu al (zOf C) be ke te ti ne wa ta out pl lo sh le)) A) A) (by decide) (Nat.le_of_ble_eq_true rfl) (fun p e s m below meth c A ls QQ hQQ hx hb hr hts hown hlocks hml hA hP hK hD hE hl => ?_)
  have hown : s.vm.findClass RX3 = some m.cls := hown
  have hS : va_S A s.heap s.heap [] := va_S.rf
  have hl : lv_has ls 6 [(0, .ref (q 0)), (1, .int (nI l_)), (2, .int (nI 0))] := hl
  generalize hHe : s.heap = H at hP ⊢
  have hS : va_S A s.heap H [] := hHe ▸ hS
  generalize ([] : List Loc) = locs at hS ⊢
  refine lv_aload_n hx hb dX3_inputsOf_0 rfl (lv_at hl 0 rfl) ?_
  refine lv_aload_n hx hb dX3_inputsOf_1 rfl (lv_at hl 0 rfl) ?_
  refine lv_iload_n hx hb dX3_inputsOf_2 rfl (lv_at hl 1 rfl) ?_
  refine xc_i (xr_V (b := q 0) (ci := 2) (q0 := 0) (As := [.int (nI l_)]) (rest := [.ref (q 0)]) (mt_X3_isLine l D ca q th st ik ln ou pa iw so na nb fo nu al be ke te ti ne wa ta out pl lo sh le C (nI l_) (by first | assumption | omega | (simp only [updN, forgetC, changedC]; (repeat' split) <;> omega)) H.size) ⟨hx, hb, hml, hown, hts⟩ (cwV 1 hts (lw_V q1692 q1694 qs44 q87 q1695) rfl rfl rfl (by decide +kernel) ⟨Nat.le_of_ble_eq_true rfl, Nat.le_of_ble_eq_true rfl⟩) Ev0_ok hE hK hS (Cut.all hP hD hS hA) rfl rfl rfl hl.1 rfl (Nat.le_of_ble_eq_true rfl) dX3_inputsOf_3 ⟨Nat.le_of_ble_eq_true rfl, Nat.le_of_ble_eq_true rfl⟩) hS (Cut.all hP hD hS hA) (fun r_1 u_2 H locs hq_3 hP hD hS => ?_)
  have hP : va_P D vwCl (WM ca q th st ik ln ou pa iw so na nb fo nu al (zOf C) be ke te ti ne wa ta out pl lo sh le) H := hP
  have hD : va_D A (WM ca q th st ik ln ou pa iw so na nb fo nu al (zOf C) be ke te ti ne wa ta out pl lo sh le) := hD
  have hp_3 : r_1 = bI (inR (6 + C 0) (nI l_)) := hq_3
  clear hq_3
  obtain rfl := hp_3
  refine nv_ifb_eq (tgt := 13) hx hb dX3_inputsOf_6 (by decide) (fun c_6 => (absurd c_6 (by rw [inR_ok (by omega) (by omega)]; decide))) (fun c_6 => ?_)
  refine lv_iconst (v := nI 0) hx hb dX3_inputsOf_9 (by decide) ?_
  refine lv_goto (tgt := 14) hx hb dX3_inputsOf_10 (by decide) ?_
  refine pWM_0_thrown_X3 hx hb hts hown hK hP hD hS dX3_inputsOf_14 (fun H locs hP hD hS => ?_)
  refine lv_aload_n hx hb dX3_inputsOf_17 rfl (lv_at hl 0 rfl) ?_
  refine gWM_0_thrown_X3 hx hb hts hown hK hP dX3_inputsOf_18 ?_
  refine nv_if_le (tgt := 26) hx hb dX3_inputsOf_21 (by decide) (by omega) (fun c_21 => ?_) (fun c_21 => absurd c_21 (by decide))
  refine lv_iconst (v := nI 0) hx hb dX3_inputsOf_26 (by decide) ?_
  refine lv_istore_n (lv' := [(3, .int (nI 0)), (0, .ref (q 0)), (1, .int (nI l_)), (2, .int (nI 0))]) hx hb dX3_inputsOf_27 rfl hl (by decide) rfl (fun ls hl => ?_)
  refine lv_iload_n hx hb dX3_inputsOf_28 rfl (lv_at hl 3 rfl) ?_
  refine nv_if_eq (tgt := 114) hx hb dX3_inputsOf_29 (by decide) (by omega) (fun c_29 => ?_) (fun c_29 => absurd c_29 (by decide))
  refine lv_iconst (v := nI 1) hx hb dX3_inputsOf_114 (by decide) ?_
  refine lv_iload_n hx hb dX3_inputsOf_115 rfl (lv_at hl 2 rfl) ?_
  refine nv_ishl hx hb dX3_inputsOf_116 (by omega) (by have : 2 ^ l_ ≤ 2 ^ 18 := Nat.pow_le_pow_right (by decide) (by omega); omega) ?_
  refine lv_istore_n (lv' := [(3, .int (nI (1 <<< l_))), (0, .ref (q 0)), (1, .int (nI l_)), (2, .int (nI 0))]) hx hb dX3_inputsOf_117 rfl hl (by decide) rfl (fun ls hl => ?_)
  refine lv_aload_n hx hb dX3_inputsOf_118 rfl (lv_at hl 1 rfl) ?_
  refine gWM_0_z_X3 hx hb hts hown hK hP dX3_inputsOf_119 ?_
  refine lv_iconst (v := nI 0) hx hb dX3_inputsOf_122 (by decide) ?_
  refine ldWM_1 hx hb hK hP (by omega) dX3_inputsOf_123 ?_
  refine lv_topi (nm_r (e' := nI (C 0)) (rfl) ?_)
  refine lv_iconst (v := nI 1) hx hb dX3_inputsOf_124 (by decide) ?_
  refine lv_isub hx hb dX3_inputsOf_125 ?_
  refine lv_topi (nm_r (e' := fI (C 0)) (rfl) ?_)
  refine lv_istore (lv' := [(4, .int (fI (C 0))), (3, .int (nI (1 <<< l_))), (0, .ref (q 0)), (1, .int (nI l_)), (2, .int (nI 0))]) hx hb dX3_inputsOf_126 hl (by decide) rfl (fun ls hl => ?_)
  have lp_128 : ∀ (fu_128 : Nat) (n : Nat) (s_ : Nat), n < fu_128 → (n ≤ C 0) → (bo C n s_ = bo C (C 0) (1 <<< l_)) → (s_ < 2 ^ 18) → ∀ (H : Heap) (locs : List Loc), va_P D vwCl (WM ca q (nI 0) st ik ln ou pa iw so na nb fo nu al (zOf C) be ke te ti ne wa ta out pl lo sh le) H → va_D A (WM ca q (nI 0) st ik ln ou pa iw so na nb fo nu al (zOf C) be ke te ti ne wa ta out pl lo sh le) → va_S A s.heap H locs → ∀ (ls : Array Slot), lv_has ls 6 [(4, .int (fI n)), (3, .int (nI s_)), (0, .ref (q 0)), (1, .int (nI l_)), (2, .int (nI 0))] → W p l e ({ frames := 2, cells := 0, slots := 0, locals := 43 } : Room) s m ([.ref (q 0), .int (nI l_), .int (nI 0)] : List Value).toArray below meth c H locs 0 0 QQ (F0 m 128 ls []) := by
    intro fu_128
    induction fu_128 with
    | zero => intro n s_ hfu; exact absurd hfu (Nat.not_lt_zero _)
    | succ fu_128 ih_128 =>
      intro n s_ hfu hn hR hsb H locs hP hD hS ls hl
      refine lv_iload hx hb dX3_inputsOf_128 (lv_at hl 0 rfl) ?_
      refine nv_if_ltf (tgt := 192) hx hb dX3_inputsOf_130 (by decide) (by omega) (fun c_130 => ?_) (fun c_130 => ?_)
      · skip
        have hR : s_ = bo C (C 0) (1 <<< l_) := by rw [← hR, c_130]; rfl
        refine lv_iload_n hx hb dX3_inputsOf_192 rfl (lv_at hl 1 rfl) ?_
        refine lv_bipush (v := nI 63) hx hb dX3_inputsOf_193 (by decide) ?_
        refine nv_iand hx hb dX3_inputsOf_195 ?_
        subst hQQ
        exact xe_i (v := nI (s_ &&& 63)) () hx hb hr hlocks hK hP hD hS (congrArg nI (by rw [hR])) dX3_inputsOf_196
      · skip
        obtain ⟨w, rfl⟩ := Nat.exists_eq_succ_of_ne_zero c_130
        have hl : lv_has ls 6 [(4, .int (nI w)), (3, .int (nI s_)), (0, .ref (q 0)), (1, .int (nI l_)), (2, .int (nI 0))] := (congrArg (fun x_ => lv_has ls 6 [(4, .int x_), (3, .int (nI s_)), (0, .ref (q 0)), (1, .int (nI l_)), (2, .int (nI 0))]) (show fI (w + 1) = nI w from (fI_S w).symm)).mp hl
        refine lv_iconst (v := nI 0) hx hb dX3_inputsOf_133 (by decide) ?_
        refine lv_istore (lv' := [(5, .int (nI 0)), (4, .int (nI w)), (3, .int (nI s_)), (0, .ref (q 0)), (1, .int (nI l_)), (2, .int (nI 0))]) hx hb dX3_inputsOf_134 hl (by decide) rfl (fun ls hl => ?_)
        have lp_136 : ∀ (fu_136 : Nat) (j : Nat), 6 + w - j < fu_136 → (j ≤ 6 + w) → ∀ (H : Heap) (locs : List Loc), va_P D vwCl (WM ca q (nI 0) st ik ln ou pa iw so na nb fo nu al (zOf C) be ke te ti ne wa ta out pl lo sh le) H → va_D A (WM ca q (nI 0) st ik ln ou pa iw so na nb fo nu al (zOf C) be ke te ti ne wa ta out pl lo sh le) → va_S A s.heap H locs → ∀ (ls : Array Slot), lv_has ls 6 [(5, .int (nI j)), (4, .int (nI w)), (3, .int (nI (bi C w j s_))), (0, .ref (q 0)), (1, .int (nI l_)), (2, .int (nI 0))] → W p l e ({ frames := 2, cells := 0, slots := 0, locals := 43 } : Room) s m ([.ref (q 0), .int (nI l_), .int (nI 0)] : List Value).toArray below meth c H locs 0 0 QQ (F0 m 136 ls []) := by
          intro fu_136
          induction fu_136 with
          | zero => intro j hfu; exact absurd hfu (Nat.not_lt_zero _)
          | succ fu_136 ih_136 =>
            intro j hfu hj H locs hP hD hS ls hl
            refine lv_iload hx hb dX3_inputsOf_136 (lv_at hl 0 rfl) ?_
            refine lv_bipush (v := nI 6) hx hb dX3_inputsOf_138 (by decide) ?_
            refine lv_iload hx hb dX3_inputsOf_140 (lv_at hl 1 rfl) ?_
            refine nv_iadd hx hb dX3_inputsOf_142 ?_
            refine nv_icmp_ge (tgt := 186) hx hb dX3_inputsOf_143 (by decide) (by omega) (by omega) (fun c_143 => ?_) (fun c_143 => ?_)
            · skip
              have e_ : 6 + w = j := Eq.symm (by omega)
              subst e_
              have hl : lv_has ls 6 [(5, .int (nI (6 + w))), (4, .int (nI w)), (3, .int (nI (stp C w s_))), (0, .ref (q 0)), (1, .int (nI l_)), (2, .int (nI 0))] := (congrArg (fun x_ => lv_has ls 6 [(5, .int (nI (6 + w))), (4, .int (nI w)), (3, .int x_), (0, .ref (q 0)), (1, .int (nI l_)), (2, .int (nI 0))]) (show nI (bi C w (6 + w) s_) = nI (stp C w s_) from congrArg nI (bi_st (by have := hse w (by omega); omega) (by have := hse w (by omega); omega)))).mp hl
              refine lv_iinc (v := fI w) (lv' := [(4, .int (fI w)), (5, .int (nI (6 + w))), (3, .int (nI (stp C w s_))), (0, .ref (q 0)), (1, .int (nI l_)), (2, .int (nI 0))]) hx hb dX3_inputsOf_186 hl (k := 1) rfl (fI_dec w) (by decide) rfl (fun ls hl => ?_)
              refine lv_goto (tgt := 128) hx hb dX3_inputsOf_189 (by decide) ?_
              exact ih_128  w (stp C w s_) (by omega) (by omega) hR (stp_lt (by have := hse w (by omega); omega) (by have := hse w (by omega); omega) hsb) _ _ hP hD hS ls (lv_sub hl [0, 2, 3, 4, 5] rfl)
            · skip
              refine lv_iload_n hx hb dX3_inputsOf_146 rfl (lv_at hl 2 rfl) ?_
              refine lv_iload_n hx hb dX3_inputsOf_147 rfl (lv_at hl 2 rfl) ?_
              refine lv_bipush (v := nI 6) hx hb dX3_inputsOf_148 (by decide) ?_
              refine lv_iload hx hb dX3_inputsOf_150 (lv_at hl 1 rfl) ?_
              refine nv_iadd hx hb dX3_inputsOf_152 ?_
              refine xc_i (xr_S (As := [.int (nI (bi C w j s_)), .int (nI (6 + w))]) (rest := [.int (nI (bi C w j s_))]) (mt_X3_has l D ca (bi C w j s_) (6 + w) (by omega) (Nat.lt_trans (bi_lt (by omega) hsb) (by decide)) H.size) ⟨hx, hb, hml, hown, hts⟩ (va_cwS 2 hts (lw_S q1731 q1732 q87 q1733) rfl rfl rfl (by decide +kernel) ⟨Nat.le_of_ble_eq_true rfl, Nat.le_of_ble_eq_true rfl⟩) Ev0_ok hE hK hS (Cut.app (wc := []) (wr := (WM ca q (nI 0) st ik ln ou pa iw so na nb fo nu al (zOf C) be ke te ti ne wa ta out pl lo sh le)) hP hD hS hA) rfl hl.1 rfl (Nat.le_of_ble_eq_true rfl) dX3_inputsOf_153 ⟨Nat.le_of_ble_eq_true rfl, Nat.le_of_ble_eq_true rfl⟩) hS (Cut.app (wc := []) (wr := (WM ca q (nI 0) st ik ln ou pa iw so na nb fo nu al (zOf C) be ke te ti ne wa ta out pl lo sh le)) hP hD hS hA) (fun r_5 u_6 H locs hq_153 hP hD hS => ?_)
              have hP : va_P D vwCl (WM ca q (nI 0) st ik ln ou pa iw so na nb fo nu al (zOf C) be ke te ti ne wa ta out pl lo sh le) H := hP
              have hD : va_D A (WM ca q (nI 0) st ik ln ou pa iw so na nb fo nu al (zOf C) be ke te ti ne wa ta out pl lo sh le) := hD
              have hp_153 : r_5 = bI ((bi C w j s_).testBit (6 + w)) := hq_153
              clear hq_153
              obtain rfl := hp_153
              refine nv_ifb_eq (tgt := 177) hx hb dX3_inputsOf_156 (by decide) (fun c_156 => ?_) (fun c_156 => ?_)
              · skip
                refine lv_iconst (v := nI 0) hx hb dX3_inputsOf_177 (by decide) ?_
                refine nv_ior hx hb dX3_inputsOf_178 ?_
                refine lv_topi (nm_r (e' := nI (bi C w (j + 1) s_)) (congrArg nI (by simp only [bi]; rw [if_neg (by simp [*])])) ?_)
                refine lv_istore_n (lv' := [(3, .int (nI (bi C w (j + 1) s_))), (5, .int (nI j)), (4, .int (nI w)), (0, .ref (q 0)), (1, .int (nI l_)), (2, .int (nI 0))]) hx hb dX3_inputsOf_179 rfl hl (by decide) rfl (fun ls hl => ?_)
                refine lv_iinc (v := nI (j + 1)) (lv' := [(5, .int (nI (j + 1))), (3, .int (nI (bi C w (j + 1) s_))), (4, .int (nI w)), (0, .ref (q 0)), (1, .int (nI l_)), (2, .int (nI 0))]) hx hb dX3_inputsOf_180 hl (k := 1) rfl (nI_add j 1) (by decide) rfl (fun ls hl => ?_)
                refine lv_goto (tgt := 136) hx hb dX3_inputsOf_183 (by decide) ?_
                exact ih_136  (j + 1) (by omega) (by omega) _ _ hP hD hS ls (lv_sub hl [0, 2, 1, 3, 4, 5] rfl)
              · skip
                refine lv_aload_n hx hb dX3_inputsOf_159 rfl (lv_at hl 3 rfl) ?_
                refine lv_iload hx hb dX3_inputsOf_160 (lv_at hl 1 rfl) ?_
                refine lv_iload hx hb dX3_inputsOf_162 (lv_at hl 0 rfl) ?_
                refine xc_i (xr_V (b := q 0) (ci := 2) (q0 := 0) (As := [.int (nI w), .int (nI j)]) (rest := [.int (nI (bi C w j s_))]) (mt_X3_reads l D ca q (nI 0) st ik ln ou pa iw so na nb fo nu al be ke te ti ne wa ta out pl lo sh le C w j (by omega) (by omega) hkd0 hse H.size) ⟨hx, hb, hml, hown, hts⟩ (cwV 2 hts (lw_V q1942 q1944 qs76 q87 q1945) rfl rfl rfl (by decide +kernel) ⟨Nat.le_of_ble_eq_true rfl, Nat.le_of_ble_eq_true rfl⟩) Ev0_ok hE hK hS (Cut.all hP hD hS hA) rfl rfl rfl hl.1 rfl (Nat.le_of_ble_eq_true rfl) dX3_inputsOf_164 ⟨Nat.le_of_ble_eq_true rfl, Nat.le_of_ble_eq_true rfl⟩) hS (Cut.all hP hD hS hA) (fun r_8 u_9 H locs hq_164 hP hD hS => ?_)
                have hP : va_P D vwCl (WM ca q (nI 0) st ik ln ou pa iw so na nb fo nu al (zOf C) be ke te ti ne wa ta out pl lo sh le) H := hP
                have hD : va_D A (WM ca q (nI 0) st ik ln ou pa iw so na nb fo nu al (zOf C) be ke te ti ne wa ta out pl lo sh le) := hD
                have hp_164 : r_8 = bI (rdB C w j) := hq_164
                clear hq_164
                obtain rfl := hp_164
                refine nv_ifb_eq (tgt := 177) hx hb dX3_inputsOf_167 (by decide) (fun c_167 => ?_) (fun c_167 => ?_)
                · skip
                  refine lv_iconst (v := nI 0) hx hb dX3_inputsOf_177 (by decide) ?_
                  refine nv_ior hx hb dX3_inputsOf_178 ?_
                  refine lv_topi (nm_r (e' := nI (bi C w (j + 1) s_)) (congrArg nI (by simp only [bi]; rw [if_neg (by simp [*])])) ?_)
                  refine lv_istore_n (lv' := [(3, .int (nI (bi C w (j + 1) s_))), (5, .int (nI j)), (4, .int (nI w)), (0, .ref (q 0)), (1, .int (nI l_)), (2, .int (nI 0))]) hx hb dX3_inputsOf_179 rfl hl (by decide) rfl (fun ls hl => ?_)
                  refine lv_iinc (v := nI (j + 1)) (lv' := [(5, .int (nI (j + 1))), (3, .int (nI (bi C w (j + 1) s_))), (4, .int (nI w)), (0, .ref (q 0)), (1, .int (nI l_)), (2, .int (nI 0))]) hx hb dX3_inputsOf_180 hl (k := 1) rfl (nI_add j 1) (by decide) rfl (fun ls hl => ?_)
                  refine lv_goto (tgt := 136) hx hb dX3_inputsOf_183 (by decide) ?_
                  exact ih_136  (j + 1) (by omega) (by omega) _ _ hP hD hS ls (lv_sub hl [0, 2, 1, 3, 4, 5] rfl)
                · skip
                  refine lv_iconst (v := nI 1) hx hb dX3_inputsOf_170 (by decide) ?_
                  refine lv_iload hx hb dX3_inputsOf_171 (lv_at hl 0 rfl) ?_
                  refine nv_ishl hx hb dX3_inputsOf_173 (by omega) (sh1_ok (by omega)) ?_
                  refine lv_goto (tgt := 178) hx hb dX3_inputsOf_174 (by decide) ?_
                  refine nv_ior hx hb dX3_inputsOf_178 ?_
                  refine lv_topi (nm_r (e' := nI (bi C w (j + 1) s_)) (congrArg nI (by simp only [bi]; rw [if_pos (by simp [c_156, c_167])])) ?_)
                  refine lv_istore_n (lv' := [(3, .int (nI (bi C w (j + 1) s_))), (5, .int (nI j)), (4, .int (nI w)), (0, .ref (q 0)), (1, .int (nI l_)), (2, .int (nI 0))]) hx hb dX3_inputsOf_179 rfl hl (by decide) rfl (fun ls hl => ?_)
                  refine lv_iinc (v := nI (j + 1)) (lv' := [(5, .int (nI (j + 1))), (3, .int (nI (bi C w (j + 1) s_))), (4, .int (nI w)), (0, .ref (q 0)), (1, .int (nI l_)), (2, .int (nI 0))]) hx hb dX3_inputsOf_180 hl (k := 1) rfl (nI_add j 1) (by decide) rfl (fun ls hl => ?_)
                  refine lv_goto (tgt := 136) hx hb dX3_inputsOf_183 (by decide) ?_
                  exact ih_136  (j + 1) (by omega) (by omega) _ _ hP hD hS ls (lv_sub hl [0, 2, 1, 3, 4, 5] rfl)
        exact lp_136 (6 + w - 0 + 1) 0 (Nat.lt_succ_self _) (by omega) _ _ hP hD hS ls (lv_sub hl [0, 1, 2, 3, 4, 5] rfl)
  exact lp_128 ((C 0) + 1) (C 0) (1 <<< l_) (Nat.lt_succ_self _) (Nat.le_refl _) rfl (sh_lt (by omega)) _ _ hP hD hS ls (lv_sub hl [0, 1, 2, 3, 4] rfl)
set_option maxHeartbeats 4000000 in
set_option maxRecDepth 100000 in
theorem mt_X3_inputsOf_no (l : Launch) (D : va_G) (ca : Nat → ClassId) (q : Nat → Nat) (th : Int32) (st : Int32) (ik : Int32) (ln : Int32) (ou : Int32) (pa : Int32) (iw : Int32) (so : Int32) (na : Int32) (nb : Int32) (fo : Int32) (nu : Int32) (al : Int32) (be : Nat → Int32) (ke : Nat → Int32) (te : Nat → Int32) (ti : Nat → Int32) (ne : Nat → Int32) (wa : Nat → Int32) (ta : Nat → Int64) (out : Nat → Int64) (pl : Nat → Int64) (lo : Nat → Int64) (sh : Nat → Int64) (le : Nat → Int64) (C : Nat → Nat) (l_ : Int32) (b_ : Bool) (h0 : C 0 ≤ 12) (hc : inR (6 + C 0) l_ = false) (nn : Nat) : Met l yX3_inputsOf (ws_ yX3_inputsOf cX3_inputsOf 6 (Option.some Jvm.ClassFile.FieldType.int)) ({ frames := 2, cells := 0, slots := 0, locals := 43 } : Room) (va_Pc [.ref (q 0), .int l_, .int (bI b_)] (PreW Ev0 D vwCl (TY ca) (WM ca q th st ik ln ou pa iw so na nb fo nu al (zOf C) be ke te ti ne wa ta out pl lo sh le) nn)) (va_Qi (fun (r_ : Int32) (_ : Unit) => r_ = nI 0) (PostW D vwCl (TY ca) (fun (_ : Unit) => (WM ca q (nI 1) st ik ln ou pa iw so na nb fo nu al (zOf C) be ke te ti ne wa ta out pl lo sh le)) (va_A (WM ca q th st ik ln ou pa iw so na nb fo nu al (zOf C) be ke te ti ne wa ta out pl lo sh le) nn)) (va_A (WM ca q th st ik ln ou pa iw so na nb fo nu al (zOf C) be ke te ti ne wa ta out pl lo sh le) nn)) 0 0 (va_A (WM ca q th st ik ln ou pa iw so na nb fo nu al (zOf C) be ke te ti ne wa ta out pl lo sh le) nn) := by
  refine met_go (QA := fun A => va_Qi (fun (r_ : Int32) (_ : Unit) => r_ = nI 0) (PostW D vwCl (TY ca) (fun (_ : Unit) => (WM ca q (nI 1) st ik ln ou pa iw so na nb fo nu al (zOf C) be ke te ti ne wa ta out pl lo sh le)) A) A) (by decide) (Nat.le_of_ble_eq_true rfl) (fun p e s m below meth c A ls QQ hQQ hx hb hr hts hown hlocks hml hA hP hK hD hE hl => ?_)
  have hown : s.vm.findClass RX3 = some m.cls := hown
  have hS : va_S A s.heap s.heap [] := va_S.rf
  have hl : lv_has ls 6 [(0, .ref (q 0)), (1, .int l_), (2, .int (bI b_))] := hl
  generalize hHe : s.heap = H at hP ⊢
  have hS : va_S A s.heap H [] := hHe ▸ hS
  generalize ([] : List Loc) = locs at hS ⊢
  refine lv_aload_n hx hb dX3_inputsOf_0 rfl (lv_at hl 0 rfl) ?_
  refine lv_aload_n hx hb dX3_inputsOf_1 rfl (lv_at hl 0 rfl) ?_
  refine lv_iload_n hx hb dX3_inputsOf_2 rfl (lv_at hl 1 rfl) ?_
  refine xc_i (xr_V (b := q 0) (ci := 2) (q0 := 0) (As := [.int l_]) (rest := [.ref (q 0)]) (mt_X3_isLine l D ca q th st ik ln ou pa iw so na nb fo nu al be ke te ti ne wa ta out pl lo sh le C l_ (by first | assumption | omega | (simp only [updN, forgetC, changedC]; (repeat' split) <;> omega)) H.size) ⟨hx, hb, hml, hown, hts⟩ (cwV 1 hts (lw_V q1692 q1694 qs44 q87 q1695) rfl rfl rfl (by decide +kernel) ⟨Nat.le_of_ble_eq_true rfl, Nat.le_of_ble_eq_true rfl⟩) Ev0_ok hE hK hS (Cut.all hP hD hS hA) rfl rfl rfl hl.1 rfl (Nat.le_of_ble_eq_true rfl) dX3_inputsOf_3 ⟨Nat.le_of_ble_eq_true rfl, Nat.le_of_ble_eq_true rfl⟩) hS (Cut.all hP hD hS hA) (fun r_1 u_2 H locs hq_3 hP hD hS => ?_)
  have hP : va_P D vwCl (WM ca q th st ik ln ou pa iw so na nb fo nu al (zOf C) be ke te ti ne wa ta out pl lo sh le) H := hP
  have hD : va_D A (WM ca q th st ik ln ou pa iw so na nb fo nu al (zOf C) be ke te ti ne wa ta out pl lo sh le) := hD
  have hp_3 : r_1 = bI (inR (6 + C 0) l_) := hq_3
  clear hq_3
  obtain rfl := hp_3
  refine nv_ifb_eq (tgt := 13) hx hb dX3_inputsOf_6 (by decide) (fun c_6 => ?_) (fun c_6 => (absurd c_6 (by rw [hc]; decide)))
  refine lv_iconst (v := nI 1) hx hb dX3_inputsOf_13 (by decide) ?_
  refine pWM_0_thrown_X3 hx hb hts hown hK hP hD hS dX3_inputsOf_14 (fun H locs hP hD hS => ?_)
  refine lv_aload_n hx hb dX3_inputsOf_17 rfl (lv_at hl 0 rfl) ?_
  refine gWM_0_thrown_X3 hx hb hts hown hK hP dX3_inputsOf_18 ?_
  refine nv_if_le (tgt := 26) hx hb dX3_inputsOf_21 (by decide) (by omega) (fun c_21 => absurd c_21 (by decide)) (fun c_21 => ?_)
  refine lv_iconst (v := nI 0) hx hb dX3_inputsOf_24 (by decide) ?_
  subst hQQ
  exact xe_i (v := nI 0) () hx hb hr hlocks hK hP hD hS (rfl) dX3_inputsOf_25
set_option maxHeartbeats 4000000 in
set_option maxRecDepth 100000 in
theorem mt_X3_depthOf_no (l : Launch) (D : va_G) (ca : Nat → ClassId) (q : Nat → Nat) (th : Int32) (st : Int32) (ik : Int32) (ln : Int32) (ou : Int32) (pa : Int32) (iw : Int32) (so : Int32) (na : Int32) (nb : Int32) (fo : Int32) (nu : Int32) (al : Int32) (be : Nat → Int32) (ke : Nat → Int32) (te : Nat → Int32) (ti : Nat → Int32) (ne : Nat → Int32) (wa : Nat → Int32) (ta : Nat → Int64) (out : Nat → Int64) (pl : Nat → Int64) (lo : Nat → Int64) (sh : Nat → Int64) (le : Nat → Int64) (C : Nat → Nat) (l_ : Int32) (h0 : C 0 ≤ 12) (hc : inR (6 + C 0) l_ = false) (nn : Nat) : Met l yX3_depthOf (ws_ yX3_depthOf cX3_depthOf 8 (Option.some Jvm.ClassFile.FieldType.int)) ({ frames := 2, cells := 0, slots := 0, locals := 43 } : Room) (va_Pc [.ref (q 0), .int l_] (PreW Ev0 D vwCl (TY ca) (WM ca q th st ik ln ou pa iw so na nb fo nu al (zOf C) be ke te ti ne wa ta out pl lo sh le) nn)) (va_Qi (fun (r_ : Int32) (_ : Unit) => r_ = nI 0) (PostW D vwCl (TY ca) (fun (_ : Unit) => (WM ca q (nI 1) st ik ln ou pa iw so na nb fo nu al (zOf C) be ke te ti ne wa ta out pl lo sh le)) (va_A (WM ca q th st ik ln ou pa iw so na nb fo nu al (zOf C) be ke te ti ne wa ta out pl lo sh le) nn)) (va_A (WM ca q th st ik ln ou pa iw so na nb fo nu al (zOf C) be ke te ti ne wa ta out pl lo sh le) nn)) 0 0 (va_A (WM ca q th st ik ln ou pa iw so na nb fo nu al (zOf C) be ke te ti ne wa ta out pl lo sh le) nn) := by
  refine met_go (QA := fun A => va_Qi (fun (r_ : Int32) (_ : Unit) => r_ = nI 0) (PostW D vwCl (TY ca) (fun (_ : Unit) => (WM ca q (nI 1) st ik ln ou pa iw so na nb fo nu al (zOf C) be ke te ti ne wa ta out pl lo sh le)) A) A) (by decide) (Nat.le_of_ble_eq_true rfl) (fun p e s m below meth c A ls QQ hQQ hx hb hr hts hown hlocks hml hA hP hK hD hE hl => ?_)
  have hown : s.vm.findClass RX3 = some m.cls := hown
  have hS : va_S A s.heap s.heap [] := va_S.rf
  have hl : lv_has ls 8 [(0, .ref (q 0)), (1, .int l_)] := hl
  generalize hHe : s.heap = H at hP ⊢
  have hS : va_S A s.heap H [] := hHe ▸ hS
  generalize ([] : List Loc) = locs at hS ⊢
  refine lv_aload_n hx hb dX3_depthOf_0 rfl (lv_at hl 0 rfl) ?_
  refine lv_aload_n hx hb dX3_depthOf_1 rfl (lv_at hl 0 rfl) ?_
  refine lv_iload_n hx hb dX3_depthOf_2 rfl (lv_at hl 1 rfl) ?_
  refine xc_i (xr_V (b := q 0) (ci := 2) (q0 := 0) (As := [.int l_]) (rest := [.ref (q 0)]) (mt_X3_isLine l D ca q th st ik ln ou pa iw so na nb fo nu al be ke te ti ne wa ta out pl lo sh le C l_ (by first | assumption | omega | (simp only [updN, forgetC, changedC]; (repeat' split) <;> omega)) H.size) ⟨hx, hb, hml, hown, hts⟩ (cwV 1 hts (lw_V q1692 q1694 qs44 q87 q1695) rfl rfl rfl (by decide +kernel) ⟨Nat.le_of_ble_eq_true rfl, Nat.le_of_ble_eq_true rfl⟩) Ev0_ok hE hK hS (Cut.all hP hD hS hA) rfl rfl rfl hl.1 rfl (Nat.le_of_ble_eq_true rfl) dX3_depthOf_3 ⟨Nat.le_of_ble_eq_true rfl, Nat.le_of_ble_eq_true rfl⟩) hS (Cut.all hP hD hS hA) (fun r_1 u_2 H locs hq_3 hP hD hS => ?_)
  have hP : va_P D vwCl (WM ca q th st ik ln ou pa iw so na nb fo nu al (zOf C) be ke te ti ne wa ta out pl lo sh le) H := hP
  have hD : va_D A (WM ca q th st ik ln ou pa iw so na nb fo nu al (zOf C) be ke te ti ne wa ta out pl lo sh le) := hD
  have hp_3 : r_1 = bI (inR (6 + C 0) l_) := hq_3
  clear hq_3
  obtain rfl := hp_3
  refine nv_ifb_eq (tgt := 13) hx hb dX3_depthOf_6 (by decide) (fun c_6 => ?_) (fun c_6 => (absurd c_6 (by rw [hc]; decide)))
  refine lv_iconst (v := nI 1) hx hb dX3_depthOf_13 (by decide) ?_
  refine pWM_0_thrown_X3 hx hb hts hown hK hP hD hS dX3_depthOf_14 (fun H locs hP hD hS => ?_)
  refine lv_aload_n hx hb dX3_depthOf_17 rfl (lv_at hl 0 rfl) ?_
  refine gWM_0_thrown_X3 hx hb hts hown hK hP dX3_depthOf_18 ?_
  refine nv_if_le (tgt := 26) hx hb dX3_depthOf_21 (by decide) (by omega) (fun c_21 => absurd c_21 (by decide)) (fun c_21 => ?_)
  refine lv_iconst (v := nI 0) hx hb dX3_depthOf_24 (by decide) ?_
  subst hQQ
  exact xe_i (v := nI 0) () hx hb hr hlocks hK hP hD hS (rfl) dX3_depthOf_25
set_option maxHeartbeats 4000000 in
set_option maxRecDepth 100000 in
theorem mt_X3_depthOf_ok (l : Launch) (D : va_G) (ca : Nat → ClassId) (q : Nat → Nat) (th : Int32) (st : Int32) (ik : Int32) (ln : Int32) (ou : Int32) (pa : Int32) (iw : Int32) (so : Int32) (na : Int32) (nb : Int32) (fo : Int32) (nu : Int32) (al : Int32) (be : Nat → Int32) (ke : Nat → Int32) (te : Nat → Int32) (ti : Nat → Int32) (ne : Nat → Int32) (wa : Nat → Int32) (ta : Nat → Int64) (out : Nat → Int64) (pl : Nat → Int64) (lo : Nat → Int64) (sh : Nat → Int64) (le : Nat → Int64) (C : Nat → Nat) (l_ : Nat) (h0 : C 0 ≤ 12) (hkd0 : ∀ k, k < 12 → C (1 + k) < 8) (hse : ∀ k, k < 12 → C (13 + k) < 6 + k ∧ C (25 + k) < 6 + k) (hl0 : l_ < 6 + C 0) (nn : Nat) : Met l yX3_depthOf (ws_ yX3_depthOf cX3_depthOf 8 (Option.some Jvm.ClassFile.FieldType.int)) ({ frames := 2, cells := 0, slots := 0, locals := 43 } : Room) (va_Pc [.ref (q 0), .int (nI l_)] (PreW Ev0 D vwCl (TY ca) (WM ca q th st ik ln ou pa iw so na nb fo nu al (zOf C) be ke te ti ne wa ta out pl lo sh le) nn)) (va_Qi (fun (r_ : Int32) (_ : Unit) => r_ = nI (dps C (C 0) l_)) (PostW D vwCl (TY ca) (fun (_ : Unit) => (WM ca q (nI 0) st ik ln ou pa iw so na nb fo nu al (zOf C) be ke te ti ne wa ta out pl lo sh le)) (va_A (WM ca q th st ik ln ou pa iw so na nb fo nu al (zOf C) be ke te ti ne wa ta out pl lo sh le) nn)) (va_A (WM ca q th st ik ln ou pa iw so na nb fo nu al (zOf C) be ke te ti ne wa ta out pl lo sh le) nn)) 0 0 (va_A (WM ca q th st ik ln ou pa iw so na nb fo nu al (zOf C) be ke te ti ne wa ta out pl lo sh le) nn) := by
  refine met_go (QA := fun A => va_Qi (fun (r_ : Int32) (_ : Unit) => r_ = nI (dps C (C 0) l_)) (PostW D vwCl (TY ca) (fun (_ : Unit) => (WM ca q (nI 0) st ik ln ou pa iw so na nb fo nu al (zOf C) be ke te ti ne wa ta out pl lo sh le)) A) A) (by decide) (Nat.le_of_ble_eq_true rfl) (fun p e s m below meth c A ls QQ hQQ hx hb hr hts hown hlocks hml hA hP hK hD hE hl => ?_)
  have hown : s.vm.findClass RX3 = some m.cls := hown
  have hS : va_S A s.heap s.heap [] := va_S.rf
  have hl : lv_has ls 8 [(0, .ref (q 0)), (1, .int (nI l_))] := hl
  generalize hHe : s.heap = H at hP ⊢
  have hS : va_S A s.heap H [] := hHe ▸ hS
  generalize ([] : List Loc) = locs at hS ⊢
  refine lv_aload_n hx hb dX3_depthOf_0 rfl (lv_at hl 0 rfl) ?_
  refine lv_aload_n hx hb dX3_depthOf_1 rfl (lv_at hl 0 rfl) ?_
  refine lv_iload_n hx hb dX3_depthOf_2 rfl (lv_at hl 1 rfl) ?_
  refine xc_i (xr_V (b := q 0) (ci := 2) (q0 := 0) (As := [.int (nI l_)]) (rest := [.ref (q 0)]) (mt_X3_isLine l D ca q th st ik ln ou pa iw so na nb fo nu al be ke te ti ne wa ta out pl lo sh le C (nI l_) (by first | assumption | omega | (simp only [updN, forgetC, changedC]; (repeat' split) <;> omega)) H.size) ⟨hx, hb, hml, hown, hts⟩ (cwV 1 hts (lw_V q1692 q1694 qs44 q87 q1695) rfl rfl rfl (by decide +kernel) ⟨Nat.le_of_ble_eq_true rfl, Nat.le_of_ble_eq_true rfl⟩) Ev0_ok hE hK hS (Cut.all hP hD hS hA) rfl rfl rfl hl.1 rfl (Nat.le_of_ble_eq_true rfl) dX3_depthOf_3 ⟨Nat.le_of_ble_eq_true rfl, Nat.le_of_ble_eq_true rfl⟩) hS (Cut.all hP hD hS hA) (fun r_1 u_2 H locs hq_3 hP hD hS => ?_)
  have hP : va_P D vwCl (WM ca q th st ik ln ou pa iw so na nb fo nu al (zOf C) be ke te ti ne wa ta out pl lo sh le) H := hP
  have hD : va_D A (WM ca q th st ik ln ou pa iw so na nb fo nu al (zOf C) be ke te ti ne wa ta out pl lo sh le) := hD
  have hp_3 : r_1 = bI (inR (6 + C 0) (nI l_)) := hq_3
  clear hq_3
  obtain rfl := hp_3
  refine nv_ifb_eq (tgt := 13) hx hb dX3_depthOf_6 (by decide) (fun c_6 => (absurd c_6 (by rw [inR_ok (by omega) (by omega)]; decide))) (fun c_6 => ?_)
  refine lv_iconst (v := nI 0) hx hb dX3_depthOf_9 (by decide) ?_
  refine lv_goto (tgt := 14) hx hb dX3_depthOf_10 (by decide) ?_
  refine pWM_0_thrown_X3 hx hb hts hown hK hP hD hS dX3_depthOf_14 (fun H locs hP hD hS => ?_)
  refine lv_aload_n hx hb dX3_depthOf_17 rfl (lv_at hl 0 rfl) ?_
  refine gWM_0_thrown_X3 hx hb hts hown hK hP dX3_depthOf_18 ?_
  refine nv_if_le (tgt := 26) hx hb dX3_depthOf_21 (by decide) (by omega) (fun c_21 => ?_) (fun c_21 => absurd c_21 (by decide))
  refine lv_lconst (v := lN 0) hx hb dX3_depthOf_26 (by decide) ?_
  refine lv_lstore_n (lv' := [(2, .long (lN 0)), (0, .ref (q 0)), (1, .int (nI l_))]) hx hb dX3_depthOf_27 rfl hl (by decide) rfl (fun ls hl => ?_)
  refine lv_iconst (v := nI 0) hx hb dX3_depthOf_28 (by decide) ?_
  refine lv_istore (lv' := [(4, .int (nI 0)), (2, .long (lN 0)), (0, .ref (q 0)), (1, .int (nI l_))]) hx hb dX3_depthOf_29 hl (by decide) rfl (fun ls hl => ?_)
  have lp_31 : ∀ (fu_31 : Nat) (g : Nat), C 0 - g < fu_31 → (g ≤ C 0) → ∀ (H : Heap) (locs : List Loc), va_P D vwCl (WM ca q (nI 0) st ik ln ou pa iw so na nb fo nu al (zOf C) be ke te ti ne wa ta out pl lo sh le) H → va_D A (WM ca q (nI 0) st ik ln ou pa iw so na nb fo nu al (zOf C) be ke te ti ne wa ta out pl lo sh le) → va_S A s.heap H locs → ∀ (ls : Array Slot), lv_has ls 8 [(4, .int (nI g)), (2, .long (lN (pkd C g))), (0, .ref (q 0)), (1, .int (nI l_))] → W p l e ({ frames := 2, cells := 0, slots := 0, locals := 43 } : Room) s m ([.ref (q 0), .int (nI l_)] : List Value).toArray below meth c H locs 0 0 QQ (F0 m 31 ls []) := by
    intro fu_31
    induction fu_31 with
    | zero => intro g hfu; exact absurd hfu (Nat.not_lt_zero _)
    | succ fu_31 ih_31 =>
      intro g hfu hg H locs hP hD hS ls hl
      refine lv_iload hx hb dX3_depthOf_31 (lv_at hl 0 rfl) ?_
      refine lv_aload_n hx hb dX3_depthOf_33 rfl (lv_at hl 2 rfl) ?_
      refine gWM_0_z_X3 hx hb hts hown hK hP dX3_depthOf_34 ?_
      refine lv_iconst (v := nI 0) hx hb dX3_depthOf_37 (by decide) ?_
      refine ldWM_1 hx hb hK hP (by omega) dX3_depthOf_38 ?_
      refine lv_topi (nm_r (e' := nI (C 0)) (rfl) ?_)
      refine nv_icmp_ge (tgt := 127) hx hb dX3_depthOf_39 (by decide) (by omega) (by omega) (fun c_39 => ?_) (fun c_39 => ?_)
      · skip
        have e_ : C 0 = g := Eq.symm (by omega)
        subst e_
        refine lv_iload_n hx hb dX3_depthOf_127 rfl (lv_at hl 3 rfl) ?_
        refine lv_bipush (v := nI 6) hx hb dX3_depthOf_128 (by decide) ?_
        refine nv_icmp_ge (tgt := 137) hx hb dX3_depthOf_130 (by decide) (by omega) (by omega) (fun c_130 => ?_) (fun c_130 => ?_)
        · skip
          refine lv_lload_n hx hb dX3_depthOf_137 rfl (lv_at hl 1 rfl) ?_
          refine lv_iconst (v := nI 5) hx hb dX3_depthOf_138 (by decide) ?_
          refine lv_iload_n hx hb dX3_depthOf_139 rfl (lv_at hl 3 rfl) ?_
          refine lv_bipush (v := nI 6) hx hb dX3_depthOf_140 (by decide) ?_
          refine nv_isub hx hb dX3_depthOf_142 (by omega) ?_
          refine lv_topi (nm_r (e' := nI (l_ - 6)) (rfl) ?_)
          refine nv_imul hx hb dX3_depthOf_143 ?_
          refine lv_lushr (v := ush64 (lN (pkd C (C 0))) (5 * (l_ - 6))) hx hb dX3_depthOf_144 rfl ?_
          refine lv_ldc2 (v := 31) hx hb hown (hts _ q1950) dX3_depthOf_145 ?_
          refine lv_land hx hb dX3_depthOf_148 ?_
          refine lv_topl (nm_r (e' := lN (dps C (C 0) l_)) (by have h_ := pkd_read (i := l_ - 6) hse h0 (by omega); rw [show 6 + (l_ - 6) = l_ by omega] at h_; exact h_) ?_)
          refine lv_l2i (v := nI (dps C (C 0) l_)) hx hb dX3_depthOf_149 (lN_i _) ?_
          subst hQQ
          exact xe_i (v := nI (dps C (C 0) l_)) () hx hb hr hlocks hK hP hD hS (rfl) dX3_depthOf_150
        · skip
          refine lv_iconst (v := nI 0) hx hb dX3_depthOf_133 (by decide) ?_
          refine lv_goto (tgt := 150) hx hb dX3_depthOf_134 (by decide) ?_
          subst hQQ
          exact xe_i (v := nI 0) () hx hb hr hlocks hK hP hD hS (congrArg nI (dps_in (by omega) _).symm) dX3_depthOf_150
      · skip
        refine lv_iconst (v := nI 0) hx hb dX3_depthOf_42 (by decide) ?_
        refine lv_istore (lv' := [(5, .int (nI 0)), (4, .int (nI g)), (2, .long (lN (pkd C g))), (0, .ref (q 0)), (1, .int (nI l_))]) hx hb dX3_depthOf_43 hl (by decide) rfl (fun ls hl => ?_)
        refine lv_bipush (v := nI 6) hx hb dX3_depthOf_45 (by decide) ?_
        refine lv_istore (lv' := [(6, .int (nI 6)), (5, .int (nI 0)), (4, .int (nI g)), (2, .long (lN (pkd C g))), (0, .ref (q 0)), (1, .int (nI l_))]) hx hb dX3_depthOf_47 hl (by decide) rfl (fun ls hl => ?_)
        have lp_49 : ∀ (fu_49 : Nat) (i : Nat), g - i < fu_49 → (i ≤ g) → ∀ (H : Heap) (locs : List Loc), va_P D vwCl (WM ca q (nI 0) st ik ln ou pa iw so na nb fo nu al (zOf C) be ke te ti ne wa ta out pl lo sh le) H → va_D A (WM ca q (nI 0) st ik ln ou pa iw so na nb fo nu al (zOf C) be ke te ti ne wa ta out pl lo sh le) → va_S A s.heap H locs → ∀ (ls : Array Slot), lv_has ls 8 [(6, .int (nI (6 + i))), (5, .int (nI (mo C g i))), (4, .int (nI g)), (2, .long (lN (pkd C g))), (0, .ref (q 0)), (1, .int (nI l_))] → W p l e ({ frames := 2, cells := 0, slots := 0, locals := 43 } : Room) s m ([.ref (q 0), .int (nI l_)] : List Value).toArray below meth c H locs 0 0 QQ (F0 m 49 ls []) := by
          intro fu_49
          induction fu_49 with
          | zero => intro i hfu; exact absurd hfu (Nat.not_lt_zero _)
          | succ fu_49 ih_49 =>
            intro i hfu hi H locs hP hD hS ls hl
            refine lv_iload hx hb dX3_depthOf_49 (lv_at hl 0 rfl) ?_
            refine lv_bipush (v := nI 6) hx hb dX3_depthOf_51 (by decide) ?_
            refine lv_iload hx hb dX3_depthOf_53 (lv_at hl 2 rfl) ?_
            refine nv_iadd hx hb dX3_depthOf_55 ?_
            refine nv_icmp_ge (tgt := 108) hx hb dX3_depthOf_56 (by decide) (by omega) (by omega) (fun c_56 => ?_) (fun c_56 => ?_)
            · skip
              have e_ : g = i := Eq.symm (by omega)
              subst e_
              refine lv_lload_n hx hb dX3_depthOf_108 rfl (lv_at hl 3 rfl) ?_
              refine lv_iload hx hb dX3_depthOf_109 (lv_at hl 1 rfl) ?_
              refine lv_iconst (v := nI 1) hx hb dX3_depthOf_111 (by decide) ?_
              refine nv_iadd hx hb dX3_depthOf_112 ?_
              refine lv_i2l (v := lN ((mo C g g) + 1)) hx hb dX3_depthOf_113 (nI_l (by have := @mo_le C g g; omega)) ?_
              refine lv_iconst (v := nI 5) hx hb dX3_depthOf_114 (by decide) ?_
              refine lv_iload hx hb dX3_depthOf_115 (lv_at hl 2 rfl) ?_
              refine nv_imul hx hb dX3_depthOf_117 ?_
              refine lv_lshl (v := shl64 (lN ((mo C g g) + 1)) (5 * g)) hx hb dX3_depthOf_118 rfl ?_
              refine lv_lor hx hb dX3_depthOf_119 ?_
              refine lv_topl (nm_r (e' := lN (pkd C (g + 1))) (pkd_step (by omega)) ?_)
              refine lv_lstore_n (lv' := [(2, .long (lN (pkd C (g + 1)))), (6, .int (nI (6 + g))), (5, .int (nI (mo C g g))), (4, .int (nI g)), (0, .ref (q 0)), (1, .int (nI l_))]) hx hb dX3_depthOf_120 rfl hl (by decide) rfl (fun ls hl => ?_)
              refine lv_iinc (v := nI (g + 1)) (lv' := [(4, .int (nI (g + 1))), (2, .long (lN (pkd C (g + 1)))), (6, .int (nI (6 + g))), (5, .int (nI (mo C g g))), (0, .ref (q 0)), (1, .int (nI l_))]) hx hb dX3_depthOf_121 hl (k := 3) rfl (nI_add g 1) (by decide) rfl (fun ls hl => ?_)
              refine lv_goto (tgt := 31) hx hb dX3_depthOf_124 (by decide) ?_
              exact ih_31  (g + 1) (by omega) (by omega) _ _ hP hD hS ls (lv_sub hl [0, 1, 4, 5] rfl)
            · skip
              refine lv_lload_n hx hb dX3_depthOf_59 rfl (lv_at hl 3 rfl) ?_
              refine lv_iconst (v := nI 5) hx hb dX3_depthOf_60 (by decide) ?_
              refine lv_iload hx hb dX3_depthOf_61 (lv_at hl 0 rfl) ?_
              refine lv_bipush (v := nI 6) hx hb dX3_depthOf_63 (by decide) ?_
              refine nv_isub hx hb dX3_depthOf_65 (by omega) ?_
              refine lv_topi (nm_r (e' := nI i) (congrArg nI (by omega)) ?_)
              refine nv_imul hx hb dX3_depthOf_66 ?_
              refine lv_lushr (v := ush64 (lN (pkd C g)) (5 * i)) hx hb dX3_depthOf_67 rfl ?_
              refine lv_ldc2 (v := 31) hx hb hown (hts _ q1950) dX3_depthOf_68 ?_
              refine lv_land hx hb dX3_depthOf_71 ?_
              refine lv_topl (nm_r (e' := lN (dps C g (6 + i))) (pkd_read hse (by omega) (by omega)) ?_)
              refine lv_l2i (v := nI (dps C g (6 + i))) hx hb dX3_depthOf_72 (lN_i _) ?_
              refine lv_istore (lv' := [(7, .int (nI (dps C g (6 + i)))), (6, .int (nI (6 + i))), (5, .int (nI (mo C g i))), (4, .int (nI g)), (2, .long (lN (pkd C g))), (0, .ref (q 0)), (1, .int (nI l_))]) hx hb dX3_depthOf_73 hl (by decide) rfl (fun ls hl => ?_)
              refine lv_aload_n hx hb dX3_depthOf_75 rfl (lv_at hl 5 rfl) ?_
              refine lv_iload hx hb dX3_depthOf_76 (lv_at hl 3 rfl) ?_
              refine lv_iload hx hb dX3_depthOf_78 (lv_at hl 1 rfl) ?_
              refine xc_i (xr_V (b := q 0) (ci := 2) (q0 := 0) (As := [.int (nI g), .int (nI (6 + i))]) (rest := []) (mt_X3_reads l D ca q (nI 0) st ik ln ou pa iw so na nb fo nu al be ke te ti ne wa ta out pl lo sh le C g (6 + i) (by omega) (by omega) hkd0 hse H.size) ⟨hx, hb, hml, hown, hts⟩ (cwV 2 hts (lw_V q1942 q1944 qs76 q87 q1945) rfl rfl rfl (by decide +kernel) ⟨Nat.le_of_ble_eq_true rfl, Nat.le_of_ble_eq_true rfl⟩) Ev0_ok hE hK hS (Cut.all hP hD hS hA) rfl rfl rfl hl.1 rfl (Nat.le_of_ble_eq_true rfl) dX3_depthOf_80 ⟨Nat.le_of_ble_eq_true rfl, Nat.le_of_ble_eq_true rfl⟩) hS (Cut.all hP hD hS hA) (fun r_6 u_7 H locs hq_80 hP hD hS => ?_)
              have hP : va_P D vwCl (WM ca q (nI 0) st ik ln ou pa iw so na nb fo nu al (zOf C) be ke te ti ne wa ta out pl lo sh le) H := hP
              have hD : va_D A (WM ca q (nI 0) st ik ln ou pa iw so na nb fo nu al (zOf C) be ke te ti ne wa ta out pl lo sh le) := hD
              have hp_80 : r_6 = bI (rdB C g (6 + i)) := hq_80
              clear hq_80
              obtain rfl := hp_80
              refine nv_ifb_eq (tgt := 98) hx hb dX3_depthOf_83 (by decide) (fun c_83 => ?_) (fun c_83 => ?_)
              · skip
                refine lv_iload hx hb dX3_depthOf_98 (lv_at hl 2 rfl) ?_
                refine lv_topi (nm_r (e' := nI (mo C g (i + 1))) (congrArg nI (by simp only [mo]; rw [if_neg (by simp [*])])) ?_)
                refine lv_istore (lv' := [(5, .int (nI (mo C g (i + 1)))), (7, .int (nI (dps C g (6 + i)))), (6, .int (nI (6 + i))), (4, .int (nI g)), (2, .long (lN (pkd C g))), (0, .ref (q 0)), (1, .int (nI l_))]) hx hb dX3_depthOf_100 hl (by decide) rfl (fun ls hl => ?_)
                refine lv_iinc (v := nI (6 + i + 1)) (lv' := [(6, .int (nI (6 + i + 1))), (5, .int (nI (mo C g (i + 1)))), (7, .int (nI (dps C g (6 + i)))), (4, .int (nI g)), (2, .long (lN (pkd C g))), (0, .ref (q 0)), (1, .int (nI l_))]) hx hb dX3_depthOf_102 hl (k := 2) rfl (nI_add (6 + i) 1) (by decide) rfl (fun ls hl => ?_)
                refine lv_goto (tgt := 49) hx hb dX3_depthOf_105 (by decide) ?_
                exact ih_49  (i + 1) (by omega) (by omega) _ _ hP hD hS ls (lv_sub hl [0, 1, 3, 4, 5, 6] rfl)
              · skip
                refine lv_iload hx hb dX3_depthOf_86 (lv_at hl 0 rfl) ?_
                refine lv_iload hx hb dX3_depthOf_88 (lv_at hl 2 rfl) ?_
                refine nv_icmp_le (tgt := 98) hx hb dX3_depthOf_90 (by decide) (by have := @dps_le C g (6 + i); omega) (by have := @mo_le C g i; omega) (fun c_90 => ?_) (fun c_90 => ?_)
                · skip
                  refine lv_iload hx hb dX3_depthOf_98 (lv_at hl 2 rfl) ?_
                  refine lv_topi (nm_r (e' := nI (mo C g (i + 1))) (congrArg nI (by simp only [mo]; rw [if_neg (by simp [*])])) ?_)
                  refine lv_istore (lv' := [(5, .int (nI (mo C g (i + 1)))), (7, .int (nI (dps C g (6 + i)))), (6, .int (nI (6 + i))), (4, .int (nI g)), (2, .long (lN (pkd C g))), (0, .ref (q 0)), (1, .int (nI l_))]) hx hb dX3_depthOf_100 hl (by decide) rfl (fun ls hl => ?_)
                  refine lv_iinc (v := nI (6 + i + 1)) (lv' := [(6, .int (nI (6 + i + 1))), (5, .int (nI (mo C g (i + 1)))), (7, .int (nI (dps C g (6 + i)))), (4, .int (nI g)), (2, .long (lN (pkd C g))), (0, .ref (q 0)), (1, .int (nI l_))]) hx hb dX3_depthOf_102 hl (k := 2) rfl (nI_add (6 + i) 1) (by decide) rfl (fun ls hl => ?_)
                  refine lv_goto (tgt := 49) hx hb dX3_depthOf_105 (by decide) ?_
                  exact ih_49  (i + 1) (by omega) (by omega) _ _ hP hD hS ls (lv_sub hl [0, 1, 3, 4, 5, 6] rfl)
                · skip
                  refine lv_iload hx hb dX3_depthOf_93 (lv_at hl 0 rfl) ?_
                  refine lv_goto (tgt := 100) hx hb dX3_depthOf_95 (by decide) ?_
                  refine lv_topi (nm_r (e' := nI (mo C g (i + 1))) (congrArg nI (by simp only [mo]; rw [if_pos (by simp [c_83, c_90])])) ?_)
                  refine lv_istore (lv' := [(5, .int (nI (mo C g (i + 1)))), (7, .int (nI (dps C g (6 + i)))), (6, .int (nI (6 + i))), (4, .int (nI g)), (2, .long (lN (pkd C g))), (0, .ref (q 0)), (1, .int (nI l_))]) hx hb dX3_depthOf_100 hl (by decide) rfl (fun ls hl => ?_)
                  refine lv_iinc (v := nI (6 + i + 1)) (lv' := [(6, .int (nI (6 + i + 1))), (5, .int (nI (mo C g (i + 1)))), (7, .int (nI (dps C g (6 + i)))), (4, .int (nI g)), (2, .long (lN (pkd C g))), (0, .ref (q 0)), (1, .int (nI l_))]) hx hb dX3_depthOf_102 hl (k := 2) rfl (nI_add (6 + i) 1) (by decide) rfl (fun ls hl => ?_)
                  refine lv_goto (tgt := 49) hx hb dX3_depthOf_105 (by decide) ?_
                  exact ih_49  (i + 1) (by omega) (by omega) _ _ hP hD hS ls (lv_sub hl [0, 1, 3, 4, 5, 6] rfl)
        exact lp_49 (g - 0 + 1) 0 (Nat.lt_succ_self _) (by omega) _ _ hP hD hS ls (lv_sub hl [0, 1, 2, 3, 4, 5] rfl)
  exact lp_31 (C 0 - 0 + 1) 0 (Nat.lt_succ_self _) (by omega) _ _ hP hD hS ls (lv_sub hl [0, 1, 2, 3] rfl)
