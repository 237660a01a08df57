/-! contracts of the model: faults -/
set_option maxRecDepth 100000
set_option maxHeartbeats 4000000 in
set_option maxRecDepth 100000 in
theorem mt_X3_shows_ok (l : Launch) (D : va_G) (ca : Nat → ClassId) (q : Nat → Nat) (th : Int32) (st : Int32) (ik : Int32) (ln : Int32) (ou : Int32) (pa : Int32) (iw : Int32) (so : Int32) (na : Int32) (nb : Int32) (fo : Int32) (nu : Int32) (al : Int32) (be : Nat → Int32) (ke : Nat → Int32) (te : Nat → Int32) (ti : Nat → Int32) (ne : Nat → Int32) (wa : Nat → Int32) (ta : Nat → Int64) (out : Nat → Int64) (pl : Nat → Int64) (lo : Nat → Int64) (sh : Nat → Int64) (le : Nat → Int64) (C : Nat → Nat) (t_ : Nat) (F_ : Nat) (h0 : C 0 ≤ 12) (hkd0 : ∀ k, k < 12 → C (1 + k) < 8) (hse : ∀ k, k < 12 → C (13 + k) < 6 + k ∧ C (25 + k) < 6 + k) (ho : C 37 < 2 ^ 18) (hbx : C 38 < 2 ^ 18) (hno : popc 18 (C 37) ≤ 4) (ht : t_ < 64) (hF0 : F_ ≠ 0) (hF : F_ ≤ 2 * (6 + C 0)) (nn : Nat) : Met l yX3_shows (ws_ yX3_shows cX3_shows 3 (Option.some Jvm.ClassFile.FieldType.boolean)) ({ frames := 3, cells := 0, slots := 0, locals := 76 } : Room) (va_Pc [.ref (q 0), .int (nI t_), .int (fI F_)] (PreW Ev0 D vwCl (TY ca) (WM ca q th st ik ln ou pa iw so na nb fo nu al (zOf C) be ke te ti ne wa ta out pl lo sh le) nn)) (va_Qi (fun (r_ : Int32) (u_ : (Nat → Int64) × (Nat → Int64) × (Nat → Int64)) => r_ = bI (bit64 (apC C F_ 0) t_)) (PostW D vwCl (TY ca) (fun (u_ : (Nat → Int64) × (Nat → Int64) × (Nat → Int64)) => (WM ca q (nI 0) st ik ln (nI (no C)) pa iw so na nb fo nu al (zOf C) be ke te ti ne wa u_.1 u_.2.1 u_.2.2 lo sh le)) (va_A (WM ca q th st ik ln ou pa iw so na nb fo nu al (zOf C) be ke te ti ne wa ta out pl lo sh le) nn)) (va_A (WM ca q th st ik ln ou pa iw so na nb fo nu al (zOf C) be ke te ti ne wa ta out pl lo sh le) nn)) 0 0 (va_A (WM ca q th st ik ln ou pa iw so na nb fo nu al (zOf C) be ke te ti ne wa ta out pl lo sh le) nn) := by
  refine met_go (QA := fun A => va_Qi (fun (r_ : Int32) (u_ : (Nat → Int64) × (Nat → Int64) × (Nat → Int64)) => r_ = bI (bit64 (apC C F_ 0) t_)) (PostW D vwCl (TY ca) (fun (u_ : (Nat → Int64) × (Nat → Int64) × (Nat → Int64)) => (WM ca q (nI 0) st ik ln (nI (no C)) pa iw so na nb fo nu al (zOf C) be ke te ti ne wa u_.1 u_.2.1 u_.2.2 lo sh le)) A) A) (by decide) (Nat.le_of_ble_eq_true rfl) (fun p e s m below meth c A ls QQ hQQ hx hb hr hts hown hlocks hml hA hP hK hD hE hl => ?_)
  have hown : s.vm.findClass RX3 = some m.cls := hown
  have hS : va_S A s.heap s.heap [] := va_S.rf
  have hl : lv_has ls 3 [(0, .ref (q 0)), (1, .int (nI t_)), (2, .int (fI F_))] := hl
  generalize hHe : s.heap = H at hP ⊢
  have hS : va_S A s.heap H [] := hHe ▸ hS
  generalize ([] : List Loc) = locs at hS ⊢
  refine lv_aload_n hx hb dX3_shows_0 rfl (lv_at hl 0 rfl) ?_
  refine lv_aload_n hx hb dX3_shows_1 rfl (lv_at hl 0 rfl) ?_
  refine lv_iload_n hx hb dX3_shows_2 rfl (lv_at hl 2 rfl) ?_
  refine xc_i (xr_V (b := q 0) (ci := 2) (q0 := 0) (As := [.int (fI F_)]) (rest := [.ref (q 0)]) (mt_X3_isFault l D ca q th st ik ln ou pa iw so na nb fo nu al be ke te ti ne wa ta out pl lo sh le C (fI F_) (by first | assumption | omega | (simp only [updN, forgetC, changedC]; (repeat' split) <;> omega)) H.size) ⟨hx, hb, hml, hown, hts⟩ (cwV 1 hts (lw_V q1715 q1717 qs49 q87 q1718) rfl rfl rfl (by decide +kernel) ⟨Nat.le_of_ble_eq_true rfl, Nat.le_of_ble_eq_true rfl⟩) Ev0_ok hE hK hS (Cut.all hP hD hS hA) rfl rfl rfl hl.1 rfl (Nat.le_of_ble_eq_true rfl) dX3_shows_3 ⟨Nat.le_of_ble_eq_true rfl, Nat.le_of_ble_eq_true rfl⟩) hS (Cut.all hP hD hS hA) (fun r_1 u_2 H locs hq_3 hP hD hS => ?_)
  have hP : va_P D vwCl (WM ca q th st ik ln ou pa iw so na nb fo nu al (zOf C) be ke te ti ne wa ta out pl lo sh le) H := hP
  have hD : va_D A (WM ca q th st ik ln ou pa iw so na nb fo nu al (zOf C) be ke te ti ne wa ta out pl lo sh le) := hD
  have hp_3 : r_1 = bI (inR (2 * (6 + C 0)) (fI F_)) := hq_3
  clear hq_3
  obtain rfl := hp_3
  refine nv_ifb_eq (tgt := 23) hx hb dX3_shows_6 (by decide) (fun c_6 => (absurd c_6 (by rw [inR_fI (by omega), decide_eq_true ⟨hF0, hF⟩]; decide))) (fun c_6 => ?_)
  refine lv_iload_n hx hb dX3_shows_9 rfl (lv_at hl 1 rfl) ?_
  refine lv_iconst (v := nI 0) hx hb dX3_shows_10 (by decide) ?_
  refine lv_bipush (v := nI 63) hx hb dX3_shows_11 (by decide) ?_
  refine xc_i (xr_S (As := [.int (nI t_), .int (nI 0), .int (nI 63)]) (rest := [.ref (q 0)]) (mt_X3_in l D ca (nI t_) (nI 0) (nI 63)  H.size) ⟨hx, hb, hml, hown, hts⟩ (va_cwS 3 hts (lw_S q1700 q1701 q87 q1702) rfl rfl rfl (by decide +kernel) ⟨Nat.le_of_ble_eq_true rfl, Nat.le_of_ble_eq_true rfl⟩) Ev0_ok hE hK hS (Cut.app (wc := []) (wr := (WM ca q th st ik ln ou pa iw so na nb fo nu al (zOf C) be ke te ti ne wa ta out pl lo sh le)) hP hD hS hA) rfl hl.1 rfl (Nat.le_of_ble_eq_true rfl) dX3_shows_13 ⟨Nat.le_of_ble_eq_true rfl, Nat.le_of_ble_eq_true rfl⟩) hS (Cut.app (wc := []) (wr := (WM ca q th st ik ln ou pa iw so na nb fo nu al (zOf C) be ke te ti ne wa ta out pl lo sh le)) hP hD hS hA) (fun r_3 u_4 H locs hq_13 hP hD hS => ?_)
  have hP : va_P D vwCl (WM ca q th st ik ln ou pa iw so na nb fo nu al (zOf C) be ke te ti ne wa ta out pl lo sh le) H := hP
  have hD : va_D A (WM ca q th st ik ln ou pa iw so na nb fo nu al (zOf C) be ke te ti ne wa ta out pl lo sh le) := hD
  have hp_13 : r_3 = bI (decide ((nI 0) ≤ (nI t_) ∧ (nI t_) ≤ (nI 63))) := hq_13
  clear hq_13
  obtain rfl := hp_13
  refine nv_ifb_eq (tgt := 23) hx hb dX3_shows_16 (by decide) (fun c_16 => (absurd c_16 (by rw [in_ok (by omega) (by decide)]; decide))) (fun c_16 => ?_)
  refine lv_iconst (v := nI 0) hx hb dX3_shows_19 (by decide) ?_
  refine lv_goto (tgt := 24) hx hb dX3_shows_20 (by decide) ?_
  refine pWM_0_thrown_X3 hx hb hts hown hK hP hD hS dX3_shows_24 (fun H locs hP hD hS => ?_)
  refine lv_aload_n hx hb dX3_shows_27 rfl (lv_at hl 0 rfl) ?_
  refine gWM_0_thrown_X3 hx hb hts hown hK hP dX3_shows_28 ?_
  refine nv_if_ne (tgt := 53) hx hb dX3_shows_31 (by decide) (by omega) (fun c_31 => absurd c_31 (by decide)) (fun c_31 => ?_)
  refine lv_aload_n hx hb dX3_shows_34 rfl (lv_at hl 0 rfl) ?_
  refine lv_iload_n hx hb dX3_shows_35 rfl (lv_at hl 2 rfl) ?_
  refine lv_iconst (v := fI 0) hx hb dX3_shows_36 (by decide) ?_
  refine xc_l (xr_V (b := q 0) (ci := 2) (q0 := 0) (As := [.int (fI F_), .int (fI 0)]) (rest := []) (mt_X3_apart l D ca q (nI 0) st ik ln ou pa iw so na nb fo nu al be ke te ti ne wa ta out pl lo sh le C F_ 0 (by first | assumption | omega | (simp only [updN, forgetC, changedC]; (repeat' split) <;> omega)) (by first | assumption | omega | (simp only [updN, forgetC, changedC]; (repeat' split) <;> omega)) (by first | assumption | omega | (simp only [updN, forgetC, changedC]; (repeat' split) <;> omega)) (by first | assumption | omega | (simp only [updN, forgetC, changedC]; (repeat' split) <;> omega)) (by first | assumption | omega | (simp only [updN, forgetC, changedC]; (repeat' split) <;> omega)) (by first | assumption | omega | (simp only [updN, forgetC, changedC]; (repeat' split) <;> omega)) (by first | assumption | omega | (simp only [updN, forgetC, changedC]; (repeat' split) <;> omega)) (by first | assumption | omega | (simp only [updN, forgetC, changedC]; (repeat' split) <;> omega)) H.size) ⟨hx, hb, hml, hown, hts⟩ (cwV 2 hts (lw_V q1836 q1838 qs66 q87 q1839) rfl rfl rfl (by decide +kernel) ⟨Nat.le_of_ble_eq_true rfl, Nat.le_of_ble_eq_true rfl⟩) Ev0_ok hE hK hS (Cut.all hP hD hS hA) rfl rfl rfl hl.1 rfl (Nat.le_of_ble_eq_true rfl) dX3_shows_37 ⟨Nat.le_of_ble_eq_true rfl, Nat.le_of_ble_eq_true rfl⟩) hS (Cut.all hP hD hS hA) (fun r_5 u_6 H locs hq_37 hP hD hS => ?_)
  obtain ⟨ta1_7, out1_8, pl1_9⟩ := u_6
  have hP : va_P D vwCl (WM ca q (nI 0) st ik ln (nI (no C)) pa iw so na nb fo nu al (zOf C) be ke te ti ne wa ta1_7 out1_8 pl1_9 lo sh le) H := hP
  have hD : va_D A (WM ca q (nI 0) st ik ln (nI (no C)) pa iw so na nb fo nu al (zOf C) be ke te ti ne wa ta1_7 out1_8 pl1_9 lo sh le) := hD
  have hp_37 : r_5 = apC C F_ 0 := hq_37
  clear hq_37
  obtain rfl := hp_37
  refine lv_iload_n hx hb dX3_shows_40 rfl (lv_at hl 1 rfl) ?_
  refine lv_lushr (v := ush64 (apC C F_ 0) t_) hx hb dX3_shows_41 rfl ?_
  refine lv_lconst (v := lN 1) hx hb dX3_shows_42 (by decide) ?_
  refine lv_land hx hb dX3_shows_43 ?_
  refine lv_topl (nm_r (e' := lN (b2n (bit64 (apC C F_ 0) t_))) (ush_1 _ ht) ?_)
  refine lv_lconst (v := lN 1) hx hb dX3_shows_44 (by decide) ?_
  refine nv_lcmp_ne (tgt := 53) hx hb dX3_shows_45 dX3_shows_46 (by decide) (fun c_45 => ?_) (fun c_45 => ?_)
  · skip
    refine lv_iconst (v := nI 0) hx hb dX3_shows_53 (by decide) ?_
    subst hQQ
    refine (xe_z (b := false) (ta1_7, out1_8, pl1_9) hx hb hr hlocks hK hP hD hS (shw_f c_45) dX3_shows_54)
  · skip
    refine lv_iconst (v := nI 1) hx hb dX3_shows_49 (by decide) ?_
    refine lv_goto (tgt := 54) hx hb dX3_shows_50 (by decide) ?_
    subst hQQ
    refine (xe_z (b := true) (ta1_7, out1_8, pl1_9) hx hb hr hlocks hK hP hD hS (shw_t c_45) dX3_shows_54)
set_option maxHeartbeats 4000000 in
set_option maxRecDepth 100000 in
theorem mt_X3_shows_no (l : Launch) (D : va_G) (ca : Nat → ClassId) (q : Nat → Nat) (th : Int32) (st : Int32) (ik : Int32) (ln : Int32) (ou : Int32) (pa : Int32) (iw : Int32) (so : Int32) (na : Int32) (nb : Int32) (fo : Int32) (nu : Int32) (al : Int32) (be : Nat → Int32) (ke : Nat → Int32) (te : Nat → Int32) (ti : Nat → Int32) (ne : Nat → Int32) (wa : Nat → Int32) (ta : Nat → Int64) (out : Nat → Int64) (pl : Nat → Int64) (lo : Nat → Int64) (sh : Nat → Int64) (le : Nat → Int64) (C : Nat → Nat) (t_ : Int32) (x_ : Int32) (h0 : C 0 ≤ 12) (hc : (inR (2 * (6 + C 0)) x_ && inR 64 t_) = false) (nn : Nat) : Met l yX3_shows (ws_ yX3_shows cX3_shows 3 (Option.some Jvm.ClassFile.FieldType.boolean)) ({ frames := 2, cells := 0, slots := 0, locals := 43 } : Room) (va_Pc [.ref (q 0), .int t_, .int x_] (PreW Ev0 D vwCl (TY ca) (WM ca q th st ik ln ou pa iw so na nb fo nu al (zOf C) be ke te ti ne wa ta out pl lo sh le) nn)) (va_Qi (fun (r_ : Int32) (_ : Unit) => r_ = bI false) (PostW D vwCl (TY ca) (fun (_ : Unit) => (WM ca q (nI 1) st ik ln ou pa iw so na nb fo nu al (zOf C) be ke te ti ne wa ta out pl lo sh le)) (va_A (WM ca q th st ik ln ou pa iw so na nb fo nu al (zOf C) be ke te ti ne wa ta out pl lo sh le) nn)) (va_A (WM ca q th st ik ln ou pa iw so na nb fo nu al (zOf C) be ke te ti ne wa ta out pl lo sh le) nn)) 0 0 (va_A (WM ca q th st ik ln ou pa iw so na nb fo nu al (zOf C) be ke te ti ne wa ta out pl lo sh le) nn) := by
  refine met_go (QA := fun A => va_Qi (fun (r_ : Int32) (_ : Unit) => r_ = bI false) (PostW D vwCl (TY ca) (fun (_ : Unit) => (WM ca q (nI 1) st ik ln ou pa iw so na nb fo nu al (zOf C) be ke te ti ne wa ta out pl lo sh le)) A) A) (by decide) (Nat.le_of_ble_eq_true rfl) (fun p e s m below meth c A ls QQ hQQ hx hb hr hts hown hlocks hml hA hP hK hD hE hl => ?_)
  have hown : s.vm.findClass RX3 = some m.cls := hown
  have hS : va_S A s.heap s.heap [] := va_S.rf
  have hl : lv_has ls 3 [(0, .ref (q 0)), (1, .int t_), (2, .int x_)] := hl
  generalize hHe : s.heap = H at hP ⊢
  have hS : va_S A s.heap H [] := hHe ▸ hS
  generalize ([] : List Loc) = locs at hS ⊢
  refine lv_aload_n hx hb dX3_shows_0 rfl (lv_at hl 0 rfl) ?_
  refine lv_aload_n hx hb dX3_shows_1 rfl (lv_at hl 0 rfl) ?_
  refine lv_iload_n hx hb dX3_shows_2 rfl (lv_at hl 2 rfl) ?_
  refine xc_i (xr_V (b := q 0) (ci := 2) (q0 := 0) (As := [.int x_]) (rest := [.ref (q 0)]) (mt_X3_isFault l D ca q th st ik ln ou pa iw so na nb fo nu al be ke te ti ne wa ta out pl lo sh le C x_ (by first | assumption | omega | (simp only [updN, forgetC, changedC]; (repeat' split) <;> omega)) H.size) ⟨hx, hb, hml, hown, hts⟩ (cwV 1 hts (lw_V q1715 q1717 qs49 q87 q1718) rfl rfl rfl (by decide +kernel) ⟨Nat.le_of_ble_eq_true rfl, Nat.le_of_ble_eq_true rfl⟩) Ev0_ok hE hK hS (Cut.all hP hD hS hA) rfl rfl rfl hl.1 rfl (Nat.le_of_ble_eq_true rfl) dX3_shows_3 ⟨Nat.le_of_ble_eq_true rfl, Nat.le_of_ble_eq_true rfl⟩) hS (Cut.all hP hD hS hA) (fun r_1 u_2 H locs hq_3 hP hD hS => ?_)
  have hP : va_P D vwCl (WM ca q th st ik ln ou pa iw so na nb fo nu al (zOf C) be ke te ti ne wa ta out pl lo sh le) H := hP
  have hD : va_D A (WM ca q th st ik ln ou pa iw so na nb fo nu al (zOf C) be ke te ti ne wa ta out pl lo sh le) := hD
  have hp_3 : r_1 = bI (inR (2 * (6 + C 0)) x_) := hq_3
  clear hq_3
  obtain rfl := hp_3
  refine nv_ifb_eq (tgt := 23) hx hb dX3_shows_6 (by decide) (fun c_6 => ?_) (fun c_6 => ?_)
  · skip
    refine lv_iconst (v := nI 1) hx hb dX3_shows_23 (by decide) ?_
    refine pWM_0_thrown_X3 hx hb hts hown hK hP hD hS dX3_shows_24 (fun H locs hP hD hS => ?_)
    refine lv_aload_n hx hb dX3_shows_27 rfl (lv_at hl 0 rfl) ?_
    refine gWM_0_thrown_X3 hx hb hts hown hK hP dX3_shows_28 ?_
    refine nv_if_ne (tgt := 53) hx hb dX3_shows_31 (by decide) (by omega) (fun c_31 => ?_) (fun c_31 => absurd c_31 (by decide))
    refine lv_iconst (v := nI 0) hx hb dX3_shows_53 (by decide) ?_
    subst hQQ
    refine (xe_z (b := false) () hx hb hr hlocks hK hP hD hS (rfl) dX3_shows_54)
  · skip
    refine lv_iload_n hx hb dX3_shows_9 rfl (lv_at hl 1 rfl) ?_
    refine lv_iconst (v := nI 0) hx hb dX3_shows_10 (by decide) ?_
    refine lv_bipush (v := nI 63) hx hb dX3_shows_11 (by decide) ?_
    refine xc_i (xr_S (As := [.int t_, .int (nI 0), .int (nI 63)]) (rest := [.ref (q 0)]) (mt_X3_in l D ca t_ (nI 0) (nI 63)  H.size) ⟨hx, hb, hml, hown, hts⟩ (va_cwS 3 hts (lw_S q1700 q1701 q87 q1702) rfl rfl rfl (by decide +kernel) ⟨Nat.le_of_ble_eq_true rfl, Nat.le_of_ble_eq_true rfl⟩) Ev0_ok hE hK hS (Cut.app (wc := []) (wr := (WM ca q th st ik ln ou pa iw so na nb fo nu al (zOf C) be ke te ti ne wa ta out pl lo sh le)) hP hD hS hA) rfl hl.1 rfl (Nat.le_of_ble_eq_true rfl) dX3_shows_13 ⟨Nat.le_of_ble_eq_true rfl, Nat.le_of_ble_eq_true rfl⟩) hS (Cut.app (wc := []) (wr := (WM ca q th st ik ln ou pa iw so na nb fo nu al (zOf C) be ke te ti ne wa ta out pl lo sh le)) hP hD hS hA) (fun r_4 u_5 H locs hq_13 hP hD hS => ?_)
    have hP : va_P D vwCl (WM ca q th st ik ln ou pa iw so na nb fo nu al (zOf C) be ke te ti ne wa ta out pl lo sh le) H := hP
    have hD : va_D A (WM ca q th st ik ln ou pa iw so na nb fo nu al (zOf C) be ke te ti ne wa ta out pl lo sh le) := hD
    have hp_13 : r_4 = bI (decide ((nI 0) ≤ t_ ∧ t_ ≤ (nI 63))) := hq_13
    clear hq_13
    obtain rfl := hp_13
    refine nv_ifb_eq (tgt := 23) hx hb dX3_shows_16 (by decide) (fun c_16 => ?_) (fun c_16 => ?_)
    · skip
      refine lv_iconst (v := nI 1) hx hb dX3_shows_23 (by decide) ?_
      refine pWM_0_thrown_X3 hx hb hts hown hK hP hD hS dX3_shows_24 (fun H locs hP hD hS => ?_)
      refine lv_aload_n hx hb dX3_shows_27 rfl (lv_at hl 0 rfl) ?_
      refine gWM_0_thrown_X3 hx hb hts hown hK hP dX3_shows_28 ?_
      refine nv_if_ne (tgt := 53) hx hb dX3_shows_31 (by decide) (by omega) (fun c_31 => ?_) (fun c_31 => absurd c_31 (by decide))
      refine lv_iconst (v := nI 0) hx hb dX3_shows_53 (by decide) ?_
      subst hQQ
      refine (xe_z (b := false) () hx hb hr hlocks hK hP hD hS (rfl) dX3_shows_54)
    · skip
      exact absurd hc (by rw [inR_lit (by decide)] at c_16; rw [c_6, c_16]; decide)
set_option maxHeartbeats 4000000 in
set_option maxRecDepth 100000 in
theorem mt_X3_testsFor_ok (l : Launch) (D : va_G) (ca : Nat → ClassId) (q : Nat → Nat) (th : Int32) (st : Int32) (ik : Int32) (ln : Int32) (ou : Int32) (pa : Int32) (iw : Int32) (so : Int32) (na : Int32) (nb : Int32) (fo : Int32) (nu : Int32) (al : Int32) (be : Nat → Int32) (ke : Nat → Int32) (te : Nat → Int32) (ti : Nat → Int32) (ne : Nat → Int32) (wa : Nat → Int32) (ta : Nat → Int64) (out : Nat → Int64) (pl : Nat → Int64) (lo : Nat → Int64) (sh : Nat → Int64) (le : Nat → Int64) (C : Nat → Nat) (F_ : Nat) (h0 : C 0 ≤ 12) (hkd0 : ∀ k, k < 12 → C (1 + k) < 8) (hse : ∀ k, k < 12 → C (13 + k) < 6 + k ∧ C (25 + k) < 6 + k) (ho : C 37 < 2 ^ 18) (hbx : C 38 < 2 ^ 18) (hno : popc 18 (C 37) ≤ 4) (hF0 : F_ ≠ 0) (hF : F_ ≤ 2 * (6 + C 0)) (nn : Nat) : Met l yX3_testsFor (ws_ yX3_testsFor cX3_testsFor 2 (Option.some Jvm.ClassFile.FieldType.long)) ({ frames := 3, cells := 0, slots := 0, locals := 76 } : Room) (va_Pc [.ref (q 0), .int (fI F_)] (PreW Ev0 D vwCl (TY ca) (WM ca q th st ik ln ou pa iw so na nb fo nu al (zOf C) be ke te ti ne wa ta out pl lo sh le) nn)) (va_Ql (fun (r_ : Int64) (u_ : (Nat → Int64) × (Nat → Int64) × (Nat → Int64)) => r_ = apC C F_ 0) (PostW D vwCl (TY ca) (fun (u_ : (Nat → Int64) × (Nat → Int64) × (Nat → Int64)) => (WM ca q (nI 0) st ik ln (nI (no C)) pa iw so na nb fo nu al (zOf C) be ke te ti ne wa u_.1 u_.2.1 u_.2.2 lo sh le)) (va_A (WM ca q th st ik ln ou pa iw so na nb fo nu al (zOf C) be ke te ti ne wa ta out pl lo sh le) nn)) (va_A (WM ca q th st ik ln ou pa iw so na nb fo nu al (zOf C) be ke te ti ne wa ta out pl lo sh le) nn)) 0 0 (va_A (WM ca q th st ik ln ou pa iw so na nb fo nu al (zOf C) be ke te ti ne wa ta out pl lo sh le) nn) := by
  refine met_go (QA := fun A => va_Ql (fun (r_ : Int64) (u_ : (Nat → Int64) × (Nat → Int64) × (Nat → Int64)) => r_ = apC C F_ 0) (PostW D vwCl (TY ca) (fun (u_ : (Nat → Int64) × (Nat → Int64) × (Nat → Int64)) => (WM ca q (nI 0) st ik ln (nI (no C)) pa iw so na nb fo nu al (zOf C) be ke te ti ne wa u_.1 u_.2.1 u_.2.2 lo sh le)) A) A) (by decide) (Nat.le_of_ble_eq_true rfl) (fun p e s m below meth c A ls QQ hQQ hx hb hr hts hown hlocks hml hA hP hK hD hE hl => ?_)
  have hown : s.vm.findClass RX3 = some m.cls := hown
  have hS : va_S A s.heap s.heap [] := va_S.rf
  have hl : lv_has ls 2 [(0, .ref (q 0)), (1, .int (fI F_))] := hl
  generalize hHe : s.heap = H at hP ⊢
  have hS : va_S A s.heap H [] := hHe ▸ hS
  generalize ([] : List Loc) = locs at hS ⊢
  refine lv_aload_n hx hb dX3_testsFor_0 rfl (lv_at hl 0 rfl) ?_
  refine lv_aload_n hx hb dX3_testsFor_1 rfl (lv_at hl 0 rfl) ?_
  refine lv_iload_n hx hb dX3_testsFor_2 rfl (lv_at hl 1 rfl) ?_
  refine xc_i (xr_V (b := q 0) (ci := 2) (q0 := 0) (As := [.int (fI F_)]) (rest := [.ref (q 0)]) (mt_X3_isFault l D ca q th st ik ln ou pa iw so na nb fo nu al be ke te ti ne wa ta out pl lo sh le C (fI F_) (by first | assumption | omega | (simp only [updN, forgetC, changedC]; (repeat' split) <;> omega)) H.size) ⟨hx, hb, hml, hown, hts⟩ (cwV 1 hts (lw_V q1715 q1717 qs49 q87 q1718) rfl rfl rfl (by decide +kernel) ⟨Nat.le_of_ble_eq_true rfl, Nat.le_of_ble_eq_true rfl⟩) Ev0_ok hE hK hS (Cut.all hP hD hS hA) rfl rfl rfl hl.1 rfl (Nat.le_of_ble_eq_true rfl) dX3_testsFor_3 ⟨Nat.le_of_ble_eq_true rfl, Nat.le_of_ble_eq_true rfl⟩) hS (Cut.all hP hD hS hA) (fun r_1 u_2 H locs hq_3 hP hD hS => ?_)
  have hP : va_P D vwCl (WM ca q th st ik ln ou pa iw so na nb fo nu al (zOf C) be ke te ti ne wa ta out pl lo sh le) H := hP
  have hD : va_D A (WM ca q th st ik ln ou pa iw so na nb fo nu al (zOf C) be ke te ti ne wa ta out pl lo sh le) := hD
  have hp_3 : r_1 = bI (inR (2 * (6 + C 0)) (fI F_)) := hq_3
  clear hq_3
  obtain rfl := hp_3
  refine nv_ifb_eq (tgt := 13) hx hb dX3_testsFor_6 (by decide) (fun c_6 => (absurd c_6 (by rw [inR_fI (by omega), decide_eq_true ⟨hF0, hF⟩]; decide))) (fun c_6 => ?_)
  refine lv_iconst (v := nI 0) hx hb dX3_testsFor_9 (by decide) ?_
  refine lv_goto (tgt := 14) hx hb dX3_testsFor_10 (by decide) ?_
  refine pWM_0_thrown_X3 hx hb hts hown hK hP hD hS dX3_testsFor_14 (fun H locs hP hD hS => ?_)
  refine lv_aload_n hx hb dX3_testsFor_17 rfl (lv_at hl 0 rfl) ?_
  refine gWM_0_thrown_X3 hx hb hts hown hK hP dX3_testsFor_18 ?_
  refine nv_if_le (tgt := 28) hx hb dX3_testsFor_21 (by decide) (by omega) (fun c_21 => ?_) (fun c_21 => absurd c_21 (by decide))
  refine lv_aload_n hx hb dX3_testsFor_28 rfl (lv_at hl 0 rfl) ?_
  refine lv_iload_n hx hb dX3_testsFor_29 rfl (lv_at hl 1 rfl) ?_
  refine lv_iconst (v := fI 0) hx hb dX3_testsFor_30 (by decide) ?_
  refine xc_l (xr_V (b := q 0) (ci := 2) (q0 := 0) (As := [.int (fI F_), .int (fI 0)]) (rest := []) (mt_X3_apart l D ca q (nI 0) st ik ln ou pa iw so na nb fo nu al be ke te ti ne wa ta out pl lo sh le C F_ 0 (by first | assumption | omega | (simp only [updN, forgetC, changedC]; (repeat' split) <;> omega)) (by first | assumption | omega | (simp only [updN, forgetC, changedC]; (repeat' split) <;> omega)) (by first | assumption | omega | (simp only [updN, forgetC, changedC]; (repeat' split) <;> omega)) (by first | assumption | omega | (simp only [updN, forgetC, changedC]; (repeat' split) <;> omega)) (by first | assumption | omega | (simp only [updN, forgetC, changedC]; (repeat' split) <;> omega)) (by first | assumption | omega | (simp only [updN, forgetC, changedC]; (repeat' split) <;> omega)) (by first | assumption | omega | (simp only [updN, forgetC, changedC]; (repeat' split) <;> omega)) (by first | assumption | omega | (simp only [updN, forgetC, changedC]; (repeat' split) <;> omega)) H.size) ⟨hx, hb, hml, hown, hts⟩ (cwV 2 hts (lw_V q1836 q1838 qs66 q87 q1839) rfl rfl rfl (by decide +kernel) ⟨Nat.le_of_ble_eq_true rfl, Nat.le_of_ble_eq_true rfl⟩) Ev0_ok hE hK hS (Cut.all hP hD hS hA) rfl rfl rfl hl.1 rfl (Nat.le_of_ble_eq_true rfl) dX3_testsFor_31 ⟨Nat.le_of_ble_eq_true rfl, Nat.le_of_ble_eq_true rfl⟩) hS (Cut.all hP hD hS hA) (fun r_3 u_4 H locs hq_31 hP hD hS => ?_)
  obtain ⟨ta1_5, out1_6, pl1_7⟩ := u_4
  have hP : va_P D vwCl (WM ca q (nI 0) st ik ln (nI (no C)) pa iw so na nb fo nu al (zOf C) be ke te ti ne wa ta1_5 out1_6 pl1_7 lo sh le) H := hP
  have hD : va_D A (WM ca q (nI 0) st ik ln (nI (no C)) pa iw so na nb fo nu al (zOf C) be ke te ti ne wa ta1_5 out1_6 pl1_7 lo sh le) := hD
  have hp_31 : r_3 = apC C F_ 0 := hq_31
  clear hq_31
  obtain rfl := hp_31
  subst hQQ
  exact xe_l (v := apC C F_ 0) (ta1_5, out1_6, pl1_7) hx hb hr hlocks hK hP hD hS (rfl) dX3_testsFor_34
set_option maxHeartbeats 4000000 in
set_option maxRecDepth 100000 in
theorem mt_X3_testsFor_no (l : Launch) (D : va_G) (ca : Nat → ClassId) (q : Nat → Nat) (th : Int32) (st : Int32) (ik : Int32) (ln : Int32) (ou : Int32) (pa : Int32) (iw : Int32) (so : Int32) (na : Int32) (nb : Int32) (fo : Int32) (nu : Int32) (al : Int32) (be : Nat → Int32) (ke : Nat → Int32) (te : Nat → Int32) (ti : Nat → Int32) (ne : Nat → Int32) (wa : Nat → Int32) (ta : Nat → Int64) (out : Nat → Int64) (pl : Nat → Int64) (lo : Nat → Int64) (sh : Nat → Int64) (le : Nat → Int64) (C : Nat → Nat) (x_ : Int32) (h0 : C 0 ≤ 12) (hc : inR (2 * (6 + C 0)) x_ = false) (nn : Nat) : Met l yX3_testsFor (ws_ yX3_testsFor cX3_testsFor 2 (Option.some Jvm.ClassFile.FieldType.long)) ({ frames := 2, cells := 0, slots := 0, locals := 43 } : Room) (va_Pc [.ref (q 0), .int x_] (PreW Ev0 D vwCl (TY ca) (WM ca q th st ik ln ou pa iw so na nb fo nu al (zOf C) be ke te ti ne wa ta out pl lo sh le) nn)) (va_Ql (fun (r_ : Int64) (_ : Unit) => r_ = lN 0) (PostW D vwCl (TY ca) (fun (_ : Unit) => (WM ca q (nI 1) st ik ln ou pa iw so na nb fo nu al (zOf C) be ke te ti ne wa ta out pl lo sh le)) (va_A (WM ca q th st ik ln ou pa iw so na nb fo nu al (zOf C) be ke te ti ne wa ta out pl lo sh le) nn)) (va_A (WM ca q th st ik ln ou pa iw so na nb fo nu al (zOf C) be ke te ti ne wa ta out pl lo sh le) nn)) 0 0 (va_A (WM ca q th st ik ln ou pa iw so na nb fo nu al (zOf C) be ke te ti ne wa ta out pl lo sh le) nn) := by
  refine met_go (QA := fun A => va_Ql (fun (r_ : Int64) (_ : Unit) => r_ = lN 0) (PostW D vwCl (TY ca) (fun (_ : Unit) => (WM ca q (nI 1) st ik ln ou pa iw so na nb fo nu al (zOf C) be ke te ti ne wa ta out pl lo sh le)) A) A) (by decide) (Nat.le_of_ble_eq_true rfl) (fun p e s m below meth c A ls QQ hQQ hx hb hr hts hown hlocks hml hA hP hK hD hE hl => ?_)
  have hown : s.vm.findClass RX3 = some m.cls := hown
  have hS : va_S A s.heap s.heap [] := va_S.rf
  have hl : lv_has ls 2 [(0, .ref (q 0)), (1, .int x_)] := hl
  generalize hHe : s.heap = H at hP ⊢
  have hS : va_S A s.heap H [] := hHe ▸ hS
  generalize ([] : List Loc) = locs at hS ⊢
  refine lv_aload_n hx hb dX3_testsFor_0 rfl (lv_at hl 0 rfl) ?_
  refine lv_aload_n hx hb dX3_testsFor_1 rfl (lv_at hl 0 rfl) ?_
  refine lv_iload_n hx hb dX3_testsFor_2 rfl (lv_at hl 1 rfl) ?_
  refine xc_i (xr_V (b := q 0) (ci := 2) (q0 := 0) (As := [.int x_]) (rest := [.ref (q 0)]) (mt_X3_isFault l D ca q th st ik ln ou pa iw so na nb fo nu al be ke te ti ne wa ta out pl lo sh le C x_ (by first | assumption | omega | (simp only [updN, forgetC, changedC]; (repeat' split) <;> omega)) H.size) ⟨hx, hb, hml, hown, hts⟩ (cwV 1 hts (lw_V q1715 q1717 qs49 q87 q1718) rfl rfl rfl (by decide +kernel) ⟨Nat.le_of_ble_eq_true rfl, Nat.le_of_ble_eq_true rfl⟩) Ev0_ok hE hK hS (Cut.all hP hD hS hA) rfl rfl rfl hl.1 rfl (Nat.le_of_ble_eq_true rfl) dX3_testsFor_3 ⟨Nat.le_of_ble_eq_true rfl, Nat.le_of_ble_eq_true rfl⟩) hS (Cut.all hP hD hS hA) (fun r_1 u_2 H locs hq_3 hP hD hS => ?_)
  have hP : va_P D vwCl (WM ca q th st ik ln ou pa iw so na nb fo nu al (zOf C) be ke te ti ne wa ta out pl lo sh le) H := hP
  have hD : va_D A (WM ca q th st ik ln ou pa iw so na nb fo nu al (zOf C) be ke te ti ne wa ta out pl lo sh le) := hD
  have hp_3 : r_1 = bI (inR (2 * (6 + C 0)) x_) := hq_3
  clear hq_3
  obtain rfl := hp_3
  refine nv_ifb_eq (tgt := 13) hx hb dX3_testsFor_6 (by decide) (fun c_6 => ?_) (fun c_6 => (absurd c_6 (by rw [hc]; decide)))
  refine lv_iconst (v := nI 1) hx hb dX3_testsFor_13 (by decide) ?_
  refine pWM_0_thrown_X3 hx hb hts hown hK hP hD hS dX3_testsFor_14 (fun H locs hP hD hS => ?_)
  refine lv_aload_n hx hb dX3_testsFor_17 rfl (lv_at hl 0 rfl) ?_
  refine gWM_0_thrown_X3 hx hb hts hown hK hP dX3_testsFor_18 ?_
  refine nv_if_le (tgt := 28) hx hb dX3_testsFor_21 (by decide) (by omega) (fun c_21 => absurd c_21 (by decide)) (fun c_21 => ?_)
  refine lv_lconst (v := lN 0) hx hb dX3_testsFor_24 (by decide) ?_
  refine lv_goto (tgt := 34) hx hb dX3_testsFor_25 (by decide) ?_
  subst hQQ
  exact xe_l (v := lN 0) () hx hb hr hlocks hK hP hD hS (rfl) dX3_testsFor_34
set_option maxHeartbeats 4000000 in
set_option maxRecDepth 100000 in
theorem mt_X3_testsBetween_ok (l : Launch) (D : va_G) (ca : Nat → ClassId) (q : Nat → Nat) (th : Int32) (st : Int32) (ik : Int32) (ln : Int32) (ou : Int32) (pa : Int32) (iw : Int32) (so : Int32) (na : Int32) (nb : Int32) (fo : Int32) (nu : Int32) (al : Int32) (be : Nat → Int32) (ke : Nat → Int32) (te : Nat → Int32) (ti : Nat → Int32) (ne : Nat → Int32) (wa : Nat → Int32) (ta : Nat → Int64) (out : Nat → Int64) (pl : Nat → Int64) (lo : Nat → Int64) (sh : Nat → Int64) (le : Nat → Int64) (C : Nat → Nat) (F_ : Nat) (G_ : Nat) (h0 : C 0 ≤ 12) (hkd0 : ∀ k, k < 12 → C (1 + k) < 8) (hse : ∀ k, k < 12 → C (13 + k) < 6 + k ∧ C (25 + k) < 6 + k) (ho : C 37 < 2 ^ 18) (hbx : C 38 < 2 ^ 18) (hno : popc 18 (C 37) ≤ 4) (hF0 : F_ ≠ 0) (hF : F_ ≤ 2 * (6 + C 0)) (hG0 : G_ ≠ 0) (hG : G_ ≤ 2 * (6 + C 0)) (nn : Nat) : Met l yX3_testsBetween (ws_ yX3_testsBetween cX3_testsBetween 3 (Option.some Jvm.ClassFile.FieldType.long)) ({ frames := 3, cells := 0, slots := 0, locals := 76 } : Room) (va_Pc [.ref (q 0), .int (fI F_), .int (fI G_)] (PreW Ev0 D vwCl (TY ca) (WM ca q th st ik ln ou pa iw so na nb fo nu al (zOf C) be ke te ti ne wa ta out pl lo sh le) nn)) (va_Ql (fun (r_ : Int64) (u_ : (Nat → Int64) × (Nat → Int64) × (Nat → Int64)) => r_ = apC C F_ G_) (PostW D vwCl (TY ca) (fun (u_ : (Nat → Int64) × (Nat → Int64) × (Nat → Int64)) => (WM ca q (nI 0) st ik ln (nI (no C)) pa iw so na nb fo nu al (zOf C) be ke te ti ne wa u_.1 u_.2.1 u_.2.2 lo sh le)) (va_A (WM ca q th st ik ln ou pa iw so na nb fo nu al (zOf C) be ke te ti ne wa ta out pl lo sh le) nn)) (va_A (WM ca q th st ik ln ou pa iw so na nb fo nu al (zOf C) be ke te ti ne wa ta out pl lo sh le) nn)) 0 0 (va_A (WM ca q th st ik ln ou pa iw so na nb fo nu al (zOf C) be ke te ti ne wa ta out pl lo sh le) nn) := by
  refine met_go (QA := fun A => va_Ql (fun (r_ : Int64) (u_ : (Nat → Int64) × (Nat → Int64) × (Nat → Int64)) => r_ = apC C F_ G_) (PostW D vwCl (TY ca) (fun (u_ : (Nat → Int64) × (Nat → Int64) × (Nat → Int64)) => (WM ca q (nI 0) st ik ln (nI (no C)) pa iw so na nb fo nu al (zOf C) be ke te ti ne wa u_.1 u_.2.1 u_.2.2 lo sh le)) A) A) (by decide) (Nat.le_of_ble_eq_true rfl) (fun p e s m below meth c A ls QQ hQQ hx hb hr hts hown hlocks hml hA hP hK hD hE hl => ?_)
  have hown : s.vm.findClass RX3 = some m.cls := hown
  have hS : va_S A s.heap s.heap [] := va_S.rf
  have hl : lv_has ls 3 [(0, .ref (q 0)), (1, .int (fI F_)), (2, .int (fI G_))] := hl
  generalize hHe : s.heap = H at hP ⊢
  have hS : va_S A s.heap H [] := hHe ▸ hS
  generalize ([] : List Loc) = locs at hS ⊢
  refine lv_aload_n hx hb dX3_testsBetween_0 rfl (lv_at hl 0 rfl) ?_
  refine lv_aload_n hx hb dX3_testsBetween_1 rfl (lv_at hl 0 rfl) ?_
  refine lv_iload_n hx hb dX3_testsBetween_2 rfl (lv_at hl 1 rfl) ?_
  refine xc_i (xr_V (b := q 0) (ci := 2) (q0 := 0) (As := [.int (fI F_)]) (rest := [.ref (q 0)]) (mt_X3_isFault l D ca q th st ik ln ou pa iw so na nb fo nu al be ke te ti ne wa ta out pl lo sh le C (fI F_) (by first | assumption | omega | (simp only [updN, forgetC, changedC]; (repeat' split) <;> omega)) H.size) ⟨hx, hb, hml, hown, hts⟩ (cwV 1 hts (lw_V q1715 q1717 qs49 q87 q1718) rfl rfl rfl (by decide +kernel) ⟨Nat.le_of_ble_eq_true rfl, Nat.le_of_ble_eq_true rfl⟩) Ev0_ok hE hK hS (Cut.all hP hD hS hA) rfl rfl rfl hl.1 rfl (Nat.le_of_ble_eq_true rfl) dX3_testsBetween_3 ⟨Nat.le_of_ble_eq_true rfl, Nat.le_of_ble_eq_true rfl⟩) hS (Cut.all hP hD hS hA) (fun r_1 u_2 H locs hq_3 hP hD hS => ?_)
  have hP : va_P D vwCl (WM ca q th st ik ln ou pa iw so na nb fo nu al (zOf C) be ke te ti ne wa ta out pl lo sh le) H := hP
  have hD : va_D A (WM ca q th st ik ln ou pa iw so na nb fo nu al (zOf C) be ke te ti ne wa ta out pl lo sh le) := hD
  have hp_3 : r_1 = bI (inR (2 * (6 + C 0)) (fI F_)) := hq_3
  clear hq_3
  obtain rfl := hp_3
  refine nv_ifb_eq (tgt := 21) hx hb dX3_testsBetween_6 (by decide) (fun c_6 => (absurd c_6 (by rw [inR_fI (by omega), decide_eq_true ⟨hF0, hF⟩]; decide))) (fun c_6 => ?_)
  refine lv_aload_n hx hb dX3_testsBetween_9 rfl (lv_at hl 0 rfl) ?_
  refine lv_iload_n hx hb dX3_testsBetween_10 rfl (lv_at hl 2 rfl) ?_
  refine xc_i (xr_V (b := q 0) (ci := 2) (q0 := 0) (As := [.int (fI G_)]) (rest := [.ref (q 0)]) (mt_X3_isFault l D ca q th st ik ln ou pa iw so na nb fo nu al be ke te ti ne wa ta out pl lo sh le C (fI G_) (by first | assumption | omega | (simp only [updN, forgetC, changedC]; (repeat' split) <;> omega)) H.size) ⟨hx, hb, hml, hown, hts⟩ (cwV 1 hts (lw_V q1715 q1717 qs49 q87 q1718) rfl rfl rfl (by decide +kernel) ⟨Nat.le_of_ble_eq_true rfl, Nat.le_of_ble_eq_true rfl⟩) Ev0_ok hE hK hS (Cut.all hP hD hS hA) rfl rfl rfl hl.1 rfl (Nat.le_of_ble_eq_true rfl) dX3_testsBetween_11 ⟨Nat.le_of_ble_eq_true rfl, Nat.le_of_ble_eq_true rfl⟩) hS (Cut.all hP hD hS hA) (fun r_3 u_4 H locs hq_11 hP hD hS => ?_)
  have hP : va_P D vwCl (WM ca q th st ik ln ou pa iw so na nb fo nu al (zOf C) be ke te ti ne wa ta out pl lo sh le) H := hP
  have hD : va_D A (WM ca q th st ik ln ou pa iw so na nb fo nu al (zOf C) be ke te ti ne wa ta out pl lo sh le) := hD
  have hp_11 : r_3 = bI (inR (2 * (6 + C 0)) (fI G_)) := hq_11
  clear hq_11
  obtain rfl := hp_11
  refine nv_ifb_eq (tgt := 21) hx hb dX3_testsBetween_14 (by decide) (fun c_14 => (absurd c_14 (by rw [inR_fI (by omega), decide_eq_true ⟨hG0, hG⟩]; decide))) (fun c_14 => ?_)
  refine lv_iconst (v := nI 0) hx hb dX3_testsBetween_17 (by decide) ?_
  refine lv_goto (tgt := 22) hx hb dX3_testsBetween_18 (by decide) ?_
  refine pWM_0_thrown_X3 hx hb hts hown hK hP hD hS dX3_testsBetween_22 (fun H locs hP hD hS => ?_)
  refine lv_aload_n hx hb dX3_testsBetween_25 rfl (lv_at hl 0 rfl) ?_
  refine gWM_0_thrown_X3 hx hb hts hown hK hP dX3_testsBetween_26 ?_
  refine nv_if_le (tgt := 36) hx hb dX3_testsBetween_29 (by decide) (by omega) (fun c_29 => ?_) (fun c_29 => absurd c_29 (by decide))
  refine lv_aload_n hx hb dX3_testsBetween_36 rfl (lv_at hl 0 rfl) ?_
  refine lv_iload_n hx hb dX3_testsBetween_37 rfl (lv_at hl 1 rfl) ?_
  refine lv_iload_n hx hb dX3_testsBetween_38 rfl (lv_at hl 2 rfl) ?_
  refine xc_l (xr_V (b := q 0) (ci := 2) (q0 := 0) (As := [.int (fI F_), .int (fI G_)]) (rest := []) (mt_X3_apart l D ca q (nI 0) st ik ln ou pa iw so na nb fo nu al be ke te ti ne wa ta out pl lo sh le C F_ G_ (by first | assumption | omega | (simp only [updN, forgetC, changedC]; (repeat' split) <;> omega)) (by first | assumption | omega | (simp only [updN, forgetC, changedC]; (repeat' split) <;> omega)) (by first | assumption | omega | (simp only [updN, forgetC, changedC]; (repeat' split) <;> omega)) (by first | assumption | omega | (simp only [updN, forgetC, changedC]; (repeat' split) <;> omega)) (by first | assumption | omega | (simp only [updN, forgetC, changedC]; (repeat' split) <;> omega)) (by first | assumption | omega | (simp only [updN, forgetC, changedC]; (repeat' split) <;> omega)) (by first | assumption | omega | (simp only [updN, forgetC, changedC]; (repeat' split) <;> omega)) (by first | assumption | omega | (simp only [updN, forgetC, changedC]; (repeat' split) <;> omega)) H.size) ⟨hx, hb, hml, hown, hts⟩ (cwV 2 hts (lw_V q1836 q1838 qs66 q87 q1839) rfl rfl rfl (by decide +kernel) ⟨Nat.le_of_ble_eq_true rfl, Nat.le_of_ble_eq_true rfl⟩) Ev0_ok hE hK hS (Cut.all hP hD hS hA) rfl rfl rfl hl.1 rfl (Nat.le_of_ble_eq_true rfl) dX3_testsBetween_39 ⟨Nat.le_of_ble_eq_true rfl, Nat.le_of_ble_eq_true rfl⟩) hS (Cut.all hP hD hS hA) (fun r_5 u_6 H locs hq_39 hP hD hS => ?_)
  obtain ⟨ta1_7, out1_8, pl1_9⟩ := u_6
  have hP : va_P D vwCl (WM ca q (nI 0) st ik ln (nI (no C)) pa iw so na nb fo nu al (zOf C) be ke te ti ne wa ta1_7 out1_8 pl1_9 lo sh le) H := hP
  have hD : va_D A (WM ca q (nI 0) st ik ln (nI (no C)) pa iw so na nb fo nu al (zOf C) be ke te ti ne wa ta1_7 out1_8 pl1_9 lo sh le) := hD
  have hp_39 : r_5 = apC C F_ G_ := hq_39
  clear hq_39
  obtain rfl := hp_39
  subst hQQ
  exact xe_l (v := apC C F_ G_) (ta1_7, out1_8, pl1_9) hx hb hr hlocks hK hP hD hS (rfl) dX3_testsBetween_42
set_option maxHeartbeats 4000000 in
set_option maxRecDepth 100000 in
theorem mt_X3_testsBetween_no (l : Launch) (D : va_G) (ca : Nat → ClassId) (q : Nat → Nat) (th : Int32) (st : Int32) (ik : Int32) (ln : Int32) (ou : Int32) (pa : Int32) (iw : Int32) (so : Int32) (na : Int32) (nb : Int32) (fo : Int32) (nu : Int32) (al : Int32) (be : Nat → Int32) (ke : Nat → Int32) (te : Nat → Int32) (ti : Nat → Int32) (ne : Nat → Int32) (wa : Nat → Int32) (ta : Nat → Int64) (out : Nat → Int64) (pl : Nat → Int64) (lo : Nat → Int64) (sh : Nat → Int64) (le : Nat → Int64) (C : Nat → Nat) (x_ : Int32) (y_ : Int32) (h0 : C 0 ≤ 12) (hc : (inR (2 * (6 + C 0)) x_ && inR (2 * (6 + C 0)) y_) = false) (nn : Nat) : Met l yX3_testsBetween (ws_ yX3_testsBetween cX3_testsBetween 3 (Option.some Jvm.ClassFile.FieldType.long)) ({ frames := 2, cells := 0, slots := 0, locals := 43 } : Room) (va_Pc [.ref (q 0), .int x_, .int y_] (PreW Ev0 D vwCl (TY ca) (WM ca q th st ik ln ou pa iw so na nb fo nu al (zOf C) be ke te ti ne wa ta out pl lo sh le) nn)) (va_Ql (fun (r_ : Int64) (_ : Unit) => r_ = lN 0) (PostW D vwCl (TY ca) (fun (_ : Unit) => (WM ca q (nI 1) st ik ln ou pa iw so na nb fo nu al (zOf C) be ke te ti ne wa ta out pl lo sh le)) (va_A (WM ca q th st ik ln ou pa iw so na nb fo nu al (zOf C) be ke te ti ne wa ta out pl lo sh le) nn)) (va_A (WM ca q th st ik ln ou pa iw so na nb fo nu al (zOf C) be ke te ti ne wa ta out pl lo sh le) nn)) 0 0 (va_A (WM ca q th st ik ln ou pa iw so na nb fo nu al (zOf C) be ke te ti ne wa ta out pl lo sh le) nn) := by
  refine met_go (QA := fun A => va_Ql (fun (r_ : Int64) (_ : Unit) => r_ = lN 0) (PostW D vwCl (TY ca) (fun (_ : Unit) => (WM ca q (nI 1) st ik ln ou pa iw so na nb fo nu al (zOf C) be ke te ti ne wa ta out pl lo sh le)) A) A) (by decide) (Nat.le_of_ble_eq_true rfl) (fun p e s m below meth c A ls QQ hQQ hx hb hr hts hown hlocks hml hA hP hK hD hE hl => ?_)
  have hown : s.vm.findClass RX3 = some m.cls := hown
  have hS : va_S A s.heap s.heap [] := va_S.rf
  have hl : lv_has ls 3 [(0, .ref (q 0)), (1, .int x_), (2, .int y_)] := hl
  generalize hHe : s.heap = H at hP ⊢
  have hS : va_S A s.heap H [] := hHe ▸ hS
  generalize ([] : List Loc) = locs at hS ⊢
  refine lv_aload_n hx hb dX3_testsBetween_0 rfl (lv_at hl 0 rfl) ?_
  refine lv_aload_n hx hb dX3_testsBetween_1 rfl (lv_at hl 0 rfl) ?_
  refine lv_iload_n hx hb dX3_testsBetween_2 rfl (lv_at hl 1 rfl) ?_
  refine xc_i (xr_V (b := q 0) (ci := 2) (q0 := 0) (As := [.int x_]) (rest := [.ref (q 0)]) (mt_X3_isFault l D ca q th st ik ln ou pa iw so na nb fo nu al be ke te ti ne wa ta out pl lo sh le C x_ (by first | assumption | omega | (simp only [updN, forgetC, changedC]; (repeat' split) <;> omega)) H.size) ⟨hx, hb, hml, hown, hts⟩ (cwV 1 hts (lw_V q1715 q1717 qs49 q87 q1718) rfl rfl rfl (by decide +kernel) ⟨Nat.le_of_ble_eq_true rfl, Nat.le_of_ble_eq_true rfl⟩) Ev0_ok hE hK hS (Cut.all hP hD hS hA) rfl rfl rfl hl.1 rfl (Nat.le_of_ble_eq_true rfl) dX3_testsBetween_3 ⟨Nat.le_of_ble_eq_true rfl, Nat.le_of_ble_eq_true rfl⟩) hS (Cut.all hP hD hS hA) (fun r_1 u_2 H locs hq_3 hP hD hS => ?_)
  have hP : va_P D vwCl (WM ca q th st ik ln ou pa iw so na nb fo nu al (zOf C) be ke te ti ne wa ta out pl lo sh le) H := hP
  have hD : va_D A (WM ca q th st ik ln ou pa iw so na nb fo nu al (zOf C) be ke te ti ne wa ta out pl lo sh le) := hD
  have hp_3 : r_1 = bI (inR (2 * (6 + C 0)) x_) := hq_3
  clear hq_3
  obtain rfl := hp_3
  refine nv_ifb_eq (tgt := 21) hx hb dX3_testsBetween_6 (by decide) (fun c_6 => ?_) (fun c_6 => ?_)
  · skip
    refine lv_iconst (v := nI 1) hx hb dX3_testsBetween_21 (by decide) ?_
    refine pWM_0_thrown_X3 hx hb hts hown hK hP hD hS dX3_testsBetween_22 (fun H locs hP hD hS => ?_)
    refine lv_aload_n hx hb dX3_testsBetween_25 rfl (lv_at hl 0 rfl) ?_
    refine gWM_0_thrown_X3 hx hb hts hown hK hP dX3_testsBetween_26 ?_
    refine nv_if_le (tgt := 36) hx hb dX3_testsBetween_29 (by decide) (by omega) (fun c_29 => absurd c_29 (by decide)) (fun c_29 => ?_)
    refine lv_lconst (v := lN 0) hx hb dX3_testsBetween_32 (by decide) ?_
    refine lv_goto (tgt := 42) hx hb dX3_testsBetween_33 (by decide) ?_
    subst hQQ
    exact xe_l (v := lN 0) () hx hb hr hlocks hK hP hD hS (rfl) dX3_testsBetween_42
  · skip
    refine lv_aload_n hx hb dX3_testsBetween_9 rfl (lv_at hl 0 rfl) ?_
    refine lv_iload_n hx hb dX3_testsBetween_10 rfl (lv_at hl 2 rfl) ?_
    refine xc_i (xr_V (b := q 0) (ci := 2) (q0 := 0) (As := [.int y_]) (rest := [.ref (q 0)]) (mt_X3_isFault l D ca q th st ik ln ou pa iw so na nb fo nu al be ke te ti ne wa ta out pl lo sh le C y_ (by first | assumption | omega | (simp only [updN, forgetC, changedC]; (repeat' split) <;> omega)) H.size) ⟨hx, hb, hml, hown, hts⟩ (cwV 1 hts (lw_V q1715 q1717 qs49 q87 q1718) rfl rfl rfl (by decide +kernel) ⟨Nat.le_of_ble_eq_true rfl, Nat.le_of_ble_eq_true rfl⟩) Ev0_ok hE hK hS (Cut.all hP hD hS hA) rfl rfl rfl hl.1 rfl (Nat.le_of_ble_eq_true rfl) dX3_testsBetween_11 ⟨Nat.le_of_ble_eq_true rfl, Nat.le_of_ble_eq_true rfl⟩) hS (Cut.all hP hD hS hA) (fun r_4 u_5 H locs hq_11 hP hD hS => ?_)
    have hP : va_P D vwCl (WM ca q th st ik ln ou pa iw so na nb fo nu al (zOf C) be ke te ti ne wa ta out pl lo sh le) H := hP
    have hD : va_D A (WM ca q th st ik ln ou pa iw so na nb fo nu al (zOf C) be ke te ti ne wa ta out pl lo sh le) := hD
    have hp_11 : r_4 = bI (inR (2 * (6 + C 0)) y_) := hq_11
    clear hq_11
    obtain rfl := hp_11
    refine nv_ifb_eq (tgt := 21) hx hb dX3_testsBetween_14 (by decide) (fun c_14 => ?_) (fun c_14 => ?_)
    · skip
      refine lv_iconst (v := nI 1) hx hb dX3_testsBetween_21 (by decide) ?_
      refine pWM_0_thrown_X3 hx hb hts hown hK hP hD hS dX3_testsBetween_22 (fun H locs hP hD hS => ?_)
      refine lv_aload_n hx hb dX3_testsBetween_25 rfl (lv_at hl 0 rfl) ?_
      refine gWM_0_thrown_X3 hx hb hts hown hK hP dX3_testsBetween_26 ?_
      refine nv_if_le (tgt := 36) hx hb dX3_testsBetween_29 (by decide) (by omega) (fun c_29 => absurd c_29 (by decide)) (fun c_29 => ?_)
      refine lv_lconst (v := lN 0) hx hb dX3_testsBetween_32 (by decide) ?_
      refine lv_goto (tgt := 42) hx hb dX3_testsBetween_33 (by decide) ?_
      subst hQQ
      exact xe_l (v := lN 0) () hx hb hr hlocks hK hP hD hS (rfl) dX3_testsBetween_42
    · skip
      exact absurd hc (by rw [c_6, c_14]; decide)
set_option maxHeartbeats 4000000 in
set_option maxRecDepth 100000 in
theorem mt_X3_hiddenFaults_ok (l : Launch) (D : va_G) (ca : Nat → ClassId) (q : Nat → Nat) (th : Int32) (st : Int32) (ik : Int32) (ln : Int32) (ou : Int32) (pa : Int32) (iw : Int32) (so : Int32) (na : Int32) (nb : Int32) (fo : Int32) (nu : Int32) (al : Int32) (be : Nat → Int32) (ke : Nat → Int32) (te : Nat → Int32) (ti : Nat → Int32) (ne : Nat → Int32) (wa : Nat → Int32) (ta : Nat → Int64) (out : Nat → Int64) (pl : Nat → Int64) (lo : Nat → Int64) (sh : Nat → Int64) (le : Nat → Int64) (C : Nat → Nat) (h0 : C 0 ≤ 12) (hkd0 : ∀ k, k < 12 → C (1 + k) < 8) (hse : ∀ k, k < 12 → C (13 + k) < 6 + k ∧ C (25 + k) < 6 + k) (ho : C 37 < 2 ^ 18) (hbx : C 38 < 2 ^ 18) (hno : popc 18 (C 37) ≤ 4) (nn : Nat) : Met l yX3_hiddenFaults (ws_ yX3_hiddenFaults cX3_hiddenFaults 4 (Option.some Jvm.ClassFile.FieldType.long)) ({ frames := 3, cells := 0, slots := 0, locals := 76 } : Room) (va_Pc [.ref (q 0)] (PreW Ev0 D vwCl (TY ca) (WM ca q th st ik ln ou pa iw so na nb fo nu al (zOf C) be ke te ti ne wa ta out pl lo sh le) nn)) (va_Ql (fun (r_ : Int64) (u_ : (Nat → Int64) × (Nat → Int64) × Int32 × (Nat → Int64)) => r_ = lN (hid C (2 * (6 + C 0)))) (PostW D vwCl (TY ca) (fun (u_ : (Nat → Int64) × (Nat → Int64) × Int32 × (Nat → Int64)) => (WM ca q (nI 0) st ik ln u_.2.2.1 pa iw so na nb fo nu al (zOf C) be ke te ti ne wa u_.1 u_.2.1 u_.2.2.2 lo sh le)) (va_A (WM ca q th st ik ln ou pa iw so na nb fo nu al (zOf C) be ke te ti ne wa ta out pl lo sh le) nn)) (va_A (WM ca q th st ik ln ou pa iw so na nb fo nu al (zOf C) be ke te ti ne wa ta out pl lo sh le) nn)) 0 0 (va_A (WM ca q th st ik ln ou pa iw so na nb fo nu al (zOf C) be ke te ti ne wa ta out pl lo sh le) nn) := by
  refine met_go (QA := fun A => va_Ql (fun (r_ : Int64) (u_ : (Nat → Int64) × (Nat → Int64) × Int32 × (Nat → Int64)) => r_ = lN (hid C (2 * (6 + C 0)))) (PostW D vwCl (TY ca) (fun (u_ : (Nat → Int64) × (Nat → Int64) × Int32 × (Nat → Int64)) => (WM ca q (nI 0) st ik ln u_.2.2.1 pa iw so na nb fo nu al (zOf C) be ke te ti ne wa u_.1 u_.2.1 u_.2.2.2 lo sh le)) A) A) (by decide) (Nat.le_of_ble_eq_true rfl) (fun p e s m below meth c A ls QQ hQQ hx hb hr hts hown hlocks hml hA hP hK hD hE hl => ?_)
  have hown : s.vm.findClass RX3 = some m.cls := hown
  have hS : va_S A s.heap s.heap [] := va_S.rf
  have hl : lv_has ls 4 [(0, .ref (q 0))] := hl
  generalize hHe : s.heap = H at hP ⊢
  have hS : va_S A s.heap H [] := hHe ▸ hS
  generalize ([] : List Loc) = locs at hS ⊢
  refine lv_aload_n hx hb dX3_hiddenFaults_0 rfl (lv_at hl 0 rfl) ?_
  refine lv_iconst (v := nI 0) hx hb dX3_hiddenFaults_1 (by decide) ?_
  refine pWM_0_thrown_X3 hx hb hts hown hK hP hD hS dX3_hiddenFaults_2 (fun H locs hP hD hS => ?_)
  refine lv_lconst (v := lN 0) hx hb dX3_hiddenFaults_5 (by decide) ?_
  refine lv_lstore_n (lv' := [(1, .long (lN 0)), (0, .ref (q 0))]) hx hb dX3_hiddenFaults_6 rfl hl (by decide) rfl (fun ls hl => ?_)
  refine lv_iconst (v := nI 0) hx hb dX3_hiddenFaults_7 (by decide) ?_
  refine lv_istore_n (lv' := [(3, .int (nI 0)), (1, .long (lN 0)), (0, .ref (q 0))]) hx hb dX3_hiddenFaults_8 rfl hl (by decide) rfl (fun ls hl => ?_)
  have lp_9 : ∀ (fu_9 : Nat) (i : Nat) (ta_ : Nat → Int64) (out_ : Nat → Int64) (ou_ : Int32) (pl_ : Nat → Int64), 2 * (6 + C 0) - i < fu_9 → (i ≤ 2 * (6 + C 0)) → ∀ (H : Heap) (locs : List Loc), va_P D vwCl (WM ca q (nI 0) st ik ln ou_ pa iw so na nb fo nu al (zOf C) be ke te ti ne wa ta_ out_ pl_ lo sh le) H → va_D A (WM ca q (nI 0) st ik ln ou_ pa iw so na nb fo nu al (zOf C) be ke te ti ne wa ta_ out_ pl_ lo sh le) → va_S A s.heap H locs → ∀ (ls : Array Slot), lv_has ls 4 [(3, .int (nI i)), (1, .long (lN (hid C i))), (0, .ref (q 0))] → W p l e ({ frames := 3, cells := 0, slots := 0, locals := 76 } : Room) s m ([.ref (q 0)] : List Value).toArray below meth c H locs 0 0 QQ (F0 m 9 ls []) := by
    intro fu_9
    induction fu_9 with
    | zero => intro i ta_ out_ ou_ pl_ hfu; exact absurd hfu (Nat.not_lt_zero _)
    | succ fu_9 ih_9 =>
      intro i ta_ out_ ou_ pl_ hfu hi H locs hP hD hS ls hl
      refine lv_iload_n hx hb dX3_hiddenFaults_9 rfl (lv_at hl 0 rfl) ?_
      refine lv_iconst (v := nI 2) hx hb dX3_hiddenFaults_10 (by decide) ?_
      refine lv_aload_n hx hb dX3_hiddenFaults_11 rfl (lv_at hl 2 rfl) ?_
      refine xc_i (xr_V (b := q 0) (ci := 2) (q0 := 0) (As := []) (rest := [.int (nI 2), .int (nI i)]) (mt_X3_lines l D ca q (nI 0) st ik ln ou_ pa iw so na nb fo nu al be ke te ti ne wa ta_ out_ pl_ lo sh le C  H.size) ⟨hx, hb, hml, hown, hts⟩ (cwV 0 hts (lw_V q1696 q1698 qs45 q87 q1699) rfl rfl rfl (by decide +kernel) ⟨Nat.le_of_ble_eq_true rfl, Nat.le_of_ble_eq_true rfl⟩) Ev0_ok hE hK hS (Cut.all hP hD hS hA) rfl rfl rfl hl.1 rfl (Nat.le_of_ble_eq_true rfl) dX3_hiddenFaults_12 ⟨Nat.le_of_ble_eq_true rfl, Nat.le_of_ble_eq_true rfl⟩) hS (Cut.all hP hD hS hA) (fun r_1 u_2 H locs hq_12 hP hD hS => ?_)
      have hP : va_P D vwCl (WM ca q (nI 0) st ik ln ou_ pa iw so na nb fo nu al (zOf C) be ke te ti ne wa ta_ out_ pl_ lo sh le) H := hP
      have hD : va_D A (WM ca q (nI 0) st ik ln ou_ pa iw so na nb fo nu al (zOf C) be ke te ti ne wa ta_ out_ pl_ lo sh le) := hD
      have hp_12 : r_1 = nI (6 + C 0) := hq_12
      clear hq_12
      obtain rfl := hp_12
      refine nv_imul hx hb dX3_hiddenFaults_15 ?_
      refine nv_icmp_ge (tgt := 46) hx hb dX3_hiddenFaults_16 (by decide) (by omega) (by omega) (fun c_16 => ?_) (fun c_16 => ?_)
      · skip
        have e_ : 2 * (6 + C 0) = i := Eq.symm (by omega)
        subst e_
        refine lv_lload_n hx hb dX3_hiddenFaults_46 rfl (lv_at hl 1 rfl) ?_
        subst hQQ
        exact xe_l (v := lN (hid C (2 * (6 + C 0)))) (ta_, out_, ou_, pl_) hx hb hr hlocks hK hP hD hS (rfl) dX3_hiddenFaults_47
      · skip
        refine lv_lload_n hx hb dX3_hiddenFaults_19 rfl (lv_at hl 1 rfl) ?_
        refine lv_aload_n hx hb dX3_hiddenFaults_20 rfl (lv_at hl 2 rfl) ?_
        refine lv_iload_n hx hb dX3_hiddenFaults_21 rfl (lv_at hl 0 rfl) ?_
        refine lv_topi (nm_r (e' := fI (i + 1)) (fI_S i) ?_)
        refine lv_iconst (v := fI 0) hx hb dX3_hiddenFaults_22 (by decide) ?_
        refine xc_l (xr_V (b := q 0) (ci := 2) (q0 := 0) (As := [.int (fI (i + 1)), .int (fI 0)]) (rest := [.long (lN (hid C i))]) (mt_X3_apart l D ca q (nI 0) st ik ln ou_ pa iw so na nb fo nu al be ke te ti ne wa ta_ out_ pl_ lo sh le C (i + 1) 0 (by first | assumption | omega | (simp only [updN, forgetC, changedC]; (repeat' split) <;> omega)) (by first | assumption | omega | (simp only [updN, forgetC, changedC]; (repeat' split) <;> omega)) (by first | assumption | omega | (simp only [updN, forgetC, changedC]; (repeat' split) <;> omega)) (by first | assumption | omega | (simp only [updN, forgetC, changedC]; (repeat' split) <;> omega)) (by first | assumption | omega | (simp only [updN, forgetC, changedC]; (repeat' split) <;> omega)) (by first | assumption | omega | (simp only [updN, forgetC, changedC]; (repeat' split) <;> omega)) (by first | assumption | omega | (simp only [updN, forgetC, changedC]; (repeat' split) <;> omega)) (by first | assumption | omega | (simp only [updN, forgetC, changedC]; (repeat' split) <;> omega)) H.size) ⟨hx, hb, hml, hown, hts⟩ (cwV 2 hts (lw_V q1836 q1838 qs66 q87 q1839) rfl rfl rfl (by decide +kernel) ⟨Nat.le_of_ble_eq_true rfl, Nat.le_of_ble_eq_true rfl⟩) Ev0_ok hE hK hS (Cut.all hP hD hS hA) rfl rfl rfl hl.1 rfl (Nat.le_of_ble_eq_true rfl) dX3_hiddenFaults_23 ⟨Nat.le_of_ble_eq_true rfl, Nat.le_of_ble_eq_true rfl⟩) hS (Cut.all hP hD hS hA) (fun r_4 u_5 H locs hq_23 hP hD hS => ?_)
        obtain ⟨ta1_6, out1_7, pl1_8⟩ := u_5
        have hP : va_P D vwCl (WM ca q (nI 0) st ik ln (nI (no C)) pa iw so na nb fo nu al (zOf C) be ke te ti ne wa ta1_6 out1_7 pl1_8 lo sh le) H := hP
        have hD : va_D A (WM ca q (nI 0) st ik ln (nI (no C)) pa iw so na nb fo nu al (zOf C) be ke te ti ne wa ta1_6 out1_7 pl1_8 lo sh le) := hD
        have hp_23 : r_4 = apC C (i + 1) 0 := hq_23
        clear hq_23
        obtain rfl := hp_23
        refine lv_lconst (v := lN 0) hx hb dX3_hiddenFaults_26 (by decide) ?_
        refine nv_lcmp_ne (tgt := 37) hx hb dX3_hiddenFaults_27 dX3_hiddenFaults_28 (by decide) (fun c_27 => ?_) (fun c_27 => ?_)
        · skip
          refine lv_lconst (v := lN 0) hx hb dX3_hiddenFaults_37 (by decide) ?_
          refine lv_lor hx hb dX3_hiddenFaults_38 ?_
          refine lv_topl (nm_r (e' := lN (hid C (i + 1))) (by rw [lN_or]; simp only [hid]; rw [if_neg c_27]) ?_)
          refine lv_lstore_n (lv' := [(1, .long (lN (hid C (i + 1)))), (3, .int (nI i)), (0, .ref (q 0))]) hx hb dX3_hiddenFaults_39 rfl hl (by decide) rfl (fun ls hl => ?_)
          refine lv_iinc (v := nI (i + 1)) (lv' := [(3, .int (nI (i + 1))), (1, .long (lN (hid C (i + 1)))), (0, .ref (q 0))]) hx hb dX3_hiddenFaults_40 hl (k := 1) rfl (nI_add i 1) (by decide) rfl (fun ls hl => ?_)
          refine lv_goto (tgt := 9) hx hb dX3_hiddenFaults_43 (by decide) ?_
          exact ih_9  (i + 1) ta1_6 out1_7 (nI (no C)) pl1_8 (by omega) (by omega) _ _ hP hD hS ls (lv_sub hl [0, 1, 2] rfl)
        · skip
          refine lv_lconst (v := lN 1) hx hb dX3_hiddenFaults_31 (by decide) ?_
          refine lv_iload_n hx hb dX3_hiddenFaults_32 rfl (lv_at hl 0 rfl) ?_
          refine lv_lshl (v := shl64 (lN 1) i) hx hb dX3_hiddenFaults_33 rfl ?_
          refine lv_goto (tgt := 38) hx hb dX3_hiddenFaults_34 (by decide) ?_
          refine lv_lor hx hb dX3_hiddenFaults_38 ?_
          refine lv_topl (nm_r (e' := lN (hid C (i + 1))) (by rw [shl_lN (by omega), lN_or]; simp only [hid]; rw [if_pos c_27]) ?_)
          refine lv_lstore_n (lv' := [(1, .long (lN (hid C (i + 1)))), (3, .int (nI i)), (0, .ref (q 0))]) hx hb dX3_hiddenFaults_39 rfl hl (by decide) rfl (fun ls hl => ?_)
          refine lv_iinc (v := nI (i + 1)) (lv' := [(3, .int (nI (i + 1))), (1, .long (lN (hid C (i + 1)))), (0, .ref (q 0))]) hx hb dX3_hiddenFaults_40 hl (k := 1) rfl (nI_add i 1) (by decide) rfl (fun ls hl => ?_)
          refine lv_goto (tgt := 9) hx hb dX3_hiddenFaults_43 (by decide) ?_
          exact ih_9  (i + 1) ta1_6 out1_7 (nI (no C)) pl1_8 (by omega) (by omega) _ _ hP hD hS ls (lv_sub hl [0, 1, 2] rfl)
  exact lp_9 (2 * (6 + C 0) - 0 + 1) 0 ta out ou pl (Nat.lt_succ_self _) (by omega) _ _ hP hD hS ls (lv_sub hl [0, 1, 2] rfl)
set_option maxHeartbeats 4000000 in
set_option maxRecDepth 100000 in
theorem mt_X3_alike_ok (l : Launch) (D : va_G) (ca : Nat → ClassId) (q : Nat → Nat) (th : Int32) (st : Int32) (ik : Int32) (ln : Int32) (ou : Int32) (pa : Int32) (iw : Int32) (so : Int32) (na : Int32) (nb : Int32) (fo : Int32) (nu : Int32) (al : Int32) (be : Nat → Int32) (ke : Nat → Int32) (te : Nat → Int32) (ti : Nat → Int32) (ne : Nat → Int32) (wa : Nat → Int32) (ta : Nat → Int64) (out : Nat → Int64) (pl : Nat → Int64) (lo : Nat → Int64) (sh : Nat → Int64) (le : Nat → Int64) (C : Nat → Nat) (F_ : Nat) (h0 : C 0 ≤ 12) (hkd0 : ∀ k, k < 12 → C (1 + k) < 8) (hse : ∀ k, k < 12 → C (13 + k) < 6 + k ∧ C (25 + k) < 6 + k) (ho : C 37 < 2 ^ 18) (hbx : C 38 < 2 ^ 18) (hno : popc 18 (C 37) ≤ 4) (hF0 : F_ ≠ 0) (hF : F_ ≤ 2 * (6 + C 0)) (nn : Nat) : Met l yX3_alike (ws_ yX3_alike cX3_alike 5 (Option.some Jvm.ClassFile.FieldType.long)) ({ frames := 3, cells := 0, slots := 0, locals := 76 } : Room) (va_Pc [.ref (q 0), .int (fI F_)] (PreW Ev0 D vwCl (TY ca) (WM ca q th st ik ln ou pa iw so na nb fo nu al (zOf C) be ke te ti ne wa ta out pl lo sh le) nn)) (va_Ql (fun (r_ : Int64) (u_ : (Nat → Int64) × (Nat → Int64) × Int32 × (Nat → Int64)) => r_ = lN (alk C F_ (2 * (6 + C 0)))) (PostW D vwCl (TY ca) (fun (u_ : (Nat → Int64) × (Nat → Int64) × Int32 × (Nat → Int64)) => (WM ca q (nI 0) st ik ln u_.2.2.1 pa iw so na nb fo nu al (zOf C) be ke te ti ne wa u_.1 u_.2.1 u_.2.2.2 lo sh le)) (va_A (WM ca q th st ik ln ou pa iw so na nb fo nu al (zOf C) be ke te ti ne wa ta out pl lo sh le) nn)) (va_A (WM ca q th st ik ln ou pa iw so na nb fo nu al (zOf C) be ke te ti ne wa ta out pl lo sh le) nn)) 0 0 (va_A (WM ca q th st ik ln ou pa iw so na nb fo nu al (zOf C) be ke te ti ne wa ta out pl lo sh le) nn) := by
  refine met_go (QA := fun A => va_Ql (fun (r_ : Int64) (u_ : (Nat → Int64) × (Nat → Int64) × Int32 × (Nat → Int64)) => r_ = lN (alk C F_ (2 * (6 + C 0)))) (PostW D vwCl (TY ca) (fun (u_ : (Nat → Int64) × (Nat → Int64) × Int32 × (Nat → Int64)) => (WM ca q (nI 0) st ik ln u_.2.2.1 pa iw so na nb fo nu al (zOf C) be ke te ti ne wa u_.1 u_.2.1 u_.2.2.2 lo sh le)) A) A) (by decide) (Nat.le_of_ble_eq_true rfl) (fun p e s m below meth c A ls QQ hQQ hx hb hr hts hown hlocks hml hA hP hK hD hE hl => ?_)
  have hown : s.vm.findClass RX3 = some m.cls := hown
  have hS : va_S A s.heap s.heap [] := va_S.rf
  have hl : lv_has ls 5 [(0, .ref (q 0)), (1, .int (fI F_))] := hl
  generalize hHe : s.heap = H at hP ⊢
  have hS : va_S A s.heap H [] := hHe ▸ hS
  generalize ([] : List Loc) = locs at hS ⊢
  refine lv_aload_n hx hb dX3_alike_0 rfl (lv_at hl 0 rfl) ?_
  refine lv_aload_n hx hb dX3_alike_1 rfl (lv_at hl 0 rfl) ?_
  refine lv_iload_n hx hb dX3_alike_2 rfl (lv_at hl 1 rfl) ?_
  refine xc_i (xr_V (b := q 0) (ci := 2) (q0 := 0) (As := [.int (fI F_)]) (rest := [.ref (q 0)]) (mt_X3_isFault l D ca q th st ik ln ou pa iw so na nb fo nu al be ke te ti ne wa ta out pl lo sh le C (fI F_) (by first | assumption | omega | (simp only [updN, forgetC, changedC]; (repeat' split) <;> omega)) H.size) ⟨hx, hb, hml, hown, hts⟩ (cwV 1 hts (lw_V q1715 q1717 qs49 q87 q1718) rfl rfl rfl (by decide +kernel) ⟨Nat.le_of_ble_eq_true rfl, Nat.le_of_ble_eq_true rfl⟩) Ev0_ok hE hK hS (Cut.all hP hD hS hA) rfl rfl rfl hl.1 rfl (Nat.le_of_ble_eq_true rfl) dX3_alike_3 ⟨Nat.le_of_ble_eq_true rfl, Nat.le_of_ble_eq_true rfl⟩) hS (Cut.all hP hD hS hA) (fun r_1 u_2 H locs hq_3 hP hD hS => ?_)
  have hP : va_P D vwCl (WM ca q th st ik ln ou pa iw so na nb fo nu al (zOf C) be ke te ti ne wa ta out pl lo sh le) H := hP
  have hD : va_D A (WM ca q th st ik ln ou pa iw so na nb fo nu al (zOf C) be ke te ti ne wa ta out pl lo sh le) := hD
  have hp_3 : r_1 = bI (inR (2 * (6 + C 0)) (fI F_)) := hq_3
  clear hq_3
  obtain rfl := hp_3
  refine nv_ifb_eq (tgt := 13) hx hb dX3_alike_6 (by decide) (fun c_6 => (absurd c_6 (by rw [inR_fI (by omega), decide_eq_true ⟨hF0, hF⟩]; decide))) (fun c_6 => ?_)
  refine lv_iconst (v := nI 0) hx hb dX3_alike_9 (by decide) ?_
  refine lv_goto (tgt := 14) hx hb dX3_alike_10 (by decide) ?_
  refine pWM_0_thrown_X3 hx hb hts hown hK hP hD hS dX3_alike_14 (fun H locs hP hD hS => ?_)
  refine lv_lconst (v := lN 0) hx hb dX3_alike_17 (by decide) ?_
  refine lv_lstore_n (lv' := [(2, .long (lN 0)), (0, .ref (q 0)), (1, .int (fI F_))]) hx hb dX3_alike_18 rfl hl (by decide) rfl (fun ls hl => ?_)
  refine lv_iconst (v := nI 0) hx hb dX3_alike_19 (by decide) ?_
  refine lv_istore (lv' := [(4, .int (nI 0)), (2, .long (lN 0)), (0, .ref (q 0)), (1, .int (fI F_))]) hx hb dX3_alike_20 hl (by decide) rfl (fun ls hl => ?_)
  have lp_22 : ∀ (fu_22 : Nat) (i : Nat) (ta_ : Nat → Int64) (out_ : Nat → Int64) (ou_ : Int32) (pl_ : Nat → Int64), 2 * (6 + C 0) - i < fu_22 → (i ≤ 2 * (6 + C 0)) → ∀ (H : Heap) (locs : List Loc), va_P D vwCl (WM ca q (nI 0) st ik ln ou_ pa iw so na nb fo nu al (zOf C) be ke te ti ne wa ta_ out_ pl_ lo sh le) H → va_D A (WM ca q (nI 0) st ik ln ou_ pa iw so na nb fo nu al (zOf C) be ke te ti ne wa ta_ out_ pl_ lo sh le) → va_S A s.heap H locs → ∀ (ls : Array Slot), lv_has ls 5 [(4, .int (nI i)), (2, .long (lN (alk C F_ i))), (0, .ref (q 0)), (1, .int (fI F_))] → W p l e ({ frames := 3, cells := 0, slots := 0, locals := 76 } : Room) s m ([.ref (q 0), .int (fI F_)] : List Value).toArray below meth c H locs 0 0 QQ (F0 m 22 ls []) := by
    intro fu_22
    induction fu_22 with
    | zero => intro i ta_ out_ ou_ pl_ hfu; exact absurd hfu (Nat.not_lt_zero _)
    | succ fu_22 ih_22 =>
      intro i ta_ out_ ou_ pl_ hfu hi H locs hP hD hS ls hl
      refine lv_iload hx hb dX3_alike_22 (lv_at hl 0 rfl) ?_
      refine lv_iconst (v := nI 2) hx hb dX3_alike_24 (by decide) ?_
      refine lv_aload_n hx hb dX3_alike_25 rfl (lv_at hl 2 rfl) ?_
      refine xc_i (xr_V (b := q 0) (ci := 2) (q0 := 0) (As := []) (rest := [.int (nI 2), .int (nI i)]) (mt_X3_lines l D ca q (nI 0) st ik ln ou_ pa iw so na nb fo nu al be ke te ti ne wa ta_ out_ pl_ lo sh le C  H.size) ⟨hx, hb, hml, hown, hts⟩ (cwV 0 hts (lw_V q1696 q1698 qs45 q87 q1699) rfl rfl rfl (by decide +kernel) ⟨Nat.le_of_ble_eq_true rfl, Nat.le_of_ble_eq_true rfl⟩) Ev0_ok hE hK hS (Cut.all hP hD hS hA) rfl rfl rfl hl.1 rfl (Nat.le_of_ble_eq_true rfl) dX3_alike_26 ⟨Nat.le_of_ble_eq_true rfl, Nat.le_of_ble_eq_true rfl⟩) hS (Cut.all hP hD hS hA) (fun r_3 u_4 H locs hq_26 hP hD hS => ?_)
      have hP : va_P D vwCl (WM ca q (nI 0) st ik ln ou_ pa iw so na nb fo nu al (zOf C) be ke te ti ne wa ta_ out_ pl_ lo sh le) H := hP
      have hD : va_D A (WM ca q (nI 0) st ik ln ou_ pa iw so na nb fo nu al (zOf C) be ke te ti ne wa ta_ out_ pl_ lo sh le) := hD
      have hp_26 : r_3 = nI (6 + C 0) := hq_26
      clear hq_26
      obtain rfl := hp_26
      refine nv_imul hx hb dX3_alike_29 ?_
      refine nv_icmp_ge (tgt := 69) hx hb dX3_alike_30 (by decide) (by omega) (by omega) (fun c_30 => ?_) (fun c_30 => ?_)
      · skip
        have e_ : 2 * (6 + C 0) = i := Eq.symm (by omega)
        subst e_
        refine lv_lload_n hx hb dX3_alike_69 rfl (lv_at hl 1 rfl) ?_
        subst hQQ
        exact xe_l (v := lN (alk C F_ (2 * (6 + C 0)))) (ta_, out_, ou_, pl_) hx hb hr hlocks hK hP hD hS (rfl) dX3_alike_70
      · skip
        refine lv_aload_n hx hb dX3_alike_33 rfl (lv_at hl 2 rfl) ?_
        refine gWM_0_thrown_X3 hx hb hts hown hK hP dX3_alike_34 ?_
        refine nv_if_ne (tgt := 69) hx hb dX3_alike_37 (by decide) (by omega) (fun c_37 => absurd c_37 (by decide)) (fun c_37 => ?_)
        refine lv_lload_n hx hb dX3_alike_40 rfl (lv_at hl 1 rfl) ?_
        refine lv_aload_n hx hb dX3_alike_41 rfl (lv_at hl 2 rfl) ?_
        refine lv_iload hx hb dX3_alike_42 (lv_at hl 0 rfl) ?_
        refine lv_topi (nm_r (e' := fI (i + 1)) (fI_S i) ?_)
        refine lv_iload_n hx hb dX3_alike_44 rfl (lv_at hl 3 rfl) ?_
        refine xc_l (xr_V (b := q 0) (ci := 2) (q0 := 0) (As := [.int (fI (i + 1)), .int (fI F_)]) (rest := [.long (lN (alk C F_ i))]) (mt_X3_apart l D ca q (nI 0) st ik ln ou_ pa iw so na nb fo nu al be ke te ti ne wa ta_ out_ pl_ lo sh le C (i + 1) F_ (by first | assumption | omega | (simp only [updN, forgetC, changedC]; (repeat' split) <;> omega)) (by first | assumption | omega | (simp only [updN, forgetC, changedC]; (repeat' split) <;> omega)) (by first | assumption | omega | (simp only [updN, forgetC, changedC]; (repeat' split) <;> omega)) (by first | assumption | omega | (simp only [updN, forgetC, changedC]; (repeat' split) <;> omega)) (by first | assumption | omega | (simp only [updN, forgetC, changedC]; (repeat' split) <;> omega)) (by first | assumption | omega | (simp only [updN, forgetC, changedC]; (repeat' split) <;> omega)) (by first | assumption | omega | (simp only [updN, forgetC, changedC]; (repeat' split) <;> omega)) (by first | assumption | omega | (simp only [updN, forgetC, changedC]; (repeat' split) <;> omega)) H.size) ⟨hx, hb, hml, hown, hts⟩ (cwV 2 hts (lw_V q1836 q1838 qs66 q87 q1839) rfl rfl rfl (by decide +kernel) ⟨Nat.le_of_ble_eq_true rfl, Nat.le_of_ble_eq_true rfl⟩) Ev0_ok hE hK hS (Cut.all hP hD hS hA) rfl rfl rfl hl.1 rfl (Nat.le_of_ble_eq_true rfl) dX3_alike_45 ⟨Nat.le_of_ble_eq_true rfl, Nat.le_of_ble_eq_true rfl⟩) hS (Cut.all hP hD hS hA) (fun r_6 u_7 H locs hq_45 hP hD hS => ?_)
        obtain ⟨ta1_8, out1_9, pl1_10⟩ := u_7
        have hP : va_P D vwCl (WM ca q (nI 0) st ik ln (nI (no C)) pa iw so na nb fo nu al (zOf C) be ke te ti ne wa ta1_8 out1_9 pl1_10 lo sh le) H := hP
        have hD : va_D A (WM ca q (nI 0) st ik ln (nI (no C)) pa iw so na nb fo nu al (zOf C) be ke te ti ne wa ta1_8 out1_9 pl1_10 lo sh le) := hD
        have hp_45 : r_6 = apC C (i + 1) F_ := hq_45
        clear hq_45
        obtain rfl := hp_45
        refine lv_lconst (v := lN 0) hx hb dX3_alike_48 (by decide) ?_
        refine nv_lcmp_ne (tgt := 60) hx hb dX3_alike_49 dX3_alike_50 (by decide) (fun c_49 => ?_) (fun c_49 => ?_)
        · skip
          refine lv_lconst (v := lN 0) hx hb dX3_alike_60 (by decide) ?_
          refine lv_lor hx hb dX3_alike_61 ?_
          refine lv_topl (nm_r (e' := lN (alk C F_ (i + 1))) (by rw [lN_or]; simp only [alk]; rw [if_neg c_49]) ?_)
          refine lv_lstore_n (lv' := [(2, .long (lN (alk C F_ (i + 1)))), (4, .int (nI i)), (0, .ref (q 0)), (1, .int (fI F_))]) hx hb dX3_alike_62 rfl hl (by decide) rfl (fun ls hl => ?_)
          refine lv_iinc (v := nI (i + 1)) (lv' := [(4, .int (nI (i + 1))), (2, .long (lN (alk C F_ (i + 1)))), (0, .ref (q 0)), (1, .int (fI F_))]) hx hb dX3_alike_63 hl (k := 1) rfl (nI_add i 1) (by decide) rfl (fun ls hl => ?_)
          refine lv_goto (tgt := 22) hx hb dX3_alike_66 (by decide) ?_
          exact ih_22  (i + 1) ta1_8 out1_9 (nI (no C)) pl1_10 (by omega) (by omega) _ _ hP hD hS ls (lv_sub hl [0, 1, 2, 3] rfl)
        · skip
          refine lv_lconst (v := lN 1) hx hb dX3_alike_53 (by decide) ?_
          refine lv_iload hx hb dX3_alike_54 (lv_at hl 0 rfl) ?_
          refine lv_lshl (v := shl64 (lN 1) i) hx hb dX3_alike_56 rfl ?_
          refine lv_goto (tgt := 61) hx hb dX3_alike_57 (by decide) ?_
          refine lv_lor hx hb dX3_alike_61 ?_
          refine lv_topl (nm_r (e' := lN (alk C F_ (i + 1))) (by rw [shl_lN (by omega), lN_or]; simp only [alk]; rw [if_pos c_49]) ?_)
          refine lv_lstore_n (lv' := [(2, .long (lN (alk C F_ (i + 1)))), (4, .int (nI i)), (0, .ref (q 0)), (1, .int (fI F_))]) hx hb dX3_alike_62 rfl hl (by decide) rfl (fun ls hl => ?_)
          refine lv_iinc (v := nI (i + 1)) (lv' := [(4, .int (nI (i + 1))), (2, .long (lN (alk C F_ (i + 1)))), (0, .ref (q 0)), (1, .int (fI F_))]) hx hb dX3_alike_63 hl (k := 1) rfl (nI_add i 1) (by decide) rfl (fun ls hl => ?_)
          refine lv_goto (tgt := 22) hx hb dX3_alike_66 (by decide) ?_
          exact ih_22  (i + 1) ta1_8 out1_9 (nI (no C)) pl1_10 (by omega) (by omega) _ _ hP hD hS ls (lv_sub hl [0, 1, 2, 3] rfl)
  exact lp_22 (2 * (6 + C 0) - 0 + 1) 0 ta out ou pl (Nat.lt_succ_self _) (by omega) _ _ hP hD hS ls (lv_sub hl [0, 1, 2, 3] rfl)
set_option maxHeartbeats 4000000 in
set_option maxRecDepth 100000 in
theorem mt_X3_alike_no (l : Launch) (D : va_G) (ca : Nat → ClassId) (q : Nat → Nat) (th : Int32) (st : Int32) (ik : Int32) (ln : Int32) (ou : Int32) (pa : Int32) (iw : Int32) (so : Int32) (na : Int32) (nb : Int32) (fo : Int32) (nu : Int32) (al : Int32) (be : Nat → Int32) (ke : Nat → Int32) (te : Nat → Int32) (ti : Nat → Int32) (ne : Nat → Int32) (wa : Nat → Int32) (ta : Nat → Int64) (out : Nat → Int64) (pl : Nat → Int64) (lo : Nat → Int64) (sh : Nat → Int64) (le : Nat → Int64) (C : Nat → Nat) (x_ : Int32) (h0 : C 0 ≤ 12) (hc : inR (2 * (6 + C 0)) x_ = false) (nn : Nat) : Met l yX3_alike (ws_ yX3_alike cX3_alike 5 (Option.some Jvm.ClassFile.FieldType.long)) ({ frames := 2, cells := 0, slots := 0, locals := 43 } : Room) (va_Pc [.ref (q 0), .int x_] (PreW Ev0 D vwCl (TY ca) (WM ca q th st ik ln ou pa iw so na nb fo nu al (zOf C) be ke te ti ne wa ta out pl lo sh le) nn)) (va_Ql (fun (r_ : Int64) (_ : Unit) => r_ = lN 0) (PostW D vwCl (TY ca) (fun (_ : Unit) => (WM ca q (nI 1) st ik ln ou pa iw so na nb fo nu al (zOf C) be ke te ti ne wa ta out pl lo sh le)) (va_A (WM ca q th st ik ln ou pa iw so na nb fo nu al (zOf C) be ke te ti ne wa ta out pl lo sh le) nn)) (va_A (WM ca q th st ik ln ou pa iw so na nb fo nu al (zOf C) be ke te ti ne wa ta out pl lo sh le) nn)) 0 0 (va_A (WM ca q th st ik ln ou pa iw so na nb fo nu al (zOf C) be ke te ti ne wa ta out pl lo sh le) nn) := by
  refine met_go (QA := fun A => va_Ql (fun (r_ : Int64) (_ : Unit) => r_ = lN 0) (PostW D vwCl (TY ca) (fun (_ : Unit) => (WM ca q (nI 1) st ik ln ou pa iw so na nb fo nu al (zOf C) be ke te ti ne wa ta out pl lo sh le)) A) A) (by decide) (Nat.le_of_ble_eq_true rfl) (fun p e s m below meth c A ls QQ hQQ hx hb hr hts hown hlocks hml hA hP hK hD hE hl => ?_)
  have hown : s.vm.findClass RX3 = some m.cls := hown
  have hS : va_S A s.heap s.heap [] := va_S.rf
  have hl : lv_has ls 5 [(0, .ref (q 0)), (1, .int x_)] := hl
  generalize hHe : s.heap = H at hP ⊢
  have hS : va_S A s.heap H [] := hHe ▸ hS
  generalize ([] : List Loc) = locs at hS ⊢
  refine lv_aload_n hx hb dX3_alike_0 rfl (lv_at hl 0 rfl) ?_
  refine lv_aload_n hx hb dX3_alike_1 rfl (lv_at hl 0 rfl) ?_
  refine lv_iload_n hx hb dX3_alike_2 rfl (lv_at hl 1 rfl) ?_
  refine xc_i (xr_V (b := q 0) (ci := 2) (q0 := 0) (As := [.int x_]) (rest := [.ref (q 0)]) (mt_X3_isFault l D ca q th st ik ln ou pa iw so na nb fo nu al be ke te ti ne wa ta out pl lo sh le C x_ (by first | assumption | omega | (simp only [updN, forgetC, changedC]; (repeat' split) <;> omega)) H.size) ⟨hx, hb, hml, hown, hts⟩ (cwV 1 hts (lw_V q1715 q1717 qs49 q87 q1718) rfl rfl rfl (by decide +kernel) ⟨Nat.le_of_ble_eq_true rfl, Nat.le_of_ble_eq_true rfl⟩) Ev0_ok hE hK hS (Cut.all hP hD hS hA) rfl rfl rfl hl.1 rfl (Nat.le_of_ble_eq_true rfl) dX3_alike_3 ⟨Nat.le_of_ble_eq_true rfl, Nat.le_of_ble_eq_true rfl⟩) hS (Cut.all hP hD hS hA) (fun r_1 u_2 H locs hq_3 hP hD hS => ?_)
  have hP : va_P D vwCl (WM ca q th st ik ln ou pa iw so na nb fo nu al (zOf C) be ke te ti ne wa ta out pl lo sh le) H := hP
  have hD : va_D A (WM ca q th st ik ln ou pa iw so na nb fo nu al (zOf C) be ke te ti ne wa ta out pl lo sh le) := hD
  have hp_3 : r_1 = bI (inR (2 * (6 + C 0)) x_) := hq_3
  clear hq_3
  obtain rfl := hp_3
  refine nv_ifb_eq (tgt := 13) hx hb dX3_alike_6 (by decide) (fun c_6 => ?_) (fun c_6 => (absurd c_6 (by rw [hc]; decide)))
  refine lv_iconst (v := nI 1) hx hb dX3_alike_13 (by decide) ?_
  refine pWM_0_thrown_X3 hx hb hts hown hK hP hD hS dX3_alike_14 (fun H locs hP hD hS => ?_)
  refine lv_lconst (v := lN 0) hx hb dX3_alike_17 (by decide) ?_
  refine lv_lstore_n (lv' := [(2, .long (lN 0)), (0, .ref (q 0)), (1, .int x_)]) hx hb dX3_alike_18 rfl hl (by decide) rfl (fun ls hl => ?_)
  refine lv_iconst (v := nI 0) hx hb dX3_alike_19 (by decide) ?_
  refine lv_istore (lv' := [(4, .int (nI 0)), (2, .long (lN 0)), (0, .ref (q 0)), (1, .int x_)]) hx hb dX3_alike_20 hl (by decide) rfl (fun ls hl => ?_)
  refine lv_iload hx hb dX3_alike_22 (lv_at hl 0 rfl) ?_
  refine lv_iconst (v := nI 2) hx hb dX3_alike_24 (by decide) ?_
  refine lv_aload_n hx hb dX3_alike_25 rfl (lv_at hl 2 rfl) ?_
  refine xc_i (xr_V (b := q 0) (ci := 2) (q0 := 0) (As := []) (rest := [.int (nI 2), .int (nI 0)]) (mt_X3_lines l D ca q (nI 1) st ik ln ou pa iw so na nb fo nu al be ke te ti ne wa ta out pl lo sh le C  H.size) ⟨hx, hb, hml, hown, hts⟩ (cwV 0 hts (lw_V q1696 q1698 qs45 q87 q1699) rfl rfl rfl (by decide +kernel) ⟨Nat.le_of_ble_eq_true rfl, Nat.le_of_ble_eq_true rfl⟩) Ev0_ok hE hK hS (Cut.all hP hD hS hA) rfl rfl rfl hl.1 rfl (Nat.le_of_ble_eq_true rfl) dX3_alike_26 ⟨Nat.le_of_ble_eq_true rfl, Nat.le_of_ble_eq_true rfl⟩) hS (Cut.all hP hD hS hA) (fun r_3 u_4 H locs hq_26 hP hD hS => ?_)
  have hP : va_P D vwCl (WM ca q (nI 1) st ik ln ou pa iw so na nb fo nu al (zOf C) be ke te ti ne wa ta out pl lo sh le) H := hP
  have hD : va_D A (WM ca q (nI 1) st ik ln ou pa iw so na nb fo nu al (zOf C) be ke te ti ne wa ta out pl lo sh le) := hD
  have hp_26 : r_3 = nI (6 + C 0) := hq_26
  clear hq_26
  obtain rfl := hp_26
  refine nv_imul hx hb dX3_alike_29 ?_
  refine nv_icmp_ge (tgt := 69) hx hb dX3_alike_30 (by decide) (by omega) (by omega) (fun c_30 => ?_) (fun c_30 => ?_)
  · skip
    refine lv_lload_n hx hb dX3_alike_69 rfl (lv_at hl 1 rfl) ?_
    subst hQQ
    exact xe_l (v := lN 0) () hx hb hr hlocks hK hP hD hS (rfl) dX3_alike_70
  · skip
    refine lv_aload_n hx hb dX3_alike_33 rfl (lv_at hl 2 rfl) ?_
    refine gWM_0_thrown_X3 hx hb hts hown hK hP dX3_alike_34 ?_
    refine nv_if_ne (tgt := 69) hx hb dX3_alike_37 (by decide) (by omega) (fun c_37 => ?_) (fun c_37 => absurd c_37 (by decide))
    refine lv_lload_n hx hb dX3_alike_69 rfl (lv_at hl 1 rfl) ?_
    subst hQQ
    exact xe_l (v := lN 0) () hx hb hr hlocks hK hP hD hS (rfl) dX3_alike_70
set_option maxHeartbeats 4000000 in
set_option maxRecDepth 100000 in
theorem mt_X3_shownBy_ok (l : Launch) (D : va_G) (ca : Nat → ClassId) (q : Nat → Nat) (th : Int32) (st : Int32) (ik : Int32) (ln : Int32) (ou : Int32) (pa : Int32) (iw : Int32) (so : Int32) (na : Int32) (nb : Int32) (fo : Int32) (nu : Int32) (al : Int32) (be : Nat → Int32) (ke : Nat → Int32) (te : Nat → Int32) (ti : Nat → Int32) (ne : Nat → Int32) (wa : Nat → Int32) (ta : Nat → Int64) (out : Nat → Int64) (pl : Nat → Int64) (lo : Nat → Int64) (sh : Nat → Int64) (le : Nat → Int64) (C : Nat → Nat) (T_ : Int64) (h0 : C 0 ≤ 12) (hkd0 : ∀ k, k < 12 → C (1 + k) < 8) (hse : ∀ k, k < 12 → C (13 + k) < 6 + k ∧ C (25 + k) < 6 + k) (ho : C 37 < 2 ^ 18) (hbx : C 38 < 2 ^ 18) (hno : popc 18 (C 37) ≤ 4) (nn : Nat) : Met l yX3_shownBy (ws_ yX3_shownBy cX3_shownBy 5 (Option.some Jvm.ClassFile.FieldType.int)) ({ frames := 3, cells := 0, slots := 0, locals := 76 } : Room) (va_Pc [.ref (q 0), .long T_] (PreW Ev0 D vwCl (TY ca) (WM ca q th st ik ln ou pa iw so na nb fo nu al (zOf C) be ke te ti ne wa ta out pl lo sh le) nn)) (va_Qi (fun (r_ : Int32) (u_ : (Nat → Int64) × (Nat → Int64) × Int32 × (Nat → Int64)) => r_ = nI (sbn C T_ (2 * (6 + C 0)))) (PostW D vwCl (TY ca) (fun (u_ : (Nat → Int64) × (Nat → Int64) × Int32 × (Nat → Int64)) => (WM ca q (nI 0) st ik ln u_.2.2.1 pa iw so na nb fo nu al (zOf C) be ke te ti ne wa u_.1 u_.2.1 u_.2.2.2 lo sh le)) (va_A (WM ca q th st ik ln ou pa iw so na nb fo nu al (zOf C) be ke te ti ne wa ta out pl lo sh le) nn)) (va_A (WM ca q th st ik ln ou pa iw so na nb fo nu al (zOf C) be ke te ti ne wa ta out pl lo sh le) nn)) 0 0 (va_A (WM ca q th st ik ln ou pa iw so na nb fo nu al (zOf C) be ke te ti ne wa ta out pl lo sh le) nn) := by
  refine met_go (QA := fun A => va_Qi (fun (r_ : Int32) (u_ : (Nat → Int64) × (Nat → Int64) × Int32 × (Nat → Int64)) => r_ = nI (sbn C T_ (2 * (6 + C 0)))) (PostW D vwCl (TY ca) (fun (u_ : (Nat → Int64) × (Nat → Int64) × Int32 × (Nat → Int64)) => (WM ca q (nI 0) st ik ln u_.2.2.1 pa iw so na nb fo nu al (zOf C) be ke te ti ne wa u_.1 u_.2.1 u_.2.2.2 lo sh le)) A) A) (by decide) (Nat.le_of_ble_eq_true rfl) (fun p e s m below meth c A ls QQ hQQ hx hb hr hts hown hlocks hml hA hP hK hD hE hl => ?_)
  have hown : s.vm.findClass RX3 = some m.cls := hown
  have hS : va_S A s.heap s.heap [] := va_S.rf
  have hl : lv_has ls 5 [(0, .ref (q 0)), (1, .long T_)] := hl
  generalize hHe : s.heap = H at hP ⊢
  have hS : va_S A s.heap H [] := hHe ▸ hS
  generalize ([] : List Loc) = locs at hS ⊢
  refine lv_aload_n hx hb dX3_shownBy_0 rfl (lv_at hl 0 rfl) ?_
  refine lv_iconst (v := nI 0) hx hb dX3_shownBy_1 (by decide) ?_
  refine pWM_0_thrown_X3 hx hb hts hown hK hP hD hS dX3_shownBy_2 (fun H locs hP hD hS => ?_)
  refine lv_iconst (v := nI 0) hx hb dX3_shownBy_5 (by decide) ?_
  refine lv_istore_n (lv' := [(3, .int (nI 0)), (0, .ref (q 0)), (1, .long T_)]) hx hb dX3_shownBy_6 rfl hl (by decide) rfl (fun ls hl => ?_)
  refine lv_iconst (v := nI 0) hx hb dX3_shownBy_7 (by decide) ?_
  refine lv_istore (lv' := [(4, .int (nI 0)), (3, .int (nI 0)), (0, .ref (q 0)), (1, .long T_)]) hx hb dX3_shownBy_8 hl (by decide) rfl (fun ls hl => ?_)
  have lp_10 : ∀ (fu_10 : Nat) (i : Nat) (ta_ : Nat → Int64) (out_ : Nat → Int64) (ou_ : Int32) (pl_ : Nat → Int64), 2 * (6 + C 0) - i < fu_10 → (i ≤ 2 * (6 + C 0)) → ∀ (H : Heap) (locs : List Loc), va_P D vwCl (WM ca q (nI 0) st ik ln ou_ pa iw so na nb fo nu al (zOf C) be ke te ti ne wa ta_ out_ pl_ lo sh le) H → va_D A (WM ca q (nI 0) st ik ln ou_ pa iw so na nb fo nu al (zOf C) be ke te ti ne wa ta_ out_ pl_ lo sh le) → va_S A s.heap H locs → ∀ (ls : Array Slot), lv_has ls 5 [(4, .int (nI i)), (3, .int (nI (sbn C T_ i))), (0, .ref (q 0)), (1, .long T_)] → W p l e ({ frames := 3, cells := 0, slots := 0, locals := 76 } : Room) s m ([.ref (q 0), .long T_] : List Value).toArray below meth c H locs 0 0 QQ (F0 m 10 ls []) := by
    intro fu_10
    induction fu_10 with
    | zero => intro i ta_ out_ ou_ pl_ hfu; exact absurd hfu (Nat.not_lt_zero _)
    | succ fu_10 ih_10 =>
      intro i ta_ out_ ou_ pl_ hfu hi H locs hP hD hS ls hl
      refine lv_iload hx hb dX3_shownBy_10 (lv_at hl 0 rfl) ?_
      refine lv_iconst (v := nI 2) hx hb dX3_shownBy_12 (by decide) ?_
      refine lv_aload_n hx hb dX3_shownBy_13 rfl (lv_at hl 2 rfl) ?_
      refine xc_i (xr_V (b := q 0) (ci := 2) (q0 := 0) (As := []) (rest := [.int (nI 2), .int (nI i)]) (mt_X3_lines l D ca q (nI 0) st ik ln ou_ pa iw so na nb fo nu al be ke te ti ne wa ta_ out_ pl_ lo sh le C  H.size) ⟨hx, hb, hml, hown, hts⟩ (cwV 0 hts (lw_V q1696 q1698 qs45 q87 q1699) rfl rfl rfl (by decide +kernel) ⟨Nat.le_of_ble_eq_true rfl, Nat.le_of_ble_eq_true rfl⟩) Ev0_ok hE hK hS (Cut.all hP hD hS hA) rfl rfl rfl hl.1 rfl (Nat.le_of_ble_eq_true rfl) dX3_shownBy_14 ⟨Nat.le_of_ble_eq_true rfl, Nat.le_of_ble_eq_true rfl⟩) hS (Cut.all hP hD hS hA) (fun r_1 u_2 H locs hq_14 hP hD hS => ?_)
      have hP : va_P D vwCl (WM ca q (nI 0) st ik ln ou_ pa iw so na nb fo nu al (zOf C) be ke te ti ne wa ta_ out_ pl_ lo sh le) H := hP
      have hD : va_D A (WM ca q (nI 0) st ik ln ou_ pa iw so na nb fo nu al (zOf C) be ke te ti ne wa ta_ out_ pl_ lo sh le) := hD
      have hp_14 : r_1 = nI (6 + C 0) := hq_14
      clear hq_14
      obtain rfl := hp_14
      refine nv_imul hx hb dX3_shownBy_17 ?_
      refine nv_icmp_ge (tgt := 49) hx hb dX3_shownBy_18 (by decide) (by omega) (by omega) (fun c_18 => ?_) (fun c_18 => ?_)
      · skip
        have e_ : 2 * (6 + C 0) = i := Eq.symm (by omega)
        subst e_
        refine lv_iload_n hx hb dX3_shownBy_49 rfl (lv_at hl 1 rfl) ?_
        subst hQQ
        exact xe_i (v := nI (sbn C T_ (2 * (6 + C 0)))) (ta_, out_, ou_, pl_) hx hb hr hlocks hK hP hD hS (rfl) dX3_shownBy_50
      · skip
        refine lv_iload_n hx hb dX3_shownBy_21 rfl (lv_at hl 1 rfl) ?_
        refine lv_aload_n hx hb dX3_shownBy_22 rfl (lv_at hl 2 rfl) ?_
        refine lv_iload hx hb dX3_shownBy_23 (lv_at hl 0 rfl) ?_
        refine lv_topi (nm_r (e' := fI (i + 1)) (fI_S i) ?_)
        refine lv_iconst (v := fI 0) hx hb dX3_shownBy_25 (by decide) ?_
        refine xc_l (xr_V (b := q 0) (ci := 2) (q0 := 0) (As := [.int (fI (i + 1)), .int (fI 0)]) (rest := [.int (nI (sbn C T_ i))]) (mt_X3_apart l D ca q (nI 0) st ik ln ou_ pa iw so na nb fo nu al be ke te ti ne wa ta_ out_ pl_ lo sh le C (i + 1) 0 (by first | assumption | omega | (simp only [updN, forgetC, changedC]; (repeat' split) <;> omega)) (by first | assumption | omega | (simp only [updN, forgetC, changedC]; (repeat' split) <;> omega)) (by first | assumption | omega | (simp only [updN, forgetC, changedC]; (repeat' split) <;> omega)) (by first | assumption | omega | (simp only [updN, forgetC, changedC]; (repeat' split) <;> omega)) (by first | assumption | omega | (simp only [updN, forgetC, changedC]; (repeat' split) <;> omega)) (by first | assumption | omega | (simp only [updN, forgetC, changedC]; (repeat' split) <;> omega)) (by first | assumption | omega | (simp only [updN, forgetC, changedC]; (repeat' split) <;> omega)) (by first | assumption | omega | (simp only [updN, forgetC, changedC]; (repeat' split) <;> omega)) H.size) ⟨hx, hb, hml, hown, hts⟩ (cwV 2 hts (lw_V q1836 q1838 qs66 q87 q1839) rfl rfl rfl (by decide +kernel) ⟨Nat.le_of_ble_eq_true rfl, Nat.le_of_ble_eq_true rfl⟩) Ev0_ok hE hK hS (Cut.all hP hD hS hA) rfl rfl rfl hl.1 rfl (Nat.le_of_ble_eq_true rfl) dX3_shownBy_26 ⟨Nat.le_of_ble_eq_true rfl, Nat.le_of_ble_eq_true rfl⟩) hS (Cut.all hP hD hS hA) (fun r_4 u_5 H locs hq_26 hP hD hS => ?_)
        obtain ⟨ta1_6, out1_7, pl1_8⟩ := u_5
        have hP : va_P D vwCl (WM ca q (nI 0) st ik ln (nI (no C)) pa iw so na nb fo nu al (zOf C) be ke te ti ne wa ta1_6 out1_7 pl1_8 lo sh le) H := hP
        have hD : va_D A (WM ca q (nI 0) st ik ln (nI (no C)) pa iw so na nb fo nu al (zOf C) be ke te ti ne wa ta1_6 out1_7 pl1_8 lo sh le) := hD
        have hp_26 : r_4 = apC C (i + 1) 0 := hq_26
        clear hq_26
        obtain rfl := hp_26
        refine lv_lload_n hx hb dX3_shownBy_29 rfl (lv_at hl 3 rfl) ?_
        refine lv_land hx hb dX3_shownBy_30 ?_
        refine lv_lconst (v := lN 0) hx hb dX3_shownBy_31 (by decide) ?_
        refine nv_lcmp_eq (tgt := 40) hx hb dX3_shownBy_32 dX3_shownBy_33 (by decide) (fun c_32 => ?_) (fun c_32 => ?_)
        · skip
          refine lv_iconst (v := nI 0) hx hb dX3_shownBy_40 (by decide) ?_
          refine nv_iadd hx hb dX3_shownBy_41 ?_
          refine lv_topi (nm_r (e' := nI (sbn C T_ (i + 1))) (congrArg nI (by simp only [sbn]; rw [if_pos c_32])) ?_)
          refine lv_istore_n (lv' := [(3, .int (nI (sbn C T_ (i + 1)))), (4, .int (nI i)), (0, .ref (q 0)), (1, .long T_)]) hx hb dX3_shownBy_42 rfl hl (by decide) rfl (fun ls hl => ?_)
          refine lv_iinc (v := nI (i + 1)) (lv' := [(4, .int (nI (i + 1))), (3, .int (nI (sbn C T_ (i + 1)))), (0, .ref (q 0)), (1, .long T_)]) hx hb dX3_shownBy_43 hl (k := 1) rfl (nI_add i 1) (by decide) rfl (fun ls hl => ?_)
          refine lv_goto (tgt := 10) hx hb dX3_shownBy_46 (by decide) ?_
          exact ih_10  (i + 1) ta1_6 out1_7 (nI (no C)) pl1_8 (by omega) (by omega) _ _ hP hD hS ls (lv_sub hl [0, 1, 2, 3] rfl)
        · skip
          refine lv_iconst (v := nI 1) hx hb dX3_shownBy_36 (by decide) ?_
          refine lv_goto (tgt := 41) hx hb dX3_shownBy_37 (by decide) ?_
          refine nv_iadd hx hb dX3_shownBy_41 ?_
          refine lv_topi (nm_r (e' := nI (sbn C T_ (i + 1))) (congrArg nI (by simp only [sbn]; rw [if_neg c_32])) ?_)
          refine lv_istore_n (lv' := [(3, .int (nI (sbn C T_ (i + 1)))), (4, .int (nI i)), (0, .ref (q 0)), (1, .long T_)]) hx hb dX3_shownBy_42 rfl hl (by decide) rfl (fun ls hl => ?_)
          refine lv_iinc (v := nI (i + 1)) (lv' := [(4, .int (nI (i + 1))), (3, .int (nI (sbn C T_ (i + 1)))), (0, .ref (q 0)), (1, .long T_)]) hx hb dX3_shownBy_43 hl (k := 1) rfl (nI_add i 1) (by decide) rfl (fun ls hl => ?_)
          refine lv_goto (tgt := 10) hx hb dX3_shownBy_46 (by decide) ?_
          exact ih_10  (i + 1) ta1_6 out1_7 (nI (no C)) pl1_8 (by omega) (by omega) _ _ hP hD hS ls (lv_sub hl [0, 1, 2, 3] rfl)
  exact lp_10 (2 * (6 + C 0) - 0 + 1) 0 ta out ou pl (Nat.lt_succ_self _) (by omega) _ _ hP hD hS ls (lv_sub hl [0, 1, 2, 3] rfl)
set_option maxHeartbeats 4000000 in
set_option maxRecDepth 100000 in
theorem mt_X3_neededTests_ok (l : Launch) (D : va_G) (ca : Nat → ClassId) (q : Nat → Nat) (th : Int32) (st : Int32) (ik : Int32) (ln : Int32) (ou : Int32) (pa : Int32) (iw : Int32) (so : Int32) (na : Int32) (nb : Int32) (fo : Int32) (nu : Int32) (al : Int32) (be : Nat → Int32) (ke : Nat → Int32) (te : Nat → Int32) (ti : Nat → Int32) (ne : Nat → Int32) (wa : Nat → Int32) (ta : Nat → Int64) (out : Nat → Int64) (pl : Nat → Int64) (lo : Nat → Int64) (sh : Nat → Int64) (le : Nat → Int64) (C : Nat → Nat) (h0 : C 0 ≤ 12) (hkd0 : ∀ k, k < 12 → C (1 + k) < 8) (hse : ∀ k, k < 12 → C (13 + k) < 6 + k ∧ C (25 + k) < 6 + k) (ho : C 37 < 2 ^ 18) (hbx : C 38 < 2 ^ 18) (hno : popc 18 (C 37) ≤ 4) (nn : Nat) : Met l yX3_neededTests (ws_ yX3_neededTests cX3_neededTests 6 (Option.some Jvm.ClassFile.FieldType.long)) ({ frames := 3, cells := 0, slots := 0, locals := 76 } : Room) (va_Pc [.ref (q 0)] (PreW Ev0 D vwCl (TY ca) (WM ca q th st ik ln ou pa iw so na nb fo nu al (zOf C) be ke te ti ne wa ta out pl lo sh le) nn)) (va_Ql (fun (r_ : Int64) (u_ : (Nat → Int64) × (Nat → Int64) × Int32 × (Nat → Int64)) => r_ = ndd C (2 * (6 + C 0))) (PostW D vwCl (TY ca) (fun (u_ : (Nat → Int64) × (Nat → Int64) × Int32 × (Nat → Int64)) => (WM ca q (nI 0) st ik ln u_.2.2.1 pa iw so na nb fo nu al (zOf C) be ke te ti ne wa u_.1 u_.2.1 u_.2.2.2 lo sh le)) (va_A (WM ca q th st ik ln ou pa iw so na nb fo nu al (zOf C) be ke te ti ne wa ta out pl lo sh le) nn)) (va_A (WM ca q th st ik ln ou pa iw so na nb fo nu al (zOf C) be ke te ti ne wa ta out pl lo sh le) nn)) 0 0 (va_A (WM ca q th st ik ln ou pa iw so na nb fo nu al (zOf C) be ke te ti ne wa ta out pl lo sh le) nn) := by
  refine met_go (QA := fun A => va_Ql (fun (r_ : Int64) (u_ : (Nat → Int64) × (Nat → Int64) × Int32 × (Nat → Int64)) => r_ = ndd C (2 * (6 + C 0))) (PostW D vwCl (TY ca) (fun (u_ : (Nat → Int64) × (Nat → Int64) × Int32 × (Nat → Int64)) => (WM ca q (nI 0) st ik ln u_.2.2.1 pa iw so na nb fo nu al (zOf C) be ke te ti ne wa u_.1 u_.2.1 u_.2.2.2 lo sh le)) A) A) (by decide) (Nat.le_of_ble_eq_true rfl) (fun p e s m below meth c A ls QQ hQQ hx hb hr hts hown hlocks hml hA hP hK hD hE hl => ?_)
  have hown : s.vm.findClass RX3 = some m.cls := hown
  have hS : va_S A s.heap s.heap [] := va_S.rf
  have hl : lv_has ls 6 [(0, .ref (q 0))] := hl
  generalize hHe : s.heap = H at hP ⊢
  have hS : va_S A s.heap H [] := hHe ▸ hS
  generalize ([] : List Loc) = locs at hS ⊢
  refine lv_aload_n hx hb dX3_neededTests_0 rfl (lv_at hl 0 rfl) ?_
  refine lv_iconst (v := nI 0) hx hb dX3_neededTests_1 (by decide) ?_
  refine pWM_0_thrown_X3 hx hb hts hown hK hP hD hS dX3_neededTests_2 (fun H locs hP hD hS => ?_)
  refine lv_lconst (v := lN 0) hx hb dX3_neededTests_5 (by decide) ?_
  refine lv_lstore_n (lv' := [(1, .long (lN 0)), (0, .ref (q 0))]) hx hb dX3_neededTests_6 rfl hl (by decide) rfl (fun ls hl => ?_)
  refine lv_iconst (v := nI 0) hx hb dX3_neededTests_7 (by decide) ?_
  refine lv_istore_n (lv' := [(3, .int (nI 0)), (1, .long (lN 0)), (0, .ref (q 0))]) hx hb dX3_neededTests_8 rfl hl (by decide) rfl (fun ls hl => ?_)
  have lp_9 : ∀ (fu_9 : Nat) (i : Nat) (ta_ : Nat → Int64) (out_ : Nat → Int64) (ou_ : Int32) (pl_ : Nat → Int64), 2 * (6 + C 0) - i < fu_9 → (i ≤ 2 * (6 + C 0)) → ∀ (H : Heap) (locs : List Loc), va_P D vwCl (WM ca q (nI 0) st ik ln ou_ pa iw so na nb fo nu al (zOf C) be ke te ti ne wa ta_ out_ pl_ lo sh le) H → va_D A (WM ca q (nI 0) st ik ln ou_ pa iw so na nb fo nu al (zOf C) be ke te ti ne wa ta_ out_ pl_ lo sh le) → va_S A s.heap H locs → ∀ (ls : Array Slot), lv_has ls 6 [(3, .int (nI i)), (1, .long (ndd C i)), (0, .ref (q 0))] → W p l e ({ frames := 3, cells := 0, slots := 0, locals := 76 } : Room) s m ([.ref (q 0)] : List Value).toArray below meth c H locs 0 0 QQ (F0 m 9 ls []) := by
    intro fu_9
    induction fu_9 with
    | zero => intro i ta_ out_ ou_ pl_ hfu; exact absurd hfu (Nat.not_lt_zero _)
    | succ fu_9 ih_9 =>
      intro i ta_ out_ ou_ pl_ hfu hi H locs hP hD hS ls hl
      refine lv_iload_n hx hb dX3_neededTests_9 rfl (lv_at hl 0 rfl) ?_
      refine lv_iconst (v := nI 2) hx hb dX3_neededTests_10 (by decide) ?_
      refine lv_aload_n hx hb dX3_neededTests_11 rfl (lv_at hl 2 rfl) ?_
      refine xc_i (xr_V (b := q 0) (ci := 2) (q0 := 0) (As := []) (rest := [.int (nI 2), .int (nI i)]) (mt_X3_lines l D ca q (nI 0) st ik ln ou_ pa iw so na nb fo nu al be ke te ti ne wa ta_ out_ pl_ lo sh le C  H.size) ⟨hx, hb, hml, hown, hts⟩ (cwV 0 hts (lw_V q1696 q1698 qs45 q87 q1699) rfl rfl rfl (by decide +kernel) ⟨Nat.le_of_ble_eq_true rfl, Nat.le_of_ble_eq_true rfl⟩) Ev0_ok hE hK hS (Cut.all hP hD hS hA) rfl rfl rfl hl.1 rfl (Nat.le_of_ble_eq_true rfl) dX3_neededTests_12 ⟨Nat.le_of_ble_eq_true rfl, Nat.le_of_ble_eq_true rfl⟩) hS (Cut.all hP hD hS hA) (fun r_1 u_2 H locs hq_12 hP hD hS => ?_)
      have hP : va_P D vwCl (WM ca q (nI 0) st ik ln ou_ pa iw so na nb fo nu al (zOf C) be ke te ti ne wa ta_ out_ pl_ lo sh le) H := hP
      have hD : va_D A (WM ca q (nI 0) st ik ln ou_ pa iw so na nb fo nu al (zOf C) be ke te ti ne wa ta_ out_ pl_ lo sh le) := hD
      have hp_12 : r_1 = nI (6 + C 0) := hq_12
      clear hq_12
      obtain rfl := hp_12
      refine nv_imul hx hb dX3_neededTests_15 ?_
      refine nv_icmp_ge (tgt := 51) hx hb dX3_neededTests_16 (by decide) (by omega) (by omega) (fun c_16 => ?_) (fun c_16 => ?_)
      · skip
        have e_ : 2 * (6 + C 0) = i := Eq.symm (by omega)
        subst e_
        refine lv_lload_n hx hb dX3_neededTests_51 rfl (lv_at hl 1 rfl) ?_
        subst hQQ
        exact xe_l (v := ndd C (2 * (6 + C 0))) (ta_, out_, ou_, pl_) hx hb hr hlocks hK hP hD hS (rfl) dX3_neededTests_52
      · skip
        refine lv_aload_n hx hb dX3_neededTests_19 rfl (lv_at hl 2 rfl) ?_
        refine lv_iload_n hx hb dX3_neededTests_20 rfl (lv_at hl 0 rfl) ?_
        refine lv_topi (nm_r (e' := fI (i + 1)) (fI_S i) ?_)
        refine lv_iconst (v := fI 0) hx hb dX3_neededTests_21 (by decide) ?_
        refine xc_l (xr_V (b := q 0) (ci := 2) (q0 := 0) (As := [.int (fI (i + 1)), .int (fI 0)]) (rest := []) (mt_X3_apart l D ca q (nI 0) st ik ln ou_ pa iw so na nb fo nu al be ke te ti ne wa ta_ out_ pl_ lo sh le C (i + 1) 0 (by first | assumption | omega | (simp only [updN, forgetC, changedC]; (repeat' split) <;> omega)) (by first | assumption | omega | (simp only [updN, forgetC, changedC]; (repeat' split) <;> omega)) (by first | assumption | omega | (simp only [updN, forgetC, changedC]; (repeat' split) <;> omega)) (by first | assumption | omega | (simp only [updN, forgetC, changedC]; (repeat' split) <;> omega)) (by first | assumption | omega | (simp only [updN, forgetC, changedC]; (repeat' split) <;> omega)) (by first | assumption | omega | (simp only [updN, forgetC, changedC]; (repeat' split) <;> omega)) (by first | assumption | omega | (simp only [updN, forgetC, changedC]; (repeat' split) <;> omega)) (by first | assumption | omega | (simp only [updN, forgetC, changedC]; (repeat' split) <;> omega)) H.size) ⟨hx, hb, hml, hown, hts⟩ (cwV 2 hts (lw_V q1836 q1838 qs66 q87 q1839) rfl rfl rfl (by decide +kernel) ⟨Nat.le_of_ble_eq_true rfl, Nat.le_of_ble_eq_true rfl⟩) Ev0_ok hE hK hS (Cut.all hP hD hS hA) rfl rfl rfl hl.1 rfl (Nat.le_of_ble_eq_true rfl) dX3_neededTests_22 ⟨Nat.le_of_ble_eq_true rfl, Nat.le_of_ble_eq_true rfl⟩) hS (Cut.all hP hD hS hA) (fun r_4 u_5 H locs hq_22 hP hD hS => ?_)
        obtain ⟨ta1_6, out1_7, pl1_8⟩ := u_5
        have hP : va_P D vwCl (WM ca q (nI 0) st ik ln (nI (no C)) pa iw so na nb fo nu al (zOf C) be ke te ti ne wa ta1_6 out1_7 pl1_8 lo sh le) H := hP
        have hD : va_D A (WM ca q (nI 0) st ik ln (nI (no C)) pa iw so na nb fo nu al (zOf C) be ke te ti ne wa ta1_6 out1_7 pl1_8 lo sh le) := hD
        have hp_22 : r_4 = apC C (i + 1) 0 := hq_22
        clear hq_22
        obtain rfl := hp_22
        refine lv_lstore (lv' := [(4, .long (apC C (i + 1) 0)), (3, .int (nI i)), (1, .long (ndd C i)), (0, .ref (q 0))]) hx hb dX3_neededTests_25 hl (by decide) rfl (fun ls hl => ?_)
        refine lv_lload_n hx hb dX3_neededTests_27 rfl (lv_at hl 2 rfl) ?_
        refine lv_lload hx hb dX3_neededTests_28 (lv_at hl 0 rfl) ?_
        refine xc_i (xr_S (As := [.long (apC C (i + 1) 0)]) (rest := [.long (ndd C i)]) (mt_X3_countLong l D ca (apC C (i + 1) 0)  H.size) ⟨hx, hb, hml, hown, hts⟩ (va_cwS 1 hts (lw_S q1840 q1841 q87 q1842) rfl rfl rfl (by decide +kernel) ⟨Nat.le_of_ble_eq_true rfl, Nat.le_of_ble_eq_true rfl⟩) Ev0_ok hE hK hS (Cut.app (wc := []) (wr := (WM ca q (nI 0) st ik ln (nI (no C)) pa iw so na nb fo nu al (zOf C) be ke te ti ne wa ta1_6 out1_7 pl1_8 lo sh le)) hP hD hS hA) rfl hl.1 rfl (Nat.le_of_ble_eq_true rfl) dX3_neededTests_30 ⟨Nat.le_of_ble_eq_true rfl, Nat.le_of_ble_eq_true rfl⟩) hS (Cut.app (wc := []) (wr := (WM ca q (nI 0) st ik ln (nI (no C)) pa iw so na nb fo nu al (zOf C) be ke te ti ne wa ta1_6 out1_7 pl1_8 lo sh le)) hP hD hS hA) (fun r_9 u_10 H locs hq_30 hP hD hS => ?_)
        have hP : va_P D vwCl (WM ca q (nI 0) st ik ln (nI (no C)) pa iw so na nb fo nu al (zOf C) be ke te ti ne wa ta1_6 out1_7 pl1_8 lo sh le) H := hP
        have hD : va_D A (WM ca q (nI 0) st ik ln (nI (no C)) pa iw so na nb fo nu al (zOf C) be ke te ti ne wa ta1_6 out1_7 pl1_8 lo sh le) := hD
        have hp_30 : r_9 = nI (popl 64 (apC C (i + 1) 0)) := hq_30
        clear hq_30
        obtain rfl := hp_30
        refine lv_iconst (v := nI 1) hx hb dX3_neededTests_33 (by decide) ?_
        refine nv_icmp_ne (tgt := 42) hx hb dX3_neededTests_34 (by decide) (by have := popl_le 64 (apC C (i + 1) 0); omega) (by omega) (fun c_34 => ?_) (fun c_34 => ?_)
        · skip
          refine lv_lconst (v := lN 0) hx hb dX3_neededTests_42 (by decide) ?_
          refine lv_lor hx hb dX3_neededTests_43 ?_
          refine lv_topl (nm_r (e' := ndd C (i + 1)) (by simp only [ndd]; rw [if_neg c_34]) ?_)
          refine lv_lstore_n (lv' := [(1, .long (ndd C (i + 1))), (4, .long (apC C (i + 1) 0)), (3, .int (nI i)), (0, .ref (q 0))]) hx hb dX3_neededTests_44 rfl hl (by decide) rfl (fun ls hl => ?_)
          refine lv_iinc (v := nI (i + 1)) (lv' := [(3, .int (nI (i + 1))), (1, .long (ndd C (i + 1))), (4, .long (apC C (i + 1) 0)), (0, .ref (q 0))]) hx hb dX3_neededTests_45 hl (k := 2) rfl (nI_add i 1) (by decide) rfl (fun ls hl => ?_)
          refine lv_goto (tgt := 9) hx hb dX3_neededTests_48 (by decide) ?_
          exact ih_9  (i + 1) ta1_6 out1_7 (nI (no C)) pl1_8 (by omega) (by omega) _ _ hP hD hS ls (lv_sub hl [0, 1, 3] rfl)
        · skip
          refine lv_lload hx hb dX3_neededTests_37 (lv_at hl 0 rfl) ?_
          refine lv_goto (tgt := 43) hx hb dX3_neededTests_39 (by decide) ?_
          refine lv_lor hx hb dX3_neededTests_43 ?_
          refine lv_topl (nm_r (e' := ndd C (i + 1)) (by simp only [ndd]; rw [if_pos c_34]) ?_)
          refine lv_lstore_n (lv' := [(1, .long (ndd C (i + 1))), (4, .long (apC C (i + 1) 0)), (3, .int (nI i)), (0, .ref (q 0))]) hx hb dX3_neededTests_44 rfl hl (by decide) rfl (fun ls hl => ?_)
          refine lv_iinc (v := nI (i + 1)) (lv' := [(3, .int (nI (i + 1))), (1, .long (ndd C (i + 1))), (4, .long (apC C (i + 1) 0)), (0, .ref (q 0))]) hx hb dX3_neededTests_45 hl (k := 2) rfl (nI_add i 1) (by decide) rfl (fun ls hl => ?_)
          refine lv_goto (tgt := 9) hx hb dX3_neededTests_48 (by decide) ?_
          exact ih_9  (i + 1) ta1_6 out1_7 (nI (no C)) pl1_8 (by omega) (by omega) _ _ hP hD hS ls (lv_sub hl [0, 1, 3] rfl)
  exact lp_9 (2 * (6 + C 0) - 0 + 1) 0 ta out ou pl (Nat.lt_succ_self _) (by omega) _ _ hP hD hS ls (lv_sub hl [0, 1, 2] rfl)
set_option maxHeartbeats 4000000 in
set_option maxRecDepth 100000 in
theorem mt_X3_whyHidden_ok (l : Launch) (D : va_G) (ca : Nat → ClassId) (q : Nat → Nat) (th : Int32) (st : Int32) (ik : Int32) (ln : Int32) (ou : Int32) (pa : Int32) (iw : Int32) (so : Int32) (na : Int32) (nb : Int32) (fo : Int32) (nu : Int32) (al : Int32) (be : Nat → Int32) (ke : Nat → Int32) (te : Nat → Int32) (ti : Nat → Int32) (ne : Nat → Int32) (wa : Nat → Int32) (ta : Nat → Int64) (out : Nat → Int64) (pl : Nat → Int64) (lo : Nat → Int64) (sh : Nat → Int64) (le : Nat → Int64) (C : Nat → Nat) (F_ : Nat) (h0 : C 0 ≤ 12) (hkd0 : ∀ k, k < 12 → C (1 + k) < 8) (hse : ∀ k, k < 12 → C (13 + k) < 6 + k ∧ C (25 + k) < 6 + k) (ho : C 37 < 2 ^ 18) (hbx : C 38 < 2 ^ 18) (hno : popc 18 (C 37) ≤ 4) (hF0 : F_ ≠ 0) (hF : F_ ≤ 2 * (6 + C 0)) (nn : Nat) : Met l yX3_whyHidden (ws_ yX3_whyHidden cX3_whyHidden 2 (Option.some Jvm.ClassFile.FieldType.int)) ({ frames := 3, cells := 0, slots := 0, locals := 76 } : Room) (va_Pc [.ref (q 0), .int (fI F_)] (PreW Ev0 D vwCl (TY ca) (WM ca q th st ik ln ou pa iw so na nb fo nu al (zOf C) be ke te ti ne wa ta out pl lo sh le) nn)) (va_Qi (fun (r_ : Int32) (u_ : (Nat → Int64) × (Nat → Int64) × (Nat → Int64)) => r_ = nI (wyh C F_)) (PostW D vwCl (TY ca) (fun (u_ : (Nat → Int64) × (Nat → Int64) × (Nat → Int64)) => (WM ca q (nI 0) st ik ln (nI (no C)) pa iw so na nb fo nu al (zOf C) be ke te ti ne wa u_.1 u_.2.1 u_.2.2 lo sh le)) (va_A (WM ca q th st ik ln ou pa iw so na nb fo nu al (zOf C) be ke te ti ne wa ta out pl lo sh le) nn)) (va_A (WM ca q th st ik ln ou pa iw so na nb fo nu al (zOf C) be ke te ti ne wa ta out pl lo sh le) nn)) 0 0 (va_A (WM ca q th st ik ln ou pa iw so na nb fo nu al (zOf C) be ke te ti ne wa ta out pl lo sh le) nn) := by
  refine met_go (QA := fun A => va_Qi (fun (r_ : Int32) (u_ : (Nat → Int64) × (Nat → Int64) × (Nat → Int64)) => r_ = nI (wyh C F_)) (PostW D vwCl (TY ca) (fun (u_ : (Nat → Int64) × (Nat → Int64) × (Nat → Int64)) => (WM ca q (nI 0) st ik ln (nI (no C)) pa iw so na nb fo nu al (zOf C) be ke te ti ne wa u_.1 u_.2.1 u_.2.2 lo sh le)) A) A) (by decide) (Nat.le_of_ble_eq_true rfl) (fun p e s m below meth c A ls QQ hQQ hx hb hr hts hown hlocks hml hA hP hK hD hE hl => ?_)
  have hown : s.vm.findClass RX3 = some m.cls := hown
  have hS : va_S A s.heap s.heap [] := va_S.rf
  have hl : lv_has ls 2 [(0, .ref (q 0)), (1, .int (fI F_))] := hl
  generalize hHe : s.heap = H at hP ⊢
  have hS : va_S A s.heap H [] := hHe ▸ hS
  generalize ([] : List Loc) = locs at hS ⊢
  refine lv_aload_n hx hb dX3_whyHidden_0 rfl (lv_at hl 0 rfl) ?_
  refine lv_aload_n hx hb dX3_whyHidden_1 rfl (lv_at hl 0 rfl) ?_
  refine lv_iload_n hx hb dX3_whyHidden_2 rfl (lv_at hl 1 rfl) ?_
  refine xc_i (xr_V (b := q 0) (ci := 2) (q0 := 0) (As := [.int (fI F_)]) (rest := [.ref (q 0)]) (mt_X3_isFault l D ca q th st ik ln ou pa iw so na nb fo nu al be ke te ti ne wa ta out pl lo sh le C (fI F_) (by first | assumption | omega | (simp only [updN, forgetC, changedC]; (repeat' split) <;> omega)) H.size) ⟨hx, hb, hml, hown, hts⟩ (cwV 1 hts (lw_V q1715 q1717 qs49 q87 q1718) rfl rfl rfl (by decide +kernel) ⟨Nat.le_of_ble_eq_true rfl, Nat.le_of_ble_eq_true rfl⟩) Ev0_ok hE hK hS (Cut.all hP hD hS hA) rfl rfl rfl hl.1 rfl (Nat.le_of_ble_eq_true rfl) dX3_whyHidden_3 ⟨Nat.le_of_ble_eq_true rfl, Nat.le_of_ble_eq_true rfl⟩) hS (Cut.all hP hD hS hA) (fun r_1 u_2 H locs hq_3 hP hD hS => ?_)
  have hP : va_P D vwCl (WM ca q th st ik ln ou pa iw so na nb fo nu al (zOf C) be ke te ti ne wa ta out pl lo sh le) H := hP
  have hD : va_D A (WM ca q th st ik ln ou pa iw so na nb fo nu al (zOf C) be ke te ti ne wa ta out pl lo sh le) := hD
  have hp_3 : r_1 = bI (inR (2 * (6 + C 0)) (fI F_)) := hq_3
  clear hq_3
  obtain rfl := hp_3
  refine nv_ifb_eq (tgt := 13) hx hb dX3_whyHidden_6 (by decide) (fun c_6 => (absurd c_6 (by rw [inR_fI (by omega), decide_eq_true ⟨hF0, hF⟩]; decide))) (fun c_6 => ?_)
  refine lv_iconst (v := nI 0) hx hb dX3_whyHidden_9 (by decide) ?_
  refine lv_goto (tgt := 14) hx hb dX3_whyHidden_10 (by decide) ?_
  refine pWM_0_thrown_X3 hx hb hts hown hK hP hD hS dX3_whyHidden_14 (fun H locs hP hD hS => ?_)
  refine lv_aload_n hx hb dX3_whyHidden_17 rfl (lv_at hl 0 rfl) ?_
  refine gWM_0_thrown_X3 hx hb hts hown hK hP dX3_whyHidden_18 ?_
  refine nv_if_gt (tgt := 35) hx hb dX3_whyHidden_21 (by decide) (by omega) (fun c_21 => absurd c_21 (by decide)) (fun c_21 => ?_)
  refine lv_aload_n hx hb dX3_whyHidden_24 rfl (lv_at hl 0 rfl) ?_
  refine lv_iload_n hx hb dX3_whyHidden_25 rfl (lv_at hl 1 rfl) ?_
  refine lv_iconst (v := fI 0) hx hb dX3_whyHidden_26 (by decide) ?_
  refine xc_l (xr_V (b := q 0) (ci := 2) (q0 := 0) (As := [.int (fI F_), .int (fI 0)]) (rest := []) (mt_X3_apart l D ca q (nI 0) st ik ln ou pa iw so na nb fo nu al be ke te ti ne wa ta out pl lo sh le C F_ 0 (by first | assumption | omega | (simp only [updN, forgetC, changedC]; (repeat' split) <;> omega)) (by first | assumption | omega | (simp only [updN, forgetC, changedC]; (repeat' split) <;> omega)) (by first | assumption | omega | (simp only [updN, forgetC, changedC]; (repeat' split) <;> omega)) (by first | assumption | omega | (simp only [updN, forgetC, changedC]; (repeat' split) <;> omega)) (by first | assumption | omega | (simp only [updN, forgetC, changedC]; (repeat' split) <;> omega)) (by first | assumption | omega | (simp only [updN, forgetC, changedC]; (repeat' split) <;> omega)) (by first | assumption | omega | (simp only [updN, forgetC, changedC]; (repeat' split) <;> omega)) (by first | assumption | omega | (simp only [updN, forgetC, changedC]; (repeat' split) <;> omega)) H.size) ⟨hx, hb, hml, hown, hts⟩ (cwV 2 hts (lw_V q1836 q1838 qs66 q87 q1839) rfl rfl rfl (by decide +kernel) ⟨Nat.le_of_ble_eq_true rfl, Nat.le_of_ble_eq_true rfl⟩) Ev0_ok hE hK hS (Cut.all hP hD hS hA) rfl rfl rfl hl.1 rfl (Nat.le_of_ble_eq_true rfl) dX3_whyHidden_27 ⟨Nat.le_of_ble_eq_true rfl, Nat.le_of_ble_eq_true rfl⟩) hS (Cut.all hP hD hS hA) (fun r_3 u_4 H locs hq_27 hP hD hS => ?_)
  obtain ⟨ta1_5, out1_6, pl1_7⟩ := u_4
  have hP : va_P D vwCl (WM ca q (nI 0) st ik ln (nI (no C)) pa iw so na nb fo nu al (zOf C) be ke te ti ne wa ta1_5 out1_6 pl1_7 lo sh le) H := hP
  have hD : va_D A (WM ca q (nI 0) st ik ln (nI (no C)) pa iw so na nb fo nu al (zOf C) be ke te ti ne wa ta1_5 out1_6 pl1_7 lo sh le) := hD
  have hp_27 : r_3 = apC C F_ 0 := hq_27
  clear hq_27
  obtain rfl := hp_27
  refine lv_lconst (v := lN 0) hx hb dX3_whyHidden_30 (by decide) ?_
  refine nv_lcmp_eq (tgt := 37) hx hb dX3_whyHidden_31 dX3_whyHidden_32 (by decide) (fun c_31 => ?_) (fun c_31 => ?_)
  · skip
    refine lv_aload_n hx hb dX3_whyHidden_37 rfl (lv_at hl 0 rfl) ?_
    refine xc_i (xr_V (b := q 0) (ci := 2) (q0 := 0) (As := []) (rest := []) (mt_X3_busy l D ca q (nI 0) st ik ln (nI (no C)) pa iw so na nb fo nu al be ke te ti ne wa ta1_5 out1_6 pl1_7 lo sh le C (by first | assumption | omega | (simp only [updN, forgetC, changedC]; (repeat' split) <;> omega)) (by first | assumption | omega | (simp only [updN, forgetC, changedC]; (repeat' split) <;> omega)) (by first | assumption | omega | (simp only [updN, forgetC, changedC]; (repeat' split) <;> omega)) (by first | assumption | omega | (simp only [updN, forgetC, changedC]; (repeat' split) <;> omega)) H.size) ⟨hx, hb, hml, hown, hts⟩ (cwV 0 hts (lw_V q1955 q1957 qs77 q87 q1958) rfl rfl rfl (by decide +kernel) ⟨Nat.le_of_ble_eq_true rfl, Nat.le_of_ble_eq_true rfl⟩) Ev0_ok hE hK hS (Cut.all hP hD hS hA) rfl rfl rfl hl.1 rfl (Nat.le_of_ble_eq_true rfl) dX3_whyHidden_38 ⟨Nat.le_of_ble_eq_true rfl, Nat.le_of_ble_eq_true rfl⟩) hS (Cut.all hP hD hS hA) (fun r_9 u_10 H locs hq_38 hP hD hS => ?_)
    have hP : va_P D vwCl (WM ca q (nI 0) st ik ln (nI (no C)) pa iw so na nb fo nu al (zOf C) be ke te ti ne wa ta1_5 out1_6 pl1_7 lo sh le) H := hP
    have hD : va_D A (WM ca q (nI 0) st ik ln (nI (no C)) pa iw so na nb fo nu al (zOf C) be ke te ti ne wa ta1_5 out1_6 pl1_7 lo sh le) := hD
    have hp_38 : r_9 = nI (bo C (C 0) (C 37)) := hq_38
    clear hq_38
    obtain rfl := hp_38
    refine lv_iload_n hx hb dX3_whyHidden_41 rfl (lv_at hl 1 rfl) ?_
    refine lv_topi (nm_r (e' := nI (F_ - 1)) (fI_pos hF0) ?_)
    refine lv_iconst (v := nI 2) hx hb dX3_whyHidden_42 (by decide) ?_
    refine nv_idiv hx hb dX3_whyHidden_43 (by omega) (by omega) (by omega) ?_
    refine xc_i (xr_S (As := [.int (nI (bo C (C 0) (C 37))), .int (nI ((F_ - 1) / 2))]) (rest := []) (mt_X3_has l D ca (bo C (C 0) (C 37)) ((F_ - 1) / 2) (by omega) (Nat.lt_trans (bo_lt (by omega) hse ho) (by decide)) H.size) ⟨hx, hb, hml, hown, hts⟩ (va_cwS 2 hts (lw_S q1731 q1732 q87 q1733) rfl rfl rfl (by decide +kernel) ⟨Nat.le_of_ble_eq_true rfl, Nat.le_of_ble_eq_true rfl⟩) Ev0_ok hE hK hS (Cut.app (wc := []) (wr := (WM ca q (nI 0) st ik ln (nI (no C)) pa iw so na nb fo nu al (zOf C) be ke te ti ne wa ta1_5 out1_6 pl1_7 lo sh le)) hP hD hS hA) rfl hl.1 rfl (Nat.le_of_ble_eq_true rfl) dX3_whyHidden_44 ⟨Nat.le_of_ble_eq_true rfl, Nat.le_of_ble_eq_true rfl⟩) hS (Cut.app (wc := []) (wr := (WM ca q (nI 0) st ik ln (nI (no C)) pa iw so na nb fo nu al (zOf C) be ke te ti ne wa ta1_5 out1_6 pl1_7 lo sh le)) hP hD hS hA) (fun r_11 u_12 H locs hq_44 hP hD hS => ?_)
    have hP : va_P D vwCl (WM ca q (nI 0) st ik ln (nI (no C)) pa iw so na nb fo nu al (zOf C) be ke te ti ne wa ta1_5 out1_6 pl1_7 lo sh le) H := hP
    have hD : va_D A (WM ca q (nI 0) st ik ln (nI (no C)) pa iw so na nb fo nu al (zOf C) be ke te ti ne wa ta1_5 out1_6 pl1_7 lo sh le) := hD
    have hp_44 : r_11 = bI ((bo C (C 0) (C 37)).testBit ((F_ - 1) / 2)) := hq_44
    clear hq_44
    obtain rfl := hp_44
    refine nv_ifb_ne (tgt := 52) hx hb dX3_whyHidden_47 (by decide) (fun c_47 => ?_) (fun c_47 => ?_)
    · skip
      refine lv_aload_n hx hb dX3_whyHidden_52 rfl (lv_at hl 0 rfl) ?_
      refine lv_iconst (v := fI 0) hx hb dX3_whyHidden_53 (by decide) ?_
      refine lv_iconst (v := fI 0) hx hb dX3_whyHidden_54 (by decide) ?_
      refine xc_v (xr_V (b := q 0) (ci := 2) (q0 := 0) (As := [.int (fI 0), .int (fI 0)]) (rest := []) (mt_X3_lay l D ca q (nI 0) st ik ln (nI (no C)) pa iw so na nb fo nu al be ke te ti ne wa ta1_5 out1_6 pl1_7 lo sh le C 0 0 (by first | assumption | omega | (simp only [updN, forgetC, changedC]; (repeat' split) <;> omega)) (by first | assumption | omega | (simp only [updN, forgetC, changedC]; (repeat' split) <;> omega)) (by first | assumption | omega | (simp only [updN, forgetC, changedC]; (repeat' split) <;> omega)) (by first | assumption | omega | (simp only [updN, forgetC, changedC]; (repeat' split) <;> omega)) (by first | assumption | omega | (simp only [updN, forgetC, changedC]; (repeat' split) <;> omega)) (by first | assumption | omega | (simp only [updN, forgetC, changedC]; (repeat' split) <;> omega)) (by first | assumption | omega | (simp only [updN, forgetC, changedC]; (repeat' split) <;> omega)) (by first | assumption | omega | (simp only [updN, forgetC, changedC]; (repeat' split) <;> omega)) H.size) ⟨hx, hb, hml, hown, hts⟩ (cwV 2 hts (lw_V q1781 q1783 qs56 q87 q1784) rfl rfl rfl (by decide +kernel) ⟨Nat.le_of_ble_eq_true rfl, Nat.le_of_ble_eq_true rfl⟩) Ev0_ok hE hK hS (Cut.all hP hD hS hA) rfl rfl rfl hl.1 rfl (Nat.le_of_ble_eq_true rfl) dX3_whyHidden_55 ⟨Nat.le_of_ble_eq_true rfl, Nat.le_of_ble_eq_true rfl⟩) hS (Cut.all hP hD hS hA) (fun u_15 H locs hq_55 hP hD hS => ?_)
      have hP : va_P D vwCl (WM ca q (nI 0) st ik ln (nI (no C)) pa iw so na nb fo nu al (zOf C) be ke te ti ne wa (fillL (6 + C 0) (tb C 0 0) ta1_5) (outF C (tb C 0 0) (6 + C 0) out1_6) pl1_7 lo sh le) H := hP
      have hD : va_D A (WM ca q (nI 0) st ik ln (nI (no C)) pa iw so na nb fo nu al (zOf C) be ke te ti ne wa (fillL (6 + C 0) (tb C 0 0) ta1_5) (outF C (tb C 0 0) (6 + C 0) out1_6) pl1_7 lo sh le) := hD
      refine lv_aload_n hx hb dX3_whyHidden_58 rfl (lv_at hl 0 rfl) ?_
      refine gWM_0_table_X3 hx hb hts hown hK hP dX3_whyHidden_59 ?_
      refine lv_iload_n hx hb dX3_whyHidden_62 rfl (lv_at hl 1 rfl) ?_
      refine lv_topi (nm_r (e' := nI (F_ - 1)) (fI_pos hF0) ?_)
      refine lv_iconst (v := nI 2) hx hb dX3_whyHidden_63 (by decide) ?_
      refine nv_idiv hx hb dX3_whyHidden_64 (by omega) (by omega) (by omega) ?_
      refine ldWM_5 hx hb hK hP (by omega) dX3_whyHidden_65 ?_
      refine lv_topl (nm_r (e' := tb C 0 0 ((F_ - 1) / 2)) (fillL_at (by omega)) ?_)
      refine lv_iload_n hx hb dX3_whyHidden_66 rfl (lv_at hl 1 rfl) ?_
      refine lv_topi (nm_r (e' := nI (F_ - 1)) (fI_pos hF0) ?_)
      refine lv_iconst (v := nI 2) hx hb dX3_whyHidden_67 (by decide) ?_
      refine nv_irem hx hb dX3_whyHidden_68 (by omega) (by omega) (by omega) ?_
      refine lv_iconst (v := nI 1) hx hb dX3_whyHidden_69 (by decide) ?_
      refine nv_icmp_ne (tgt := 79) hx hb dX3_whyHidden_70 (by decide) (by omega) (by omega) (fun c_70 => ?_) (fun c_70 => ?_)
      · skip
        refine lv_lconst (v := lN 0) hx hb dX3_whyHidden_79 (by decide) ?_
        refine nv_lcmp_ne (tgt := 88) hx hb dX3_whyHidden_80 dX3_whyHidden_81 (by decide) (fun c_80 => ?_) (fun c_80 => ?_)
        · skip
          refine lv_iconst (v := nI 3) hx hb dX3_whyHidden_88 (by decide) ?_
          subst hQQ
          exact xe_i (v := nI 3) (fillL (6 + C 0) (tb C 0 0) ta1_5, outF C (tb C 0 0) (6 + C 0) out1_6, pl1_7) hx hb hr hlocks hK hP hD hS (congrArg nI (by unfold wyh; (repeat' split) <;> first | rfl | (exfalso; simp_all; done))) dX3_whyHidden_89
        · skip
          refine lv_iconst (v := nI 2) hx hb dX3_whyHidden_84 (by decide) ?_
          refine lv_goto (tgt := 89) hx hb dX3_whyHidden_85 (by decide) ?_
          subst hQQ
          exact xe_i (v := nI 2) (fillL (6 + C 0) (tb C 0 0) ta1_5, outF C (tb C 0 0) (6 + C 0) out1_6, pl1_7) hx hb hr hlocks hK hP hD hS (congrArg nI (by unfold wyh; (repeat' split) <;> first | rfl | (exfalso; simp_all; done))) dX3_whyHidden_89
      · skip
        refine lv_ldc2 (v := (-1)) hx hb hown (hts _ q1792) dX3_whyHidden_73 ?_
        refine lv_goto (tgt := 80) hx hb dX3_whyHidden_76 (by decide) ?_
        refine nv_lcmp_ne (tgt := 88) hx hb dX3_whyHidden_80 dX3_whyHidden_81 (by decide) (fun c_80 => ?_) (fun c_80 => ?_)
        · skip
          refine lv_iconst (v := nI 3) hx hb dX3_whyHidden_88 (by decide) ?_
          subst hQQ
          exact xe_i (v := nI 3) (fillL (6 + C 0) (tb C 0 0) ta1_5, outF C (tb C 0 0) (6 + C 0) out1_6, pl1_7) hx hb hr hlocks hK hP hD hS (congrArg nI (by unfold wyh; (repeat' split) <;> first | rfl | (exfalso; simp_all; done))) dX3_whyHidden_89
        · skip
          refine lv_iconst (v := nI 2) hx hb dX3_whyHidden_84 (by decide) ?_
          refine lv_goto (tgt := 89) hx hb dX3_whyHidden_85 (by decide) ?_
          subst hQQ
          exact xe_i (v := nI 2) (fillL (6 + C 0) (tb C 0 0) ta1_5, outF C (tb C 0 0) (6 + C 0) out1_6, pl1_7) hx hb hr hlocks hK hP hD hS (congrArg nI (by unfold wyh; (repeat' split) <;> first | rfl | (exfalso; simp_all; done))) dX3_whyHidden_89
    · skip
      refine lv_iconst (v := nI 1) hx hb dX3_whyHidden_50 (by decide) ?_
      subst hQQ
      exact xe_i (v := nI 1) (ta1_5, out1_6, pl1_7) hx hb hr hlocks hK hP hD hS (congrArg nI (by unfold wyh; (repeat' split) <;> first | rfl | (exfalso; simp_all; done))) dX3_whyHidden_51
  · skip
    refine lv_iconst (v := nI 0) hx hb dX3_whyHidden_35 (by decide) ?_
    subst hQQ
    exact xe_i (v := nI 0) (ta1_5, out1_6, pl1_7) hx hb hr hlocks hK hP hD hS (congrArg nI (by unfold wyh; (repeat' split) <;> first | rfl | (exfalso; simp_all; done))) dX3_whyHidden_36
set_option maxHeartbeats 4000000 in
set_option maxRecDepth 100000 in
theorem mt_X3_whyHidden_no (l : Launch) (D : va_G) (ca : Nat → ClassId) (q : Nat → Nat) (th : Int32) (st : Int32) (ik : Int32) (ln : Int32) (ou : Int32) (pa : Int32) (iw : Int32) (so : Int32) (na : Int32) (nb : Int32) (fo : Int32) (nu : Int32) (al : Int32) (be : Nat → Int32) (ke : Nat → Int32) (te : Nat → Int32) (ti : Nat → Int32) (ne : Nat → Int32) (wa : Nat → Int32) (ta : Nat → Int64) (out : Nat → Int64) (pl : Nat → Int64) (lo : Nat → Int64) (sh : Nat → Int64) (le : Nat → Int64) (C : Nat → Nat) (x_ : Int32) (h0 : C 0 ≤ 12) (hc : inR (2 * (6 + C 0)) x_ = false) (nn : Nat) : Met l yX3_whyHidden (ws_ yX3_whyHidden cX3_whyHidden 2 (Option.some Jvm.ClassFile.FieldType.int)) ({ frames := 2, cells := 0, slots := 0, locals := 43 } : Room) (va_Pc [.ref (q 0), .int x_] (PreW Ev0 D vwCl (TY ca) (WM ca q th st ik ln ou pa iw so na nb fo nu al (zOf C) be ke te ti ne wa ta out pl lo sh le) nn)) (va_Qi (fun (r_ : Int32) (_ : Unit) => r_ = nI 0) (PostW D vwCl (TY ca) (fun (_ : Unit) => (WM ca q (nI 1) st ik ln ou pa iw so na nb fo nu al (zOf C) be ke te ti ne wa ta out pl lo sh le)) (va_A (WM ca q th st ik ln ou pa iw so na nb fo nu al (zOf C) be ke te ti ne wa ta out pl lo sh le) nn)) (va_A (WM ca q th st ik ln ou pa iw so na nb fo nu al (zOf C) be ke te ti ne wa ta out pl lo sh le) nn)) 0 0 (va_A (WM ca q th st ik ln ou pa iw so na nb fo nu al (zOf C) be ke te ti ne wa ta out pl lo sh le) nn) := by
  refine met_go (QA := fun A => va_Qi (fun (r_ : Int32) (_ : Unit) => r_ = nI 0) (PostW D vwCl (TY ca) (fun (_ : Unit) => (WM ca q (nI 1) st ik ln ou pa iw so na nb fo nu al (zOf C) be ke te ti ne wa ta out pl lo sh le)) A) A) (by decide) (Nat.le_of_ble_eq_true rfl) (fun p e s m below meth c A ls QQ hQQ hx hb hr hts hown hlocks hml hA hP hK hD hE hl => ?_)
  have hown : s.vm.findClass RX3 = some m.cls := hown
  have hS : va_S A s.heap s.heap [] := va_S.rf
  have hl : lv_has ls 2 [(0, .ref (q 0)), (1, .int x_)] := hl
  generalize hHe : s.heap = H at hP ⊢
  have hS : va_S A s.heap H [] := hHe ▸ hS
  generalize ([] : List Loc) = locs at hS ⊢
  refine lv_aload_n hx hb dX3_whyHidden_0 rfl (lv_at hl 0 rfl) ?_
  refine lv_aload_n hx hb dX3_whyHidden_1 rfl (lv_at hl 0 rfl) ?_
  refine lv_iload_n hx hb dX3_whyHidden_2 rfl (lv_at hl 1 rfl) ?_
  refine xc_i (xr_V (b := q 0) (ci := 2) (q0 := 0) (As := [.int x_]) (rest := [.ref (q 0)]) (mt_X3_isFault l D ca q th st ik ln ou pa iw so na nb fo nu al be ke te ti ne wa ta out pl lo sh le C x_ (by first | assumption | omega | (simp only [updN, forgetC, changedC]; (repeat' split) <;> omega)) H.size) ⟨hx, hb, hml, hown, hts⟩ (cwV 1 hts (lw_V q1715 q1717 qs49 q87 q1718) rfl rfl rfl (by decide +kernel) ⟨Nat.le_of_ble_eq_true rfl, Nat.le_of_ble_eq_true rfl⟩) Ev0_ok hE hK hS (Cut.all hP hD hS hA) rfl rfl rfl hl.1 rfl (Nat.le_of_ble_eq_true rfl) dX3_whyHidden_3 ⟨Nat.le_of_ble_eq_true rfl, Nat.le_of_ble_eq_true rfl⟩) hS (Cut.all hP hD hS hA) (fun r_1 u_2 H locs hq_3 hP hD hS => ?_)
  have hP : va_P D vwCl (WM ca q th st ik ln ou pa iw so na nb fo nu al (zOf C) be ke te ti ne wa ta out pl lo sh le) H := hP
  have hD : va_D A (WM ca q th st ik ln ou pa iw so na nb fo nu al (zOf C) be ke te ti ne wa ta out pl lo sh le) := hD
  have hp_3 : r_1 = bI (inR (2 * (6 + C 0)) x_) := hq_3
  clear hq_3
  obtain rfl := hp_3
  refine nv_ifb_eq (tgt := 13) hx hb dX3_whyHidden_6 (by decide) (fun c_6 => ?_) (fun c_6 => (absurd c_6 (by rw [hc]; decide)))
  refine lv_iconst (v := nI 1) hx hb dX3_whyHidden_13 (by decide) ?_
  refine pWM_0_thrown_X3 hx hb hts hown hK hP hD hS dX3_whyHidden_14 (fun H locs hP hD hS => ?_)
  refine lv_aload_n hx hb dX3_whyHidden_17 rfl (lv_at hl 0 rfl) ?_
  refine gWM_0_thrown_X3 hx hb hts hown hK hP dX3_whyHidden_18 ?_
  refine nv_if_gt (tgt := 35) hx hb dX3_whyHidden_21 (by decide) (by omega) (fun c_21 => ?_) (fun c_21 => absurd c_21 (by decide))
  refine lv_iconst (v := nI 0) hx hb dX3_whyHidden_35 (by decide) ?_
  subst hQQ
  exact xe_i (v := nI 0) () hx hb hr hlocks hK hP hD hS (rfl) dX3_whyHidden_36
