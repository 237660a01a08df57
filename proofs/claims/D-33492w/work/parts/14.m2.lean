/-! contracts of the model: the circuit and its history -/
set_option maxRecDepth 100000
set_option maxHeartbeats 4000000 in
set_option maxRecDepth 100000 in
theorem mt_X3_forget (l : Launch) (D : va_G) (ca : Nat → ClassId) (q : Nat → Nat) (th : Int32) (st : Int32) (ik : Int32) (ln : Int32) (ou : Int32) (pa : Int32) (iw : Int32) (so : Int32) (na : Int32) (nb : Int32) (fo : Int32) (nu : Int32) (al : Int32) (be : Nat → Int32) (ke : Nat → Int32) (te : Nat → Int32) (ti : Nat → Int32) (ne : Nat → Int32) (wa : Nat → Int32) (ta : Nat → Int64) (out : Nat → Int64) (pl : Nat → Int64) (lo : Nat → Int64) (sh : Nat → Int64) (le : Nat → Int64) (C : Nat → Nat)  (nn : Nat) : Met l yX3_forget (ws_ yX3_forget cX3_forget 2 (Option.none : Option Jvm.ClassFile.FieldType)) ({ frames := 0, cells := 0, slots := 0, locals := 0 } : Room) (va_Pc [.ref (q 0)] (PreW Ev0 D vwCl (TY ca) (WM ca q th st ik ln ou pa iw so na nb fo nu al (zOf C) be ke te ti ne wa ta out pl lo sh le) nn)) (va_Qv (fun (_ : Unit) => True) (PostW D vwCl (TY ca) (fun (_ : Unit) => (WM ca q th st ik ln ou pa iw so na nb fo nu al (zOf (forgetC C)) be ke te ti ne wa ta out pl lo sh le)) (va_A (WM ca q th st ik ln ou pa iw so na nb fo nu al (zOf C) be ke te ti ne wa ta out pl lo sh le) nn)) (va_A (WM ca q th st ik ln ou pa iw so na nb fo nu al (zOf C) be ke te ti ne wa ta out pl lo sh le) nn)) 0 0 (va_A (WM ca q th st ik ln ou pa iw so na nb fo nu al (zOf C) be ke te ti ne wa ta out pl lo sh le) nn) := by
  refine met_go (QA := fun A => va_Qv (fun (_ : Unit) => True) (PostW D vwCl (TY ca) (fun (_ : Unit) => (WM ca q th st ik ln ou pa iw so na nb fo nu al (zOf (forgetC C)) be ke te ti ne wa ta out pl lo sh le)) A) A) (by decide) (Nat.le_of_ble_eq_true rfl) (fun p e s m below meth c A ls QQ hQQ hx hb hr hts hown hlocks hml hA hP hK hD hE hl => ?_)
  have hown : s.vm.findClass RX3 = some m.cls := hown
  have hS : va_S A s.heap s.heap [] := va_S.rf
  have hl : lv_has ls 2 [(0, .ref (q 0))] := hl
  generalize hHe : s.heap = H at hP ⊢
  have hS : va_S A s.heap H [] := hHe ▸ hS
  generalize ([] : List Loc) = locs at hS ⊢
  refine lv_aload_n hx hb dX3_forget_0 rfl (lv_at hl 0 rfl) ?_
  refine gWM_0_z_X3 hx hb hts hown hK hP dX3_forget_1 ?_
  refine lv_bipush (v := nI 41) hx hb dX3_forget_4 (by decide) ?_
  refine lv_iconst (v := nI 0) hx hb dX3_forget_6 (by decide) ?_
  refine stWM_1 hx hb hK hP hD hS (by omega) dX3_forget_7 (fun H locs hP hD hS => ?_)
  have ew_ : upd (zOf C) 41 (nI 0) = zOf (updN C 41 0) := zOf_u (by decide)
  have hP : va_P D vwCl (WM ca q th st ik ln ou pa iw so na nb fo nu al (zOf (updN C 41 0)) be ke te ti ne wa ta out pl lo sh le) H := (congrArg (fun x_ => va_P D vwCl (WM ca q th st ik ln ou pa iw so na nb fo nu al x_ be ke te ti ne wa ta out pl lo sh le) H) ew_).mp hP
  have hD : va_D A (WM ca q th st ik ln ou pa iw so na nb fo nu al (zOf (updN C 41 0)) be ke te ti ne wa ta out pl lo sh le) := (congrArg (fun x_ => va_D A (WM ca q th st ik ln ou pa iw so na nb fo nu al x_ be ke te ti ne wa ta out pl lo sh le)) ew_).mp hD
  clear ew_
  refine lv_iconst (v := nI 0) hx hb dX3_forget_8 (by decide) ?_
  refine lv_istore_n (lv' := [(1, .int (nI 0)), (0, .ref (q 0))]) hx hb dX3_forget_9 rfl hl (by decide) rfl (fun ls hl => ?_)
  have lp_10 : ∀ (fu_10 : Nat) (i : Nat), 12 - i < fu_10 → (i ≤ 12) → ∀ (H : Heap) (locs : List Loc), va_P D vwCl (WM ca q th st ik ln ou pa iw so na nb fo nu al (zOf (fgt i (updN C 41 0))) be ke te ti ne wa ta out pl lo sh le) H → va_D A (WM ca q th st ik ln ou pa iw so na nb fo nu al (zOf (fgt i (updN C 41 0))) be ke te ti ne wa ta out pl lo sh le) → va_S A s.heap H locs → ∀ (ls : Array Slot), lv_has ls 2 [(1, .int (nI i)), (0, .ref (q 0))] → W p l e ({ frames := 0, cells := 0, slots := 0, locals := 0 } : Room) s m ([.ref (q 0)] : List Value).toArray below meth c H locs 0 0 QQ (F0 m 10 ls []) := by
    intro fu_10
    induction fu_10 with
    | zero => intro i hfu; exact absurd hfu (Nat.not_lt_zero _)
    | succ fu_10 ih_10 =>
      intro i hfu hi H locs hP hD hS ls hl
      refine lv_iload_n hx hb dX3_forget_10 rfl (lv_at hl 0 rfl) ?_
      refine lv_bipush (v := nI 12) hx hb dX3_forget_11 (by decide) ?_
      refine nv_icmp_ge (tgt := 42) hx hb dX3_forget_13 (by decide) (by omega) (by omega) (fun c_13 => ?_) (fun c_13 => ?_)
      · skip
        have e_ : 12 = i := Eq.symm (by omega)
        subst e_
        have ew_ : zOf (fgt 12 (updN C 41 0)) = zOf (forgetC C) := by rw [fgt_12]
        have hP : va_P D vwCl (WM ca q th st ik ln ou pa iw so na nb fo nu al (zOf (forgetC C)) be ke te ti ne wa ta out pl lo sh le) H := (congrArg (fun x_ => va_P D vwCl (WM ca q th st ik ln ou pa iw so na nb fo nu al x_ be ke te ti ne wa ta out pl lo sh le) H) ew_).mp hP
        have hD : va_D A (WM ca q th st ik ln ou pa iw so na nb fo nu al (zOf (forgetC C)) be ke te ti ne wa ta out pl lo sh le) := (congrArg (fun x_ => va_D A (WM ca q th st ik ln ou pa iw so na nb fo nu al x_ be ke te ti ne wa ta out pl lo sh le)) ew_).mp hD
        clear ew_
        subst hQQ
        exact xe_v () hx hb hr hlocks hK hP hD hS (trivial) dX3_forget_42
      · skip
        refine lv_aload_n hx hb dX3_forget_16 rfl (lv_at hl 1 rfl) ?_
        refine gWM_0_z_X3 hx hb hts hown hK hP dX3_forget_17 ?_
        refine lv_bipush (v := nI 42) hx hb dX3_forget_20 (by decide) ?_
        refine lv_iload_n hx hb dX3_forget_22 rfl (lv_at hl 0 rfl) ?_
        refine nv_iadd hx hb dX3_forget_23 ?_
        refine lv_iconst (v := nI 0) hx hb dX3_forget_24 (by decide) ?_
        refine stWM_1 hx hb hK hP hD hS (by omega) dX3_forget_25 (fun H locs hP hD hS => ?_)
        have ew_ : upd (zOf (fgt i (updN C 41 0))) (42 + i) (nI 0) = zOf (updN (fgt i (updN C 41 0)) (42 + i) 0) := zOf_u (by omega)
        have hP : va_P D vwCl (WM ca q th st ik ln ou pa iw so na nb fo nu al (zOf (updN (fgt i (updN C 41 0)) (42 + i) 0)) be ke te ti ne wa ta out pl lo sh le) H := (congrArg (fun x_ => va_P D vwCl (WM ca q th st ik ln ou pa iw so na nb fo nu al x_ be ke te ti ne wa ta out pl lo sh le) H) ew_).mp hP
        have hD : va_D A (WM ca q th st ik ln ou pa iw so na nb fo nu al (zOf (updN (fgt i (updN C 41 0)) (42 + i) 0)) be ke te ti ne wa ta out pl lo sh le) := (congrArg (fun x_ => va_D A (WM ca q th st ik ln ou pa iw so na nb fo nu al x_ be ke te ti ne wa ta out pl lo sh le)) ew_).mp hD
        clear ew_
        refine lv_aload_n hx hb dX3_forget_26 rfl (lv_at hl 1 rfl) ?_
        refine gWM_0_z_X3 hx hb hts hown hK hP dX3_forget_27 ?_
        refine lv_bipush (v := nI 54) hx hb dX3_forget_30 (by decide) ?_
        refine lv_iload_n hx hb dX3_forget_32 rfl (lv_at hl 0 rfl) ?_
        refine nv_iadd hx hb dX3_forget_33 ?_
        refine lv_iconst (v := nI 0) hx hb dX3_forget_34 (by decide) ?_
        refine stWM_1 hx hb hK hP hD hS (by omega) dX3_forget_35 (fun H locs hP hD hS => ?_)
        have ew_ : upd (zOf (updN (fgt i (updN C 41 0)) (42 + i) 0)) (54 + i) (nI 0) = zOf (updN (updN (fgt i (updN C 41 0)) (42 + i) 0) (54 + i) 0) := zOf_u (by omega)
        have hP : va_P D vwCl (WM ca q th st ik ln ou pa iw so na nb fo nu al (zOf (updN (updN (fgt i (updN C 41 0)) (42 + i) 0) (54 + i) 0)) be ke te ti ne wa ta out pl lo sh le) H := (congrArg (fun x_ => va_P D vwCl (WM ca q th st ik ln ou pa iw so na nb fo nu al x_ be ke te ti ne wa ta out pl lo sh le) H) ew_).mp hP
        have hD : va_D A (WM ca q th st ik ln ou pa iw so na nb fo nu al (zOf (updN (updN (fgt i (updN C 41 0)) (42 + i) 0) (54 + i) 0)) be ke te ti ne wa ta out pl lo sh le) := (congrArg (fun x_ => va_D A (WM ca q th st ik ln ou pa iw so na nb fo nu al x_ be ke te ti ne wa ta out pl lo sh le)) ew_).mp hD
        clear ew_
        refine lv_iinc (v := nI (i + 1)) (lv' := [(1, .int (nI (i + 1))), (0, .ref (q 0))]) hx hb dX3_forget_36 hl (k := 0) rfl (nI_add i 1) (by decide) rfl (fun ls hl => ?_)
        refine lv_goto (tgt := 10) hx hb dX3_forget_39 (by decide) ?_
        have ew_ : zOf (updN (updN (fgt i (updN C 41 0)) (42 + i) 0) (54 + i) 0) = zOf (fgt (i + 1) (updN C 41 0)) := by rw [fgt_s _ _ (by omega)]
        have hP : va_P D vwCl (WM ca q th st ik ln ou pa iw so na nb fo nu al (zOf (fgt (i + 1) (updN C 41 0))) be ke te ti ne wa ta out pl lo sh le) H := (congrArg (fun x_ => va_P D vwCl (WM ca q th st ik ln ou pa iw so na nb fo nu al x_ be ke te ti ne wa ta out pl lo sh le) H) ew_).mp hP
        have hD : va_D A (WM ca q th st ik ln ou pa iw so na nb fo nu al (zOf (fgt (i + 1) (updN C 41 0))) be ke te ti ne wa ta out pl lo sh le) := (congrArg (fun x_ => va_D A (WM ca q th st ik ln ou pa iw so na nb fo nu al x_ be ke te ti ne wa ta out pl lo sh le)) ew_).mp hD
        clear ew_
        exact ih_10  (i + 1) (by omega) (by omega) _ _ hP hD hS ls (lv_sub hl [0, 1] rfl)
  have ew_ : zOf (updN C 41 0) = zOf (fgt 0 (updN C 41 0)) := by rw [fgt_0]
  have hP : va_P D vwCl (WM ca q th st ik ln ou pa iw so na nb fo nu al (zOf (fgt 0 (updN C 41 0))) be ke te ti ne wa ta out pl lo sh le) H := (congrArg (fun x_ => va_P D vwCl (WM ca q th st ik ln ou pa iw so na nb fo nu al x_ be ke te ti ne wa ta out pl lo sh le) H) ew_).mp hP
  have hD : va_D A (WM ca q th st ik ln ou pa iw so na nb fo nu al (zOf (fgt 0 (updN C 41 0))) be ke te ti ne wa ta out pl lo sh le) := (congrArg (fun x_ => va_D A (WM ca q th st ik ln ou pa iw so na nb fo nu al x_ be ke te ti ne wa ta out pl lo sh le)) ew_).mp hD
  clear ew_
  exact lp_10 (12 - 0 + 1) 0 (Nat.lt_succ_self _) (by omega) _ _ hP hD hS ls (lv_sub hl [0, 1] rfl)
set_option maxHeartbeats 4000000 in
set_option maxRecDepth 100000 in
theorem mt_X3_changed (l : Launch) (D : va_G) (ca : Nat → ClassId) (q : Nat → Nat) (th : Int32) (st : Int32) (ik : Int32) (ln : Int32) (ou : Int32) (pa : Int32) (iw : Int32) (so : Int32) (na : Int32) (nb : Int32) (fo : Int32) (nu : Int32) (al : Int32) (be : Nat → Int32) (ke : Nat → Int32) (te : Nat → Int32) (ti : Nat → Int32) (ne : Nat → Int32) (wa : Nat → Int32) (ta : Nat → Int64) (out : Nat → Int64) (pl : Nat → Int64) (lo : Nat → Int64) (sh : Nat → Int64) (le : Nat → Int64) (C : Nat → Nat) (h0 : C 0 ≤ 12) (h39 : C 39 ≤ 64) (nn : Nat) : Met l yX3_changed (ws_ yX3_changed cX3_changed 1 (Option.none : Option Jvm.ClassFile.FieldType)) ({ frames := 2, cells := 0, slots := 0, locals := 43 } : Room) (va_Pc [.ref (q 0)] (PreW Ev0 D vwCl (TY ca) (WM ca q th st ik ln ou pa iw so na nb fo nu al (zOf C) be ke te ti ne wa ta out pl lo sh le) nn)) (va_Qv (fun (_ : Unit) => True) (PostW D vwCl (TY ca) (fun (_ : Unit) => (WM ca q th st ik ln ou pa iw so na nb fo nu al (zOf (changedC C)) be ke te ti ne wa ta out pl lo sh le)) (va_A (WM ca q th st ik ln ou pa iw so na nb fo nu al (zOf C) be ke te ti ne wa ta out pl lo sh le) nn)) (va_A (WM ca q th st ik ln ou pa iw so na nb fo nu al (zOf C) be ke te ti ne wa ta out pl lo sh le) nn)) 0 0 (va_A (WM ca q th st ik ln ou pa iw so na nb fo nu al (zOf C) be ke te ti ne wa ta out pl lo sh le) nn) := by
  refine met_go (QA := fun A => va_Qv (fun (_ : Unit) => True) (PostW D vwCl (TY ca) (fun (_ : Unit) => (WM ca q th st ik ln ou pa iw so na nb fo nu al (zOf (changedC C)) be ke te ti ne wa ta out pl lo sh le)) A) A) (by decide) (Nat.le_of_ble_eq_true rfl) (fun p e s m below meth c A ls QQ hQQ hx hb hr hts hown hlocks hml hA hP hK hD hE hl => ?_)
  have hown : s.vm.findClass RX3 = some m.cls := hown
  have hS : va_S A s.heap s.heap [] := va_S.rf
  have hl : lv_has ls 1 [(0, .ref (q 0))] := hl
  generalize hHe : s.heap = H at hP ⊢
  have hS : va_S A s.heap H [] := hHe ▸ hS
  generalize ([] : List Loc) = locs at hS ⊢
  refine lv_aload_n hx hb dX3_changed_0 rfl (lv_at hl 0 rfl) ?_
  refine xc_v (xr_V (b := q 0) (ci := 2) (q0 := 0) (As := []) (rest := []) (mt_X3_forget l D ca q th st ik ln ou pa iw so na nb fo nu al be ke te ti ne wa ta out pl lo sh le C  H.size) ⟨hx, hb, hml, hown, hts⟩ (cwV 0 hts (lw_V q1711 q1713 qs48 q87 q1714) rfl rfl rfl (by decide +kernel) ⟨Nat.le_of_ble_eq_true rfl, Nat.le_of_ble_eq_true rfl⟩) Ev0_ok hE hK hS (Cut.all hP hD hS hA) rfl rfl rfl hl.1 rfl (Nat.le_of_ble_eq_true rfl) dX3_changed_1 ⟨Nat.le_of_ble_eq_true rfl, Nat.le_of_ble_eq_true rfl⟩) hS (Cut.all hP hD hS hA) (fun u_2 H locs hq_1 hP hD hS => ?_)
  have hP : va_P D vwCl (WM ca q th st ik ln ou pa iw so na nb fo nu al (zOf (forgetC C)) be ke te ti ne wa ta out pl lo sh le) H := hP
  have hD : va_D A (WM ca q th st ik ln ou pa iw so na nb fo nu al (zOf (forgetC C)) be ke te ti ne wa ta out pl lo sh le) := hD
  refine lv_aload_n hx hb dX3_changed_4 rfl (lv_at hl 0 rfl) ?_
  refine gWM_0_z_X3 hx hb hts hown hK hP dX3_changed_5 ?_
  refine lv_bipush (v := nI 66) hx hb dX3_changed_8 (by decide) ?_
  refine lv_iconst (v := nI 0) hx hb dX3_changed_10 (by decide) ?_
  refine stWM_1 hx hb hK hP hD hS (by omega) dX3_changed_11 (fun H locs hP hD hS => ?_)
  have ew_ : upd (zOf (forgetC C)) 66 (nI 0) = upd (zOf (forgetC C)) 66 (nI 0) := rfl
  have hP : va_P D vwCl (WM ca q th st ik ln ou pa iw so na nb fo nu al (upd (zOf (forgetC C)) 66 (nI 0)) be ke te ti ne wa ta out pl lo sh le) H := (congrArg (fun x_ => va_P D vwCl (WM ca q th st ik ln ou pa iw so na nb fo nu al x_ be ke te ti ne wa ta out pl lo sh le) H) ew_).mp hP
  have hD : va_D A (WM ca q th st ik ln ou pa iw so na nb fo nu al (upd (zOf (forgetC C)) 66 (nI 0)) be ke te ti ne wa ta out pl lo sh le) := (congrArg (fun x_ => va_D A (WM ca q th st ik ln ou pa iw so na nb fo nu al x_ be ke te ti ne wa ta out pl lo sh le)) ew_).mp hD
  clear ew_
  refine lv_aload_n hx hb dX3_changed_12 rfl (lv_at hl 0 rfl) ?_
  refine gWM_0_z_X3 hx hb hts hown hK hP dX3_changed_13 ?_
  refine lv_bipush (v := nI 67) hx hb dX3_changed_16 (by decide) ?_
  refine lv_iconst (v := nI 0) hx hb dX3_changed_18 (by decide) ?_
  refine stWM_1 hx hb hK hP hD hS (by omega) dX3_changed_19 (fun H locs hP hD hS => ?_)
  have ew_ : upd (upd (zOf (forgetC C)) 66 (nI 0)) 67 (nI 0) = zOf (updN (forgetC C) 66 0) := zOf_66z
  have hP : va_P D vwCl (WM ca q th st ik ln ou pa iw so na nb fo nu al (zOf (updN (forgetC C) 66 0)) be ke te ti ne wa ta out pl lo sh le) H := (congrArg (fun x_ => va_P D vwCl (WM ca q th st ik ln ou pa iw so na nb fo nu al x_ be ke te ti ne wa ta out pl lo sh le) H) ew_).mp hP
  have hD : va_D A (WM ca q th st ik ln ou pa iw so na nb fo nu al (zOf (updN (forgetC C) 66 0)) be ke te ti ne wa ta out pl lo sh le) := (congrArg (fun x_ => va_D A (WM ca q th st ik ln ou pa iw so na nb fo nu al x_ be ke te ti ne wa ta out pl lo sh le)) ew_).mp hD
  clear ew_
  refine lv_aload_n hx hb dX3_changed_20 rfl (lv_at hl 0 rfl) ?_
  refine gWM_0_z_X3 hx hb hts hown hK hP dX3_changed_21 ?_
  refine lv_bipush (v := nI 39) hx hb dX3_changed_24 (by decide) ?_
  refine lv_aload_n hx hb dX3_changed_26 rfl (lv_at hl 0 rfl) ?_
  refine lv_aload_n hx hb dX3_changed_27 rfl (lv_at hl 0 rfl) ?_
  refine gWM_0_z_X3 hx hb hts hown hK hP dX3_changed_28 ?_
  refine lv_bipush (v := nI 39) hx hb dX3_changed_31 (by decide) ?_
  refine ldWM_1 hx hb hK hP (by omega) dX3_changed_33 ?_
  refine lv_topi (nm_r (e' := fI ((updN (forgetC C) 66 0) 39)) (rfl) ?_)
  refine xc_i (xr_V (b := q 0) (ci := 2) (q0 := 0) (As := [.int (fI ((updN (forgetC C) 66 0) 39))]) (rest := [.int (nI 39), .ref (q 1)]) (mt_X3_isFault l D ca q th st ik ln ou pa iw so na nb fo nu al be ke te ti ne wa ta out pl lo sh le (updN (forgetC C) 66 0) (fI ((updN (forgetC C) 66 0) 39)) (by first | assumption | omega | (simp only [updN, forgetC, changedC]; (repeat' split) <;> omega)) H.size) ⟨hx, hb, hml, hown, hts⟩ (cwV 1 hts (lw_V q1715 q1717 qs49 q87 q1718) rfl rfl rfl (by decide +kernel) ⟨Nat.le_of_ble_eq_true rfl, Nat.le_of_ble_eq_true rfl⟩) Ev0_ok hE hK hS (Cut.all hP hD hS hA) rfl rfl rfl hl.1 rfl (Nat.le_of_ble_eq_true rfl) dX3_changed_34 ⟨Nat.le_of_ble_eq_true rfl, Nat.le_of_ble_eq_true rfl⟩) hS (Cut.all hP hD hS hA) (fun r_3 u_4 H locs hq_34 hP hD hS => ?_)
  have hP : va_P D vwCl (WM ca q th st ik ln ou pa iw so na nb fo nu al (zOf (updN (forgetC C) 66 0)) be ke te ti ne wa ta out pl lo sh le) H := hP
  have hD : va_D A (WM ca q th st ik ln ou pa iw so na nb fo nu al (zOf (updN (forgetC C) 66 0)) be ke te ti ne wa ta out pl lo sh le) := hD
  have hp_34 : r_3 = bI (inR (2 * (6 + (updN (forgetC C) 66 0) 0)) (fI ((updN (forgetC C) 66 0) 39))) := hq_34
  clear hq_34
  obtain rfl := hp_34
  refine nv_ifb_eq (tgt := 50) hx hb dX3_changed_37 (by decide) (fun c_37 => ?_) (fun c_37 => ?_)
  · skip
    refine lv_iconst (v := fI 0) hx hb dX3_changed_50 (by decide) ?_
    refine stWM_1 hx hb hK hP hD hS (by omega) dX3_changed_51 (fun H locs hP hD hS => ?_)
    have ew_ : upd (zOf (updN (forgetC C) 66 0)) 39 (fI 0) = zOf (updN (updN (forgetC C) 66 0) 39 0) := zOf_39
    have hP : va_P D vwCl (WM ca q th st ik ln ou pa iw so na nb fo nu al (zOf (updN (updN (forgetC C) 66 0) 39 0)) be ke te ti ne wa ta out pl lo sh le) H := (congrArg (fun x_ => va_P D vwCl (WM ca q th st ik ln ou pa iw so na nb fo nu al x_ be ke te ti ne wa ta out pl lo sh le) H) ew_).mp hP
    have hD : va_D A (WM ca q th st ik ln ou pa iw so na nb fo nu al (zOf (updN (updN (forgetC C) 66 0) 39 0)) be ke te ti ne wa ta out pl lo sh le) := (congrArg (fun x_ => va_D A (WM ca q th st ik ln ou pa iw so na nb fo nu al x_ be ke te ti ne wa ta out pl lo sh le)) ew_).mp hD
    clear ew_
    have ew_ : zOf (updN (updN (forgetC C) 66 0) 39 0) = zOf (changedC C) := by rw [chg_t h39 c_37]
    have hP : va_P D vwCl (WM ca q th st ik ln ou pa iw so na nb fo nu al (zOf (changedC C)) be ke te ti ne wa ta out pl lo sh le) H := (congrArg (fun x_ => va_P D vwCl (WM ca q th st ik ln ou pa iw so na nb fo nu al x_ be ke te ti ne wa ta out pl lo sh le) H) ew_).mp hP
    have hD : va_D A (WM ca q th st ik ln ou pa iw so na nb fo nu al (zOf (changedC C)) be ke te ti ne wa ta out pl lo sh le) := (congrArg (fun x_ => va_D A (WM ca q th st ik ln ou pa iw so na nb fo nu al x_ be ke te ti ne wa ta out pl lo sh le)) ew_).mp hD
    clear ew_
    subst hQQ
    exact xe_v () hx hb hr hlocks hK hP hD hS (trivial) dX3_changed_52
  · skip
    refine lv_aload_n hx hb dX3_changed_40 rfl (lv_at hl 0 rfl) ?_
    refine gWM_0_z_X3 hx hb hts hown hK hP dX3_changed_41 ?_
    refine lv_bipush (v := nI 39) hx hb dX3_changed_44 (by decide) ?_
    refine ldWM_1 hx hb hK hP (by omega) dX3_changed_46 ?_
    refine lv_topi (nm_r (e' := fI ((updN (forgetC C) 66 0) 39)) (rfl) ?_)
    refine lv_goto (tgt := 51) hx hb dX3_changed_47 (by decide) ?_
    refine stWM_1 hx hb hK hP hD hS (by omega) dX3_changed_51 (fun H locs hP hD hS => ?_)
    have ew_ : upd (zOf (updN (forgetC C) 66 0)) 39 (fI ((updN (forgetC C) 66 0) 39)) = zOf (updN (updN (forgetC C) 66 0) 39 ((updN (forgetC C) 66 0) 39)) := zOf_39
    have hP : va_P D vwCl (WM ca q th st ik ln ou pa iw so na nb fo nu al (zOf (updN (updN (forgetC C) 66 0) 39 ((updN (forgetC C) 66 0) 39))) be ke te ti ne wa ta out pl lo sh le) H := (congrArg (fun x_ => va_P D vwCl (WM ca q th st ik ln ou pa iw so na nb fo nu al x_ be ke te ti ne wa ta out pl lo sh le) H) ew_).mp hP
    have hD : va_D A (WM ca q th st ik ln ou pa iw so na nb fo nu al (zOf (updN (updN (forgetC C) 66 0) 39 ((updN (forgetC C) 66 0) 39))) be ke te ti ne wa ta out pl lo sh le) := (congrArg (fun x_ => va_D A (WM ca q th st ik ln ou pa iw so na nb fo nu al x_ be ke te ti ne wa ta out pl lo sh le)) ew_).mp hD
    clear ew_
    have ew_ : zOf (updN (updN (forgetC C) 66 0) 39 ((updN (forgetC C) 66 0) 39)) = zOf (changedC C) := by rw [chg_f h39 c_37]
    have hP : va_P D vwCl (WM ca q th st ik ln ou pa iw so na nb fo nu al (zOf (changedC C)) be ke te ti ne wa ta out pl lo sh le) H := (congrArg (fun x_ => va_P D vwCl (WM ca q th st ik ln ou pa iw so na nb fo nu al x_ be ke te ti ne wa ta out pl lo sh le) H) ew_).mp hP
    have hD : va_D A (WM ca q th st ik ln ou pa iw so na nb fo nu al (zOf (changedC C)) be ke te ti ne wa ta out pl lo sh le) := (congrArg (fun x_ => va_D A (WM ca q th st ik ln ou pa iw so na nb fo nu al x_ be ke te ti ne wa ta out pl lo sh le)) ew_).mp hD
    clear ew_
    subst hQQ
    exact xe_v () hx hb hr hlocks hK hP hD hS (trivial) dX3_changed_52
set_option maxHeartbeats 4000000 in
set_option maxRecDepth 100000 in
theorem mt_X3_noGate (l : Launch) (D : va_G) (ca : Nat → ClassId) (q : Nat → Nat) (th : Int32) (st : Int32) (ik : Int32) (ln : Int32) (ou : Int32) (pa : Int32) (iw : Int32) (so : Int32) (na : Int32) (nb : Int32) (fo : Int32) (nu : Int32) (al : Int32) (be : Nat → Int32) (ke : Nat → Int32) (te : Nat → Int32) (ti : Nat → Int32) (ne : Nat → Int32) (wa : Nat → Int32) (ta : Nat → Int64) (out : Nat → Int64) (pl : Nat → Int64) (lo : Nat → Int64) (sh : Nat → Int64) (le : Nat → Int64) (C : Nat → Nat) (kd_ : Int32) (f_ : Int32) (s_ : Int32) (h0 : C 0 ≤ 12) (nn : Nat) : Met l yX3_noGate (ws_ yX3_noGate cX3_noGate 4 (Option.some Jvm.ClassFile.FieldType.int)) ({ frames := 2, cells := 0, slots := 0, locals := 43 } : Room) (va_Pc [.ref (q 0), .int kd_, .int f_, .int s_] (PreW Ev0 D vwCl (TY ca) (WM ca q th st ik ln ou pa iw so na nb fo nu al (zOf C) be ke te ti ne wa ta out pl lo sh le) nn)) (va_Qi (fun (r_ : Int32) (_ : Unit) => r_ = nI (ncode C kd_ f_ s_)) (PostW D vwCl (TY ca) (fun (_ : Unit) => (WM ca q th st ik ln ou pa iw so na nb fo nu al (zOf C) be ke te ti ne wa ta out pl lo sh le)) (va_A (WM ca q th st ik ln ou pa iw so na nb fo nu al (zOf C) be ke te ti ne wa ta out pl lo sh le) nn)) (va_A (WM ca q th st ik ln ou pa iw so na nb fo nu al (zOf C) be ke te ti ne wa ta out pl lo sh le) nn)) 0 0 (va_A (WM ca q th st ik ln ou pa iw so na nb fo nu al (zOf C) be ke te ti ne wa ta out pl lo sh le) nn) := by
  refine met_go (QA := fun A => va_Qi (fun (r_ : Int32) (_ : Unit) => r_ = nI (ncode C kd_ f_ s_)) (PostW D vwCl (TY ca) (fun (_ : Unit) => (WM ca q th st ik ln ou pa iw so na nb fo nu al (zOf C) be ke te ti ne wa ta out pl lo sh le)) A) A) (by decide) (Nat.le_of_ble_eq_true rfl) (fun p e s m below meth c A ls QQ hQQ hx hb hr hts hown hlocks hml hA hP hK hD hE hl => ?_)
  have hown : s.vm.findClass RX3 = some m.cls := hown
  have hS : va_S A s.heap s.heap [] := va_S.rf
  have hl : lv_has ls 4 [(0, .ref (q 0)), (1, .int kd_), (2, .int f_), (3, .int s_)] := hl
  generalize hHe : s.heap = H at hP ⊢
  have hS : va_S A s.heap H [] := hHe ▸ hS
  generalize ([] : List Loc) = locs at hS ⊢
  refine lv_aload_n hx hb dX3_noGate_0 rfl (lv_at hl 0 rfl) ?_
  refine lv_iload_n hx hb dX3_noGate_1 rfl (lv_at hl 2 rfl) ?_
  refine xc_i (xr_V (b := q 0) (ci := 2) (q0 := 0) (As := [.int f_]) (rest := []) (mt_X3_isLine l D ca q th st ik ln ou pa iw so na nb fo nu al be ke te ti ne wa ta out pl lo sh le C f_ (by first | assumption | omega | (simp only [updN, forgetC, changedC]; (repeat' split) <;> omega)) H.size) ⟨hx, hb, hml, hown, hts⟩ (cwV 1 hts (lw_V q1692 q1694 qs44 q87 q1695) rfl rfl rfl (by decide +kernel) ⟨Nat.le_of_ble_eq_true rfl, Nat.le_of_ble_eq_true rfl⟩) Ev0_ok hE hK hS (Cut.all hP hD hS hA) rfl rfl rfl hl.1 rfl (Nat.le_of_ble_eq_true rfl) dX3_noGate_2 ⟨Nat.le_of_ble_eq_true rfl, Nat.le_of_ble_eq_true rfl⟩) hS (Cut.all hP hD hS hA) (fun r_1 u_2 H locs hq_2 hP hD hS => ?_)
  have hP : va_P D vwCl (WM ca q th st ik ln ou pa iw so na nb fo nu al (zOf C) be ke te ti ne wa ta out pl lo sh le) H := hP
  have hD : va_D A (WM ca q th st ik ln ou pa iw so na nb fo nu al (zOf C) be ke te ti ne wa ta out pl lo sh le) := hD
  have hp_2 : r_1 = bI (inR (6 + C 0) f_) := hq_2
  clear hq_2
  obtain rfl := hp_2
  refine nv_ifb_eq (tgt := 16) hx hb dX3_noGate_5 (by decide) (fun c_5 => ?_) (fun c_5 => ?_)
  · skip
    refine lv_iconst (v := nI 1) hx hb dX3_noGate_16 (by decide) ?_
    refine lv_goto (tgt := 50) hx hb dX3_noGate_17 (by decide) ?_
    subst hQQ
    exact xe_i (v := nI 1) () hx hb hr hlocks hK hP hD hS (congrArg nI (by clear hP hD hS hK hts; simp_all [ncode])) dX3_noGate_50
  · skip
    refine lv_aload_n hx hb dX3_noGate_8 rfl (lv_at hl 0 rfl) ?_
    refine lv_iload_n hx hb dX3_noGate_9 rfl (lv_at hl 3 rfl) ?_
    refine xc_i (xr_V (b := q 0) (ci := 2) (q0 := 0) (As := [.int s_]) (rest := []) (mt_X3_isLine l D ca q th st ik ln ou pa iw so na nb fo nu al be ke te ti ne wa ta out pl lo sh le C s_ (by first | assumption | omega | (simp only [updN, forgetC, changedC]; (repeat' split) <;> omega)) H.size) ⟨hx, hb, hml, hown, hts⟩ (cwV 1 hts (lw_V q1692 q1694 qs44 q87 q1695) rfl rfl rfl (by decide +kernel) ⟨Nat.le_of_ble_eq_true rfl, Nat.le_of_ble_eq_true rfl⟩) Ev0_ok hE hK hS (Cut.all hP hD hS hA) rfl rfl rfl hl.1 rfl (Nat.le_of_ble_eq_true rfl) dX3_noGate_10 ⟨Nat.le_of_ble_eq_true rfl, Nat.le_of_ble_eq_true rfl⟩) hS (Cut.all hP hD hS hA) (fun r_4 u_5 H locs hq_10 hP hD hS => ?_)
    have hP : va_P D vwCl (WM ca q th st ik ln ou pa iw so na nb fo nu al (zOf C) be ke te ti ne wa ta out pl lo sh le) H := hP
    have hD : va_D A (WM ca q th st ik ln ou pa iw so na nb fo nu al (zOf C) be ke te ti ne wa ta out pl lo sh le) := hD
    have hp_10 : r_4 = bI (inR (6 + C 0) s_) := hq_10
    clear hq_10
    obtain rfl := hp_10
    refine nv_ifb_ne (tgt := 20) hx hb dX3_noGate_13 (by decide) (fun c_13 => ?_) (fun c_13 => ?_)
    · skip
      refine lv_iload_n hx hb dX3_noGate_20 rfl (lv_at hl 1 rfl) ?_
      refine lv_iconst (v := nI 0) hx hb dX3_noGate_21 (by decide) ?_
      refine lv_bipush (v := nI 7) hx hb dX3_noGate_22 (by decide) ?_
      refine xc_i (xr_S (As := [.int kd_, .int (nI 0), .int (nI 7)]) (rest := []) (mt_X3_in l D ca kd_ (nI 0) (nI 7)  H.size) ⟨hx, hb, hml, hown, hts⟩ (va_cwS 3 hts (lw_S q1700 q1701 q87 q1702) rfl rfl rfl (by decide +kernel) ⟨Nat.le_of_ble_eq_true rfl, Nat.le_of_ble_eq_true rfl⟩) Ev0_ok hE hK hS (Cut.app (wc := []) (wr := (WM ca q th st ik ln ou pa iw so na nb fo nu al (zOf C) be ke te ti ne wa ta out pl lo sh le)) hP hD hS hA) rfl hl.1 rfl (Nat.le_of_ble_eq_true rfl) dX3_noGate_24 ⟨Nat.le_of_ble_eq_true rfl, Nat.le_of_ble_eq_true rfl⟩) hS (Cut.app (wc := []) (wr := (WM ca q th st ik ln ou pa iw so na nb fo nu al (zOf C) be ke te ti ne wa ta out pl lo sh le)) hP hD hS hA) (fun r_7 u_8 H locs hq_24 hP hD hS => ?_)
      have hP : va_P D vwCl (WM ca q th st ik ln ou pa iw so na nb fo nu al (zOf C) be ke te ti ne wa ta out pl lo sh le) H := hP
      have hD : va_D A (WM ca q th st ik ln ou pa iw so na nb fo nu al (zOf C) be ke te ti ne wa ta out pl lo sh le) := hD
      have hp_24 : r_7 = bI (decide ((nI 0) ≤ kd_ ∧ kd_ ≤ (nI 7))) := hq_24
      clear hq_24
      obtain rfl := hp_24
      refine nv_ifb_ne (tgt := 34) hx hb dX3_noGate_27 (by decide) (fun c_27 => ?_) (fun c_27 => ?_)
      · skip
        have c_27 : inR 8 kd_ = true := by rw [← inR_lit (n := 7) (by decide)]; exact c_27
        refine lv_aload_n hx hb dX3_noGate_34 rfl (lv_at hl 0 rfl) ?_
        refine gWM_0_z_X3 hx hb hts hown hK hP dX3_noGate_35 ?_
        refine lv_iconst (v := nI 0) hx hb dX3_noGate_38 (by decide) ?_
        refine ldWM_1 hx hb hK hP (by omega) dX3_noGate_39 ?_
        refine lv_topi (nm_r (e' := nI (C 0)) (rfl) ?_)
        refine lv_bipush (v := nI 12) hx hb dX3_noGate_40 (by decide) ?_
        refine nv_icmp_ne (tgt := 49) hx hb dX3_noGate_42 (by decide) (by omega) (by omega) (fun c_42 => ?_) (fun c_42 => ?_)
        · skip
          refine lv_iconst (v := nI 0) hx hb dX3_noGate_49 (by decide) ?_
          subst hQQ
          exact xe_i (v := nI 0) () hx hb hr hlocks hK hP hD hS (congrArg nI (by clear hP hD hS hK hts; simp_all [ncode])) dX3_noGate_50
        · skip
          refine lv_iconst (v := nI 3) hx hb dX3_noGate_45 (by decide) ?_
          refine lv_goto (tgt := 50) hx hb dX3_noGate_46 (by decide) ?_
          subst hQQ
          exact xe_i (v := nI 3) () hx hb hr hlocks hK hP hD hS (congrArg nI (by clear hP hD hS hK hts; simp_all [ncode])) dX3_noGate_50
      · skip
        have c_27 : inR 8 kd_ = false := by rw [← inR_lit (n := 7) (by decide)]; exact c_27
        refine lv_iconst (v := nI 2) hx hb dX3_noGate_30 (by decide) ?_
        refine lv_goto (tgt := 50) hx hb dX3_noGate_31 (by decide) ?_
        subst hQQ
        exact xe_i (v := nI 2) () hx hb hr hlocks hK hP hD hS (congrArg nI (by clear hP hD hS hK hts; simp_all [ncode])) dX3_noGate_50
    · skip
      refine lv_iconst (v := nI 1) hx hb dX3_noGate_16 (by decide) ?_
      refine lv_goto (tgt := 50) hx hb dX3_noGate_17 (by decide) ?_
      subst hQQ
      exact xe_i (v := nI 1) () hx hb hr hlocks hK hP hD hS (congrArg nI (by clear hP hD hS hK hts; simp_all [ncode])) dX3_noGate_50
set_option maxHeartbeats 4000000 in
set_option maxRecDepth 100000 in
theorem mt_X3_adds (l : Launch) (D : va_G) (ca : Nat → ClassId) (q : Nat → Nat) (th : Int32) (st : Int32) (ik : Int32) (ln : Int32) (ou : Int32) (pa : Int32) (iw : Int32) (so : Int32) (na : Int32) (nb : Int32) (fo : Int32) (nu : Int32) (al : Int32) (be : Nat → Int32) (ke : Nat → Int32) (te : Nat → Int32) (ti : Nat → Int32) (ne : Nat → Int32) (wa : Nat → Int32) (ta : Nat → Int64) (out : Nat → Int64) (pl : Nat → Int64) (lo : Nat → Int64) (sh : Nat → Int64) (le : Nat → Int64) (C : Nat → Nat) (kd_ : Nat) (f_ : Nat) (s_ : Nat) (hg : C 0 < 12) (hkd : kd_ < 8) (hf : f_ < 6 + C 0) (hse : s_ < 6 + C 0) (h39 : C 39 ≤ 64) (nn : Nat) : Met l yX3_adds (ws_ yX3_adds cX3_adds 5 (Option.none : Option Jvm.ClassFile.FieldType)) ({ frames := 3, cells := 0, slots := 0, locals := 63 } : Room) (va_Pc [.ref (q 0), .int (nI kd_), .int (nI f_), .int (nI s_)] (PreW Ev0 D vwCl (TY ca) (WM ca q th st ik ln ou pa iw so na nb fo nu al (zOf C) be ke te ti ne wa ta out pl lo sh le) nn)) (va_Qv (fun (_ : Unit) => True) (PostW D vwCl (TY ca) (fun (_ : Unit) => (WM ca q th st ik ln ou pa iw so na nb fo nu al (zOf (addsC C kd_ f_ s_)) be ke te ti ne wa ta out pl lo sh le)) (va_A (WM ca q th st ik ln ou pa iw so na nb fo nu al (zOf C) be ke te ti ne wa ta out pl lo sh le) nn)) (va_A (WM ca q th st ik ln ou pa iw so na nb fo nu al (zOf C) be ke te ti ne wa ta out pl lo sh le) nn)) 0 0 (va_A (WM ca q th st ik ln ou pa iw so na nb fo nu al (zOf C) be ke te ti ne wa ta out pl lo sh le) nn) := by
  refine met_go (QA := fun A => va_Qv (fun (_ : Unit) => True) (PostW D vwCl (TY ca) (fun (_ : Unit) => (WM ca q th st ik ln ou pa iw so na nb fo nu al (zOf (addsC C kd_ f_ s_)) be ke te ti ne wa ta out pl lo sh le)) A) A) (by decide) (Nat.le_of_ble_eq_true rfl) (fun p e s m below meth c A ls QQ hQQ hx hb hr hts hown hlocks hml hA hP hK hD hE hl => ?_)
  have hown : s.vm.findClass RX3 = some m.cls := hown
  have hS : va_S A s.heap s.heap [] := va_S.rf
  have hl : lv_has ls 5 [(0, .ref (q 0)), (1, .int (nI kd_)), (2, .int (nI f_)), (3, .int (nI s_))] := hl
  generalize hHe : s.heap = H at hP ⊢
  have hS : va_S A s.heap H [] := hHe ▸ hS
  generalize ([] : List Loc) = locs at hS ⊢
  refine lv_aload_n hx hb dX3_adds_0 rfl (lv_at hl 0 rfl) ?_
  refine gWM_0_z_X3 hx hb hts hown hK hP dX3_adds_1 ?_
  refine lv_iconst (v := nI 0) hx hb dX3_adds_4 (by decide) ?_
  refine ldWM_1 hx hb hK hP (by omega) dX3_adds_5 ?_
  refine lv_topi (nm_r (e' := nI (C 0)) (rfl) ?_)
  refine lv_istore (lv' := [(4, .int (nI (C 0))), (0, .ref (q 0)), (1, .int (nI kd_)), (2, .int (nI f_)), (3, .int (nI s_))]) hx hb dX3_adds_6 hl (by decide) rfl (fun ls hl => ?_)
  refine lv_aload_n hx hb dX3_adds_8 rfl (lv_at hl 1 rfl) ?_
  refine gWM_0_z_X3 hx hb hts hown hK hP dX3_adds_9 ?_
  refine lv_iconst (v := nI 1) hx hb dX3_adds_12 (by decide) ?_
  refine lv_iload hx hb dX3_adds_13 (lv_at hl 0 rfl) ?_
  refine nv_iadd hx hb dX3_adds_15 ?_
  refine lv_iload_n hx hb dX3_adds_16 rfl (lv_at hl 2 rfl) ?_
  refine stWM_1 hx hb hK hP hD hS (by omega) dX3_adds_17 (fun H locs hP hD hS => ?_)
  have ew_ : upd (zOf C) (1 + (C 0)) (nI kd_) = zOf (updN C (1 + (C 0)) kd_) := zOf_u (by omega)
  have hP : va_P D vwCl (WM ca q th st ik ln ou pa iw so na nb fo nu al (zOf (updN C (1 + (C 0)) kd_)) be ke te ti ne wa ta out pl lo sh le) H := (congrArg (fun x_ => va_P D vwCl (WM ca q th st ik ln ou pa iw so na nb fo nu al x_ be ke te ti ne wa ta out pl lo sh le) H) ew_).mp hP
  have hD : va_D A (WM ca q th st ik ln ou pa iw so na nb fo nu al (zOf (updN C (1 + (C 0)) kd_)) be ke te ti ne wa ta out pl lo sh le) := (congrArg (fun x_ => va_D A (WM ca q th st ik ln ou pa iw so na nb fo nu al x_ be ke te ti ne wa ta out pl lo sh le)) ew_).mp hD
  clear ew_
  refine lv_aload_n hx hb dX3_adds_18 rfl (lv_at hl 1 rfl) ?_
  refine gWM_0_z_X3 hx hb hts hown hK hP dX3_adds_19 ?_
  refine lv_bipush (v := nI 13) hx hb dX3_adds_22 (by decide) ?_
  refine lv_iload hx hb dX3_adds_24 (lv_at hl 0 rfl) ?_
  refine nv_iadd hx hb dX3_adds_26 ?_
  refine lv_iload_n hx hb dX3_adds_27 rfl (lv_at hl 3 rfl) ?_
  refine stWM_1 hx hb hK hP hD hS (by omega) dX3_adds_28 (fun H locs hP hD hS => ?_)
  have ew_ : upd (zOf (updN C (1 + (C 0)) kd_)) (13 + (C 0)) (nI f_) = zOf (updN (updN C (1 + (C 0)) kd_) (13 + (C 0)) f_) := zOf_u (by omega)
  have hP : va_P D vwCl (WM ca q th st ik ln ou pa iw so na nb fo nu al (zOf (updN (updN C (1 + (C 0)) kd_) (13 + (C 0)) f_)) be ke te ti ne wa ta out pl lo sh le) H := (congrArg (fun x_ => va_P D vwCl (WM ca q th st ik ln ou pa iw so na nb fo nu al x_ be ke te ti ne wa ta out pl lo sh le) H) ew_).mp hP
  have hD : va_D A (WM ca q th st ik ln ou pa iw so na nb fo nu al (zOf (updN (updN C (1 + (C 0)) kd_) (13 + (C 0)) f_)) be ke te ti ne wa ta out pl lo sh le) := (congrArg (fun x_ => va_D A (WM ca q th st ik ln ou pa iw so na nb fo nu al x_ be ke te ti ne wa ta out pl lo sh le)) ew_).mp hD
  clear ew_
  refine lv_aload_n hx hb dX3_adds_29 rfl (lv_at hl 1 rfl) ?_
  refine gWM_0_z_X3 hx hb hts hown hK hP dX3_adds_30 ?_
  refine lv_bipush (v := nI 25) hx hb dX3_adds_33 (by decide) ?_
  refine lv_iload hx hb dX3_adds_35 (lv_at hl 0 rfl) ?_
  refine nv_iadd hx hb dX3_adds_37 ?_
  refine lv_iload_n hx hb dX3_adds_38 rfl (lv_at hl 4 rfl) ?_
  refine stWM_1 hx hb hK hP hD hS (by omega) dX3_adds_39 (fun H locs hP hD hS => ?_)
  have ew_ : upd (zOf (updN (updN C (1 + (C 0)) kd_) (13 + (C 0)) f_)) (25 + (C 0)) (nI s_) = zOf (updN (updN (updN C (1 + (C 0)) kd_) (13 + (C 0)) f_) (25 + (C 0)) s_) := zOf_u (by omega)
  have hP : va_P D vwCl (WM ca q th st ik ln ou pa iw so na nb fo nu al (zOf (updN (updN (updN C (1 + (C 0)) kd_) (13 + (C 0)) f_) (25 + (C 0)) s_)) be ke te ti ne wa ta out pl lo sh le) H := (congrArg (fun x_ => va_P D vwCl (WM ca q th st ik ln ou pa iw so na nb fo nu al x_ be ke te ti ne wa ta out pl lo sh le) H) ew_).mp hP
  have hD : va_D A (WM ca q th st ik ln ou pa iw so na nb fo nu al (zOf (updN (updN (updN C (1 + (C 0)) kd_) (13 + (C 0)) f_) (25 + (C 0)) s_)) be ke te ti ne wa ta out pl lo sh le) := (congrArg (fun x_ => va_D A (WM ca q th st ik ln ou pa iw so na nb fo nu al x_ be ke te ti ne wa ta out pl lo sh le)) ew_).mp hD
  clear ew_
  refine lv_aload_n hx hb dX3_adds_40 rfl (lv_at hl 1 rfl) ?_
  refine gWM_0_z_X3 hx hb hts hown hK hP dX3_adds_41 ?_
  refine lv_iconst (v := nI 0) hx hb dX3_adds_44 (by decide) ?_
  refine lv_dup2_11 hx hb dX3_adds_45 rfl rfl ?_
  refine ldWM_1 hx hb hK hP (by omega) dX3_adds_46 ?_
  refine lv_topi (nm_r (e' := nI (C 0)) ((zOf_n (by decide)).trans (congrArg nI (by simp only [updN]; (repeat' split) <;> omega))) ?_)
  refine lv_iconst (v := nI 1) hx hb dX3_adds_47 (by decide) ?_
  refine nv_iadd hx hb dX3_adds_48 ?_
  refine stWM_1 hx hb hK hP hD hS (by omega) dX3_adds_49 (fun H locs hP hD hS => ?_)
  have ew_ : upd (zOf (updN (updN (updN C (1 + (C 0)) kd_) (13 + (C 0)) f_) (25 + (C 0)) s_)) 0 (nI ((C 0) + 1)) = zOf (updN (updN (updN (updN C (1 + (C 0)) kd_) (13 + (C 0)) f_) (25 + (C 0)) s_) 0 ((C 0) + 1)) := zOf_u (by decide)
  have hP : va_P D vwCl (WM ca q th st ik ln ou pa iw so na nb fo nu al (zOf (updN (updN (updN (updN C (1 + (C 0)) kd_) (13 + (C 0)) f_) (25 + (C 0)) s_) 0 ((C 0) + 1))) be ke te ti ne wa ta out pl lo sh le) H := (congrArg (fun x_ => va_P D vwCl (WM ca q th st ik ln ou pa iw so na nb fo nu al x_ be ke te ti ne wa ta out pl lo sh le) H) ew_).mp hP
  have hD : va_D A (WM ca q th st ik ln ou pa iw so na nb fo nu al (zOf (updN (updN (updN (updN C (1 + (C 0)) kd_) (13 + (C 0)) f_) (25 + (C 0)) s_) 0 ((C 0) + 1))) be ke te ti ne wa ta out pl lo sh le) := (congrArg (fun x_ => va_D A (WM ca q th st ik ln ou pa iw so na nb fo nu al x_ be ke te ti ne wa ta out pl lo sh le)) ew_).mp hD
  clear ew_
  refine lv_aload_n hx hb dX3_adds_50 rfl (lv_at hl 1 rfl) ?_
  refine xc_v (xr_V (b := q 0) (ci := 2) (q0 := 0) (As := []) (rest := []) (mt_X3_changed l D ca q th st ik ln ou pa iw so na nb fo nu al be ke te ti ne wa ta out pl lo sh le (updN (updN (updN (updN C (1 + (C 0)) kd_) (13 + (C 0)) f_) (25 + (C 0)) s_) 0 ((C 0) + 1)) (by first | assumption | omega | (simp only [updN, forgetC, changedC]; (repeat' split) <;> omega)) (by first | assumption | omega | (simp only [updN, forgetC, changedC]; (repeat' split) <;> omega)) H.size) ⟨hx, hb, hml, hown, hts⟩ (cwV 0 hts (lw_V q1707 q1709 qs47 q87 q1710) rfl rfl rfl (by decide +kernel) ⟨Nat.le_of_ble_eq_true rfl, Nat.le_of_ble_eq_true rfl⟩) Ev0_ok hE hK hS (Cut.all hP hD hS hA) rfl rfl rfl hl.1 rfl (Nat.le_of_ble_eq_true rfl) dX3_adds_51 ⟨Nat.le_of_ble_eq_true rfl, Nat.le_of_ble_eq_true rfl⟩) hS (Cut.all hP hD hS hA) (fun u_2 H locs hq_51 hP hD hS => ?_)
  have hP : va_P D vwCl (WM ca q th st ik ln ou pa iw so na nb fo nu al (zOf (changedC (updN (updN (updN (updN C (1 + (C 0)) kd_) (13 + (C 0)) f_) (25 + (C 0)) s_) 0 ((C 0) + 1)))) be ke te ti ne wa ta out pl lo sh le) H := hP
  have hD : va_D A (WM ca q th st ik ln ou pa iw so na nb fo nu al (zOf (changedC (updN (updN (updN (updN C (1 + (C 0)) kd_) (13 + (C 0)) f_) (25 + (C 0)) s_) 0 ((C 0) + 1)))) be ke te ti ne wa ta out pl lo sh le) := hD
  subst hQQ
  exact xe_v () hx hb hr hlocks hK hP hD hS (trivial) dX3_adds_54
set_option maxHeartbeats 4000000 in
set_option maxRecDepth 100000 in
theorem mt_X3_record (l : Launch) (D : va_G) (ca : Nat → ClassId) (q : Nat → Nat) (th : Int32) (ik : Int32) (ln : Int32) (ou : Int32) (pa : Int32) (iw : Int32) (so : Int32) (na : Int32) (nb : Int32) (fo : Int32) (nu : Int32) (al : Int32) (be : Nat → Int32) (ke : Nat → Int32) (te : Nat → Int32) (ti : Nat → Int32) (ne : Nat → Int32) (wa : Nat → Int32) (ta : Nat → Int64) (out : Nat → Int64) (pl : Nat → Int64) (lo : Nat → Int64) (sh : Nat → Int64) (le : Nat → Int64) (C : Nat → Nat) (L : List (Nat → Nat)) (hL : L.length ≤ 5) (hB : BeOk L be) (nn : Nat) : Met l yX3_record (ws_ yX3_record cX3_record 2 (Option.none : Option Jvm.ClassFile.FieldType)) ({ frames := 0, cells := 0, slots := 0, locals := 0 } : Room) (va_Pc [.ref (q 0)] (PreW Ev0 D vwCl (TY ca) (WM ca q th (nI L.length) ik ln ou pa iw so na nb fo nu al (zOf C) be ke te ti ne wa ta out pl lo sh le) nn)) (va_Qv (fun (u_ : (Nat → Int32)) => BeOk (pushL L C) u_) (PostW D vwCl (TY ca) (fun (u_ : (Nat → Int32)) => (WM ca q th (nI (pushL L C).length) ik ln ou pa iw so na nb fo nu al (zOf C) u_ ke te ti ne wa ta out pl lo sh le)) (va_A (WM ca q th (nI L.length) ik ln ou pa iw so na nb fo nu al (zOf C) be ke te ti ne wa ta out pl lo sh le) nn)) (va_A (WM ca q th (nI L.length) ik ln ou pa iw so na nb fo nu al (zOf C) be ke te ti ne wa ta out pl lo sh le) nn)) 0 0 (va_A (WM ca q th (nI L.length) ik ln ou pa iw so na nb fo nu al (zOf C) be ke te ti ne wa ta out pl lo sh le) nn) := by
  refine met_go (QA := fun A => va_Qv (fun (u_ : (Nat → Int32)) => BeOk (pushL L C) u_) (PostW D vwCl (TY ca) (fun (u_ : (Nat → Int32)) => (WM ca q th (nI (pushL L C).length) ik ln ou pa iw so na nb fo nu al (zOf C) u_ ke te ti ne wa ta out pl lo sh le)) A) A) (by decide) (Nat.le_of_ble_eq_true rfl) (fun p e s m below meth c A ls QQ hQQ hx hb hr hts hown hlocks hml hA hP hK hD hE hl => ?_)
  have hown : s.vm.findClass RX3 = some m.cls := hown
  have hS : va_S A s.heap s.heap [] := va_S.rf
  have hl : lv_has ls 2 [(0, .ref (q 0))] := hl
  generalize hHe : s.heap = H at hP ⊢
  have hS : va_S A s.heap H [] := hHe ▸ hS
  generalize ([] : List Loc) = locs at hS ⊢
  refine lv_aload_n hx hb dX3_record_0 rfl (lv_at hl 0 rfl) ?_
  refine gWM_0_states_X3 hx hb hts hown hK hP dX3_record_1 ?_
  refine lv_iconst (v := nI 5) hx hb dX3_record_4 (by decide) ?_
  have jn_48 : ∀ (M_ : List (Nat → Nat)) (b_ : Nat → Int32), (M_.length ≤ 4) → (BeOk M_ b_) → (M_ ++ [C] = pushL L C) → ∀ (H : Heap) (locs : List Loc), va_P D vwCl (WM ca q th (nI M_.length) ik ln ou pa iw so na nb fo nu al (zOf C) b_ ke te ti ne wa ta out pl lo sh le) H → va_D A (WM ca q th (nI M_.length) ik ln ou pa iw so na nb fo nu al (zOf C) b_ ke te ti ne wa ta out pl lo sh le) → va_S A s.heap H locs → ∀ (ls : Array Slot), lv_has ls 2 [(0, .ref (q 0))] → W p l e ({ frames := 0, cells := 0, slots := 0, locals := 0 } : Room) s m ([.ref (q 0)] : List Value).toArray below meth c H locs 0 0 QQ (F0 m 48 ls []) := by
    intro M_ b_ hM hMb hMp H locs hP hD hS ls hl 
    refine lv_iconst (v := nI 0) hx hb dX3_record_48 (by decide) ?_
    refine lv_istore_n (lv' := [(1, .int (nI 0)), (0, .ref (q 0))]) hx hb dX3_record_49 rfl hl (by decide) rfl (fun ls hl => ?_)
    have lp_50 : ∀ (fu_50 : Nat) (i : Nat), 68 - i < fu_50 → (i ≤ 68) → ∀ (H : Heap) (locs : List Loc), va_P D vwCl (WM ca q th (nI M_.length) ik ln ou pa iw so na nb fo nu al (zOf C) (fillA M_.length i (zOf C) b_) ke te ti ne wa ta out pl lo sh le) H → va_D A (WM ca q th (nI M_.length) ik ln ou pa iw so na nb fo nu al (zOf C) (fillA M_.length i (zOf C) b_) ke te ti ne wa ta out pl lo sh le) → va_S A s.heap H locs → ∀ (ls : Array Slot), lv_has ls 2 [(1, .int (nI i)), (0, .ref (q 0))] → W p l e ({ frames := 0, cells := 0, slots := 0, locals := 0 } : Room) s m ([.ref (q 0)] : List Value).toArray below meth c H locs 0 0 QQ (F0 m 50 ls []) := by
      intro fu_50
      induction fu_50 with
      | zero => intro i hfu; exact absurd hfu (Nat.not_lt_zero _)
      | succ fu_50 ih_50 =>
        intro i hfu hi H locs hP hD hS ls hl
        refine lv_iload_n hx hb dX3_record_50 rfl (lv_at hl 0 rfl) ?_
        refine lv_bipush (v := nI 68) hx hb dX3_record_51 (by decide) ?_
        refine nv_icmp_ge (tgt := 82) hx hb dX3_record_53 (by decide) (by omega) (by omega) (fun c_53 => ?_) (fun c_53 => ?_)
        · skip
          have e_ : 68 = i := Eq.symm (by omega)
          subst e_
          have ew_ : fillA M_.length 68 (zOf C) b_ = fillA M_.length 68 (zOf C) b_ := rfl
          have hP : va_P D vwCl (WM ca q th (nI M_.length) ik ln ou pa iw so na nb fo nu al (zOf C) (fillA M_.length 68 (zOf C) b_) ke te ti ne wa ta out pl lo sh le) H := (congrArg (fun x_ => va_P D vwCl (WM ca q th (nI M_.length) ik ln ou pa iw so na nb fo nu al (zOf C) x_ ke te ti ne wa ta out pl lo sh le) H) ew_).mp hP
          have hD : va_D A (WM ca q th (nI M_.length) ik ln ou pa iw so na nb fo nu al (zOf C) (fillA M_.length 68 (zOf C) b_) ke te ti ne wa ta out pl lo sh le) := (congrArg (fun x_ => va_D A (WM ca q th (nI M_.length) ik ln ou pa iw so na nb fo nu al (zOf C) x_ ke te ti ne wa ta out pl lo sh le)) ew_).mp hD
          clear ew_
          refine lv_aload_n hx hb dX3_record_82 rfl (lv_at hl 1 rfl) ?_
          refine lv_dup hx hb dX3_record_83 rfl ?_
          refine gWM_0_states_X3 hx hb hts hown hK hP dX3_record_84 ?_
          refine lv_iconst (v := nI 1) hx hb dX3_record_87 (by decide) ?_
          refine nv_iadd hx hb dX3_record_88 ?_
          refine pWM_0_states_X3 hx hb hts hown hK hP hD hS dX3_record_89 (fun H locs hP hD hS => ?_)
          have ew_ : nI (M_.length + 1) = nI (pushL L C).length := by rw [← hMp]; simp
          have hP : va_P D vwCl (WM ca q th (nI (pushL L C).length) ik ln ou pa iw so na nb fo nu al (zOf C) (fillA M_.length 68 (zOf C) b_) ke te ti ne wa ta out pl lo sh le) H := (congrArg (fun x_ => va_P D vwCl (WM ca q th x_ ik ln ou pa iw so na nb fo nu al (zOf C) (fillA M_.length 68 (zOf C) b_) ke te ti ne wa ta out pl lo sh le) H) ew_).mp hP
          have hD : va_D A (WM ca q th (nI (pushL L C).length) ik ln ou pa iw so na nb fo nu al (zOf C) (fillA M_.length 68 (zOf C) b_) ke te ti ne wa ta out pl lo sh le) := (congrArg (fun x_ => va_D A (WM ca q th x_ ik ln ou pa iw so na nb fo nu al (zOf C) (fillA M_.length 68 (zOf C) b_) ke te ti ne wa ta out pl lo sh le)) ew_).mp hD
          clear ew_
          subst hQQ
          exact xe_v (fillA M_.length 68 (zOf C) b_) hx hb hr hlocks hK hP hD hS (by rw [← hMp]; exact BeOk_add hMb) dX3_record_92
        · skip
          refine lv_aload_n hx hb dX3_record_56 rfl (lv_at hl 1 rfl) ?_
          refine gWM_0_before_X3 hx hb hts hown hK hP dX3_record_57 ?_
          refine lv_bipush (v := nI 68) hx hb dX3_record_60 (by decide) ?_
          refine lv_aload_n hx hb dX3_record_62 rfl (lv_at hl 1 rfl) ?_
          refine gWM_0_states_X3 hx hb hts hown hK hP dX3_record_63 ?_
          refine nv_imul hx hb dX3_record_66 ?_
          refine lv_iload_n hx hb dX3_record_67 rfl (lv_at hl 0 rfl) ?_
          refine nv_iadd hx hb dX3_record_68 ?_
          refine lv_aload_n hx hb dX3_record_69 rfl (lv_at hl 1 rfl) ?_
          refine gWM_0_z_X3 hx hb hts hown hK hP dX3_record_70 ?_
          refine lv_iload_n hx hb dX3_record_73 rfl (lv_at hl 0 rfl) ?_
          refine ldWM_1 hx hb hK hP (by omega) dX3_record_74 ?_
          refine lv_topi (nm_r (e' := zOf C i) (rfl) ?_)
          refine stWM_2 hx hb hK hP hD hS (by omega) dX3_record_75 (fun H locs hP hD hS => ?_)
          refine lv_iinc (v := nI (i + 1)) (lv' := [(1, .int (nI (i + 1))), (0, .ref (q 0))]) hx hb dX3_record_76 hl (k := 0) rfl (nI_add i 1) (by decide) rfl (fun ls hl => ?_)
          refine lv_goto (tgt := 50) hx hb dX3_record_79 (by decide) ?_
          have ew_ : upd (fillA M_.length i (zOf C) b_) ((68 * M_.length) + i) (zOf C i) = fillA M_.length (i + 1) (zOf C) b_ := fillA_s _ _ _ _
          have hP : va_P D vwCl (WM ca q th (nI M_.length) ik ln ou pa iw so na nb fo nu al (zOf C) (fillA M_.length (i + 1) (zOf C) b_) ke te ti ne wa ta out pl lo sh le) H := (congrArg (fun x_ => va_P D vwCl (WM ca q th (nI M_.length) ik ln ou pa iw so na nb fo nu al (zOf C) x_ ke te ti ne wa ta out pl lo sh le) H) ew_).mp hP
          have hD : va_D A (WM ca q th (nI M_.length) ik ln ou pa iw so na nb fo nu al (zOf C) (fillA M_.length (i + 1) (zOf C) b_) ke te ti ne wa ta out pl lo sh le) := (congrArg (fun x_ => va_D A (WM ca q th (nI M_.length) ik ln ou pa iw so na nb fo nu al (zOf C) x_ ke te ti ne wa ta out pl lo sh le)) ew_).mp hD
          clear ew_
          exact ih_50  (i + 1) (by omega) (by omega) _ _ hP hD hS ls (lv_sub hl [0, 1] rfl)
    have ew_ : b_ = fillA M_.length 0 (zOf C) b_ := (fillA_0 _ _ _).symm
    have hP : va_P D vwCl (WM ca q th (nI M_.length) ik ln ou pa iw so na nb fo nu al (zOf C) (fillA M_.length 0 (zOf C) b_) ke te ti ne wa ta out pl lo sh le) H := (congrArg (fun x_ => va_P D vwCl (WM ca q th (nI M_.length) ik ln ou pa iw so na nb fo nu al (zOf C) x_ ke te ti ne wa ta out pl lo sh le) H) ew_).mp hP
    have hD : va_D A (WM ca q th (nI M_.length) ik ln ou pa iw so na nb fo nu al (zOf C) (fillA M_.length 0 (zOf C) b_) ke te ti ne wa ta out pl lo sh le) := (congrArg (fun x_ => va_D A (WM ca q th (nI M_.length) ik ln ou pa iw so na nb fo nu al (zOf C) x_ ke te ti ne wa ta out pl lo sh le)) ew_).mp hD
    clear ew_
    exact lp_50 (68 - 0 + 1) 0 (Nat.lt_succ_self _) (by omega) _ _ hP hD hS ls (lv_sub hl [0, 1] rfl)
  refine nv_icmp_ne (tgt := 48) hx hb dX3_record_5 (by decide) (by omega) (by omega) (fun c_5 => ?_) (fun c_5 => ?_)
  · skip
    exact jn_48 L be (by omega) hB (by unfold pushL; rw [if_neg c_5]) _ _ hP hD hS ls (lv_sub hl [0] rfl)
  · skip
    refine lv_iconst (v := nI 0) hx hb dX3_record_8 (by decide) ?_
    refine lv_istore_n (lv' := [(1, .int (nI 0)), (0, .ref (q 0))]) hx hb dX3_record_9 rfl hl (by decide) rfl (fun ls hl => ?_)
    have lp_10 : ∀ (fu_10 : Nat) (i : Nat), 272 - i < fu_10 → (i ≤ 272) → ∀ (H : Heap) (locs : List Loc), va_P D vwCl (WM ca q th (nI L.length) ik ln ou pa iw so na nb fo nu al (zOf C) (shiftF i be) ke te ti ne wa ta out pl lo sh le) H → va_D A (WM ca q th (nI L.length) ik ln ou pa iw so na nb fo nu al (zOf C) (shiftF i be) ke te ti ne wa ta out pl lo sh le) → va_S A s.heap H locs → ∀ (ls : Array Slot), lv_has ls 2 [(1, .int (nI i)), (0, .ref (q 0))] → W p l e ({ frames := 0, cells := 0, slots := 0, locals := 0 } : Room) s m ([.ref (q 0)] : List Value).toArray below meth c H locs 0 0 QQ (F0 m 10 ls []) := by
      intro fu_10
      induction fu_10 with
      | zero => intro i hfu; exact absurd hfu (Nat.not_lt_zero _)
      | succ fu_10 ih_10 =>
        intro i hfu hi H locs hP hD hS ls hl
        refine lv_iload_n hx hb dX3_record_10 rfl (lv_at hl 0 rfl) ?_
        refine lv_sipush (v := nI 272) hx hb dX3_record_11 (by decide) ?_
        refine nv_icmp_ge (tgt := 38) hx hb dX3_record_14 (by decide) (by omega) (by omega) (fun c_14 => ?_) (fun c_14 => ?_)
        · skip
          have e_ : 272 = i := Eq.symm (by omega)
          subst e_
          refine lv_aload_n hx hb dX3_record_38 rfl (lv_at hl 1 rfl) ?_
          refine lv_dup hx hb dX3_record_39 rfl ?_
          refine gWM_0_states_X3 hx hb hts hown hK hP dX3_record_40 ?_
          refine lv_iconst (v := nI 1) hx hb dX3_record_43 (by decide) ?_
          refine nv_isub hx hb dX3_record_44 (by omega) ?_
          refine pWM_0_states_X3 hx hb hts hown hK hP hD hS dX3_record_45 (fun H locs hP hD hS => ?_)
          have ew_ : nI (L.length - 1) = nI (L.tail.length) := by rw [List.length_tail]
          have hP : va_P D vwCl (WM ca q th (nI (L.tail.length)) ik ln ou pa iw so na nb fo nu al (zOf C) (shiftF 272 be) ke te ti ne wa ta out pl lo sh le) H := (congrArg (fun x_ => va_P D vwCl (WM ca q th x_ ik ln ou pa iw so na nb fo nu al (zOf C) (shiftF 272 be) ke te ti ne wa ta out pl lo sh le) H) ew_).mp hP
          have hD : va_D A (WM ca q th (nI (L.tail.length)) ik ln ou pa iw so na nb fo nu al (zOf C) (shiftF 272 be) ke te ti ne wa ta out pl lo sh le) := (congrArg (fun x_ => va_D A (WM ca q th x_ ik ln ou pa iw so na nb fo nu al (zOf C) (shiftF 272 be) ke te ti ne wa ta out pl lo sh le)) ew_).mp hD
          clear ew_
          exact jn_48 L.tail (shiftF 272 be) (by rw [List.length_tail]; omega) (BeOk_shift c_5 hB) (by unfold pushL; rw [if_pos c_5]) _ _ hP hD hS ls (lv_sub hl [1] rfl)
        · skip
          refine lv_aload_n hx hb dX3_record_17 rfl (lv_at hl 1 rfl) ?_
          refine gWM_0_before_X3 hx hb hts hown hK hP dX3_record_18 ?_
          refine lv_iload_n hx hb dX3_record_21 rfl (lv_at hl 0 rfl) ?_
          refine lv_aload_n hx hb dX3_record_22 rfl (lv_at hl 1 rfl) ?_
          refine gWM_0_before_X3 hx hb hts hown hK hP dX3_record_23 ?_
          refine lv_bipush (v := nI 68) hx hb dX3_record_26 (by decide) ?_
          refine lv_iload_n hx hb dX3_record_28 rfl (lv_at hl 0 rfl) ?_
          refine nv_iadd hx hb dX3_record_29 ?_
          refine ldWM_2 hx hb hK hP (by omega) dX3_record_30 ?_
          refine stWM_2 hx hb hK hP hD hS (by omega) dX3_record_31 (fun H locs hP hD hS => ?_)
          refine lv_iinc (v := nI (i + 1)) (lv' := [(1, .int (nI (i + 1))), (0, .ref (q 0))]) hx hb dX3_record_32 hl (k := 0) rfl (nI_add i 1) (by decide) rfl (fun ls hl => ?_)
          refine lv_goto (tgt := 10) hx hb dX3_record_35 (by decide) ?_
          have ew_ : upd (shiftF i be) i ((shiftF i be) (68 + i)) = shiftF (i + 1) be := shiftF_s _ _
          have hP : va_P D vwCl (WM ca q th (nI L.length) ik ln ou pa iw so na nb fo nu al (zOf C) (shiftF (i + 1) be) ke te ti ne wa ta out pl lo sh le) H := (congrArg (fun x_ => va_P D vwCl (WM ca q th (nI L.length) ik ln ou pa iw so na nb fo nu al (zOf C) x_ ke te ti ne wa ta out pl lo sh le) H) ew_).mp hP
          have hD : va_D A (WM ca q th (nI L.length) ik ln ou pa iw so na nb fo nu al (zOf C) (shiftF (i + 1) be) ke te ti ne wa ta out pl lo sh le) := (congrArg (fun x_ => va_D A (WM ca q th (nI L.length) ik ln ou pa iw so na nb fo nu al (zOf C) x_ ke te ti ne wa ta out pl lo sh le)) ew_).mp hD
          clear ew_
          exact ih_10  (i + 1) (by omega) (by omega) _ _ hP hD hS ls (lv_sub hl [0, 1] rfl)
    have ew_ : be = shiftF 0 be := (shiftF_0 _).symm
    have hP : va_P D vwCl (WM ca q th (nI L.length) ik ln ou pa iw so na nb fo nu al (zOf C) (shiftF 0 be) ke te ti ne wa ta out pl lo sh le) H := (congrArg (fun x_ => va_P D vwCl (WM ca q th (nI L.length) ik ln ou pa iw so na nb fo nu al (zOf C) x_ ke te ti ne wa ta out pl lo sh le) H) ew_).mp hP
    have hD : va_D A (WM ca q th (nI L.length) ik ln ou pa iw so na nb fo nu al (zOf C) (shiftF 0 be) ke te ti ne wa ta out pl lo sh le) := (congrArg (fun x_ => va_D A (WM ca q th (nI L.length) ik ln ou pa iw so na nb fo nu al (zOf C) x_ ke te ti ne wa ta out pl lo sh le)) ew_).mp hD
    clear ew_
    exact lp_10 (272 - 0 + 1) 0 (Nat.lt_succ_self _) (by omega) _ _ hP hD hS ls (lv_sub hl [0, 1] rfl)
set_option maxHeartbeats 4000000 in
set_option maxRecDepth 100000 in
theorem mt_X3_addGate_ok (l : Launch) (D : va_G) (ca : Nat → ClassId) (q : Nat → Nat) (th : Int32) (ik : Int32) (ln : Int32) (ou : Int32) (pa : Int32) (iw : Int32) (so : Int32) (na : Int32) (nb : Int32) (fo : Int32) (nu : Int32) (al : Int32) (be : Nat → Int32) (ke : Nat → Int32) (te : Nat → Int32) (ti : Nat → Int32) (ne : Nat → Int32) (wa : Nat → Int32) (ta : Nat → Int64) (out : Nat → Int64) (pl : Nat → Int64) (lo : Nat → Int64) (sh : Nat → Int64) (le : Nat → Int64) (C : Nat → Nat) (L : List (Nat → Nat)) (kd_ : Nat) (f_ : Nat) (s_ : Nat) (hg : C 0 < 12) (hkd : kd_ < 8) (hf : f_ < 6 + C 0) (hse : s_ < 6 + C 0) (h39 : C 39 ≤ 64) (hL : L.length ≤ 5) (hB : BeOk L be) (nn : Nat) : Met l yX3_addGate (ws_ yX3_addGate cX3_addGate 4 (Option.some Jvm.ClassFile.FieldType.int)) ({ frames := 4, cells := 0, slots := 0, locals := 87 } : Room) (va_Pc [.ref (q 0), .int (nI kd_), .int (nI f_), .int (nI s_)] (PreW Ev0 D vwCl (TY ca) (WM ca q th (nI L.length) ik ln ou pa iw so na nb fo nu al (zOf C) be ke te ti ne wa ta out pl lo sh le) nn)) (va_Qi (fun (r_ : Int32) (u_ : (Nat → Int32)) => r_ = nI (6 + C 0) ∧ (BeOk (pushL L C) u_)) (PostW D vwCl (TY ca) (fun (u_ : (Nat → Int32)) => (WM ca q (nI 0) (nI (pushL L C).length) ik ln ou pa iw so na nb fo nu al (zOf (addsC C kd_ f_ s_)) u_ ke te ti ne wa ta out pl lo sh le)) (va_A (WM ca q th (nI L.length) ik ln ou pa iw so na nb fo nu al (zOf C) be ke te ti ne wa ta out pl lo sh le) nn)) (va_A (WM ca q th (nI L.length) ik ln ou pa iw so na nb fo nu al (zOf C) be ke te ti ne wa ta out pl lo sh le) nn)) 0 0 (va_A (WM ca q th (nI L.length) ik ln ou pa iw so na nb fo nu al (zOf C) be ke te ti ne wa ta out pl lo sh le) nn) := by
  refine met_go (QA := fun A => va_Qi (fun (r_ : Int32) (u_ : (Nat → Int32)) => r_ = nI (6 + C 0) ∧ (BeOk (pushL L C) u_)) (PostW D vwCl (TY ca) (fun (u_ : (Nat → Int32)) => (WM ca q (nI 0) (nI (pushL L C).length) ik ln ou pa iw so na nb fo nu al (zOf (addsC C kd_ f_ s_)) u_ ke te ti ne wa ta out pl lo sh le)) A) A) (by decide) (Nat.le_of_ble_eq_true rfl) (fun p e s m below meth c A ls QQ hQQ hx hb hr hts hown hlocks hml hA hP hK hD hE hl => ?_)
  have hown : s.vm.findClass RX3 = some m.cls := hown
  have hS : va_S A s.heap s.heap [] := va_S.rf
  have hl : lv_has ls 4 [(0, .ref (q 0)), (1, .int (nI kd_)), (2, .int (nI f_)), (3, .int (nI s_))] := hl
  generalize hHe : s.heap = H at hP ⊢
  have hS : va_S A s.heap H [] := hHe ▸ hS
  generalize ([] : List Loc) = locs at hS ⊢
  refine lv_aload_n hx hb dX3_addGate_0 rfl (lv_at hl 0 rfl) ?_
  refine lv_aload_n hx hb dX3_addGate_1 rfl (lv_at hl 0 rfl) ?_
  refine lv_iload_n hx hb dX3_addGate_2 rfl (lv_at hl 1 rfl) ?_
  refine lv_iload_n hx hb dX3_addGate_3 rfl (lv_at hl 2 rfl) ?_
  refine lv_iload_n hx hb dX3_addGate_4 rfl (lv_at hl 3 rfl) ?_
  refine xc_i (xr_V (b := q 0) (ci := 2) (q0 := 0) (As := [.int (nI kd_), .int (nI f_), .int (nI s_)]) (rest := [.ref (q 0)]) (mt_X3_noGate l D ca q th (nI L.length) ik ln ou pa iw so na nb fo nu al be ke te ti ne wa ta out pl lo sh le C (nI kd_) (nI f_) (nI s_) (by first | assumption | omega | (simp only [updN, forgetC, changedC]; (repeat' split) <;> omega)) H.size) ⟨hx, hb, hml, hown, hts⟩ (cwV 3 hts (lw_V q1688 q1690 qs43 q87 q1691) rfl rfl rfl (by decide +kernel) ⟨Nat.le_of_ble_eq_true rfl, Nat.le_of_ble_eq_true rfl⟩) Ev0_ok hE hK hS (Cut.all hP hD hS hA) rfl rfl rfl hl.1 rfl (Nat.le_of_ble_eq_true rfl) dX3_addGate_5 ⟨Nat.le_of_ble_eq_true rfl, Nat.le_of_ble_eq_true rfl⟩) hS (Cut.all hP hD hS hA) (fun r_1 u_2 H locs hq_5 hP hD hS => ?_)
  have hP : va_P D vwCl (WM ca q th (nI L.length) ik ln ou pa iw so na nb fo nu al (zOf C) be ke te ti ne wa ta out pl lo sh le) H := hP
  have hD : va_D A (WM ca q th (nI L.length) ik ln ou pa iw so na nb fo nu al (zOf C) be ke te ti ne wa ta out pl lo sh le) := hD
  have hp_5 : r_1 = nI (ncode C (nI kd_) (nI f_) (nI s_)) := hq_5
  clear hq_5
  obtain rfl := hp_5
  refine lv_topi (nm_r (e' := nI 0) (congrArg nI (ncode_ok hg hkd hf hse)) ?_)
  refine pWM_0_thrown_X3 hx hb hts hown hK hP hD hS dX3_addGate_8 (fun H locs hP hD hS => ?_)
  refine lv_aload_n hx hb dX3_addGate_11 rfl (lv_at hl 0 rfl) ?_
  refine gWM_0_thrown_X3 hx hb hts hown hK hP dX3_addGate_12 ?_
  refine nv_if_le (tgt := 20) hx hb dX3_addGate_15 (by decide) (by omega) (fun c_15 => ?_) (fun c_15 => absurd c_15 (by decide))
  refine lv_aload_n hx hb dX3_addGate_20 rfl (lv_at hl 0 rfl) ?_
  refine xc_v (xr_V (b := q 0) (ci := 2) (q0 := 0) (As := []) (rest := []) (mt_X3_record l D ca q (nI 0) ik ln ou pa iw so na nb fo nu al be ke te ti ne wa ta out pl lo sh le C L (by first | assumption | omega | (simp only [updN, forgetC, changedC]; (repeat' split) <;> omega)) (by first | assumption | omega | (simp only [updN, forgetC, changedC]; (repeat' split) <;> omega)) H.size) ⟨hx, hb, hml, hown, hts⟩ (cwV 0 hts (lw_V q1680 q1682 qs42 q87 q1683) rfl rfl rfl (by decide +kernel) ⟨Nat.le_of_ble_eq_true rfl, Nat.le_of_ble_eq_true rfl⟩) Ev0_ok hE hK hS (Cut.all hP hD hS hA) rfl rfl rfl hl.1 rfl (Nat.le_of_ble_eq_true rfl) dX3_addGate_21 ⟨Nat.le_of_ble_eq_true rfl, Nat.le_of_ble_eq_true rfl⟩) hS (Cut.all hP hD hS hA) (fun u_4 H locs hq_21 hP hD hS => ?_)
  obtain ⟨be1_5, rfl⟩ : ∃ z_, z_ = u_4 := ⟨_, rfl⟩
  have hP : va_P D vwCl (WM ca q (nI 0) (nI (pushL L C).length) ik ln ou pa iw so na nb fo nu al (zOf C) be1_5 ke te ti ne wa ta out pl lo sh le) H := hP
  have hD : va_D A (WM ca q (nI 0) (nI (pushL L C).length) ik ln ou pa iw so na nb fo nu al (zOf C) be1_5 ke te ti ne wa ta out pl lo sh le) := hD
  have hp_21 : BeOk (pushL L C) be1_5 := hq_21
  clear hq_21
  refine lv_aload_n hx hb dX3_addGate_24 rfl (lv_at hl 0 rfl) ?_
  refine lv_iload_n hx hb dX3_addGate_25 rfl (lv_at hl 1 rfl) ?_
  refine lv_iload_n hx hb dX3_addGate_26 rfl (lv_at hl 2 rfl) ?_
  refine lv_iload_n hx hb dX3_addGate_27 rfl (lv_at hl 3 rfl) ?_
  refine xc_v (xr_V (b := q 0) (ci := 2) (q0 := 0) (As := [.int (nI kd_), .int (nI f_), .int (nI s_)]) (rest := []) (mt_X3_adds l D ca q (nI 0) (nI (pushL L C).length) ik ln ou pa iw so na nb fo nu al be1_5 ke te ti ne wa ta out pl lo sh le C kd_ f_ s_ (by first | assumption | omega | (simp only [updN, forgetC, changedC]; (repeat' split) <;> omega)) (by first | assumption | omega | (simp only [updN, forgetC, changedC]; (repeat' split) <;> omega)) (by first | assumption | omega | (simp only [updN, forgetC, changedC]; (repeat' split) <;> omega)) (by first | assumption | omega | (simp only [updN, forgetC, changedC]; (repeat' split) <;> omega)) (by first | assumption | omega | (simp only [updN, forgetC, changedC]; (repeat' split) <;> omega)) H.size) ⟨hx, hb, hml, hown, hts⟩ (cwV 3 hts (lw_V q1703 q1705 qs46 q87 q1706) rfl rfl rfl (by decide +kernel) ⟨Nat.le_of_ble_eq_true rfl, Nat.le_of_ble_eq_true rfl⟩) Ev0_ok hE hK hS (Cut.all hP hD hS hA) rfl rfl rfl hl.1 rfl (Nat.le_of_ble_eq_true rfl) dX3_addGate_28 ⟨Nat.le_of_ble_eq_true rfl, Nat.le_of_ble_eq_true rfl⟩) hS (Cut.all hP hD hS hA) (fun u_7 H locs hq_28 hP hD hS => ?_)
  have hP : va_P D vwCl (WM ca q (nI 0) (nI (pushL L C).length) ik ln ou pa iw so na nb fo nu al (zOf (addsC C kd_ f_ s_)) be1_5 ke te ti ne wa ta out pl lo sh le) H := hP
  have hD : va_D A (WM ca q (nI 0) (nI (pushL L C).length) ik ln ou pa iw so na nb fo nu al (zOf (addsC C kd_ f_ s_)) be1_5 ke te ti ne wa ta out pl lo sh le) := hD
  refine lv_aload_n hx hb dX3_addGate_31 rfl (lv_at hl 0 rfl) ?_
  refine xc_i (xr_V (b := q 0) (ci := 2) (q0 := 0) (As := []) (rest := []) (mt_X3_lines l D ca q (nI 0) (nI (pushL L C).length) ik ln ou pa iw so na nb fo nu al be1_5 ke te ti ne wa ta out pl lo sh le (addsC C kd_ f_ s_)  H.size) ⟨hx, hb, hml, hown, hts⟩ (cwV 0 hts (lw_V q1696 q1698 qs45 q87 q1699) rfl rfl rfl (by decide +kernel) ⟨Nat.le_of_ble_eq_true rfl, Nat.le_of_ble_eq_true rfl⟩) Ev0_ok hE hK hS (Cut.all hP hD hS hA) rfl rfl rfl hl.1 rfl (Nat.le_of_ble_eq_true rfl) dX3_addGate_32 ⟨Nat.le_of_ble_eq_true rfl, Nat.le_of_ble_eq_true rfl⟩) hS (Cut.all hP hD hS hA) (fun r_8 u_9 H locs hq_32 hP hD hS => ?_)
  have hP : va_P D vwCl (WM ca q (nI 0) (nI (pushL L C).length) ik ln ou pa iw so na nb fo nu al (zOf (addsC C kd_ f_ s_)) be1_5 ke te ti ne wa ta out pl lo sh le) H := hP
  have hD : va_D A (WM ca q (nI 0) (nI (pushL L C).length) ik ln ou pa iw so na nb fo nu al (zOf (addsC C kd_ f_ s_)) be1_5 ke te ti ne wa ta out pl lo sh le) := hD
  have hp_32 : r_8 = nI (6 + (addsC C kd_ f_ s_) 0) := hq_32
  clear hq_32
  obtain rfl := hp_32
  refine lv_iconst (v := nI 1) hx hb dX3_addGate_35 (by decide) ?_
  refine nv_isub hx hb dX3_addGate_36 (by omega) ?_
  subst hQQ
  exact xe_i (v := nI ((6 + (addsC C kd_ f_ s_) 0) - 1)) be1_5 hx hb hr hlocks hK hP hD hS (⟨congrArg nI (by simp [addsC, changedC, forgetC, updN]), hp_21⟩) dX3_addGate_37
set_option maxHeartbeats 4000000 in
set_option maxRecDepth 100000 in
theorem mt_X3_addGate_no (l : Launch) (D : va_G) (ca : Nat → ClassId) (q : Nat → Nat) (th : Int32) (st : Int32) (ik : Int32) (ln : Int32) (ou : Int32) (pa : Int32) (iw : Int32) (so : Int32) (na : Int32) (nb : Int32) (fo : Int32) (nu : Int32) (al : Int32) (be : Nat → Int32) (ke : Nat → Int32) (te : Nat → Int32) (ti : Nat → Int32) (ne : Nat → Int32) (wa : Nat → Int32) (ta : Nat → Int64) (out : Nat → Int64) (pl : Nat → Int64) (lo : Nat → Int64) (sh : Nat → Int64) (le : Nat → Int64) (C : Nat → Nat) (kd_ : Int32) (f_ : Int32) (s_ : Int32) (hc : ncode C kd_ f_ s_ ≠ 0) (h0 : C 0 ≤ 12) (nn : Nat) : Met l yX3_addGate (ws_ yX3_addGate cX3_addGate 4 (Option.some Jvm.ClassFile.FieldType.int)) ({ frames := 3, cells := 0, slots := 0, locals := 66 } : Room) (va_Pc [.ref (q 0), .int kd_, .int f_, .int s_] (PreW Ev0 D vwCl (TY ca) (WM ca q th st ik ln ou pa iw so na nb fo nu al (zOf C) be ke te ti ne wa ta out pl lo sh le) nn)) (va_Qi (fun (r_ : Int32) (_ : Unit) => r_ = nI 0) (PostW D vwCl (TY ca) (fun (_ : Unit) => (WM ca q (nI (ncode C kd_ f_ s_)) st ik ln ou pa iw so na nb fo nu al (zOf C) be ke te ti ne wa ta out pl lo sh le)) (va_A (WM ca q th st ik ln ou pa iw so na nb fo nu al (zOf C) be ke te ti ne wa ta out pl lo sh le) nn)) (va_A (WM ca q th st ik ln ou pa iw so na nb fo nu al (zOf C) be ke te ti ne wa ta out pl lo sh le) nn)) 0 0 (va_A (WM ca q th st ik ln ou pa iw so na nb fo nu al (zOf C) be ke te ti ne wa ta out pl lo sh le) nn) := by
  refine met_go (QA := fun A => va_Qi (fun (r_ : Int32) (_ : Unit) => r_ = nI 0) (PostW D vwCl (TY ca) (fun (_ : Unit) => (WM ca q (nI (ncode C kd_ f_ s_)) st ik ln ou pa iw so na nb fo nu al (zOf C) be ke te ti ne wa ta out pl lo sh le)) A) A) (by decide) (Nat.le_of_ble_eq_true rfl) (fun p e s m below meth c A ls QQ hQQ hx hb hr hts hown hlocks hml hA hP hK hD hE hl => ?_)
  have hown : s.vm.findClass RX3 = some m.cls := hown
  have hS : va_S A s.heap s.heap [] := va_S.rf
  have hl : lv_has ls 4 [(0, .ref (q 0)), (1, .int kd_), (2, .int f_), (3, .int s_)] := hl
  generalize hHe : s.heap = H at hP ⊢
  have hS : va_S A s.heap H [] := hHe ▸ hS
  generalize ([] : List Loc) = locs at hS ⊢
  refine lv_aload_n hx hb dX3_addGate_0 rfl (lv_at hl 0 rfl) ?_
  refine lv_aload_n hx hb dX3_addGate_1 rfl (lv_at hl 0 rfl) ?_
  refine lv_iload_n hx hb dX3_addGate_2 rfl (lv_at hl 1 rfl) ?_
  refine lv_iload_n hx hb dX3_addGate_3 rfl (lv_at hl 2 rfl) ?_
  refine lv_iload_n hx hb dX3_addGate_4 rfl (lv_at hl 3 rfl) ?_
  refine xc_i (xr_V (b := q 0) (ci := 2) (q0 := 0) (As := [.int kd_, .int f_, .int s_]) (rest := [.ref (q 0)]) (mt_X3_noGate l D ca q th st ik ln ou pa iw so na nb fo nu al be ke te ti ne wa ta out pl lo sh le C kd_ f_ s_ (by first | assumption | omega | (simp only [updN, forgetC, changedC]; (repeat' split) <;> omega)) H.size) ⟨hx, hb, hml, hown, hts⟩ (cwV 3 hts (lw_V q1688 q1690 qs43 q87 q1691) rfl rfl rfl (by decide +kernel) ⟨Nat.le_of_ble_eq_true rfl, Nat.le_of_ble_eq_true rfl⟩) Ev0_ok hE hK hS (Cut.all hP hD hS hA) rfl rfl rfl hl.1 rfl (Nat.le_of_ble_eq_true rfl) dX3_addGate_5 ⟨Nat.le_of_ble_eq_true rfl, Nat.le_of_ble_eq_true rfl⟩) hS (Cut.all hP hD hS hA) (fun r_1 u_2 H locs hq_5 hP hD hS => ?_)
  have hP : va_P D vwCl (WM ca q th st ik ln ou pa iw so na nb fo nu al (zOf C) be ke te ti ne wa ta out pl lo sh le) H := hP
  have hD : va_D A (WM ca q th st ik ln ou pa iw so na nb fo nu al (zOf C) be ke te ti ne wa ta out pl lo sh le) := hD
  have hp_5 : r_1 = nI (ncode C kd_ f_ s_) := hq_5
  clear hq_5
  obtain rfl := hp_5
  refine pWM_0_thrown_X3 hx hb hts hown hK hP hD hS dX3_addGate_8 (fun H locs hP hD hS => ?_)
  refine lv_aload_n hx hb dX3_addGate_11 rfl (lv_at hl 0 rfl) ?_
  refine gWM_0_thrown_X3 hx hb hts hown hK hP dX3_addGate_12 ?_
  refine nv_if_le (tgt := 20) hx hb dX3_addGate_15 (by decide) (by have := ncode_le C kd_ f_ s_; omega) (fun c_15 => ?_) (fun c_15 => ?_)
  · skip
    exact absurd c_15 hc
  · skip
    refine lv_iconst (v := nI 0) hx hb dX3_addGate_18 (by decide) ?_
    subst hQQ
    exact xe_i (v := nI 0) () hx hb hr hlocks hK hP hD hS (rfl) dX3_addGate_19
set_option maxHeartbeats 4000000 in
set_option maxRecDepth 100000 in
theorem mt_X3_dropGate_ok (l : Launch) (D : va_G) (ca : Nat → ClassId) (q : Nat → Nat) (th : Int32) (ik : Int32) (ln : Int32) (ou : Int32) (pa : Int32) (iw : Int32) (so : Int32) (na : Int32) (nb : Int32) (fo : Int32) (nu : Int32) (al : Int32) (be : Nat → Int32) (ke : Nat → Int32) (te : Nat → Int32) (ti : Nat → Int32) (ne : Nat → Int32) (wa : Nat → Int32) (ta : Nat → Int64) (out : Nat → Int64) (pl : Nat → Int64) (lo : Nat → Int64) (sh : Nat → Int64) (le : Nat → Int64) (C : Nat → Nat) (L : List (Nat → Nat)) (hg : 0 < C 0) (h0 : C 0 ≤ 12) (ho : C 37 < 2 ^ 18) (hbx : C 38 < 2 ^ 18) (h39 : C 39 ≤ 64) (hL : L.length ≤ 5) (hB : BeOk L be) (nn : Nat) : Met l yX3_dropGate (ws_ yX3_dropGate cX3_dropGate 1 (Option.some Jvm.ClassFile.FieldType.int)) ({ frames := 3, cells := 0, slots := 0, locals := 63 } : Room) (va_Pc [.ref (q 0)] (PreW Ev0 D vwCl (TY ca) (WM ca q th (nI L.length) ik ln ou pa iw so na nb fo nu al (zOf C) be ke te ti ne wa ta out pl lo sh le) nn)) (va_Qi (fun (r_ : Int32) (u_ : (Nat → Int32)) => r_ = nI (C 0 - 1) ∧ (BeOk (pushL L C) u_)) (PostW D vwCl (TY ca) (fun (u_ : (Nat → Int32)) => (WM ca q (nI 0) (nI (pushL L C).length) ik ln ou pa iw so na nb fo nu al (zOf (dropC C)) u_ ke te ti ne wa ta out pl lo sh le)) (va_A (WM ca q th (nI L.length) ik ln ou pa iw so na nb fo nu al (zOf C) be ke te ti ne wa ta out pl lo sh le) nn)) (va_A (WM ca q th (nI L.length) ik ln ou pa iw so na nb fo nu al (zOf C) be ke te ti ne wa ta out pl lo sh le) nn)) 0 0 (va_A (WM ca q th (nI L.length) ik ln ou pa iw so na nb fo nu al (zOf C) be ke te ti ne wa ta out pl lo sh le) nn) := by
  refine met_go (QA := fun A => va_Qi (fun (r_ : Int32) (u_ : (Nat → Int32)) => r_ = nI (C 0 - 1) ∧ (BeOk (pushL L C) u_)) (PostW D vwCl (TY ca) (fun (u_ : (Nat → Int32)) => (WM ca q (nI 0) (nI (pushL L C).length) ik ln ou pa iw so na nb fo nu al (zOf (dropC C)) u_ ke te ti ne wa ta out pl lo sh le)) A) A) (by decide) (Nat.le_of_ble_eq_true rfl) (fun p e s m below meth c A ls QQ hQQ hx hb hr hts hown hlocks hml hA hP hK hD hE hl => ?_)
  have hown : s.vm.findClass RX3 = some m.cls := hown
  have hS : va_S A s.heap s.heap [] := va_S.rf
  have hl : lv_has ls 1 [(0, .ref (q 0))] := hl
  generalize hHe : s.heap = H at hP ⊢
  have hS : va_S A s.heap H [] := hHe ▸ hS
  generalize ([] : List Loc) = locs at hS ⊢
  refine lv_aload_n hx hb dX3_dropGate_0 rfl (lv_at hl 0 rfl) ?_
  refine lv_aload_n hx hb dX3_dropGate_1 rfl (lv_at hl 0 rfl) ?_
  refine gWM_0_z_X3 hx hb hts hown hK hP dX3_dropGate_2 ?_
  refine lv_iconst (v := nI 0) hx hb dX3_dropGate_5 (by decide) ?_
  refine ldWM_1 hx hb hK hP (by omega) dX3_dropGate_6 ?_
  refine lv_topi (nm_r (e' := nI (C 0)) (rfl) ?_)
  refine nv_if_ne (tgt := 14) hx hb dX3_dropGate_7 (by decide) (by omega) (fun c_7 => ?_) (fun c_7 => (absurd c_7 (by omega)))
  refine lv_iconst (v := nI 0) hx hb dX3_dropGate_14 (by decide) ?_
  refine pWM_0_thrown_X3 hx hb hts hown hK hP hD hS dX3_dropGate_15 (fun H locs hP hD hS => ?_)
  refine lv_aload_n hx hb dX3_dropGate_18 rfl (lv_at hl 0 rfl) ?_
  refine gWM_0_thrown_X3 hx hb hts hown hK hP dX3_dropGate_19 ?_
  refine nv_if_le (tgt := 27) hx hb dX3_dropGate_22 (by decide) (by omega) (fun c_22 => ?_) (fun c_22 => absurd c_22 (by decide))
  refine lv_aload_n hx hb dX3_dropGate_27 rfl (lv_at hl 0 rfl) ?_
  refine xc_v (xr_V (b := q 0) (ci := 2) (q0 := 0) (As := []) (rest := []) (mt_X3_record l D ca q (nI 0) ik ln ou pa iw so na nb fo nu al be ke te ti ne wa ta out pl lo sh le C L (by first | assumption | omega | (simp only [updN, forgetC, changedC]; (repeat' split) <;> omega)) (by first | assumption | omega | (simp only [updN, forgetC, changedC]; (repeat' split) <;> omega)) H.size) ⟨hx, hb, hml, hown, hts⟩ (cwV 0 hts (lw_V q1680 q1682 qs42 q87 q1683) rfl rfl rfl (by decide +kernel) ⟨Nat.le_of_ble_eq_true rfl, Nat.le_of_ble_eq_true rfl⟩) Ev0_ok hE hK hS (Cut.all hP hD hS hA) rfl rfl rfl hl.1 rfl (Nat.le_of_ble_eq_true rfl) dX3_dropGate_28 ⟨Nat.le_of_ble_eq_true rfl, Nat.le_of_ble_eq_true rfl⟩) hS (Cut.all hP hD hS hA) (fun u_2 H locs hq_28 hP hD hS => ?_)
  obtain ⟨be1_3, rfl⟩ : ∃ z_, z_ = u_2 := ⟨_, rfl⟩
  have hP : va_P D vwCl (WM ca q (nI 0) (nI (pushL L C).length) ik ln ou pa iw so na nb fo nu al (zOf C) be1_3 ke te ti ne wa ta out pl lo sh le) H := hP
  have hD : va_D A (WM ca q (nI 0) (nI (pushL L C).length) ik ln ou pa iw so na nb fo nu al (zOf C) be1_3 ke te ti ne wa ta out pl lo sh le) := hD
  have hp_28 : BeOk (pushL L C) be1_3 := hq_28
  clear hq_28
  refine lv_aload_n hx hb dX3_dropGate_31 rfl (lv_at hl 0 rfl) ?_
  refine gWM_0_z_X3 hx hb hts hown hK hP dX3_dropGate_32 ?_
  refine lv_iconst (v := nI 0) hx hb dX3_dropGate_35 (by decide) ?_
  refine lv_dup2_11 hx hb dX3_dropGate_36 rfl rfl ?_
  refine ldWM_1 hx hb hK hP (by omega) dX3_dropGate_37 ?_
  refine lv_topi (nm_r (e' := nI (C 0)) (rfl) ?_)
  refine lv_iconst (v := nI 1) hx hb dX3_dropGate_38 (by decide) ?_
  refine nv_isub hx hb dX3_dropGate_39 (by omega) ?_
  refine stWM_1 hx hb hK hP hD hS (by omega) dX3_dropGate_40 (fun H locs hP hD hS => ?_)
  have ew_ : upd (zOf C) 0 (nI ((C 0) - 1)) = zOf (updN C 0 ((C 0) - 1)) := zOf_u (by decide)
  have hP : va_P D vwCl (WM ca q (nI 0) (nI (pushL L C).length) ik ln ou pa iw so na nb fo nu al (zOf (updN C 0 ((C 0) - 1))) be1_3 ke te ti ne wa ta out pl lo sh le) H := (congrArg (fun x_ => va_P D vwCl (WM ca q (nI 0) (nI (pushL L C).length) ik ln ou pa iw so na nb fo nu al x_ be1_3 ke te ti ne wa ta out pl lo sh le) H) ew_).mp hP
  have hD : va_D A (WM ca q (nI 0) (nI (pushL L C).length) ik ln ou pa iw so na nb fo nu al (zOf (updN C 0 ((C 0) - 1))) be1_3 ke te ti ne wa ta out pl lo sh le) := (congrArg (fun x_ => va_D A (WM ca q (nI 0) (nI (pushL L C).length) ik ln ou pa iw so na nb fo nu al x_ be1_3 ke te ti ne wa ta out pl lo sh le)) ew_).mp hD
  clear ew_
  refine lv_aload_n hx hb dX3_dropGate_41 rfl (lv_at hl 0 rfl) ?_
  refine gWM_0_z_X3 hx hb hts hown hK hP dX3_dropGate_42 ?_
  refine lv_bipush (v := nI 37) hx hb dX3_dropGate_45 (by decide) ?_
  refine lv_dup2_11 hx hb dX3_dropGate_47 rfl rfl ?_
  refine ldWM_1 hx hb hK hP (by omega) dX3_dropGate_48 ?_
  refine lv_topi (nm_r (e' := nI (C 37)) (rfl) ?_)
  refine lv_iconst (v := nI 1) hx hb dX3_dropGate_49 (by decide) ?_
  refine lv_aload_n hx hb dX3_dropGate_50 rfl (lv_at hl 0 rfl) ?_
  refine xc_i (xr_V (b := q 0) (ci := 2) (q0 := 0) (As := []) (rest := [.int (nI 1), .int (nI (C 37)), .int (nI 37), .ref (q 1)]) (mt_X3_lines l D ca q (nI 0) (nI (pushL L C).length) ik ln ou pa iw so na nb fo nu al be1_3 ke te ti ne wa ta out pl lo sh le (updN C 0 ((C 0) - 1))  H.size) ⟨hx, hb, hml, hown, hts⟩ (cwV 0 hts (lw_V q1696 q1698 qs45 q87 q1699) rfl rfl rfl (by decide +kernel) ⟨Nat.le_of_ble_eq_true rfl, Nat.le_of_ble_eq_true rfl⟩) Ev0_ok hE hK hS (Cut.all hP hD hS hA) rfl rfl rfl hl.1 rfl (Nat.le_of_ble_eq_true rfl) dX3_dropGate_51 ⟨Nat.le_of_ble_eq_true rfl, Nat.le_of_ble_eq_true rfl⟩) hS (Cut.all hP hD hS hA) (fun r_4 u_5 H locs hq_51 hP hD hS => ?_)
  have hP : va_P D vwCl (WM ca q (nI 0) (nI (pushL L C).length) ik ln ou pa iw so na nb fo nu al (zOf (updN C 0 ((C 0) - 1))) be1_3 ke te ti ne wa ta out pl lo sh le) H := hP
  have hD : va_D A (WM ca q (nI 0) (nI (pushL L C).length) ik ln ou pa iw so na nb fo nu al (zOf (updN C 0 ((C 0) - 1))) be1_3 ke te ti ne wa ta out pl lo sh le) := hD
  have hp_51 : r_4 = nI (6 + (updN C 0 ((C 0) - 1)) 0) := hq_51
  clear hq_51
  obtain rfl := hp_51
  refine lv_topi (nm_r (e' := nI (6 + (C 0 - 1))) (rfl) ?_)
  refine nv_ishl hx hb dX3_dropGate_54 (by omega) (by have : 2 ^ (6 + (C 0 - 1)) ≤ 2 ^ 17 := Nat.pow_le_pow_right (by decide) (by omega); omega) ?_
  refine lv_iconst (v := fI 0) hx hb dX3_dropGate_55 (by decide) ?_
  refine lv_ixor hx hb dX3_dropGate_56 ?_
  refine lv_iand hx hb dX3_dropGate_57 ?_
  refine lv_topi (nm_r (e' := nI (clrN (C 37) (6 + (C 0 - 1)))) (nI_clr) ?_)
  refine stWM_1 hx hb hK hP hD hS (by omega) dX3_dropGate_58 (fun H locs hP hD hS => ?_)
  have ew_ : upd (zOf (updN C 0 ((C 0) - 1))) 37 (nI (clrN (C 37) (6 + (C 0 - 1)))) = zOf (updN (updN C 0 ((C 0) - 1)) 37 (clrN (C 37) (6 + (C 0 - 1)))) := zOf_u (by decide)
  have hP : va_P D vwCl (WM ca q (nI 0) (nI (pushL L C).length) ik ln ou pa iw so na nb fo nu al (zOf (updN (updN C 0 ((C 0) - 1)) 37 (clrN (C 37) (6 + (C 0 - 1))))) be1_3 ke te ti ne wa ta out pl lo sh le) H := (congrArg (fun x_ => va_P D vwCl (WM ca q (nI 0) (nI (pushL L C).length) ik ln ou pa iw so na nb fo nu al x_ be1_3 ke te ti ne wa ta out pl lo sh le) H) ew_).mp hP
  have hD : va_D A (WM ca q (nI 0) (nI (pushL L C).length) ik ln ou pa iw so na nb fo nu al (zOf (updN (updN C 0 ((C 0) - 1)) 37 (clrN (C 37) (6 + (C 0 - 1))))) be1_3 ke te ti ne wa ta out pl lo sh le) := (congrArg (fun x_ => va_D A (WM ca q (nI 0) (nI (pushL L C).length) ik ln ou pa iw so na nb fo nu al x_ be1_3 ke te ti ne wa ta out pl lo sh le)) ew_).mp hD
  clear ew_
  refine lv_aload_n hx hb dX3_dropGate_59 rfl (lv_at hl 0 rfl) ?_
  refine gWM_0_z_X3 hx hb hts hown hK hP dX3_dropGate_60 ?_
  refine lv_bipush (v := nI 38) hx hb dX3_dropGate_63 (by decide) ?_
  refine lv_dup2_11 hx hb dX3_dropGate_65 rfl rfl ?_
  refine ldWM_1 hx hb hK hP (by omega) dX3_dropGate_66 ?_
  refine lv_topi (nm_r (e' := nI ((updN (updN C 0 ((C 0) - 1)) 37 (clrN (C 37) (6 + (C 0 - 1)))) 38)) (rfl) ?_)
  refine lv_topi (nm_r (e' := nI (C 38)) (rfl) ?_)
  refine lv_iconst (v := nI 1) hx hb dX3_dropGate_67 (by decide) ?_
  refine lv_aload_n hx hb dX3_dropGate_68 rfl (lv_at hl 0 rfl) ?_
  refine gWM_0_z_X3 hx hb hts hown hK hP dX3_dropGate_69 ?_
  refine lv_iconst (v := nI 0) hx hb dX3_dropGate_72 (by decide) ?_
  refine ldWM_1 hx hb hK hP (by omega) dX3_dropGate_73 ?_
  refine lv_topi (nm_r (e' := nI ((updN (updN C 0 ((C 0) - 1)) 37 (clrN (C 37) (6 + (C 0 - 1)))) 0)) (rfl) ?_)
  refine lv_topi (nm_r (e' := nI (C 0 - 1)) (rfl) ?_)
  refine nv_ishl hx hb dX3_dropGate_74 (by omega) (by have : 2 ^ (C 0 - 1) ≤ 2 ^ 17 := Nat.pow_le_pow_right (by decide) (by omega); omega) ?_
  refine lv_iconst (v := fI 0) hx hb dX3_dropGate_75 (by decide) ?_
  refine lv_ixor hx hb dX3_dropGate_76 ?_
  refine lv_iand hx hb dX3_dropGate_77 ?_
  refine lv_topi (nm_r (e' := nI (clrN (C 38) (C 0 - 1))) (nI_clr) ?_)
  refine stWM_1 hx hb hK hP hD hS (by omega) dX3_dropGate_78 (fun H locs hP hD hS => ?_)
  have ew_ : upd (zOf (updN (updN C 0 ((C 0) - 1)) 37 (clrN (C 37) (6 + (C 0 - 1))))) 38 (nI (clrN (C 38) (C 0 - 1))) = zOf (updN (updN (updN C 0 ((C 0) - 1)) 37 (clrN (C 37) (6 + (C 0 - 1)))) 38 (clrN (C 38) (C 0 - 1))) := zOf_u (by decide)
  have hP : va_P D vwCl (WM ca q (nI 0) (nI (pushL L C).length) ik ln ou pa iw so na nb fo nu al (zOf (updN (updN (updN C 0 ((C 0) - 1)) 37 (clrN (C 37) (6 + (C 0 - 1)))) 38 (clrN (C 38) (C 0 - 1)))) be1_3 ke te ti ne wa ta out pl lo sh le) H := (congrArg (fun x_ => va_P D vwCl (WM ca q (nI 0) (nI (pushL L C).length) ik ln ou pa iw so na nb fo nu al x_ be1_3 ke te ti ne wa ta out pl lo sh le) H) ew_).mp hP
  have hD : va_D A (WM ca q (nI 0) (nI (pushL L C).length) ik ln ou pa iw so na nb fo nu al (zOf (updN (updN (updN C 0 ((C 0) - 1)) 37 (clrN (C 37) (6 + (C 0 - 1)))) 38 (clrN (C 38) (C 0 - 1)))) be1_3 ke te ti ne wa ta out pl lo sh le) := (congrArg (fun x_ => va_D A (WM ca q (nI 0) (nI (pushL L C).length) ik ln ou pa iw so na nb fo nu al x_ be1_3 ke te ti ne wa ta out pl lo sh le)) ew_).mp hD
  clear ew_
  refine lv_aload_n hx hb dX3_dropGate_79 rfl (lv_at hl 0 rfl) ?_
  refine xc_v (xr_V (b := q 0) (ci := 2) (q0 := 0) (As := []) (rest := []) (mt_X3_changed l D ca q (nI 0) (nI (pushL L C).length) ik ln ou pa iw so na nb fo nu al be1_3 ke te ti ne wa ta out pl lo sh le (updN (updN (updN C 0 ((C 0) - 1)) 37 (clrN (C 37) (6 + (C 0 - 1)))) 38 (clrN (C 38) (C 0 - 1))) (by first | assumption | omega | (simp only [updN, forgetC, changedC]; (repeat' split) <;> omega)) (by first | assumption | omega | (simp only [updN, forgetC, changedC]; (repeat' split) <;> omega)) H.size) ⟨hx, hb, hml, hown, hts⟩ (cwV 0 hts (lw_V q1707 q1709 qs47 q87 q1710) rfl rfl rfl (by decide +kernel) ⟨Nat.le_of_ble_eq_true rfl, Nat.le_of_ble_eq_true rfl⟩) Ev0_ok hE hK hS (Cut.all hP hD hS hA) rfl rfl rfl hl.1 rfl (Nat.le_of_ble_eq_true rfl) dX3_dropGate_80 ⟨Nat.le_of_ble_eq_true rfl, Nat.le_of_ble_eq_true rfl⟩) hS (Cut.all hP hD hS hA) (fun u_7 H locs hq_80 hP hD hS => ?_)
  have hP : va_P D vwCl (WM ca q (nI 0) (nI (pushL L C).length) ik ln ou pa iw so na nb fo nu al (zOf (changedC (updN (updN (updN C 0 ((C 0) - 1)) 37 (clrN (C 37) (6 + (C 0 - 1)))) 38 (clrN (C 38) (C 0 - 1))))) be1_3 ke te ti ne wa ta out pl lo sh le) H := hP
  have hD : va_D A (WM ca q (nI 0) (nI (pushL L C).length) ik ln ou pa iw so na nb fo nu al (zOf (changedC (updN (updN (updN C 0 ((C 0) - 1)) 37 (clrN (C 37) (6 + (C 0 - 1)))) 38 (clrN (C 38) (C 0 - 1))))) be1_3 ke te ti ne wa ta out pl lo sh le) := hD
  refine lv_aload_n hx hb dX3_dropGate_83 rfl (lv_at hl 0 rfl) ?_
  refine gWM_0_z_X3 hx hb hts hown hK hP dX3_dropGate_84 ?_
  refine lv_iconst (v := nI 0) hx hb dX3_dropGate_87 (by decide) ?_
  refine ldWM_1 hx hb hK hP (by omega) dX3_dropGate_88 ?_
  refine lv_topi (nm_r (e' := nI ((changedC (updN (updN (updN C 0 ((C 0) - 1)) 37 (clrN (C 37) (6 + (C 0 - 1)))) 38 (clrN (C 38) (C 0 - 1)))) 0)) (rfl) ?_)
  subst hQQ
  exact xe_i (v := nI ((changedC (updN (updN (updN C 0 ((C 0) - 1)) 37 (clrN (C 37) (6 + (C 0 - 1)))) 38 (clrN (C 38) (C 0 - 1)))) 0)) be1_3 hx hb hr hlocks hK hP hD hS (⟨congrArg nI (by simp [dropC, changedC, forgetC, updN]), hp_28⟩) dX3_dropGate_89
set_option maxHeartbeats 4000000 in
set_option maxRecDepth 100000 in
theorem mt_X3_dropGate_no (l : Launch) (D : va_G) (ca : Nat → ClassId) (q : Nat → Nat) (th : Int32) (st : Int32) (ik : Int32) (ln : Int32) (ou : Int32) (pa : Int32) (iw : Int32) (so : Int32) (na : Int32) (nb : Int32) (fo : Int32) (nu : Int32) (al : Int32) (be : Nat → Int32) (ke : Nat → Int32) (te : Nat → Int32) (ti : Nat → Int32) (ne : Nat → Int32) (wa : Nat → Int32) (ta : Nat → Int64) (out : Nat → Int64) (pl : Nat → Int64) (lo : Nat → Int64) (sh : Nat → Int64) (le : Nat → Int64) (C : Nat → Nat) (hc : C 0 = 0) (nn : Nat) : Met l yX3_dropGate (ws_ yX3_dropGate cX3_dropGate 1 (Option.some Jvm.ClassFile.FieldType.int)) ({ frames := 0, cells := 0, slots := 0, locals := 0 } : Room) (va_Pc [.ref (q 0)] (PreW Ev0 D vwCl (TY ca) (WM ca q th st ik ln ou pa iw so na nb fo nu al (zOf C) be ke te ti ne wa ta out pl lo sh le) nn)) (va_Qi (fun (r_ : Int32) (_ : Unit) => r_ = nI 0) (PostW D vwCl (TY ca) (fun (_ : Unit) => (WM ca q (nI 1) st ik ln ou pa iw so na nb fo nu al (zOf C) be ke te ti ne wa ta out pl lo sh le)) (va_A (WM ca q th st ik ln ou pa iw so na nb fo nu al (zOf C) be ke te ti ne wa ta out pl lo sh le) nn)) (va_A (WM ca q th st ik ln ou pa iw so na nb fo nu al (zOf C) be ke te ti ne wa ta out pl lo sh le) nn)) 0 0 (va_A (WM ca q th st ik ln ou pa iw so na nb fo nu al (zOf C) be ke te ti ne wa ta out pl lo sh le) nn) := by
  refine met_go (QA := fun A => va_Qi (fun (r_ : Int32) (_ : Unit) => r_ = nI 0) (PostW D vwCl (TY ca) (fun (_ : Unit) => (WM ca q (nI 1) st ik ln ou pa iw so na nb fo nu al (zOf C) be ke te ti ne wa ta out pl lo sh le)) A) A) (by decide) (Nat.le_of_ble_eq_true rfl) (fun p e s m below meth c A ls QQ hQQ hx hb hr hts hown hlocks hml hA hP hK hD hE hl => ?_)
  have hown : s.vm.findClass RX3 = some m.cls := hown
  have hS : va_S A s.heap s.heap [] := va_S.rf
  have hl : lv_has ls 1 [(0, .ref (q 0))] := hl
  generalize hHe : s.heap = H at hP ⊢
  have hS : va_S A s.heap H [] := hHe ▸ hS
  generalize ([] : List Loc) = locs at hS ⊢
  refine lv_aload_n hx hb dX3_dropGate_0 rfl (lv_at hl 0 rfl) ?_
  refine lv_aload_n hx hb dX3_dropGate_1 rfl (lv_at hl 0 rfl) ?_
  refine gWM_0_z_X3 hx hb hts hown hK hP dX3_dropGate_2 ?_
  refine lv_iconst (v := nI 0) hx hb dX3_dropGate_5 (by decide) ?_
  refine ldWM_1 hx hb hK hP (by omega) dX3_dropGate_6 ?_
  refine lv_topi (nm_r (e' := nI (C 0)) (rfl) ?_)
  refine nv_if_ne (tgt := 14) hx hb dX3_dropGate_7 (by decide) (by omega) (fun c_7 => (absurd hc c_7)) (fun c_7 => ?_)
  refine lv_iconst (v := nI 1) hx hb dX3_dropGate_10 (by decide) ?_
  refine lv_goto (tgt := 15) hx hb dX3_dropGate_11 (by decide) ?_
  refine pWM_0_thrown_X3 hx hb hts hown hK hP hD hS dX3_dropGate_15 (fun H locs hP hD hS => ?_)
  refine lv_aload_n hx hb dX3_dropGate_18 rfl (lv_at hl 0 rfl) ?_
  refine gWM_0_thrown_X3 hx hb hts hown hK hP dX3_dropGate_19 ?_
  refine nv_if_le (tgt := 27) hx hb dX3_dropGate_22 (by decide) (by omega) (fun c_22 => absurd c_22 (by decide)) (fun c_22 => ?_)
  refine lv_iconst (v := nI 0) hx hb dX3_dropGate_25 (by decide) ?_
  subst hQQ
  exact xe_i (v := nI 0) () hx hb hr hlocks hK hP hD hS (rfl) dX3_dropGate_26
set_option maxHeartbeats 4000000 in
set_option maxRecDepth 100000 in
theorem mt_X3_setKind_ok (l : Launch) (D : va_G) (ca : Nat → ClassId) (q : Nat → Nat) (th : Int32) (ik : Int32) (ln : Int32) (ou : Int32) (pa : Int32) (iw : Int32) (so : Int32) (na : Int32) (nb : Int32) (fo : Int32) (nu : Int32) (al : Int32) (be : Nat → Int32) (ke : Nat → Int32) (te : Nat → Int32) (ti : Nat → Int32) (ne : Nat → Int32) (wa : Nat → Int32) (ta : Nat → Int64) (out : Nat → Int64) (pl : Nat → Int64) (lo : Nat → Int64) (sh : Nat → Int64) (le : Nat → Int64) (C : Nat → Nat) (L : List (Nat → Nat)) (g_ : Nat) (kd_ : Nat) (hg : g_ < C 0) (hkd : kd_ < 8) (hbk : (C 38).testBit g_ = true → kd_ < 6) (h0 : C 0 ≤ 12) (h39 : C 39 ≤ 64) (hbx : C 38 < 2 ^ 18) (hL : L.length ≤ 5) (hB : BeOk L be) (nn : Nat) : Met l yX3_setKind (ws_ yX3_setKind cX3_setKind 4 (Option.some Jvm.ClassFile.FieldType.int)) ({ frames := 3, cells := 0, slots := 0, locals := 63 } : Room) (va_Pc [.ref (q 0), .int (nI g_), .int (nI kd_)] (PreW Ev0 D vwCl (TY ca) (WM ca q th (nI L.length) ik ln ou pa iw so na nb fo nu al (zOf C) be ke te ti ne wa ta out pl lo sh le) nn)) (va_Qi (fun (r_ : Int32) (u_ : (Nat → Int32)) => r_ = nI (C (1 + g_)) ∧ (BeOk (pushL L C) u_)) (PostW D vwCl (TY ca) (fun (u_ : (Nat → Int32)) => (WM ca q (nI 0) (nI (pushL L C).length) ik ln ou pa iw so na nb fo nu al (zOf (setKindC C g_ kd_)) u_ ke te ti ne wa ta out pl lo sh le)) (va_A (WM ca q th (nI L.length) ik ln ou pa iw so na nb fo nu al (zOf C) be ke te ti ne wa ta out pl lo sh le) nn)) (va_A (WM ca q th (nI L.length) ik ln ou pa iw so na nb fo nu al (zOf C) be ke te ti ne wa ta out pl lo sh le) nn)) 0 0 (va_A (WM ca q th (nI L.length) ik ln ou pa iw so na nb fo nu al (zOf C) be ke te ti ne wa ta out pl lo sh le) nn) := by
  refine met_go (QA := fun A => va_Qi (fun (r_ : Int32) (u_ : (Nat → Int32)) => r_ = nI (C (1 + g_)) ∧ (BeOk (pushL L C) u_)) (PostW D vwCl (TY ca) (fun (u_ : (Nat → Int32)) => (WM ca q (nI 0) (nI (pushL L C).length) ik ln ou pa iw so na nb fo nu al (zOf (setKindC C g_ kd_)) u_ ke te ti ne wa ta out pl lo sh le)) A) A) (by decide) (Nat.le_of_ble_eq_true rfl) (fun p e s m below meth c A ls QQ hQQ hx hb hr hts hown hlocks hml hA hP hK hD hE hl => ?_)
  have hown : s.vm.findClass RX3 = some m.cls := hown
  have hS : va_S A s.heap s.heap [] := va_S.rf
  have hl : lv_has ls 4 [(0, .ref (q 0)), (1, .int (nI g_)), (2, .int (nI kd_))] := hl
  generalize hHe : s.heap = H at hP ⊢
  have hS : va_S A s.heap H [] := hHe ▸ hS
  generalize ([] : List Loc) = locs at hS ⊢
  refine lv_aload_n hx hb dX3_setKind_0 rfl (lv_at hl 0 rfl) ?_
  refine lv_aload_n hx hb dX3_setKind_1 rfl (lv_at hl 0 rfl) ?_
  refine lv_iload_n hx hb dX3_setKind_2 rfl (lv_at hl 1 rfl) ?_
  refine xc_i (xr_V (b := q 0) (ci := 2) (q0 := 0) (As := [.int (nI g_)]) (rest := [.ref (q 0)]) (mt_X3_isGate l D ca q th (nI L.length) ik ln ou pa iw so na nb fo nu al be ke te ti ne wa ta out pl lo sh le C (nI g_) (by first | assumption | omega | (simp only [updN, forgetC, changedC]; (repeat' split) <;> omega)) H.size) ⟨hx, hb, hml, hown, hts⟩ (cwV 1 hts (lw_V q1727 q1729 qs50 q87 q1730) rfl rfl rfl (by decide +kernel) ⟨Nat.le_of_ble_eq_true rfl, Nat.le_of_ble_eq_true rfl⟩) Ev0_ok hE hK hS (Cut.all hP hD hS hA) rfl rfl rfl hl.1 rfl (Nat.le_of_ble_eq_true rfl) dX3_setKind_3 ⟨Nat.le_of_ble_eq_true rfl, Nat.le_of_ble_eq_true rfl⟩) hS (Cut.all hP hD hS hA) (fun r_1 u_2 H locs hq_3 hP hD hS => ?_)
  have hP : va_P D vwCl (WM ca q th (nI L.length) ik ln ou pa iw so na nb fo nu al (zOf C) be ke te ti ne wa ta out pl lo sh le) H := hP
  have hD : va_D A (WM ca q th (nI L.length) ik ln ou pa iw so na nb fo nu al (zOf C) be ke te ti ne wa ta out pl lo sh le) := hD
  have hp_3 : r_1 = bI (inR (C 0) (nI g_)) := hq_3
  clear hq_3
  obtain rfl := hp_3
  refine nv_ifb_ne (tgt := 13) hx hb dX3_setKind_6 (by decide) (fun c_6 => ?_) (fun c_6 => (absurd c_6 (by rw [inR_ok hg (by omega)]; decide)))
  refine lv_iload_n hx hb dX3_setKind_13 rfl (lv_at hl 2 rfl) ?_
  refine lv_iconst (v := nI 0) hx hb dX3_setKind_14 (by decide) ?_
  refine lv_bipush (v := nI 7) hx hb dX3_setKind_15 (by decide) ?_
  refine xc_i (xr_S (As := [.int (nI kd_), .int (nI 0), .int (nI 7)]) (rest := [.ref (q 0)]) (mt_X3_in l D ca (nI kd_) (nI 0) (nI 7)  H.size) ⟨hx, hb, hml, hown, hts⟩ (va_cwS 3 hts (lw_S q1700 q1701 q87 q1702) rfl rfl rfl (by decide +kernel) ⟨Nat.le_of_ble_eq_true rfl, Nat.le_of_ble_eq_true rfl⟩) Ev0_ok hE hK hS (Cut.app (wc := []) (wr := (WM ca q th (nI L.length) ik ln ou pa iw so na nb fo nu al (zOf C) be ke te ti ne wa ta out pl lo sh le)) hP hD hS hA) rfl hl.1 rfl (Nat.le_of_ble_eq_true rfl) dX3_setKind_17 ⟨Nat.le_of_ble_eq_true rfl, Nat.le_of_ble_eq_true rfl⟩) hS (Cut.app (wc := []) (wr := (WM ca q th (nI L.length) ik ln ou pa iw so na nb fo nu al (zOf C) be ke te ti ne wa ta out pl lo sh le)) hP hD hS hA) (fun r_3 u_4 H locs hq_17 hP hD hS => ?_)
  have hP : va_P D vwCl (WM ca q th (nI L.length) ik ln ou pa iw so na nb fo nu al (zOf C) be ke te ti ne wa ta out pl lo sh le) H := hP
  have hD : va_D A (WM ca q th (nI L.length) ik ln ou pa iw so na nb fo nu al (zOf C) be ke te ti ne wa ta out pl lo sh le) := hD
  have hp_17 : r_3 = bI (decide ((nI 0) ≤ (nI kd_) ∧ (nI kd_) ≤ (nI 7))) := hq_17
  clear hq_17
  obtain rfl := hp_17
  refine nv_ifb_ne (tgt := 27) hx hb dX3_setKind_20 (by decide) (fun c_20 => ?_) (fun c_20 => (absurd c_20 (by rw [in_ok (by omega) (by decide)]; decide)))
  refine lv_aload_n hx hb dX3_setKind_27 rfl (lv_at hl 0 rfl) ?_
  refine gWM_0_z_X3 hx hb hts hown hK hP dX3_setKind_28 ?_
  refine lv_bipush (v := nI 38) hx hb dX3_setKind_31 (by decide) ?_
  refine ldWM_1 hx hb hK hP (by omega) dX3_setKind_33 ?_
  refine lv_topi (nm_r (e' := nI (C 38)) (rfl) ?_)
  refine lv_iload_n hx hb dX3_setKind_34 rfl (lv_at hl 1 rfl) ?_
  refine xc_i (xr_S (As := [.int (nI (C 38)), .int (nI g_)]) (rest := [.ref (q 0)]) (mt_X3_has l D ca (C 38) g_ (by first | assumption | omega | (simp only [updN, forgetC, changedC]; (repeat' split) <;> omega)) (by first | assumption | omega | (simp only [updN, forgetC, changedC]; (repeat' split) <;> omega)) H.size) ⟨hx, hb, hml, hown, hts⟩ (va_cwS 2 hts (lw_S q1731 q1732 q87 q1733) rfl rfl rfl (by decide +kernel) ⟨Nat.le_of_ble_eq_true rfl, Nat.le_of_ble_eq_true rfl⟩) Ev0_ok hE hK hS (Cut.app (wc := []) (wr := (WM ca q th (nI L.length) ik ln ou pa iw so na nb fo nu al (zOf C) be ke te ti ne wa ta out pl lo sh le)) hP hD hS hA) rfl hl.1 rfl (Nat.le_of_ble_eq_true rfl) dX3_setKind_35 ⟨Nat.le_of_ble_eq_true rfl, Nat.le_of_ble_eq_true rfl⟩) hS (Cut.app (wc := []) (wr := (WM ca q th (nI L.length) ik ln ou pa iw so na nb fo nu al (zOf C) be ke te ti ne wa ta out pl lo sh le)) hP hD hS hA) (fun r_5 u_6 H locs hq_35 hP hD hS => ?_)
  have hP : va_P D vwCl (WM ca q th (nI L.length) ik ln ou pa iw so na nb fo nu al (zOf C) be ke te ti ne wa ta out pl lo sh le) H := hP
  have hD : va_D A (WM ca q th (nI L.length) ik ln ou pa iw so na nb fo nu al (zOf C) be ke te ti ne wa ta out pl lo sh le) := hD
  have hp_35 : r_5 = bI ((C 38).testBit g_) := hq_35
  clear hq_35
  obtain rfl := hp_35
  refine nv_ifb_eq (tgt := 50) hx hb dX3_setKind_38 (by decide) (fun c_38 => ?_) (fun c_38 => ?_)
  · skip
    refine lv_iconst (v := nI 0) hx hb dX3_setKind_50 (by decide) ?_
    refine pWM_0_thrown_X3 hx hb hts hown hK hP hD hS dX3_setKind_51 (fun H locs hP hD hS => ?_)
    refine lv_aload_n hx hb dX3_setKind_54 rfl (lv_at hl 0 rfl) ?_
    refine gWM_0_thrown_X3 hx hb hts hown hK hP dX3_setKind_55 ?_
    refine nv_if_le (tgt := 63) hx hb dX3_setKind_58 (by decide) (by omega) (fun c_58 => ?_) (fun c_58 => absurd c_58 (by decide))
    refine lv_aload_n hx hb dX3_setKind_63 rfl (lv_at hl 0 rfl) ?_
    refine xc_v (xr_V (b := q 0) (ci := 2) (q0 := 0) (As := []) (rest := []) (mt_X3_record l D ca q (nI 0) ik ln ou pa iw so na nb fo nu al be ke te ti ne wa ta out pl lo sh le C L (by first | assumption | omega | (simp only [updN, forgetC, changedC]; (repeat' split) <;> omega)) (by first | assumption | omega | (simp only [updN, forgetC, changedC]; (repeat' split) <;> omega)) H.size) ⟨hx, hb, hml, hown, hts⟩ (cwV 0 hts (lw_V q1680 q1682 qs42 q87 q1683) rfl rfl rfl (by decide +kernel) ⟨Nat.le_of_ble_eq_true rfl, Nat.le_of_ble_eq_true rfl⟩) Ev0_ok hE hK hS (Cut.all hP hD hS hA) rfl rfl rfl hl.1 rfl (Nat.le_of_ble_eq_true rfl) dX3_setKind_64 ⟨Nat.le_of_ble_eq_true rfl, Nat.le_of_ble_eq_true rfl⟩) hS (Cut.all hP hD hS hA) (fun u_9 H locs hq_64 hP hD hS => ?_)
    obtain ⟨be1_10, rfl⟩ : ∃ z_, z_ = u_9 := ⟨_, rfl⟩
    have hP : va_P D vwCl (WM ca q (nI 0) (nI (pushL L C).length) ik ln ou pa iw so na nb fo nu al (zOf C) be1_10 ke te ti ne wa ta out pl lo sh le) H := hP
    have hD : va_D A (WM ca q (nI 0) (nI (pushL L C).length) ik ln ou pa iw so na nb fo nu al (zOf C) be1_10 ke te ti ne wa ta out pl lo sh le) := hD
    have hp_64 : BeOk (pushL L C) be1_10 := hq_64
    clear hq_64
    refine lv_aload_n hx hb dX3_setKind_67 rfl (lv_at hl 0 rfl) ?_
    refine gWM_0_z_X3 hx hb hts hown hK hP dX3_setKind_68 ?_
    refine lv_iconst (v := nI 1) hx hb dX3_setKind_71 (by decide) ?_
    refine lv_iload_n hx hb dX3_setKind_72 rfl (lv_at hl 1 rfl) ?_
    refine nv_iadd hx hb dX3_setKind_73 ?_
    refine ldWM_1 hx hb hK hP (by omega) dX3_setKind_74 ?_
    refine lv_topi (nm_r (e' := nI (C (1 + g_))) (zOf_n (by omega)) ?_)
    refine lv_istore_n (lv' := [(3, .int (nI (C (1 + g_)))), (0, .ref (q 0)), (1, .int (nI g_)), (2, .int (nI kd_))]) hx hb dX3_setKind_75 rfl hl (by decide) rfl (fun ls hl => ?_)
    refine lv_aload_n hx hb dX3_setKind_76 rfl (lv_at hl 1 rfl) ?_
    refine gWM_0_z_X3 hx hb hts hown hK hP dX3_setKind_77 ?_
    refine lv_iconst (v := nI 1) hx hb dX3_setKind_80 (by decide) ?_
    refine lv_iload_n hx hb dX3_setKind_81 rfl (lv_at hl 2 rfl) ?_
    refine nv_iadd hx hb dX3_setKind_82 ?_
    refine lv_iload_n hx hb dX3_setKind_83 rfl (lv_at hl 3 rfl) ?_
    refine stWM_1 hx hb hK hP hD hS (by omega) dX3_setKind_84 (fun H locs hP hD hS => ?_)
    have ew_ : upd (zOf C) (1 + g_) (nI kd_) = zOf (updN C (1 + g_) kd_) := zOf_u (by omega)
    have hP : va_P D vwCl (WM ca q (nI 0) (nI (pushL L C).length) ik ln ou pa iw so na nb fo nu al (zOf (updN C (1 + g_) kd_)) be1_10 ke te ti ne wa ta out pl lo sh le) H := (congrArg (fun x_ => va_P D vwCl (WM ca q (nI 0) (nI (pushL L C).length) ik ln ou pa iw so na nb fo nu al x_ be1_10 ke te ti ne wa ta out pl lo sh le) H) ew_).mp hP
    have hD : va_D A (WM ca q (nI 0) (nI (pushL L C).length) ik ln ou pa iw so na nb fo nu al (zOf (updN C (1 + g_) kd_)) be1_10 ke te ti ne wa ta out pl lo sh le) := (congrArg (fun x_ => va_D A (WM ca q (nI 0) (nI (pushL L C).length) ik ln ou pa iw so na nb fo nu al x_ be1_10 ke te ti ne wa ta out pl lo sh le)) ew_).mp hD
    clear ew_
    refine lv_aload_n hx hb dX3_setKind_85 rfl (lv_at hl 1 rfl) ?_
    refine xc_v (xr_V (b := q 0) (ci := 2) (q0 := 0) (As := []) (rest := []) (mt_X3_changed l D ca q (nI 0) (nI (pushL L C).length) ik ln ou pa iw so na nb fo nu al be1_10 ke te ti ne wa ta out pl lo sh le (updN C (1 + g_) kd_) (by first | assumption | omega | (simp only [updN, forgetC, changedC]; (repeat' split) <;> omega)) (by first | assumption | omega | (simp only [updN, forgetC, changedC]; (repeat' split) <;> omega)) H.size) ⟨hx, hb, hml, hown, hts⟩ (cwV 0 hts (lw_V q1707 q1709 qs47 q87 q1710) rfl rfl rfl (by decide +kernel) ⟨Nat.le_of_ble_eq_true rfl, Nat.le_of_ble_eq_true rfl⟩) Ev0_ok hE hK hS (Cut.all hP hD hS hA) rfl rfl rfl hl.1 rfl (Nat.le_of_ble_eq_true rfl) dX3_setKind_86 ⟨Nat.le_of_ble_eq_true rfl, Nat.le_of_ble_eq_true rfl⟩) hS (Cut.all hP hD hS hA) (fun u_12 H locs hq_86 hP hD hS => ?_)
    have hP : va_P D vwCl (WM ca q (nI 0) (nI (pushL L C).length) ik ln ou pa iw so na nb fo nu al (zOf (changedC (updN C (1 + g_) kd_))) be1_10 ke te ti ne wa ta out pl lo sh le) H := hP
    have hD : va_D A (WM ca q (nI 0) (nI (pushL L C).length) ik ln ou pa iw so na nb fo nu al (zOf (changedC (updN C (1 + g_) kd_))) be1_10 ke te ti ne wa ta out pl lo sh le) := hD
    refine lv_iload_n hx hb dX3_setKind_89 rfl (lv_at hl 0 rfl) ?_
    subst hQQ
    exact xe_i (v := nI (C (1 + g_))) be1_10 hx hb hr hlocks hK hP hD hS (⟨rfl, hp_64⟩) dX3_setKind_90
  · skip
    refine lv_iload_n hx hb dX3_setKind_41 rfl (lv_at hl 2 rfl) ?_
    refine lv_iconst (v := nI 5) hx hb dX3_setKind_42 (by decide) ?_
    refine nv_icmp_le (tgt := 50) hx hb dX3_setKind_43 (by decide) (by omega) (by omega) (fun c_43 => ?_) (fun c_43 => (absurd c_43 (by have := hbk c_38; omega)))
    refine lv_iconst (v := nI 0) hx hb dX3_setKind_50 (by decide) ?_
    refine pWM_0_thrown_X3 hx hb hts hown hK hP hD hS dX3_setKind_51 (fun H locs hP hD hS => ?_)
    refine lv_aload_n hx hb dX3_setKind_54 rfl (lv_at hl 0 rfl) ?_
    refine gWM_0_thrown_X3 hx hb hts hown hK hP dX3_setKind_55 ?_
    refine nv_if_le (tgt := 63) hx hb dX3_setKind_58 (by decide) (by omega) (fun c_58 => ?_) (fun c_58 => absurd c_58 (by decide))
    refine lv_aload_n hx hb dX3_setKind_63 rfl (lv_at hl 0 rfl) ?_
    refine xc_v (xr_V (b := q 0) (ci := 2) (q0 := 0) (As := []) (rest := []) (mt_X3_record l D ca q (nI 0) ik ln ou pa iw so na nb fo nu al be ke te ti ne wa ta out pl lo sh le C L (by first | assumption | omega | (simp only [updN, forgetC, changedC]; (repeat' split) <;> omega)) (by first | assumption | omega | (simp only [updN, forgetC, changedC]; (repeat' split) <;> omega)) H.size) ⟨hx, hb, hml, hown, hts⟩ (cwV 0 hts (lw_V q1680 q1682 qs42 q87 q1683) rfl rfl rfl (by decide +kernel) ⟨Nat.le_of_ble_eq_true rfl, Nat.le_of_ble_eq_true rfl⟩) Ev0_ok hE hK hS (Cut.all hP hD hS hA) rfl rfl rfl hl.1 rfl (Nat.le_of_ble_eq_true rfl) dX3_setKind_64 ⟨Nat.le_of_ble_eq_true rfl, Nat.le_of_ble_eq_true rfl⟩) hS (Cut.all hP hD hS hA) (fun u_14 H locs hq_64 hP hD hS => ?_)
    obtain ⟨be1_15, rfl⟩ : ∃ z_, z_ = u_14 := ⟨_, rfl⟩
    have hP : va_P D vwCl (WM ca q (nI 0) (nI (pushL L C).length) ik ln ou pa iw so na nb fo nu al (zOf C) be1_15 ke te ti ne wa ta out pl lo sh le) H := hP
    have hD : va_D A (WM ca q (nI 0) (nI (pushL L C).length) ik ln ou pa iw so na nb fo nu al (zOf C) be1_15 ke te ti ne wa ta out pl lo sh le) := hD
    have hp_64 : BeOk (pushL L C) be1_15 := hq_64
    clear hq_64
    refine lv_aload_n hx hb dX3_setKind_67 rfl (lv_at hl 0 rfl) ?_
    refine gWM_0_z_X3 hx hb hts hown hK hP dX3_setKind_68 ?_
    refine lv_iconst (v := nI 1) hx hb dX3_setKind_71 (by decide) ?_
    refine lv_iload_n hx hb dX3_setKind_72 rfl (lv_at hl 1 rfl) ?_
    refine nv_iadd hx hb dX3_setKind_73 ?_
    refine ldWM_1 hx hb hK hP (by omega) dX3_setKind_74 ?_
    refine lv_topi (nm_r (e' := nI (C (1 + g_))) (zOf_n (by omega)) ?_)
    refine lv_istore_n (lv' := [(3, .int (nI (C (1 + g_)))), (0, .ref (q 0)), (1, .int (nI g_)), (2, .int (nI kd_))]) hx hb dX3_setKind_75 rfl hl (by decide) rfl (fun ls hl => ?_)
    refine lv_aload_n hx hb dX3_setKind_76 rfl (lv_at hl 1 rfl) ?_
    refine gWM_0_z_X3 hx hb hts hown hK hP dX3_setKind_77 ?_
    refine lv_iconst (v := nI 1) hx hb dX3_setKind_80 (by decide) ?_
    refine lv_iload_n hx hb dX3_setKind_81 rfl (lv_at hl 2 rfl) ?_
    refine nv_iadd hx hb dX3_setKind_82 ?_
    refine lv_iload_n hx hb dX3_setKind_83 rfl (lv_at hl 3 rfl) ?_
    refine stWM_1 hx hb hK hP hD hS (by omega) dX3_setKind_84 (fun H locs hP hD hS => ?_)
    have ew_ : upd (zOf C) (1 + g_) (nI kd_) = zOf (updN C (1 + g_) kd_) := zOf_u (by omega)
    have hP : va_P D vwCl (WM ca q (nI 0) (nI (pushL L C).length) ik ln ou pa iw so na nb fo nu al (zOf (updN C (1 + g_) kd_)) be1_15 ke te ti ne wa ta out pl lo sh le) H := (congrArg (fun x_ => va_P D vwCl (WM ca q (nI 0) (nI (pushL L C).length) ik ln ou pa iw so na nb fo nu al x_ be1_15 ke te ti ne wa ta out pl lo sh le) H) ew_).mp hP
    have hD : va_D A (WM ca q (nI 0) (nI (pushL L C).length) ik ln ou pa iw so na nb fo nu al (zOf (updN C (1 + g_) kd_)) be1_15 ke te ti ne wa ta out pl lo sh le) := (congrArg (fun x_ => va_D A (WM ca q (nI 0) (nI (pushL L C).length) ik ln ou pa iw so na nb fo nu al x_ be1_15 ke te ti ne wa ta out pl lo sh le)) ew_).mp hD
    clear ew_
    refine lv_aload_n hx hb dX3_setKind_85 rfl (lv_at hl 1 rfl) ?_
    refine xc_v (xr_V (b := q 0) (ci := 2) (q0 := 0) (As := []) (rest := []) (mt_X3_changed l D ca q (nI 0) (nI (pushL L C).length) ik ln ou pa iw so na nb fo nu al be1_15 ke te ti ne wa ta out pl lo sh le (updN C (1 + g_) kd_) (by first | assumption | omega | (simp only [updN, forgetC, changedC]; (repeat' split) <;> omega)) (by first | assumption | omega | (simp only [updN, forgetC, changedC]; (repeat' split) <;> omega)) H.size) ⟨hx, hb, hml, hown, hts⟩ (cwV 0 hts (lw_V q1707 q1709 qs47 q87 q1710) rfl rfl rfl (by decide +kernel) ⟨Nat.le_of_ble_eq_true rfl, Nat.le_of_ble_eq_true rfl⟩) Ev0_ok hE hK hS (Cut.all hP hD hS hA) rfl rfl rfl hl.1 rfl (Nat.le_of_ble_eq_true rfl) dX3_setKind_86 ⟨Nat.le_of_ble_eq_true rfl, Nat.le_of_ble_eq_true rfl⟩) hS (Cut.all hP hD hS hA) (fun u_17 H locs hq_86 hP hD hS => ?_)
    have hP : va_P D vwCl (WM ca q (nI 0) (nI (pushL L C).length) ik ln ou pa iw so na nb fo nu al (zOf (changedC (updN C (1 + g_) kd_))) be1_15 ke te ti ne wa ta out pl lo sh le) H := hP
    have hD : va_D A (WM ca q (nI 0) (nI (pushL L C).length) ik ln ou pa iw so na nb fo nu al (zOf (changedC (updN C (1 + g_) kd_))) be1_15 ke te ti ne wa ta out pl lo sh le) := hD
    refine lv_iload_n hx hb dX3_setKind_89 rfl (lv_at hl 0 rfl) ?_
    subst hQQ
    exact xe_i (v := nI (C (1 + g_))) be1_15 hx hb hr hlocks hK hP hD hS (⟨rfl, hp_64⟩) dX3_setKind_90
set_option maxHeartbeats 4000000 in
set_option maxRecDepth 100000 in
theorem mt_X3_setKind_no (l : Launch) (D : va_G) (ca : Nat → ClassId) (q : Nat → Nat) (th : Int32) (st : Int32) (ik : Int32) (ln : Int32) (ou : Int32) (pa : Int32) (iw : Int32) (so : Int32) (na : Int32) (nb : Int32) (fo : Int32) (nu : Int32) (al : Int32) (be : Nat → Int32) (ke : Nat → Int32) (te : Nat → Int32) (ti : Nat → Int32) (ne : Nat → Int32) (wa : Nat → Int32) (ta : Nat → Int64) (out : Nat → Int64) (pl : Nat → Int64) (lo : Nat → Int64) (sh : Nat → Int64) (le : Nat → Int64) (C : Nat → Nat) (g_ : Int32) (kd_ : Int32) (hc : skcode C g_ kd_ ≠ 0) (h0 : C 0 ≤ 12) (hbx : C 38 < 2 ^ 18) (nn : Nat) : Met l yX3_setKind (ws_ yX3_setKind cX3_setKind 4 (Option.some Jvm.ClassFile.FieldType.int)) ({ frames := 2, cells := 0, slots := 0, locals := 43 } : Room) (va_Pc [.ref (q 0), .int g_, .int kd_] (PreW Ev0 D vwCl (TY ca) (WM ca q th st ik ln ou pa iw so na nb fo nu al (zOf C) be ke te ti ne wa ta out pl lo sh le) nn)) (va_Qi (fun (r_ : Int32) (_ : Unit) => r_ = nI 0) (PostW D vwCl (TY ca) (fun (_ : Unit) => (WM ca q (nI (skcode C g_ kd_)) st ik ln ou pa iw so na nb fo nu al (zOf C) be ke te ti ne wa ta out pl lo sh le)) (va_A (WM ca q th st ik ln ou pa iw so na nb fo nu al (zOf C) be ke te ti ne wa ta out pl lo sh le) nn)) (va_A (WM ca q th st ik ln ou pa iw so na nb fo nu al (zOf C) be ke te ti ne wa ta out pl lo sh le) nn)) 0 0 (va_A (WM ca q th st ik ln ou pa iw so na nb fo nu al (zOf C) be ke te ti ne wa ta out pl lo sh le) nn) := by
  refine met_go (QA := fun A => va_Qi (fun (r_ : Int32) (_ : Unit) => r_ = nI 0) (PostW D vwCl (TY ca) (fun (_ : Unit) => (WM ca q (nI (skcode C g_ kd_)) st ik ln ou pa iw so na nb fo nu al (zOf C) be ke te ti ne wa ta out pl lo sh le)) A) A) (by decide) (Nat.le_of_ble_eq_true rfl) (fun p e s m below meth c A ls QQ hQQ hx hb hr hts hown hlocks hml hA hP hK hD hE hl => ?_)
  have hown : s.vm.findClass RX3 = some m.cls := hown
  have hS : va_S A s.heap s.heap [] := va_S.rf
  have hl : lv_has ls 4 [(0, .ref (q 0)), (1, .int g_), (2, .int kd_)] := hl
  generalize hHe : s.heap = H at hP ⊢
  have hS : va_S A s.heap H [] := hHe ▸ hS
  generalize ([] : List Loc) = locs at hS ⊢
  refine lv_aload_n hx hb dX3_setKind_0 rfl (lv_at hl 0 rfl) ?_
  refine lv_aload_n hx hb dX3_setKind_1 rfl (lv_at hl 0 rfl) ?_
  refine lv_iload_n hx hb dX3_setKind_2 rfl (lv_at hl 1 rfl) ?_
  refine xc_i (xr_V (b := q 0) (ci := 2) (q0 := 0) (As := [.int g_]) (rest := [.ref (q 0)]) (mt_X3_isGate l D ca q th st ik ln ou pa iw so na nb fo nu al be ke te ti ne wa ta out pl lo sh le C g_ (by first | assumption | omega | (simp only [updN, forgetC, changedC]; (repeat' split) <;> omega)) H.size) ⟨hx, hb, hml, hown, hts⟩ (cwV 1 hts (lw_V q1727 q1729 qs50 q87 q1730) rfl rfl rfl (by decide +kernel) ⟨Nat.le_of_ble_eq_true rfl, Nat.le_of_ble_eq_true rfl⟩) Ev0_ok hE hK hS (Cut.all hP hD hS hA) rfl rfl rfl hl.1 rfl (Nat.le_of_ble_eq_true rfl) dX3_setKind_3 ⟨Nat.le_of_ble_eq_true rfl, Nat.le_of_ble_eq_true rfl⟩) hS (Cut.all hP hD hS hA) (fun r_1 u_2 H locs hq_3 hP hD hS => ?_)
  have hP : va_P D vwCl (WM ca q th st ik ln ou pa iw so na nb fo nu al (zOf C) be ke te ti ne wa ta out pl lo sh le) H := hP
  have hD : va_D A (WM ca q th st ik ln ou pa iw so na nb fo nu al (zOf C) be ke te ti ne wa ta out pl lo sh le) := hD
  have hp_3 : r_1 = bI (inR (C 0) g_) := hq_3
  clear hq_3
  obtain rfl := hp_3
  refine nv_ifb_ne (tgt := 13) hx hb dX3_setKind_6 (by decide) (fun c_6 => ?_) (fun c_6 => ?_)
  · skip
    obtain ⟨gj_, hgj_, rfl, hgj_2⟩ := inR_of c_6
    refine lv_iload_n hx hb dX3_setKind_13 rfl (lv_at hl 2 rfl) ?_
    refine lv_iconst (v := nI 0) hx hb dX3_setKind_14 (by decide) ?_
    refine lv_bipush (v := nI 7) hx hb dX3_setKind_15 (by decide) ?_
    refine xc_i (xr_S (As := [.int kd_, .int (nI 0), .int (nI 7)]) (rest := [.ref (q 0)]) (mt_X3_in l D ca kd_ (nI 0) (nI 7)  H.size) ⟨hx, hb, hml, hown, hts⟩ (va_cwS 3 hts (lw_S q1700 q1701 q87 q1702) rfl rfl rfl (by decide +kernel) ⟨Nat.le_of_ble_eq_true rfl, Nat.le_of_ble_eq_true rfl⟩) Ev0_ok hE hK hS (Cut.app (wc := []) (wr := (WM ca q th st ik ln ou pa iw so na nb fo nu al (zOf C) be ke te ti ne wa ta out pl lo sh le)) hP hD hS hA) rfl hl.1 rfl (Nat.le_of_ble_eq_true rfl) dX3_setKind_17 ⟨Nat.le_of_ble_eq_true rfl, Nat.le_of_ble_eq_true rfl⟩) hS (Cut.app (wc := []) (wr := (WM ca q th st ik ln ou pa iw so na nb fo nu al (zOf C) be ke te ti ne wa ta out pl lo sh le)) hP hD hS hA) (fun r_4 u_5 H locs hq_17 hP hD hS => ?_)
    have hP : va_P D vwCl (WM ca q th st ik ln ou pa iw so na nb fo nu al (zOf C) be ke te ti ne wa ta out pl lo sh le) H := hP
    have hD : va_D A (WM ca q th st ik ln ou pa iw so na nb fo nu al (zOf C) be ke te ti ne wa ta out pl lo sh le) := hD
    have hp_17 : r_4 = bI (decide ((nI 0) ≤ kd_ ∧ kd_ ≤ (nI 7))) := hq_17
    clear hq_17
    obtain rfl := hp_17
    refine nv_ifb_ne (tgt := 27) hx hb dX3_setKind_20 (by decide) (fun c_20 => ?_) (fun c_20 => ?_)
    · skip
      rw [inR_lit (by decide)] at c_20
      obtain ⟨kj_, hkj_, rfl, hkj_2⟩ := inR_of c_20
      refine lv_aload_n hx hb dX3_setKind_27 rfl (lv_at hl 0 rfl) ?_
      refine gWM_0_z_X3 hx hb hts hown hK hP dX3_setKind_28 ?_
      refine lv_bipush (v := nI 38) hx hb dX3_setKind_31 (by decide) ?_
      refine ldWM_1 hx hb hK hP (by omega) dX3_setKind_33 ?_
      refine lv_topi (nm_r (e' := nI (C 38)) (rfl) ?_)
      refine lv_iload_n hx hb dX3_setKind_34 rfl (lv_at hl 1 rfl) ?_
      refine xc_i (xr_S (As := [.int (nI (C 38)), .int (nI gj_)]) (rest := [.ref (q 0)]) (mt_X3_has l D ca (C 38) gj_ (by first | assumption | omega | (simp only [updN, forgetC, changedC]; (repeat' split) <;> omega)) (by first | assumption | omega | (simp only [updN, forgetC, changedC]; (repeat' split) <;> omega)) H.size) ⟨hx, hb, hml, hown, hts⟩ (va_cwS 2 hts (lw_S q1731 q1732 q87 q1733) rfl rfl rfl (by decide +kernel) ⟨Nat.le_of_ble_eq_true rfl, Nat.le_of_ble_eq_true rfl⟩) Ev0_ok hE hK hS (Cut.app (wc := []) (wr := (WM ca q th st ik ln ou pa iw so na nb fo nu al (zOf C) be ke te ti ne wa ta out pl lo sh le)) hP hD hS hA) rfl hl.1 rfl (Nat.le_of_ble_eq_true rfl) dX3_setKind_35 ⟨Nat.le_of_ble_eq_true rfl, Nat.le_of_ble_eq_true rfl⟩) hS (Cut.app (wc := []) (wr := (WM ca q th st ik ln ou pa iw so na nb fo nu al (zOf C) be ke te ti ne wa ta out pl lo sh le)) hP hD hS hA) (fun r_7 u_8 H locs hq_35 hP hD hS => ?_)
      have hP : va_P D vwCl (WM ca q th st ik ln ou pa iw so na nb fo nu al (zOf C) be ke te ti ne wa ta out pl lo sh le) H := hP
      have hD : va_D A (WM ca q th st ik ln ou pa iw so na nb fo nu al (zOf C) be ke te ti ne wa ta out pl lo sh le) := hD
      have hp_35 : r_7 = bI ((C 38).testBit gj_) := hq_35
      clear hq_35
      obtain rfl := hp_35
      refine nv_ifb_eq (tgt := 50) hx hb dX3_setKind_38 (by decide) (fun c_38 => ?_) (fun c_38 => ?_)
      · skip
        refine lv_iconst (v := nI 0) hx hb dX3_setKind_50 (by decide) ?_
        refine pWM_0_thrown_X3 hx hb hts hown hK hP hD hS dX3_setKind_51 (fun H locs hP hD hS => ?_)
        refine lv_aload_n hx hb dX3_setKind_54 rfl (lv_at hl 0 rfl) ?_
        refine gWM_0_thrown_X3 hx hb hts hown hK hP dX3_setKind_55 ?_
        refine nv_if_le (tgt := 63) hx hb dX3_setKind_58 (by decide) (by omega) (fun c_58 => ?_) (fun c_58 => absurd c_58 (by decide))
        exact absurd (by clear hP hD hS hK hts; simp_all [skcode, inR_ok, toI_nI]; try omega) hc
      · skip
        refine lv_iload_n hx hb dX3_setKind_41 rfl (lv_at hl 2 rfl) ?_
        refine lv_iconst (v := nI 5) hx hb dX3_setKind_42 (by decide) ?_
        refine nv_icmp_le (tgt := 50) hx hb dX3_setKind_43 (by decide) (by omega) (by omega) (fun c_43 => ?_) (fun c_43 => ?_)
        · skip
          refine lv_iconst (v := nI 0) hx hb dX3_setKind_50 (by decide) ?_
          refine pWM_0_thrown_X3 hx hb hts hown hK hP hD hS dX3_setKind_51 (fun H locs hP hD hS => ?_)
          refine lv_aload_n hx hb dX3_setKind_54 rfl (lv_at hl 0 rfl) ?_
          refine gWM_0_thrown_X3 hx hb hts hown hK hP dX3_setKind_55 ?_
          refine nv_if_le (tgt := 63) hx hb dX3_setKind_58 (by decide) (by omega) (fun c_58 => ?_) (fun c_58 => absurd c_58 (by decide))
          exact absurd (by clear hP hD hS hK hts; simp_all [skcode, inR_ok, toI_nI]; try omega) hc
        · skip
          refine lv_iconst (v := nI 3) hx hb dX3_setKind_46 (by decide) ?_
          refine lv_goto (tgt := 51) hx hb dX3_setKind_47 (by decide) ?_
          refine pWM_0_thrown_X3 hx hb hts hown hK hP hD hS dX3_setKind_51 (fun H locs hP hD hS => ?_)
          refine lv_aload_n hx hb dX3_setKind_54 rfl (lv_at hl 0 rfl) ?_
          refine gWM_0_thrown_X3 hx hb hts hown hK hP dX3_setKind_55 ?_
          refine nv_if_le (tgt := 63) hx hb dX3_setKind_58 (by decide) (by omega) (fun c_58 => absurd c_58 (by decide)) (fun c_58 => ?_)
          refine lv_iconst (v := nI 0) hx hb dX3_setKind_61 (by decide) ?_
          have ew_ : nI 3 = nI (skcode C (nI gj_) (nI kj_)) := congrArg nI (by clear hP hD hS hK hts; simp_all [skcode, inR_ok, toI_nI])
          have hP : va_P D vwCl (WM ca q (nI (skcode C (nI gj_) (nI kj_))) st ik ln ou pa iw so na nb fo nu al (zOf C) be ke te ti ne wa ta out pl lo sh le) H := (congrArg (fun x_ => va_P D vwCl (WM ca q x_ st ik ln ou pa iw so na nb fo nu al (zOf C) be ke te ti ne wa ta out pl lo sh le) H) ew_).mp hP
          have hD : va_D A (WM ca q (nI (skcode C (nI gj_) (nI kj_))) st ik ln ou pa iw so na nb fo nu al (zOf C) be ke te ti ne wa ta out pl lo sh le) := (congrArg (fun x_ => va_D A (WM ca q x_ st ik ln ou pa iw so na nb fo nu al (zOf C) be ke te ti ne wa ta out pl lo sh le)) ew_).mp hD
          clear ew_
          subst hQQ
          exact xe_i (v := nI 0) () hx hb hr hlocks hK hP hD hS (rfl) dX3_setKind_62
    · skip
      rw [inR_lit (by decide)] at c_20
      refine lv_iconst (v := nI 2) hx hb dX3_setKind_23 (by decide) ?_
      refine lv_goto (tgt := 51) hx hb dX3_setKind_24 (by decide) ?_
      refine pWM_0_thrown_X3 hx hb hts hown hK hP hD hS dX3_setKind_51 (fun H locs hP hD hS => ?_)
      refine lv_aload_n hx hb dX3_setKind_54 rfl (lv_at hl 0 rfl) ?_
      refine gWM_0_thrown_X3 hx hb hts hown hK hP dX3_setKind_55 ?_
      refine nv_if_le (tgt := 63) hx hb dX3_setKind_58 (by decide) (by omega) (fun c_58 => absurd c_58 (by decide)) (fun c_58 => ?_)
      refine lv_iconst (v := nI 0) hx hb dX3_setKind_61 (by decide) ?_
      have ew_ : nI 2 = nI (skcode C (nI gj_) kd_) := congrArg nI (by clear hP hD hS hK hts; simp_all [skcode, inR_ok, toI_nI])
      have hP : va_P D vwCl (WM ca q (nI (skcode C (nI gj_) kd_)) st ik ln ou pa iw so na nb fo nu al (zOf C) be ke te ti ne wa ta out pl lo sh le) H := (congrArg (fun x_ => va_P D vwCl (WM ca q x_ st ik ln ou pa iw so na nb fo nu al (zOf C) be ke te ti ne wa ta out pl lo sh le) H) ew_).mp hP
      have hD : va_D A (WM ca q (nI (skcode C (nI gj_) kd_)) st ik ln ou pa iw so na nb fo nu al (zOf C) be ke te ti ne wa ta out pl lo sh le) := (congrArg (fun x_ => va_D A (WM ca q x_ st ik ln ou pa iw so na nb fo nu al (zOf C) be ke te ti ne wa ta out pl lo sh le)) ew_).mp hD
      clear ew_
      subst hQQ
      exact xe_i (v := nI 0) () hx hb hr hlocks hK hP hD hS (rfl) dX3_setKind_62
  · skip
    refine lv_iconst (v := nI 1) hx hb dX3_setKind_9 (by decide) ?_
    refine lv_goto (tgt := 51) hx hb dX3_setKind_10 (by decide) ?_
    refine pWM_0_thrown_X3 hx hb hts hown hK hP hD hS dX3_setKind_51 (fun H locs hP hD hS => ?_)
    refine lv_aload_n hx hb dX3_setKind_54 rfl (lv_at hl 0 rfl) ?_
    refine gWM_0_thrown_X3 hx hb hts hown hK hP dX3_setKind_55 ?_
    refine nv_if_le (tgt := 63) hx hb dX3_setKind_58 (by decide) (by omega) (fun c_58 => absurd c_58 (by decide)) (fun c_58 => ?_)
    refine lv_iconst (v := nI 0) hx hb dX3_setKind_61 (by decide) ?_
    have ew_ : nI 1 = nI (skcode C g_ kd_) := congrArg nI (by clear hP hD hS hK hts; simp_all [skcode, inR_ok, toI_nI])
    have hP : va_P D vwCl (WM ca q (nI (skcode C g_ kd_)) st ik ln ou pa iw so na nb fo nu al (zOf C) be ke te ti ne wa ta out pl lo sh le) H := (congrArg (fun x_ => va_P D vwCl (WM ca q x_ st ik ln ou pa iw so na nb fo nu al (zOf C) be ke te ti ne wa ta out pl lo sh le) H) ew_).mp hP
    have hD : va_D A (WM ca q (nI (skcode C g_ kd_)) st ik ln ou pa iw so na nb fo nu al (zOf C) be ke te ti ne wa ta out pl lo sh le) := (congrArg (fun x_ => va_D A (WM ca q x_ st ik ln ou pa iw so na nb fo nu al (zOf C) be ke te ti ne wa ta out pl lo sh le)) ew_).mp hD
    clear ew_
    subst hQQ
    exact xe_i (v := nI 0) () hx hb hr hlocks hK hP hD hS (rfl) dX3_setKind_62
set_option maxHeartbeats 4000000 in
set_option maxRecDepth 100000 in
theorem mt_X3_setSource_ok (l : Launch) (D : va_G) (ca : Nat → ClassId) (q : Nat → Nat) (th : Int32) (ik : Int32) (ln : Int32) (ou : Int32) (pa : Int32) (iw : Int32) (so : Int32) (na : Int32) (nb : Int32) (fo : Int32) (nu : Int32) (al : Int32) (be : Nat → Int32) (ke : Nat → Int32) (te : Nat → Int32) (ti : Nat → Int32) (ne : Nat → Int32) (wa : Nat → Int32) (ta : Nat → Int64) (out : Nat → Int64) (pl : Nat → Int64) (lo : Nat → Int64) (sh : Nat → Int64) (le : Nat → Int64) (C : Nat → Nat) (L : List (Nat → Nat)) (g_ : Nat) (w_ : Nat) (l_ : Nat) (hg : g_ < C 0) (hw : w_ < 2) (hl0 : l_ < 6 + g_) (h0 : C 0 ≤ 12) (h39 : C 39 ≤ 64) (hL : L.length ≤ 5) (hB : BeOk L be) (nn : Nat) : Met l yX3_setSource (ws_ yX3_setSource cX3_setSource 6 (Option.some Jvm.ClassFile.FieldType.int)) ({ frames := 3, cells := 0, slots := 0, locals := 63 } : Room) (va_Pc [.ref (q 0), .int (nI g_), .int (nI w_), .int (nI l_)] (PreW Ev0 D vwCl (TY ca) (WM ca q th (nI L.length) ik ln ou pa iw so na nb fo nu al (zOf C) be ke te ti ne wa ta out pl lo sh le) nn)) (va_Qi (fun (r_ : Int32) (u_ : (Nat → Int32)) => r_ = nI (C ((if w_ = 0 then 13 else 25) + g_)) ∧ (BeOk (pushL L C) u_)) (PostW D vwCl (TY ca) (fun (u_ : (Nat → Int32)) => (WM ca q (nI 0) (nI (pushL L C).length) ik ln ou pa iw so na nb fo nu al (zOf (setSourceC C g_ w_ l_)) u_ ke te ti ne wa ta out pl lo sh le)) (va_A (WM ca q th (nI L.length) ik ln ou pa iw so na nb fo nu al (zOf C) be ke te ti ne wa ta out pl lo sh le) nn)) (va_A (WM ca q th (nI L.length) ik ln ou pa iw so na nb fo nu al (zOf C) be ke te ti ne wa ta out pl lo sh le) nn)) 0 0 (va_A (WM ca q th (nI L.length) ik ln ou pa iw so na nb fo nu al (zOf C) be ke te ti ne wa ta out pl lo sh le) nn) := by
  refine met_go (QA := fun A => va_Qi (fun (r_ : Int32) (u_ : (Nat → Int32)) => r_ = nI (C ((if w_ = 0 then 13 else 25) + g_)) ∧ (BeOk (pushL L C) u_)) (PostW D vwCl (TY ca) (fun (u_ : (Nat → Int32)) => (WM ca q (nI 0) (nI (pushL L C).length) ik ln ou pa iw so na nb fo nu al (zOf (setSourceC C g_ w_ l_)) u_ ke te ti ne wa ta out pl lo sh le)) A) A) (by decide) (Nat.le_of_ble_eq_true rfl) (fun p e s m below meth c A ls QQ hQQ hx hb hr hts hown hlocks hml hA hP hK hD hE hl => ?_)
  have hown : s.vm.findClass RX3 = some m.cls := hown
  have hS : va_S A s.heap s.heap [] := va_S.rf
  have hl : lv_has ls 6 [(0, .ref (q 0)), (1, .int (nI g_)), (2, .int (nI w_)), (3, .int (nI l_))] := hl
  generalize hHe : s.heap = H at hP ⊢
  have hS : va_S A s.heap H [] := hHe ▸ hS
  generalize ([] : List Loc) = locs at hS ⊢
  refine lv_aload_n hx hb dX3_setSource_0 rfl (lv_at hl 0 rfl) ?_
  refine lv_aload_n hx hb dX3_setSource_1 rfl (lv_at hl 0 rfl) ?_
  refine lv_iload_n hx hb dX3_setSource_2 rfl (lv_at hl 1 rfl) ?_
  refine xc_i (xr_V (b := q 0) (ci := 2) (q0 := 0) (As := [.int (nI g_)]) (rest := [.ref (q 0)]) (mt_X3_isGate l D ca q th (nI L.length) ik ln ou pa iw so na nb fo nu al be ke te ti ne wa ta out pl lo sh le C (nI g_) (by first | assumption | omega | (simp only [updN, forgetC, changedC]; (repeat' split) <;> omega)) H.size) ⟨hx, hb, hml, hown, hts⟩ (cwV 1 hts (lw_V q1727 q1729 qs50 q87 q1730) rfl rfl rfl (by decide +kernel) ⟨Nat.le_of_ble_eq_true rfl, Nat.le_of_ble_eq_true rfl⟩) Ev0_ok hE hK hS (Cut.all hP hD hS hA) rfl rfl rfl hl.1 rfl (Nat.le_of_ble_eq_true rfl) dX3_setSource_3 ⟨Nat.le_of_ble_eq_true rfl, Nat.le_of_ble_eq_true rfl⟩) hS (Cut.all hP hD hS hA) (fun r_1 u_2 H locs hq_3 hP hD hS => ?_)
  have hP : va_P D vwCl (WM ca q th (nI L.length) ik ln ou pa iw so na nb fo nu al (zOf C) be ke te ti ne wa ta out pl lo sh le) H := hP
  have hD : va_D A (WM ca q th (nI L.length) ik ln ou pa iw so na nb fo nu al (zOf C) be ke te ti ne wa ta out pl lo sh le) := hD
  have hp_3 : r_1 = bI (inR (C 0) (nI g_)) := hq_3
  clear hq_3
  obtain rfl := hp_3
  refine nv_ifb_eq (tgt := 17) hx hb dX3_setSource_6 (by decide) (fun c_6 => (absurd c_6 (by rw [inR_ok hg (by omega)]; decide))) (fun c_6 => ?_)
  refine lv_aload_n hx hb dX3_setSource_9 rfl (lv_at hl 0 rfl) ?_
  refine lv_iload_n hx hb dX3_setSource_10 rfl (lv_at hl 3 rfl) ?_
  refine xc_i (xr_V (b := q 0) (ci := 2) (q0 := 0) (As := [.int (nI l_)]) (rest := [.ref (q 0)]) (mt_X3_isLine l D ca q th (nI L.length) ik ln ou pa iw so na nb fo nu al be ke te ti ne wa ta out pl lo sh le C (nI l_) (by first | assumption | omega | (simp only [updN, forgetC, changedC]; (repeat' split) <;> omega)) H.size) ⟨hx, hb, hml, hown, hts⟩ (cwV 1 hts (lw_V q1692 q1694 qs44 q87 q1695) rfl rfl rfl (by decide +kernel) ⟨Nat.le_of_ble_eq_true rfl, Nat.le_of_ble_eq_true rfl⟩) Ev0_ok hE hK hS (Cut.all hP hD hS hA) rfl rfl rfl hl.1 rfl (Nat.le_of_ble_eq_true rfl) dX3_setSource_11 ⟨Nat.le_of_ble_eq_true rfl, Nat.le_of_ble_eq_true rfl⟩) hS (Cut.all hP hD hS hA) (fun r_3 u_4 H locs hq_11 hP hD hS => ?_)
  have hP : va_P D vwCl (WM ca q th (nI L.length) ik ln ou pa iw so na nb fo nu al (zOf C) be ke te ti ne wa ta out pl lo sh le) H := hP
  have hD : va_D A (WM ca q th (nI L.length) ik ln ou pa iw so na nb fo nu al (zOf C) be ke te ti ne wa ta out pl lo sh le) := hD
  have hp_11 : r_3 = bI (inR (6 + C 0) (nI l_)) := hq_11
  clear hq_11
  obtain rfl := hp_11
  refine nv_ifb_ne (tgt := 21) hx hb dX3_setSource_14 (by decide) (fun c_14 => ?_) (fun c_14 => (absurd c_14 (by rw [inR_ok (by omega) (by omega)]; decide)))
  refine lv_iload_n hx hb dX3_setSource_21 rfl (lv_at hl 2 rfl) ?_
  refine lv_iconst (v := nI 0) hx hb dX3_setSource_22 (by decide) ?_
  refine lv_iconst (v := nI 1) hx hb dX3_setSource_23 (by decide) ?_
  refine xc_i (xr_S (As := [.int (nI w_), .int (nI 0), .int (nI 1)]) (rest := [.ref (q 0)]) (mt_X3_in l D ca (nI w_) (nI 0) (nI 1)  H.size) ⟨hx, hb, hml, hown, hts⟩ (va_cwS 3 hts (lw_S q1700 q1701 q87 q1702) rfl rfl rfl (by decide +kernel) ⟨Nat.le_of_ble_eq_true rfl, Nat.le_of_ble_eq_true rfl⟩) Ev0_ok hE hK hS (Cut.app (wc := []) (wr := (WM ca q th (nI L.length) ik ln ou pa iw so na nb fo nu al (zOf C) be ke te ti ne wa ta out pl lo sh le)) hP hD hS hA) rfl hl.1 rfl (Nat.le_of_ble_eq_true rfl) dX3_setSource_24 ⟨Nat.le_of_ble_eq_true rfl, Nat.le_of_ble_eq_true rfl⟩) hS (Cut.app (wc := []) (wr := (WM ca q th (nI L.length) ik ln ou pa iw so na nb fo nu al (zOf C) be ke te ti ne wa ta out pl lo sh le)) hP hD hS hA) (fun r_5 u_6 H locs hq_24 hP hD hS => ?_)
  have hP : va_P D vwCl (WM ca q th (nI L.length) ik ln ou pa iw so na nb fo nu al (zOf C) be ke te ti ne wa ta out pl lo sh le) H := hP
  have hD : va_D A (WM ca q th (nI L.length) ik ln ou pa iw so na nb fo nu al (zOf C) be ke te ti ne wa ta out pl lo sh le) := hD
  have hp_24 : r_5 = bI (decide ((nI 0) ≤ (nI w_) ∧ (nI w_) ≤ (nI 1))) := hq_24
  clear hq_24
  obtain rfl := hp_24
  refine nv_ifb_eq (tgt := 38) hx hb dX3_setSource_27 (by decide) (fun c_27 => (absurd c_27 (by rw [in_ok (by omega) (by decide)]; decide))) (fun c_27 => ?_)
  refine lv_iload_n hx hb dX3_setSource_30 rfl (lv_at hl 3 rfl) ?_
  refine lv_bipush (v := nI 6) hx hb dX3_setSource_31 (by decide) ?_
  refine lv_iload_n hx hb dX3_setSource_33 rfl (lv_at hl 1 rfl) ?_
  refine nv_iadd hx hb dX3_setSource_34 ?_
  refine nv_icmp_lt (tgt := 42) hx hb dX3_setSource_35 (by decide) (by omega) (by omega) (fun c_35 => ?_) (fun c_35 => (absurd c_35 (by omega)))
  refine lv_iconst (v := nI 0) hx hb dX3_setSource_42 (by decide) ?_
  refine pWM_0_thrown_X3 hx hb hts hown hK hP hD hS dX3_setSource_43 (fun H locs hP hD hS => ?_)
  refine lv_aload_n hx hb dX3_setSource_46 rfl (lv_at hl 0 rfl) ?_
  refine gWM_0_thrown_X3 hx hb hts hown hK hP dX3_setSource_47 ?_
  refine nv_if_le (tgt := 55) hx hb dX3_setSource_50 (by decide) (by omega) (fun c_50 => ?_) (fun c_50 => absurd c_50 (by decide))
  refine lv_aload_n hx hb dX3_setSource_55 rfl (lv_at hl 0 rfl) ?_
  refine xc_v (xr_V (b := q 0) (ci := 2) (q0 := 0) (As := []) (rest := []) (mt_X3_record l D ca q (nI 0) ik ln ou pa iw so na nb fo nu al be ke te ti ne wa ta out pl lo sh le C L (by first | assumption | omega | (simp only [updN, forgetC, changedC]; (repeat' split) <;> omega)) (by first | assumption | omega | (simp only [updN, forgetC, changedC]; (repeat' split) <;> omega)) H.size) ⟨hx, hb, hml, hown, hts⟩ (cwV 0 hts (lw_V q1680 q1682 qs42 q87 q1683) rfl rfl rfl (by decide +kernel) ⟨Nat.le_of_ble_eq_true rfl, Nat.le_of_ble_eq_true rfl⟩) Ev0_ok hE hK hS (Cut.all hP hD hS hA) rfl rfl rfl hl.1 rfl (Nat.le_of_ble_eq_true rfl) dX3_setSource_56 ⟨Nat.le_of_ble_eq_true rfl, Nat.le_of_ble_eq_true rfl⟩) hS (Cut.all hP hD hS hA) (fun u_8 H locs hq_56 hP hD hS => ?_)
  obtain ⟨be1_9, rfl⟩ : ∃ z_, z_ = u_8 := ⟨_, rfl⟩
  have hP : va_P D vwCl (WM ca q (nI 0) (nI (pushL L C).length) ik ln ou pa iw so na nb fo nu al (zOf C) be1_9 ke te ti ne wa ta out pl lo sh le) H := hP
  have hD : va_D A (WM ca q (nI 0) (nI (pushL L C).length) ik ln ou pa iw so na nb fo nu al (zOf C) be1_9 ke te ti ne wa ta out pl lo sh le) := hD
  have hp_56 : BeOk (pushL L C) be1_9 := hq_56
  clear hq_56
  refine lv_iload_n hx hb dX3_setSource_59 rfl (lv_at hl 2 rfl) ?_
  refine nv_if_ne (tgt := 68) hx hb dX3_setSource_60 (by decide) (by omega) (fun c_60 => ?_) (fun c_60 => ?_)
  · skip
    have hk_ : (if w_ = 0 then 13 else 25) = 25 := if_neg c_60
    refine lv_bipush (v := nI 25) hx hb dX3_setSource_68 (by decide) ?_
    refine lv_iload_n hx hb dX3_setSource_70 rfl (lv_at hl 1 rfl) ?_
    refine nv_iadd hx hb dX3_setSource_71 ?_
    refine lv_topi (nm_r (e' := nI ((if w_ = 0 then 13 else 25) + g_)) (by rw [hk_]) ?_)
    refine lv_istore (lv' := [(4, .int (nI ((if w_ = 0 then 13 else 25) + g_))), (0, .ref (q 0)), (1, .int (nI g_)), (2, .int (nI w_)), (3, .int (nI l_))]) hx hb dX3_setSource_72 hl (by decide) rfl (fun ls hl => ?_)
    refine lv_aload_n hx hb dX3_setSource_74 rfl (lv_at hl 1 rfl) ?_
    refine gWM_0_z_X3 hx hb hts hown hK hP dX3_setSource_75 ?_
    refine lv_iload hx hb dX3_setSource_78 (lv_at hl 0 rfl) ?_
    refine ldWM_1 hx hb hK hP (by omega) dX3_setSource_80 ?_
    refine lv_topi (nm_r (e' := nI (C ((if w_ = 0 then 13 else 25) + g_))) (zOf_n (by omega)) ?_)
    refine lv_istore (lv' := [(5, .int (nI (C ((if w_ = 0 then 13 else 25) + g_)))), (4, .int (nI ((if w_ = 0 then 13 else 25) + g_))), (0, .ref (q 0)), (1, .int (nI g_)), (2, .int (nI w_)), (3, .int (nI l_))]) hx hb dX3_setSource_81 hl (by decide) rfl (fun ls hl => ?_)
    refine lv_aload_n hx hb dX3_setSource_83 rfl (lv_at hl 2 rfl) ?_
    refine gWM_0_z_X3 hx hb hts hown hK hP dX3_setSource_84 ?_
    refine lv_iload hx hb dX3_setSource_87 (lv_at hl 1 rfl) ?_
    refine lv_iload_n hx hb dX3_setSource_89 rfl (lv_at hl 5 rfl) ?_
    refine stWM_1 hx hb hK hP hD hS (by omega) dX3_setSource_90 (fun H locs hP hD hS => ?_)
    have ew_ : upd (zOf C) ((if w_ = 0 then 13 else 25) + g_) (nI l_) = zOf (updN C ((if w_ = 0 then 13 else 25) + g_) l_) := zOf_u (by omega)
    have hP : va_P D vwCl (WM ca q (nI 0) (nI (pushL L C).length) ik ln ou pa iw so na nb fo nu al (zOf (updN C ((if w_ = 0 then 13 else 25) + g_) l_)) be1_9 ke te ti ne wa ta out pl lo sh le) H := (congrArg (fun x_ => va_P D vwCl (WM ca q (nI 0) (nI (pushL L C).length) ik ln ou pa iw so na nb fo nu al x_ be1_9 ke te ti ne wa ta out pl lo sh le) H) ew_).mp hP
    have hD : va_D A (WM ca q (nI 0) (nI (pushL L C).length) ik ln ou pa iw so na nb fo nu al (zOf (updN C ((if w_ = 0 then 13 else 25) + g_) l_)) be1_9 ke te ti ne wa ta out pl lo sh le) := (congrArg (fun x_ => va_D A (WM ca q (nI 0) (nI (pushL L C).length) ik ln ou pa iw so na nb fo nu al x_ be1_9 ke te ti ne wa ta out pl lo sh le)) ew_).mp hD
    clear ew_
    refine lv_aload_n hx hb dX3_setSource_91 rfl (lv_at hl 2 rfl) ?_
    refine xc_v (xr_V (b := q 0) (ci := 2) (q0 := 0) (As := []) (rest := []) (mt_X3_changed l D ca q (nI 0) (nI (pushL L C).length) ik ln ou pa iw so na nb fo nu al be1_9 ke te ti ne wa ta out pl lo sh le (updN C ((if w_ = 0 then 13 else 25) + g_) l_) (by first | assumption | omega | (simp only [updN, forgetC, changedC]; (repeat' split) <;> omega)) (by first | assumption | omega | (simp only [updN, forgetC, changedC]; (repeat' split) <;> omega)) H.size) ⟨hx, hb, hml, hown, hts⟩ (cwV 0 hts (lw_V q1707 q1709 qs47 q87 q1710) rfl rfl rfl (by decide +kernel) ⟨Nat.le_of_ble_eq_true rfl, Nat.le_of_ble_eq_true rfl⟩) Ev0_ok hE hK hS (Cut.all hP hD hS hA) rfl rfl rfl hl.1 rfl (Nat.le_of_ble_eq_true rfl) dX3_setSource_92 ⟨Nat.le_of_ble_eq_true rfl, Nat.le_of_ble_eq_true rfl⟩) hS (Cut.all hP hD hS hA) (fun u_12 H locs hq_92 hP hD hS => ?_)
    have hP : va_P D vwCl (WM ca q (nI 0) (nI (pushL L C).length) ik ln ou pa iw so na nb fo nu al (zOf (changedC (updN C ((if w_ = 0 then 13 else 25) + g_) l_))) be1_9 ke te ti ne wa ta out pl lo sh le) H := hP
    have hD : va_D A (WM ca q (nI 0) (nI (pushL L C).length) ik ln ou pa iw so na nb fo nu al (zOf (changedC (updN C ((if w_ = 0 then 13 else 25) + g_) l_))) be1_9 ke te ti ne wa ta out pl lo sh le) := hD
    refine lv_iload hx hb dX3_setSource_95 (lv_at hl 0 rfl) ?_
    subst hQQ
    exact xe_i (v := nI (C ((if w_ = 0 then 13 else 25) + g_))) be1_9 hx hb hr hlocks hK hP hD hS (⟨rfl, hp_56⟩) dX3_setSource_97
  · skip
    have hk_ : (if w_ = 0 then 13 else 25) = 13 := if_pos c_60
    refine lv_bipush (v := nI 13) hx hb dX3_setSource_63 (by decide) ?_
    refine lv_goto (tgt := 70) hx hb dX3_setSource_65 (by decide) ?_
    refine lv_iload_n hx hb dX3_setSource_70 rfl (lv_at hl 1 rfl) ?_
    refine nv_iadd hx hb dX3_setSource_71 ?_
    refine lv_topi (nm_r (e' := nI ((if w_ = 0 then 13 else 25) + g_)) (by rw [hk_]) ?_)
    refine lv_istore (lv' := [(4, .int (nI ((if w_ = 0 then 13 else 25) + g_))), (0, .ref (q 0)), (1, .int (nI g_)), (2, .int (nI w_)), (3, .int (nI l_))]) hx hb dX3_setSource_72 hl (by decide) rfl (fun ls hl => ?_)
    refine lv_aload_n hx hb dX3_setSource_74 rfl (lv_at hl 1 rfl) ?_
    refine gWM_0_z_X3 hx hb hts hown hK hP dX3_setSource_75 ?_
    refine lv_iload hx hb dX3_setSource_78 (lv_at hl 0 rfl) ?_
    refine ldWM_1 hx hb hK hP (by omega) dX3_setSource_80 ?_
    refine lv_topi (nm_r (e' := nI (C ((if w_ = 0 then 13 else 25) + g_))) (zOf_n (by omega)) ?_)
    refine lv_istore (lv' := [(5, .int (nI (C ((if w_ = 0 then 13 else 25) + g_)))), (4, .int (nI ((if w_ = 0 then 13 else 25) + g_))), (0, .ref (q 0)), (1, .int (nI g_)), (2, .int (nI w_)), (3, .int (nI l_))]) hx hb dX3_setSource_81 hl (by decide) rfl (fun ls hl => ?_)
    refine lv_aload_n hx hb dX3_setSource_83 rfl (lv_at hl 2 rfl) ?_
    refine gWM_0_z_X3 hx hb hts hown hK hP dX3_setSource_84 ?_
    refine lv_iload hx hb dX3_setSource_87 (lv_at hl 1 rfl) ?_
    refine lv_iload_n hx hb dX3_setSource_89 rfl (lv_at hl 5 rfl) ?_
    refine stWM_1 hx hb hK hP hD hS (by omega) dX3_setSource_90 (fun H locs hP hD hS => ?_)
    have ew_ : upd (zOf C) ((if w_ = 0 then 13 else 25) + g_) (nI l_) = zOf (updN C ((if w_ = 0 then 13 else 25) + g_) l_) := zOf_u (by omega)
    have hP : va_P D vwCl (WM ca q (nI 0) (nI (pushL L C).length) ik ln ou pa iw so na nb fo nu al (zOf (updN C ((if w_ = 0 then 13 else 25) + g_) l_)) be1_9 ke te ti ne wa ta out pl lo sh le) H := (congrArg (fun x_ => va_P D vwCl (WM ca q (nI 0) (nI (pushL L C).length) ik ln ou pa iw so na nb fo nu al x_ be1_9 ke te ti ne wa ta out pl lo sh le) H) ew_).mp hP
    have hD : va_D A (WM ca q (nI 0) (nI (pushL L C).length) ik ln ou pa iw so na nb fo nu al (zOf (updN C ((if w_ = 0 then 13 else 25) + g_) l_)) be1_9 ke te ti ne wa ta out pl lo sh le) := (congrArg (fun x_ => va_D A (WM ca q (nI 0) (nI (pushL L C).length) ik ln ou pa iw so na nb fo nu al x_ be1_9 ke te ti ne wa ta out pl lo sh le)) ew_).mp hD
    clear ew_
    refine lv_aload_n hx hb dX3_setSource_91 rfl (lv_at hl 2 rfl) ?_
    refine xc_v (xr_V (b := q 0) (ci := 2) (q0 := 0) (As := []) (rest := []) (mt_X3_changed l D ca q (nI 0) (nI (pushL L C).length) ik ln ou pa iw so na nb fo nu al be1_9 ke te ti ne wa ta out pl lo sh le (updN C ((if w_ = 0 then 13 else 25) + g_) l_) (by first | assumption | omega | (simp only [updN, forgetC, changedC]; (repeat' split) <;> omega)) (by first | assumption | omega | (simp only [updN, forgetC, changedC]; (repeat' split) <;> omega)) H.size) ⟨hx, hb, hml, hown, hts⟩ (cwV 0 hts (lw_V q1707 q1709 qs47 q87 q1710) rfl rfl rfl (by decide +kernel) ⟨Nat.le_of_ble_eq_true rfl, Nat.le_of_ble_eq_true rfl⟩) Ev0_ok hE hK hS (Cut.all hP hD hS hA) rfl rfl rfl hl.1 rfl (Nat.le_of_ble_eq_true rfl) dX3_setSource_92 ⟨Nat.le_of_ble_eq_true rfl, Nat.le_of_ble_eq_true rfl⟩) hS (Cut.all hP hD hS hA) (fun u_14 H locs hq_92 hP hD hS => ?_)
    have hP : va_P D vwCl (WM ca q (nI 0) (nI (pushL L C).length) ik ln ou pa iw so na nb fo nu al (zOf (changedC (updN C ((if w_ = 0 then 13 else 25) + g_) l_))) be1_9 ke te ti ne wa ta out pl lo sh le) H := hP
    have hD : va_D A (WM ca q (nI 0) (nI (pushL L C).length) ik ln ou pa iw so na nb fo nu al (zOf (changedC (updN C ((if w_ = 0 then 13 else 25) + g_) l_))) be1_9 ke te ti ne wa ta out pl lo sh le) := hD
    refine lv_iload hx hb dX3_setSource_95 (lv_at hl 0 rfl) ?_
    subst hQQ
    exact xe_i (v := nI (C ((if w_ = 0 then 13 else 25) + g_))) be1_9 hx hb hr hlocks hK hP hD hS (⟨rfl, hp_56⟩) dX3_setSource_97
set_option maxHeartbeats 4000000 in
set_option maxRecDepth 100000 in
theorem mt_X3_setSource_no (l : Launch) (D : va_G) (ca : Nat → ClassId) (q : Nat → Nat) (th : Int32) (st : Int32) (ik : Int32) (ln : Int32) (ou : Int32) (pa : Int32) (iw : Int32) (so : Int32) (na : Int32) (nb : Int32) (fo : Int32) (nu : Int32) (al : Int32) (be : Nat → Int32) (ke : Nat → Int32) (te : Nat → Int32) (ti : Nat → Int32) (ne : Nat → Int32) (wa : Nat → Int32) (ta : Nat → Int64) (out : Nat → Int64) (pl : Nat → Int64) (lo : Nat → Int64) (sh : Nat → Int64) (le : Nat → Int64) (C : Nat → Nat) (g_ : Int32) (w_ : Int32) (l_ : Int32) (hc : sscode C g_ w_ l_ ≠ 0) (h0 : C 0 ≤ 12) (nn : Nat) : Met l yX3_setSource (ws_ yX3_setSource cX3_setSource 6 (Option.some Jvm.ClassFile.FieldType.int)) ({ frames := 2, cells := 0, slots := 0, locals := 43 } : Room) (va_Pc [.ref (q 0), .int g_, .int w_, .int l_] (PreW Ev0 D vwCl (TY ca) (WM ca q th st ik ln ou pa iw so na nb fo nu al (zOf C) be ke te ti ne wa ta out pl lo sh le) nn)) (va_Qi (fun (r_ : Int32) (_ : Unit) => r_ = nI 0) (PostW D vwCl (TY ca) (fun (_ : Unit) => (WM ca q (nI (sscode C g_ w_ l_)) st ik ln ou pa iw so na nb fo nu al (zOf C) be ke te ti ne wa ta out pl lo sh le)) (va_A (WM ca q th st ik ln ou pa iw so na nb fo nu al (zOf C) be ke te ti ne wa ta out pl lo sh le) nn)) (va_A (WM ca q th st ik ln ou pa iw so na nb fo nu al (zOf C) be ke te ti ne wa ta out pl lo sh le) nn)) 0 0 (va_A (WM ca q th st ik ln ou pa iw so na nb fo nu al (zOf C) be ke te ti ne wa ta out pl lo sh le) nn) := by
  refine met_go (QA := fun A => va_Qi (fun (r_ : Int32) (_ : Unit) => r_ = nI 0) (PostW D vwCl (TY ca) (fun (_ : Unit) => (WM ca q (nI (sscode C g_ w_ l_)) st ik ln ou pa iw so na nb fo nu al (zOf C) be ke te ti ne wa ta out pl lo sh le)) A) A) (by decide) (Nat.le_of_ble_eq_true rfl) (fun p e s m below meth c A ls QQ hQQ hx hb hr hts hown hlocks hml hA hP hK hD hE hl => ?_)
  have hown : s.vm.findClass RX3 = some m.cls := hown
  have hS : va_S A s.heap s.heap [] := va_S.rf
  have hl : lv_has ls 6 [(0, .ref (q 0)), (1, .int g_), (2, .int w_), (3, .int l_)] := hl
  generalize hHe : s.heap = H at hP ⊢
  have hS : va_S A s.heap H [] := hHe ▸ hS
  generalize ([] : List Loc) = locs at hS ⊢
  refine lv_aload_n hx hb dX3_setSource_0 rfl (lv_at hl 0 rfl) ?_
  refine lv_aload_n hx hb dX3_setSource_1 rfl (lv_at hl 0 rfl) ?_
  refine lv_iload_n hx hb dX3_setSource_2 rfl (lv_at hl 1 rfl) ?_
  refine xc_i (xr_V (b := q 0) (ci := 2) (q0 := 0) (As := [.int g_]) (rest := [.ref (q 0)]) (mt_X3_isGate l D ca q th st ik ln ou pa iw so na nb fo nu al be ke te ti ne wa ta out pl lo sh le C g_ (by first | assumption | omega | (simp only [updN, forgetC, changedC]; (repeat' split) <;> omega)) H.size) ⟨hx, hb, hml, hown, hts⟩ (cwV 1 hts (lw_V q1727 q1729 qs50 q87 q1730) rfl rfl rfl (by decide +kernel) ⟨Nat.le_of_ble_eq_true rfl, Nat.le_of_ble_eq_true rfl⟩) Ev0_ok hE hK hS (Cut.all hP hD hS hA) rfl rfl rfl hl.1 rfl (Nat.le_of_ble_eq_true rfl) dX3_setSource_3 ⟨Nat.le_of_ble_eq_true rfl, Nat.le_of_ble_eq_true rfl⟩) hS (Cut.all hP hD hS hA) (fun r_1 u_2 H locs hq_3 hP hD hS => ?_)
  have hP : va_P D vwCl (WM ca q th st ik ln ou pa iw so na nb fo nu al (zOf C) be ke te ti ne wa ta out pl lo sh le) H := hP
  have hD : va_D A (WM ca q th st ik ln ou pa iw so na nb fo nu al (zOf C) be ke te ti ne wa ta out pl lo sh le) := hD
  have hp_3 : r_1 = bI (inR (C 0) g_) := hq_3
  clear hq_3
  obtain rfl := hp_3
  refine nv_ifb_eq (tgt := 17) hx hb dX3_setSource_6 (by decide) (fun c_6 => ?_) (fun c_6 => ?_)
  · skip
    refine lv_iconst (v := nI 1) hx hb dX3_setSource_17 (by decide) ?_
    refine lv_goto (tgt := 43) hx hb dX3_setSource_18 (by decide) ?_
    refine pWM_0_thrown_X3 hx hb hts hown hK hP hD hS dX3_setSource_43 (fun H locs hP hD hS => ?_)
    refine lv_aload_n hx hb dX3_setSource_46 rfl (lv_at hl 0 rfl) ?_
    refine gWM_0_thrown_X3 hx hb hts hown hK hP dX3_setSource_47 ?_
    refine nv_if_le (tgt := 55) hx hb dX3_setSource_50 (by decide) (by omega) (fun c_50 => absurd c_50 (by decide)) (fun c_50 => ?_)
    refine lv_iconst (v := nI 0) hx hb dX3_setSource_53 (by decide) ?_
    have ew_ : nI 1 = nI (sscode C g_ w_ l_) := congrArg nI (by clear hP hD hS hK hts; simp_all [sscode, inR_ok, toI_nI]; try omega)
    have hP : va_P D vwCl (WM ca q (nI (sscode C g_ w_ l_)) st ik ln ou pa iw so na nb fo nu al (zOf C) be ke te ti ne wa ta out pl lo sh le) H := (congrArg (fun x_ => va_P D vwCl (WM ca q x_ st ik ln ou pa iw so na nb fo nu al (zOf C) be ke te ti ne wa ta out pl lo sh le) H) ew_).mp hP
    have hD : va_D A (WM ca q (nI (sscode C g_ w_ l_)) st ik ln ou pa iw so na nb fo nu al (zOf C) be ke te ti ne wa ta out pl lo sh le) := (congrArg (fun x_ => va_D A (WM ca q x_ st ik ln ou pa iw so na nb fo nu al (zOf C) be ke te ti ne wa ta out pl lo sh le)) ew_).mp hD
    clear ew_
    subst hQQ
    exact xe_i (v := nI 0) () hx hb hr hlocks hK hP hD hS (rfl) dX3_setSource_54
  · skip
    obtain ⟨gj_, hgj_, rfl, hgj_2⟩ := inR_of c_6
    refine lv_aload_n hx hb dX3_setSource_9 rfl (lv_at hl 0 rfl) ?_
    refine lv_iload_n hx hb dX3_setSource_10 rfl (lv_at hl 3 rfl) ?_
    refine xc_i (xr_V (b := q 0) (ci := 2) (q0 := 0) (As := [.int l_]) (rest := [.ref (q 0)]) (mt_X3_isLine l D ca q th st ik ln ou pa iw so na nb fo nu al be ke te ti ne wa ta out pl lo sh le C l_ (by first | assumption | omega | (simp only [updN, forgetC, changedC]; (repeat' split) <;> omega)) H.size) ⟨hx, hb, hml, hown, hts⟩ (cwV 1 hts (lw_V q1692 q1694 qs44 q87 q1695) rfl rfl rfl (by decide +kernel) ⟨Nat.le_of_ble_eq_true rfl, Nat.le_of_ble_eq_true rfl⟩) Ev0_ok hE hK hS (Cut.all hP hD hS hA) rfl rfl rfl hl.1 rfl (Nat.le_of_ble_eq_true rfl) dX3_setSource_11 ⟨Nat.le_of_ble_eq_true rfl, Nat.le_of_ble_eq_true rfl⟩) hS (Cut.all hP hD hS hA) (fun r_4 u_5 H locs hq_11 hP hD hS => ?_)
    have hP : va_P D vwCl (WM ca q th st ik ln ou pa iw so na nb fo nu al (zOf C) be ke te ti ne wa ta out pl lo sh le) H := hP
    have hD : va_D A (WM ca q th st ik ln ou pa iw so na nb fo nu al (zOf C) be ke te ti ne wa ta out pl lo sh le) := hD
    have hp_11 : r_4 = bI (inR (6 + C 0) l_) := hq_11
    clear hq_11
    obtain rfl := hp_11
    refine nv_ifb_ne (tgt := 21) hx hb dX3_setSource_14 (by decide) (fun c_14 => ?_) (fun c_14 => ?_)
    · skip
      obtain ⟨lj_, hlj_, rfl, hlj_2⟩ := inR_of c_14
      refine lv_iload_n hx hb dX3_setSource_21 rfl (lv_at hl 2 rfl) ?_
      refine lv_iconst (v := nI 0) hx hb dX3_setSource_22 (by decide) ?_
      refine lv_iconst (v := nI 1) hx hb dX3_setSource_23 (by decide) ?_
      refine xc_i (xr_S (As := [.int w_, .int (nI 0), .int (nI 1)]) (rest := [.ref (q 0)]) (mt_X3_in l D ca w_ (nI 0) (nI 1)  H.size) ⟨hx, hb, hml, hown, hts⟩ (va_cwS 3 hts (lw_S q1700 q1701 q87 q1702) rfl rfl rfl (by decide +kernel) ⟨Nat.le_of_ble_eq_true rfl, Nat.le_of_ble_eq_true rfl⟩) Ev0_ok hE hK hS (Cut.app (wc := []) (wr := (WM ca q th st ik ln ou pa iw so na nb fo nu al (zOf C) be ke te ti ne wa ta out pl lo sh le)) hP hD hS hA) rfl hl.1 rfl (Nat.le_of_ble_eq_true rfl) dX3_setSource_24 ⟨Nat.le_of_ble_eq_true rfl, Nat.le_of_ble_eq_true rfl⟩) hS (Cut.app (wc := []) (wr := (WM ca q th st ik ln ou pa iw so na nb fo nu al (zOf C) be ke te ti ne wa ta out pl lo sh le)) hP hD hS hA) (fun r_7 u_8 H locs hq_24 hP hD hS => ?_)
      have hP : va_P D vwCl (WM ca q th st ik ln ou pa iw so na nb fo nu al (zOf C) be ke te ti ne wa ta out pl lo sh le) H := hP
      have hD : va_D A (WM ca q th st ik ln ou pa iw so na nb fo nu al (zOf C) be ke te ti ne wa ta out pl lo sh le) := hD
      have hp_24 : r_7 = bI (decide ((nI 0) ≤ w_ ∧ w_ ≤ (nI 1))) := hq_24
      clear hq_24
      obtain rfl := hp_24
      refine nv_ifb_eq (tgt := 38) hx hb dX3_setSource_27 (by decide) (fun c_27 => ?_) (fun c_27 => ?_)
      · skip
        rw [inR_lit (by decide)] at c_27
        refine lv_iconst (v := nI 2) hx hb dX3_setSource_38 (by decide) ?_
        refine lv_goto (tgt := 43) hx hb dX3_setSource_39 (by decide) ?_
        refine pWM_0_thrown_X3 hx hb hts hown hK hP hD hS dX3_setSource_43 (fun H locs hP hD hS => ?_)
        refine lv_aload_n hx hb dX3_setSource_46 rfl (lv_at hl 0 rfl) ?_
        refine gWM_0_thrown_X3 hx hb hts hown hK hP dX3_setSource_47 ?_
        refine nv_if_le (tgt := 55) hx hb dX3_setSource_50 (by decide) (by omega) (fun c_50 => absurd c_50 (by decide)) (fun c_50 => ?_)
        refine lv_iconst (v := nI 0) hx hb dX3_setSource_53 (by decide) ?_
        have ew_ : nI 2 = nI (sscode C (nI gj_) w_ (nI lj_)) := congrArg nI (by clear hP hD hS hK hts; simp_all [sscode, inR_ok, toI_nI]; try omega)
        have hP : va_P D vwCl (WM ca q (nI (sscode C (nI gj_) w_ (nI lj_))) st ik ln ou pa iw so na nb fo nu al (zOf C) be ke te ti ne wa ta out pl lo sh le) H := (congrArg (fun x_ => va_P D vwCl (WM ca q x_ st ik ln ou pa iw so na nb fo nu al (zOf C) be ke te ti ne wa ta out pl lo sh le) H) ew_).mp hP
        have hD : va_D A (WM ca q (nI (sscode C (nI gj_) w_ (nI lj_))) st ik ln ou pa iw so na nb fo nu al (zOf C) be ke te ti ne wa ta out pl lo sh le) := (congrArg (fun x_ => va_D A (WM ca q x_ st ik ln ou pa iw so na nb fo nu al (zOf C) be ke te ti ne wa ta out pl lo sh le)) ew_).mp hD
        clear ew_
        subst hQQ
        exact xe_i (v := nI 0) () hx hb hr hlocks hK hP hD hS (rfl) dX3_setSource_54
      · skip
        rw [inR_lit (by decide)] at c_27
        obtain ⟨wj_, hwj_, rfl, hwj_2⟩ := inR_of c_27
        refine lv_iload_n hx hb dX3_setSource_30 rfl (lv_at hl 3 rfl) ?_
        refine lv_bipush (v := nI 6) hx hb dX3_setSource_31 (by decide) ?_
        refine lv_iload_n hx hb dX3_setSource_33 rfl (lv_at hl 1 rfl) ?_
        refine nv_iadd hx hb dX3_setSource_34 ?_
        refine nv_icmp_lt (tgt := 42) hx hb dX3_setSource_35 (by decide) (by omega) (by omega) (fun c_35 => ?_) (fun c_35 => ?_)
        · skip
          refine lv_iconst (v := nI 0) hx hb dX3_setSource_42 (by decide) ?_
          refine pWM_0_thrown_X3 hx hb hts hown hK hP hD hS dX3_setSource_43 (fun H locs hP hD hS => ?_)
          refine lv_aload_n hx hb dX3_setSource_46 rfl (lv_at hl 0 rfl) ?_
          refine gWM_0_thrown_X3 hx hb hts hown hK hP dX3_setSource_47 ?_
          refine nv_if_le (tgt := 55) hx hb dX3_setSource_50 (by decide) (by omega) (fun c_50 => ?_) (fun c_50 => absurd c_50 (by decide))
          exact absurd (by clear hP hD hS hK hts; simp_all [sscode, inR_ok, toI_nI]; try omega) hc
        · skip
          refine lv_iconst (v := nI 2) hx hb dX3_setSource_38 (by decide) ?_
          refine lv_goto (tgt := 43) hx hb dX3_setSource_39 (by decide) ?_
          refine pWM_0_thrown_X3 hx hb hts hown hK hP hD hS dX3_setSource_43 (fun H locs hP hD hS => ?_)
          refine lv_aload_n hx hb dX3_setSource_46 rfl (lv_at hl 0 rfl) ?_
          refine gWM_0_thrown_X3 hx hb hts hown hK hP dX3_setSource_47 ?_
          refine nv_if_le (tgt := 55) hx hb dX3_setSource_50 (by decide) (by omega) (fun c_50 => absurd c_50 (by decide)) (fun c_50 => ?_)
          refine lv_iconst (v := nI 0) hx hb dX3_setSource_53 (by decide) ?_
          have ew_ : nI 2 = nI (sscode C (nI gj_) (nI wj_) (nI lj_)) := congrArg nI (by clear hP hD hS hK hts; simp_all [sscode, inR_ok, toI_nI]; try omega)
          have hP : va_P D vwCl (WM ca q (nI (sscode C (nI gj_) (nI wj_) (nI lj_))) st ik ln ou pa iw so na nb fo nu al (zOf C) be ke te ti ne wa ta out pl lo sh le) H := (congrArg (fun x_ => va_P D vwCl (WM ca q x_ st ik ln ou pa iw so na nb fo nu al (zOf C) be ke te ti ne wa ta out pl lo sh le) H) ew_).mp hP
          have hD : va_D A (WM ca q (nI (sscode C (nI gj_) (nI wj_) (nI lj_))) st ik ln ou pa iw so na nb fo nu al (zOf C) be ke te ti ne wa ta out pl lo sh le) := (congrArg (fun x_ => va_D A (WM ca q x_ st ik ln ou pa iw so na nb fo nu al (zOf C) be ke te ti ne wa ta out pl lo sh le)) ew_).mp hD
          clear ew_
          subst hQQ
          exact xe_i (v := nI 0) () hx hb hr hlocks hK hP hD hS (rfl) dX3_setSource_54
    · skip
      refine lv_iconst (v := nI 1) hx hb dX3_setSource_17 (by decide) ?_
      refine lv_goto (tgt := 43) hx hb dX3_setSource_18 (by decide) ?_
      refine pWM_0_thrown_X3 hx hb hts hown hK hP hD hS dX3_setSource_43 (fun H locs hP hD hS => ?_)
      refine lv_aload_n hx hb dX3_setSource_46 rfl (lv_at hl 0 rfl) ?_
      refine gWM_0_thrown_X3 hx hb hts hown hK hP dX3_setSource_47 ?_
      refine nv_if_le (tgt := 55) hx hb dX3_setSource_50 (by decide) (by omega) (fun c_50 => absurd c_50 (by decide)) (fun c_50 => ?_)
      refine lv_iconst (v := nI 0) hx hb dX3_setSource_53 (by decide) ?_
      have ew_ : nI 1 = nI (sscode C (nI gj_) w_ l_) := congrArg nI (by clear hP hD hS hK hts; simp_all [sscode, inR_ok, toI_nI]; try omega)
      have hP : va_P D vwCl (WM ca q (nI (sscode C (nI gj_) w_ l_)) st ik ln ou pa iw so na nb fo nu al (zOf C) be ke te ti ne wa ta out pl lo sh le) H := (congrArg (fun x_ => va_P D vwCl (WM ca q x_ st ik ln ou pa iw so na nb fo nu al (zOf C) be ke te ti ne wa ta out pl lo sh le) H) ew_).mp hP
      have hD : va_D A (WM ca q (nI (sscode C (nI gj_) w_ l_)) st ik ln ou pa iw so na nb fo nu al (zOf C) be ke te ti ne wa ta out pl lo sh le) := (congrArg (fun x_ => va_D A (WM ca q x_ st ik ln ou pa iw so na nb fo nu al (zOf C) be ke te ti ne wa ta out pl lo sh le)) ew_).mp hD
      clear ew_
      subst hQQ
      exact xe_i (v := nI 0) () hx hb hr hlocks hK hP hD hS (rfl) dX3_setSource_54
set_option maxHeartbeats 4000000 in
set_option maxRecDepth 100000 in
theorem mt_X3_noOutput (l : Launch) (D : va_G) (ca : Nat → ClassId) (q : Nat → Nat) (th : Int32) (st : Int32) (ik : Int32) (ln : Int32) (ou : Int32) (pa : Int32) (iw : Int32) (so : Int32) (na : Int32) (nb : Int32) (fo : Int32) (nu : Int32) (al : Int32) (be : Nat → Int32) (ke : Nat → Int32) (te : Nat → Int32) (ti : Nat → Int32) (ne : Nat → Int32) (wa : Nat → Int32) (ta : Nat → Int64) (out : Nat → Int64) (pl : Nat → Int64) (lo : Nat → Int64) (sh : Nat → Int64) (le : Nat → Int64) (C : Nat → Nat) (l_ : Int32) (h0 : C 0 ≤ 12) (ho : C 37 < 2 ^ 18) (nn : Nat) : Met l yX3_noOutput (ws_ yX3_noOutput cX3_noOutput 2 (Option.some Jvm.ClassFile.FieldType.int)) ({ frames := 2, cells := 0, slots := 0, locals := 43 } : Room) (va_Pc [.ref (q 0), .int l_] (PreW Ev0 D vwCl (TY ca) (WM ca q th st ik ln ou pa iw so na nb fo nu al (zOf C) be ke te ti ne wa ta out pl lo sh le) nn)) (va_Qi (fun (r_ : Int32) (_ : Unit) => r_ = nI (outcode C l_)) (PostW D vwCl (TY ca) (fun (_ : Unit) => (WM ca q th st ik ln ou pa iw so na nb fo nu al (zOf C) be ke te ti ne wa ta out pl lo sh le)) (va_A (WM ca q th st ik ln ou pa iw so na nb fo nu al (zOf C) be ke te ti ne wa ta out pl lo sh le) nn)) (va_A (WM ca q th st ik ln ou pa iw so na nb fo nu al (zOf C) be ke te ti ne wa ta out pl lo sh le) nn)) 0 0 (va_A (WM ca q th st ik ln ou pa iw so na nb fo nu al (zOf C) be ke te ti ne wa ta out pl lo sh le) nn) := by
  refine met_go (QA := fun A => va_Qi (fun (r_ : Int32) (_ : Unit) => r_ = nI (outcode C l_)) (PostW D vwCl (TY ca) (fun (_ : Unit) => (WM ca q th st ik ln ou pa iw so na nb fo nu al (zOf C) be ke te ti ne wa ta out pl lo sh le)) A) A) (by decide) (Nat.le_of_ble_eq_true rfl) (fun p e s m below meth c A ls QQ hQQ hx hb hr hts hown hlocks hml hA hP hK hD hE hl => ?_)
  have hown : s.vm.findClass RX3 = some m.cls := hown
  have hS : va_S A s.heap s.heap [] := va_S.rf
  have hl : lv_has ls 2 [(0, .ref (q 0)), (1, .int l_)] := hl
  generalize hHe : s.heap = H at hP ⊢
  have hS : va_S A s.heap H [] := hHe ▸ hS
  generalize ([] : List Loc) = locs at hS ⊢
  refine lv_aload_n hx hb dX3_noOutput_0 rfl (lv_at hl 0 rfl) ?_
  refine lv_iload_n hx hb dX3_noOutput_1 rfl (lv_at hl 1 rfl) ?_
  refine xc_i (xr_V (b := q 0) (ci := 2) (q0 := 0) (As := [.int l_]) (rest := []) (mt_X3_isLine l D ca q th st ik ln ou pa iw so na nb fo nu al be ke te ti ne wa ta out pl lo sh le C l_ (by first | assumption | omega | (simp only [updN, forgetC, changedC]; (repeat' split) <;> omega)) H.size) ⟨hx, hb, hml, hown, hts⟩ (cwV 1 hts (lw_V q1692 q1694 qs44 q87 q1695) rfl rfl rfl (by decide +kernel) ⟨Nat.le_of_ble_eq_true rfl, Nat.le_of_ble_eq_true rfl⟩) Ev0_ok hE hK hS (Cut.all hP hD hS hA) rfl rfl rfl hl.1 rfl (Nat.le_of_ble_eq_true rfl) dX3_noOutput_2 ⟨Nat.le_of_ble_eq_true rfl, Nat.le_of_ble_eq_true rfl⟩) hS (Cut.all hP hD hS hA) (fun r_1 u_2 H locs hq_2 hP hD hS => ?_)
  have hP : va_P D vwCl (WM ca q th st ik ln ou pa iw so na nb fo nu al (zOf C) be ke te ti ne wa ta out pl lo sh le) H := hP
  have hD : va_D A (WM ca q th st ik ln ou pa iw so na nb fo nu al (zOf C) be ke te ti ne wa ta out pl lo sh le) := hD
  have hp_2 : r_1 = bI (inR (6 + C 0) l_) := hq_2
  clear hq_2
  obtain rfl := hp_2
  refine nv_ifb_ne (tgt := 12) hx hb dX3_noOutput_5 (by decide) (fun c_5 => ?_) (fun c_5 => ?_)
  · skip
    obtain ⟨lj_, hlj_, rfl, hlj_2⟩ := inR_of c_5
    refine lv_aload_n hx hb dX3_noOutput_12 rfl (lv_at hl 0 rfl) ?_
    refine gWM_0_z_X3 hx hb hts hown hK hP dX3_noOutput_13 ?_
    refine lv_bipush (v := nI 37) hx hb dX3_noOutput_16 (by decide) ?_
    refine ldWM_1 hx hb hK hP (by omega) dX3_noOutput_18 ?_
    refine lv_topi (nm_r (e' := nI (C 37)) (rfl) ?_)
    refine lv_iload_n hx hb dX3_noOutput_19 rfl (lv_at hl 1 rfl) ?_
    refine xc_i (xr_S (As := [.int (nI (C 37)), .int (nI lj_)]) (rest := []) (mt_X3_has l D ca (C 37) lj_ (by first | assumption | omega | (simp only [updN, forgetC, changedC]; (repeat' split) <;> omega)) (by first | assumption | omega | (simp only [updN, forgetC, changedC]; (repeat' split) <;> omega)) H.size) ⟨hx, hb, hml, hown, hts⟩ (va_cwS 2 hts (lw_S q1731 q1732 q87 q1733) rfl rfl rfl (by decide +kernel) ⟨Nat.le_of_ble_eq_true rfl, Nat.le_of_ble_eq_true rfl⟩) Ev0_ok hE hK hS (Cut.app (wc := []) (wr := (WM ca q th st ik ln ou pa iw so na nb fo nu al (zOf C) be ke te ti ne wa ta out pl lo sh le)) hP hD hS hA) rfl hl.1 rfl (Nat.le_of_ble_eq_true rfl) dX3_noOutput_20 ⟨Nat.le_of_ble_eq_true rfl, Nat.le_of_ble_eq_true rfl⟩) hS (Cut.app (wc := []) (wr := (WM ca q th st ik ln ou pa iw so na nb fo nu al (zOf C) be ke te ti ne wa ta out pl lo sh le)) hP hD hS hA) (fun r_4 u_5 H locs hq_20 hP hD hS => ?_)
    have hP : va_P D vwCl (WM ca q th st ik ln ou pa iw so na nb fo nu al (zOf C) be ke te ti ne wa ta out pl lo sh le) H := hP
    have hD : va_D A (WM ca q th st ik ln ou pa iw so na nb fo nu al (zOf C) be ke te ti ne wa ta out pl lo sh le) := hD
    have hp_20 : r_4 = bI ((C 37).testBit lj_) := hq_20
    clear hq_20
    obtain rfl := hp_20
    refine nv_ifb_ne (tgt := 44) hx hb dX3_noOutput_23 (by decide) (fun c_23 => ?_) (fun c_23 => ?_)
    · skip
      refine lv_iconst (v := nI 0) hx hb dX3_noOutput_44 (by decide) ?_
      subst hQQ
      exact xe_i (v := nI 0) () hx hb hr hlocks hK hP hD hS (congrArg nI (by clear hP hD hS hK hts; simp_all [outcode, inR_ok, toI_nI])) dX3_noOutput_45
    · skip
      refine lv_aload_n hx hb dX3_noOutput_26 rfl (lv_at hl 0 rfl) ?_
      refine gWM_0_z_X3 hx hb hts hown hK hP dX3_noOutput_27 ?_
      refine lv_bipush (v := nI 37) hx hb dX3_noOutput_30 (by decide) ?_
      refine ldWM_1 hx hb hK hP (by omega) dX3_noOutput_32 ?_
      refine lv_topi (nm_r (e' := nI (C 37)) (rfl) ?_)
      refine xc_i (xr_S (As := [.int (nI (C 37))]) (rest := []) (mt_X3_count l D ca (C 37) (by first | assumption | omega | (simp only [updN, forgetC, changedC]; (repeat' split) <;> omega)) H.size) ⟨hx, hb, hml, hown, hts⟩ (va_cwS 1 hts (lw_S q1746 q1747 q87 q1748) rfl rfl rfl (by decide +kernel) ⟨Nat.le_of_ble_eq_true rfl, Nat.le_of_ble_eq_true rfl⟩) Ev0_ok hE hK hS (Cut.app (wc := []) (wr := (WM ca q th st ik ln ou pa iw so na nb fo nu al (zOf C) be ke te ti ne wa ta out pl lo sh le)) hP hD hS hA) rfl hl.1 rfl (Nat.le_of_ble_eq_true rfl) dX3_noOutput_33 ⟨Nat.le_of_ble_eq_true rfl, Nat.le_of_ble_eq_true rfl⟩) hS (Cut.app (wc := []) (wr := (WM ca q th st ik ln ou pa iw so na nb fo nu al (zOf C) be ke te ti ne wa ta out pl lo sh le)) hP hD hS hA) (fun r_7 u_8 H locs hq_33 hP hD hS => ?_)
      have hP : va_P D vwCl (WM ca q th st ik ln ou pa iw so na nb fo nu al (zOf C) be ke te ti ne wa ta out pl lo sh le) H := hP
      have hD : va_D A (WM ca q th st ik ln ou pa iw so na nb fo nu al (zOf C) be ke te ti ne wa ta out pl lo sh le) := hD
      have hp_33 : r_7 = nI (popc 18 (C 37)) := hq_33
      clear hq_33
      obtain rfl := hp_33
      refine lv_iconst (v := nI 4) hx hb dX3_noOutput_36 (by decide) ?_
      refine nv_icmp_ne (tgt := 44) hx hb dX3_noOutput_37 (by decide) (by have := popc_le 18 (C 37); omega) (by omega) (fun c_37 => ?_) (fun c_37 => ?_)
      · skip
        refine lv_iconst (v := nI 0) hx hb dX3_noOutput_44 (by decide) ?_
        subst hQQ
        exact xe_i (v := nI 0) () hx hb hr hlocks hK hP hD hS (congrArg nI (by clear hP hD hS hK hts; simp_all [outcode, inR_ok, toI_nI])) dX3_noOutput_45
      · skip
        refine lv_iconst (v := nI 2) hx hb dX3_noOutput_40 (by decide) ?_
        refine lv_goto (tgt := 45) hx hb dX3_noOutput_41 (by decide) ?_
        subst hQQ
        exact xe_i (v := nI 2) () hx hb hr hlocks hK hP hD hS (congrArg nI (by clear hP hD hS hK hts; simp_all [outcode, inR_ok, toI_nI])) dX3_noOutput_45
  · skip
    refine lv_iconst (v := nI 1) hx hb dX3_noOutput_8 (by decide) ?_
    refine lv_goto (tgt := 45) hx hb dX3_noOutput_9 (by decide) ?_
    subst hQQ
    exact xe_i (v := nI 1) () hx hb hr hlocks hK hP hD hS (congrArg nI (by clear hP hD hS hK hts; simp_all [outcode, inR_ok, toI_nI])) dX3_noOutput_45
set_option maxHeartbeats 4000000 in
set_option maxRecDepth 100000 in
theorem mt_X3_noBox (l : Launch) (D : va_G) (ca : Nat → ClassId) (q : Nat → Nat) (th : Int32) (st : Int32) (ik : Int32) (ln : Int32) (ou : Int32) (pa : Int32) (iw : Int32) (so : Int32) (na : Int32) (nb : Int32) (fo : Int32) (nu : Int32) (al : Int32) (be : Nat → Int32) (ke : Nat → Int32) (te : Nat → Int32) (ti : Nat → Int32) (ne : Nat → Int32) (wa : Nat → Int32) (ta : Nat → Int64) (out : Nat → Int64) (pl : Nat → Int64) (lo : Nat → Int64) (sh : Nat → Int64) (le : Nat → Int64) (C : Nat → Nat) (g_ : Int32) (h0 : C 0 ≤ 12) (hbx : C 38 < 2 ^ 18) (hkd0 : ∀ k, k < 12 → C (1 + k) < 8) (nn : Nat) : Met l yX3_noBox (ws_ yX3_noBox cX3_noBox 2 (Option.some Jvm.ClassFile.FieldType.int)) ({ frames := 2, cells := 0, slots := 0, locals := 43 } : Room) (va_Pc [.ref (q 0), .int g_] (PreW Ev0 D vwCl (TY ca) (WM ca q th st ik ln ou pa iw so na nb fo nu al (zOf C) be ke te ti ne wa ta out pl lo sh le) nn)) (va_Qi (fun (r_ : Int32) (_ : Unit) => r_ = nI (boxcode C g_)) (PostW D vwCl (TY ca) (fun (_ : Unit) => (WM ca q th st ik ln ou pa iw so na nb fo nu al (zOf C) be ke te ti ne wa ta out pl lo sh le)) (va_A (WM ca q th st ik ln ou pa iw so na nb fo nu al (zOf C) be ke te ti ne wa ta out pl lo sh le) nn)) (va_A (WM ca q th st ik ln ou pa iw so na nb fo nu al (zOf C) be ke te ti ne wa ta out pl lo sh le) nn)) 0 0 (va_A (WM ca q th st ik ln ou pa iw so na nb fo nu al (zOf C) be ke te ti ne wa ta out pl lo sh le) nn) := by
  refine met_go (QA := fun A => va_Qi (fun (r_ : Int32) (_ : Unit) => r_ = nI (boxcode C g_)) (PostW D vwCl (TY ca) (fun (_ : Unit) => (WM ca q th st ik ln ou pa iw so na nb fo nu al (zOf C) be ke te ti ne wa ta out pl lo sh le)) A) A) (by decide) (Nat.le_of_ble_eq_true rfl) (fun p e s m below meth c A ls QQ hQQ hx hb hr hts hown hlocks hml hA hP hK hD hE hl => ?_)
  have hown : s.vm.findClass RX3 = some m.cls := hown
  have hS : va_S A s.heap s.heap [] := va_S.rf
  have hl : lv_has ls 2 [(0, .ref (q 0)), (1, .int g_)] := hl
  generalize hHe : s.heap = H at hP ⊢
  have hS : va_S A s.heap H [] := hHe ▸ hS
  generalize ([] : List Loc) = locs at hS ⊢
  refine lv_aload_n hx hb dX3_noBox_0 rfl (lv_at hl 0 rfl) ?_
  refine lv_iload_n hx hb dX3_noBox_1 rfl (lv_at hl 1 rfl) ?_
  refine xc_i (xr_V (b := q 0) (ci := 2) (q0 := 0) (As := [.int g_]) (rest := []) (mt_X3_isGate l D ca q th st ik ln ou pa iw so na nb fo nu al be ke te ti ne wa ta out pl lo sh le C g_ (by first | assumption | omega | (simp only [updN, forgetC, changedC]; (repeat' split) <;> omega)) H.size) ⟨hx, hb, hml, hown, hts⟩ (cwV 1 hts (lw_V q1727 q1729 qs50 q87 q1730) rfl rfl rfl (by decide +kernel) ⟨Nat.le_of_ble_eq_true rfl, Nat.le_of_ble_eq_true rfl⟩) Ev0_ok hE hK hS (Cut.all hP hD hS hA) rfl rfl rfl hl.1 rfl (Nat.le_of_ble_eq_true rfl) dX3_noBox_2 ⟨Nat.le_of_ble_eq_true rfl, Nat.le_of_ble_eq_true rfl⟩) hS (Cut.all hP hD hS hA) (fun r_1 u_2 H locs hq_2 hP hD hS => ?_)
  have hP : va_P D vwCl (WM ca q th st ik ln ou pa iw so na nb fo nu al (zOf C) be ke te ti ne wa ta out pl lo sh le) H := hP
  have hD : va_D A (WM ca q th st ik ln ou pa iw so na nb fo nu al (zOf C) be ke te ti ne wa ta out pl lo sh le) := hD
  have hp_2 : r_1 = bI (inR (C 0) g_) := hq_2
  clear hq_2
  obtain rfl := hp_2
  refine nv_ifb_ne (tgt := 12) hx hb dX3_noBox_5 (by decide) (fun c_5 => ?_) (fun c_5 => ?_)
  · skip
    obtain ⟨gj_, hgj_, rfl, hgj_2⟩ := inR_of c_5
    refine lv_aload_n hx hb dX3_noBox_12 rfl (lv_at hl 0 rfl) ?_
    refine gWM_0_z_X3 hx hb hts hown hK hP dX3_noBox_13 ?_
    refine lv_bipush (v := nI 38) hx hb dX3_noBox_16 (by decide) ?_
    refine ldWM_1 hx hb hK hP (by omega) dX3_noBox_18 ?_
    refine lv_topi (nm_r (e' := nI (C 38)) (rfl) ?_)
    refine lv_iload_n hx hb dX3_noBox_19 rfl (lv_at hl 1 rfl) ?_
    refine xc_i (xr_S (As := [.int (nI (C 38)), .int (nI gj_)]) (rest := []) (mt_X3_has l D ca (C 38) gj_ (by first | assumption | omega | (simp only [updN, forgetC, changedC]; (repeat' split) <;> omega)) (by first | assumption | omega | (simp only [updN, forgetC, changedC]; (repeat' split) <;> omega)) H.size) ⟨hx, hb, hml, hown, hts⟩ (va_cwS 2 hts (lw_S q1731 q1732 q87 q1733) rfl rfl rfl (by decide +kernel) ⟨Nat.le_of_ble_eq_true rfl, Nat.le_of_ble_eq_true rfl⟩) Ev0_ok hE hK hS (Cut.app (wc := []) (wr := (WM ca q th st ik ln ou pa iw so na nb fo nu al (zOf C) be ke te ti ne wa ta out pl lo sh le)) hP hD hS hA) rfl hl.1 rfl (Nat.le_of_ble_eq_true rfl) dX3_noBox_20 ⟨Nat.le_of_ble_eq_true rfl, Nat.le_of_ble_eq_true rfl⟩) hS (Cut.app (wc := []) (wr := (WM ca q th st ik ln ou pa iw so na nb fo nu al (zOf C) be ke te ti ne wa ta out pl lo sh le)) hP hD hS hA) (fun r_4 u_5 H locs hq_20 hP hD hS => ?_)
    have hP : va_P D vwCl (WM ca q th st ik ln ou pa iw so na nb fo nu al (zOf C) be ke te ti ne wa ta out pl lo sh le) H := hP
    have hD : va_D A (WM ca q th st ik ln ou pa iw so na nb fo nu al (zOf C) be ke te ti ne wa ta out pl lo sh le) := hD
    have hp_20 : r_4 = bI ((C 38).testBit gj_) := hq_20
    clear hq_20
    obtain rfl := hp_20
    refine nv_ifb_ne (tgt := 56) hx hb dX3_noBox_23 (by decide) (fun c_23 => ?_) (fun c_23 => ?_)
    · skip
      refine lv_iconst (v := nI 0) hx hb dX3_noBox_56 (by decide) ?_
      subst hQQ
      exact xe_i (v := nI 0) () hx hb hr hlocks hK hP hD hS (congrArg nI (by clear hP hD hS hK hts; simp_all [boxcode, inR_ok, toI_nI]; try omega)) dX3_noBox_57
    · skip
      refine lv_aload_n hx hb dX3_noBox_26 rfl (lv_at hl 0 rfl) ?_
      refine gWM_0_z_X3 hx hb hts hown hK hP dX3_noBox_27 ?_
      refine lv_bipush (v := nI 38) hx hb dX3_noBox_30 (by decide) ?_
      refine ldWM_1 hx hb hK hP (by omega) dX3_noBox_32 ?_
      refine lv_topi (nm_r (e' := nI (C 38)) (rfl) ?_)
      refine xc_i (xr_S (As := [.int (nI (C 38))]) (rest := []) (mt_X3_count l D ca (C 38) (by first | assumption | omega | (simp only [updN, forgetC, changedC]; (repeat' split) <;> omega)) H.size) ⟨hx, hb, hml, hown, hts⟩ (va_cwS 1 hts (lw_S q1746 q1747 q87 q1748) rfl rfl rfl (by decide +kernel) ⟨Nat.le_of_ble_eq_true rfl, Nat.le_of_ble_eq_true rfl⟩) Ev0_ok hE hK hS (Cut.app (wc := []) (wr := (WM ca q th st ik ln ou pa iw so na nb fo nu al (zOf C) be ke te ti ne wa ta out pl lo sh le)) hP hD hS hA) rfl hl.1 rfl (Nat.le_of_ble_eq_true rfl) dX3_noBox_33 ⟨Nat.le_of_ble_eq_true rfl, Nat.le_of_ble_eq_true rfl⟩) hS (Cut.app (wc := []) (wr := (WM ca q th st ik ln ou pa iw so na nb fo nu al (zOf C) be ke te ti ne wa ta out pl lo sh le)) hP hD hS hA) (fun r_7 u_8 H locs hq_33 hP hD hS => ?_)
      have hP : va_P D vwCl (WM ca q th st ik ln ou pa iw so na nb fo nu al (zOf C) be ke te ti ne wa ta out pl lo sh le) H := hP
      have hD : va_D A (WM ca q th st ik ln ou pa iw so na nb fo nu al (zOf C) be ke te ti ne wa ta out pl lo sh le) := hD
      have hp_33 : r_7 = nI (popc 18 (C 38)) := hq_33
      clear hq_33
      obtain rfl := hp_33
      refine lv_iconst (v := nI 3) hx hb dX3_noBox_36 (by decide) ?_
      refine nv_icmp_eq (tgt := 52) hx hb dX3_noBox_37 (by decide) (by have := popc_le 18 (C 38); omega) (by omega) (fun c_37 => ?_) (fun c_37 => ?_)
      · skip
        refine lv_iconst (v := nI 2) hx hb dX3_noBox_52 (by decide) ?_
        refine lv_goto (tgt := 57) hx hb dX3_noBox_53 (by decide) ?_
        subst hQQ
        exact xe_i (v := nI 2) () hx hb hr hlocks hK hP hD hS (congrArg nI (by clear hP hD hS hK hts; simp_all [boxcode, inR_ok, toI_nI]; try omega)) dX3_noBox_57
      · skip
        refine lv_aload_n hx hb dX3_noBox_40 rfl (lv_at hl 0 rfl) ?_
        refine gWM_0_z_X3 hx hb hts hown hK hP dX3_noBox_41 ?_
        refine lv_iconst (v := nI 1) hx hb dX3_noBox_44 (by decide) ?_
        refine lv_iload_n hx hb dX3_noBox_45 rfl (lv_at hl 1 rfl) ?_
        refine nv_iadd hx hb dX3_noBox_46 ?_
        refine ldWM_1 hx hb hK hP (by omega) dX3_noBox_47 ?_
        refine lv_topi (nm_r (e' := nI (C (1 + gj_))) (zOf_n (by omega)) ?_)
        refine lv_iconst (v := nI 5) hx hb dX3_noBox_48 (by decide) ?_
        refine nv_icmp_le (tgt := 56) hx hb dX3_noBox_49 (by decide) (by have := hkd0 gj_ (by omega); omega) (by omega) (fun c_49 => ?_) (fun c_49 => ?_)
        · skip
          refine lv_iconst (v := nI 0) hx hb dX3_noBox_56 (by decide) ?_
          subst hQQ
          exact xe_i (v := nI 0) () hx hb hr hlocks hK hP hD hS (congrArg nI (by clear hP hD hS hK hts; simp_all [boxcode, inR_ok, toI_nI]; try omega)) dX3_noBox_57
        · skip
          refine lv_iconst (v := nI 2) hx hb dX3_noBox_52 (by decide) ?_
          refine lv_goto (tgt := 57) hx hb dX3_noBox_53 (by decide) ?_
          subst hQQ
          exact xe_i (v := nI 2) () hx hb hr hlocks hK hP hD hS (congrArg nI (by clear hP hD hS hK hts; simp_all [boxcode, inR_ok, toI_nI]; try omega)) dX3_noBox_57
  · skip
    refine lv_iconst (v := nI 1) hx hb dX3_noBox_8 (by decide) ?_
    refine lv_goto (tgt := 57) hx hb dX3_noBox_9 (by decide) ?_
    subst hQQ
    exact xe_i (v := nI 1) () hx hb hr hlocks hK hP hD hS (congrArg nI (by clear hP hD hS hK hts; simp_all [boxcode, inR_ok, toI_nI]; try omega)) dX3_noBox_57
set_option maxHeartbeats 4000000 in
set_option maxRecDepth 100000 in
theorem mt_X3_turns_o (l : Launch) (D : va_G) (ca : Nat → ClassId) (q : Nat → Nat) (th : Int32) (st : Int32) (ik : Int32) (ln : Int32) (ou : Int32) (pa : Int32) (iw : Int32) (so : Int32) (na : Int32) (nb : Int32) (fo : Int32) (nu : Int32) (al : Int32) (be : Nat → Int32) (ke : Nat → Int32) (te : Nat → Int32) (ti : Nat → Int32) (ne : Nat → Int32) (wa : Nat → Int32) (ta : Nat → Int64) (out : Nat → Int64) (pl : Nat → Int64) (lo : Nat → Int64) (sh : Nat → Int64) (le : Nat → Int64) (C : Nat → Nat) (k_ : Nat) (h0 : C 0 ≤ 12) (ho : C 37 < 2 ^ 18) (h39 : C 39 ≤ 64) (hk : k_ < 18) (nn : Nat) : Met l yX3_turns (ws_ yX3_turns cX3_turns 3 (Option.some Jvm.ClassFile.FieldType.int)) ({ frames := 3, cells := 0, slots := 0, locals := 63 } : Room) (va_Pc [.ref (q 0), .int (nI 37), .int (nI k_)] (PreW Ev0 D vwCl (TY ca) (WM ca q th st ik ln ou pa iw so na nb fo nu al (zOf C) be ke te ti ne wa ta out pl lo sh le) nn)) (va_Qi (fun (r_ : Int32) (_ : Unit) => r_ = nI (popc 18 (C 37 ^^^ (1 <<< k_)))) (PostW D vwCl (TY ca) (fun (_ : Unit) => (WM ca q th st ik ln ou pa iw so na nb fo nu al (zOf (turnOutC C k_)) be ke te ti ne wa ta out pl lo sh le)) (va_A (WM ca q th st ik ln ou pa iw so na nb fo nu al (zOf C) be ke te ti ne wa ta out pl lo sh le) nn)) (va_A (WM ca q th st ik ln ou pa iw so na nb fo nu al (zOf C) be ke te ti ne wa ta out pl lo sh le) nn)) 0 0 (va_A (WM ca q th st ik ln ou pa iw so na nb fo nu al (zOf C) be ke te ti ne wa ta out pl lo sh le) nn) := by
  refine met_go (QA := fun A => va_Qi (fun (r_ : Int32) (_ : Unit) => r_ = nI (popc 18 (C 37 ^^^ (1 <<< k_)))) (PostW D vwCl (TY ca) (fun (_ : Unit) => (WM ca q th st ik ln ou pa iw so na nb fo nu al (zOf (turnOutC C k_)) be ke te ti ne wa ta out pl lo sh le)) A) A) (by decide) (Nat.le_of_ble_eq_true rfl) (fun p e s m below meth c A ls QQ hQQ hx hb hr hts hown hlocks hml hA hP hK hD hE hl => ?_)
  have hown : s.vm.findClass RX3 = some m.cls := hown
  have hS : va_S A s.heap s.heap [] := va_S.rf
  have hl : lv_has ls 3 [(0, .ref (q 0)), (1, .int (nI 37)), (2, .int (nI k_))] := hl
  generalize hHe : s.heap = H at hP ⊢
  have hS : va_S A s.heap H [] := hHe ▸ hS
  generalize ([] : List Loc) = locs at hS ⊢
  refine lv_aload_n hx hb dX3_turns_0 rfl (lv_at hl 0 rfl) ?_
  refine gWM_0_z_X3 hx hb hts hown hK hP dX3_turns_1 ?_
  refine lv_iload_n hx hb dX3_turns_4 rfl (lv_at hl 1 rfl) ?_
  refine lv_dup2_11 hx hb dX3_turns_5 rfl rfl ?_
  refine ldWM_1 hx hb hK hP (by omega) dX3_turns_6 ?_
  refine lv_topi (nm_r (e' := nI (C 37)) (rfl) ?_)
  refine lv_iconst (v := nI 1) hx hb dX3_turns_7 (by decide) ?_
  refine lv_iload_n hx hb dX3_turns_8 rfl (lv_at hl 2 rfl) ?_
  refine nv_ishl hx hb dX3_turns_9 (by omega) (by have : 2 ^ k_ ≤ 2 ^ 17 := Nat.pow_le_pow_right (by decide) (by omega); omega) ?_
  refine nv_ixor hx hb dX3_turns_10 ?_
  refine stWM_1 hx hb hK hP hD hS (by omega) dX3_turns_11 (fun H locs hP hD hS => ?_)
  have ew_ : upd (zOf C) 37 (nI ((C 37) ^^^ (1 <<< k_))) = zOf (updN C 37 ((C 37) ^^^ (1 <<< k_))) := zOf_u (by decide)
  have hP : va_P D vwCl (WM ca q th st ik ln ou pa iw so na nb fo nu al (zOf (updN C 37 ((C 37) ^^^ (1 <<< k_)))) be ke te ti ne wa ta out pl lo sh le) H := (congrArg (fun x_ => va_P D vwCl (WM ca q th st ik ln ou pa iw so na nb fo nu al x_ be ke te ti ne wa ta out pl lo sh le) H) ew_).mp hP
  have hD : va_D A (WM ca q th st ik ln ou pa iw so na nb fo nu al (zOf (updN C 37 ((C 37) ^^^ (1 <<< k_)))) be ke te ti ne wa ta out pl lo sh le) := (congrArg (fun x_ => va_D A (WM ca q th st ik ln ou pa iw so na nb fo nu al x_ be ke te ti ne wa ta out pl lo sh le)) ew_).mp hD
  clear ew_
  refine lv_aload_n hx hb dX3_turns_12 rfl (lv_at hl 0 rfl) ?_
  refine xc_v (xr_V (b := q 0) (ci := 2) (q0 := 0) (As := []) (rest := []) (mt_X3_changed l D ca q th st ik ln ou pa iw so na nb fo nu al be ke te ti ne wa ta out pl lo sh le (updN C 37 ((C 37) ^^^ (1 <<< k_))) (by first | assumption | omega | (simp only [updN, forgetC, changedC]; (repeat' split) <;> omega)) (by first | assumption | omega | (simp only [updN, forgetC, changedC]; (repeat' split) <;> omega)) H.size) ⟨hx, hb, hml, hown, hts⟩ (cwV 0 hts (lw_V q1707 q1709 qs47 q87 q1710) rfl rfl rfl (by decide +kernel) ⟨Nat.le_of_ble_eq_true rfl, Nat.le_of_ble_eq_true rfl⟩) Ev0_ok hE hK hS (Cut.all hP hD hS hA) rfl rfl rfl hl.1 rfl (Nat.le_of_ble_eq_true rfl) dX3_turns_13 ⟨Nat.le_of_ble_eq_true rfl, Nat.le_of_ble_eq_true rfl⟩) hS (Cut.all hP hD hS hA) (fun u_2 H locs hq_13 hP hD hS => ?_)
  have hP : va_P D vwCl (WM ca q th st ik ln ou pa iw so na nb fo nu al (zOf (changedC (updN C 37 ((C 37) ^^^ (1 <<< k_))))) be ke te ti ne wa ta out pl lo sh le) H := hP
  have hD : va_D A (WM ca q th st ik ln ou pa iw so na nb fo nu al (zOf (changedC (updN C 37 ((C 37) ^^^ (1 <<< k_))))) be ke te ti ne wa ta out pl lo sh le) := hD
  refine lv_aload_n hx hb dX3_turns_16 rfl (lv_at hl 0 rfl) ?_
  refine gWM_0_z_X3 hx hb hts hown hK hP dX3_turns_17 ?_
  refine lv_iload_n hx hb dX3_turns_20 rfl (lv_at hl 1 rfl) ?_
  refine ldWM_1 hx hb hK hP (by omega) dX3_turns_21 ?_
  refine lv_topi (nm_r (e' := nI ((changedC (updN C 37 ((C 37) ^^^ (1 <<< k_)))) 37)) (rfl) ?_)
  refine lv_topi (nm_r (e' := nI (C 37 ^^^ (1 <<< k_))) (congrArg nI (by simp [turnOutC, changedC, forgetC, updN])) ?_)
  refine xc_i (xr_S (As := [.int (nI (C 37 ^^^ (1 <<< k_)))]) (rest := []) (mt_X3_count l D ca (C 37 ^^^ (1 <<< k_)) (Nat.lt_trans (Nat.xor_lt_two_pow ho (by rw [Nat.one_shiftLeft]; exact Nat.pow_lt_pow_right (by decide) (by omega))) (by decide)) H.size) ⟨hx, hb, hml, hown, hts⟩ (va_cwS 1 hts (lw_S q1746 q1747 q87 q1748) rfl rfl rfl (by decide +kernel) ⟨Nat.le_of_ble_eq_true rfl, Nat.le_of_ble_eq_true rfl⟩) Ev0_ok hE hK hS (Cut.app (wc := []) (wr := (WM ca q th st ik ln ou pa iw so na nb fo nu al (zOf (changedC (updN C 37 ((C 37) ^^^ (1 <<< k_))))) be ke te ti ne wa ta out pl lo sh le)) hP hD hS hA) rfl hl.1 rfl (Nat.le_of_ble_eq_true rfl) dX3_turns_22 ⟨Nat.le_of_ble_eq_true rfl, Nat.le_of_ble_eq_true rfl⟩) hS (Cut.app (wc := []) (wr := (WM ca q th st ik ln ou pa iw so na nb fo nu al (zOf (changedC (updN C 37 ((C 37) ^^^ (1 <<< k_))))) be ke te ti ne wa ta out pl lo sh le)) hP hD hS hA) (fun r_3 u_4 H locs hq_22 hP hD hS => ?_)
  have hP : va_P D vwCl (WM ca q th st ik ln ou pa iw so na nb fo nu al (zOf (changedC (updN C 37 ((C 37) ^^^ (1 <<< k_))))) be ke te ti ne wa ta out pl lo sh le) H := hP
  have hD : va_D A (WM ca q th st ik ln ou pa iw so na nb fo nu al (zOf (changedC (updN C 37 ((C 37) ^^^ (1 <<< k_))))) be ke te ti ne wa ta out pl lo sh le) := hD
  have hp_22 : r_3 = nI (popc 18 (C 37 ^^^ (1 <<< k_))) := hq_22
  clear hq_22
  obtain rfl := hp_22
  subst hQQ
  exact xe_i (v := nI (popc 18 (C 37 ^^^ (1 <<< k_)))) () hx hb hr hlocks hK hP hD hS (rfl) dX3_turns_25
set_option maxHeartbeats 4000000 in
set_option maxRecDepth 100000 in
theorem mt_X3_turns_b (l : Launch) (D : va_G) (ca : Nat → ClassId) (q : Nat → Nat) (th : Int32) (st : Int32) (ik : Int32) (ln : Int32) (ou : Int32) (pa : Int32) (iw : Int32) (so : Int32) (na : Int32) (nb : Int32) (fo : Int32) (nu : Int32) (al : Int32) (be : Nat → Int32) (ke : Nat → Int32) (te : Nat → Int32) (ti : Nat → Int32) (ne : Nat → Int32) (wa : Nat → Int32) (ta : Nat → Int64) (out : Nat → Int64) (pl : Nat → Int64) (lo : Nat → Int64) (sh : Nat → Int64) (le : Nat → Int64) (C : Nat → Nat) (k_ : Nat) (h0 : C 0 ≤ 12) (hbx : C 38 < 2 ^ 18) (h39 : C 39 ≤ 64) (hk : k_ < 18) (nn : Nat) : Met l yX3_turns (ws_ yX3_turns cX3_turns 3 (Option.some Jvm.ClassFile.FieldType.int)) ({ frames := 3, cells := 0, slots := 0, locals := 63 } : Room) (va_Pc [.ref (q 0), .int (nI 38), .int (nI k_)] (PreW Ev0 D vwCl (TY ca) (WM ca q th st ik ln ou pa iw so na nb fo nu al (zOf C) be ke te ti ne wa ta out pl lo sh le) nn)) (va_Qi (fun (r_ : Int32) (_ : Unit) => r_ = nI (popc 18 (C 38 ^^^ (1 <<< k_)))) (PostW D vwCl (TY ca) (fun (_ : Unit) => (WM ca q th st ik ln ou pa iw so na nb fo nu al (zOf (turnBoxC C k_)) be ke te ti ne wa ta out pl lo sh le)) (va_A (WM ca q th st ik ln ou pa iw so na nb fo nu al (zOf C) be ke te ti ne wa ta out pl lo sh le) nn)) (va_A (WM ca q th st ik ln ou pa iw so na nb fo nu al (zOf C) be ke te ti ne wa ta out pl lo sh le) nn)) 0 0 (va_A (WM ca q th st ik ln ou pa iw so na nb fo nu al (zOf C) be ke te ti ne wa ta out pl lo sh le) nn) := by
  refine met_go (QA := fun A => va_Qi (fun (r_ : Int32) (_ : Unit) => r_ = nI (popc 18 (C 38 ^^^ (1 <<< k_)))) (PostW D vwCl (TY ca) (fun (_ : Unit) => (WM ca q th st ik ln ou pa iw so na nb fo nu al (zOf (turnBoxC C k_)) be ke te ti ne wa ta out pl lo sh le)) A) A) (by decide) (Nat.le_of_ble_eq_true rfl) (fun p e s m below meth c A ls QQ hQQ hx hb hr hts hown hlocks hml hA hP hK hD hE hl => ?_)
  have hown : s.vm.findClass RX3 = some m.cls := hown
  have hS : va_S A s.heap s.heap [] := va_S.rf
  have hl : lv_has ls 3 [(0, .ref (q 0)), (1, .int (nI 38)), (2, .int (nI k_))] := hl
  generalize hHe : s.heap = H at hP ⊢
  have hS : va_S A s.heap H [] := hHe ▸ hS
  generalize ([] : List Loc) = locs at hS ⊢
  refine lv_aload_n hx hb dX3_turns_0 rfl (lv_at hl 0 rfl) ?_
  refine gWM_0_z_X3 hx hb hts hown hK hP dX3_turns_1 ?_
  refine lv_iload_n hx hb dX3_turns_4 rfl (lv_at hl 1 rfl) ?_
  refine lv_dup2_11 hx hb dX3_turns_5 rfl rfl ?_
  refine ldWM_1 hx hb hK hP (by omega) dX3_turns_6 ?_
  refine lv_topi (nm_r (e' := nI (C 38)) (rfl) ?_)
  refine lv_iconst (v := nI 1) hx hb dX3_turns_7 (by decide) ?_
  refine lv_iload_n hx hb dX3_turns_8 rfl (lv_at hl 2 rfl) ?_
  refine nv_ishl hx hb dX3_turns_9 (by omega) (by have : 2 ^ k_ ≤ 2 ^ 17 := Nat.pow_le_pow_right (by decide) (by omega); omega) ?_
  refine nv_ixor hx hb dX3_turns_10 ?_
  refine stWM_1 hx hb hK hP hD hS (by omega) dX3_turns_11 (fun H locs hP hD hS => ?_)
  have ew_ : upd (zOf C) 38 (nI ((C 38) ^^^ (1 <<< k_))) = zOf (updN C 38 ((C 38) ^^^ (1 <<< k_))) := zOf_u (by decide)
  have hP : va_P D vwCl (WM ca q th st ik ln ou pa iw so na nb fo nu al (zOf (updN C 38 ((C 38) ^^^ (1 <<< k_)))) be ke te ti ne wa ta out pl lo sh le) H := (congrArg (fun x_ => va_P D vwCl (WM ca q th st ik ln ou pa iw so na nb fo nu al x_ be ke te ti ne wa ta out pl lo sh le) H) ew_).mp hP
  have hD : va_D A (WM ca q th st ik ln ou pa iw so na nb fo nu al (zOf (updN C 38 ((C 38) ^^^ (1 <<< k_)))) be ke te ti ne wa ta out pl lo sh le) := (congrArg (fun x_ => va_D A (WM ca q th st ik ln ou pa iw so na nb fo nu al x_ be ke te ti ne wa ta out pl lo sh le)) ew_).mp hD
  clear ew_
  refine lv_aload_n hx hb dX3_turns_12 rfl (lv_at hl 0 rfl) ?_
  refine xc_v (xr_V (b := q 0) (ci := 2) (q0 := 0) (As := []) (rest := []) (mt_X3_changed l D ca q th st ik ln ou pa iw so na nb fo nu al be ke te ti ne wa ta out pl lo sh le (updN C 38 ((C 38) ^^^ (1 <<< k_))) (by first | assumption | omega | (simp only [updN, forgetC, changedC]; (repeat' split) <;> omega)) (by first | assumption | omega | (simp only [updN, forgetC, changedC]; (repeat' split) <;> omega)) H.size) ⟨hx, hb, hml, hown, hts⟩ (cwV 0 hts (lw_V q1707 q1709 qs47 q87 q1710) rfl rfl rfl (by decide +kernel) ⟨Nat.le_of_ble_eq_true rfl, Nat.le_of_ble_eq_true rfl⟩) Ev0_ok hE hK hS (Cut.all hP hD hS hA) rfl rfl rfl hl.1 rfl (Nat.le_of_ble_eq_true rfl) dX3_turns_13 ⟨Nat.le_of_ble_eq_true rfl, Nat.le_of_ble_eq_true rfl⟩) hS (Cut.all hP hD hS hA) (fun u_2 H locs hq_13 hP hD hS => ?_)
  have hP : va_P D vwCl (WM ca q th st ik ln ou pa iw so na nb fo nu al (zOf (changedC (updN C 38 ((C 38) ^^^ (1 <<< k_))))) be ke te ti ne wa ta out pl lo sh le) H := hP
  have hD : va_D A (WM ca q th st ik ln ou pa iw so na nb fo nu al (zOf (changedC (updN C 38 ((C 38) ^^^ (1 <<< k_))))) be ke te ti ne wa ta out pl lo sh le) := hD
  refine lv_aload_n hx hb dX3_turns_16 rfl (lv_at hl 0 rfl) ?_
  refine gWM_0_z_X3 hx hb hts hown hK hP dX3_turns_17 ?_
  refine lv_iload_n hx hb dX3_turns_20 rfl (lv_at hl 1 rfl) ?_
  refine ldWM_1 hx hb hK hP (by omega) dX3_turns_21 ?_
  refine lv_topi (nm_r (e' := nI ((changedC (updN C 38 ((C 38) ^^^ (1 <<< k_)))) 38)) (rfl) ?_)
  refine lv_topi (nm_r (e' := nI (C 38 ^^^ (1 <<< k_))) (congrArg nI (by simp [turnBoxC, changedC, forgetC, updN])) ?_)
  refine xc_i (xr_S (As := [.int (nI (C 38 ^^^ (1 <<< k_)))]) (rest := []) (mt_X3_count l D ca (C 38 ^^^ (1 <<< k_)) (Nat.lt_trans (Nat.xor_lt_two_pow hbx (by rw [Nat.one_shiftLeft]; exact Nat.pow_lt_pow_right (by decide) (by omega))) (by decide)) H.size) ⟨hx, hb, hml, hown, hts⟩ (va_cwS 1 hts (lw_S q1746 q1747 q87 q1748) rfl rfl rfl (by decide +kernel) ⟨Nat.le_of_ble_eq_true rfl, Nat.le_of_ble_eq_true rfl⟩) Ev0_ok hE hK hS (Cut.app (wc := []) (wr := (WM ca q th st ik ln ou pa iw so na nb fo nu al (zOf (changedC (updN C 38 ((C 38) ^^^ (1 <<< k_))))) be ke te ti ne wa ta out pl lo sh le)) hP hD hS hA) rfl hl.1 rfl (Nat.le_of_ble_eq_true rfl) dX3_turns_22 ⟨Nat.le_of_ble_eq_true rfl, Nat.le_of_ble_eq_true rfl⟩) hS (Cut.app (wc := []) (wr := (WM ca q th st ik ln ou pa iw so na nb fo nu al (zOf (changedC (updN C 38 ((C 38) ^^^ (1 <<< k_))))) be ke te ti ne wa ta out pl lo sh le)) hP hD hS hA) (fun r_3 u_4 H locs hq_22 hP hD hS => ?_)
  have hP : va_P D vwCl (WM ca q th st ik ln ou pa iw so na nb fo nu al (zOf (changedC (updN C 38 ((C 38) ^^^ (1 <<< k_))))) be ke te ti ne wa ta out pl lo sh le) H := hP
  have hD : va_D A (WM ca q th st ik ln ou pa iw so na nb fo nu al (zOf (changedC (updN C 38 ((C 38) ^^^ (1 <<< k_))))) be ke te ti ne wa ta out pl lo sh le) := hD
  have hp_22 : r_3 = nI (popc 18 (C 38 ^^^ (1 <<< k_))) := hq_22
  clear hq_22
  obtain rfl := hp_22
  subst hQQ
  exact xe_i (v := nI (popc 18 (C 38 ^^^ (1 <<< k_)))) () hx hb hr hlocks hK hP hD hS (rfl) dX3_turns_25
set_option maxHeartbeats 4000000 in
set_option maxRecDepth 100000 in
theorem mt_X3_turnOutput_ok (l : Launch) (D : va_G) (ca : Nat → ClassId) (q : Nat → Nat) (th : Int32) (ik : Int32) (ln : Int32) (ou : Int32) (pa : Int32) (iw : Int32) (so : Int32) (na : Int32) (nb : Int32) (fo : Int32) (nu : Int32) (al : Int32) (be : Nat → Int32) (ke : Nat → Int32) (te : Nat → Int32) (ti : Nat → Int32) (ne : Nat → Int32) (wa : Nat → Int32) (ta : Nat → Int64) (out : Nat → Int64) (pl : Nat → Int64) (lo : Nat → Int64) (sh : Nat → Int64) (le : Nat → Int64) (C : Nat → Nat) (L : List (Nat → Nat)) (l_ : Nat) (hl0 : l_ < 6 + C 0) (hc : outcode C (nI l_) = 0) (h0 : C 0 ≤ 12) (ho : C 37 < 2 ^ 18) (h39 : C 39 ≤ 64) (hL : L.length ≤ 5) (hB : BeOk L be) (nn : Nat) : Met l yX3_turnOutput (ws_ yX3_turnOutput cX3_turnOutput 2 (Option.some Jvm.ClassFile.FieldType.int)) ({ frames := 4, cells := 0, slots := 0, locals := 85 } : Room) (va_Pc [.ref (q 0), .int (nI l_)] (PreW Ev0 D vwCl (TY ca) (WM ca q th (nI L.length) ik ln ou pa iw so na nb fo nu al (zOf C) be ke te ti ne wa ta out pl lo sh le) nn)) (va_Qi (fun (r_ : Int32) (u_ : (Nat → Int32)) => r_ = nI (popc 18 (C 37 ^^^ (1 <<< l_))) ∧ (BeOk (pushL L C) u_)) (PostW D vwCl (TY ca) (fun (u_ : (Nat → Int32)) => (WM ca q (nI 0) (nI (pushL L C).length) ik ln ou pa iw so na nb fo nu al (zOf (turnOutC C l_)) u_ ke te ti ne wa ta out pl lo sh le)) (va_A (WM ca q th (nI L.length) ik ln ou pa iw so na nb fo nu al (zOf C) be ke te ti ne wa ta out pl lo sh le) nn)) (va_A (WM ca q th (nI L.length) ik ln ou pa iw so na nb fo nu al (zOf C) be ke te ti ne wa ta out pl lo sh le) nn)) 0 0 (va_A (WM ca q th (nI L.length) ik ln ou pa iw so na nb fo nu al (zOf C) be ke te ti ne wa ta out pl lo sh le) nn) := by
  refine met_go (QA := fun A => va_Qi (fun (r_ : Int32) (u_ : (Nat → Int32)) => r_ = nI (popc 18 (C 37 ^^^ (1 <<< l_))) ∧ (BeOk (pushL L C) u_)) (PostW D vwCl (TY ca) (fun (u_ : (Nat → Int32)) => (WM ca q (nI 0) (nI (pushL L C).length) ik ln ou pa iw so na nb fo nu al (zOf (turnOutC C l_)) u_ ke te ti ne wa ta out pl lo sh le)) A) A) (by decide) (Nat.le_of_ble_eq_true rfl) (fun p e s m below meth c A ls QQ hQQ hx hb hr hts hown hlocks hml hA hP hK hD hE hl => ?_)
  have hown : s.vm.findClass RX3 = some m.cls := hown
  have hS : va_S A s.heap s.heap [] := va_S.rf
  have hl : lv_has ls 2 [(0, .ref (q 0)), (1, .int (nI l_))] := hl
  generalize hHe : s.heap = H at hP ⊢
  have hS : va_S A s.heap H [] := hHe ▸ hS
  generalize ([] : List Loc) = locs at hS ⊢
  refine lv_aload_n hx hb dX3_turnOutput_0 rfl (lv_at hl 0 rfl) ?_
  refine lv_aload_n hx hb dX3_turnOutput_1 rfl (lv_at hl 0 rfl) ?_
  refine lv_iload_n hx hb dX3_turnOutput_2 rfl (lv_at hl 1 rfl) ?_
  refine xc_i (xr_V (b := q 0) (ci := 2) (q0 := 0) (As := [.int (nI l_)]) (rest := [.ref (q 0)]) (mt_X3_noOutput l D ca q th (nI L.length) ik ln ou pa iw so na nb fo nu al be ke te ti ne wa ta out pl lo sh le C (nI l_) (by first | assumption | omega | (simp only [updN, forgetC, changedC]; (repeat' split) <;> omega)) (by first | assumption | omega | (simp only [updN, forgetC, changedC]; (repeat' split) <;> omega)) H.size) ⟨hx, hb, hml, hown, hts⟩ (cwV 1 hts (lw_V q1742 q1744 qs51 q87 q1745) rfl rfl rfl (by decide +kernel) ⟨Nat.le_of_ble_eq_true rfl, Nat.le_of_ble_eq_true rfl⟩) Ev0_ok hE hK hS (Cut.all hP hD hS hA) rfl rfl rfl hl.1 rfl (Nat.le_of_ble_eq_true rfl) dX3_turnOutput_3 ⟨Nat.le_of_ble_eq_true rfl, Nat.le_of_ble_eq_true rfl⟩) hS (Cut.all hP hD hS hA) (fun r_1 u_2 H locs hq_3 hP hD hS => ?_)
  have hP : va_P D vwCl (WM ca q th (nI L.length) ik ln ou pa iw so na nb fo nu al (zOf C) be ke te ti ne wa ta out pl lo sh le) H := hP
  have hD : va_D A (WM ca q th (nI L.length) ik ln ou pa iw so na nb fo nu al (zOf C) be ke te ti ne wa ta out pl lo sh le) := hD
  have hp_3 : r_1 = nI (outcode C (nI l_)) := hq_3
  clear hq_3
  obtain rfl := hp_3
  refine lv_topi (nm_r (e' := nI 0) (congrArg nI hc) ?_)
  refine pWM_0_thrown_X3 hx hb hts hown hK hP hD hS dX3_turnOutput_6 (fun H locs hP hD hS => ?_)
  refine lv_aload_n hx hb dX3_turnOutput_9 rfl (lv_at hl 0 rfl) ?_
  refine gWM_0_thrown_X3 hx hb hts hown hK hP dX3_turnOutput_10 ?_
  refine nv_if_le (tgt := 18) hx hb dX3_turnOutput_13 (by decide) (by omega) (fun c_13 => ?_) (fun c_13 => absurd c_13 (by decide))
  refine lv_aload_n hx hb dX3_turnOutput_18 rfl (lv_at hl 0 rfl) ?_
  refine xc_v (xr_V (b := q 0) (ci := 2) (q0 := 0) (As := []) (rest := []) (mt_X3_record l D ca q (nI 0) ik ln ou pa iw so na nb fo nu al be ke te ti ne wa ta out pl lo sh le C L (by first | assumption | omega | (simp only [updN, forgetC, changedC]; (repeat' split) <;> omega)) (by first | assumption | omega | (simp only [updN, forgetC, changedC]; (repeat' split) <;> omega)) H.size) ⟨hx, hb, hml, hown, hts⟩ (cwV 0 hts (lw_V q1680 q1682 qs42 q87 q1683) rfl rfl rfl (by decide +kernel) ⟨Nat.le_of_ble_eq_true rfl, Nat.le_of_ble_eq_true rfl⟩) Ev0_ok hE hK hS (Cut.all hP hD hS hA) rfl rfl rfl hl.1 rfl (Nat.le_of_ble_eq_true rfl) dX3_turnOutput_19 ⟨Nat.le_of_ble_eq_true rfl, Nat.le_of_ble_eq_true rfl⟩) hS (Cut.all hP hD hS hA) (fun u_4 H locs hq_19 hP hD hS => ?_)
  obtain ⟨be1_5, rfl⟩ : ∃ z_, z_ = u_4 := ⟨_, rfl⟩
  have hP : va_P D vwCl (WM ca q (nI 0) (nI (pushL L C).length) ik ln ou pa iw so na nb fo nu al (zOf C) be1_5 ke te ti ne wa ta out pl lo sh le) H := hP
  have hD : va_D A (WM ca q (nI 0) (nI (pushL L C).length) ik ln ou pa iw so na nb fo nu al (zOf C) be1_5 ke te ti ne wa ta out pl lo sh le) := hD
  have hp_19 : BeOk (pushL L C) be1_5 := hq_19
  clear hq_19
  refine lv_aload_n hx hb dX3_turnOutput_22 rfl (lv_at hl 0 rfl) ?_
  refine lv_bipush (v := nI 37) hx hb dX3_turnOutput_23 (by decide) ?_
  refine lv_iload_n hx hb dX3_turnOutput_25 rfl (lv_at hl 1 rfl) ?_
  refine xc_i (xr_V (b := q 0) (ci := 2) (q0 := 0) (As := [.int (nI 37), .int (nI l_)]) (rest := []) (mt_X3_turns_o l D ca q (nI 0) (nI (pushL L C).length) ik ln ou pa iw so na nb fo nu al be1_5 ke te ti ne wa ta out pl lo sh le C l_ (by first | assumption | omega | (simp only [updN, forgetC, changedC]; (repeat' split) <;> omega)) (by first | assumption | omega | (simp only [updN, forgetC, changedC]; (repeat' split) <;> omega)) (by first | assumption | omega | (simp only [updN, forgetC, changedC]; (repeat' split) <;> omega)) (by first | assumption | omega | (simp only [updN, forgetC, changedC]; (repeat' split) <;> omega)) H.size) ⟨hx, hb, hml, hown, hts⟩ (cwV 2 hts (lw_V q1749 q1751 qs52 q87 q1752) rfl rfl rfl (by decide +kernel) ⟨Nat.le_of_ble_eq_true rfl, Nat.le_of_ble_eq_true rfl⟩) Ev0_ok hE hK hS (Cut.all hP hD hS hA) rfl rfl rfl hl.1 rfl (Nat.le_of_ble_eq_true rfl) dX3_turnOutput_26 ⟨Nat.le_of_ble_eq_true rfl, Nat.le_of_ble_eq_true rfl⟩) hS (Cut.all hP hD hS hA) (fun r_6 u_7 H locs hq_26 hP hD hS => ?_)
  have hP : va_P D vwCl (WM ca q (nI 0) (nI (pushL L C).length) ik ln ou pa iw so na nb fo nu al (zOf (turnOutC C l_)) be1_5 ke te ti ne wa ta out pl lo sh le) H := hP
  have hD : va_D A (WM ca q (nI 0) (nI (pushL L C).length) ik ln ou pa iw so na nb fo nu al (zOf (turnOutC C l_)) be1_5 ke te ti ne wa ta out pl lo sh le) := hD
  have hp_26 : r_6 = nI (popc 18 (C 37 ^^^ (1 <<< l_))) := hq_26
  clear hq_26
  obtain rfl := hp_26
  subst hQQ
  exact xe_i (v := nI (popc 18 (C 37 ^^^ (1 <<< l_)))) be1_5 hx hb hr hlocks hK hP hD hS (⟨rfl, hp_19⟩) dX3_turnOutput_29
set_option maxHeartbeats 4000000 in
set_option maxRecDepth 100000 in
theorem mt_X3_turnOutput_no (l : Launch) (D : va_G) (ca : Nat → ClassId) (q : Nat → Nat) (th : Int32) (st : Int32) (ik : Int32) (ln : Int32) (ou : Int32) (pa : Int32) (iw : Int32) (so : Int32) (na : Int32) (nb : Int32) (fo : Int32) (nu : Int32) (al : Int32) (be : Nat → Int32) (ke : Nat → Int32) (te : Nat → Int32) (ti : Nat → Int32) (ne : Nat → Int32) (wa : Nat → Int32) (ta : Nat → Int64) (out : Nat → Int64) (pl : Nat → Int64) (lo : Nat → Int64) (sh : Nat → Int64) (le : Nat → Int64) (C : Nat → Nat) (l_ : Int32) (hc : outcode C l_ ≠ 0) (h0 : C 0 ≤ 12) (ho : C 37 < 2 ^ 18) (nn : Nat) : Met l yX3_turnOutput (ws_ yX3_turnOutput cX3_turnOutput 2 (Option.some Jvm.ClassFile.FieldType.int)) ({ frames := 3, cells := 0, slots := 0, locals := 64 } : Room) (va_Pc [.ref (q 0), .int l_] (PreW Ev0 D vwCl (TY ca) (WM ca q th st ik ln ou pa iw so na nb fo nu al (zOf C) be ke te ti ne wa ta out pl lo sh le) nn)) (va_Qi (fun (r_ : Int32) (_ : Unit) => r_ = nI 0) (PostW D vwCl (TY ca) (fun (_ : Unit) => (WM ca q (nI (outcode C l_)) st ik ln ou pa iw so na nb fo nu al (zOf C) be ke te ti ne wa ta out pl lo sh le)) (va_A (WM ca q th st ik ln ou pa iw so na nb fo nu al (zOf C) be ke te ti ne wa ta out pl lo sh le) nn)) (va_A (WM ca q th st ik ln ou pa iw so na nb fo nu al (zOf C) be ke te ti ne wa ta out pl lo sh le) nn)) 0 0 (va_A (WM ca q th st ik ln ou pa iw so na nb fo nu al (zOf C) be ke te ti ne wa ta out pl lo sh le) nn) := by
  refine met_go (QA := fun A => va_Qi (fun (r_ : Int32) (_ : Unit) => r_ = nI 0) (PostW D vwCl (TY ca) (fun (_ : Unit) => (WM ca q (nI (outcode C l_)) st ik ln ou pa iw so na nb fo nu al (zOf C) be ke te ti ne wa ta out pl lo sh le)) A) A) (by decide) (Nat.le_of_ble_eq_true rfl) (fun p e s m below meth c A ls QQ hQQ hx hb hr hts hown hlocks hml hA hP hK hD hE hl => ?_)
  have hown : s.vm.findClass RX3 = some m.cls := hown
  have hS : va_S A s.heap s.heap [] := va_S.rf
  have hl : lv_has ls 2 [(0, .ref (q 0)), (1, .int l_)] := hl
  generalize hHe : s.heap = H at hP ⊢
  have hS : va_S A s.heap H [] := hHe ▸ hS
  generalize ([] : List Loc) = locs at hS ⊢
  refine lv_aload_n hx hb dX3_turnOutput_0 rfl (lv_at hl 0 rfl) ?_
  refine lv_aload_n hx hb dX3_turnOutput_1 rfl (lv_at hl 0 rfl) ?_
  refine lv_iload_n hx hb dX3_turnOutput_2 rfl (lv_at hl 1 rfl) ?_
  refine xc_i (xr_V (b := q 0) (ci := 2) (q0 := 0) (As := [.int l_]) (rest := [.ref (q 0)]) (mt_X3_noOutput l D ca q th st ik ln ou pa iw so na nb fo nu al be ke te ti ne wa ta out pl lo sh le C l_ (by first | assumption | omega | (simp only [updN, forgetC, changedC]; (repeat' split) <;> omega)) (by first | assumption | omega | (simp only [updN, forgetC, changedC]; (repeat' split) <;> omega)) H.size) ⟨hx, hb, hml, hown, hts⟩ (cwV 1 hts (lw_V q1742 q1744 qs51 q87 q1745) rfl rfl rfl (by decide +kernel) ⟨Nat.le_of_ble_eq_true rfl, Nat.le_of_ble_eq_true rfl⟩) Ev0_ok hE hK hS (Cut.all hP hD hS hA) rfl rfl rfl hl.1 rfl (Nat.le_of_ble_eq_true rfl) dX3_turnOutput_3 ⟨Nat.le_of_ble_eq_true rfl, Nat.le_of_ble_eq_true rfl⟩) hS (Cut.all hP hD hS hA) (fun r_1 u_2 H locs hq_3 hP hD hS => ?_)
  have hP : va_P D vwCl (WM ca q th st ik ln ou pa iw so na nb fo nu al (zOf C) be ke te ti ne wa ta out pl lo sh le) H := hP
  have hD : va_D A (WM ca q th st ik ln ou pa iw so na nb fo nu al (zOf C) be ke te ti ne wa ta out pl lo sh le) := hD
  have hp_3 : r_1 = nI (outcode C l_) := hq_3
  clear hq_3
  obtain rfl := hp_3
  refine pWM_0_thrown_X3 hx hb hts hown hK hP hD hS dX3_turnOutput_6 (fun H locs hP hD hS => ?_)
  refine lv_aload_n hx hb dX3_turnOutput_9 rfl (lv_at hl 0 rfl) ?_
  refine gWM_0_thrown_X3 hx hb hts hown hK hP dX3_turnOutput_10 ?_
  refine nv_if_le (tgt := 18) hx hb dX3_turnOutput_13 (by decide) (by have := outcode_le C l_; omega) (fun c_13 => ?_) (fun c_13 => ?_)
  · skip
    exact absurd c_13 hc
  · skip
    refine lv_iconst (v := nI 0) hx hb dX3_turnOutput_16 (by decide) ?_
    subst hQQ
    exact xe_i (v := nI 0) () hx hb hr hlocks hK hP hD hS (rfl) dX3_turnOutput_17
set_option maxHeartbeats 4000000 in
set_option maxRecDepth 100000 in
theorem mt_X3_turnBox_ok (l : Launch) (D : va_G) (ca : Nat → ClassId) (q : Nat → Nat) (th : Int32) (ik : Int32) (ln : Int32) (ou : Int32) (pa : Int32) (iw : Int32) (so : Int32) (na : Int32) (nb : Int32) (fo : Int32) (nu : Int32) (al : Int32) (be : Nat → Int32) (ke : Nat → Int32) (te : Nat → Int32) (ti : Nat → Int32) (ne : Nat → Int32) (wa : Nat → Int32) (ta : Nat → Int64) (out : Nat → Int64) (pl : Nat → Int64) (lo : Nat → Int64) (sh : Nat → Int64) (le : Nat → Int64) (C : Nat → Nat) (L : List (Nat → Nat)) (g_ : Nat) (hg : g_ < C 0) (hc : boxcode C (nI g_) = 0) (h0 : C 0 ≤ 12) (hbx : C 38 < 2 ^ 18) (h39 : C 39 ≤ 64) (hkd0 : ∀ k, k < 12 → C (1 + k) < 8) (hL : L.length ≤ 5) (hB : BeOk L be) (nn : Nat) : Met l yX3_turnBox (ws_ yX3_turnBox cX3_turnBox 2 (Option.some Jvm.ClassFile.FieldType.int)) ({ frames := 4, cells := 0, slots := 0, locals := 85 } : Room) (va_Pc [.ref (q 0), .int (nI g_)] (PreW Ev0 D vwCl (TY ca) (WM ca q th (nI L.length) ik ln ou pa iw so na nb fo nu al (zOf C) be ke te ti ne wa ta out pl lo sh le) nn)) (va_Qi (fun (r_ : Int32) (u_ : (Nat → Int32)) => r_ = nI (popc 18 (C 38 ^^^ (1 <<< g_))) ∧ (BeOk (pushL L C) u_)) (PostW D vwCl (TY ca) (fun (u_ : (Nat → Int32)) => (WM ca q (nI 0) (nI (pushL L C).length) ik ln ou pa iw so na nb fo nu al (zOf (turnBoxC C g_)) u_ ke te ti ne wa ta out pl lo sh le)) (va_A (WM ca q th (nI L.length) ik ln ou pa iw so na nb fo nu al (zOf C) be ke te ti ne wa ta out pl lo sh le) nn)) (va_A (WM ca q th (nI L.length) ik ln ou pa iw so na nb fo nu al (zOf C) be ke te ti ne wa ta out pl lo sh le) nn)) 0 0 (va_A (WM ca q th (nI L.length) ik ln ou pa iw so na nb fo nu al (zOf C) be ke te ti ne wa ta out pl lo sh le) nn) := by
  refine met_go (QA := fun A => va_Qi (fun (r_ : Int32) (u_ : (Nat → Int32)) => r_ = nI (popc 18 (C 38 ^^^ (1 <<< g_))) ∧ (BeOk (pushL L C) u_)) (PostW D vwCl (TY ca) (fun (u_ : (Nat → Int32)) => (WM ca q (nI 0) (nI (pushL L C).length) ik ln ou pa iw so na nb fo nu al (zOf (turnBoxC C g_)) u_ ke te ti ne wa ta out pl lo sh le)) A) A) (by decide) (Nat.le_of_ble_eq_true rfl) (fun p e s m below meth c A ls QQ hQQ hx hb hr hts hown hlocks hml hA hP hK hD hE hl => ?_)
  have hown : s.vm.findClass RX3 = some m.cls := hown
  have hS : va_S A s.heap s.heap [] := va_S.rf
  have hl : lv_has ls 2 [(0, .ref (q 0)), (1, .int (nI g_))] := hl
  generalize hHe : s.heap = H at hP ⊢
  have hS : va_S A s.heap H [] := hHe ▸ hS
  generalize ([] : List Loc) = locs at hS ⊢
  refine lv_aload_n hx hb dX3_turnBox_0 rfl (lv_at hl 0 rfl) ?_
  refine lv_aload_n hx hb dX3_turnBox_1 rfl (lv_at hl 0 rfl) ?_
  refine lv_iload_n hx hb dX3_turnBox_2 rfl (lv_at hl 1 rfl) ?_
  refine xc_i (xr_V (b := q 0) (ci := 2) (q0 := 0) (As := [.int (nI g_)]) (rest := [.ref (q 0)]) (mt_X3_noBox l D ca q th (nI L.length) ik ln ou pa iw so na nb fo nu al be ke te ti ne wa ta out pl lo sh le C (nI g_) (by first | assumption | omega | (simp only [updN, forgetC, changedC]; (repeat' split) <;> omega)) (by first | assumption | omega | (simp only [updN, forgetC, changedC]; (repeat' split) <;> omega)) (by first | assumption | omega | (simp only [updN, forgetC, changedC]; (repeat' split) <;> omega)) H.size) ⟨hx, hb, hml, hown, hts⟩ (cwV 1 hts (lw_V q1757 q1759 qs53 q87 q1760) rfl rfl rfl (by decide +kernel) ⟨Nat.le_of_ble_eq_true rfl, Nat.le_of_ble_eq_true rfl⟩) Ev0_ok hE hK hS (Cut.all hP hD hS hA) rfl rfl rfl hl.1 rfl (Nat.le_of_ble_eq_true rfl) dX3_turnBox_3 ⟨Nat.le_of_ble_eq_true rfl, Nat.le_of_ble_eq_true rfl⟩) hS (Cut.all hP hD hS hA) (fun r_1 u_2 H locs hq_3 hP hD hS => ?_)
  have hP : va_P D vwCl (WM ca q th (nI L.length) ik ln ou pa iw so na nb fo nu al (zOf C) be ke te ti ne wa ta out pl lo sh le) H := hP
  have hD : va_D A (WM ca q th (nI L.length) ik ln ou pa iw so na nb fo nu al (zOf C) be ke te ti ne wa ta out pl lo sh le) := hD
  have hp_3 : r_1 = nI (boxcode C (nI g_)) := hq_3
  clear hq_3
  obtain rfl := hp_3
  refine lv_topi (nm_r (e' := nI 0) (congrArg nI hc) ?_)
  refine pWM_0_thrown_X3 hx hb hts hown hK hP hD hS dX3_turnBox_6 (fun H locs hP hD hS => ?_)
  refine lv_aload_n hx hb dX3_turnBox_9 rfl (lv_at hl 0 rfl) ?_
  refine gWM_0_thrown_X3 hx hb hts hown hK hP dX3_turnBox_10 ?_
  refine nv_if_le (tgt := 18) hx hb dX3_turnBox_13 (by decide) (by omega) (fun c_13 => ?_) (fun c_13 => absurd c_13 (by decide))
  refine lv_aload_n hx hb dX3_turnBox_18 rfl (lv_at hl 0 rfl) ?_
  refine xc_v (xr_V (b := q 0) (ci := 2) (q0 := 0) (As := []) (rest := []) (mt_X3_record l D ca q (nI 0) ik ln ou pa iw so na nb fo nu al be ke te ti ne wa ta out pl lo sh le C L (by first | assumption | omega | (simp only [updN, forgetC, changedC]; (repeat' split) <;> omega)) (by first | assumption | omega | (simp only [updN, forgetC, changedC]; (repeat' split) <;> omega)) H.size) ⟨hx, hb, hml, hown, hts⟩ (cwV 0 hts (lw_V q1680 q1682 qs42 q87 q1683) rfl rfl rfl (by decide +kernel) ⟨Nat.le_of_ble_eq_true rfl, Nat.le_of_ble_eq_true rfl⟩) Ev0_ok hE hK hS (Cut.all hP hD hS hA) rfl rfl rfl hl.1 rfl (Nat.le_of_ble_eq_true rfl) dX3_turnBox_19 ⟨Nat.le_of_ble_eq_true rfl, Nat.le_of_ble_eq_true rfl⟩) hS (Cut.all hP hD hS hA) (fun u_4 H locs hq_19 hP hD hS => ?_)
  obtain ⟨be1_5, rfl⟩ : ∃ z_, z_ = u_4 := ⟨_, rfl⟩
  have hP : va_P D vwCl (WM ca q (nI 0) (nI (pushL L C).length) ik ln ou pa iw so na nb fo nu al (zOf C) be1_5 ke te ti ne wa ta out pl lo sh le) H := hP
  have hD : va_D A (WM ca q (nI 0) (nI (pushL L C).length) ik ln ou pa iw so na nb fo nu al (zOf C) be1_5 ke te ti ne wa ta out pl lo sh le) := hD
  have hp_19 : BeOk (pushL L C) be1_5 := hq_19
  clear hq_19
  refine lv_aload_n hx hb dX3_turnBox_22 rfl (lv_at hl 0 rfl) ?_
  refine lv_bipush (v := nI 38) hx hb dX3_turnBox_23 (by decide) ?_
  refine lv_iload_n hx hb dX3_turnBox_25 rfl (lv_at hl 1 rfl) ?_
  refine xc_i (xr_V (b := q 0) (ci := 2) (q0 := 0) (As := [.int (nI 38), .int (nI g_)]) (rest := []) (mt_X3_turns_b l D ca q (nI 0) (nI (pushL L C).length) ik ln ou pa iw so na nb fo nu al be1_5 ke te ti ne wa ta out pl lo sh le C g_ (by first | assumption | omega | (simp only [updN, forgetC, changedC]; (repeat' split) <;> omega)) (by first | assumption | omega | (simp only [updN, forgetC, changedC]; (repeat' split) <;> omega)) (by first | assumption | omega | (simp only [updN, forgetC, changedC]; (repeat' split) <;> omega)) (by first | assumption | omega | (simp only [updN, forgetC, changedC]; (repeat' split) <;> omega)) H.size) ⟨hx, hb, hml, hown, hts⟩ (cwV 2 hts (lw_V q1749 q1751 qs52 q87 q1752) rfl rfl rfl (by decide +kernel) ⟨Nat.le_of_ble_eq_true rfl, Nat.le_of_ble_eq_true rfl⟩) Ev0_ok hE hK hS (Cut.all hP hD hS hA) rfl rfl rfl hl.1 rfl (Nat.le_of_ble_eq_true rfl) dX3_turnBox_26 ⟨Nat.le_of_ble_eq_true rfl, Nat.le_of_ble_eq_true rfl⟩) hS (Cut.all hP hD hS hA) (fun r_6 u_7 H locs hq_26 hP hD hS => ?_)
  have hP : va_P D vwCl (WM ca q (nI 0) (nI (pushL L C).length) ik ln ou pa iw so na nb fo nu al (zOf (turnBoxC C g_)) be1_5 ke te ti ne wa ta out pl lo sh le) H := hP
  have hD : va_D A (WM ca q (nI 0) (nI (pushL L C).length) ik ln ou pa iw so na nb fo nu al (zOf (turnBoxC C g_)) be1_5 ke te ti ne wa ta out pl lo sh le) := hD
  have hp_26 : r_6 = nI (popc 18 (C 38 ^^^ (1 <<< g_))) := hq_26
  clear hq_26
  obtain rfl := hp_26
  subst hQQ
  exact xe_i (v := nI (popc 18 (C 38 ^^^ (1 <<< g_)))) be1_5 hx hb hr hlocks hK hP hD hS (⟨rfl, hp_19⟩) dX3_turnBox_29
set_option maxHeartbeats 4000000 in
set_option maxRecDepth 100000 in
theorem mt_X3_turnBox_no (l : Launch) (D : va_G) (ca : Nat → ClassId) (q : Nat → Nat) (th : Int32) (st : Int32) (ik : Int32) (ln : Int32) (ou : Int32) (pa : Int32) (iw : Int32) (so : Int32) (na : Int32) (nb : Int32) (fo : Int32) (nu : Int32) (al : Int32) (be : Nat → Int32) (ke : Nat → Int32) (te : Nat → Int32) (ti : Nat → Int32) (ne : Nat → Int32) (wa : Nat → Int32) (ta : Nat → Int64) (out : Nat → Int64) (pl : Nat → Int64) (lo : Nat → Int64) (sh : Nat → Int64) (le : Nat → Int64) (C : Nat → Nat) (g_ : Int32) (hc : boxcode C g_ ≠ 0) (h0 : C 0 ≤ 12) (hbx : C 38 < 2 ^ 18) (hkd0 : ∀ k, k < 12 → C (1 + k) < 8) (nn : Nat) : Met l yX3_turnBox (ws_ yX3_turnBox cX3_turnBox 2 (Option.some Jvm.ClassFile.FieldType.int)) ({ frames := 3, cells := 0, slots := 0, locals := 64 } : Room) (va_Pc [.ref (q 0), .int g_] (PreW Ev0 D vwCl (TY ca) (WM ca q th st ik ln ou pa iw so na nb fo nu al (zOf C) be ke te ti ne wa ta out pl lo sh le) nn)) (va_Qi (fun (r_ : Int32) (_ : Unit) => r_ = nI 0) (PostW D vwCl (TY ca) (fun (_ : Unit) => (WM ca q (nI (boxcode C g_)) st ik ln ou pa iw so na nb fo nu al (zOf C) be ke te ti ne wa ta out pl lo sh le)) (va_A (WM ca q th st ik ln ou pa iw so na nb fo nu al (zOf C) be ke te ti ne wa ta out pl lo sh le) nn)) (va_A (WM ca q th st ik ln ou pa iw so na nb fo nu al (zOf C) be ke te ti ne wa ta out pl lo sh le) nn)) 0 0 (va_A (WM ca q th st ik ln ou pa iw so na nb fo nu al (zOf C) be ke te ti ne wa ta out pl lo sh le) nn) := by
  refine met_go (QA := fun A => va_Qi (fun (r_ : Int32) (_ : Unit) => r_ = nI 0) (PostW D vwCl (TY ca) (fun (_ : Unit) => (WM ca q (nI (boxcode C g_)) st ik ln ou pa iw so na nb fo nu al (zOf C) be ke te ti ne wa ta out pl lo sh le)) A) A) (by decide) (Nat.le_of_ble_eq_true rfl) (fun p e s m below meth c A ls QQ hQQ hx hb hr hts hown hlocks hml hA hP hK hD hE hl => ?_)
  have hown : s.vm.findClass RX3 = some m.cls := hown
  have hS : va_S A s.heap s.heap [] := va_S.rf
  have hl : lv_has ls 2 [(0, .ref (q 0)), (1, .int g_)] := hl
  generalize hHe : s.heap = H at hP ⊢
  have hS : va_S A s.heap H [] := hHe ▸ hS
  generalize ([] : List Loc) = locs at hS ⊢
  refine lv_aload_n hx hb dX3_turnBox_0 rfl (lv_at hl 0 rfl) ?_
  refine lv_aload_n hx hb dX3_turnBox_1 rfl (lv_at hl 0 rfl) ?_
  refine lv_iload_n hx hb dX3_turnBox_2 rfl (lv_at hl 1 rfl) ?_
  refine xc_i (xr_V (b := q 0) (ci := 2) (q0 := 0) (As := [.int g_]) (rest := [.ref (q 0)]) (mt_X3_noBox l D ca q th st ik ln ou pa iw so na nb fo nu al be ke te ti ne wa ta out pl lo sh le C g_ (by first | assumption | omega | (simp only [updN, forgetC, changedC]; (repeat' split) <;> omega)) (by first | assumption | omega | (simp only [updN, forgetC, changedC]; (repeat' split) <;> omega)) (by first | assumption | omega | (simp only [updN, forgetC, changedC]; (repeat' split) <;> omega)) H.size) ⟨hx, hb, hml, hown, hts⟩ (cwV 1 hts (lw_V q1757 q1759 qs53 q87 q1760) rfl rfl rfl (by decide +kernel) ⟨Nat.le_of_ble_eq_true rfl, Nat.le_of_ble_eq_true rfl⟩) Ev0_ok hE hK hS (Cut.all hP hD hS hA) rfl rfl rfl hl.1 rfl (Nat.le_of_ble_eq_true rfl) dX3_turnBox_3 ⟨Nat.le_of_ble_eq_true rfl, Nat.le_of_ble_eq_true rfl⟩) hS (Cut.all hP hD hS hA) (fun r_1 u_2 H locs hq_3 hP hD hS => ?_)
  have hP : va_P D vwCl (WM ca q th st ik ln ou pa iw so na nb fo nu al (zOf C) be ke te ti ne wa ta out pl lo sh le) H := hP
  have hD : va_D A (WM ca q th st ik ln ou pa iw so na nb fo nu al (zOf C) be ke te ti ne wa ta out pl lo sh le) := hD
  have hp_3 : r_1 = nI (boxcode C g_) := hq_3
  clear hq_3
  obtain rfl := hp_3
  refine pWM_0_thrown_X3 hx hb hts hown hK hP hD hS dX3_turnBox_6 (fun H locs hP hD hS => ?_)
  refine lv_aload_n hx hb dX3_turnBox_9 rfl (lv_at hl 0 rfl) ?_
  refine gWM_0_thrown_X3 hx hb hts hown hK hP dX3_turnBox_10 ?_
  refine nv_if_le (tgt := 18) hx hb dX3_turnBox_13 (by decide) (by have := boxcode_le C g_; omega) (fun c_13 => ?_) (fun c_13 => ?_)
  · skip
    exact absurd c_13 hc
  · skip
    refine lv_iconst (v := nI 0) hx hb dX3_turnBox_16 (by decide) ?_
    subst hQQ
    exact xe_i (v := nI 0) () hx hb hr hlocks hK hP hD hS (rfl) dX3_turnBox_17
set_option maxHeartbeats 4000000 in
set_option maxRecDepth 100000 in
theorem mt_X3_setSecret_ok (l : Launch) (D : va_G) (ca : Nat → ClassId) (q : Nat → Nat) (th : Int32) (ik : Int32) (ln : Int32) (ou : Int32) (pa : Int32) (iw : Int32) (so : Int32) (na : Int32) (nb : Int32) (fo : Int32) (nu : Int32) (al : Int32) (be : Nat → Int32) (ke : Nat → Int32) (te : Nat → Int32) (ti : Nat → Int32) (ne : Nat → Int32) (wa : Nat → Int32) (ta : Nat → Int64) (out : Nat → Int64) (pl : Nat → Int64) (lo : Nat → Int64) (sh : Nat → Int64) (le : Nat → Int64) (C : Nat → Nat) (L : List (Nat → Nat)) (F_ : Nat) (hF : F_ ≤ 2 * (6 + C 0)) (h0 : C 0 ≤ 12) (hL : L.length ≤ 5) (hB : BeOk L be) (nn : Nat) : Met l yX3_setSecret (ws_ yX3_setSecret cX3_setSecret 3 (Option.some Jvm.ClassFile.FieldType.int)) ({ frames := 2, cells := 0, slots := 0, locals := 43 } : Room) (va_Pc [.ref (q 0), .int (fI F_)] (PreW Ev0 D vwCl (TY ca) (WM ca q th (nI L.length) ik ln ou pa iw so na nb fo nu al (zOf C) be ke te ti ne wa ta out pl lo sh le) nn)) (va_Qi (fun (r_ : Int32) (u_ : (Nat → Int32)) => r_ = fI (C 39) ∧ (BeOk (pushL L C) u_)) (PostW D vwCl (TY ca) (fun (u_ : (Nat → Int32)) => (WM ca q (nI 0) (nI (pushL L C).length) ik ln ou pa iw so na nb fo nu al (zOf (setSecretC C F_)) u_ ke te ti ne wa ta out pl lo sh le)) (va_A (WM ca q th (nI L.length) ik ln ou pa iw so na nb fo nu al (zOf C) be ke te ti ne wa ta out pl lo sh le) nn)) (va_A (WM ca q th (nI L.length) ik ln ou pa iw so na nb fo nu al (zOf C) be ke te ti ne wa ta out pl lo sh le) nn)) 0 0 (va_A (WM ca q th (nI L.length) ik ln ou pa iw so na nb fo nu al (zOf C) be ke te ti ne wa ta out pl lo sh le) nn) := by
  refine met_go (QA := fun A => va_Qi (fun (r_ : Int32) (u_ : (Nat → Int32)) => r_ = fI (C 39) ∧ (BeOk (pushL L C) u_)) (PostW D vwCl (TY ca) (fun (u_ : (Nat → Int32)) => (WM ca q (nI 0) (nI (pushL L C).length) ik ln ou pa iw so na nb fo nu al (zOf (setSecretC C F_)) u_ ke te ti ne wa ta out pl lo sh le)) A) A) (by decide) (Nat.le_of_ble_eq_true rfl) (fun p e s m below meth c A ls QQ hQQ hx hb hr hts hown hlocks hml hA hP hK hD hE hl => ?_)
  have hown : s.vm.findClass RX3 = some m.cls := hown
  have hS : va_S A s.heap s.heap [] := va_S.rf
  have hl : lv_has ls 3 [(0, .ref (q 0)), (1, .int (fI F_))] := hl
  generalize hHe : s.heap = H at hP ⊢
  have hS : va_S A s.heap H [] := hHe ▸ hS
  generalize ([] : List Loc) = locs at hS ⊢
  refine lv_aload_n hx hb dX3_setSecret_0 rfl (lv_at hl 0 rfl) ?_
  refine lv_iload_n hx hb dX3_setSecret_1 rfl (lv_at hl 1 rfl) ?_
  refine lv_iconst (v := fI 0) hx hb dX3_setSecret_2 (by decide) ?_
  refine nv_icmp_eqf (tgt := 14) hx hb dX3_setSecret_3 (by decide) (by omega) (fun c_3 => ?_) (fun c_3 => ?_)
  · skip
    refine lv_iconst (v := nI 0) hx hb dX3_setSecret_14 (by decide) ?_
    refine lv_goto (tgt := 19) hx hb dX3_setSecret_15 (by decide) ?_
    refine pWM_0_thrown_X3 hx hb hts hown hK hP hD hS dX3_setSecret_19 (fun H locs hP hD hS => ?_)
    refine lv_aload_n hx hb dX3_setSecret_22 rfl (lv_at hl 0 rfl) ?_
    refine gWM_0_thrown_X3 hx hb hts hown hK hP dX3_setSecret_23 ?_
    refine nv_if_le (tgt := 31) hx hb dX3_setSecret_26 (by decide) (by omega) (fun c_26 => ?_) (fun c_26 => absurd c_26 (by decide))
    refine lv_aload_n hx hb dX3_setSecret_31 rfl (lv_at hl 0 rfl) ?_
    refine xc_v (xr_V (b := q 0) (ci := 2) (q0 := 0) (As := []) (rest := []) (mt_X3_record l D ca q (nI 0) ik ln ou pa iw so na nb fo nu al be ke te ti ne wa ta out pl lo sh le C L (by first | assumption | omega | (simp only [updN, forgetC, changedC]; (repeat' split) <;> omega)) (by first | assumption | omega | (simp only [updN, forgetC, changedC]; (repeat' split) <;> omega)) H.size) ⟨hx, hb, hml, hown, hts⟩ (cwV 0 hts (lw_V q1680 q1682 qs42 q87 q1683) rfl rfl rfl (by decide +kernel) ⟨Nat.le_of_ble_eq_true rfl, Nat.le_of_ble_eq_true rfl⟩) Ev0_ok hE hK hS (Cut.all hP hD hS hA) rfl rfl rfl hl.1 rfl (Nat.le_of_ble_eq_true rfl) dX3_setSecret_32 ⟨Nat.le_of_ble_eq_true rfl, Nat.le_of_ble_eq_true rfl⟩) hS (Cut.all hP hD hS hA) (fun u_3 H locs hq_32 hP hD hS => ?_)
    obtain ⟨be1_4, rfl⟩ : ∃ z_, z_ = u_3 := ⟨_, rfl⟩
    have hP : va_P D vwCl (WM ca q (nI 0) (nI (pushL L C).length) ik ln ou pa iw so na nb fo nu al (zOf C) be1_4 ke te ti ne wa ta out pl lo sh le) H := hP
    have hD : va_D A (WM ca q (nI 0) (nI (pushL L C).length) ik ln ou pa iw so na nb fo nu al (zOf C) be1_4 ke te ti ne wa ta out pl lo sh le) := hD
    have hp_32 : BeOk (pushL L C) be1_4 := hq_32
    clear hq_32
    refine lv_aload_n hx hb dX3_setSecret_35 rfl (lv_at hl 0 rfl) ?_
    refine gWM_0_z_X3 hx hb hts hown hK hP dX3_setSecret_36 ?_
    refine lv_bipush (v := nI 39) hx hb dX3_setSecret_39 (by decide) ?_
    refine ldWM_1 hx hb hK hP (by omega) dX3_setSecret_41 ?_
    refine lv_topi (nm_r (e' := fI (C 39)) (rfl) ?_)
    refine lv_istore_n (lv' := [(2, .int (fI (C 39))), (0, .ref (q 0)), (1, .int (fI F_))]) hx hb dX3_setSecret_42 rfl hl (by decide) rfl (fun ls hl => ?_)
    refine lv_aload_n hx hb dX3_setSecret_43 rfl (lv_at hl 1 rfl) ?_
    refine gWM_0_z_X3 hx hb hts hown hK hP dX3_setSecret_44 ?_
    refine lv_bipush (v := nI 39) hx hb dX3_setSecret_47 (by decide) ?_
    refine lv_iload_n hx hb dX3_setSecret_49 rfl (lv_at hl 2 rfl) ?_
    refine stWM_1 hx hb hK hP hD hS (by omega) dX3_setSecret_50 (fun H locs hP hD hS => ?_)
    have ew_ : upd (zOf C) 39 (fI F_) = zOf (updN C 39 F_) := zOf_39
    have hP : va_P D vwCl (WM ca q (nI 0) (nI (pushL L C).length) ik ln ou pa iw so na nb fo nu al (zOf (updN C 39 F_)) be1_4 ke te ti ne wa ta out pl lo sh le) H := (congrArg (fun x_ => va_P D vwCl (WM ca q (nI 0) (nI (pushL L C).length) ik ln ou pa iw so na nb fo nu al x_ be1_4 ke te ti ne wa ta out pl lo sh le) H) ew_).mp hP
    have hD : va_D A (WM ca q (nI 0) (nI (pushL L C).length) ik ln ou pa iw so na nb fo nu al (zOf (updN C 39 F_)) be1_4 ke te ti ne wa ta out pl lo sh le) := (congrArg (fun x_ => va_D A (WM ca q (nI 0) (nI (pushL L C).length) ik ln ou pa iw so na nb fo nu al x_ be1_4 ke te ti ne wa ta out pl lo sh le)) ew_).mp hD
    clear ew_
    refine lv_aload_n hx hb dX3_setSecret_51 rfl (lv_at hl 1 rfl) ?_
    refine xc_v (xr_V (b := q 0) (ci := 2) (q0 := 0) (As := []) (rest := []) (mt_X3_forget l D ca q (nI 0) (nI (pushL L C).length) ik ln ou pa iw so na nb fo nu al be1_4 ke te ti ne wa ta out pl lo sh le (updN C 39 F_)  H.size) ⟨hx, hb, hml, hown, hts⟩ (cwV 0 hts (lw_V q1711 q1713 qs48 q87 q1714) rfl rfl rfl (by decide +kernel) ⟨Nat.le_of_ble_eq_true rfl, Nat.le_of_ble_eq_true rfl⟩) Ev0_ok hE hK hS (Cut.all hP hD hS hA) rfl rfl rfl hl.1 rfl (Nat.le_of_ble_eq_true rfl) dX3_setSecret_52 ⟨Nat.le_of_ble_eq_true rfl, Nat.le_of_ble_eq_true rfl⟩) hS (Cut.all hP hD hS hA) (fun u_6 H locs hq_52 hP hD hS => ?_)
    have hP : va_P D vwCl (WM ca q (nI 0) (nI (pushL L C).length) ik ln ou pa iw so na nb fo nu al (zOf (forgetC (updN C 39 F_))) be1_4 ke te ti ne wa ta out pl lo sh le) H := hP
    have hD : va_D A (WM ca q (nI 0) (nI (pushL L C).length) ik ln ou pa iw so na nb fo nu al (zOf (forgetC (updN C 39 F_))) be1_4 ke te ti ne wa ta out pl lo sh le) := hD
    refine lv_iload_n hx hb dX3_setSecret_55 rfl (lv_at hl 0 rfl) ?_
    subst hQQ
    exact xe_i (v := fI (C 39)) be1_4 hx hb hr hlocks hK hP hD hS (⟨rfl, hp_32⟩) dX3_setSecret_56
  · skip
    refine lv_aload_n hx hb dX3_setSecret_6 rfl (lv_at hl 0 rfl) ?_
    refine lv_iload_n hx hb dX3_setSecret_7 rfl (lv_at hl 1 rfl) ?_
    refine xc_i (xr_V (b := q 0) (ci := 2) (q0 := 0) (As := [.int (fI F_)]) (rest := [.ref (q 0)]) (mt_X3_isFault l D ca q th (nI L.length) ik ln ou pa iw so na nb fo nu al be ke te ti ne wa ta out pl lo sh le C (fI F_) (by first | assumption | omega | (simp only [updN, forgetC, changedC]; (repeat' split) <;> omega)) H.size) ⟨hx, hb, hml, hown, hts⟩ (cwV 1 hts (lw_V q1715 q1717 qs49 q87 q1718) rfl rfl rfl (by decide +kernel) ⟨Nat.le_of_ble_eq_true rfl, Nat.le_of_ble_eq_true rfl⟩) Ev0_ok hE hK hS (Cut.all hP hD hS hA) rfl rfl rfl hl.1 rfl (Nat.le_of_ble_eq_true rfl) dX3_setSecret_8 ⟨Nat.le_of_ble_eq_true rfl, Nat.le_of_ble_eq_true rfl⟩) hS (Cut.all hP hD hS hA) (fun r_7 u_8 H locs hq_8 hP hD hS => ?_)
    have hP : va_P D vwCl (WM ca q th (nI L.length) ik ln ou pa iw so na nb fo nu al (zOf C) be ke te ti ne wa ta out pl lo sh le) H := hP
    have hD : va_D A (WM ca q th (nI L.length) ik ln ou pa iw so na nb fo nu al (zOf C) be ke te ti ne wa ta out pl lo sh le) := hD
    have hp_8 : r_7 = bI (inR (2 * (6 + C 0)) (fI F_)) := hq_8
    clear hq_8
    obtain rfl := hp_8
    refine nv_ifb_eq (tgt := 18) hx hb dX3_setSecret_11 (by decide) (fun c_11 => (absurd c_11 (by rw [inR_fI (by omega), decide_eq_true ⟨c_3, hF⟩]; decide))) (fun c_11 => ?_)
    refine lv_iconst (v := nI 0) hx hb dX3_setSecret_14 (by decide) ?_
    refine lv_goto (tgt := 19) hx hb dX3_setSecret_15 (by decide) ?_
    refine pWM_0_thrown_X3 hx hb hts hown hK hP hD hS dX3_setSecret_19 (fun H locs hP hD hS => ?_)
    refine lv_aload_n hx hb dX3_setSecret_22 rfl (lv_at hl 0 rfl) ?_
    refine gWM_0_thrown_X3 hx hb hts hown hK hP dX3_setSecret_23 ?_
    refine nv_if_le (tgt := 31) hx hb dX3_setSecret_26 (by decide) (by omega) (fun c_26 => ?_) (fun c_26 => absurd c_26 (by decide))
    refine lv_aload_n hx hb dX3_setSecret_31 rfl (lv_at hl 0 rfl) ?_
    refine xc_v (xr_V (b := q 0) (ci := 2) (q0 := 0) (As := []) (rest := []) (mt_X3_record l D ca q (nI 0) ik ln ou pa iw so na nb fo nu al be ke te ti ne wa ta out pl lo sh le C L (by first | assumption | omega | (simp only [updN, forgetC, changedC]; (repeat' split) <;> omega)) (by first | assumption | omega | (simp only [updN, forgetC, changedC]; (repeat' split) <;> omega)) H.size) ⟨hx, hb, hml, hown, hts⟩ (cwV 0 hts (lw_V q1680 q1682 qs42 q87 q1683) rfl rfl rfl (by decide +kernel) ⟨Nat.le_of_ble_eq_true rfl, Nat.le_of_ble_eq_true rfl⟩) Ev0_ok hE hK hS (Cut.all hP hD hS hA) rfl rfl rfl hl.1 rfl (Nat.le_of_ble_eq_true rfl) dX3_setSecret_32 ⟨Nat.le_of_ble_eq_true rfl, Nat.le_of_ble_eq_true rfl⟩) hS (Cut.all hP hD hS hA) (fun u_10 H locs hq_32 hP hD hS => ?_)
    obtain ⟨be1_11, rfl⟩ : ∃ z_, z_ = u_10 := ⟨_, rfl⟩
    have hP : va_P D vwCl (WM ca q (nI 0) (nI (pushL L C).length) ik ln ou pa iw so na nb fo nu al (zOf C) be1_11 ke te ti ne wa ta out pl lo sh le) H := hP
    have hD : va_D A (WM ca q (nI 0) (nI (pushL L C).length) ik ln ou pa iw so na nb fo nu al (zOf C) be1_11 ke te ti ne wa ta out pl lo sh le) := hD
    have hp_32 : BeOk (pushL L C) be1_11 := hq_32
    clear hq_32
    refine lv_aload_n hx hb dX3_setSecret_35 rfl (lv_at hl 0 rfl) ?_
    refine gWM_0_z_X3 hx hb hts hown hK hP dX3_setSecret_36 ?_
    refine lv_bipush (v := nI 39) hx hb dX3_setSecret_39 (by decide) ?_
    refine ldWM_1 hx hb hK hP (by omega) dX3_setSecret_41 ?_
    refine lv_topi (nm_r (e' := fI (C 39)) (rfl) ?_)
    refine lv_istore_n (lv' := [(2, .int (fI (C 39))), (0, .ref (q 0)), (1, .int (fI F_))]) hx hb dX3_setSecret_42 rfl hl (by decide) rfl (fun ls hl => ?_)
    refine lv_aload_n hx hb dX3_setSecret_43 rfl (lv_at hl 1 rfl) ?_
    refine gWM_0_z_X3 hx hb hts hown hK hP dX3_setSecret_44 ?_
    refine lv_bipush (v := nI 39) hx hb dX3_setSecret_47 (by decide) ?_
    refine lv_iload_n hx hb dX3_setSecret_49 rfl (lv_at hl 2 rfl) ?_
    refine stWM_1 hx hb hK hP hD hS (by omega) dX3_setSecret_50 (fun H locs hP hD hS => ?_)
    have ew_ : upd (zOf C) 39 (fI F_) = zOf (updN C 39 F_) := zOf_39
    have hP : va_P D vwCl (WM ca q (nI 0) (nI (pushL L C).length) ik ln ou pa iw so na nb fo nu al (zOf (updN C 39 F_)) be1_11 ke te ti ne wa ta out pl lo sh le) H := (congrArg (fun x_ => va_P D vwCl (WM ca q (nI 0) (nI (pushL L C).length) ik ln ou pa iw so na nb fo nu al x_ be1_11 ke te ti ne wa ta out pl lo sh le) H) ew_).mp hP
    have hD : va_D A (WM ca q (nI 0) (nI (pushL L C).length) ik ln ou pa iw so na nb fo nu al (zOf (updN C 39 F_)) be1_11 ke te ti ne wa ta out pl lo sh le) := (congrArg (fun x_ => va_D A (WM ca q (nI 0) (nI (pushL L C).length) ik ln ou pa iw so na nb fo nu al x_ be1_11 ke te ti ne wa ta out pl lo sh le)) ew_).mp hD
    clear ew_
    refine lv_aload_n hx hb dX3_setSecret_51 rfl (lv_at hl 1 rfl) ?_
    refine xc_v (xr_V (b := q 0) (ci := 2) (q0 := 0) (As := []) (rest := []) (mt_X3_forget l D ca q (nI 0) (nI (pushL L C).length) ik ln ou pa iw so na nb fo nu al be1_11 ke te ti ne wa ta out pl lo sh le (updN C 39 F_)  H.size) ⟨hx, hb, hml, hown, hts⟩ (cwV 0 hts (lw_V q1711 q1713 qs48 q87 q1714) rfl rfl rfl (by decide +kernel) ⟨Nat.le_of_ble_eq_true rfl, Nat.le_of_ble_eq_true rfl⟩) Ev0_ok hE hK hS (Cut.all hP hD hS hA) rfl rfl rfl hl.1 rfl (Nat.le_of_ble_eq_true rfl) dX3_setSecret_52 ⟨Nat.le_of_ble_eq_true rfl, Nat.le_of_ble_eq_true rfl⟩) hS (Cut.all hP hD hS hA) (fun u_13 H locs hq_52 hP hD hS => ?_)
    have hP : va_P D vwCl (WM ca q (nI 0) (nI (pushL L C).length) ik ln ou pa iw so na nb fo nu al (zOf (forgetC (updN C 39 F_))) be1_11 ke te ti ne wa ta out pl lo sh le) H := hP
    have hD : va_D A (WM ca q (nI 0) (nI (pushL L C).length) ik ln ou pa iw so na nb fo nu al (zOf (forgetC (updN C 39 F_))) be1_11 ke te ti ne wa ta out pl lo sh le) := hD
    refine lv_iload_n hx hb dX3_setSecret_55 rfl (lv_at hl 0 rfl) ?_
    subst hQQ
    exact xe_i (v := fI (C 39)) be1_11 hx hb hr hlocks hK hP hD hS (⟨rfl, hp_32⟩) dX3_setSecret_56
set_option maxHeartbeats 4000000 in
set_option maxRecDepth 100000 in
theorem mt_X3_setSecret_no (l : Launch) (D : va_G) (ca : Nat → ClassId) (q : Nat → Nat) (th : Int32) (st : Int32) (ik : Int32) (ln : Int32) (ou : Int32) (pa : Int32) (iw : Int32) (so : Int32) (na : Int32) (nb : Int32) (fo : Int32) (nu : Int32) (al : Int32) (be : Nat → Int32) (ke : Nat → Int32) (te : Nat → Int32) (ti : Nat → Int32) (ne : Nat → Int32) (wa : Nat → Int32) (ta : Nat → Int64) (out : Nat → Int64) (pl : Nat → Int64) (lo : Nat → Int64) (sh : Nat → Int64) (le : Nat → Int64) (C : Nat → Nat) (x_ : Int32) (hc : x_ ≠ fI 0) (hc2 : inR (2 * (6 + C 0)) x_ = false) (h0 : C 0 ≤ 12) (nn : Nat) : Met l yX3_setSecret (ws_ yX3_setSecret cX3_setSecret 3 (Option.some Jvm.ClassFile.FieldType.int)) ({ frames := 2, cells := 0, slots := 0, locals := 43 } : Room) (va_Pc [.ref (q 0), .int x_] (PreW Ev0 D vwCl (TY ca) (WM ca q th st ik ln ou pa iw so na nb fo nu al (zOf C) be ke te ti ne wa ta out pl lo sh le) nn)) (va_Qi (fun (r_ : Int32) (_ : Unit) => r_ = nI 0) (PostW D vwCl (TY ca) (fun (_ : Unit) => (WM ca q (nI 1) st ik ln ou pa iw so na nb fo nu al (zOf C) be ke te ti ne wa ta out pl lo sh le)) (va_A (WM ca q th st ik ln ou pa iw so na nb fo nu al (zOf C) be ke te ti ne wa ta out pl lo sh le) nn)) (va_A (WM ca q th st ik ln ou pa iw so na nb fo nu al (zOf C) be ke te ti ne wa ta out pl lo sh le) nn)) 0 0 (va_A (WM ca q th st ik ln ou pa iw so na nb fo nu al (zOf C) be ke te ti ne wa ta out pl lo sh le) nn) := by
  refine met_go (QA := fun A => va_Qi (fun (r_ : Int32) (_ : Unit) => r_ = nI 0) (PostW D vwCl (TY ca) (fun (_ : Unit) => (WM ca q (nI 1) st ik ln ou pa iw so na nb fo nu al (zOf C) be ke te ti ne wa ta out pl lo sh le)) A) A) (by decide) (Nat.le_of_ble_eq_true rfl) (fun p e s m below meth c A ls QQ hQQ hx hb hr hts hown hlocks hml hA hP hK hD hE hl => ?_)
  have hown : s.vm.findClass RX3 = some m.cls := hown
  have hS : va_S A s.heap s.heap [] := va_S.rf
  have hl : lv_has ls 3 [(0, .ref (q 0)), (1, .int x_)] := hl
  generalize hHe : s.heap = H at hP ⊢
  have hS : va_S A s.heap H [] := hHe ▸ hS
  generalize ([] : List Loc) = locs at hS ⊢
  refine lv_aload_n hx hb dX3_setSecret_0 rfl (lv_at hl 0 rfl) ?_
  refine lv_iload_n hx hb dX3_setSecret_1 rfl (lv_at hl 1 rfl) ?_
  refine lv_iconst (v := fI 0) hx hb dX3_setSecret_2 (by decide) ?_
  refine lv_icmp_eq (tgt := 14) hx hb dX3_setSecret_3 (by decide) (fun c_3 => (absurd c_3 hc)) (fun c_3 => ?_)
  refine lv_aload_n hx hb dX3_setSecret_6 rfl (lv_at hl 0 rfl) ?_
  refine lv_iload_n hx hb dX3_setSecret_7 rfl (lv_at hl 1 rfl) ?_
  refine xc_i (xr_V (b := q 0) (ci := 2) (q0 := 0) (As := [.int x_]) (rest := [.ref (q 0)]) (mt_X3_isFault l D ca q th st ik ln ou pa iw so na nb fo nu al be ke te ti ne wa ta out pl lo sh le C x_ (by first | assumption | omega | (simp only [updN, forgetC, changedC]; (repeat' split) <;> omega)) H.size) ⟨hx, hb, hml, hown, hts⟩ (cwV 1 hts (lw_V q1715 q1717 qs49 q87 q1718) rfl rfl rfl (by decide +kernel) ⟨Nat.le_of_ble_eq_true rfl, Nat.le_of_ble_eq_true rfl⟩) Ev0_ok hE hK hS (Cut.all hP hD hS hA) rfl rfl rfl hl.1 rfl (Nat.le_of_ble_eq_true rfl) dX3_setSecret_8 ⟨Nat.le_of_ble_eq_true rfl, Nat.le_of_ble_eq_true rfl⟩) hS (Cut.all hP hD hS hA) (fun r_1 u_2 H locs hq_8 hP hD hS => ?_)
  have hP : va_P D vwCl (WM ca q th st ik ln ou pa iw so na nb fo nu al (zOf C) be ke te ti ne wa ta out pl lo sh le) H := hP
  have hD : va_D A (WM ca q th st ik ln ou pa iw so na nb fo nu al (zOf C) be ke te ti ne wa ta out pl lo sh le) := hD
  have hp_8 : r_1 = bI (inR (2 * (6 + C 0)) x_) := hq_8
  clear hq_8
  obtain rfl := hp_8
  refine nv_ifb_eq (tgt := 18) hx hb dX3_setSecret_11 (by decide) (fun c_11 => ?_) (fun c_11 => (absurd c_11 (by rw [hc2]; decide)))
  refine lv_iconst (v := nI 1) hx hb dX3_setSecret_18 (by decide) ?_
  refine pWM_0_thrown_X3 hx hb hts hown hK hP hD hS dX3_setSecret_19 (fun H locs hP hD hS => ?_)
  refine lv_aload_n hx hb dX3_setSecret_22 rfl (lv_at hl 0 rfl) ?_
  refine gWM_0_thrown_X3 hx hb hts hown hK hP dX3_setSecret_23 ?_
  refine nv_if_le (tgt := 31) hx hb dX3_setSecret_26 (by decide) (by omega) (fun c_26 => absurd c_26 (by decide)) (fun c_26 => ?_)
  refine lv_iconst (v := nI 0) hx hb dX3_setSecret_29 (by decide) ?_
  subst hQQ
  exact xe_i (v := nI 0) () hx hb hr hlocks hK hP hD hS (rfl) dX3_setSecret_30
set_option maxHeartbeats 4000000 in
set_option maxRecDepth 100000 in
theorem mt_X3_suspects (l : Launch) (D : va_G) (ca : Nat → ClassId) (q : Nat → Nat) (th : Int32) (st : Int32) (ik : Int32) (ln : Int32) (ou : Int32) (pa : Int32) (iw : Int32) (so : Int32) (na : Int32) (nb : Int32) (fo : Int32) (nu : Int32) (al : Int32) (be : Nat → Int32) (ke : Nat → Int32) (te : Nat → Int32) (ti : Nat → Int32) (ne : Nat → Int32) (wa : Nat → Int32) (ta : Nat → Int64) (out : Nat → Int64) (pl : Nat → Int64) (lo : Nat → Int64) (sh : Nat → Int64) (le : Nat → Int64) (C : Nat → Nat) (h40 : C 40 ≤ 1) (nn : Nat) : Met l yX3_suspects (ws_ yX3_suspects cX3_suspects 1 (Option.none : Option Jvm.ClassFile.FieldType)) ({ frames := 1, cells := 0, slots := 0, locals := 21 } : Room) (va_Pc [.ref (q 0)] (PreW Ev0 D vwCl (TY ca) (WM ca q th st ik ln ou pa iw so na nb fo nu al (zOf C) be ke te ti ne wa ta out pl lo sh le) nn)) (va_Qv (fun (_ : Unit) => True) (PostW D vwCl (TY ca) (fun (_ : Unit) => (WM ca q th st ik ln ou pa iw so na nb fo nu al (zOf (suspectC C)) be ke te ti ne wa ta out pl lo sh le)) (va_A (WM ca q th st ik ln ou pa iw so na nb fo nu al (zOf C) be ke te ti ne wa ta out pl lo sh le) nn)) (va_A (WM ca q th st ik ln ou pa iw so na nb fo nu al (zOf C) be ke te ti ne wa ta out pl lo sh le) nn)) 0 0 (va_A (WM ca q th st ik ln ou pa iw so na nb fo nu al (zOf C) be ke te ti ne wa ta out pl lo sh le) nn) := by
  refine met_go (QA := fun A => va_Qv (fun (_ : Unit) => True) (PostW D vwCl (TY ca) (fun (_ : Unit) => (WM ca q th st ik ln ou pa iw so na nb fo nu al (zOf (suspectC C)) be ke te ti ne wa ta out pl lo sh le)) A) A) (by decide) (Nat.le_of_ble_eq_true rfl) (fun p e s m below meth c A ls QQ hQQ hx hb hr hts hown hlocks hml hA hP hK hD hE hl => ?_)
  have hown : s.vm.findClass RX3 = some m.cls := hown
  have hS : va_S A s.heap s.heap [] := va_S.rf
  have hl : lv_has ls 1 [(0, .ref (q 0))] := hl
  generalize hHe : s.heap = H at hP ⊢
  have hS : va_S A s.heap H [] := hHe ▸ hS
  generalize ([] : List Loc) = locs at hS ⊢
  refine lv_aload_n hx hb dX3_suspects_0 rfl (lv_at hl 0 rfl) ?_
  refine gWM_0_z_X3 hx hb hts hown hK hP dX3_suspects_1 ?_
  refine lv_bipush (v := nI 40) hx hb dX3_suspects_4 (by decide) ?_
  refine lv_iconst (v := nI 1) hx hb dX3_suspects_6 (by decide) ?_
  refine lv_aload_n hx hb dX3_suspects_7 rfl (lv_at hl 0 rfl) ?_
  refine gWM_0_z_X3 hx hb hts hown hK hP dX3_suspects_8 ?_
  refine lv_bipush (v := nI 40) hx hb dX3_suspects_11 (by decide) ?_
  refine ldWM_1 hx hb hK hP (by omega) dX3_suspects_13 ?_
  refine lv_topi (nm_r (e' := nI (C 40)) (rfl) ?_)
  refine nv_isub hx hb dX3_suspects_14 (by omega) ?_
  refine stWM_1 hx hb hK hP hD hS (by omega) dX3_suspects_15 (fun H locs hP hD hS => ?_)
  have ew_ : upd (zOf C) 40 (nI (1 - (C 40))) = zOf (updN C 40 (1 - (C 40))) := zOf_u (by decide)
  have hP : va_P D vwCl (WM ca q th st ik ln ou pa iw so na nb fo nu al (zOf (updN C 40 (1 - (C 40)))) be ke te ti ne wa ta out pl lo sh le) H := (congrArg (fun x_ => va_P D vwCl (WM ca q th st ik ln ou pa iw so na nb fo nu al x_ be ke te ti ne wa ta out pl lo sh le) H) ew_).mp hP
  have hD : va_D A (WM ca q th st ik ln ou pa iw so na nb fo nu al (zOf (updN C 40 (1 - (C 40)))) be ke te ti ne wa ta out pl lo sh le) := (congrArg (fun x_ => va_D A (WM ca q th st ik ln ou pa iw so na nb fo nu al x_ be ke te ti ne wa ta out pl lo sh le)) ew_).mp hD
  clear ew_
  refine lv_aload_n hx hb dX3_suspects_16 rfl (lv_at hl 0 rfl) ?_
  refine xc_v (xr_V (b := q 0) (ci := 2) (q0 := 0) (As := []) (rest := []) (mt_X3_forget l D ca q th st ik ln ou pa iw so na nb fo nu al be ke te ti ne wa ta out pl lo sh le (updN C 40 (1 - (C 40)))  H.size) ⟨hx, hb, hml, hown, hts⟩ (cwV 0 hts (lw_V q1711 q1713 qs48 q87 q1714) rfl rfl rfl (by decide +kernel) ⟨Nat.le_of_ble_eq_true rfl, Nat.le_of_ble_eq_true rfl⟩) Ev0_ok hE hK hS (Cut.all hP hD hS hA) rfl rfl rfl hl.1 rfl (Nat.le_of_ble_eq_true rfl) dX3_suspects_17 ⟨Nat.le_of_ble_eq_true rfl, Nat.le_of_ble_eq_true rfl⟩) hS (Cut.all hP hD hS hA) (fun u_2 H locs hq_17 hP hD hS => ?_)
  have hP : va_P D vwCl (WM ca q th st ik ln ou pa iw so na nb fo nu al (zOf (forgetC (updN C 40 (1 - (C 40))))) be ke te ti ne wa ta out pl lo sh le) H := hP
  have hD : va_D A (WM ca q th st ik ln ou pa iw so na nb fo nu al (zOf (forgetC (updN C 40 (1 - (C 40))))) be ke te ti ne wa ta out pl lo sh le) := hD
  subst hQQ
  exact xe_v () hx hb hr hlocks hK hP hD hS (trivial) dX3_suspects_20
set_option maxHeartbeats 4000000 in
set_option maxRecDepth 100000 in
theorem mt_X3_turnSuspicion_ok (l : Launch) (D : va_G) (ca : Nat → ClassId) (q : Nat → Nat) (th : Int32) (ik : Int32) (ln : Int32) (ou : Int32) (pa : Int32) (iw : Int32) (so : Int32) (na : Int32) (nb : Int32) (fo : Int32) (nu : Int32) (al : Int32) (be : Nat → Int32) (ke : Nat → Int32) (te : Nat → Int32) (ti : Nat → Int32) (ne : Nat → Int32) (wa : Nat → Int32) (ta : Nat → Int64) (out : Nat → Int64) (pl : Nat → Int64) (lo : Nat → Int64) (sh : Nat → Int64) (le : Nat → Int64) (C : Nat → Nat) (L : List (Nat → Nat)) (h40 : C 40 ≤ 1) (hL : L.length ≤ 5) (hB : BeOk L be) (nn : Nat) : Met l yX3_turnSuspicion (ws_ yX3_turnSuspicion cX3_turnSuspicion 1 (Option.some Jvm.ClassFile.FieldType.boolean)) ({ frames := 2, cells := 0, slots := 0, locals := 41 } : Room) (va_Pc [.ref (q 0)] (PreW Ev0 D vwCl (TY ca) (WM ca q th (nI L.length) ik ln ou pa iw so na nb fo nu al (zOf C) be ke te ti ne wa ta out pl lo sh le) nn)) (va_Qi (fun (r_ : Int32) (u_ : (Nat → Int32)) => r_ = bI (decide (1 - C 40 = 1)) ∧ (BeOk (pushL L C) u_)) (PostW D vwCl (TY ca) (fun (u_ : (Nat → Int32)) => (WM ca q (nI 0) (nI (pushL L C).length) ik ln ou pa iw so na nb fo nu al (zOf (suspectC C)) u_ ke te ti ne wa ta out pl lo sh le)) (va_A (WM ca q th (nI L.length) ik ln ou pa iw so na nb fo nu al (zOf C) be ke te ti ne wa ta out pl lo sh le) nn)) (va_A (WM ca q th (nI L.length) ik ln ou pa iw so na nb fo nu al (zOf C) be ke te ti ne wa ta out pl lo sh le) nn)) 0 0 (va_A (WM ca q th (nI L.length) ik ln ou pa iw so na nb fo nu al (zOf C) be ke te ti ne wa ta out pl lo sh le) nn) := by
  refine met_go (QA := fun A => va_Qi (fun (r_ : Int32) (u_ : (Nat → Int32)) => r_ = bI (decide (1 - C 40 = 1)) ∧ (BeOk (pushL L C) u_)) (PostW D vwCl (TY ca) (fun (u_ : (Nat → Int32)) => (WM ca q (nI 0) (nI (pushL L C).length) ik ln ou pa iw so na nb fo nu al (zOf (suspectC C)) u_ ke te ti ne wa ta out pl lo sh le)) A) A) (by decide) (Nat.le_of_ble_eq_true rfl) (fun p e s m below meth c A ls QQ hQQ hx hb hr hts hown hlocks hml hA hP hK hD hE hl => ?_)
  have hown : s.vm.findClass RX3 = some m.cls := hown
  have hS : va_S A s.heap s.heap [] := va_S.rf
  have hl : lv_has ls 1 [(0, .ref (q 0))] := hl
  generalize hHe : s.heap = H at hP ⊢
  have hS : va_S A s.heap H [] := hHe ▸ hS
  generalize ([] : List Loc) = locs at hS ⊢
  refine lv_aload_n hx hb dX3_turnSuspicion_0 rfl (lv_at hl 0 rfl) ?_
  refine lv_iconst (v := nI 0) hx hb dX3_turnSuspicion_1 (by decide) ?_
  refine pWM_0_thrown_X3 hx hb hts hown hK hP hD hS dX3_turnSuspicion_2 (fun H locs hP hD hS => ?_)
  refine lv_aload_n hx hb dX3_turnSuspicion_5 rfl (lv_at hl 0 rfl) ?_
  refine xc_v (xr_V (b := q 0) (ci := 2) (q0 := 0) (As := []) (rest := []) (mt_X3_record l D ca q (nI 0) ik ln ou pa iw so na nb fo nu al be ke te ti ne wa ta out pl lo sh le C L (by first | assumption | omega | (simp only [updN, forgetC, changedC]; (repeat' split) <;> omega)) (by first | assumption | omega | (simp only [updN, forgetC, changedC]; (repeat' split) <;> omega)) H.size) ⟨hx, hb, hml, hown, hts⟩ (cwV 0 hts (lw_V q1680 q1682 qs42 q87 q1683) rfl rfl rfl (by decide +kernel) ⟨Nat.le_of_ble_eq_true rfl, Nat.le_of_ble_eq_true rfl⟩) Ev0_ok hE hK hS (Cut.all hP hD hS hA) rfl rfl rfl hl.1 rfl (Nat.le_of_ble_eq_true rfl) dX3_turnSuspicion_6 ⟨Nat.le_of_ble_eq_true rfl, Nat.le_of_ble_eq_true rfl⟩) hS (Cut.all hP hD hS hA) (fun u_2 H locs hq_6 hP hD hS => ?_)
  obtain ⟨be1_3, rfl⟩ : ∃ z_, z_ = u_2 := ⟨_, rfl⟩
  have hP : va_P D vwCl (WM ca q (nI 0) (nI (pushL L C).length) ik ln ou pa iw so na nb fo nu al (zOf C) be1_3 ke te ti ne wa ta out pl lo sh le) H := hP
  have hD : va_D A (WM ca q (nI 0) (nI (pushL L C).length) ik ln ou pa iw so na nb fo nu al (zOf C) be1_3 ke te ti ne wa ta out pl lo sh le) := hD
  have hp_6 : BeOk (pushL L C) be1_3 := hq_6
  clear hq_6
  refine lv_aload_n hx hb dX3_turnSuspicion_9 rfl (lv_at hl 0 rfl) ?_
  refine xc_v (xr_V (b := q 0) (ci := 2) (q0 := 0) (As := []) (rest := []) (mt_X3_suspects l D ca q (nI 0) (nI (pushL L C).length) ik ln ou pa iw so na nb fo nu al be1_3 ke te ti ne wa ta out pl lo sh le C (by first | assumption | omega | (simp only [updN, forgetC, changedC]; (repeat' split) <;> omega)) H.size) ⟨hx, hb, hml, hown, hts⟩ (cwV 0 hts (lw_V q1769 q1771 qs54 q87 q1772) rfl rfl rfl (by decide +kernel) ⟨Nat.le_of_ble_eq_true rfl, Nat.le_of_ble_eq_true rfl⟩) Ev0_ok hE hK hS (Cut.all hP hD hS hA) rfl rfl rfl hl.1 rfl (Nat.le_of_ble_eq_true rfl) dX3_turnSuspicion_10 ⟨Nat.le_of_ble_eq_true rfl, Nat.le_of_ble_eq_true rfl⟩) hS (Cut.all hP hD hS hA) (fun u_5 H locs hq_10 hP hD hS => ?_)
  have hP : va_P D vwCl (WM ca q (nI 0) (nI (pushL L C).length) ik ln ou pa iw so na nb fo nu al (zOf (suspectC C)) be1_3 ke te ti ne wa ta out pl lo sh le) H := hP
  have hD : va_D A (WM ca q (nI 0) (nI (pushL L C).length) ik ln ou pa iw so na nb fo nu al (zOf (suspectC C)) be1_3 ke te ti ne wa ta out pl lo sh le) := hD
  refine lv_aload_n hx hb dX3_turnSuspicion_13 rfl (lv_at hl 0 rfl) ?_
  refine gWM_0_z_X3 hx hb hts hown hK hP dX3_turnSuspicion_14 ?_
  refine lv_bipush (v := nI 40) hx hb dX3_turnSuspicion_17 (by decide) ?_
  refine ldWM_1 hx hb hK hP (by omega) dX3_turnSuspicion_19 ?_
  refine lv_topi (nm_r (e' := nI (1 - C 40)) (congrArg nI (by simp [suspectC, forgetC, updN])) ?_)
  refine lv_iconst (v := nI 1) hx hb dX3_turnSuspicion_20 (by decide) ?_
  refine nv_icmp_ne (tgt := 28) hx hb dX3_turnSuspicion_21 (by decide) (by omega) (by omega) (fun c_21 => ?_) (fun c_21 => ?_)
  · skip
    refine lv_iconst (v := nI 0) hx hb dX3_turnSuspicion_28 (by decide) ?_
    subst hQQ
    refine (xe_z (b := false) be1_3 hx hb hr hlocks hK hP hD hS (⟨congrArg bI (by simp [*]), hp_6⟩) dX3_turnSuspicion_29)
  · skip
    refine lv_iconst (v := nI 1) hx hb dX3_turnSuspicion_24 (by decide) ?_
    refine lv_goto (tgt := 29) hx hb dX3_turnSuspicion_25 (by decide) ?_
    subst hQQ
    refine (xe_z (b := true) be1_3 hx hb hr hlocks hK hP hD hS (⟨congrArg bI (by simp [*]), hp_6⟩) dX3_turnSuspicion_29)
set_option maxHeartbeats 4000000 in
set_option maxRecDepth 100000 in
theorem mt_X3_isSuspecting (l : Launch) (D : va_G) (ca : Nat → ClassId) (q : Nat → Nat) (th : Int32) (st : Int32) (ik : Int32) (ln : Int32) (ou : Int32) (pa : Int32) (iw : Int32) (so : Int32) (na : Int32) (nb : Int32) (fo : Int32) (nu : Int32) (al : Int32) (be : Nat → Int32) (ke : Nat → Int32) (te : Nat → Int32) (ti : Nat → Int32) (ne : Nat → Int32) (wa : Nat → Int32) (ta : Nat → Int64) (out : Nat → Int64) (pl : Nat → Int64) (lo : Nat → Int64) (sh : Nat → Int64) (le : Nat → Int64) (C : Nat → Nat) (h40 : C 40 ≤ 1) (nn : Nat) : Met l yX3_isSuspecting (ws_ yX3_isSuspecting cX3_isSuspecting 1 (Option.some Jvm.ClassFile.FieldType.boolean)) ({ frames := 0, cells := 0, slots := 0, locals := 0 } : Room) (va_Pc [.ref (q 0)] (PreW Ev0 D vwCl (TY ca) (WM ca q th st ik ln ou pa iw so na nb fo nu al (zOf C) be ke te ti ne wa ta out pl lo sh le) nn)) (va_Qi (fun (r_ : Int32) (_ : Unit) => r_ = bI (decide (C 40 = 1))) (PostW D vwCl (TY ca) (fun (_ : Unit) => (WM ca q (nI 0) st ik ln ou pa iw so na nb fo nu al (zOf C) be ke te ti ne wa ta out pl lo sh le)) (va_A (WM ca q th st ik ln ou pa iw so na nb fo nu al (zOf C) be ke te ti ne wa ta out pl lo sh le) nn)) (va_A (WM ca q th st ik ln ou pa iw so na nb fo nu al (zOf C) be ke te ti ne wa ta out pl lo sh le) nn)) 0 0 (va_A (WM ca q th st ik ln ou pa iw so na nb fo nu al (zOf C) be ke te ti ne wa ta out pl lo sh le) nn) := by
  refine met_go (QA := fun A => va_Qi (fun (r_ : Int32) (_ : Unit) => r_ = bI (decide (C 40 = 1))) (PostW D vwCl (TY ca) (fun (_ : Unit) => (WM ca q (nI 0) st ik ln ou pa iw so na nb fo nu al (zOf C) be ke te ti ne wa ta out pl lo sh le)) A) A) (by decide) (Nat.le_of_ble_eq_true rfl) (fun p e s m below meth c A ls QQ hQQ hx hb hr hts hown hlocks hml hA hP hK hD hE hl => ?_)
  have hown : s.vm.findClass RX3 = some m.cls := hown
  have hS : va_S A s.heap s.heap [] := va_S.rf
  have hl : lv_has ls 1 [(0, .ref (q 0))] := hl
  generalize hHe : s.heap = H at hP ⊢
  have hS : va_S A s.heap H [] := hHe ▸ hS
  generalize ([] : List Loc) = locs at hS ⊢
  refine lv_aload_n hx hb dX3_isSuspecting_0 rfl (lv_at hl 0 rfl) ?_
  refine lv_iconst (v := nI 0) hx hb dX3_isSuspecting_1 (by decide) ?_
  refine pWM_0_thrown_X3 hx hb hts hown hK hP hD hS dX3_isSuspecting_2 (fun H locs hP hD hS => ?_)
  refine lv_aload_n hx hb dX3_isSuspecting_5 rfl (lv_at hl 0 rfl) ?_
  refine gWM_0_z_X3 hx hb hts hown hK hP dX3_isSuspecting_6 ?_
  refine lv_bipush (v := nI 40) hx hb dX3_isSuspecting_9 (by decide) ?_
  refine ldWM_1 hx hb hK hP (by omega) dX3_isSuspecting_11 ?_
  refine lv_topi (nm_r (e' := nI (C 40)) (rfl) ?_)
  refine lv_iconst (v := nI 1) hx hb dX3_isSuspecting_12 (by decide) ?_
  refine nv_icmp_ne (tgt := 20) hx hb dX3_isSuspecting_13 (by decide) (by omega) (by omega) (fun c_13 => ?_) (fun c_13 => ?_)
  · skip
    refine lv_iconst (v := nI 0) hx hb dX3_isSuspecting_20 (by decide) ?_
    subst hQQ
    refine (xe_z (b := false) () hx hb hr hlocks hK hP hD hS (congrArg bI (by simp [*])) dX3_isSuspecting_21)
  · skip
    refine lv_iconst (v := nI 1) hx hb dX3_isSuspecting_16 (by decide) ?_
    refine lv_goto (tgt := 21) hx hb dX3_isSuspecting_17 (by decide) ?_
    subst hQQ
    refine (xe_z (b := true) () hx hb hr hlocks hK hP hD hS (congrArg bI (by simp [*])) dX3_isSuspecting_21)
set_option maxHeartbeats 4000000 in
set_option maxRecDepth 100000 in
theorem mt_X3_keep (l : Launch) (D : va_G) (ca : Nat → ClassId) (q : Nat → Nat) (th : Int32) (st : Int32) (ik : Int32) (ln : Int32) (ou : Int32) (pa : Int32) (iw : Int32) (so : Int32) (na : Int32) (nb : Int32) (fo : Int32) (nu : Int32) (al : Int32) (be : Nat → Int32) (ke : Nat → Int32) (te : Nat → Int32) (ti : Nat → Int32) (ne : Nat → Int32) (wa : Nat → Int32) (ta : Nat → Int64) (out : Nat → Int64) (pl : Nat → Int64) (lo : Nat → Int64) (sh : Nat → Int64) (le : Nat → Int64) (C : Nat → Nat)  (nn : Nat) : Met l yX3_keep (ws_ yX3_keep cX3_keep 2 (Option.some Jvm.ClassFile.FieldType.int)) ({ frames := 0, cells := 0, slots := 0, locals := 0 } : Room) (va_Pc [.ref (q 0)] (PreW Ev0 D vwCl (TY ca) (WM ca q th st ik ln ou pa iw so na nb fo nu al (zOf C) be ke te ti ne wa ta out pl lo sh le) nn)) (va_Qi (fun (r_ : Int32) (u_ : (Nat → Int32)) => r_ = nI (C 0) ∧ (∀ k, k < 68 → u_ k = zOf C k)) (PostW D vwCl (TY ca) (fun (u_ : (Nat → Int32)) => (WM ca q (nI 0) st (nI 1) ln ou pa iw so na nb fo nu al (zOf C) be u_ te ti ne wa ta out pl lo sh le)) (va_A (WM ca q th st ik ln ou pa iw so na nb fo nu al (zOf C) be ke te ti ne wa ta out pl lo sh le) nn)) (va_A (WM ca q th st ik ln ou pa iw so na nb fo nu al (zOf C) be ke te ti ne wa ta out pl lo sh le) nn)) 0 0 (va_A (WM ca q th st ik ln ou pa iw so na nb fo nu al (zOf C) be ke te ti ne wa ta out pl lo sh le) nn) := by
  refine met_go (QA := fun A => va_Qi (fun (r_ : Int32) (u_ : (Nat → Int32)) => r_ = nI (C 0) ∧ (∀ k, k < 68 → u_ k = zOf C k)) (PostW D vwCl (TY ca) (fun (u_ : (Nat → Int32)) => (WM ca q (nI 0) st (nI 1) ln ou pa iw so na nb fo nu al (zOf C) be u_ te ti ne wa ta out pl lo sh le)) A) A) (by decide) (Nat.le_of_ble_eq_true rfl) (fun p e s m below meth c A ls QQ hQQ hx hb hr hts hown hlocks hml hA hP hK hD hE hl => ?_)
  have hown : s.vm.findClass RX3 = some m.cls := hown
  have hS : va_S A s.heap s.heap [] := va_S.rf
  have hl : lv_has ls 2 [(0, .ref (q 0))] := hl
  generalize hHe : s.heap = H at hP ⊢
  have hS : va_S A s.heap H [] := hHe ▸ hS
  generalize ([] : List Loc) = locs at hS ⊢
  refine lv_aload_n hx hb dX3_keep_0 rfl (lv_at hl 0 rfl) ?_
  refine lv_iconst (v := nI 0) hx hb dX3_keep_1 (by decide) ?_
  refine pWM_0_thrown_X3 hx hb hts hown hK hP hD hS dX3_keep_2 (fun H locs hP hD hS => ?_)
  refine lv_iconst (v := nI 0) hx hb dX3_keep_5 (by decide) ?_
  refine lv_istore_n (lv' := [(1, .int (nI 0)), (0, .ref (q 0))]) hx hb dX3_keep_6 rfl hl (by decide) rfl (fun ls hl => ?_)
  have lp_7 : ∀ (fu_7 : Nat) (i : Nat), 68 - i < fu_7 → (i ≤ 68) → ∀ (H : Heap) (locs : List Loc), va_P D vwCl (WM ca q (nI 0) st ik ln ou pa iw so na nb fo nu al (zOf C) be (fillF i (zOf C) ke) te ti ne wa ta out pl lo sh le) H → va_D A (WM ca q (nI 0) st ik ln ou pa iw so na nb fo nu al (zOf C) be (fillF i (zOf C) ke) te ti ne wa ta out pl lo sh le) → va_S A s.heap H locs → ∀ (ls : Array Slot), lv_has ls 2 [(1, .int (nI i)), (0, .ref (q 0))] → W p l e ({ frames := 0, cells := 0, slots := 0, locals := 0 } : Room) s m ([.ref (q 0)] : List Value).toArray below meth c H locs 0 0 QQ (F0 m 7 ls []) := by
    intro fu_7
    induction fu_7 with
    | zero => intro i hfu; exact absurd hfu (Nat.not_lt_zero _)
    | succ fu_7 ih_7 =>
      intro i hfu hi H locs hP hD hS ls hl
      refine lv_iload_n hx hb dX3_keep_7 rfl (lv_at hl 0 rfl) ?_
      refine lv_bipush (v := nI 68) hx hb dX3_keep_8 (by decide) ?_
      refine nv_icmp_ge (tgt := 31) hx hb dX3_keep_10 (by decide) (by omega) (by omega) (fun c_10 => ?_) (fun c_10 => ?_)
      · skip
        have e_ : 68 = i := Eq.symm (by omega)
        subst e_
        refine lv_aload_n hx hb dX3_keep_31 rfl (lv_at hl 1 rfl) ?_
        refine lv_iconst (v := nI 1) hx hb dX3_keep_32 (by decide) ?_
        refine pWM_0_isKept_X3 hx hb hts hown hK hP hD hS rfl rfl dX3_keep_33 (fun H locs hP hD hS => ?_)
        refine lv_aload_n hx hb dX3_keep_36 rfl (lv_at hl 1 rfl) ?_
        refine gWM_0_z_X3 hx hb hts hown hK hP dX3_keep_37 ?_
        refine lv_iconst (v := nI 0) hx hb dX3_keep_40 (by decide) ?_
        refine ldWM_1 hx hb hK hP (by omega) dX3_keep_41 ?_
        refine lv_topi (nm_r (e' := nI (C 0)) (rfl) ?_)
        subst hQQ
        exact xe_i (v := nI (C 0)) (fillF 68 (zOf C) ke) hx hb hr hlocks hK hP hD hS (⟨rfl, fun k hk => if_pos hk⟩) dX3_keep_42
      · skip
        refine lv_aload_n hx hb dX3_keep_13 rfl (lv_at hl 1 rfl) ?_
        refine gWM_0_kept_X3 hx hb hts hown hK hP dX3_keep_14 ?_
        refine lv_iload_n hx hb dX3_keep_17 rfl (lv_at hl 0 rfl) ?_
        refine lv_aload_n hx hb dX3_keep_18 rfl (lv_at hl 1 rfl) ?_
        refine gWM_0_z_X3 hx hb hts hown hK hP dX3_keep_19 ?_
        refine lv_iload_n hx hb dX3_keep_22 rfl (lv_at hl 0 rfl) ?_
        refine ldWM_1 hx hb hK hP (by omega) dX3_keep_23 ?_
        refine lv_topi (nm_r (e' := zOf C i) (rfl) ?_)
        refine stWM_3 hx hb hK hP hD hS (by omega) dX3_keep_24 (fun H locs hP hD hS => ?_)
        refine lv_iinc (v := nI (i + 1)) (lv' := [(1, .int (nI (i + 1))), (0, .ref (q 0))]) hx hb dX3_keep_25 hl (k := 0) rfl (nI_add i 1) (by decide) rfl (fun ls hl => ?_)
        refine lv_goto (tgt := 7) hx hb dX3_keep_28 (by decide) ?_
        have ew_ : upd (fillF i (zOf C) ke) i (zOf C i) = fillF (i + 1) (zOf C) ke := fillF_s _ _ _
        have hP : va_P D vwCl (WM ca q (nI 0) st ik ln ou pa iw so na nb fo nu al (zOf C) be (fillF (i + 1) (zOf C) ke) te ti ne wa ta out pl lo sh le) H := (congrArg (fun x_ => va_P D vwCl (WM ca q (nI 0) st ik ln ou pa iw so na nb fo nu al (zOf C) be x_ te ti ne wa ta out pl lo sh le) H) ew_).mp hP
        have hD : va_D A (WM ca q (nI 0) st ik ln ou pa iw so na nb fo nu al (zOf C) be (fillF (i + 1) (zOf C) ke) te ti ne wa ta out pl lo sh le) := (congrArg (fun x_ => va_D A (WM ca q (nI 0) st ik ln ou pa iw so na nb fo nu al (zOf C) be x_ te ti ne wa ta out pl lo sh le)) ew_).mp hD
        clear ew_
        exact ih_7  (i + 1) (by omega) (by omega) _ _ hP hD hS ls (lv_sub hl [0, 1] rfl)
  have ew_ : ke = fillF 0 (zOf C) ke := (fillF_0 _ _).symm
  have hP : va_P D vwCl (WM ca q (nI 0) st ik ln ou pa iw so na nb fo nu al (zOf C) be (fillF 0 (zOf C) ke) te ti ne wa ta out pl lo sh le) H := (congrArg (fun x_ => va_P D vwCl (WM ca q (nI 0) st ik ln ou pa iw so na nb fo nu al (zOf C) be x_ te ti ne wa ta out pl lo sh le) H) ew_).mp hP
  have hD : va_D A (WM ca q (nI 0) st ik ln ou pa iw so na nb fo nu al (zOf C) be (fillF 0 (zOf C) ke) te ti ne wa ta out pl lo sh le) := (congrArg (fun x_ => va_D A (WM ca q (nI 0) st ik ln ou pa iw so na nb fo nu al (zOf C) be x_ te ti ne wa ta out pl lo sh le)) ew_).mp hD
  clear ew_
  exact lp_7 (68 - 0 + 1) 0 (Nat.lt_succ_self _) (by omega) _ _ hP hD hS ls (lv_sub hl [0, 1] rfl)
set_option maxHeartbeats 4000000 in
set_option maxRecDepth 100000 in
theorem mt_X3_restore_ok (l : Launch) (D : va_G) (ca : Nat → ClassId) (q : Nat → Nat) (th : Int32) (ln : Int32) (ou : Int32) (pa : Int32) (iw : Int32) (so : Int32) (na : Int32) (nb : Int32) (fo : Int32) (nu : Int32) (al : Int32) (be : Nat → Int32) (ke : Nat → Int32) (te : Nat → Int32) (ti : Nat → Int32) (ne : Nat → Int32) (wa : Nat → Int32) (ta : Nat → Int64) (out : Nat → Int64) (pl : Nat → Int64) (lo : Nat → Int64) (sh : Nat → Int64) (le : Nat → Int64) (C : Nat → Nat) (L : List (Nat → Nat)) (K : Nat → Nat) (hKe : ∀ k, k < 68 → ke k = zOf K k) (hL : L.length ≤ 5) (hB : BeOk L be) (nn : Nat) : Met l yX3_restore (ws_ yX3_restore cX3_restore 2 (Option.some Jvm.ClassFile.FieldType.int)) ({ frames := 1, cells := 0, slots := 0, locals := 21 } : Room) (va_Pc [.ref (q 0)] (PreW Ev0 D vwCl (TY ca) (WM ca q th (nI L.length) (nI 1) ln ou pa iw so na nb fo nu al (zOf C) be ke te ti ne wa ta out pl lo sh le) nn)) (va_Qi (fun (r_ : Int32) (u_ : (Nat → Int32)) => r_ = nI (K 0) ∧ (BeOk (pushL L C) u_)) (PostW D vwCl (TY ca) (fun (u_ : (Nat → Int32)) => (WM ca q (nI 0) (nI (pushL L C).length) (nI 1) ln ou pa iw so na nb fo nu al (zOf K) u_ ke te ti ne wa ta out pl lo sh le)) (va_A (WM ca q th (nI L.length) (nI 1) ln ou pa iw so na nb fo nu al (zOf C) be ke te ti ne wa ta out pl lo sh le) nn)) (va_A (WM ca q th (nI L.length) (nI 1) ln ou pa iw so na nb fo nu al (zOf C) be ke te ti ne wa ta out pl lo sh le) nn)) 0 0 (va_A (WM ca q th (nI L.length) (nI 1) ln ou pa iw so na nb fo nu al (zOf C) be ke te ti ne wa ta out pl lo sh le) nn) := by
  refine met_go (QA := fun A => va_Qi (fun (r_ : Int32) (u_ : (Nat → Int32)) => r_ = nI (K 0) ∧ (BeOk (pushL L C) u_)) (PostW D vwCl (TY ca) (fun (u_ : (Nat → Int32)) => (WM ca q (nI 0) (nI (pushL L C).length) (nI 1) ln ou pa iw so na nb fo nu al (zOf K) u_ ke te ti ne wa ta out pl lo sh le)) A) A) (by decide) (Nat.le_of_ble_eq_true rfl) (fun p e s m below meth c A ls QQ hQQ hx hb hr hts hown hlocks hml hA hP hK hD hE hl => ?_)
  have hown : s.vm.findClass RX3 = some m.cls := hown
  have hS : va_S A s.heap s.heap [] := va_S.rf
  have hl : lv_has ls 2 [(0, .ref (q 0))] := hl
  generalize hHe : s.heap = H at hP ⊢
  have hS : va_S A s.heap H [] := hHe ▸ hS
  generalize ([] : List Loc) = locs at hS ⊢
  refine lv_aload_n hx hb dX3_restore_0 rfl (lv_at hl 0 rfl) ?_
  refine lv_aload_n hx hb dX3_restore_1 rfl (lv_at hl 0 rfl) ?_
  refine gWM_0_isKept_X3 hx hb hts hown hK hP dX3_restore_2 ?_
  refine nv_if_eq (tgt := 12) hx hb dX3_restore_5 (by decide) (by omega) (fun c_5 => absurd c_5 (by decide)) (fun c_5 => ?_)
  refine lv_iconst (v := nI 0) hx hb dX3_restore_8 (by decide) ?_
  refine lv_goto (tgt := 13) hx hb dX3_restore_9 (by decide) ?_
  refine pWM_0_thrown_X3 hx hb hts hown hK hP hD hS dX3_restore_13 (fun H locs hP hD hS => ?_)
  refine lv_aload_n hx hb dX3_restore_16 rfl (lv_at hl 0 rfl) ?_
  refine gWM_0_thrown_X3 hx hb hts hown hK hP dX3_restore_17 ?_
  refine nv_if_le (tgt := 25) hx hb dX3_restore_20 (by decide) (by omega) (fun c_20 => ?_) (fun c_20 => absurd c_20 (by decide))
  refine lv_aload_n hx hb dX3_restore_25 rfl (lv_at hl 0 rfl) ?_
  refine xc_v (xr_V (b := q 0) (ci := 2) (q0 := 0) (As := []) (rest := []) (mt_X3_record l D ca q (nI 0) (nI 1) ln ou pa iw so na nb fo nu al be ke te ti ne wa ta out pl lo sh le C L (by first | assumption | omega | (simp only [updN, forgetC, changedC]; (repeat' split) <;> omega)) (by first | assumption | omega | (simp only [updN, forgetC, changedC]; (repeat' split) <;> omega)) H.size) ⟨hx, hb, hml, hown, hts⟩ (cwV 0 hts (lw_V q1680 q1682 qs42 q87 q1683) rfl rfl rfl (by decide +kernel) ⟨Nat.le_of_ble_eq_true rfl, Nat.le_of_ble_eq_true rfl⟩) Ev0_ok hE hK hS (Cut.all hP hD hS hA) rfl rfl rfl hl.1 rfl (Nat.le_of_ble_eq_true rfl) dX3_restore_26 ⟨Nat.le_of_ble_eq_true rfl, Nat.le_of_ble_eq_true rfl⟩) hS (Cut.all hP hD hS hA) (fun u_2 H locs hq_26 hP hD hS => ?_)
  obtain ⟨be1_3, rfl⟩ : ∃ z_, z_ = u_2 := ⟨_, rfl⟩
  have hP : va_P D vwCl (WM ca q (nI 0) (nI (pushL L C).length) (nI 1) ln ou pa iw so na nb fo nu al (zOf C) be1_3 ke te ti ne wa ta out pl lo sh le) H := hP
  have hD : va_D A (WM ca q (nI 0) (nI (pushL L C).length) (nI 1) ln ou pa iw so na nb fo nu al (zOf C) be1_3 ke te ti ne wa ta out pl lo sh le) := hD
  have hp_26 : BeOk (pushL L C) be1_3 := hq_26
  clear hq_26
  refine lv_iconst (v := nI 0) hx hb dX3_restore_29 (by decide) ?_
  refine lv_istore_n (lv' := [(1, .int (nI 0)), (0, .ref (q 0))]) hx hb dX3_restore_30 rfl hl (by decide) rfl (fun ls hl => ?_)
  have lp_31 : ∀ (fu_31 : Nat) (i : Nat), 68 - i < fu_31 → (i ≤ 68) → ∀ (H : Heap) (locs : List Loc), va_P D vwCl (WM ca q (nI 0) (nI (pushL L C).length) (nI 1) ln ou pa iw so na nb fo nu al (fillF i ke (zOf C)) be1_3 ke te ti ne wa ta out pl lo sh le) H → va_D A (WM ca q (nI 0) (nI (pushL L C).length) (nI 1) ln ou pa iw so na nb fo nu al (fillF i ke (zOf C)) be1_3 ke te ti ne wa ta out pl lo sh le) → va_S A s.heap H locs → ∀ (ls : Array Slot), lv_has ls 2 [(1, .int (nI i)), (0, .ref (q 0))] → W p l e ({ frames := 1, cells := 0, slots := 0, locals := 21 } : Room) s m ([.ref (q 0)] : List Value).toArray below meth c H locs 0 0 QQ (F0 m 31 ls []) := by
    intro fu_31
    induction fu_31 with
    | zero => intro i hfu; exact absurd hfu (Nat.not_lt_zero _)
    | succ fu_31 ih_31 =>
      intro i hfu hi H locs hP hD hS ls hl
      refine lv_iload_n hx hb dX3_restore_31 rfl (lv_at hl 0 rfl) ?_
      refine lv_bipush (v := nI 68) hx hb dX3_restore_32 (by decide) ?_
      refine nv_icmp_ge (tgt := 55) hx hb dX3_restore_34 (by decide) (by omega) (by omega) (fun c_34 => ?_) (fun c_34 => ?_)
      · skip
        have e_ : 68 = i := Eq.symm (by omega)
        subst e_
        have hP : va_P D vwCl (WM ca q (nI 0) (nI (pushL L C).length) (nI 1) ln ou pa iw so na nb fo nu al (zOf K) be1_3 ke te ti ne wa ta out pl lo sh le) H := cgWM_1 (fun k hk => (if_pos hk).trans (hKe k hk)) hP
        have hD : va_D A (WM ca q (nI 0) (nI (pushL L C).length) (nI 1) ln ou pa iw so na nb fo nu al (zOf K) be1_3 ke te ti ne wa ta out pl lo sh le) := dgWM_1 hD
        refine lv_aload_n hx hb dX3_restore_55 rfl (lv_at hl 1 rfl) ?_
        refine gWM_0_z_X3 hx hb hts hown hK hP dX3_restore_56 ?_
        refine lv_iconst (v := nI 0) hx hb dX3_restore_59 (by decide) ?_
        refine ldWM_1 hx hb hK hP (by omega) dX3_restore_60 ?_
        refine lv_topi (nm_r (e' := nI (K 0)) (rfl) ?_)
        subst hQQ
        exact xe_i (v := nI (K 0)) be1_3 hx hb hr hlocks hK hP hD hS (⟨rfl, hp_26⟩) dX3_restore_61
      · skip
        refine lv_aload_n hx hb dX3_restore_37 rfl (lv_at hl 1 rfl) ?_
        refine gWM_0_z_X3 hx hb hts hown hK hP dX3_restore_38 ?_
        refine lv_iload_n hx hb dX3_restore_41 rfl (lv_at hl 0 rfl) ?_
        refine lv_aload_n hx hb dX3_restore_42 rfl (lv_at hl 1 rfl) ?_
        refine gWM_0_kept_X3 hx hb hts hown hK hP dX3_restore_43 ?_
        refine lv_iload_n hx hb dX3_restore_46 rfl (lv_at hl 0 rfl) ?_
        refine ldWM_3 hx hb hK hP (by omega) dX3_restore_47 ?_
        refine stWM_1 hx hb hK hP hD hS (by omega) dX3_restore_48 (fun H locs hP hD hS => ?_)
        refine lv_iinc (v := nI (i + 1)) (lv' := [(1, .int (nI (i + 1))), (0, .ref (q 0))]) hx hb dX3_restore_49 hl (k := 0) rfl (nI_add i 1) (by decide) rfl (fun ls hl => ?_)
        refine lv_goto (tgt := 31) hx hb dX3_restore_52 (by decide) ?_
        have ew_ : upd (fillF i ke (zOf C)) i (ke i) = fillF (i + 1) ke (zOf C) := fillF_s _ _ _
        have hP : va_P D vwCl (WM ca q (nI 0) (nI (pushL L C).length) (nI 1) ln ou pa iw so na nb fo nu al (fillF (i + 1) ke (zOf C)) be1_3 ke te ti ne wa ta out pl lo sh le) H := (congrArg (fun x_ => va_P D vwCl (WM ca q (nI 0) (nI (pushL L C).length) (nI 1) ln ou pa iw so na nb fo nu al x_ be1_3 ke te ti ne wa ta out pl lo sh le) H) ew_).mp hP
        have hD : va_D A (WM ca q (nI 0) (nI (pushL L C).length) (nI 1) ln ou pa iw so na nb fo nu al (fillF (i + 1) ke (zOf C)) be1_3 ke te ti ne wa ta out pl lo sh le) := (congrArg (fun x_ => va_D A (WM ca q (nI 0) (nI (pushL L C).length) (nI 1) ln ou pa iw so na nb fo nu al x_ be1_3 ke te ti ne wa ta out pl lo sh le)) ew_).mp hD
        clear ew_
        exact ih_31  (i + 1) (by omega) (by omega) _ _ hP hD hS ls (lv_sub hl [0, 1] rfl)
  have ew_ : zOf C = fillF 0 ke (zOf C) := (fillF_0 _ _).symm
  have hP : va_P D vwCl (WM ca q (nI 0) (nI (pushL L C).length) (nI 1) ln ou pa iw so na nb fo nu al (fillF 0 ke (zOf C)) be1_3 ke te ti ne wa ta out pl lo sh le) H := (congrArg (fun x_ => va_P D vwCl (WM ca q (nI 0) (nI (pushL L C).length) (nI 1) ln ou pa iw so na nb fo nu al x_ be1_3 ke te ti ne wa ta out pl lo sh le) H) ew_).mp hP
  have hD : va_D A (WM ca q (nI 0) (nI (pushL L C).length) (nI 1) ln ou pa iw so na nb fo nu al (fillF 0 ke (zOf C)) be1_3 ke te ti ne wa ta out pl lo sh le) := (congrArg (fun x_ => va_D A (WM ca q (nI 0) (nI (pushL L C).length) (nI 1) ln ou pa iw so na nb fo nu al x_ be1_3 ke te ti ne wa ta out pl lo sh le)) ew_).mp hD
  clear ew_
  exact lp_31 (68 - 0 + 1) 0 (Nat.lt_succ_self _) (by omega) _ _ hP hD hS ls (lv_sub hl [0, 1] rfl)
set_option maxHeartbeats 4000000 in
set_option maxRecDepth 100000 in
theorem mt_X3_restore_no (l : Launch) (D : va_G) (ca : Nat → ClassId) (q : Nat → Nat) (th : Int32) (st : Int32) (ln : Int32) (ou : Int32) (pa : Int32) (iw : Int32) (so : Int32) (na : Int32) (nb : Int32) (fo : Int32) (nu : Int32) (al : Int32) (z : Nat → Int32) (be : Nat → Int32) (ke : Nat → Int32) (te : Nat → Int32) (ti : Nat → Int32) (ne : Nat → Int32) (wa : Nat → Int32) (ta : Nat → Int64) (out : Nat → Int64) (pl : Nat → Int64) (lo : Nat → Int64) (sh : Nat → Int64) (le : Nat → Int64)  (nn : Nat) : Met l yX3_restore (ws_ yX3_restore cX3_restore 2 (Option.some Jvm.ClassFile.FieldType.int)) ({ frames := 0, cells := 0, slots := 0, locals := 0 } : Room) (va_Pc [.ref (q 0)] (PreW Ev0 D vwCl (TY ca) (WM ca q th st (nI 0) ln ou pa iw so na nb fo nu al z be ke te ti ne wa ta out pl lo sh le) nn)) (va_Qi (fun (r_ : Int32) (_ : Unit) => r_ = nI 0) (PostW D vwCl (TY ca) (fun (_ : Unit) => (WM ca q (nI 1) st (nI 0) ln ou pa iw so na nb fo nu al z be ke te ti ne wa ta out pl lo sh le)) (va_A (WM ca q th st (nI 0) ln ou pa iw so na nb fo nu al z be ke te ti ne wa ta out pl lo sh le) nn)) (va_A (WM ca q th st (nI 0) ln ou pa iw so na nb fo nu al z be ke te ti ne wa ta out pl lo sh le) nn)) 0 0 (va_A (WM ca q th st (nI 0) ln ou pa iw so na nb fo nu al z be ke te ti ne wa ta out pl lo sh le) nn) := by
  refine met_go (QA := fun A => va_Qi (fun (r_ : Int32) (_ : Unit) => r_ = nI 0) (PostW D vwCl (TY ca) (fun (_ : Unit) => (WM ca q (nI 1) st (nI 0) ln ou pa iw so na nb fo nu al z be ke te ti ne wa ta out pl lo sh le)) A) A) (by decide) (Nat.le_of_ble_eq_true rfl) (fun p e s m below meth c A ls QQ hQQ hx hb hr hts hown hlocks hml hA hP hK hD hE hl => ?_)
  have hown : s.vm.findClass RX3 = some m.cls := hown
  have hS : va_S A s.heap s.heap [] := va_S.rf
  have hl : lv_has ls 2 [(0, .ref (q 0))] := hl
  generalize hHe : s.heap = H at hP ⊢
  have hS : va_S A s.heap H [] := hHe ▸ hS
  generalize ([] : List Loc) = locs at hS ⊢
  refine lv_aload_n hx hb dX3_restore_0 rfl (lv_at hl 0 rfl) ?_
  refine lv_aload_n hx hb dX3_restore_1 rfl (lv_at hl 0 rfl) ?_
  refine gWM_0_isKept_X3 hx hb hts hown hK hP dX3_restore_2 ?_
  refine nv_if_eq (tgt := 12) hx hb dX3_restore_5 (by decide) (by omega) (fun c_5 => ?_) (fun c_5 => absurd c_5 (by decide))
  refine lv_iconst (v := nI 1) hx hb dX3_restore_12 (by decide) ?_
  refine pWM_0_thrown_X3 hx hb hts hown hK hP hD hS dX3_restore_13 (fun H locs hP hD hS => ?_)
  refine lv_aload_n hx hb dX3_restore_16 rfl (lv_at hl 0 rfl) ?_
  refine gWM_0_thrown_X3 hx hb hts hown hK hP dX3_restore_17 ?_
  refine nv_if_le (tgt := 25) hx hb dX3_restore_20 (by decide) (by omega) (fun c_20 => absurd c_20 (by decide)) (fun c_20 => ?_)
  refine lv_iconst (v := nI 0) hx hb dX3_restore_23 (by decide) ?_
  subst hQQ
  exact xe_i (v := nI 0) () hx hb hr hlocks hK hP hD hS (rfl) dX3_restore_24
set_option maxHeartbeats 4000000 in
set_option maxRecDepth 100000 in
theorem mt_X3_undo_ok (l : Launch) (D : va_G) (ca : Nat → ClassId) (q : Nat → Nat) (th : Int32) (ik : Int32) (ln : Int32) (ou : Int32) (pa : Int32) (iw : Int32) (so : Int32) (na : Int32) (nb : Int32) (fo : Int32) (nu : Int32) (al : Int32) (be : Nat → Int32) (ke : Nat → Int32) (te : Nat → Int32) (ti : Nat → Int32) (ne : Nat → Int32) (wa : Nat → Int32) (ta : Nat → Int64) (out : Nat → Int64) (pl : Nat → Int64) (lo : Nat → Int64) (sh : Nat → Int64) (le : Nat → Int64) (C : Nat → Nat) (L : List (Nat → Nat)) (m_ : Nat) (K : Nat → Nat) (hm : m_ < 5) (hLm : L.length = m_ + 1) (hKm : L[m_]? = some K) (hB : BeOk L be) (nn : Nat) : Met l yX3_undo (ws_ yX3_undo cX3_undo 2 (Option.some Jvm.ClassFile.FieldType.int)) ({ frames := 0, cells := 0, slots := 0, locals := 0 } : Room) (va_Pc [.ref (q 0)] (PreW Ev0 D vwCl (TY ca) (WM ca q th (nI (m_ + 1)) ik ln ou pa iw so na nb fo nu al (zOf C) be ke te ti ne wa ta out pl lo sh le) nn)) (va_Qi (fun (r_ : Int32) (_ : Unit) => r_ = nI m_) (PostW D vwCl (TY ca) (fun (_ : Unit) => (WM ca q (nI 0) (nI m_) ik ln ou pa iw so na nb fo nu al (zOf K) be ke te ti ne wa ta out pl lo sh le)) (va_A (WM ca q th (nI (m_ + 1)) ik ln ou pa iw so na nb fo nu al (zOf C) be ke te ti ne wa ta out pl lo sh le) nn)) (va_A (WM ca q th (nI (m_ + 1)) ik ln ou pa iw so na nb fo nu al (zOf C) be ke te ti ne wa ta out pl lo sh le) nn)) 0 0 (va_A (WM ca q th (nI (m_ + 1)) ik ln ou pa iw so na nb fo nu al (zOf C) be ke te ti ne wa ta out pl lo sh le) nn) := by
  refine met_go (QA := fun A => va_Qi (fun (r_ : Int32) (_ : Unit) => r_ = nI m_) (PostW D vwCl (TY ca) (fun (_ : Unit) => (WM ca q (nI 0) (nI m_) ik ln ou pa iw so na nb fo nu al (zOf K) be ke te ti ne wa ta out pl lo sh le)) A) A) (by decide) (Nat.le_of_ble_eq_true rfl) (fun p e s m below meth c A ls QQ hQQ hx hb hr hts hown hlocks hml hA hP hK hD hE hl => ?_)
  have hown : s.vm.findClass RX3 = some m.cls := hown
  have hS : va_S A s.heap s.heap [] := va_S.rf
  have hl : lv_has ls 2 [(0, .ref (q 0))] := hl
  generalize hHe : s.heap = H at hP ⊢
  have hS : va_S A s.heap H [] := hHe ▸ hS
  generalize ([] : List Loc) = locs at hS ⊢
  refine lv_aload_n hx hb dX3_undo_0 rfl (lv_at hl 0 rfl) ?_
  refine lv_aload_n hx hb dX3_undo_1 rfl (lv_at hl 0 rfl) ?_
  refine gWM_0_states_X3 hx hb hts hown hK hP dX3_undo_2 ?_
  refine nv_if_ne (tgt := 12) hx hb dX3_undo_5 (by decide) (by omega) (fun c_5 => ?_) (fun c_5 => (absurd c_5 (by omega)))
  refine lv_iconst (v := nI 0) hx hb dX3_undo_12 (by decide) ?_
  refine pWM_0_thrown_X3 hx hb hts hown hK hP hD hS dX3_undo_13 (fun H locs hP hD hS => ?_)
  refine lv_aload_n hx hb dX3_undo_16 rfl (lv_at hl 0 rfl) ?_
  refine gWM_0_thrown_X3 hx hb hts hown hK hP dX3_undo_17 ?_
  refine nv_if_le (tgt := 25) hx hb dX3_undo_20 (by decide) (by omega) (fun c_20 => ?_) (fun c_20 => absurd c_20 (by decide))
  refine lv_aload_n hx hb dX3_undo_25 rfl (lv_at hl 0 rfl) ?_
  refine lv_dup hx hb dX3_undo_26 rfl ?_
  refine gWM_0_states_X3 hx hb hts hown hK hP dX3_undo_27 ?_
  refine lv_iconst (v := nI 1) hx hb dX3_undo_30 (by decide) ?_
  refine nv_isub hx hb dX3_undo_31 (by omega) ?_
  refine lv_topi (nm_r (e' := nI m_) (rfl) ?_)
  refine pWM_0_states_X3 hx hb hts hown hK hP hD hS dX3_undo_32 (fun H locs hP hD hS => ?_)
  refine lv_iconst (v := nI 0) hx hb dX3_undo_35 (by decide) ?_
  refine lv_istore_n (lv' := [(1, .int (nI 0)), (0, .ref (q 0))]) hx hb dX3_undo_36 rfl hl (by decide) rfl (fun ls hl => ?_)
  have lp_37 : ∀ (fu_37 : Nat) (i : Nat), 68 - i < fu_37 → (i ≤ 68) → ∀ (H : Heap) (locs : List Loc), va_P D vwCl (WM ca q (nI 0) (nI m_) ik ln ou pa iw so na nb fo nu al (fillF i (fun k => be (68 * m_ + k)) (zOf C)) be ke te ti ne wa ta out pl lo sh le) H → va_D A (WM ca q (nI 0) (nI m_) ik ln ou pa iw so na nb fo nu al (fillF i (fun k => be (68 * m_ + k)) (zOf C)) be ke te ti ne wa ta out pl lo sh le) → va_S A s.heap H locs → ∀ (ls : Array Slot), lv_has ls 2 [(1, .int (nI i)), (0, .ref (q 0))] → W p l e ({ frames := 0, cells := 0, slots := 0, locals := 0 } : Room) s m ([.ref (q 0)] : List Value).toArray below meth c H locs 0 0 QQ (F0 m 37 ls []) := by
    intro fu_37
    induction fu_37 with
    | zero => intro i hfu; exact absurd hfu (Nat.not_lt_zero _)
    | succ fu_37 ih_37 =>
      intro i hfu hi H locs hP hD hS ls hl
      refine lv_iload_n hx hb dX3_undo_37 rfl (lv_at hl 0 rfl) ?_
      refine lv_bipush (v := nI 68) hx hb dX3_undo_38 (by decide) ?_
      refine nv_icmp_ge (tgt := 69) hx hb dX3_undo_40 (by decide) (by omega) (by omega) (fun c_40 => ?_) (fun c_40 => ?_)
      · skip
        have e_ : 68 = i := Eq.symm (by omega)
        subst e_
        have hP : va_P D vwCl (WM ca q (nI 0) (nI m_) ik ln ou pa iw so na nb fo nu al (zOf K) be ke te ti ne wa ta out pl lo sh le) H := cgWM_1 (fun k hk => (if_pos hk).trans (pop_last hB hLm hKm k hk)) hP
        have hD : va_D A (WM ca q (nI 0) (nI m_) ik ln ou pa iw so na nb fo nu al (zOf K) be ke te ti ne wa ta out pl lo sh le) := dgWM_1 hD
        refine lv_aload_n hx hb dX3_undo_69 rfl (lv_at hl 1 rfl) ?_
        refine gWM_0_states_X3 hx hb hts hown hK hP dX3_undo_70 ?_
        subst hQQ
        exact xe_i (v := nI m_) () hx hb hr hlocks hK hP hD hS (rfl) dX3_undo_73
      · skip
        refine lv_aload_n hx hb dX3_undo_43 rfl (lv_at hl 1 rfl) ?_
        refine gWM_0_z_X3 hx hb hts hown hK hP dX3_undo_44 ?_
        refine lv_iload_n hx hb dX3_undo_47 rfl (lv_at hl 0 rfl) ?_
        refine lv_aload_n hx hb dX3_undo_48 rfl (lv_at hl 1 rfl) ?_
        refine gWM_0_before_X3 hx hb hts hown hK hP dX3_undo_49 ?_
        refine lv_bipush (v := nI 68) hx hb dX3_undo_52 (by decide) ?_
        refine lv_aload_n hx hb dX3_undo_54 rfl (lv_at hl 1 rfl) ?_
        refine gWM_0_states_X3 hx hb hts hown hK hP dX3_undo_55 ?_
        refine nv_imul hx hb dX3_undo_58 ?_
        refine lv_iload_n hx hb dX3_undo_59 rfl (lv_at hl 0 rfl) ?_
        refine nv_iadd hx hb dX3_undo_60 ?_
        refine ldWM_2 hx hb hK hP (by omega) dX3_undo_61 ?_
        refine stWM_1 hx hb hK hP hD hS (by omega) dX3_undo_62 (fun H locs hP hD hS => ?_)
        refine lv_iinc (v := nI (i + 1)) (lv' := [(1, .int (nI (i + 1))), (0, .ref (q 0))]) hx hb dX3_undo_63 hl (k := 0) rfl (nI_add i 1) (by decide) rfl (fun ls hl => ?_)
        refine lv_goto (tgt := 37) hx hb dX3_undo_66 (by decide) ?_
        have ew_ : upd (fillF i (fun k => be (68 * m_ + k)) (zOf C)) i (be ((68 * m_) + i)) = fillF (i + 1) (fun k => be (68 * m_ + k)) (zOf C) := fillF_s _ _ _
        have hP : va_P D vwCl (WM ca q (nI 0) (nI m_) ik ln ou pa iw so na nb fo nu al (fillF (i + 1) (fun k => be (68 * m_ + k)) (zOf C)) be ke te ti ne wa ta out pl lo sh le) H := (congrArg (fun x_ => va_P D vwCl (WM ca q (nI 0) (nI m_) ik ln ou pa iw so na nb fo nu al x_ be ke te ti ne wa ta out pl lo sh le) H) ew_).mp hP
        have hD : va_D A (WM ca q (nI 0) (nI m_) ik ln ou pa iw so na nb fo nu al (fillF (i + 1) (fun k => be (68 * m_ + k)) (zOf C)) be ke te ti ne wa ta out pl lo sh le) := (congrArg (fun x_ => va_D A (WM ca q (nI 0) (nI m_) ik ln ou pa iw so na nb fo nu al x_ be ke te ti ne wa ta out pl lo sh le)) ew_).mp hD
        clear ew_
        exact ih_37  (i + 1) (by omega) (by omega) _ _ hP hD hS ls (lv_sub hl [0, 1] rfl)
  have ew_ : zOf C = fillF 0 (fun k => be (68 * m_ + k)) (zOf C) := (fillF_0 _ _).symm
  have hP : va_P D vwCl (WM ca q (nI 0) (nI m_) ik ln ou pa iw so na nb fo nu al (fillF 0 (fun k => be (68 * m_ + k)) (zOf C)) be ke te ti ne wa ta out pl lo sh le) H := (congrArg (fun x_ => va_P D vwCl (WM ca q (nI 0) (nI m_) ik ln ou pa iw so na nb fo nu al x_ be ke te ti ne wa ta out pl lo sh le) H) ew_).mp hP
  have hD : va_D A (WM ca q (nI 0) (nI m_) ik ln ou pa iw so na nb fo nu al (fillF 0 (fun k => be (68 * m_ + k)) (zOf C)) be ke te ti ne wa ta out pl lo sh le) := (congrArg (fun x_ => va_D A (WM ca q (nI 0) (nI m_) ik ln ou pa iw so na nb fo nu al x_ be ke te ti ne wa ta out pl lo sh le)) ew_).mp hD
  clear ew_
  exact lp_37 (68 - 0 + 1) 0 (Nat.lt_succ_self _) (by omega) _ _ hP hD hS ls (lv_sub hl [0, 1] rfl)
set_option maxHeartbeats 4000000 in
set_option maxRecDepth 100000 in
theorem mt_X3_undo_no (l : Launch) (D : va_G) (ca : Nat → ClassId) (q : Nat → Nat) (th : Int32) (ik : Int32) (ln : Int32) (ou : Int32) (pa : Int32) (iw : Int32) (so : Int32) (na : Int32) (nb : Int32) (fo : Int32) (nu : Int32) (al : Int32) (z : Nat → Int32) (be : Nat → Int32) (ke : Nat → Int32) (te : Nat → Int32) (ti : Nat → Int32) (ne : Nat → Int32) (wa : Nat → Int32) (ta : Nat → Int64) (out : Nat → Int64) (pl : Nat → Int64) (lo : Nat → Int64) (sh : Nat → Int64) (le : Nat → Int64)  (nn : Nat) : Met l yX3_undo (ws_ yX3_undo cX3_undo 2 (Option.some Jvm.ClassFile.FieldType.int)) ({ frames := 0, cells := 0, slots := 0, locals := 0 } : Room) (va_Pc [.ref (q 0)] (PreW Ev0 D vwCl (TY ca) (WM ca q th (nI 0) ik ln ou pa iw so na nb fo nu al z be ke te ti ne wa ta out pl lo sh le) nn)) (va_Qi (fun (r_ : Int32) (_ : Unit) => r_ = nI 0) (PostW D vwCl (TY ca) (fun (_ : Unit) => (WM ca q (nI 1) (nI 0) ik ln ou pa iw so na nb fo nu al z be ke te ti ne wa ta out pl lo sh le)) (va_A (WM ca q th (nI 0) ik ln ou pa iw so na nb fo nu al z be ke te ti ne wa ta out pl lo sh le) nn)) (va_A (WM ca q th (nI 0) ik ln ou pa iw so na nb fo nu al z be ke te ti ne wa ta out pl lo sh le) nn)) 0 0 (va_A (WM ca q th (nI 0) ik ln ou pa iw so na nb fo nu al z be ke te ti ne wa ta out pl lo sh le) nn) := by
  refine met_go (QA := fun A => va_Qi (fun (r_ : Int32) (_ : Unit) => r_ = nI 0) (PostW D vwCl (TY ca) (fun (_ : Unit) => (WM ca q (nI 1) (nI 0) ik ln ou pa iw so na nb fo nu al z be ke te ti ne wa ta out pl lo sh le)) A) A) (by decide) (Nat.le_of_ble_eq_true rfl) (fun p e s m below meth c A ls QQ hQQ hx hb hr hts hown hlocks hml hA hP hK hD hE hl => ?_)
  have hown : s.vm.findClass RX3 = some m.cls := hown
  have hS : va_S A s.heap s.heap [] := va_S.rf
  have hl : lv_has ls 2 [(0, .ref (q 0))] := hl
  generalize hHe : s.heap = H at hP ⊢
  have hS : va_S A s.heap H [] := hHe ▸ hS
  generalize ([] : List Loc) = locs at hS ⊢
  refine lv_aload_n hx hb dX3_undo_0 rfl (lv_at hl 0 rfl) ?_
  refine lv_aload_n hx hb dX3_undo_1 rfl (lv_at hl 0 rfl) ?_
  refine gWM_0_states_X3 hx hb hts hown hK hP dX3_undo_2 ?_
  refine nv_if_ne (tgt := 12) hx hb dX3_undo_5 (by decide) (by omega) (fun c_5 => absurd c_5 (by decide)) (fun c_5 => ?_)
  refine lv_iconst (v := nI 1) hx hb dX3_undo_8 (by decide) ?_
  refine lv_goto (tgt := 13) hx hb dX3_undo_9 (by decide) ?_
  refine pWM_0_thrown_X3 hx hb hts hown hK hP hD hS dX3_undo_13 (fun H locs hP hD hS => ?_)
  refine lv_aload_n hx hb dX3_undo_16 rfl (lv_at hl 0 rfl) ?_
  refine gWM_0_thrown_X3 hx hb hts hown hK hP dX3_undo_17 ?_
  refine nv_if_le (tgt := 25) hx hb dX3_undo_20 (by decide) (by omega) (fun c_20 => absurd c_20 (by decide)) (fun c_20 => ?_)
  refine lv_iconst (v := nI 0) hx hb dX3_undo_23 (by decide) ?_
  subst hQQ
  exact xe_i (v := nI 0) () hx hb hr hlocks hK hP hD hS (rfl) dX3_undo_24
set_option maxHeartbeats 4000000 in
set_option maxRecDepth 100000 in
theorem mt_X3_kindOf_ok (l : Launch) (D : va_G) (ca : Nat → ClassId) (q : Nat → Nat) (th : Int32) (st : Int32) (ik : Int32) (ln : Int32) (ou : Int32) (pa : Int32) (iw : Int32) (so : Int32) (na : Int32) (nb : Int32) (fo : Int32) (nu : Int32) (al : Int32) (be : Nat → Int32) (ke : Nat → Int32) (te : Nat → Int32) (ti : Nat → Int32) (ne : Nat → Int32) (wa : Nat → Int32) (ta : Nat → Int64) (out : Nat → Int64) (pl : Nat → Int64) (lo : Nat → Int64) (sh : Nat → Int64) (le : Nat → Int64) (C : Nat → Nat) (g_ : Nat) (h0 : C 0 ≤ 12) (hg : g_ < C 0) (nn : Nat) : Met l yX3_kindOf (ws_ yX3_kindOf cX3_kindOf 2 (Option.some Jvm.ClassFile.FieldType.int)) ({ frames := 2, cells := 0, slots := 0, locals := 43 } : Room) (va_Pc [.ref (q 0), .int (nI g_)] (PreW Ev0 D vwCl (TY ca) (WM ca q th st ik ln ou pa iw so na nb fo nu al (zOf C) be ke te ti ne wa ta out pl lo sh le) nn)) (va_Qi (fun (r_ : Int32) (_ : Unit) => r_ = nI (C (1 + g_))) (PostW D vwCl (TY ca) (fun (_ : Unit) => (WM ca q (nI 0) st ik ln ou pa iw so na nb fo nu al (zOf C) be ke te ti ne wa ta out pl lo sh le)) (va_A (WM ca q th st ik ln ou pa iw so na nb fo nu al (zOf C) be ke te ti ne wa ta out pl lo sh le) nn)) (va_A (WM ca q th st ik ln ou pa iw so na nb fo nu al (zOf C) be ke te ti ne wa ta out pl lo sh le) nn)) 0 0 (va_A (WM ca q th st ik ln ou pa iw so na nb fo nu al (zOf C) be ke te ti ne wa ta out pl lo sh le) nn) := by
  refine met_go (QA := fun A => va_Qi (fun (r_ : Int32) (_ : Unit) => r_ = nI (C (1 + g_))) (PostW D vwCl (TY ca) (fun (_ : Unit) => (WM ca q (nI 0) st ik ln ou pa iw so na nb fo nu al (zOf C) be ke te ti ne wa ta out pl lo sh le)) A) A) (by decide) (Nat.le_of_ble_eq_true rfl) (fun p e s m below meth c A ls QQ hQQ hx hb hr hts hown hlocks hml hA hP hK hD hE hl => ?_)
  have hown : s.vm.findClass RX3 = some m.cls := hown
  have hS : va_S A s.heap s.heap [] := va_S.rf
  have hl : lv_has ls 2 [(0, .ref (q 0)), (1, .int (nI g_))] := hl
  generalize hHe : s.heap = H at hP ⊢
  have hS : va_S A s.heap H [] := hHe ▸ hS
  generalize ([] : List Loc) = locs at hS ⊢
  refine lv_aload_n hx hb dX3_kindOf_0 rfl (lv_at hl 0 rfl) ?_
  refine lv_aload_n hx hb dX3_kindOf_1 rfl (lv_at hl 0 rfl) ?_
  refine lv_iload_n hx hb dX3_kindOf_2 rfl (lv_at hl 1 rfl) ?_
  refine xc_i (xr_V (b := q 0) (ci := 2) (q0 := 0) (As := [.int (nI g_)]) (rest := [.ref (q 0)]) (mt_X3_isGate l D ca q th st ik ln ou pa iw so na nb fo nu al be ke te ti ne wa ta out pl lo sh le C (nI g_) (by first | assumption | omega | (simp only [updN, forgetC, changedC]; (repeat' split) <;> omega)) H.size) ⟨hx, hb, hml, hown, hts⟩ (cwV 1 hts (lw_V q1727 q1729 qs50 q87 q1730) rfl rfl rfl (by decide +kernel) ⟨Nat.le_of_ble_eq_true rfl, Nat.le_of_ble_eq_true rfl⟩) Ev0_ok hE hK hS (Cut.all hP hD hS hA) rfl rfl rfl hl.1 rfl (Nat.le_of_ble_eq_true rfl) dX3_kindOf_3 ⟨Nat.le_of_ble_eq_true rfl, Nat.le_of_ble_eq_true rfl⟩) hS (Cut.all hP hD hS hA) (fun r_1 u_2 H locs hq_3 hP hD hS => ?_)
  have hP : va_P D vwCl (WM ca q th st ik ln ou pa iw so na nb fo nu al (zOf C) be ke te ti ne wa ta out pl lo sh le) H := hP
  have hD : va_D A (WM ca q th st ik ln ou pa iw so na nb fo nu al (zOf C) be ke te ti ne wa ta out pl lo sh le) := hD
  have hp_3 : r_1 = bI (inR (C 0) (nI g_)) := hq_3
  clear hq_3
  obtain rfl := hp_3
  refine nv_ifb_eq (tgt := 13) hx hb dX3_kindOf_6 (by decide) (fun c_6 => (absurd c_6 (by rw [inR_ok hg (by omega)]; decide))) (fun c_6 => ?_)
  refine lv_iconst (v := nI 0) hx hb dX3_kindOf_9 (by decide) ?_
  refine lv_goto (tgt := 14) hx hb dX3_kindOf_10 (by decide) ?_
  refine pWM_0_thrown_X3 hx hb hts hown hK hP hD hS dX3_kindOf_14 (fun H locs hP hD hS => ?_)
  refine lv_aload_n hx hb dX3_kindOf_17 rfl (lv_at hl 0 rfl) ?_
  refine gWM_0_thrown_X3 hx hb hts hown hK hP dX3_kindOf_18 ?_
  refine nv_if_le (tgt := 28) hx hb dX3_kindOf_21 (by decide) (by omega) (fun c_21 => ?_) (fun c_21 => absurd c_21 (by decide))
  refine lv_aload_n hx hb dX3_kindOf_28 rfl (lv_at hl 0 rfl) ?_
  refine gWM_0_z_X3 hx hb hts hown hK hP dX3_kindOf_29 ?_
  refine lv_iconst (v := nI 1) hx hb dX3_kindOf_32 (by decide) ?_
  refine lv_iload_n hx hb dX3_kindOf_33 rfl (lv_at hl 1 rfl) ?_
  refine nv_iadd hx hb dX3_kindOf_34 ?_
  refine ldWM_1 hx hb hK hP (by omega) dX3_kindOf_35 ?_
  refine lv_topi (nm_r (e' := nI (C (1 + g_))) (zOf_n (by omega)) ?_)
  subst hQQ
  exact xe_i (v := nI (C (1 + g_))) () hx hb hr hlocks hK hP hD hS (rfl) dX3_kindOf_36
set_option maxHeartbeats 4000000 in
set_option maxRecDepth 100000 in
theorem mt_X3_kindOf_no (l : Launch) (D : va_G) (ca : Nat → ClassId) (q : Nat → Nat) (th : Int32) (st : Int32) (ik : Int32) (ln : Int32) (ou : Int32) (pa : Int32) (iw : Int32) (so : Int32) (na : Int32) (nb : Int32) (fo : Int32) (nu : Int32) (al : Int32) (be : Nat → Int32) (ke : Nat → Int32) (te : Nat → Int32) (ti : Nat → Int32) (ne : Nat → Int32) (wa : Nat → Int32) (ta : Nat → Int64) (out : Nat → Int64) (pl : Nat → Int64) (lo : Nat → Int64) (sh : Nat → Int64) (le : Nat → Int64) (C : Nat → Nat) (g_ : Int32) (h0 : C 0 ≤ 12) (hc : inR (C 0) g_ = false) (nn : Nat) : Met l yX3_kindOf (ws_ yX3_kindOf cX3_kindOf 2 (Option.some Jvm.ClassFile.FieldType.int)) ({ frames := 2, cells := 0, slots := 0, locals := 43 } : Room) (va_Pc [.ref (q 0), .int g_] (PreW Ev0 D vwCl (TY ca) (WM ca q th st ik ln ou pa iw so na nb fo nu al (zOf C) be ke te ti ne wa ta out pl lo sh le) nn)) (va_Qi (fun (r_ : Int32) (_ : Unit) => r_ = nI 0) (PostW D vwCl (TY ca) (fun (_ : Unit) => (WM ca q (nI 1) st ik ln ou pa iw so na nb fo nu al (zOf C) be ke te ti ne wa ta out pl lo sh le)) (va_A (WM ca q th st ik ln ou pa iw so na nb fo nu al (zOf C) be ke te ti ne wa ta out pl lo sh le) nn)) (va_A (WM ca q th st ik ln ou pa iw so na nb fo nu al (zOf C) be ke te ti ne wa ta out pl lo sh le) nn)) 0 0 (va_A (WM ca q th st ik ln ou pa iw so na nb fo nu al (zOf C) be ke te ti ne wa ta out pl lo sh le) nn) := by
  refine met_go (QA := fun A => va_Qi (fun (r_ : Int32) (_ : Unit) => r_ = nI 0) (PostW D vwCl (TY ca) (fun (_ : Unit) => (WM ca q (nI 1) st ik ln ou pa iw so na nb fo nu al (zOf C) be ke te ti ne wa ta out pl lo sh le)) A) A) (by decide) (Nat.le_of_ble_eq_true rfl) (fun p e s m below meth c A ls QQ hQQ hx hb hr hts hown hlocks hml hA hP hK hD hE hl => ?_)
  have hown : s.vm.findClass RX3 = some m.cls := hown
  have hS : va_S A s.heap s.heap [] := va_S.rf
  have hl : lv_has ls 2 [(0, .ref (q 0)), (1, .int g_)] := hl
  generalize hHe : s.heap = H at hP ⊢
  have hS : va_S A s.heap H [] := hHe ▸ hS
  generalize ([] : List Loc) = locs at hS ⊢
  refine lv_aload_n hx hb dX3_kindOf_0 rfl (lv_at hl 0 rfl) ?_
  refine lv_aload_n hx hb dX3_kindOf_1 rfl (lv_at hl 0 rfl) ?_
  refine lv_iload_n hx hb dX3_kindOf_2 rfl (lv_at hl 1 rfl) ?_
  refine xc_i (xr_V (b := q 0) (ci := 2) (q0 := 0) (As := [.int g_]) (rest := [.ref (q 0)]) (mt_X3_isGate l D ca q th st ik ln ou pa iw so na nb fo nu al be ke te ti ne wa ta out pl lo sh le C g_ (by first | assumption | omega | (simp only [updN, forgetC, changedC]; (repeat' split) <;> omega)) H.size) ⟨hx, hb, hml, hown, hts⟩ (cwV 1 hts (lw_V q1727 q1729 qs50 q87 q1730) rfl rfl rfl (by decide +kernel) ⟨Nat.le_of_ble_eq_true rfl, Nat.le_of_ble_eq_true rfl⟩) Ev0_ok hE hK hS (Cut.all hP hD hS hA) rfl rfl rfl hl.1 rfl (Nat.le_of_ble_eq_true rfl) dX3_kindOf_3 ⟨Nat.le_of_ble_eq_true rfl, Nat.le_of_ble_eq_true rfl⟩) hS (Cut.all hP hD hS hA) (fun r_1 u_2 H locs hq_3 hP hD hS => ?_)
  have hP : va_P D vwCl (WM ca q th st ik ln ou pa iw so na nb fo nu al (zOf C) be ke te ti ne wa ta out pl lo sh le) H := hP
  have hD : va_D A (WM ca q th st ik ln ou pa iw so na nb fo nu al (zOf C) be ke te ti ne wa ta out pl lo sh le) := hD
  have hp_3 : r_1 = bI (inR (C 0) g_) := hq_3
  clear hq_3
  obtain rfl := hp_3
  refine nv_ifb_eq (tgt := 13) hx hb dX3_kindOf_6 (by decide) (fun c_6 => ?_) (fun c_6 => (absurd c_6 (by rw [hc]; decide)))
  refine lv_iconst (v := nI 1) hx hb dX3_kindOf_13 (by decide) ?_
  refine pWM_0_thrown_X3 hx hb hts hown hK hP hD hS dX3_kindOf_14 (fun H locs hP hD hS => ?_)
  refine lv_aload_n hx hb dX3_kindOf_17 rfl (lv_at hl 0 rfl) ?_
  refine gWM_0_thrown_X3 hx hb hts hown hK hP dX3_kindOf_18 ?_
  refine nv_if_le (tgt := 28) hx hb dX3_kindOf_21 (by decide) (by omega) (fun c_21 => absurd c_21 (by decide)) (fun c_21 => ?_)
  refine lv_iconst (v := nI 0) hx hb dX3_kindOf_24 (by decide) ?_
  refine lv_goto (tgt := 36) hx hb dX3_kindOf_25 (by decide) ?_
  subst hQQ
  exact xe_i (v := nI 0) () hx hb hr hlocks hK hP hD hS (rfl) dX3_kindOf_36
