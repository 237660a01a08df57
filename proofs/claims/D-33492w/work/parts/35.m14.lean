/-! contracts of the model: the mean left, the chosen -/
set_option maxRecDepth 100000
theorem ch_64 {n : Nat} : shl64 (hi32 n).toInt64 32 ||| ((lo32 n).toInt64 &&& (4294967295 : Int64)) = lN n := by
  unfold hi32 lo32
  generalize lN n = x
  apply i64_ext
  intro i hi
  have h3 : ∀ (y : Int32), bit64 y.toInt64 i = (if i < 32 then y.toBitVec.getLsbD i else y.toBitVec.msb) := by
    intro y
    unfold bit64
    rw [Int32.toBitVec_toInt64, BitVec.getLsbD_signExtend]
    simp [hi]
  have h4 : ∀ (y : Int64) (j : Nat), y.toInt32.toBitVec.getLsbD j = (decide (j < 32) && bit64 y j) := by
    intro y j
    unfold bit64
    rw [Int64.toBitVec_toInt32, BitVec.getLsbD_signExtend]
    by_cases hj : j < 32
    · simp [hj, show j < 64 by omega]
    · simp [hj]
  have h5 : bit64 (4294967295 : Int64) i = decide (i < 32) := by
    have : ∀ j, j < 64 → bit64 (4294967295 : Int64) j = decide (j < 32) := by decide +kernel
    exact this i hi
  rw [bit_or, bit_and, h5, h3, h4, bit_shl (by omega) hi]
  by_cases hl : i < 32
  · simp [hl, show ¬ 32 ≤ i by omega]
  · have h6 : bit64 (ush64 x 32).toInt32.toInt64 (i - 32) = bit64 x i := by
      unfold bit64
      rw [Int32.toBitVec_toInt64, BitVec.getLsbD_signExtend]
      have := h4 (ush64 x 32) (i - 32)
      rw [bit_ush (by omega) (by omega), show 32 + (i - 32) = i by omega] at this
      rw [this]
      simp [show i - 32 < 64 by omega, show i - 32 < 32 by omega]
      rfl
    rw [h6]
    simp [hl, show 32 ≤ i by omega]
set_option maxHeartbeats 4000000 in
set_option maxRecDepth 100000 in
theorem mt_X3_meanLeft_no (l : Launch) (D : va_G) (ca : Nat → ClassId) (q : Nat → Nat) (th : Int32) (st : Int32) (ik : Int32) (ln : Int32) (ou : Int32) (pa : Int32) (iw : Int32) (so : Int32) (na : Int32) (nb : Int32) (fo : Int32) (nu : Int32) (al : Int32) (z : Nat → Int32) (be : Nat → Int32) (ke : Nat → Int32) (te : Nat → Int32) (ti : Nat → Int32) (ne : Nat → Int32) (wa : Nat → Int32) (ta : Nat → Int64) (out : Nat → Int64) (pl : Nat → Int64) (lo : Nat → Int64) (sh : Nat → Int64) (le : Nat → Int64) (t_ : Int32) (hc : inR 64 t_ = false) (nn : Nat) : Met l yX3_meanLeft (ws_ yX3_meanLeft cX3_meanLeft 4 (Option.some Jvm.ClassFile.FieldType.double)) ({ frames := 1, cells := 0, slots := 0, locals := 22 } : Room) (va_Pc [.ref (q 0), .int t_] (PreW Ev0 D vwCl (TY ca) (WM ca q th st ik ln ou pa iw so na nb fo nu al z be ke te ti ne wa ta out pl lo sh le) nn)) (va_Qd (fun (r_ : UInt64) (_ : Unit) => r_ = FP.dconst0) (PostW D vwCl (TY ca) (fun (_ : Unit) => (WM ca q (nI 1) st ik ln ou pa iw so na nb fo nu al z be ke te ti ne wa ta out pl lo sh le)) (va_A (WM ca q th st ik ln ou pa iw so na nb fo nu al z be ke te ti ne wa ta out pl lo sh le) nn)) (va_A (WM ca q th st ik ln ou pa iw so na nb fo nu al z be ke te ti ne wa ta out pl lo sh le) nn)) 0 0 (va_A (WM ca q th st ik ln ou pa iw so na nb fo nu al z be ke te ti ne wa ta out pl lo sh le) nn) := by
  refine met_go (QA := fun A => va_Qd (fun (r_ : UInt64) (_ : Unit) => r_ = FP.dconst0) (PostW D vwCl (TY ca) (fun (_ : Unit) => (WM ca q (nI 1) st ik ln ou pa iw so na nb fo nu al z be ke te ti ne wa ta out pl lo sh le)) A) A) (by decide) (Nat.le_of_ble_eq_true rfl) (fun p e s m below meth c A ls QQ hQQ hx hb hr hts hown hlocks hml hA hP hK hD hE hl => ?_)
  have hown : s.vm.findClass RX3 = some m.cls := hown
  have hS : va_S A s.heap s.heap [] := va_S.rf
  have hl : lv_has ls 4 [(0, .ref (q 0)), (1, .int t_)] := hl
  generalize hHe : s.heap = H at hP ⊢
  have hS : va_S A s.heap H [] := hHe ▸ hS
  generalize ([] : List Loc) = locs at hS ⊢
  refine lv_aload_n hx hb dX3_meanLeft_0 rfl (lv_at hl 0 rfl) ?_
  refine lv_iload_n hx hb dX3_meanLeft_1 rfl (lv_at hl 1 rfl) ?_
  refine lv_iconst (v := nI 0) hx hb dX3_meanLeft_2 (by decide) ?_
  refine lv_bipush (v := nI 63) hx hb dX3_meanLeft_3 (by decide) ?_
  refine xc_i (xr_S (As := [.int t_, .int (nI 0), .int (nI 63)]) (rest := [.ref (q 0)]) (mt_X3_in l D ca t_ (nI 0) (nI 63)  H.size) ⟨hx, hb, hml, hown, hts⟩ (va_cwS 3 hts (lw_S q1700 q1701 q87 q1702) rfl rfl rfl (by decide +kernel) ⟨Nat.le_of_ble_eq_true rfl, Nat.le_of_ble_eq_true rfl⟩) Ev0_ok hE hK hS (Cut.app (wc := []) (wr := (WM ca q th st ik ln ou pa iw so na nb fo nu al z be ke te ti ne wa ta out pl lo sh le)) hP hD hS hA) rfl hl.1 rfl (Nat.le_of_ble_eq_true rfl) dX3_meanLeft_5 ⟨Nat.le_of_ble_eq_true rfl, Nat.le_of_ble_eq_true rfl⟩) hS (Cut.app (wc := []) (wr := (WM ca q th st ik ln ou pa iw so na nb fo nu al z be ke te ti ne wa ta out pl lo sh le)) hP hD hS hA) (fun r_1 u_2 H locs hq_5 hP hD hS => ?_)
  have hP : va_P D vwCl (WM ca q th st ik ln ou pa iw so na nb fo nu al z be ke te ti ne wa ta out pl lo sh le) H := hP
  have hD : va_D A (WM ca q th st ik ln ou pa iw so na nb fo nu al z be ke te ti ne wa ta out pl lo sh le) := hD
  have hp_5 : r_1 = bI (decide ((nI 0) ≤ t_ ∧ t_ ≤ (nI 63))) := hq_5
  clear hq_5
  obtain rfl := hp_5
  refine nv_ifb_eq (tgt := 15) hx hb dX3_meanLeft_8 (by decide) (fun c_8 => ?_) (fun c_8 => (absurd c_8 (by rw [inR_lit (by decide), hc]; decide)))
  refine lv_iconst (v := nI 1) hx hb dX3_meanLeft_15 (by decide) ?_
  refine pWM_0_thrown_X3 hx hb hts hown hK hP hD hS dX3_meanLeft_16 (fun H locs hP hD hS => ?_)
  refine lv_aload_n hx hb dX3_meanLeft_19 rfl (lv_at hl 0 rfl) ?_
  refine gWM_0_thrown_X3 hx hb hts hown hK hP dX3_meanLeft_20 ?_
  refine nv_if_le (tgt := 28) hx hb dX3_meanLeft_23 (by decide) (by omega) (fun c_23 => absurd c_23 (by decide)) (fun c_23 => ?_)
  refine lv_dconst0 hx hb dX3_meanLeft_26 ?_
  subst hQQ
  exact xe_d (v := FP.dconst0) () hx hb hr hlocks hK hP hD hS (rfl) dX3_meanLeft_27
set_option maxHeartbeats 4000000 in
set_option maxRecDepth 100000 in
theorem mt_X3_meanLeft_ok (l : Launch) (D : va_G) (ca : Nat → ClassId) (q : Nat → Nat) (th : Int32) (st : Int32) (ik : Int32) (ln : Int32) (ou : Int32) (pa : Int32) (iw : Int32) (so : Int32) (na : Int32) (nb : Int32) (fo : Int32) (nu : Int32) (al : Int32) (be : Nat → Int32) (ke : Nat → Int32) (te : Nat → Int32) (ti : Nat → Int32) (ne : Nat → Int32) (wa : Nat → Int32) (ta : Nat → Int64) (out : Nat → Int64) (pl : Nat → Int64) (lo : Nat → Int64) (sh : Nat → Int64) (le : Nat → Int64) (C : Nat → Nat) (t_ : Nat) (h0 : C 0 ≤ 12) (hkd0 : ∀ k, k < 12 → C (1 + k) < 8) (hse : ∀ k, k < 12 → C (13 + k) < 6 + k ∧ C (25 + k) < 6 + k) (ho : C 37 < 2 ^ 18) (hbx : C 38 < 2 ^ 18) (hno : popc 18 (C 37) ≤ 4) (hnb : popc 18 (C 38) ≤ 3) (hak : C 41 ≤ 12) (ht64 : ∀ k, k < 12 → C (42 + k) < 64) (h40 : C 40 ≤ 1) (ha16 : ∀ k, k < 12 → C (54 + k) < 16) (ht : t_ < 64) (nn : Nat) : Met l yX3_meanLeft (ws_ yX3_meanLeft cX3_meanLeft 4 (Option.some Jvm.ClassFile.FieldType.double)) ({ frames := 4, cells := 0, slots := 0, locals := 102 } : Room) (va_Pc [.ref (q 0), .int (nI t_)] (PreW Ev0 D vwCl (TY ca) (WM ca q th st ik ln ou pa iw so na nb fo nu al (zOf C) be ke te ti ne wa ta out pl lo sh le) nn)) (va_Qd (fun (r_ : UInt64) (u_ : (Nat → Int64) × (Nat → Int64) × Int32 × (Nat → Int64)) => r_ = mnD C t_) (PostW D vwCl (TY ca) (fun (u_ : (Nat → Int64) × (Nat → Int64) × Int32 × (Nat → Int64)) => (WM ca q (nI 0) st ik ln u_.2.2.1 pa iw so na nb (nI ((cnds C).length)) (nuI 0 (cnds C)) (bI (alB C (cnds C))) (zOf C) be ke te (nIf (tmN C (cnds C))) ne wa u_.1 u_.2.1 u_.2.2.2 lo sh le)) (va_A (WM ca q th st ik ln ou pa iw so na nb fo nu al (zOf C) be ke te ti ne wa ta out pl lo sh le) nn)) (va_A (WM ca q th st ik ln ou pa iw so na nb fo nu al (zOf C) be ke te ti ne wa ta out pl lo sh le) nn)) 0 0 (va_A (WM ca q th st ik ln ou pa iw so na nb fo nu al (zOf C) be ke te ti ne wa ta out pl lo sh le) nn) := by
  refine met_go (QA := fun A => va_Qd (fun (r_ : UInt64) (u_ : (Nat → Int64) × (Nat → Int64) × Int32 × (Nat → Int64)) => r_ = mnD C t_) (PostW D vwCl (TY ca) (fun (u_ : (Nat → Int64) × (Nat → Int64) × Int32 × (Nat → Int64)) => (WM ca q (nI 0) st ik ln u_.2.2.1 pa iw so na nb (nI ((cnds C).length)) (nuI 0 (cnds C)) (bI (alB C (cnds C))) (zOf C) be ke te (nIf (tmN C (cnds C))) ne wa u_.1 u_.2.1 u_.2.2.2 lo sh le)) A) A) (by decide) (Nat.le_of_ble_eq_true rfl) (fun p e s m below meth c A ls QQ hQQ hx hb hr hts hown hlocks hml hA hP hK hD hE hl => ?_)
  have hown : s.vm.findClass RX3 = some m.cls := hown
  have hS : va_S A s.heap s.heap [] := va_S.rf
  have hl : lv_has ls 4 [(0, .ref (q 0)), (1, .int (nI t_))] := hl
  generalize hHe : s.heap = H at hP ⊢
  have hS : va_S A s.heap H [] := hHe ▸ hS
  generalize ([] : List Loc) = locs at hS ⊢
  have hll := tm_lim h0 hnb
  have hcl : (cnds C).length ≤ 7992 := Nat.le_trans (clK_len h0 _) (by have := ksm_le h0 hnb; omega)
  have hsq : sqN (tmN C (cnds C)) t_ 16 < 2 ^ 31 := Nat.lt_of_le_of_lt (sqN_le (B := 7993) (fun k => Nat.lt_of_le_of_lt tmN_le (by omega)) 16) (by decide)
  refine lv_aload_n hx hb dX3_meanLeft_0 rfl (lv_at hl 0 rfl) ?_
  refine lv_iload_n hx hb dX3_meanLeft_1 rfl (lv_at hl 1 rfl) ?_
  refine lv_iconst (v := nI 0) hx hb dX3_meanLeft_2 (by decide) ?_
  refine lv_bipush (v := nI 63) hx hb dX3_meanLeft_3 (by decide) ?_
  refine xc_i (xr_S (As := [.int (nI t_), .int (nI 0), .int (nI 63)]) (rest := [.ref (q 0)]) (mt_X3_in l D ca (nI t_) (nI 0) (nI 63)  H.size) ⟨hx, hb, hml, hown, hts⟩ (va_cwS 3 hts (lw_S q1700 q1701 q87 q1702) rfl rfl rfl (by decide +kernel) ⟨Nat.le_of_ble_eq_true rfl, Nat.le_of_ble_eq_true rfl⟩) Ev0_ok hE hK hS (Cut.app (wc := []) (wr := (WM ca q th st ik ln ou pa iw so na nb fo nu al (zOf C) be ke te ti ne wa ta out pl lo sh le)) hP hD hS hA) rfl hl.1 rfl (Nat.le_of_ble_eq_true rfl) dX3_meanLeft_5 ⟨Nat.le_of_ble_eq_true rfl, Nat.le_of_ble_eq_true rfl⟩) hS (Cut.app (wc := []) (wr := (WM ca q th st ik ln ou pa iw so na nb fo nu al (zOf C) be ke te ti ne wa ta out pl lo sh le)) hP hD hS hA) (fun r_1 u_2 H locs hq_5 hP hD hS => ?_)
  have hP : va_P D vwCl (WM ca q th st ik ln ou pa iw so na nb fo nu al (zOf C) be ke te ti ne wa ta out pl lo sh le) H := hP
  have hD : va_D A (WM ca q th st ik ln ou pa iw so na nb fo nu al (zOf C) be ke te ti ne wa ta out pl lo sh le) := hD
  have hp_5 : r_1 = bI (decide ((nI 0) ≤ (nI t_) ∧ (nI t_) ≤ (nI 63))) := hq_5
  clear hq_5
  obtain rfl := hp_5
  refine nv_ifb_eq (tgt := 15) hx hb dX3_meanLeft_8 (by decide) (fun c_8 => (absurd c_8 (by rw [in_ok (by omega) (by decide)]; decide))) (fun c_8 => ?_)
  refine lv_iconst (v := nI 0) hx hb dX3_meanLeft_11 (by decide) ?_
  refine lv_goto (tgt := 16) hx hb dX3_meanLeft_12 (by decide) ?_
  refine pWM_0_thrown_X3 hx hb hts hown hK hP hD hS dX3_meanLeft_16 (fun H locs hP hD hS => ?_)
  refine lv_aload_n hx hb dX3_meanLeft_19 rfl (lv_at hl 0 rfl) ?_
  refine gWM_0_thrown_X3 hx hb hts hown hK hP dX3_meanLeft_20 ?_
  refine nv_if_le (tgt := 28) hx hb dX3_meanLeft_23 (by decide) (by omega) (fun c_23 => ?_) (fun c_23 => absurd c_23 (by decide))
  refine lv_aload_n hx hb dX3_meanLeft_28 rfl (lv_at hl 0 rfl) ?_
  refine lv_iconst (v := fI 0) hx hb dX3_meanLeft_29 (by decide) ?_
  refine lv_iconst (v := nI 1) hx hb dX3_meanLeft_30 (by decide) ?_
  refine xc_v (xr_V (b := q 0) (ci := 2) (q0 := 0) (As := [.int (fI 0), .int (nI 1)]) (rest := []) (mt_X3_goThrough_c l D ca q (nI 0) st ik ln ou pa iw so na nb fo nu al be ke te ti ne wa ta out pl lo sh le C 0 (by first | assumption | omega | (simp only [updN, forgetC, changedC]; (repeat' split) <;> omega)) (by first | assumption | omega | (simp only [updN, forgetC, changedC]; (repeat' split) <;> omega)) (by first | assumption | omega | (simp only [updN, forgetC, changedC]; (repeat' split) <;> omega)) (by first | assumption | omega | (simp only [updN, forgetC, changedC]; (repeat' split) <;> omega)) (by first | assumption | omega | (simp only [updN, forgetC, changedC]; (repeat' split) <;> omega)) (by first | assumption | omega | (simp only [updN, forgetC, changedC]; (repeat' split) <;> omega)) (by first | assumption | omega | (simp only [updN, forgetC, changedC]; (repeat' split) <;> omega)) (by first | assumption | omega | (simp only [updN, forgetC, changedC]; (repeat' split) <;> omega)) (by first | assumption | omega | (simp only [updN, forgetC, changedC]; (repeat' split) <;> omega)) (by first | assumption | omega | (simp only [updN, forgetC, changedC]; (repeat' split) <;> omega)) (by first | assumption | omega | (simp only [updN, forgetC, changedC]; (repeat' split) <;> omega)) (by first | assumption | omega | (simp only [updN, forgetC, changedC]; (repeat' split) <;> omega)) H.size) ⟨hx, hb, hml, hown, hts⟩ (cwV 2 hts (lw_V q1804 q1806 qs59 q87 q1807) rfl rfl rfl (by decide +kernel) ⟨Nat.le_of_ble_eq_true rfl, Nat.le_of_ble_eq_true rfl⟩) Ev0_ok hE hK hS (Cut.all hP hD hS hA) rfl rfl rfl hl.1 rfl (Nat.le_of_ble_eq_true rfl) dX3_meanLeft_31 ⟨Nat.le_of_ble_eq_true rfl, Nat.le_of_ble_eq_true rfl⟩) hS (Cut.all hP hD hS hA) (fun u_4 H locs hq_31 hP hD hS => ?_)
  obtain ⟨ta1_5, out1_6, ou1_7, pl1_8⟩ := u_4
  have hP : va_P D vwCl (WM ca q (nI 0) st ik ln ou1_7 pa iw so na nb (nI ((cnds C).length)) (nuI 0 (cnds C)) (bI (alB C (cnds C))) (zOf C) be ke te (nIf (tmN C (cnds C))) ne wa ta1_5 out1_6 pl1_8 lo sh le) H := hP
  have hD : va_D A (WM ca q (nI 0) st ik ln ou1_7 pa iw so na nb (nI ((cnds C).length)) (nuI 0 (cnds C)) (bI (alB C (cnds C))) (zOf C) be ke te (nIf (tmN C (cnds C))) ne wa ta1_5 out1_6 pl1_8 lo sh le) := hD
  refine lv_iconst (v := nI 0) hx hb dX3_meanLeft_34 (by decide) ?_
  refine lv_istore_n (lv' := [(2, .int (nI 0)), (0, .ref (q 0)), (1, .int (nI t_))]) hx hb dX3_meanLeft_35 rfl hl (by decide) rfl (fun ls hl => ?_)
  refine lv_bipush (v := nI 16) hx hb dX3_meanLeft_36 (by decide) ?_
  refine lv_iload_n hx hb dX3_meanLeft_38 rfl (lv_at hl 2 rfl) ?_
  refine nv_imul hx hb dX3_meanLeft_39 ?_
  refine lv_istore_n (lv' := [(3, .int (nI (16 * t_))), (2, .int (nI 0)), (0, .ref (q 0)), (1, .int (nI t_))]) hx hb dX3_meanLeft_40 rfl hl (by decide) rfl (fun ls hl => ?_)
  have lp_41 : ∀ (fu_41 : Nat) (i : Nat), 16 - i < fu_41 → (i ≤ 16) → ∀ (H : Heap) (locs : List Loc), va_P D vwCl (WM ca q (nI 0) st ik ln ou1_7 pa iw so na nb (nI ((cnds C).length)) (nuI 0 (cnds C)) (bI (alB C (cnds C))) (zOf C) be ke te (nIf (tmN C (cnds C))) ne wa ta1_5 out1_6 pl1_8 lo sh le) H → va_D A (WM ca q (nI 0) st ik ln ou1_7 pa iw so na nb (nI ((cnds C).length)) (nuI 0 (cnds C)) (bI (alB C (cnds C))) (zOf C) be ke te (nIf (tmN C (cnds C))) ne wa ta1_5 out1_6 pl1_8 lo sh le) → va_S A s.heap H locs → ∀ (ls : Array Slot), lv_has ls 4 [(3, .int (nI (16 * t_ + i))), (2, .int (nI (sqN (tmN C (cnds C)) t_ i))), (0, .ref (q 0)), (1, .int (nI t_))] → W p l e ({ frames := 4, cells := 0, slots := 0, locals := 102 } : Room) s m ([.ref (q 0), .int (nI t_)] : List Value).toArray below meth c H locs 0 0 QQ (F0 m 41 ls []) := by
    intro fu_41
    induction fu_41 with
    | zero => intro i hfu; exact absurd hfu (Nat.not_lt_zero _)
    | succ fu_41 ih_41 =>
      intro i hfu hi H locs hP hD hS ls hl
      refine lv_iload_n hx hb dX3_meanLeft_41 rfl (lv_at hl 0 rfl) ?_
      refine lv_bipush (v := nI 16) hx hb dX3_meanLeft_42 (by decide) ?_
      refine lv_iload_n hx hb dX3_meanLeft_44 rfl (lv_at hl 3 rfl) ?_
      refine nv_imul hx hb dX3_meanLeft_45 ?_
      refine lv_bipush (v := nI 16) hx hb dX3_meanLeft_46 (by decide) ?_
      refine nv_iadd hx hb dX3_meanLeft_48 ?_
      refine nv_icmp_ge (tgt := 74) hx hb dX3_meanLeft_49 (by decide) (by omega) (by omega) (fun c_49 => ?_) (fun c_49 => ?_)
      · skip
        have e_ : 16 = i := Eq.symm (by omega)
        subst e_
        refine lv_aload_n hx hb dX3_meanLeft_74 rfl (lv_at hl 2 rfl) ?_
        refine gWM_0_found_X3 hx hb hts hown hK hP dX3_meanLeft_75 ?_
        refine nv_if_ne (tgt := 85) hx hb dX3_meanLeft_78 (by decide) (by omega) (fun c_78 => ?_) (fun c_78 => ?_)
        · skip
          refine lv_iload_n hx hb dX3_meanLeft_85 rfl (lv_at hl 1 rfl) ?_
          refine lv_i2d hx hb dX3_meanLeft_86 ?_
          refine lv_aload_n hx hb dX3_meanLeft_87 rfl (lv_at hl 2 rfl) ?_
          refine gWM_0_found_X3 hx hb hts hown hK hP dX3_meanLeft_88 ?_
          refine lv_i2d hx hb dX3_meanLeft_91 ?_
          refine lv_ddiv hx hb dX3_meanLeft_92 (fp_ddiv hsq (by omega) (by omega)) ?_
          subst hQQ
          exact xe_d (v := FP.ddiv (FP.i2d (nI (sqN (tmN C (cnds C)) t_ 16))) (FP.i2d (nI ((cnds C).length)))) (ta1_5, out1_6, ou1_7, pl1_8) hx hb hr hlocks hK hP hD hS ((if_neg c_78).symm) dX3_meanLeft_93
        · skip
          refine lv_dconst0 hx hb dX3_meanLeft_81 ?_
          refine lv_goto (tgt := 93) hx hb dX3_meanLeft_82 (by decide) ?_
          subst hQQ
          exact xe_d (v := FP.dconst0) (ta1_5, out1_6, ou1_7, pl1_8) hx hb hr hlocks hK hP hD hS ((if_pos c_78).symm) dX3_meanLeft_93
      · skip
        refine lv_iload_n hx hb dX3_meanLeft_52 rfl (lv_at hl 1 rfl) ?_
        refine lv_aload_n hx hb dX3_meanLeft_53 rfl (lv_at hl 2 rfl) ?_
        refine gWM_0_times_X3 hx hb hts hown hK hP dX3_meanLeft_54 ?_
        refine lv_iload_n hx hb dX3_meanLeft_57 rfl (lv_at hl 0 rfl) ?_
        refine ldWM_9 hx hb hK hP (by omega) dX3_meanLeft_58 ?_
        refine lv_topi (nm_r (e' := nI ((tmN C (cnds C)) (16 * t_ + i))) (rfl) ?_)
        refine lv_aload_n hx hb dX3_meanLeft_59 rfl (lv_at hl 2 rfl) ?_
        refine gWM_0_times_X3 hx hb hts hown hK hP dX3_meanLeft_60 ?_
        refine lv_iload_n hx hb dX3_meanLeft_63 rfl (lv_at hl 0 rfl) ?_
        refine ldWM_9 hx hb hK hP (by omega) dX3_meanLeft_64 ?_
        refine lv_topi (nm_r (e' := nI ((tmN C (cnds C)) (16 * t_ + i))) (rfl) ?_)
        refine nv_imul hx hb dX3_meanLeft_65 ?_
        refine nv_iadd hx hb dX3_meanLeft_66 ?_
        refine lv_istore_n (lv' := [(2, .int (nI ((sqN (tmN C (cnds C)) t_ i) + (((tmN C (cnds C)) (16 * t_ + i)) * ((tmN C (cnds C)) (16 * t_ + i)))))), (3, .int (nI (16 * t_ + i))), (0, .ref (q 0)), (1, .int (nI t_))]) hx hb dX3_meanLeft_67 rfl hl (by decide) rfl (fun ls hl => ?_)
        refine lv_iinc (v := nI (16 * t_ + i + 1)) (lv' := [(3, .int (nI (16 * t_ + i + 1))), (2, .int (nI ((sqN (tmN C (cnds C)) t_ i) + (((tmN C (cnds C)) (16 * t_ + i)) * ((tmN C (cnds C)) (16 * t_ + i)))))), (0, .ref (q 0)), (1, .int (nI t_))]) hx hb dX3_meanLeft_68 hl (k := 1) rfl (nI_add (16 * t_ + i) 1) (by decide) rfl (fun ls hl => ?_)
        refine lv_goto (tgt := 41) hx hb dX3_meanLeft_71 (by decide) ?_
        exact ih_41  (i + 1) (by omega) (by omega) _ _ hP hD hS ls (lv_sub hl [0, 1, 2, 3] rfl)
  exact lp_41 (16 - 0 + 1) 0 (Nat.lt_succ_self _) (by omega) _ _ hP hD hS ls (lv_sub hl [0, 1, 2, 3] rfl)
set_option maxHeartbeats 4000000 in
set_option maxRecDepth 100000 in
theorem mt_X3_chosen (l : Launch) (D : va_G) (ca : Nat → ClassId) (q : Nat → Nat) (th : Int32) (st : Int32) (ik : Int32) (ln : Int32) (ou : Int32) (pa : Int32) (iw : Int32) (so : Int32) (na : Int32) (nb : Int32) (fo : Int32) (nu : Int32) (al : Int32) (be : Nat → Int32) (ke : Nat → Int32) (te : Nat → Int32) (ti : Nat → Int32) (ne : Nat → Int32) (wa : Nat → Int32) (ta : Nat → Int64) (out : Nat → Int64) (pl : Nat → Int64) (lo : Nat → Int64) (sh : Nat → Int64) (le : Nat → Int64) (C : Nat → Nat) (h66 : C 66 < 2 ^ 64) (nn : Nat) : Met l yX3_chosen (ws_ yX3_chosen cX3_chosen 1 (Option.some Jvm.ClassFile.FieldType.long)) ({ frames := 0, cells := 0, slots := 0, locals := 0 } : Room) (va_Pc [.ref (q 0)] (PreW Ev0 D vwCl (TY ca) (WM ca q th st ik ln ou pa iw so na nb fo nu al (zOf C) be ke te ti ne wa ta out pl lo sh le) nn)) (va_Ql (fun (r_ : Int64) (_ : Unit) => r_ = lN (C 66)) (PostW D vwCl (TY ca) (fun (_ : Unit) => (WM ca q (nI 0) st ik ln ou pa iw so na nb fo nu al (zOf C) be ke te ti ne wa ta out pl lo sh le)) (va_A (WM ca q th st ik ln ou pa iw so na nb fo nu al (zOf C) be ke te ti ne wa ta out pl lo sh le) nn)) (va_A (WM ca q th st ik ln ou pa iw so na nb fo nu al (zOf C) be ke te ti ne wa ta out pl lo sh le) nn)) 0 0 (va_A (WM ca q th st ik ln ou pa iw so na nb fo nu al (zOf C) be ke te ti ne wa ta out pl lo sh le) nn) := by
  refine met_go (QA := fun A => va_Ql (fun (r_ : Int64) (_ : Unit) => r_ = lN (C 66)) (PostW D vwCl (TY ca) (fun (_ : Unit) => (WM ca q (nI 0) st ik ln ou pa iw so na nb fo nu al (zOf C) be ke te ti ne wa ta out pl lo sh le)) A) A) (by decide) (Nat.le_of_ble_eq_true rfl) (fun p e s m below meth c A ls QQ hQQ hx hb hr hts hown hlocks hml hA hP hK hD hE hl => ?_)
  have hown : s.vm.findClass RX3 = some m.cls := hown
  have hS : va_S A s.heap s.heap [] := va_S.rf
  have hl : lv_has ls 1 [(0, .ref (q 0))] := hl
  generalize hHe : s.heap = H at hP ⊢
  have hS : va_S A s.heap H [] := hHe ▸ hS
  generalize ([] : List Loc) = locs at hS ⊢
  refine lv_aload_n hx hb dX3_chosen_0 rfl (lv_at hl 0 rfl) ?_
  refine lv_iconst (v := nI 0) hx hb dX3_chosen_1 (by decide) ?_
  refine pWM_0_thrown_X3 hx hb hts hown hK hP hD hS dX3_chosen_2 (fun H locs hP hD hS => ?_)
  refine lv_aload_n hx hb dX3_chosen_5 rfl (lv_at hl 0 rfl) ?_
  refine gWM_0_z_X3 hx hb hts hown hK hP dX3_chosen_6 ?_
  refine lv_bipush (v := nI 67) hx hb dX3_chosen_9 (by decide) ?_
  refine ldWM_1 hx hb hK hP (by omega) dX3_chosen_11 ?_
  refine lv_topi (nm_r (e' := hi32 (C 66)) (rfl) ?_)
  refine lv_i2l hx hb dX3_chosen_12 rfl ?_
  refine lv_bipush (v := nI 32) hx hb dX3_chosen_13 (by decide) ?_
  refine lv_lshl (v := shl64 ((hi32 (C 66)).toInt64) 32) hx hb dX3_chosen_15 rfl ?_
  refine lv_aload_n hx hb dX3_chosen_16 rfl (lv_at hl 0 rfl) ?_
  refine gWM_0_z_X3 hx hb hts hown hK hP dX3_chosen_17 ?_
  refine lv_bipush (v := nI 66) hx hb dX3_chosen_20 (by decide) ?_
  refine ldWM_1 hx hb hK hP (by omega) dX3_chosen_22 ?_
  refine lv_topi (nm_r (e' := lo32 (C 66)) (rfl) ?_)
  refine lv_i2l hx hb dX3_chosen_23 rfl ?_
  refine lv_ldc2 (v := 4294967295) hx hb hown (hts _ q1995) dX3_chosen_24 ?_
  refine lv_land hx hb dX3_chosen_27 ?_
  refine lv_lor hx hb dX3_chosen_28 ?_
  subst hQQ
  exact xe_l (v := (shl64 ((hi32 (C 66)).toInt64) 32) ||| (((lo32 (C 66)).toInt64) &&& (4294967295 : Int64))) () hx hb hr hlocks hK hP hD hS (ch_64) dX3_chosen_29
