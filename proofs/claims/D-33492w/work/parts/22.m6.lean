/-! contracts of the model: looks, candidates -/
set_option maxRecDepth 100000
set_option maxHeartbeats 4000000 in
set_option maxRecDepth 100000 in
theorem mt_X3_looks (l : Launch) (D : va_G) (ca : Nat → ClassId) (q : Nat → Nat) (th : Int32) (st : Int32) (ik : Int32) (ln : Int32) (ou : Int32) (pa : Int32) (iw : Int32) (so : Int32) (na : Int32) (nb : Int32) (fo : Int32) (nu : Int32) (al : Int32) (be : Nat → Int32) (ke : Nat → Int32) (te : Nat → Int32) (ti : Nat → Int32) (ne : Nat → Int32) (wa : Nat → Int32) (ta : Nat → Int64) (out : Nat → Int64) (pl : Nat → Int64) (lo : Nat → Int64) (sh : Nat → Int64) (le : Nat → Int64) (C : Nat → Nat) (b_ : Bool) (h0 : C 0 ≤ 12) (hkd0 : ∀ k, k < 12 → C (1 + k) < 8) (hse : ∀ k, k < 12 → C (13 + k) < 6 + k ∧ C (25 + k) < 6 + k) (ho : C 37 < 2 ^ 18) (hbx : C 38 < 2 ^ 18) (hno : popc 18 (C 37) ≤ 4) (nn : Nat) : Met l yX3_looks (ws_ yX3_looks cX3_looks 6 (Option.some Jvm.ClassFile.FieldType.int)) ({ frames := 2, cells := 0, slots := 0, locals := 51 } : Room) (va_Pc [.ref (q 0), .int (bI b_)] (PreW Ev0 D vwCl (TY ca) (WM ca q th st ik ln ou pa iw so na nb fo nu al (zOf C) be ke te ti ne wa ta out pl lo sh le) nn)) (va_Qi (fun (r_ : Int32) (u_ : (Nat → Int64) × (Nat → Int64) × Int32 × (Nat → Int64)) => r_ = nI (lks C (2 * (6 + C 0)))) (PostW D vwCl (TY ca) (fun (u_ : (Nat → Int64) × (Nat → Int64) × Int32 × (Nat → Int64)) => (WM ca q (nI 0) st ik ln u_.2.2.1 pa iw so na nb fo nu al (zOf C) be ke te ti ne wa u_.1 u_.2.1 pl u_.2.2.2 sh le)) (va_A (WM ca q th st ik ln ou pa iw so na nb fo nu al (zOf C) be ke te ti ne wa ta out pl lo sh le) nn)) (va_A (WM ca q th st ik ln ou pa iw so na nb fo nu al (zOf C) be ke te ti ne wa ta out pl lo sh le) nn)) 0 0 (va_A (WM ca q th st ik ln ou pa iw so na nb fo nu al (zOf C) be ke te ti ne wa ta out pl lo sh le) nn) := by
  refine met_go (QA := fun A => va_Qi (fun (r_ : Int32) (u_ : (Nat → Int64) × (Nat → Int64) × Int32 × (Nat → Int64)) => r_ = nI (lks C (2 * (6 + C 0)))) (PostW D vwCl (TY ca) (fun (u_ : (Nat → Int64) × (Nat → Int64) × Int32 × (Nat → Int64)) => (WM ca q (nI 0) st ik ln u_.2.2.1 pa iw so na nb fo nu al (zOf C) be ke te ti ne wa u_.1 u_.2.1 pl u_.2.2.2 sh le)) A) A) (by decide) (Nat.le_of_ble_eq_true rfl) (fun p e s m below meth c A ls QQ hQQ hx hb hr hts hown hlocks hml hA hP hK hD hE hl => ?_)
  have hown : s.vm.findClass RX3 = some m.cls := hown
  have hS : va_S A s.heap s.heap [] := va_S.rf
  have hl : lv_has ls 6 [(0, .ref (q 0)), (1, .int (bI b_))] := hl
  generalize hHe : s.heap = H at hP ⊢
  have hS : va_S A s.heap H [] := hHe ▸ hS
  generalize ([] : List Loc) = locs at hS ⊢
  have hnc : no C ≤ 4 := Nat.le_trans (popc_mono (by omega)) hno
  refine lv_aload_n hx hb dX3_looks_0 rfl (lv_at hl 0 rfl) ?_
  refine lv_iconst (v := nI 0) hx hb dX3_looks_1 (by decide) ?_
  refine pWM_0_thrown_X3 hx hb hts hown hK hP hD hS dX3_looks_2 (fun H locs hP hD hS => ?_)
  refine lv_iconst (v := nI 0) hx hb dX3_looks_5 (by decide) ?_
  refine lv_istore_n (lv' := [(2, .int (nI 0)), (0, .ref (q 0)), (1, .int (bI b_))]) hx hb dX3_looks_6 rfl hl (by decide) rfl (fun ls hl => ?_)
  refine lv_iconst (v := nI 0) hx hb dX3_looks_7 (by decide) ?_
  refine lv_istore_n (lv' := [(3, .int (nI 0)), (2, .int (nI 0)), (0, .ref (q 0)), (1, .int (bI b_))]) hx hb dX3_looks_8 rfl hl (by decide) rfl (fun ls hl => ?_)
  have lp_9 : ∀ (fu_9 : Nat) (f : Nat) (ta_ : Nat → Int64) (out_ : Nat → Int64) (ou_ : Int32) (lo_ : Nat → Int64), 2 * (6 + C 0) - f < fu_9 → (f ≤ 2 * (6 + C 0)) → (LoOk C f lo_) → ∀ (H : Heap) (locs : List Loc), va_P D vwCl (WM ca q (nI 0) st ik ln ou_ pa iw so na nb fo nu al (zOf C) be ke te ti ne wa ta_ out_ pl lo_ sh le) H → va_D A (WM ca q (nI 0) st ik ln ou_ pa iw so na nb fo nu al (zOf C) be ke te ti ne wa ta_ out_ pl lo_ sh le) → va_S A s.heap H locs → ∀ (ls : Array Slot), lv_has ls 6 [(3, .int (nI f)), (2, .int (nI (lks C f))), (0, .ref (q 0)), (1, .int (bI b_))] → W p l e ({ frames := 2, cells := 0, slots := 0, locals := 51 } : Room) s m ([.ref (q 0), .int (bI b_)] : List Value).toArray below meth c H locs 0 0 QQ (F0 m 9 ls []) := by
    intro fu_9
    induction fu_9 with
    | zero => intro f ta_ out_ ou_ lo_ hfu; exact absurd hfu (Nat.not_lt_zero _)
    | succ fu_9 ih_9 =>
      intro f ta_ out_ ou_ lo_ hfu hf hLo H locs hP hD hS ls hl
      refine lv_iload_n hx hb dX3_looks_9 rfl (lv_at hl 0 rfl) ?_
      refine lv_iconst (v := nI 2) hx hb dX3_looks_10 (by decide) ?_
      refine lv_aload_n hx hb dX3_looks_11 rfl (lv_at hl 2 rfl) ?_
      refine xc_i (xr_V (b := q 0) (ci := 2) (q0 := 0) (As := []) (rest := [.int (nI 2), .int (nI f)]) (mt_X3_lines l D ca q (nI 0) st ik ln ou_ pa iw so na nb fo nu al be ke te ti ne wa ta_ out_ pl lo_ sh le C  H.size) ⟨hx, hb, hml, hown, hts⟩ (cwV 0 hts (lw_V q1696 q1698 qs45 q87 q1699) rfl rfl rfl (by decide +kernel) ⟨Nat.le_of_ble_eq_true rfl, Nat.le_of_ble_eq_true rfl⟩) Ev0_ok hE hK hS (Cut.all hP hD hS hA) rfl rfl rfl hl.1 rfl (Nat.le_of_ble_eq_true rfl) dX3_looks_12 ⟨Nat.le_of_ble_eq_true rfl, Nat.le_of_ble_eq_true rfl⟩) hS (Cut.all hP hD hS hA) (fun r_1 u_2 H locs hq_12 hP hD hS => ?_)
      have hP : va_P D vwCl (WM ca q (nI 0) st ik ln ou_ pa iw so na nb fo nu al (zOf C) be ke te ti ne wa ta_ out_ pl lo_ sh le) H := hP
      have hD : va_D A (WM ca q (nI 0) st ik ln ou_ pa iw so na nb fo nu al (zOf C) be ke te ti ne wa ta_ out_ pl lo_ sh le) := hD
      have hp_12 : r_1 = nI (6 + C 0) := hq_12
      clear hq_12
      obtain rfl := hp_12
      refine nv_imul hx hb dX3_looks_15 ?_
      refine nv_icmp_ge (tgt := 216) hx hb dX3_looks_16 (by decide) (by omega) (by omega) (fun c_16 => ?_) (fun c_16 => ?_)
      · skip
        have e_ : 2 * (6 + C 0) = f := Eq.symm (by omega)
        subst e_
        refine lv_iload_n hx hb dX3_looks_216 rfl (lv_at hl 1 rfl) ?_
        subst hQQ
        exact xe_i (v := nI (lks C (2 * (6 + C 0)))) (ta_, out_, ou_, lo_) hx hb hr hlocks hK hP hD hS (rfl) dX3_looks_217
      · skip
        refine lv_aload_n hx hb dX3_looks_19 rfl (lv_at hl 2 rfl) ?_
        refine lv_iconst (v := fI 0) hx hb dX3_looks_20 (by decide) ?_
        refine lv_iload_n hx hb dX3_looks_21 rfl (lv_at hl 0 rfl) ?_
        refine lv_topi (nm_r (e' := fI (f + 1)) (fI_S f) ?_)
        refine xc_v (xr_V (b := q 0) (ci := 2) (q0 := 0) (As := [.int (fI 0), .int (fI (f + 1))]) (rest := []) (mt_X3_lay l D ca q (nI 0) st ik ln ou_ pa iw so na nb fo nu al be ke te ti ne wa ta_ out_ pl lo_ sh le C 0 (f + 1) (by first | assumption | omega | (simp only [updN, forgetC, changedC]; (repeat' split) <;> omega)) (by first | assumption | omega | (simp only [updN, forgetC, changedC]; (repeat' split) <;> omega)) (by first | assumption | omega | (simp only [updN, forgetC, changedC]; (repeat' split) <;> omega)) (by first | assumption | omega | (simp only [updN, forgetC, changedC]; (repeat' split) <;> omega)) (by first | assumption | omega | (simp only [updN, forgetC, changedC]; (repeat' split) <;> omega)) (by first | assumption | omega | (simp only [updN, forgetC, changedC]; (repeat' split) <;> omega)) (by first | assumption | omega | (simp only [updN, forgetC, changedC]; (repeat' split) <;> omega)) (by first | assumption | omega | (simp only [updN, forgetC, changedC]; (repeat' split) <;> omega)) H.size) ⟨hx, hb, hml, hown, hts⟩ (cwV 2 hts (lw_V q1781 q1783 qs56 q87 q1784) rfl rfl rfl (by decide +kernel) ⟨Nat.le_of_ble_eq_true rfl, Nat.le_of_ble_eq_true rfl⟩) Ev0_ok hE hK hS (Cut.all hP hD hS hA) rfl rfl rfl hl.1 rfl (Nat.le_of_ble_eq_true rfl) dX3_looks_22 ⟨Nat.le_of_ble_eq_true rfl, Nat.le_of_ble_eq_true rfl⟩) hS (Cut.all hP hD hS hA) (fun u_5 H locs hq_22 hP hD hS => ?_)
        have hP : va_P D vwCl (WM ca q (nI 0) st ik ln (nI (no C)) pa iw so na nb fo nu al (zOf C) be ke te ti ne wa (fillL (6 + C 0) (tb C 0 (f + 1)) ta_) (outF C (tb C 0 (f + 1)) (6 + C 0) out_) pl lo_ sh le) H := hP
        have hD : va_D A (WM ca q (nI 0) st ik ln (nI (no C)) pa iw so na nb fo nu al (zOf C) be ke te ti ne wa (fillL (6 + C 0) (tb C 0 (f + 1)) ta_) (outF C (tb C 0 (f + 1)) (6 + C 0) out_) pl lo_ sh le) := hD
        refine lv_iconst (v := nI 0) hx hb dX3_looks_25 (by decide) ?_
        refine lv_istore (lv' := [(4, .int (nI 0)), (3, .int (nI f)), (2, .int (nI (lks C f))), (0, .ref (q 0)), (1, .int (bI b_))]) hx hb dX3_looks_26 hl (by decide) rfl (fun ls hl => ?_)
        have lp_28 : ∀ (fu_28 : Nat) (i : Nat) (lo_ : Nat → Int64), 4 - i < fu_28 → (i ≤ 4) → (LoUp C f i lo_) → ∀ (H : Heap) (locs : List Loc), va_P D vwCl (WM ca q (nI 0) st ik ln (nI (no C)) pa iw so na nb fo nu al (zOf C) be ke te ti ne wa (fillL (6 + C 0) (tb C 0 (f + 1)) ta_) (outF C (tb C 0 (f + 1)) (6 + C 0) out_) pl lo_ sh le) H → va_D A (WM ca q (nI 0) st ik ln (nI (no C)) pa iw so na nb fo nu al (zOf C) be ke te ti ne wa (fillL (6 + C 0) (tb C 0 (f + 1)) ta_) (outF C (tb C 0 (f + 1)) (6 + C 0) out_) pl lo_ sh le) → va_S A s.heap H locs → ∀ (ls : Array Slot), lv_has ls 6 [(4, .int (nI i)), (3, .int (nI f)), (2, .int (nI (lks C f))), (0, .ref (q 0)), (1, .int (bI b_))] → W p l e ({ frames := 2, cells := 0, slots := 0, locals := 51 } : Room) s m ([.ref (q 0), .int (bI b_)] : List Value).toArray below meth c H locs 0 0 QQ (F0 m 28 ls []) := by
          intro fu_28
          induction fu_28 with
          | zero => intro i lo_ hfu; exact absurd hfu (Nat.not_lt_zero _)
          | succ fu_28 ih_28 =>
            intro i lo_ hfu hi hLu H locs hP hD hS ls hl
            refine lv_iload hx hb dX3_looks_28 (lv_at hl 0 rfl) ?_
            refine lv_iconst (v := nI 4) hx hb dX3_looks_30 (by decide) ?_
            refine nv_icmp_ge (tgt := 71) hx hb dX3_looks_31 (by decide) (by omega) (by omega) (fun c_31 => ?_) (fun c_31 => ?_)
            · skip
              have e_ : 4 = i := Eq.symm (by omega)
              subst e_
              have hLo : LoOk C (f + 1) lo_ := LoUp_4 hLu
              have hl4 := hLo
              refine lv_iconst (v := nI 1) hx hb dX3_looks_71 (by decide) ?_
              refine lv_istore (lv' := [(4, .int (nI 1)), (3, .int (nI f)), (2, .int (nI (lks C f))), (0, .ref (q 0)), (1, .int (bI b_))]) hx hb dX3_looks_72 hl (by decide) rfl (fun ls hl => ?_)
              refine lv_iconst (v := nI 0) hx hb dX3_looks_74 (by decide) ?_
              refine lv_istore (lv' := [(5, .int (nI 0)), (4, .int (nI 1)), (3, .int (nI f)), (2, .int (nI (lks C f))), (0, .ref (q 0)), (1, .int (bI b_))]) hx hb dX3_looks_75 hl (by decide) rfl (fun ls hl => ?_)
              have lp_77 : ∀ (fu_77 : Nat) (e_ : Nat), f - e_ < fu_77 → (e_ ≤ f) → ∀ (H : Heap) (locs : List Loc), va_P D vwCl (WM ca q (nI 0) st ik ln (nI (no C)) pa iw so na nb fo nu al (zOf C) be ke te ti ne wa (fillL (6 + C 0) (tb C 0 (f + 1)) ta_) (outF C (tb C 0 (f + 1)) (6 + C 0) out_) pl lo_ sh le) H → va_D A (WM ca q (nI 0) st ik ln (nI (no C)) pa iw so na nb fo nu al (zOf C) be ke te ti ne wa (fillL (6 + C 0) (tb C 0 (f + 1)) ta_) (outF C (tb C 0 (f + 1)) (6 + C 0) out_) pl lo_ sh le) → va_S A s.heap H locs → ∀ (ls : Array Slot), lv_has ls 6 [(5, .int (nI e_)), (4, .int (bI (lnw C f e_))), (3, .int (nI f)), (2, .int (nI (lks C f))), (0, .ref (q 0)), (1, .int (bI b_))] → W p l e ({ frames := 2, cells := 0, slots := 0, locals := 51 } : Room) s m ([.ref (q 0), .int (bI b_)] : List Value).toArray below meth c H locs 0 0 QQ (F0 m 77 ls []) := by
                intro fu_77
                induction fu_77 with
                | zero => intro e_ hfu; exact absurd hfu (Nat.not_lt_zero _)
                | succ fu_77 ih_77 =>
                  intro e_ hfu he_ H locs hP hD hS ls hl
                  refine lv_iload hx hb dX3_looks_77 (lv_at hl 0 rfl) ?_
                  refine lv_iload_n hx hb dX3_looks_79 rfl (lv_at hl 2 rfl) ?_
                  refine nv_icmp_ge (tgt := 197) hx hb dX3_looks_80 (by decide) (by omega) (by omega) (fun c_80 => ?_) (fun c_80 => ?_)
                  · skip
                    have e_ : f = e_ := Eq.symm (by omega)
                    subst e_
                    refine lv_iload_n hx hb dX3_looks_197 rfl (lv_at hl 3 rfl) ?_
                    refine lv_iload hx hb dX3_looks_198 (lv_at hl 1 rfl) ?_
                    refine nv_ifb_eq (tgt := 207) hx hb dX3_looks_200 (by decide) (fun c_200 => ?_) (fun c_200 => ?_)
                    · skip
                      refine lv_iconst (v := nI 0) hx hb dX3_looks_207 (by decide) ?_
                      refine lv_topi (nm_r (e' := nI (b2n (lnw C f f))) (congrArg nI (by rw [c_200]; rfl)) ?_)
                      refine nv_iadd hx hb dX3_looks_208 ?_
                      refine lv_istore_n (lv' := [(2, .int (nI ((lks C f) + (b2n (lnw C f f))))), (5, .int (nI f)), (4, .int (bI (lnw C f f))), (3, .int (nI f)), (0, .ref (q 0)), (1, .int (bI b_))]) hx hb dX3_looks_209 rfl hl (by decide) rfl (fun ls hl => ?_)
                      refine lv_iinc (v := nI (f + 1)) (lv' := [(3, .int (nI (f + 1))), (2, .int (nI ((lks C f) + (b2n (lnw C f f))))), (5, .int (nI f)), (4, .int (bI (lnw C f f))), (0, .ref (q 0)), (1, .int (bI b_))]) hx hb dX3_looks_210 hl (k := 3) rfl (nI_add f 1) (by decide) rfl (fun ls hl => ?_)
                      refine lv_goto (tgt := 9) hx hb dX3_looks_213 (by decide) ?_
                      exact ih_9  (f + 1) (fillL (6 + C 0) (tb C 0 (f + 1)) ta_) (outF C (tb C 0 (f + 1)) (6 + C 0) out_) (nI (no C)) lo_ (by omega) (by omega) hLo _ _ hP hD hS ls (lv_sub hl [0, 1, 4, 5] rfl)
                    · skip
                      refine lv_iconst (v := nI 1) hx hb dX3_looks_203 (by decide) ?_
                      refine lv_goto (tgt := 208) hx hb dX3_looks_204 (by decide) ?_
                      refine lv_topi (nm_r (e' := nI (b2n (lnw C f f))) (congrArg nI (by rw [c_200]; rfl)) ?_)
                      refine nv_iadd hx hb dX3_looks_208 ?_
                      refine lv_istore_n (lv' := [(2, .int (nI ((lks C f) + (b2n (lnw C f f))))), (5, .int (nI f)), (4, .int (bI (lnw C f f))), (3, .int (nI f)), (0, .ref (q 0)), (1, .int (bI b_))]) hx hb dX3_looks_209 rfl hl (by decide) rfl (fun ls hl => ?_)
                      refine lv_iinc (v := nI (f + 1)) (lv' := [(3, .int (nI (f + 1))), (2, .int (nI ((lks C f) + (b2n (lnw C f f))))), (5, .int (nI f)), (4, .int (bI (lnw C f f))), (0, .ref (q 0)), (1, .int (bI b_))]) hx hb dX3_looks_210 hl (k := 3) rfl (nI_add f 1) (by decide) rfl (fun ls hl => ?_)
                      refine lv_goto (tgt := 9) hx hb dX3_looks_213 (by decide) ?_
                      exact ih_9  (f + 1) (fillL (6 + C 0) (tb C 0 (f + 1)) ta_) (outF C (tb C 0 (f + 1)) (6 + C 0) out_) (nI (no C)) lo_ (by omega) (by omega) hLo _ _ hP hD hS ls (lv_sub hl [0, 1, 4, 5] rfl)
                  · skip
                    refine lv_iload hx hb dX3_looks_83 (lv_at hl 1 rfl) ?_
                    refine nv_ifb_eq (tgt := 188) hx hb dX3_looks_85 (by decide) (fun c_85 => ?_) (fun c_85 => ?_)
                    · skip
                      refine lv_iconst (v := nI 0) hx hb dX3_looks_188 (by decide) ?_
                      refine lv_topi (nm_r (e' := bI (lnw C f (e_ + 1))) (show bI false = _ from congrArg bI (by simp only [lnw]; have h4 := lkx_4 (C := C) (f := f) (e := e_) hnc; cases hz : lkx C f e_ <;> simp_all)) ?_)
                      refine lv_istore (lv' := [(4, .int (bI (lnw C f (e_ + 1)))), (5, .int (nI e_)), (3, .int (nI f)), (2, .int (nI (lks C f))), (0, .ref (q 0)), (1, .int (bI b_))]) hx hb dX3_looks_189 hl (by decide) rfl (fun ls hl => ?_)
                      refine lv_iinc (v := nI (e_ + 1)) (lv' := [(5, .int (nI (e_ + 1))), (4, .int (bI (lnw C f (e_ + 1)))), (3, .int (nI f)), (2, .int (nI (lks C f))), (0, .ref (q 0)), (1, .int (bI b_))]) hx hb dX3_looks_191 hl (k := 1) rfl (nI_add e_ 1) (by decide) rfl (fun ls hl => ?_)
                      refine lv_goto (tgt := 77) hx hb dX3_looks_194 (by decide) ?_
                      exact ih_77  (e_ + 1) (by omega) (by omega) _ _ hP hD hS ls (lv_sub hl [0, 1, 2, 3, 4, 5] rfl)
                    · skip
                      refine lv_aload_n hx hb dX3_looks_88 rfl (lv_at hl 4 rfl) ?_
                      refine gWM_0_look_X3 hx hb hts hown hK hP dX3_looks_89 ?_
                      refine lv_iconst (v := nI 4) hx hb dX3_looks_92 (by decide) ?_
                      refine lv_iload hx hb dX3_looks_93 (lv_at hl 0 rfl) ?_
                      refine nv_imul hx hb dX3_looks_95 ?_
                      refine ldWM_8 hx hb hK hP (by omega) dX3_looks_96 ?_
                      refine lv_topl (nm_r (e' := lo0 C e_ 0) (hLo e_ (by omega) 0 (by decide)) ?_)
                      refine lv_aload_n hx hb dX3_looks_97 rfl (lv_at hl 4 rfl) ?_
                      refine gWM_0_look_X3 hx hb hts hown hK hP dX3_looks_98 ?_
                      refine lv_iconst (v := nI 4) hx hb dX3_looks_101 (by decide) ?_
                      refine lv_iload_n hx hb dX3_looks_102 rfl (lv_at hl 2 rfl) ?_
                      refine nv_imul hx hb dX3_looks_103 ?_
                      refine ldWM_8 hx hb hK hP (by omega) dX3_looks_104 ?_
                      refine lv_topl (nm_r (e' := lo0 C f 0) (hLo f (by omega) 0 (by decide)) ?_)
                      refine nv_lcmp_ne (tgt := 184) hx hb dX3_looks_105 dX3_looks_106 (by decide) (fun c_105 => ?_) (fun c_105 => ?_)
                      · skip
                        refine lv_iconst (v := nI 1) hx hb dX3_looks_184 (by decide) ?_
                        refine lv_goto (tgt := 189) hx hb dX3_looks_185 (by decide) ?_
                        refine lv_topi (nm_r (e' := bI (lnw C f (e_ + 1))) (show bI true = _ from congrArg bI (by simp only [lnw]; have h4 := lkx_4 (C := C) (f := f) (e := e_) hnc; cases hz : lkx C f e_ <;> simp_all)) ?_)
                        refine lv_istore (lv' := [(4, .int (bI (lnw C f (e_ + 1)))), (5, .int (nI e_)), (3, .int (nI f)), (2, .int (nI (lks C f))), (0, .ref (q 0)), (1, .int (bI b_))]) hx hb dX3_looks_189 hl (by decide) rfl (fun ls hl => ?_)
                        refine lv_iinc (v := nI (e_ + 1)) (lv' := [(5, .int (nI (e_ + 1))), (4, .int (bI (lnw C f (e_ + 1)))), (3, .int (nI f)), (2, .int (nI (lks C f))), (0, .ref (q 0)), (1, .int (bI b_))]) hx hb dX3_looks_191 hl (k := 1) rfl (nI_add e_ 1) (by decide) rfl (fun ls hl => ?_)
                        refine lv_goto (tgt := 77) hx hb dX3_looks_194 (by decide) ?_
                        exact ih_77  (e_ + 1) (by omega) (by omega) _ _ hP hD hS ls (lv_sub hl [0, 1, 2, 3, 4, 5] rfl)
                      · skip
                        refine lv_aload_n hx hb dX3_looks_109 rfl (lv_at hl 4 rfl) ?_
                        refine gWM_0_look_X3 hx hb hts hown hK hP dX3_looks_110 ?_
                        refine lv_iconst (v := nI 4) hx hb dX3_looks_113 (by decide) ?_
                        refine lv_iload hx hb dX3_looks_114 (lv_at hl 0 rfl) ?_
                        refine nv_imul hx hb dX3_looks_116 ?_
                        refine lv_iconst (v := nI 1) hx hb dX3_looks_117 (by decide) ?_
                        refine nv_iadd hx hb dX3_looks_118 ?_
                        refine ldWM_8 hx hb hK hP (by omega) dX3_looks_119 ?_
                        refine lv_topl (nm_r (e' := lo0 C e_ 1) (hLo e_ (by omega) 1 (by decide)) ?_)
                        refine lv_aload_n hx hb dX3_looks_120 rfl (lv_at hl 4 rfl) ?_
                        refine gWM_0_look_X3 hx hb hts hown hK hP dX3_looks_121 ?_
                        refine lv_iconst (v := nI 4) hx hb dX3_looks_124 (by decide) ?_
                        refine lv_iload_n hx hb dX3_looks_125 rfl (lv_at hl 2 rfl) ?_
                        refine nv_imul hx hb dX3_looks_126 ?_
                        refine lv_iconst (v := nI 1) hx hb dX3_looks_127 (by decide) ?_
                        refine nv_iadd hx hb dX3_looks_128 ?_
                        refine ldWM_8 hx hb hK hP (by omega) dX3_looks_129 ?_
                        refine lv_topl (nm_r (e' := lo0 C f 1) (hLo f (by omega) 1 (by decide)) ?_)
                        refine nv_lcmp_ne (tgt := 184) hx hb dX3_looks_130 dX3_looks_131 (by decide) (fun c_130 => ?_) (fun c_130 => ?_)
                        · skip
                          refine lv_iconst (v := nI 1) hx hb dX3_looks_184 (by decide) ?_
                          refine lv_goto (tgt := 189) hx hb dX3_looks_185 (by decide) ?_
                          refine lv_topi (nm_r (e' := bI (lnw C f (e_ + 1))) (show bI true = _ from congrArg bI (by simp only [lnw]; have h4 := lkx_4 (C := C) (f := f) (e := e_) hnc; cases hz : lkx C f e_ <;> simp_all)) ?_)
                          refine lv_istore (lv' := [(4, .int (bI (lnw C f (e_ + 1)))), (5, .int (nI e_)), (3, .int (nI f)), (2, .int (nI (lks C f))), (0, .ref (q 0)), (1, .int (bI b_))]) hx hb dX3_looks_189 hl (by decide) rfl (fun ls hl => ?_)
                          refine lv_iinc (v := nI (e_ + 1)) (lv' := [(5, .int (nI (e_ + 1))), (4, .int (bI (lnw C f (e_ + 1)))), (3, .int (nI f)), (2, .int (nI (lks C f))), (0, .ref (q 0)), (1, .int (bI b_))]) hx hb dX3_looks_191 hl (k := 1) rfl (nI_add e_ 1) (by decide) rfl (fun ls hl => ?_)
                          refine lv_goto (tgt := 77) hx hb dX3_looks_194 (by decide) ?_
                          exact ih_77  (e_ + 1) (by omega) (by omega) _ _ hP hD hS ls (lv_sub hl [0, 1, 2, 3, 4, 5] rfl)
                        · skip
                          refine lv_aload_n hx hb dX3_looks_134 rfl (lv_at hl 4 rfl) ?_
                          refine gWM_0_look_X3 hx hb hts hown hK hP dX3_looks_135 ?_
                          refine lv_iconst (v := nI 4) hx hb dX3_looks_138 (by decide) ?_
                          refine lv_iload hx hb dX3_looks_139 (lv_at hl 0 rfl) ?_
                          refine nv_imul hx hb dX3_looks_141 ?_
                          refine lv_iconst (v := nI 2) hx hb dX3_looks_142 (by decide) ?_
                          refine nv_iadd hx hb dX3_looks_143 ?_
                          refine ldWM_8 hx hb hK hP (by omega) dX3_looks_144 ?_
                          refine lv_topl (nm_r (e' := lo0 C e_ 2) (hLo e_ (by omega) 2 (by decide)) ?_)
                          refine lv_aload_n hx hb dX3_looks_145 rfl (lv_at hl 4 rfl) ?_
                          refine gWM_0_look_X3 hx hb hts hown hK hP dX3_looks_146 ?_
                          refine lv_iconst (v := nI 4) hx hb dX3_looks_149 (by decide) ?_
                          refine lv_iload_n hx hb dX3_looks_150 rfl (lv_at hl 2 rfl) ?_
                          refine nv_imul hx hb dX3_looks_151 ?_
                          refine lv_iconst (v := nI 2) hx hb dX3_looks_152 (by decide) ?_
                          refine nv_iadd hx hb dX3_looks_153 ?_
                          refine ldWM_8 hx hb hK hP (by omega) dX3_looks_154 ?_
                          refine lv_topl (nm_r (e' := lo0 C f 2) (hLo f (by omega) 2 (by decide)) ?_)
                          refine nv_lcmp_ne (tgt := 184) hx hb dX3_looks_155 dX3_looks_156 (by decide) (fun c_155 => ?_) (fun c_155 => ?_)
                          · skip
                            refine lv_iconst (v := nI 1) hx hb dX3_looks_184 (by decide) ?_
                            refine lv_goto (tgt := 189) hx hb dX3_looks_185 (by decide) ?_
                            refine lv_topi (nm_r (e' := bI (lnw C f (e_ + 1))) (show bI true = _ from congrArg bI (by simp only [lnw]; have h4 := lkx_4 (C := C) (f := f) (e := e_) hnc; cases hz : lkx C f e_ <;> simp_all)) ?_)
                            refine lv_istore (lv' := [(4, .int (bI (lnw C f (e_ + 1)))), (5, .int (nI e_)), (3, .int (nI f)), (2, .int (nI (lks C f))), (0, .ref (q 0)), (1, .int (bI b_))]) hx hb dX3_looks_189 hl (by decide) rfl (fun ls hl => ?_)
                            refine lv_iinc (v := nI (e_ + 1)) (lv' := [(5, .int (nI (e_ + 1))), (4, .int (bI (lnw C f (e_ + 1)))), (3, .int (nI f)), (2, .int (nI (lks C f))), (0, .ref (q 0)), (1, .int (bI b_))]) hx hb dX3_looks_191 hl (k := 1) rfl (nI_add e_ 1) (by decide) rfl (fun ls hl => ?_)
                            refine lv_goto (tgt := 77) hx hb dX3_looks_194 (by decide) ?_
                            exact ih_77  (e_ + 1) (by omega) (by omega) _ _ hP hD hS ls (lv_sub hl [0, 1, 2, 3, 4, 5] rfl)
                          · skip
                            refine lv_aload_n hx hb dX3_looks_159 rfl (lv_at hl 4 rfl) ?_
                            refine gWM_0_look_X3 hx hb hts hown hK hP dX3_looks_160 ?_
                            refine lv_iconst (v := nI 4) hx hb dX3_looks_163 (by decide) ?_
                            refine lv_iload hx hb dX3_looks_164 (lv_at hl 0 rfl) ?_
                            refine nv_imul hx hb dX3_looks_166 ?_
                            refine lv_iconst (v := nI 3) hx hb dX3_looks_167 (by decide) ?_
                            refine nv_iadd hx hb dX3_looks_168 ?_
                            refine ldWM_8 hx hb hK hP (by omega) dX3_looks_169 ?_
                            refine lv_topl (nm_r (e' := lo0 C e_ 3) (hLo e_ (by omega) 3 (by decide)) ?_)
                            refine lv_aload_n hx hb dX3_looks_170 rfl (lv_at hl 4 rfl) ?_
                            refine gWM_0_look_X3 hx hb hts hown hK hP dX3_looks_171 ?_
                            refine lv_iconst (v := nI 4) hx hb dX3_looks_174 (by decide) ?_
                            refine lv_iload_n hx hb dX3_looks_175 rfl (lv_at hl 2 rfl) ?_
                            refine nv_imul hx hb dX3_looks_176 ?_
                            refine lv_iconst (v := nI 3) hx hb dX3_looks_177 (by decide) ?_
                            refine nv_iadd hx hb dX3_looks_178 ?_
                            refine ldWM_8 hx hb hK hP (by omega) dX3_looks_179 ?_
                            refine lv_topl (nm_r (e' := lo0 C f 3) (hLo f (by omega) 3 (by decide)) ?_)
                            refine nv_lcmp_eq (tgt := 188) hx hb dX3_looks_180 dX3_looks_181 (by decide) (fun c_180 => ?_) (fun c_180 => ?_)
                            · skip
                              refine lv_iconst (v := nI 0) hx hb dX3_looks_188 (by decide) ?_
                              refine lv_topi (nm_r (e' := bI (lnw C f (e_ + 1))) (show bI false = _ from congrArg bI (by simp only [lnw]; have h4 := lkx_4 (C := C) (f := f) (e := e_) hnc; cases hz : lkx C f e_ <;> simp_all)) ?_)
                              refine lv_istore (lv' := [(4, .int (bI (lnw C f (e_ + 1)))), (5, .int (nI e_)), (3, .int (nI f)), (2, .int (nI (lks C f))), (0, .ref (q 0)), (1, .int (bI b_))]) hx hb dX3_looks_189 hl (by decide) rfl (fun ls hl => ?_)
                              refine lv_iinc (v := nI (e_ + 1)) (lv' := [(5, .int (nI (e_ + 1))), (4, .int (bI (lnw C f (e_ + 1)))), (3, .int (nI f)), (2, .int (nI (lks C f))), (0, .ref (q 0)), (1, .int (bI b_))]) hx hb dX3_looks_191 hl (k := 1) rfl (nI_add e_ 1) (by decide) rfl (fun ls hl => ?_)
                              refine lv_goto (tgt := 77) hx hb dX3_looks_194 (by decide) ?_
                              exact ih_77  (e_ + 1) (by omega) (by omega) _ _ hP hD hS ls (lv_sub hl [0, 1, 2, 3, 4, 5] rfl)
                            · skip
                              refine lv_iconst (v := nI 1) hx hb dX3_looks_184 (by decide) ?_
                              refine lv_goto (tgt := 189) hx hb dX3_looks_185 (by decide) ?_
                              refine lv_topi (nm_r (e' := bI (lnw C f (e_ + 1))) (show bI true = _ from congrArg bI (by simp only [lnw]; have h4 := lkx_4 (C := C) (f := f) (e := e_) hnc; cases hz : lkx C f e_ <;> simp_all)) ?_)
                              refine lv_istore (lv' := [(4, .int (bI (lnw C f (e_ + 1)))), (5, .int (nI e_)), (3, .int (nI f)), (2, .int (nI (lks C f))), (0, .ref (q 0)), (1, .int (bI b_))]) hx hb dX3_looks_189 hl (by decide) rfl (fun ls hl => ?_)
                              refine lv_iinc (v := nI (e_ + 1)) (lv' := [(5, .int (nI (e_ + 1))), (4, .int (bI (lnw C f (e_ + 1)))), (3, .int (nI f)), (2, .int (nI (lks C f))), (0, .ref (q 0)), (1, .int (bI b_))]) hx hb dX3_looks_191 hl (k := 1) rfl (nI_add e_ 1) (by decide) rfl (fun ls hl => ?_)
                              refine lv_goto (tgt := 77) hx hb dX3_looks_194 (by decide) ?_
                              exact ih_77  (e_ + 1) (by omega) (by omega) _ _ hP hD hS ls (lv_sub hl [0, 1, 2, 3, 4, 5] rfl)
              have hl : lv_has ls 6 [(5, .int (nI 0)), (4, .int (bI (lnw C f 0))), (3, .int (nI f)), (2, .int (nI (lks C f))), (0, .ref (q 0)), (1, .int (bI b_))] := (congrArg (fun x_ => lv_has ls 6 [(5, .int (nI 0)), (4, .int x_), (3, .int (nI f)), (2, .int (nI (lks C f))), (0, .ref (q 0)), (1, .int (bI b_))]) (show nI 1 = bI (lnw C f 0) from rfl)).mp hl
              exact lp_77 (f - 0 + 1) 0 (Nat.lt_succ_self _) (by omega) _ _ hP hD hS ls (lv_sub hl [0, 1, 2, 3, 4, 5] rfl)
            · skip
              refine lv_aload_n hx hb dX3_looks_34 rfl (lv_at hl 3 rfl) ?_
              refine gWM_0_look_X3 hx hb hts hown hK hP dX3_looks_35 ?_
              refine lv_iconst (v := nI 4) hx hb dX3_looks_38 (by decide) ?_
              refine lv_iload_n hx hb dX3_looks_39 rfl (lv_at hl 1 rfl) ?_
              refine nv_imul hx hb dX3_looks_40 ?_
              refine lv_iload hx hb dX3_looks_41 (lv_at hl 0 rfl) ?_
              refine nv_iadd hx hb dX3_looks_43 ?_
              refine lv_iload hx hb dX3_looks_44 (lv_at hl 0 rfl) ?_
              refine lv_aload_n hx hb dX3_looks_46 rfl (lv_at hl 3 rfl) ?_
              refine gWM_0_outs_X3 hx hb hts hown hK hP dX3_looks_47 ?_
              refine nv_icmp_ge (tgt := 63) hx hb dX3_looks_50 (by decide) (by omega) (by omega) (fun c_50 => ?_) (fun c_50 => ?_)
              · skip
                refine lv_lconst (v := lN 0) hx hb dX3_looks_63 (by decide) ?_
                refine stWM_8 hx hb hK hP hD hS (by omega) dX3_looks_64 (fun H locs hP hD hS => ?_)
                refine lv_iinc (v := nI (i + 1)) (lv' := [(4, .int (nI (i + 1))), (3, .int (nI f)), (2, .int (nI (lks C f))), (0, .ref (q 0)), (1, .int (bI b_))]) hx hb dX3_looks_65 hl (k := 0) rfl (nI_add i 1) (by decide) rfl (fun ls hl => ?_)
                refine lv_goto (tgt := 28) hx hb dX3_looks_68 (by decide) ?_
                exact ih_28  (i + 1) (vp_updL lo_ ((4 * f) + i) (lN 0)) (by omega) (by omega) (LoUp_s hLu (by omega) (by unfold lo0; first | (rw [if_pos (by omega)]) | (rw [if_neg (by omega)]))) _ _ hP hD hS ls (lv_sub hl [0, 1, 2, 3, 4] rfl)
              · skip
                refine lv_aload_n hx hb dX3_looks_53 rfl (lv_at hl 3 rfl) ?_
                refine gWM_0_out_X3 hx hb hts hown hK hP dX3_looks_54 ?_
                refine lv_iload hx hb dX3_looks_57 (lv_at hl 0 rfl) ?_
                refine ldWM_6 hx hb hK hP (by omega) dX3_looks_59 ?_
                refine lv_topl (nm_r (e' := ou0 C (tb C 0 (f + 1)) i) (ou0_at (by omega)) ?_)
                refine lv_goto (tgt := 64) hx hb dX3_looks_60 (by decide) ?_
                refine stWM_8 hx hb hK hP hD hS (by omega) dX3_looks_64 (fun H locs hP hD hS => ?_)
                refine lv_iinc (v := nI (i + 1)) (lv' := [(4, .int (nI (i + 1))), (3, .int (nI f)), (2, .int (nI (lks C f))), (0, .ref (q 0)), (1, .int (bI b_))]) hx hb dX3_looks_65 hl (k := 0) rfl (nI_add i 1) (by decide) rfl (fun ls hl => ?_)
                refine lv_goto (tgt := 28) hx hb dX3_looks_68 (by decide) ?_
                exact ih_28  (i + 1) (vp_updL lo_ ((4 * f) + i) (ou0 C (tb C 0 (f + 1)) i)) (by omega) (by omega) (LoUp_s hLu (by omega) (by unfold lo0; first | (rw [if_pos (by omega)]) | (rw [if_neg (by omega)]))) _ _ hP hD hS ls (lv_sub hl [0, 1, 2, 3, 4] rfl)
        exact lp_28 (4 - 0 + 1) 0 lo_ (Nat.lt_succ_self _) (by omega) (LoUp_0 hLo) _ _ hP hD hS ls (lv_sub hl [0, 1, 2, 3, 4] rfl)
  exact lp_9 (2 * (6 + C 0) - 0 + 1) 0 ta out ou lo (Nat.lt_succ_self _) (by omega) (fun _ h => absurd h (Nat.not_lt_zero _)) _ _ hP hD hS ls (lv_sub hl [0, 1, 2, 3] rfl)
set_option maxHeartbeats 4000000 in
set_option maxRecDepth 100000 in
theorem mt_X3_inputsOf_vals (l : Launch) (D : va_G) (ca : Nat → ClassId) (q : Nat → Nat) (th : Int32) (st : Int32) (ik : Int32) (ln : Int32) (ou : Int32) (pa : Int32) (iw : Int32) (so : Int32) (na : Int32) (nb : Int32) (fo : Int32) (nu : Int32) (al : Int32) (be : Nat → Int32) (ke : Nat → Int32) (te : Nat → Int32) (ti : Nat → Int32) (ne : Nat → Int32) (wa : Nat → Int32) (ta : Nat → Int64) (out : Nat → Int64) (pl : Nat → Int64) (lo : Nat → Int64) (sh : Nat → Int64) (le : Nat → Int64) (C : Nat → Nat) (l_ : Nat) (h0 : C 0 ≤ 12) (hkd0 : ∀ k, k < 12 → C (1 + k) < 8) (hse : ∀ k, k < 12 → C (13 + k) < 6 + k ∧ C (25 + k) < 6 + k) (ho : C 37 < 2 ^ 18) (hbx : C 38 < 2 ^ 18) (hno : popc 18 (C 37) ≤ 4) (hl0 : l_ < 6 + C 0) (nn : Nat) : Met l yX3_inputsOf (ws_ yX3_inputsOf cX3_inputsOf 6 (Option.some Jvm.ClassFile.FieldType.int)) ({ frames := 2, cells := 0, slots := 0, locals := 51 } : Room) (va_Pc [.ref (q 0), .int (nI l_), .int (nI 1)] (PreW Ev0 D vwCl (TY ca) (WM ca q th st ik ln ou pa iw so na nb fo nu al (zOf C) be ke te ti ne wa ta out pl lo sh le) nn)) (va_Qi (fun (r_ : Int32) (u_ : (Nat → Int64) × (Nat → Int64)) => r_ = nI (ivT (tb C 0 0 l_) 64)) (PostW D vwCl (TY ca) (fun (u_ : (Nat → Int64) × (Nat → Int64)) => (WM ca q (nI 0) st ik ln (nI (no C)) pa iw so na nb fo nu al (zOf C) be ke te ti ne wa u_.1 u_.2 pl lo sh le)) (va_A (WM ca q th st ik ln ou pa iw so na nb fo nu al (zOf C) be ke te ti ne wa ta out pl lo sh le) nn)) (va_A (WM ca q th st ik ln ou pa iw so na nb fo nu al (zOf C) be ke te ti ne wa ta out pl lo sh le) nn)) 0 0 (va_A (WM ca q th st ik ln ou pa iw so na nb fo nu al (zOf C) be ke te ti ne wa ta out pl lo sh le) nn) := by
  refine met_go (QA := fun A => va_Qi (fun (r_ : Int32) (u_ : (Nat → Int64) × (Nat → Int64)) => r_ = nI (ivT (tb C 0 0 l_) 64)) (PostW D vwCl (TY ca) (fun (u_ : (Nat → Int64) × (Nat → Int64)) => (WM ca q (nI 0) st ik ln (nI (no C)) pa iw so na nb fo nu al (zOf C) be ke te ti ne wa u_.1 u_.2 pl lo sh le)) A) A) (by decide) (Nat.le_of_ble_eq_true rfl) (fun p e s m below meth c A ls QQ hQQ hx hb hr hts hown hlocks hml hA hP hK hD hE hl => ?_)
  have hown : s.vm.findClass RX3 = some m.cls := hown
  have hS : va_S A s.heap s.heap [] := va_S.rf
  have hl : lv_has ls 6 [(0, .ref (q 0)), (1, .int (nI l_)), (2, .int (nI 1))] := hl
  generalize hHe : s.heap = H at hP ⊢
  have hS : va_S A s.heap H [] := hHe ▸ hS
  generalize ([] : List Loc) = locs at hS ⊢
  refine lv_aload_n hx hb dX3_inputsOf_0 rfl (lv_at hl 0 rfl) ?_
  refine lv_aload_n hx hb dX3_inputsOf_1 rfl (lv_at hl 0 rfl) ?_
  refine lv_iload_n hx hb dX3_inputsOf_2 rfl (lv_at hl 1 rfl) ?_
  refine xc_i (xr_V (b := q 0) (ci := 2) (q0 := 0) (As := [.int (nI l_)]) (rest := [.ref (q 0)]) (mt_X3_isLine l D ca q th st ik ln ou pa iw so na nb fo nu al be ke te ti ne wa ta out pl lo sh le C (nI l_) (by first | assumption | omega | (simp only [updN, forgetC, changedC]; (repeat' split) <;> omega)) H.size) ⟨hx, hb, hml, hown, hts⟩ (cwV 1 hts (lw_V q1692 q1694 qs44 q87 q1695) rfl rfl rfl (by decide +kernel) ⟨Nat.le_of_ble_eq_true rfl, Nat.le_of_ble_eq_true rfl⟩) Ev0_ok hE hK hS (Cut.all hP hD hS hA) rfl rfl rfl hl.1 rfl (Nat.le_of_ble_eq_true rfl) dX3_inputsOf_3 ⟨Nat.le_of_ble_eq_true rfl, Nat.le_of_ble_eq_true rfl⟩) hS (Cut.all hP hD hS hA) (fun r_1 u_2 H locs hq_3 hP hD hS => ?_)
  have hP : va_P D vwCl (WM ca q th st ik ln ou pa iw so na nb fo nu al (zOf C) be ke te ti ne wa ta out pl lo sh le) H := hP
  have hD : va_D A (WM ca q th st ik ln ou pa iw so na nb fo nu al (zOf C) be ke te ti ne wa ta out pl lo sh le) := hD
  have hp_3 : r_1 = bI (inR (6 + C 0) (nI l_)) := hq_3
  clear hq_3
  obtain rfl := hp_3
  refine nv_ifb_eq (tgt := 13) hx hb dX3_inputsOf_6 (by decide) (fun c_6 => (absurd c_6 (by rw [inR_ok (by omega) (by omega)]; decide))) (fun c_6 => ?_)
  refine lv_iconst (v := nI 0) hx hb dX3_inputsOf_9 (by decide) ?_
  refine lv_goto (tgt := 14) hx hb dX3_inputsOf_10 (by decide) ?_
  refine pWM_0_thrown_X3 hx hb hts hown hK hP hD hS dX3_inputsOf_14 (fun H locs hP hD hS => ?_)
  refine lv_aload_n hx hb dX3_inputsOf_17 rfl (lv_at hl 0 rfl) ?_
  refine gWM_0_thrown_X3 hx hb hts hown hK hP dX3_inputsOf_18 ?_
  refine nv_if_le (tgt := 26) hx hb dX3_inputsOf_21 (by decide) (by omega) (fun c_21 => ?_) (fun c_21 => absurd c_21 (by decide))
  refine lv_iconst (v := nI 0) hx hb dX3_inputsOf_26 (by decide) ?_
  refine lv_istore_n (lv' := [(3, .int (nI 0)), (0, .ref (q 0)), (1, .int (nI l_)), (2, .int (nI 1))]) hx hb dX3_inputsOf_27 rfl hl (by decide) rfl (fun ls hl => ?_)
  refine lv_iload_n hx hb dX3_inputsOf_28 rfl (lv_at hl 3 rfl) ?_
  refine nv_if_eq (tgt := 114) hx hb dX3_inputsOf_29 (by decide) (by omega) (fun c_29 => absurd c_29 (by decide)) (fun c_29 => ?_)
  refine lv_aload_n hx hb dX3_inputsOf_32 rfl (lv_at hl 1 rfl) ?_
  refine lv_iconst (v := fI 0) hx hb dX3_inputsOf_33 (by decide) ?_
  refine lv_iconst (v := fI 0) hx hb dX3_inputsOf_34 (by decide) ?_
  refine xc_v (xr_V (b := q 0) (ci := 2) (q0 := 0) (As := [.int (fI 0), .int (fI 0)]) (rest := []) (mt_X3_lay l D ca q (nI 0) st ik ln ou pa iw so na nb fo nu al be ke te ti ne wa ta out pl lo sh le C 0 0 (by first | assumption | omega | (simp only [updN, forgetC, changedC]; (repeat' split) <;> omega)) (by first | assumption | omega | (simp only [updN, forgetC, changedC]; (repeat' split) <;> omega)) (by first | assumption | omega | (simp only [updN, forgetC, changedC]; (repeat' split) <;> omega)) (by first | assumption | omega | (simp only [updN, forgetC, changedC]; (repeat' split) <;> omega)) (by first | assumption | omega | (simp only [updN, forgetC, changedC]; (repeat' split) <;> omega)) (by first | assumption | omega | (simp only [updN, forgetC, changedC]; (repeat' split) <;> omega)) (by first | assumption | omega | (simp only [updN, forgetC, changedC]; (repeat' split) <;> omega)) (by first | assumption | omega | (simp only [updN, forgetC, changedC]; (repeat' split) <;> omega)) H.size) ⟨hx, hb, hml, hown, hts⟩ (cwV 2 hts (lw_V q1781 q1783 qs56 q87 q1784) rfl rfl rfl (by decide +kernel) ⟨Nat.le_of_ble_eq_true rfl, Nat.le_of_ble_eq_true rfl⟩) Ev0_ok hE hK hS (Cut.all hP hD hS hA) rfl rfl rfl hl.1 rfl (Nat.le_of_ble_eq_true rfl) dX3_inputsOf_35 ⟨Nat.le_of_ble_eq_true rfl, Nat.le_of_ble_eq_true rfl⟩) hS (Cut.all hP hD hS hA) (fun u_4 H locs hq_35 hP hD hS => ?_)
  have hP : va_P D vwCl (WM ca q (nI 0) st ik ln (nI (no C)) pa iw so na nb fo nu al (zOf C) be ke te ti ne wa (fillL (6 + C 0) (tb C 0 0) ta) (outF C (tb C 0 0) (6 + C 0) out) pl lo sh le) H := hP
  have hD : va_D A (WM ca q (nI 0) st ik ln (nI (no C)) pa iw so na nb fo nu al (zOf C) be ke te ti ne wa (fillL (6 + C 0) (tb C 0 0) ta) (outF C (tb C 0 0) (6 + C 0) out) pl lo sh le) := hD
  refine lv_iconst (v := nI 0) hx hb dX3_inputsOf_38 (by decide) ?_
  refine lv_istore (lv' := [(4, .int (nI 0)), (3, .int (nI 0)), (0, .ref (q 0)), (1, .int (nI l_)), (2, .int (nI 1))]) hx hb dX3_inputsOf_39 hl (by decide) rfl (fun ls hl => ?_)
  have lp_41 : ∀ (fu_41 : Nat) (t : Nat), 64 - t < fu_41 → (t ≤ 64) → ∀ (H : Heap) (locs : List Loc), va_P D vwCl (WM ca q (nI 0) st ik ln (nI (no C)) pa iw so na nb fo nu al (zOf C) be ke te ti ne wa (fillL (6 + C 0) (tb C 0 0) ta) (outF C (tb C 0 0) (6 + C 0) out) pl lo sh le) H → va_D A (WM ca q (nI 0) st ik ln (nI (no C)) pa iw so na nb fo nu al (zOf C) be ke te ti ne wa (fillL (6 + C 0) (tb C 0 0) ta) (outF C (tb C 0 0) (6 + C 0) out) pl lo sh le) → va_S A s.heap H locs → ∀ (ls : Array Slot), lv_has ls 6 [(4, .int (nI t)), (3, .int (nI (ivT (tb C 0 0 l_) t))), (0, .ref (q 0)), (1, .int (nI l_)), (2, .int (nI 1))] → W p l e ({ frames := 2, cells := 0, slots := 0, locals := 51 } : Room) s m ([.ref (q 0), .int (nI l_), .int (nI 1)] : List Value).toArray below meth c H locs 0 0 QQ (F0 m 41 ls []) := by
    intro fu_41
    induction fu_41 with
    | zero => intro t hfu; exact absurd hfu (Nat.not_lt_zero _)
    | succ fu_41 ih_41 =>
      intro t hfu ht_ H locs hP hD hS ls hl
      refine lv_iload hx hb dX3_inputsOf_41 (lv_at hl 0 rfl) ?_
      refine lv_bipush (v := nI 64) hx hb dX3_inputsOf_43 (by decide) ?_
      refine nv_icmp_ge (tgt := 112) hx hb dX3_inputsOf_45 (by decide) (by omega) (by omega) (fun c_45 => ?_) (fun c_45 => ?_)
      · skip
        have e_ : 64 = t := Eq.symm (by omega)
        subst e_
        refine lv_iload_n hx hb dX3_inputsOf_112 rfl (lv_at hl 1 rfl) ?_
        subst hQQ
        exact xe_i (v := nI (ivT (tb C 0 0 l_) 64)) (fillL (6 + C 0) (tb C 0 0) ta, outF C (tb C 0 0) (6 + C 0) out) hx hb hr hlocks hK hP hD hS (rfl) dX3_inputsOf_113
      · skip
        refine lv_iconst (v := nI 0) hx hb dX3_inputsOf_48 (by decide) ?_
        refine lv_istore (lv' := [(5, .int (nI 0)), (4, .int (nI t)), (3, .int (nI (ivT (tb C 0 0 l_) t))), (0, .ref (q 0)), (1, .int (nI l_)), (2, .int (nI 1))]) hx hb dX3_inputsOf_49 hl (by decide) rfl (fun ls hl => ?_)
        have lp_51 : ∀ (fu_51 : Nat) (k : Nat), 6 - k < fu_51 → (k ≤ 6) → ∀ (H : Heap) (locs : List Loc), va_P D vwCl (WM ca q (nI 0) st ik ln (nI (no C)) pa iw so na nb fo nu al (zOf C) be ke te ti ne wa (fillL (6 + C 0) (tb C 0 0) ta) (outF C (tb C 0 0) (6 + C 0) out) pl lo sh le) H → va_D A (WM ca q (nI 0) st ik ln (nI (no C)) pa iw so na nb fo nu al (zOf C) be ke te ti ne wa (fillL (6 + C 0) (tb C 0 0) ta) (outF C (tb C 0 0) (6 + C 0) out) pl lo sh le) → va_S A s.heap H locs → ∀ (ls : Array Slot), lv_has ls 6 [(5, .int (nI k)), (4, .int (nI t)), (3, .int (nI (ivK (tb C 0 0 l_) t (ivT (tb C 0 0 l_) t) k))), (0, .ref (q 0)), (1, .int (nI l_)), (2, .int (nI 1))] → W p l e ({ frames := 2, cells := 0, slots := 0, locals := 51 } : Room) s m ([.ref (q 0), .int (nI l_), .int (nI 1)] : List Value).toArray below meth c H locs 0 0 QQ (F0 m 51 ls []) := by
          intro fu_51
          induction fu_51 with
          | zero => intro k hfu; exact absurd hfu (Nat.not_lt_zero _)
          | succ fu_51 ih_51 =>
            intro k hfu hk_ H locs hP hD hS ls hl
            refine lv_iload hx hb dX3_inputsOf_51 (lv_at hl 0 rfl) ?_
            refine lv_bipush (v := nI 6) hx hb dX3_inputsOf_53 (by decide) ?_
            refine nv_icmp_ge (tgt := 106) hx hb dX3_inputsOf_55 (by decide) (by omega) (by omega) (fun c_55 => ?_) (fun c_55 => ?_)
            · skip
              have e_ : 6 = k := Eq.symm (by omega)
              subst e_
              refine lv_iinc (v := nI (t + 1)) (lv' := [(4, .int (nI (t + 1))), (5, .int (nI 6)), (3, .int (nI (ivK (tb C 0 0 l_) t (ivT (tb C 0 0 l_) t) 6))), (0, .ref (q 0)), (1, .int (nI l_)), (2, .int (nI 1))]) hx hb dX3_inputsOf_106 hl (k := 1) rfl (nI_add t 1) (by decide) rfl (fun ls hl => ?_)
              refine lv_goto (tgt := 41) hx hb dX3_inputsOf_109 (by decide) ?_
              exact ih_41  (t + 1) (by omega) (by omega) _ _ hP hD hS ls (lv_sub hl [0, 2, 3, 4, 5] rfl)
            · skip
              refine lv_iload_n hx hb dX3_inputsOf_58 rfl (lv_at hl 2 rfl) ?_
              refine lv_aload_n hx hb dX3_inputsOf_59 rfl (lv_at hl 3 rfl) ?_
              refine gWM_0_table_X3 hx hb hts hown hK hP dX3_inputsOf_60 ?_
              refine lv_iload_n hx hb dX3_inputsOf_63 rfl (lv_at hl 4 rfl) ?_
              refine ldWM_5 hx hb hK hP (by omega) dX3_inputsOf_64 ?_
              refine lv_topl (nm_r (e' := tb C 0 0 l_) (fillL_at (by omega)) ?_)
              refine lv_iload hx hb dX3_inputsOf_65 (lv_at hl 1 rfl) ?_
              refine lv_lushr (v := ush64 (tb C 0 0 l_) t) hx hb dX3_inputsOf_67 rfl ?_
              refine lv_lconst (v := lN 1) hx hb dX3_inputsOf_68 (by decide) ?_
              refine lv_land hx hb dX3_inputsOf_69 ?_
              refine lv_topl (nm_r (e' := lN (b2n (bit64 (tb C 0 0 l_) t))) (ush_1 _ (by omega)) ?_)
              refine lv_aload_n hx hb dX3_inputsOf_70 rfl (lv_at hl 3 rfl) ?_
              refine gWM_0_table_X3 hx hb hts hown hK hP dX3_inputsOf_71 ?_
              refine lv_iload_n hx hb dX3_inputsOf_74 rfl (lv_at hl 4 rfl) ?_
              refine ldWM_5 hx hb hK hP (by omega) dX3_inputsOf_75 ?_
              refine lv_topl (nm_r (e' := tb C 0 0 l_) (fillL_at (by omega)) ?_)
              refine lv_iload hx hb dX3_inputsOf_76 (lv_at hl 1 rfl) ?_
              refine lv_iconst (v := nI 1) hx hb dX3_inputsOf_78 (by decide) ?_
              refine lv_iload hx hb dX3_inputsOf_79 (lv_at hl 0 rfl) ?_
              refine nv_ishl hx hb dX3_inputsOf_81 (by omega) (sh1_ok (by omega)) ?_
              refine nv_ixor hx hb dX3_inputsOf_82 ?_
              refine lv_lushr (v := ush64 (tb C 0 0 l_) (t ^^^ (1 <<< k))) hx hb dX3_inputsOf_83 rfl ?_
              refine lv_lconst (v := lN 1) hx hb dX3_inputsOf_84 (by decide) ?_
              refine lv_land hx hb dX3_inputsOf_85 ?_
              refine lv_topl (nm_r (e' := lN (b2n (bit64 (tb C 0 0 l_) (t ^^^ 1 <<< k)))) (ush_1 _ (tx_lt (by omega) (by omega))) ?_)
              refine nv_lcmp_eq (tgt := 97) hx hb dX3_inputsOf_86 dX3_inputsOf_87 (by decide) (fun c_86 => ?_) (fun c_86 => ?_)
              · skip
                refine lv_iconst (v := nI 0) hx hb dX3_inputsOf_97 (by decide) ?_
                refine nv_ior hx hb dX3_inputsOf_98 ?_
                refine lv_topi (nm_r (e' := nI (ivK (tb C 0 0 l_) t (ivT (tb C 0 0 l_) t) (k + 1))) (congrArg nI (by simp only [ivK]; rw [if_neg (by rw [lN_b2n] at c_86; simp [ivs, c_86])])) ?_)
                refine lv_istore_n (lv' := [(3, .int (nI (ivK (tb C 0 0 l_) t (ivT (tb C 0 0 l_) t) (k + 1)))), (5, .int (nI k)), (4, .int (nI t)), (0, .ref (q 0)), (1, .int (nI l_)), (2, .int (nI 1))]) hx hb dX3_inputsOf_99 rfl hl (by decide) rfl (fun ls hl => ?_)
                refine lv_iinc (v := nI (k + 1)) (lv' := [(5, .int (nI (k + 1))), (3, .int (nI (ivK (tb C 0 0 l_) t (ivT (tb C 0 0 l_) t) (k + 1)))), (4, .int (nI t)), (0, .ref (q 0)), (1, .int (nI l_)), (2, .int (nI 1))]) hx hb dX3_inputsOf_100 hl (k := 1) rfl (nI_add k 1) (by decide) rfl (fun ls hl => ?_)
                refine lv_goto (tgt := 51) hx hb dX3_inputsOf_103 (by decide) ?_
                exact ih_51  (k + 1) (by omega) (by omega) _ _ hP hD hS ls (lv_sub hl [0, 2, 1, 3, 4, 5] rfl)
              · skip
                refine lv_iconst (v := nI 1) hx hb dX3_inputsOf_90 (by decide) ?_
                refine lv_iload hx hb dX3_inputsOf_91 (lv_at hl 0 rfl) ?_
                refine nv_ishl hx hb dX3_inputsOf_93 (by omega) (sh1_ok (by omega)) ?_
                refine lv_goto (tgt := 98) hx hb dX3_inputsOf_94 (by decide) ?_
                refine nv_ior hx hb dX3_inputsOf_98 ?_
                refine lv_topi (nm_r (e' := nI (ivK (tb C 0 0 l_) t (ivT (tb C 0 0 l_) t) (k + 1))) (congrArg nI (by simp only [ivK]; rw [if_pos (by rw [lN_b2n] at c_86; simp [ivs, c_86])])) ?_)
                refine lv_istore_n (lv' := [(3, .int (nI (ivK (tb C 0 0 l_) t (ivT (tb C 0 0 l_) t) (k + 1)))), (5, .int (nI k)), (4, .int (nI t)), (0, .ref (q 0)), (1, .int (nI l_)), (2, .int (nI 1))]) hx hb dX3_inputsOf_99 rfl hl (by decide) rfl (fun ls hl => ?_)
                refine lv_iinc (v := nI (k + 1)) (lv' := [(5, .int (nI (k + 1))), (3, .int (nI (ivK (tb C 0 0 l_) t (ivT (tb C 0 0 l_) t) (k + 1)))), (4, .int (nI t)), (0, .ref (q 0)), (1, .int (nI l_)), (2, .int (nI 1))]) hx hb dX3_inputsOf_100 hl (k := 1) rfl (nI_add k 1) (by decide) rfl (fun ls hl => ?_)
                refine lv_goto (tgt := 51) hx hb dX3_inputsOf_103 (by decide) ?_
                exact ih_51  (k + 1) (by omega) (by omega) _ _ hP hD hS ls (lv_sub hl [0, 2, 1, 3, 4, 5] rfl)
        exact lp_51 (6 - 0 + 1) 0 (Nat.lt_succ_self _) (by omega) _ _ hP hD hS ls (lv_sub hl [0, 1, 2, 3, 4, 5] rfl)
  exact lp_41 (64 - 0 + 1) 0 (Nat.lt_succ_self _) (by omega) _ _ hP hD hS ls (lv_sub hl [0, 1, 2, 3, 4] rfl)
set_option maxHeartbeats 4000000 in
set_option maxRecDepth 100000 in
theorem mt_X3_kindSums (l : Launch) (D : va_G) (ca : Nat → ClassId) (q : Nat → Nat) (th : Int32) (st : Int32) (ik : Int32) (ln : Int32) (ou : Int32) (pa : Int32) (iw : Int32) (so : Int32) (na : Int32) (nb : Int32) (fo : Int32) (nu : Int32) (al : Int32) (be : Nat → Int32) (ke : Nat → Int32) (te : Nat → Int32) (ti : Nat → Int32) (ne : Nat → Int32) (wa : Nat → Int32) (ta : Nat → Int64) (out : Nat → Int64) (pl : Nat → Int64) (lo : Nat → Int64) (sh : Nat → Int64) (le : Nat → Int64) (C : Nat → Nat) (h0 : C 0 ≤ 12) (hbx : C 38 < 2 ^ 18) (hnb : popc 18 (C 38) ≤ 3) (nn : Nat) : Met l yX3_kindSums (ws_ yX3_kindSums cX3_kindSums 3 (Option.some Jvm.ClassFile.FieldType.int)) ({ frames := 1, cells := 0, slots := 0, locals := 21 } : Room) (va_Pc [.ref (q 0)] (PreW Ev0 D vwCl (TY ca) (WM ca q th st ik ln ou pa iw so na nb fo nu al (zOf C) be ke te ti ne wa ta out pl lo sh le) nn)) (va_Qi (fun (r_ : Int32) (_ : Unit) => r_ = nI (ksm C)) (PostW D vwCl (TY ca) (fun (_ : Unit) => (WM ca q th st ik ln ou pa iw so na nb fo nu al (zOf C) be ke te ti ne wa ta out pl lo sh le)) (va_A (WM ca q th st ik ln ou pa iw so na nb fo nu al (zOf C) be ke te ti ne wa ta out pl lo sh le) nn)) (va_A (WM ca q th st ik ln ou pa iw so na nb fo nu al (zOf C) be ke te ti ne wa ta out pl lo sh le) nn)) 0 0 (va_A (WM ca q th st ik ln ou pa iw so na nb fo nu al (zOf C) be ke te ti ne wa ta out pl lo sh le) nn) := by
  refine met_go (QA := fun A => va_Qi (fun (r_ : Int32) (_ : Unit) => r_ = nI (ksm C)) (PostW D vwCl (TY ca) (fun (_ : Unit) => (WM ca q th st ik ln ou pa iw so na nb fo nu al (zOf C) be ke te ti ne wa ta out pl lo sh le)) A) A) (by decide) (Nat.le_of_ble_eq_true rfl) (fun p e s m below meth c A ls QQ hQQ hx hb hr hts hown hlocks hml hA hP hK hD hE hl => ?_)
  have hown : s.vm.findClass RX3 = some m.cls := hown
  have hS : va_S A s.heap s.heap [] := va_S.rf
  have hl : lv_has ls 3 [(0, .ref (q 0))] := hl
  generalize hHe : s.heap = H at hP ⊢
  have hS : va_S A s.heap H [] := hHe ▸ hS
  generalize ([] : List Loc) = locs at hS ⊢
  refine lv_iconst (v := nI 1) hx hb dX3_kindSums_0 (by decide) ?_
  refine lv_istore_n (lv' := [(1, .int (nI 1)), (0, .ref (q 0))]) hx hb dX3_kindSums_1 rfl hl (by decide) rfl (fun ls hl => ?_)
  refine lv_iconst (v := nI 0) hx hb dX3_kindSums_2 (by decide) ?_
  refine lv_istore_n (lv' := [(2, .int (nI 0)), (1, .int (nI 1)), (0, .ref (q 0))]) hx hb dX3_kindSums_3 rfl hl (by decide) rfl (fun ls hl => ?_)
  have lp_4 : ∀ (fu_4 : Nat) (g : Nat), C 0 - g < fu_4 → (g ≤ C 0) → ∀ (H : Heap) (locs : List Loc), va_P D vwCl (WM ca q th st ik ln ou pa iw so na nb fo nu al (zOf C) be ke te ti ne wa ta out pl lo sh le) H → va_D A (WM ca q th st ik ln ou pa iw so na nb fo nu al (zOf C) be ke te ti ne wa ta out pl lo sh le) → va_S A s.heap H locs → ∀ (ls : Array Slot), lv_has ls 3 [(2, .int (nI g)), (1, .int (nI (6 ^ rk C g))), (0, .ref (q 0))] → W p l e ({ frames := 1, cells := 0, slots := 0, locals := 21 } : Room) s m ([.ref (q 0)] : List Value).toArray below meth c H locs 0 0 QQ (F0 m 4 ls []) := by
    intro fu_4
    induction fu_4 with
    | zero => intro g hfu; exact absurd hfu (Nat.not_lt_zero _)
    | succ fu_4 ih_4 =>
      intro g hfu hg H locs hP hD hS ls hl
      refine lv_iload_n hx hb dX3_kindSums_4 rfl (lv_at hl 0 rfl) ?_
      refine lv_aload_n hx hb dX3_kindSums_5 rfl (lv_at hl 2 rfl) ?_
      refine gWM_0_z_X3 hx hb hts hown hK hP dX3_kindSums_6 ?_
      refine lv_iconst (v := nI 0) hx hb dX3_kindSums_9 (by decide) ?_
      refine ldWM_1 hx hb hK hP (by omega) dX3_kindSums_10 ?_
      refine lv_topi (nm_r (e' := nI (C 0)) (rfl) ?_)
      refine nv_icmp_ge (tgt := 43) hx hb dX3_kindSums_11 (by decide) (by omega) (by omega) (fun c_11 => ?_) (fun c_11 => ?_)
      · skip
        have e_ : C 0 = g := Eq.symm (by omega)
        subst e_
        refine lv_iload_n hx hb dX3_kindSums_43 rfl (lv_at hl 1 rfl) ?_
        subst hQQ
        exact xe_i (v := nI (6 ^ rk C (C 0))) () hx hb hr hlocks hK hP hD hS (rfl) dX3_kindSums_44
      · skip
        refine lv_iload_n hx hb dX3_kindSums_14 rfl (lv_at hl 1 rfl) ?_
        refine lv_aload_n hx hb dX3_kindSums_15 rfl (lv_at hl 2 rfl) ?_
        refine gWM_0_z_X3 hx hb hts hown hK hP dX3_kindSums_16 ?_
        refine lv_bipush (v := nI 38) hx hb dX3_kindSums_19 (by decide) ?_
        refine ldWM_1 hx hb hK hP (by omega) dX3_kindSums_21 ?_
        refine lv_topi (nm_r (e' := nI (C 38)) (rfl) ?_)
        refine lv_iload_n hx hb dX3_kindSums_22 rfl (lv_at hl 0 rfl) ?_
        refine xc_i (xr_S (As := [.int (nI (C 38)), .int (nI g)]) (rest := [.int (nI (6 ^ rk C g))]) (mt_X3_has l D ca (C 38) g (by first | assumption | omega | (simp only [updN, forgetC, changedC]; (repeat' split) <;> omega)) (by first | assumption | omega | (simp only [updN, forgetC, changedC]; (repeat' split) <;> omega)) H.size) ⟨hx, hb, hml, hown, hts⟩ (va_cwS 2 hts (lw_S q1731 q1732 q87 q1733) rfl rfl rfl (by decide +kernel) ⟨Nat.le_of_ble_eq_true rfl, Nat.le_of_ble_eq_true rfl⟩) Ev0_ok hE hK hS (Cut.app (wc := []) (wr := (WM ca q th st ik ln ou pa iw so na nb fo nu al (zOf C) be ke te ti ne wa ta out pl lo sh le)) hP hD hS hA) rfl hl.1 rfl (Nat.le_of_ble_eq_true rfl) dX3_kindSums_23 ⟨Nat.le_of_ble_eq_true rfl, Nat.le_of_ble_eq_true rfl⟩) hS (Cut.app (wc := []) (wr := (WM ca q th st ik ln ou pa iw so na nb fo nu al (zOf C) be ke te ti ne wa ta out pl lo sh le)) hP hD hS hA) (fun r_2 u_3 H locs hq_23 hP hD hS => ?_)
        have hP : va_P D vwCl (WM ca q th st ik ln ou pa iw so na nb fo nu al (zOf C) be ke te ti ne wa ta out pl lo sh le) H := hP
        have hD : va_D A (WM ca q th st ik ln ou pa iw so na nb fo nu al (zOf C) be ke te ti ne wa ta out pl lo sh le) := hD
        have hp_23 : r_2 = bI ((C 38).testBit g) := hq_23
        clear hq_23
        obtain rfl := hp_23
        refine nv_ifb_eq (tgt := 34) hx hb dX3_kindSums_26 (by decide) (fun c_26 => ?_) (fun c_26 => ?_)
        · skip
          refine lv_iconst (v := nI 1) hx hb dX3_kindSums_34 (by decide) ?_
          refine nv_imul hx hb dX3_kindSums_35 ?_
          refine lv_topi (nm_r (e' := nI (6 ^ rk C (g + 1))) (congrArg nI (by rw [show rk C (g + 1) = rk C g from popc_n c_26, Nat.mul_one])) ?_)
          refine lv_istore_n (lv' := [(1, .int (nI (6 ^ rk C (g + 1)))), (2, .int (nI g)), (0, .ref (q 0))]) hx hb dX3_kindSums_36 rfl hl (by decide) rfl (fun ls hl => ?_)
          refine lv_iinc (v := nI (g + 1)) (lv' := [(2, .int (nI (g + 1))), (1, .int (nI (6 ^ rk C (g + 1)))), (0, .ref (q 0))]) hx hb dX3_kindSums_37 hl (k := 1) rfl (nI_add g 1) (by decide) rfl (fun ls hl => ?_)
          refine lv_goto (tgt := 4) hx hb dX3_kindSums_40 (by decide) ?_
          exact ih_4  (g + 1) (by omega) (by omega) _ _ hP hD hS ls (lv_sub hl [0, 1, 2] rfl)
        · skip
          refine lv_bipush (v := nI 6) hx hb dX3_kindSums_29 (by decide) ?_
          refine lv_goto (tgt := 35) hx hb dX3_kindSums_31 (by decide) ?_
          refine nv_imul hx hb dX3_kindSums_35 ?_
          refine lv_topi (nm_r (e' := nI (6 ^ rk C (g + 1))) (congrArg nI (by rw [show rk C (g + 1) = rk C g + 1 from popc_s c_26, Nat.pow_succ])) ?_)
          refine lv_istore_n (lv' := [(1, .int (nI (6 ^ rk C (g + 1)))), (2, .int (nI g)), (0, .ref (q 0))]) hx hb dX3_kindSums_36 rfl hl (by decide) rfl (fun ls hl => ?_)
          refine lv_iinc (v := nI (g + 1)) (lv' := [(2, .int (nI (g + 1))), (1, .int (nI (6 ^ rk C (g + 1)))), (0, .ref (q 0))]) hx hb dX3_kindSums_37 hl (k := 1) rfl (nI_add g 1) (by decide) rfl (fun ls hl => ?_)
          refine lv_goto (tgt := 4) hx hb dX3_kindSums_40 (by decide) ?_
          exact ih_4  (g + 1) (by omega) (by omega) _ _ hP hD hS ls (lv_sub hl [0, 1, 2] rfl)
  exact lp_4 (C 0 - 0 + 1) 0 (Nat.lt_succ_self _) (by omega) _ _ hP hD hS ls (lv_sub hl [0, 1, 2] rfl)
set_option maxHeartbeats 4000000 in
set_option maxRecDepth 100000 in
theorem mt_X3_faults (l : Launch) (D : va_G) (ca : Nat → ClassId) (q : Nat → Nat) (th : Int32) (st : Int32) (ik : Int32) (ln : Int32) (ou : Int32) (pa : Int32) (iw : Int32) (so : Int32) (na : Int32) (nb : Int32) (fo : Int32) (nu : Int32) (al : Int32) (be : Nat → Int32) (ke : Nat → Int32) (te : Nat → Int32) (ti : Nat → Int32) (ne : Nat → Int32) (wa : Nat → Int32) (ta : Nat → Int64) (out : Nat → Int64) (pl : Nat → Int64) (lo : Nat → Int64) (sh : Nat → Int64) (le : Nat → Int64) (C : Nat → Nat) (h0 : C 0 ≤ 12) (h40 : C 40 ≤ 1) (nn : Nat) : Met l yX3_faults (ws_ yX3_faults cX3_faults 1 (Option.some Jvm.ClassFile.FieldType.int)) ({ frames := 1, cells := 0, slots := 0, locals := 20 } : Room) (va_Pc [.ref (q 0)] (PreW Ev0 D vwCl (TY ca) (WM ca q th st ik ln ou pa iw so na nb fo nu al (zOf C) be ke te ti ne wa ta out pl lo sh le) nn)) (va_Qi (fun (r_ : Int32) (_ : Unit) => r_ = nI (fa C)) (PostW D vwCl (TY ca) (fun (_ : Unit) => (WM ca q th st ik ln ou pa iw so na nb fo nu al (zOf C) be ke te ti ne wa ta out pl lo sh le)) (va_A (WM ca q th st ik ln ou pa iw so na nb fo nu al (zOf C) be ke te ti ne wa ta out pl lo sh le) nn)) (va_A (WM ca q th st ik ln ou pa iw so na nb fo nu al (zOf C) be ke te ti ne wa ta out pl lo sh le) nn)) 0 0 (va_A (WM ca q th st ik ln ou pa iw so na nb fo nu al (zOf C) be ke te ti ne wa ta out pl lo sh le) nn) := by
  refine met_go (QA := fun A => va_Qi (fun (r_ : Int32) (_ : Unit) => r_ = nI (fa C)) (PostW D vwCl (TY ca) (fun (_ : Unit) => (WM ca q th st ik ln ou pa iw so na nb fo nu al (zOf C) be ke te ti ne wa ta out pl lo sh le)) A) A) (by decide) (Nat.le_of_ble_eq_true rfl) (fun p e s m below meth c A ls QQ hQQ hx hb hr hts hown hlocks hml hA hP hK hD hE hl => ?_)
  have hown : s.vm.findClass RX3 = some m.cls := hown
  have hS : va_S A s.heap s.heap [] := va_S.rf
  have hl : lv_has ls 1 [(0, .ref (q 0))] := hl
  generalize hHe : s.heap = H at hP ⊢
  have hS : va_S A s.heap H [] := hHe ▸ hS
  generalize ([] : List Loc) = locs at hS ⊢
  refine lv_aload_n hx hb dX3_faults_0 rfl (lv_at hl 0 rfl) ?_
  refine gWM_0_z_X3 hx hb hts hown hK hP dX3_faults_1 ?_
  refine lv_bipush (v := nI 40) hx hb dX3_faults_4 (by decide) ?_
  refine ldWM_1 hx hb hK hP (by omega) dX3_faults_6 ?_
  refine lv_topi (nm_r (e' := nI (C 40)) (rfl) ?_)
  refine lv_iconst (v := nI 1) hx hb dX3_faults_7 (by decide) ?_
  refine nv_icmp_ne (tgt := 20) hx hb dX3_faults_8 (by decide) (by omega) (by omega) (fun c_8 => ?_) (fun c_8 => ?_)
  · skip
    refine lv_iconst (v := nI 0) hx hb dX3_faults_20 (by decide) ?_
    subst hQQ
    exact xe_i (v := nI 0) () hx hb hr hlocks hK hP hD hS (congrArg nI (by unfold fa; first | exact (if_pos c_8).symm | exact (if_neg c_8).symm)) dX3_faults_21
  · skip
    refine lv_iconst (v := nI 2) hx hb dX3_faults_11 (by decide) ?_
    refine lv_aload_n hx hb dX3_faults_12 rfl (lv_at hl 0 rfl) ?_
    refine xc_i (xr_V (b := q 0) (ci := 2) (q0 := 0) (As := []) (rest := [.int (nI 2)]) (mt_X3_lines l D ca q th st ik ln ou pa iw so na nb fo nu al be ke te ti ne wa ta out pl lo sh le C  H.size) ⟨hx, hb, hml, hown, hts⟩ (cwV 0 hts (lw_V q1696 q1698 qs45 q87 q1699) rfl rfl rfl (by decide +kernel) ⟨Nat.le_of_ble_eq_true rfl, Nat.le_of_ble_eq_true rfl⟩) Ev0_ok hE hK hS (Cut.all hP hD hS hA) rfl rfl rfl hl.1 rfl (Nat.le_of_ble_eq_true rfl) dX3_faults_13 ⟨Nat.le_of_ble_eq_true rfl, Nat.le_of_ble_eq_true rfl⟩) hS (Cut.all hP hD hS hA) (fun r_2 u_3 H locs hq_13 hP hD hS => ?_)
    have hP : va_P D vwCl (WM ca q th st ik ln ou pa iw so na nb fo nu al (zOf C) be ke te ti ne wa ta out pl lo sh le) H := hP
    have hD : va_D A (WM ca q th st ik ln ou pa iw so na nb fo nu al (zOf C) be ke te ti ne wa ta out pl lo sh le) := hD
    have hp_13 : r_2 = nI (6 + C 0) := hq_13
    clear hq_13
    obtain rfl := hp_13
    refine nv_imul hx hb dX3_faults_16 ?_
    refine lv_goto (tgt := 21) hx hb dX3_faults_17 (by decide) ?_
    subst hQQ
    exact xe_i (v := nI (2 * (6 + C 0))) () hx hb hr hlocks hK hP hD hS (congrArg nI (by unfold fa; first | exact (if_pos c_8).symm | exact (if_neg c_8).symm)) dX3_faults_21
set_option maxHeartbeats 4000000 in
set_option maxRecDepth 100000 in
theorem mt_X3_isCandidate (l : Launch) (D : va_G) (ca : Nat → ClassId) (q : Nat → Nat) (th : Int32) (st : Int32) (ik : Int32) (ln : Int32) (ou : Int32) (pa : Int32) (iw : Int32) (so : Int32) (na : Int32) (nb : Int32) (fo : Int32) (nu : Int32) (al : Int32) (be : Nat → Int32) (ke : Nat → Int32) (te : Nat → Int32) (ti : Nat → Int32) (ne : Nat → Int32) (wa : Nat → Int32) (ta : Nat → Int64) (out : Nat → Int64) (pl : Nat → Int64) (lo : Nat → Int64) (sh : Nat → Int64) (le : Nat → Int64) (C : Nat → Nat) (K_ : Nat) (F_ : Nat) (h0 : C 0 ≤ 12) (hkd0 : ∀ k, k < 12 → C (1 + k) < 8) (hse : ∀ k, k < 12 → C (13 + k) < 6 + k ∧ C (25 + k) < 6 + k) (ho : C 37 < 2 ^ 18) (hbx : C 38 < 2 ^ 18) (hno : popc 18 (C 37) ≤ 4) (hnb : popc 18 (C 38) ≤ 3) (hak : C 41 ≤ 12) (ht64 : ∀ k, k < 12 → C (42 + k) < 64) (hK : K_ ≤ 216) (hF : F_ ≤ 100) (ha16 : ∀ k, k < 12 → C (54 + k) < 16) (nn : Nat) : Met l yX3_isCandidate (ws_ yX3_isCandidate cX3_isCandidate 5 (Option.some Jvm.ClassFile.FieldType.boolean)) ({ frames := 2, cells := 0, slots := 0, locals := 51 } : Room) (va_Pc [.ref (q 0), .int (fI K_), .int (fI F_)] (PreW Ev0 D vwCl (TY ca) (WM ca q th st ik ln ou pa iw so na nb fo nu al (zOf C) be ke te ti ne wa ta out pl lo sh le) nn)) (va_Qi (fun (r_ : Int32) (_ : Unit) => r_ = bI (candB C K_ F_)) (PostW D vwCl (TY ca) (fun (_ : Unit) => (WM ca q th st ik ln (nI (no C)) pa iw so na nb fo nu al (zOf C) be ke te ti ne wa (fillL (6 + C 0) (tb C K_ F_) ta) (outF C (tb C K_ F_) (6 + C 0) out) pl lo sh le)) (va_A (WM ca q th st ik ln ou pa iw so na nb fo nu al (zOf C) be ke te ti ne wa ta out pl lo sh le) nn)) (va_A (WM ca q th st ik ln ou pa iw so na nb fo nu al (zOf C) be ke te ti ne wa ta out pl lo sh le) nn)) 0 0 (va_A (WM ca q th st ik ln ou pa iw so na nb fo nu al (zOf C) be ke te ti ne wa ta out pl lo sh le) nn) := by
  refine met_go (QA := fun A => va_Qi (fun (r_ : Int32) (_ : Unit) => r_ = bI (candB C K_ F_)) (PostW D vwCl (TY ca) (fun (_ : Unit) => (WM ca q th st ik ln (nI (no C)) pa iw so na nb fo nu al (zOf C) be ke te ti ne wa (fillL (6 + C 0) (tb C K_ F_) ta) (outF C (tb C K_ F_) (6 + C 0) out) pl lo sh le)) A) A) (by decide) (Nat.le_of_ble_eq_true rfl) (fun p e s m below meth c A ls QQ hQQ hx hb hr hts hown hlocks hml hA hP hK hD hE hl => ?_)
  have hown : s.vm.findClass RX3 = some m.cls := hown
  have hS : va_S A s.heap s.heap [] := va_S.rf
  have hl : lv_has ls 5 [(0, .ref (q 0)), (1, .int (fI K_)), (2, .int (fI F_))] := hl
  generalize hHe : s.heap = H at hP ⊢
  have hS : va_S A s.heap H [] := hHe ▸ hS
  generalize ([] : List Loc) = locs at hS ⊢
  have hnc : no C ≤ 4 := Nat.le_trans (popc_mono (by omega)) hno
  refine lv_aload_n hx hb dX3_isCandidate_0 rfl (lv_at hl 0 rfl) ?_
  refine lv_iload_n hx hb dX3_isCandidate_1 rfl (lv_at hl 1 rfl) ?_
  refine lv_iload_n hx hb dX3_isCandidate_2 rfl (lv_at hl 2 rfl) ?_
  refine xc_v (xr_V (b := q 0) (ci := 2) (q0 := 0) (As := [.int (fI K_), .int (fI F_)]) (rest := []) (mt_X3_lay l D ca q th st ik ln ou pa iw so na nb fo nu al be ke te ti ne wa ta out pl lo sh le C K_ F_ (by first | assumption | omega | (simp only [updN, forgetC, changedC]; (repeat' split) <;> omega)) (by first | assumption | omega | (simp only [updN, forgetC, changedC]; (repeat' split) <;> omega)) (by first | assumption | omega | (simp only [updN, forgetC, changedC]; (repeat' split) <;> omega)) (by first | assumption | omega | (simp only [updN, forgetC, changedC]; (repeat' split) <;> omega)) (by first | assumption | omega | (simp only [updN, forgetC, changedC]; (repeat' split) <;> omega)) (by first | assumption | omega | (simp only [updN, forgetC, changedC]; (repeat' split) <;> omega)) (by first | assumption | omega | (simp only [updN, forgetC, changedC]; (repeat' split) <;> omega)) (by first | assumption | omega | (simp only [updN, forgetC, changedC]; (repeat' split) <;> omega)) H.size) ⟨hx, hb, hml, hown, hts⟩ (cwV 2 hts (lw_V q1781 q1783 qs56 q87 q1784) rfl rfl rfl (by decide +kernel) ⟨Nat.le_of_ble_eq_true rfl, Nat.le_of_ble_eq_true rfl⟩) Ev0_ok hE hK hS (Cut.all hP hD hS hA) rfl rfl rfl hl.1 rfl (Nat.le_of_ble_eq_true rfl) dX3_isCandidate_3 ⟨Nat.le_of_ble_eq_true rfl, Nat.le_of_ble_eq_true rfl⟩) hS (Cut.all hP hD hS hA) (fun u_2 H locs hq_3 hP hD hS => ?_)
  have hP : va_P D vwCl (WM ca q th st ik ln (nI (no C)) pa iw so na nb fo nu al (zOf C) be ke te ti ne wa (fillL (6 + C 0) (tb C K_ F_) ta) (outF C (tb C K_ F_) (6 + C 0) out) pl lo sh le) H := hP
  have hD : va_D A (WM ca q th st ik ln (nI (no C)) pa iw so na nb fo nu al (zOf C) be ke te ti ne wa (fillL (6 + C 0) (tb C K_ F_) ta) (outF C (tb C K_ F_) (6 + C 0) out) pl lo sh le) := hD
  refine lv_iconst (v := nI 1) hx hb dX3_isCandidate_6 (by decide) ?_
  refine lv_istore_n (lv' := [(3, .int (nI 1)), (0, .ref (q 0)), (1, .int (fI K_)), (2, .int (fI F_))]) hx hb dX3_isCandidate_7 rfl hl (by decide) rfl (fun ls hl => ?_)
  refine lv_iconst (v := nI 0) hx hb dX3_isCandidate_8 (by decide) ?_
  refine lv_istore (lv' := [(4, .int (nI 0)), (3, .int (nI 1)), (0, .ref (q 0)), (1, .int (fI K_)), (2, .int (fI F_))]) hx hb dX3_isCandidate_9 hl (by decide) rfl (fun ls hl => ?_)
  have lp_11 : ∀ (fu_11 : Nat) (i : Nat), C 41 - i < fu_11 → (i ≤ C 41) → ∀ (H : Heap) (locs : List Loc), va_P D vwCl (WM ca q th st ik ln (nI (no C)) pa iw so na nb fo nu al (zOf C) be ke te ti ne wa (fillL (6 + C 0) (tb C K_ F_) ta) (outF C (tb C K_ F_) (6 + C 0) out) pl lo sh le) H → va_D A (WM ca q th st ik ln (nI (no C)) pa iw so na nb fo nu al (zOf C) be ke te ti ne wa (fillL (6 + C 0) (tb C K_ F_) ta) (outF C (tb C K_ F_) (6 + C 0) out) pl lo sh le) → va_S A s.heap H locs → ∀ (ls : Array Slot), lv_has ls 5 [(4, .int (nI i)), (3, .int (bI (cdN C K_ F_ i))), (0, .ref (q 0)), (1, .int (fI K_)), (2, .int (fI F_))] → W p l e ({ frames := 2, cells := 0, slots := 0, locals := 51 } : Room) s m ([.ref (q 0), .int (fI K_), .int (fI F_)] : List Value).toArray below meth c H locs 0 0 QQ (F0 m 11 ls []) := by
    intro fu_11
    induction fu_11 with
    | zero => intro i hfu; exact absurd hfu (Nat.not_lt_zero _)
    | succ fu_11 ih_11 =>
      intro i hfu hi H locs hP hD hS ls hl
      refine lv_iload hx hb dX3_isCandidate_11 (lv_at hl 0 rfl) ?_
      refine lv_aload_n hx hb dX3_isCandidate_13 rfl (lv_at hl 2 rfl) ?_
      refine gWM_0_z_X3 hx hb hts hown hK hP dX3_isCandidate_14 ?_
      refine lv_bipush (v := nI 41) hx hb dX3_isCandidate_17 (by decide) ?_
      refine ldWM_1 hx hb hK hP (by omega) dX3_isCandidate_19 ?_
      refine lv_topi (nm_r (e' := nI (C 41)) (rfl) ?_)
      refine nv_icmp_ge (tgt := 66) hx hb dX3_isCandidate_20 (by decide) (by omega) (by omega) (fun c_20 => ?_) (fun c_20 => ?_)
      · skip
        have e_ : C 41 = i := Eq.symm (by omega)
        subst e_
        refine lv_iload_n hx hb dX3_isCandidate_66 rfl (lv_at hl 1 rfl) ?_
        subst hQQ
        refine (xe_z (b := cdN C K_ F_ (C 41)) () hx hb hr hlocks hK hP hD hS (rfl) dX3_isCandidate_67)
      · skip
        refine lv_iload_n hx hb dX3_isCandidate_23 rfl (lv_at hl 1 rfl) ?_
        refine nv_ifb_eq (tgt := 66) hx hb dX3_isCandidate_24 (by decide) (fun c_24 => ?_) (fun c_24 => ?_)
        · skip
          have hl : lv_has ls 5 [(4, .int (nI i)), (3, .int (bI (candB C K_ F_))), (0, .ref (q 0)), (1, .int (fI K_)), (2, .int (fI F_))] := (congrArg (fun x_ => lv_has ls 5 [(4, .int (nI i)), (3, .int x_), (0, .ref (q 0)), (1, .int (fI K_)), (2, .int (fI F_))]) (show bI (cdN C K_ F_ i) = bI (candB C K_ F_) from congrArg bI (c_24.trans (cdN_no c_24 (by omega)).symm))).mp hl
          refine lv_iload_n hx hb dX3_isCandidate_66 rfl (lv_at hl 1 rfl) ?_
          subst hQQ
          refine (xe_z (b := candB C K_ F_) () hx hb hr hlocks hK hP hD hS (rfl) dX3_isCandidate_67)
        · skip
          refine lv_aload_n hx hb dX3_isCandidate_27 rfl (lv_at hl 2 rfl) ?_
          refine lv_aload_n hx hb dX3_isCandidate_28 rfl (lv_at hl 2 rfl) ?_
          refine gWM_0_z_X3 hx hb hts hown hK hP dX3_isCandidate_29 ?_
          refine lv_bipush (v := nI 42) hx hb dX3_isCandidate_32 (by decide) ?_
          refine lv_iload hx hb dX3_isCandidate_34 (lv_at hl 0 rfl) ?_
          refine nv_iadd hx hb dX3_isCandidate_36 ?_
          refine ldWM_1 hx hb hK hP (by omega) dX3_isCandidate_37 ?_
          refine lv_topi (nm_r (e' := nI (C (42 + i))) (zOf_n (by omega)) ?_)
          refine xc_i (xr_V (b := q 0) (ci := 2) (q0 := 0) (As := [.int (nI (C (42 + i)))]) (rest := []) (mt_X3_answer l D ca q th st ik ln pa iw so na nb fo nu al (zOf C) be ke te ti ne wa (fillL (6 + C 0) (tb C K_ F_) ta) (outF C (tb C K_ F_) (6 + C 0) out) pl lo sh le (no C) (C (42 + i)) hnc (ht64 i (by omega)) H.size) ⟨hx, hb, hml, hown, hts⟩ (cwV 1 hts (lw_V q1796 q1798 qs58 q87 q1799) rfl rfl rfl (by decide +kernel) ⟨Nat.le_of_ble_eq_true rfl, Nat.le_of_ble_eq_true rfl⟩) Ev0_ok hE hK hS (Cut.all hP hD hS hA) rfl rfl rfl hl.1 rfl (Nat.le_of_ble_eq_true rfl) dX3_isCandidate_38 ⟨Nat.le_of_ble_eq_true rfl, Nat.le_of_ble_eq_true rfl⟩) hS (Cut.all hP hD hS hA) (fun r_5 u_6 H locs hq_38 hP hD hS => ?_)
          have hP : va_P D vwCl (WM ca q th st ik ln (nI (no C)) pa iw so na nb fo nu al (zOf C) be ke te ti ne wa (fillL (6 + C 0) (tb C K_ F_) ta) (outF C (tb C K_ F_) (6 + C 0) out) pl lo sh le) H := hP
          have hD : va_D A (WM ca q th st ik ln (nI (no C)) pa iw so na nb fo nu al (zOf C) be ke te ti ne wa (fillL (6 + C 0) (tb C K_ F_) ta) (outF C (tb C K_ F_) (6 + C 0) out) pl lo sh le) := hD
          have hp_38 : r_5 = nI (anF (no C) (outF C (tb C K_ F_) (6 + C 0) out) (C (42 + i))) := hq_38
          clear hq_38
          obtain rfl := hp_38
          refine lv_topi (nm_r (e' := nI (anC C K_ F_ (C (42 + i)))) (congrArg nI anC_of) ?_)
          refine lv_aload_n hx hb dX3_isCandidate_41 rfl (lv_at hl 2 rfl) ?_
          refine gWM_0_z_X3 hx hb hts hown hK hP dX3_isCandidate_42 ?_
          refine lv_bipush (v := nI 54) hx hb dX3_isCandidate_45 (by decide) ?_
          refine lv_iload hx hb dX3_isCandidate_47 (lv_at hl 0 rfl) ?_
          refine nv_iadd hx hb dX3_isCandidate_49 ?_
          refine ldWM_1 hx hb hK hP (by omega) dX3_isCandidate_50 ?_
          refine lv_topi (nm_r (e' := nI (C (54 + i))) (zOf_n (by omega)) ?_)
          refine nv_icmp_ne (tgt := 58) hx hb dX3_isCandidate_51 (by decide) (by have := @anC_lt C K_ F_ (C (42 + i)) hnc; omega) (by have := ha16 i (by omega); omega) (fun c_51 => ?_) (fun c_51 => ?_)
          · skip
            refine lv_iconst (v := nI 0) hx hb dX3_isCandidate_58 (by decide) ?_
            refine lv_topi (nm_r (e' := bI (cdN C K_ F_ (i + 1))) (show bI false = _ from congrArg bI (by simp only [cdN]; rw [c_24]; simp [c_51])) ?_)
            refine lv_istore_n (lv' := [(3, .int (bI (cdN C K_ F_ (i + 1)))), (4, .int (nI i)), (0, .ref (q 0)), (1, .int (fI K_)), (2, .int (fI F_))]) hx hb dX3_isCandidate_59 rfl hl (by decide) rfl (fun ls hl => ?_)
            refine lv_iinc (v := nI (i + 1)) (lv' := [(4, .int (nI (i + 1))), (3, .int (bI (cdN C K_ F_ (i + 1)))), (0, .ref (q 0)), (1, .int (fI K_)), (2, .int (fI F_))]) hx hb dX3_isCandidate_60 hl (k := 1) rfl (nI_add i 1) (by decide) rfl (fun ls hl => ?_)
            refine lv_goto (tgt := 11) hx hb dX3_isCandidate_63 (by decide) ?_
            exact ih_11  (i + 1) (by omega) (by omega) _ _ hP hD hS ls (lv_sub hl [0, 1, 2, 3, 4] rfl)
          · skip
            refine lv_iconst (v := nI 1) hx hb dX3_isCandidate_54 (by decide) ?_
            refine lv_goto (tgt := 59) hx hb dX3_isCandidate_55 (by decide) ?_
            refine lv_topi (nm_r (e' := bI (cdN C K_ F_ (i + 1))) (show bI true = _ from congrArg bI (by simp only [cdN]; rw [c_24]; simp [c_51])) ?_)
            refine lv_istore_n (lv' := [(3, .int (bI (cdN C K_ F_ (i + 1)))), (4, .int (nI i)), (0, .ref (q 0)), (1, .int (fI K_)), (2, .int (fI F_))]) hx hb dX3_isCandidate_59 rfl hl (by decide) rfl (fun ls hl => ?_)
            refine lv_iinc (v := nI (i + 1)) (lv' := [(4, .int (nI (i + 1))), (3, .int (bI (cdN C K_ F_ (i + 1)))), (0, .ref (q 0)), (1, .int (fI K_)), (2, .int (fI F_))]) hx hb dX3_isCandidate_60 hl (k := 1) rfl (nI_add i 1) (by decide) rfl (fun ls hl => ?_)
            refine lv_goto (tgt := 11) hx hb dX3_isCandidate_63 (by decide) ?_
            exact ih_11  (i + 1) (by omega) (by omega) _ _ hP hD hS ls (lv_sub hl [0, 1, 2, 3, 4] rfl)
  have hl : lv_has ls 5 [(4, .int (nI 0)), (3, .int (bI (cdN C K_ F_ 0))), (0, .ref (q 0)), (1, .int (fI K_)), (2, .int (fI F_))] := (congrArg (fun x_ => lv_has ls 5 [(4, .int (nI 0)), (3, .int x_), (0, .ref (q 0)), (1, .int (fI K_)), (2, .int (fI F_))]) (show nI 1 = bI (cdN C K_ F_ 0) from rfl)).mp hl
  exact lp_11 (C 41 - 0 + 1) 0 (Nat.lt_succ_self _) (by omega) _ _ hP hD hS ls (lv_sub hl [0, 1, 2, 3, 4] rfl)
