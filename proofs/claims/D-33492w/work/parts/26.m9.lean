/-! contracts of the model: tests that show faults; choosing -/
set_option maxRecDepth 100000
set_option maxHeartbeats 4000000 in
set_option maxRecDepth 100000 in
theorem mt_X3_tellShown (l : Launch) (D : va_G) (ca : Nat → ClassId) (q : Nat → Nat) (th : Int32) (st : Int32) (ik : Int32) (ln : Int32) (ou : Int32) (pa : Int32) (iw : Int32) (so : Int32) (na : Int32) (nb : Int32) (fo : Int32) (nu : Int32) (al : Int32) (be : Nat → Int32) (ke : Nat → Int32) (te : Nat → Int32) (ti : Nat → Int32) (ne : Nat → Int32) (wa : Nat → Int32) (ta : Nat → Int64) (out : Nat → Int64) (pl : Nat → Int64) (lo : Nat → Int64) (sh : Nat → Int64) (le : Nat → Int64) (C : Nat → Nat) (h0 : C 0 ≤ 12) (hkd0 : ∀ k, k < 12 → C (1 + k) < 8) (hse : ∀ k, k < 12 → C (13 + k) < 6 + k ∧ C (25 + k) < 6 + k) (ho : C 37 < 2 ^ 18) (hbx : C 38 < 2 ^ 18) (hno : popc 18 (C 37) ≤ 4) (nn : Nat) : Met l yX3_tellShown (ws_ yX3_tellShown cX3_tellShown 7 (Option.some Jvm.ClassFile.FieldType.long)) ({ frames := 3, cells := 0, slots := 0, locals := 76 } : Room) (va_Pc [.ref (q 0)] (PreW Ev0 D vwCl (TY ca) (WM ca q th st ik ln ou pa iw so na nb fo nu al (zOf C) be ke te ti ne wa ta out pl lo sh le) nn)) (va_Ql (fun (r_ : Int64) (u_ : (Nat → Int64) × (Nat → Int64) × Int32 × (Nat → Int64)) => r_ = lN (opn C (2 * (6 + C 0)))) (PostW D vwCl (TY ca) (fun (u_ : (Nat → Int64) × (Nat → Int64) × Int32 × (Nat → Int64)) => (WM ca q th st ik ln u_.2.2.1 pa iw so na nb fo nu al (zOf C) be ke te ti ne wa u_.1 u_.2.1 u_.2.2.2 lo (lNf (shN C (2 * (6 + C 0)))) le)) (va_A (WM ca q th st ik ln ou pa iw so na nb fo nu al (zOf C) be ke te ti ne wa ta out pl lo sh le) nn)) (va_A (WM ca q th st ik ln ou pa iw so na nb fo nu al (zOf C) be ke te ti ne wa ta out pl lo sh le) nn)) 0 0 (va_A (WM ca q th st ik ln ou pa iw so na nb fo nu al (zOf C) be ke te ti ne wa ta out pl lo sh le) nn) := by
  refine met_go (QA := fun A => va_Ql (fun (r_ : Int64) (u_ : (Nat → Int64) × (Nat → Int64) × Int32 × (Nat → Int64)) => r_ = lN (opn C (2 * (6 + C 0)))) (PostW D vwCl (TY ca) (fun (u_ : (Nat → Int64) × (Nat → Int64) × Int32 × (Nat → Int64)) => (WM ca q th st ik ln u_.2.2.1 pa iw so na nb fo nu al (zOf C) be ke te ti ne wa u_.1 u_.2.1 u_.2.2.2 lo (lNf (shN C (2 * (6 + C 0)))) le)) A) A) (by decide) (Nat.le_of_ble_eq_true rfl) (fun p e s m below meth c A ls QQ hQQ hx hb hr hts hown hlocks hml hA hP hK hD hE hl => ?_)
  have hown : s.vm.findClass RX3 = some m.cls := hown
  have hS : va_S A s.heap s.heap [] := va_S.rf
  have hl : lv_has ls 7 [(0, .ref (q 0))] := hl
  generalize hHe : s.heap = H at hP ⊢
  have hS : va_S A s.heap H [] := hHe ▸ hS
  generalize ([] : List Loc) = locs at hS ⊢
  refine lv_lconst (v := lN 0) hx hb dX3_tellShown_0 (by decide) ?_
  refine lv_lstore_n (lv' := [(1, .long (lN 0)), (0, .ref (q 0))]) hx hb dX3_tellShown_1 rfl hl (by decide) rfl (fun ls hl => ?_)
  refine lv_iconst (v := nI 0) hx hb dX3_tellShown_2 (by decide) ?_
  refine lv_istore_n (lv' := [(3, .int (nI 0)), (1, .long (lN 0)), (0, .ref (q 0))]) hx hb dX3_tellShown_3 rfl hl (by decide) rfl (fun ls hl => ?_)
  have lp_4 : ∀ (fu_4 : Nat) (i : Nat), 64 - i < fu_4 → (i ≤ 64) → ∀ (H : Heap) (locs : List Loc), va_P D vwCl (WM ca q th st ik ln ou pa iw so na nb fo nu al (zOf C) be ke te ti ne wa ta out pl lo (fillL i (fun _ => lN 0) sh) le) H → va_D A (WM ca q th st ik ln ou pa iw so na nb fo nu al (zOf C) be ke te ti ne wa ta out pl lo (fillL i (fun _ => lN 0) sh) le) → va_S A s.heap H locs → ∀ (ls : Array Slot), lv_has ls 7 [(3, .int (nI i)), (1, .long (lN 0)), (0, .ref (q 0))] → W p l e ({ frames := 3, cells := 0, slots := 0, locals := 76 } : Room) s m ([.ref (q 0)] : List Value).toArray below meth c H locs 0 0 QQ (F0 m 4 ls []) := by
    intro fu_4
    induction fu_4 with
    | zero => intro i hfu; exact absurd hfu (Nat.not_lt_zero _)
    | succ fu_4 ih_4 =>
      intro i hfu hi H locs hP hD hS ls hl
      refine lv_iload_n hx hb dX3_tellShown_4 rfl (lv_at hl 0 rfl) ?_
      refine lv_bipush (v := nI 64) hx hb dX3_tellShown_5 (by decide) ?_
      refine nv_icmp_ge (tgt := 23) hx hb dX3_tellShown_7 (by decide) (by omega) (by omega) (fun c_7 => ?_) (fun c_7 => ?_)
      · skip
        have e_ : 64 = i := Eq.symm (by omega)
        subst e_
        have hP : va_P D vwCl (WM ca q th st ik ln ou pa iw so na nb fo nu al (zOf C) be ke te ti ne wa ta out pl lo (lNf (shN C 0)) le) H := cgWM_10 (fun k hk => if_pos hk) hP
        have hD : va_D A (WM ca q th st ik ln ou pa iw so na nb fo nu al (zOf C) be ke te ti ne wa ta out pl lo (lNf (shN C 0)) le) := dgWM_10 hD
        refine lv_iconst (v := nI 0) hx hb dX3_tellShown_23 (by decide) ?_
        refine lv_istore_n (lv' := [(3, .int (nI 0)), (1, .long (lN 0)), (0, .ref (q 0))]) hx hb dX3_tellShown_24 rfl hl (by decide) rfl (fun ls hl => ?_)
        have lp_25 : ∀ (fu_25 : Nat) (f : Nat) (ta_ : Nat → Int64) (out_ : Nat → Int64) (ou_ : Int32) (pl_ : Nat → Int64), (2 * (6 + C 0)) - f < fu_25 → (f ≤ (2 * (6 + C 0))) → ∀ (H : Heap) (locs : List Loc), va_P D vwCl (WM ca q th st ik ln ou_ pa iw so na nb fo nu al (zOf C) be ke te ti ne wa ta_ out_ pl_ lo (lNf (shN C f)) le) H → va_D A (WM ca q th st ik ln ou_ pa iw so na nb fo nu al (zOf C) be ke te ti ne wa ta_ out_ pl_ lo (lNf (shN C f)) le) → va_S A s.heap H locs → ∀ (ls : Array Slot), lv_has ls 7 [(3, .int (nI f)), (1, .long (lN (opn C f))), (0, .ref (q 0))] → W p l e ({ frames := 3, cells := 0, slots := 0, locals := 76 } : Room) s m ([.ref (q 0)] : List Value).toArray below meth c H locs 0 0 QQ (F0 m 25 ls []) := by
          intro fu_25
          induction fu_25 with
          | zero => intro f ta_ out_ ou_ pl_ hfu; exact absurd hfu (Nat.not_lt_zero _)
          | succ fu_25 ih_25 =>
            intro f ta_ out_ ou_ pl_ hfu hf H locs hP hD hS ls hl
            refine lv_iload_n hx hb dX3_tellShown_25 rfl (lv_at hl 0 rfl) ?_
            refine lv_iconst (v := nI 2) hx hb dX3_tellShown_26 (by decide) ?_
            refine lv_aload_n hx hb dX3_tellShown_27 rfl (lv_at hl 2 rfl) ?_
            refine xc_i (xr_V (b := q 0) (ci := 2) (q0 := 0) (As := []) (rest := [.int (nI 2), .int (nI f)]) (mt_X3_lines l D ca q th st ik ln ou_ pa iw so na nb fo nu al be ke te ti ne wa ta_ out_ pl_ lo (lNf (shN C f)) le C  H.size) ⟨hx, hb, hml, hown, hts⟩ (cwV 0 hts (lw_V q1696 q1698 qs45 q87 q1699) rfl rfl rfl (by decide +kernel) ⟨Nat.le_of_ble_eq_true rfl, Nat.le_of_ble_eq_true rfl⟩) Ev0_ok hE hK hS (Cut.all hP hD hS hA) rfl rfl rfl hl.1 rfl (Nat.le_of_ble_eq_true rfl) dX3_tellShown_28 ⟨Nat.le_of_ble_eq_true rfl, Nat.le_of_ble_eq_true rfl⟩) hS (Cut.all hP hD hS hA) (fun r_2 u_3 H locs hq_28 hP hD hS => ?_)
            have hP : va_P D vwCl (WM ca q th st ik ln ou_ pa iw so na nb fo nu al (zOf C) be ke te ti ne wa ta_ out_ pl_ lo (lNf (shN C f)) le) H := hP
            have hD : va_D A (WM ca q th st ik ln ou_ pa iw so na nb fo nu al (zOf C) be ke te ti ne wa ta_ out_ pl_ lo (lNf (shN C f)) le) := hD
            have hp_28 : r_2 = nI (6 + C 0) := hq_28
            clear hq_28
            obtain rfl := hp_28
            refine nv_imul hx hb dX3_tellShown_31 ?_
            refine nv_icmp_ge (tgt := 101) hx hb dX3_tellShown_32 (by decide) (by omega) (by omega) (fun c_32 => ?_) (fun c_32 => ?_)
            · skip
              have e_ : (2 * (6 + C 0)) = f := Eq.symm (by omega)
              subst e_
              refine lv_lload_n hx hb dX3_tellShown_101 rfl (lv_at hl 1 rfl) ?_
              subst hQQ
              exact xe_l (v := lN (opn C (2 * (6 + C 0)))) (ta_, out_, ou_, pl_) hx hb hr hlocks hK hP hD hS (rfl) dX3_tellShown_102
            · skip
              refine lv_aload_n hx hb dX3_tellShown_35 rfl (lv_at hl 2 rfl) ?_
              refine lv_iload_n hx hb dX3_tellShown_36 rfl (lv_at hl 0 rfl) ?_
              refine lv_topi (nm_r (e' := fI (f + 1)) (fI_S f) ?_)
              refine lv_iconst (v := fI 0) hx hb dX3_tellShown_37 (by decide) ?_
              refine xc_l (xr_V (b := q 0) (ci := 2) (q0 := 0) (As := [.int (fI (f + 1)), .int (fI 0)]) (rest := []) (mt_X3_apart l D ca q th st ik ln ou_ pa iw so na nb fo nu al be ke te ti ne wa ta_ out_ pl_ lo (lNf (shN C f)) le C (f + 1) 0 (by first | assumption | omega | (simp only [updN, forgetC, changedC]; (repeat' split) <;> omega)) (by first | assumption | omega | (simp only [updN, forgetC, changedC]; (repeat' split) <;> omega)) (by first | assumption | omega | (simp only [updN, forgetC, changedC]; (repeat' split) <;> omega)) (by first | assumption | omega | (simp only [updN, forgetC, changedC]; (repeat' split) <;> omega)) (by first | assumption | omega | (simp only [updN, forgetC, changedC]; (repeat' split) <;> omega)) (by first | assumption | omega | (simp only [updN, forgetC, changedC]; (repeat' split) <;> omega)) (by first | assumption | omega | (simp only [updN, forgetC, changedC]; (repeat' split) <;> omega)) (by first | assumption | omega | (simp only [updN, forgetC, changedC]; (repeat' split) <;> omega)) H.size) ⟨hx, hb, hml, hown, hts⟩ (cwV 2 hts (lw_V q1836 q1838 qs66 q87 q1839) rfl rfl rfl (by decide +kernel) ⟨Nat.le_of_ble_eq_true rfl, Nat.le_of_ble_eq_true rfl⟩) Ev0_ok hE hK hS (Cut.all hP hD hS hA) rfl rfl rfl hl.1 rfl (Nat.le_of_ble_eq_true rfl) dX3_tellShown_38 ⟨Nat.le_of_ble_eq_true rfl, Nat.le_of_ble_eq_true rfl⟩) hS (Cut.all hP hD hS hA) (fun r_5 u_6 H locs hq_38 hP hD hS => ?_)
              obtain ⟨ta1_7, out1_8, pl1_9⟩ := u_6
              have hP : va_P D vwCl (WM ca q th st ik ln (nI (no C)) pa iw so na nb fo nu al (zOf C) be ke te ti ne wa ta1_7 out1_8 pl1_9 lo (lNf (shN C f)) le) H := hP
              have hD : va_D A (WM ca q th st ik ln (nI (no C)) pa iw so na nb fo nu al (zOf C) be ke te ti ne wa ta1_7 out1_8 pl1_9 lo (lNf (shN C f)) le) := hD
              have hp_38 : r_5 = apC C (f + 1) 0 := hq_38
              clear hq_38
              obtain rfl := hp_38
              refine lv_lstore (lv' := [(4, .long (apC C (f + 1) 0)), (3, .int (nI f)), (1, .long (lN (opn C f))), (0, .ref (q 0))]) hx hb dX3_tellShown_41 hl (by decide) rfl (fun ls hl => ?_)
              refine lv_lload_n hx hb dX3_tellShown_43 rfl (lv_at hl 2 rfl) ?_
              refine lv_lload hx hb dX3_tellShown_44 (lv_at hl 0 rfl) ?_
              refine lv_lconst (v := lN 0) hx hb dX3_tellShown_46 (by decide) ?_
              refine nv_lcmp_eq (tgt := 57) hx hb dX3_tellShown_47 dX3_tellShown_48 (by decide) (fun c_47 => ?_) (fun c_47 => ?_)
              · skip
                refine lv_lconst (v := lN 0) hx hb dX3_tellShown_57 (by decide) ?_
                refine lv_lor hx hb dX3_tellShown_58 ?_
                refine lv_topl (nm_r (e' := lN (opn C (f + 1))) (by rw [lN_or]; simp only [opn]; rw [if_pos c_47]) ?_)
                refine lv_lstore_n (lv' := [(1, .long (lN (opn C (f + 1)))), (4, .long (apC C (f + 1) 0)), (3, .int (nI f)), (0, .ref (q 0))]) hx hb dX3_tellShown_59 rfl hl (by decide) rfl (fun ls hl => ?_)
                refine lv_iconst (v := nI 0) hx hb dX3_tellShown_60 (by decide) ?_
                refine lv_istore (lv' := [(6, .int (nI 0)), (1, .long (lN (opn C (f + 1)))), (4, .long (apC C (f + 1) 0)), (3, .int (nI f)), (0, .ref (q 0))]) hx hb dX3_tellShown_61 hl (by decide) rfl (fun ls hl => ?_)
                have lp_63 : ∀ (fu_63 : Nat) (t : Nat), 64 - t < fu_63 → (t ≤ 64) → ∀ (H : Heap) (locs : List Loc), va_P D vwCl (WM ca q th st ik ln (nI (no C)) pa iw so na nb fo nu al (zOf C) be ke te ti ne wa ta1_7 out1_8 pl1_9 lo (lNf (shS C f t)) le) H → va_D A (WM ca q th st ik ln (nI (no C)) pa iw so na nb fo nu al (zOf C) be ke te ti ne wa ta1_7 out1_8 pl1_9 lo (lNf (shS C f t)) le) → va_S A s.heap H locs → ∀ (ls : Array Slot), lv_has ls 7 [(6, .int (nI t)), (1, .long (lN (opn C (f + 1)))), (4, .long (apC C (f + 1) 0)), (3, .int (nI f)), (0, .ref (q 0))] → W p l e ({ frames := 3, cells := 0, slots := 0, locals := 76 } : Room) s m ([.ref (q 0)] : List Value).toArray below meth c H locs 0 0 QQ (F0 m 63 ls []) := by
                  intro fu_63
                  induction fu_63 with
                  | zero => intro t hfu; exact absurd hfu (Nat.not_lt_zero _)
                  | succ fu_63 ih_63 =>
                    intro t hfu ht_ H locs hP hD hS ls hl
                    refine lv_iload hx hb dX3_tellShown_63 (lv_at hl 0 rfl) ?_
                    refine lv_bipush (v := nI 64) hx hb dX3_tellShown_65 (by decide) ?_
                    refine nv_icmp_ge (tgt := 95) hx hb dX3_tellShown_67 (by decide) (by omega) (by omega) (fun c_67 => ?_) (fun c_67 => ?_)
                    · skip
                      have e_ : 64 = t := Eq.symm (by omega)
                      subst e_
                      have hP : va_P D vwCl (WM ca q th st ik ln (nI (no C)) pa iw so na nb fo nu al (zOf C) be ke te ti ne wa ta1_7 out1_8 pl1_9 lo (lNf (shN C (f + 1))) le) H := cgWM_10 (fun k hk => congrArg lN (by simp only [shS]; rw [if_pos hk])) hP
                      have hD : va_D A (WM ca q th st ik ln (nI (no C)) pa iw so na nb fo nu al (zOf C) be ke te ti ne wa ta1_7 out1_8 pl1_9 lo (lNf (shN C (f + 1))) le) := dgWM_10 hD
                      refine lv_iinc (v := nI (f + 1)) (lv' := [(3, .int (nI (f + 1))), (6, .int (nI 64)), (1, .long (lN (opn C (f + 1)))), (4, .long (apC C (f + 1) 0)), (0, .ref (q 0))]) hx hb dX3_tellShown_95 hl (k := 3) rfl (nI_add f 1) (by decide) rfl (fun ls hl => ?_)
                      refine lv_goto (tgt := 25) hx hb dX3_tellShown_98 (by decide) ?_
                      exact ih_25  (f + 1) ta1_7 out1_8 (nI (no C)) pl1_9 (by omega) (by omega) _ _ hP hD hS ls (lv_sub hl [0, 2, 4] rfl)
                    · skip
                      refine lv_aload_n hx hb dX3_tellShown_70 rfl (lv_at hl 4 rfl) ?_
                      refine gWM_0_shown_X3 hx hb hts hown hK hP dX3_tellShown_71 ?_
                      refine lv_iload hx hb dX3_tellShown_74 (lv_at hl 0 rfl) ?_
                      refine lv_dup2_11 hx hb dX3_tellShown_76 rfl rfl ?_
                      refine ldWM_10 hx hb hK hP (by omega) dX3_tellShown_77 ?_
                      refine lv_topl (nm_r (e' := lN (shN C f t)) (congrArg lN (by simp [shS])) ?_)
                      refine lv_lload hx hb dX3_tellShown_78 (lv_at hl 2 rfl) ?_
                      refine lv_iload hx hb dX3_tellShown_80 (lv_at hl 0 rfl) ?_
                      refine lv_lushr (v := ush64 (apC C (f + 1) 0) t) hx hb dX3_tellShown_82 rfl ?_
                      refine lv_lconst (v := lN 1) hx hb dX3_tellShown_83 (by decide) ?_
                      refine lv_land hx hb dX3_tellShown_84 ?_
                      refine lv_topl (nm_r (e' := lN (b2n (bit64 (apC C (f + 1) 0) t))) (ush_1 _ (by omega)) ?_)
                      refine lv_iload_n hx hb dX3_tellShown_85 rfl (lv_at hl 3 rfl) ?_
                      refine lv_lshl (v := shl64 (lN (b2n (bit64 (apC C (f + 1) 0) t))) f) hx hb dX3_tellShown_86 rfl ?_
                      refine lv_lor hx hb dX3_tellShown_87 ?_
                      refine lv_topl (nm_r (e' := lN (shN C f t ||| (b2n (bit64 (apC C (f + 1) 0) t) <<< f))) (by rw [shl_lN (by omega), lN_or]) ?_)
                      refine stWM_10 hx hb hK hP hD hS (by omega) dX3_tellShown_88 (fun H locs hP hD hS => ?_)
                      have ew_ : vp_updL (lNf (shS C f t)) t (lN (shN C f t ||| (b2n (bit64 (apC C (f + 1) 0) t) <<< f))) = lNf (shS C f (t + 1)) := (lNf_u _ _ _).trans (congrArg lNf shS_s)
                      have hP : va_P D vwCl (WM ca q th st ik ln (nI (no C)) pa iw so na nb fo nu al (zOf C) be ke te ti ne wa ta1_7 out1_8 pl1_9 lo (lNf (shS C f (t + 1))) le) H := (congrArg (fun x_ => va_P D vwCl (WM ca q th st ik ln (nI (no C)) pa iw so na nb fo nu al (zOf C) be ke te ti ne wa ta1_7 out1_8 pl1_9 lo x_ le) H) ew_).mp hP
                      have hD : va_D A (WM ca q th st ik ln (nI (no C)) pa iw so na nb fo nu al (zOf C) be ke te ti ne wa ta1_7 out1_8 pl1_9 lo (lNf (shS C f (t + 1))) le) := (congrArg (fun x_ => va_D A (WM ca q th st ik ln (nI (no C)) pa iw so na nb fo nu al (zOf C) be ke te ti ne wa ta1_7 out1_8 pl1_9 lo x_ le)) ew_).mp hD
                      clear ew_
                      refine lv_iinc (v := nI (t + 1)) (lv' := [(6, .int (nI (t + 1))), (1, .long (lN (opn C (f + 1)))), (4, .long (apC C (f + 1) 0)), (3, .int (nI f)), (0, .ref (q 0))]) hx hb dX3_tellShown_89 hl (k := 0) rfl (nI_add t 1) (by decide) rfl (fun ls hl => ?_)
                      refine lv_goto (tgt := 63) hx hb dX3_tellShown_92 (by decide) ?_
                      exact ih_63  (t + 1) (by omega) (by omega) _ _ hP hD hS ls (lv_sub hl [0, 1, 2, 3, 4] rfl)
                have ew_ : lNf (shN C f) = lNf (shS C f 0) := by congr 1
                have hP : va_P D vwCl (WM ca q th st ik ln (nI (no C)) pa iw so na nb fo nu al (zOf C) be ke te ti ne wa ta1_7 out1_8 pl1_9 lo (lNf (shS C f 0)) le) H := (congrArg (fun x_ => va_P D vwCl (WM ca q th st ik ln (nI (no C)) pa iw so na nb fo nu al (zOf C) be ke te ti ne wa ta1_7 out1_8 pl1_9 lo x_ le) H) ew_).mp hP
                have hD : va_D A (WM ca q th st ik ln (nI (no C)) pa iw so na nb fo nu al (zOf C) be ke te ti ne wa ta1_7 out1_8 pl1_9 lo (lNf (shS C f 0)) le) := (congrArg (fun x_ => va_D A (WM ca q th st ik ln (nI (no C)) pa iw so na nb fo nu al (zOf C) be ke te ti ne wa ta1_7 out1_8 pl1_9 lo x_ le)) ew_).mp hD
                clear ew_
                exact lp_63 (64 - 0 + 1) 0 (Nat.lt_succ_self _) (by omega) _ _ hP hD hS ls (lv_sub hl [0, 1, 2, 3, 4] rfl)
              · skip
                refine lv_lconst (v := lN 1) hx hb dX3_tellShown_51 (by decide) ?_
                refine lv_iload_n hx hb dX3_tellShown_52 rfl (lv_at hl 1 rfl) ?_
                refine lv_lshl (v := shl64 (lN 1) f) hx hb dX3_tellShown_53 rfl ?_
                refine lv_goto (tgt := 58) hx hb dX3_tellShown_54 (by decide) ?_
                refine lv_lor hx hb dX3_tellShown_58 ?_
                refine lv_topl (nm_r (e' := lN (opn C (f + 1))) (by rw [shl_lN (by omega), lN_or]; simp only [opn]; rw [if_neg c_47]) ?_)
                refine lv_lstore_n (lv' := [(1, .long (lN (opn C (f + 1)))), (4, .long (apC C (f + 1) 0)), (3, .int (nI f)), (0, .ref (q 0))]) hx hb dX3_tellShown_59 rfl hl (by decide) rfl (fun ls hl => ?_)
                refine lv_iconst (v := nI 0) hx hb dX3_tellShown_60 (by decide) ?_
                refine lv_istore (lv' := [(6, .int (nI 0)), (1, .long (lN (opn C (f + 1)))), (4, .long (apC C (f + 1) 0)), (3, .int (nI f)), (0, .ref (q 0))]) hx hb dX3_tellShown_61 hl (by decide) rfl (fun ls hl => ?_)
                have lp_63 : ∀ (fu_63 : Nat) (t : Nat), 64 - t < fu_63 → (t ≤ 64) → ∀ (H : Heap) (locs : List Loc), va_P D vwCl (WM ca q th st ik ln (nI (no C)) pa iw so na nb fo nu al (zOf C) be ke te ti ne wa ta1_7 out1_8 pl1_9 lo (lNf (shS C f t)) le) H → va_D A (WM ca q th st ik ln (nI (no C)) pa iw so na nb fo nu al (zOf C) be ke te ti ne wa ta1_7 out1_8 pl1_9 lo (lNf (shS C f t)) le) → va_S A s.heap H locs → ∀ (ls : Array Slot), lv_has ls 7 [(6, .int (nI t)), (1, .long (lN (opn C (f + 1)))), (4, .long (apC C (f + 1) 0)), (3, .int (nI f)), (0, .ref (q 0))] → W p l e ({ frames := 3, cells := 0, slots := 0, locals := 76 } : Room) s m ([.ref (q 0)] : List Value).toArray below meth c H locs 0 0 QQ (F0 m 63 ls []) := by
                  intro fu_63
                  induction fu_63 with
                  | zero => intro t hfu; exact absurd hfu (Nat.not_lt_zero _)
                  | succ fu_63 ih_63 =>
                    intro t hfu ht_ H locs hP hD hS ls hl
                    refine lv_iload hx hb dX3_tellShown_63 (lv_at hl 0 rfl) ?_
                    refine lv_bipush (v := nI 64) hx hb dX3_tellShown_65 (by decide) ?_
                    refine nv_icmp_ge (tgt := 95) hx hb dX3_tellShown_67 (by decide) (by omega) (by omega) (fun c_67 => ?_) (fun c_67 => ?_)
                    · skip
                      have e_ : 64 = t := Eq.symm (by omega)
                      subst e_
                      have hP : va_P D vwCl (WM ca q th st ik ln (nI (no C)) pa iw so na nb fo nu al (zOf C) be ke te ti ne wa ta1_7 out1_8 pl1_9 lo (lNf (shN C (f + 1))) le) H := cgWM_10 (fun k hk => congrArg lN (by simp only [shS]; rw [if_pos hk])) hP
                      have hD : va_D A (WM ca q th st ik ln (nI (no C)) pa iw so na nb fo nu al (zOf C) be ke te ti ne wa ta1_7 out1_8 pl1_9 lo (lNf (shN C (f + 1))) le) := dgWM_10 hD
                      refine lv_iinc (v := nI (f + 1)) (lv' := [(3, .int (nI (f + 1))), (6, .int (nI 64)), (1, .long (lN (opn C (f + 1)))), (4, .long (apC C (f + 1) 0)), (0, .ref (q 0))]) hx hb dX3_tellShown_95 hl (k := 3) rfl (nI_add f 1) (by decide) rfl (fun ls hl => ?_)
                      refine lv_goto (tgt := 25) hx hb dX3_tellShown_98 (by decide) ?_
                      exact ih_25  (f + 1) ta1_7 out1_8 (nI (no C)) pl1_9 (by omega) (by omega) _ _ hP hD hS ls (lv_sub hl [0, 2, 4] rfl)
                    · skip
                      refine lv_aload_n hx hb dX3_tellShown_70 rfl (lv_at hl 4 rfl) ?_
                      refine gWM_0_shown_X3 hx hb hts hown hK hP dX3_tellShown_71 ?_
                      refine lv_iload hx hb dX3_tellShown_74 (lv_at hl 0 rfl) ?_
                      refine lv_dup2_11 hx hb dX3_tellShown_76 rfl rfl ?_
                      refine ldWM_10 hx hb hK hP (by omega) dX3_tellShown_77 ?_
                      refine lv_topl (nm_r (e' := lN (shN C f t)) (congrArg lN (by simp [shS])) ?_)
                      refine lv_lload hx hb dX3_tellShown_78 (lv_at hl 2 rfl) ?_
                      refine lv_iload hx hb dX3_tellShown_80 (lv_at hl 0 rfl) ?_
                      refine lv_lushr (v := ush64 (apC C (f + 1) 0) t) hx hb dX3_tellShown_82 rfl ?_
                      refine lv_lconst (v := lN 1) hx hb dX3_tellShown_83 (by decide) ?_
                      refine lv_land hx hb dX3_tellShown_84 ?_
                      refine lv_topl (nm_r (e' := lN (b2n (bit64 (apC C (f + 1) 0) t))) (ush_1 _ (by omega)) ?_)
                      refine lv_iload_n hx hb dX3_tellShown_85 rfl (lv_at hl 3 rfl) ?_
                      refine lv_lshl (v := shl64 (lN (b2n (bit64 (apC C (f + 1) 0) t))) f) hx hb dX3_tellShown_86 rfl ?_
                      refine lv_lor hx hb dX3_tellShown_87 ?_
                      refine lv_topl (nm_r (e' := lN (shN C f t ||| (b2n (bit64 (apC C (f + 1) 0) t) <<< f))) (by rw [shl_lN (by omega), lN_or]) ?_)
                      refine stWM_10 hx hb hK hP hD hS (by omega) dX3_tellShown_88 (fun H locs hP hD hS => ?_)
                      have ew_ : vp_updL (lNf (shS C f t)) t (lN (shN C f t ||| (b2n (bit64 (apC C (f + 1) 0) t) <<< f))) = lNf (shS C f (t + 1)) := (lNf_u _ _ _).trans (congrArg lNf shS_s)
                      have hP : va_P D vwCl (WM ca q th st ik ln (nI (no C)) pa iw so na nb fo nu al (zOf C) be ke te ti ne wa ta1_7 out1_8 pl1_9 lo (lNf (shS C f (t + 1))) le) H := (congrArg (fun x_ => va_P D vwCl (WM ca q th st ik ln (nI (no C)) pa iw so na nb fo nu al (zOf C) be ke te ti ne wa ta1_7 out1_8 pl1_9 lo x_ le) H) ew_).mp hP
                      have hD : va_D A (WM ca q th st ik ln (nI (no C)) pa iw so na nb fo nu al (zOf C) be ke te ti ne wa ta1_7 out1_8 pl1_9 lo (lNf (shS C f (t + 1))) le) := (congrArg (fun x_ => va_D A (WM ca q th st ik ln (nI (no C)) pa iw so na nb fo nu al (zOf C) be ke te ti ne wa ta1_7 out1_8 pl1_9 lo x_ le)) ew_).mp hD
                      clear ew_
                      refine lv_iinc (v := nI (t + 1)) (lv' := [(6, .int (nI (t + 1))), (1, .long (lN (opn C (f + 1)))), (4, .long (apC C (f + 1) 0)), (3, .int (nI f)), (0, .ref (q 0))]) hx hb dX3_tellShown_89 hl (k := 0) rfl (nI_add t 1) (by decide) rfl (fun ls hl => ?_)
                      refine lv_goto (tgt := 63) hx hb dX3_tellShown_92 (by decide) ?_
                      exact ih_63  (t + 1) (by omega) (by omega) _ _ hP hD hS ls (lv_sub hl [0, 1, 2, 3, 4] rfl)
                have ew_ : lNf (shN C f) = lNf (shS C f 0) := by congr 1
                have hP : va_P D vwCl (WM ca q th st ik ln (nI (no C)) pa iw so na nb fo nu al (zOf C) be ke te ti ne wa ta1_7 out1_8 pl1_9 lo (lNf (shS C f 0)) le) H := (congrArg (fun x_ => va_P D vwCl (WM ca q th st ik ln (nI (no C)) pa iw so na nb fo nu al (zOf C) be ke te ti ne wa ta1_7 out1_8 pl1_9 lo x_ le) H) ew_).mp hP
                have hD : va_D A (WM ca q th st ik ln (nI (no C)) pa iw so na nb fo nu al (zOf C) be ke te ti ne wa ta1_7 out1_8 pl1_9 lo (lNf (shS C f 0)) le) := (congrArg (fun x_ => va_D A (WM ca q th st ik ln (nI (no C)) pa iw so na nb fo nu al (zOf C) be ke te ti ne wa ta1_7 out1_8 pl1_9 lo x_ le)) ew_).mp hD
                clear ew_
                exact lp_63 (64 - 0 + 1) 0 (Nat.lt_succ_self _) (by omega) _ _ hP hD hS ls (lv_sub hl [0, 1, 2, 3, 4] rfl)
        exact lp_25 ((2 * (6 + C 0)) - 0 + 1) 0 ta out ou pl (Nat.lt_succ_self _) (by omega) _ _ hP hD hS ls (lv_sub hl [0, 1, 2] rfl)
      · skip
        refine lv_aload_n hx hb dX3_tellShown_10 rfl (lv_at hl 2 rfl) ?_
        refine gWM_0_shown_X3 hx hb hts hown hK hP dX3_tellShown_11 ?_
        refine lv_iload_n hx hb dX3_tellShown_14 rfl (lv_at hl 0 rfl) ?_
        refine lv_lconst (v := lN 0) hx hb dX3_tellShown_15 (by decide) ?_
        refine stWM_10 hx hb hK hP hD hS (by omega) dX3_tellShown_16 (fun H locs hP hD hS => ?_)
        refine lv_iinc (v := nI (i + 1)) (lv' := [(3, .int (nI (i + 1))), (1, .long (lN 0)), (0, .ref (q 0))]) hx hb dX3_tellShown_17 hl (k := 0) rfl (nI_add i 1) (by decide) rfl (fun ls hl => ?_)
        refine lv_goto (tgt := 4) hx hb dX3_tellShown_20 (by decide) ?_
        have ew_ : vp_updL (fillL i (fun _ => lN 0) sh) i (lN 0) = fillL (i + 1) (fun _ => lN 0) sh := fillL_s _ (fun _ => lN 0) _
        have hP : va_P D vwCl (WM ca q th st ik ln ou pa iw so na nb fo nu al (zOf C) be ke te ti ne wa ta out pl lo (fillL (i + 1) (fun _ => lN 0) sh) le) H := (congrArg (fun x_ => va_P D vwCl (WM ca q th st ik ln ou pa iw so na nb fo nu al (zOf C) be ke te ti ne wa ta out pl lo x_ le) H) ew_).mp hP
        have hD : va_D A (WM ca q th st ik ln ou pa iw so na nb fo nu al (zOf C) be ke te ti ne wa ta out pl lo (fillL (i + 1) (fun _ => lN 0) sh) le) := (congrArg (fun x_ => va_D A (WM ca q th st ik ln ou pa iw so na nb fo nu al (zOf C) be ke te ti ne wa ta out pl lo x_ le)) ew_).mp hD
        clear ew_
        exact ih_4  (i + 1) (by omega) (by omega) _ _ hP hD hS ls (lv_sub hl [0, 1, 2] rfl)
  have ew_ : sh = fillL 0 (fun _ => lN 0) sh := (fillL_0 _ _).symm
  have hP : va_P D vwCl (WM ca q th st ik ln ou pa iw so na nb fo nu al (zOf C) be ke te ti ne wa ta out pl lo (fillL 0 (fun _ => lN 0) sh) le) H := (congrArg (fun x_ => va_P D vwCl (WM ca q th st ik ln ou pa iw so na nb fo nu al (zOf C) be ke te ti ne wa ta out pl lo x_ le) H) ew_).mp hP
  have hD : va_D A (WM ca q th st ik ln ou pa iw so na nb fo nu al (zOf C) be ke te ti ne wa ta out pl lo (fillL 0 (fun _ => lN 0) sh) le) := (congrArg (fun x_ => va_D A (WM ca q th st ik ln ou pa iw so na nb fo nu al (zOf C) be ke te ti ne wa ta out pl lo x_ le)) ew_).mp hD
  clear ew_
  exact lp_4 (64 - 0 + 1) 0 (Nat.lt_succ_self _) (by omega) _ _ hP hD hS ls (lv_sub hl [0, 1, 2] rfl)
set_option maxHeartbeats 4000000 in
set_option maxRecDepth 100000 in
theorem mt_X3_choose_ok (l : Launch) (D : va_G) (ca : Nat → ClassId) (q : Nat → Nat) (th : Int32) (ik : Int32) (ln : Int32) (ou : Int32) (pa : Int32) (iw : Int32) (so : Int32) (na : Int32) (nb : Int32) (fo : Int32) (nu : Int32) (al : Int32) (be : Nat → Int32) (ke : Nat → Int32) (te : Nat → Int32) (ti : Nat → Int32) (ne : Nat → Int32) (wa : Nat → Int32) (ta : Nat → Int64) (out : Nat → Int64) (pl : Nat → Int64) (lo : Nat → Int64) (sh : Nat → Int64) (le : Nat → Int64) (C : Nat → Nat) (L : List (Nat → Nat)) (h0 : C 0 ≤ 12) (hkd0 : ∀ k, k < 12 → C (1 + k) < 8) (hse : ∀ k, k < 12 → C (13 + k) < 6 + k ∧ C (25 + k) < 6 + k) (ho : C 37 < 2 ^ 18) (hbx : C 38 < 2 ^ 18) (hno : popc 18 (C 37) ≤ 4) (hL : L.length ≤ 5) (hB : BeOk L be) (nn : Nat) : Met l yX3_choose (ws_ yX3_choose cX3_choose 8 (Option.some Jvm.ClassFile.FieldType.int)) ({ frames := 4, cells := 0, slots := 0, locals := 102 } : Room) (va_Pc [.ref (q 0)] (PreW Ev0 D vwCl (TY ca) (WM ca q th (nI L.length) ik ln ou pa iw so na nb fo nu al (zOf C) be ke te ti ne wa ta out pl lo sh le) nn)) (va_Qi (fun (r_ : Int32) (u_ : (Nat → Int32) × (Nat → Int64) × (Nat → Int64) × Int32 × (Nat → Int64)) => r_ = nI ((chs C).length) ∧ (BeOk (pushL L C) u_.1)) (PostW D vwCl (TY ca) (fun (u_ : (Nat → Int32) × (Nat → Int64) × (Nat → Int64) × Int32 × (Nat → Int64)) => (WM ca q (nI 0) (nI (pushL L C).length) ik ln u_.2.2.2.1 pa iw so na nb fo nu al (zOf (updN C 66 (msk (chs C)))) u_.1 ke te ti ne wa u_.2.1 u_.2.2.1 u_.2.2.2.2 lo (lNf (shN C (2 * (6 + C 0)))) le)) (va_A (WM ca q th (nI L.length) ik ln ou pa iw so na nb fo nu al (zOf C) be ke te ti ne wa ta out pl lo sh le) nn)) (va_A (WM ca q th (nI L.length) ik ln ou pa iw so na nb fo nu al (zOf C) be ke te ti ne wa ta out pl lo sh le) nn)) 0 0 (va_A (WM ca q th (nI L.length) ik ln ou pa iw so na nb fo nu al (zOf C) be ke te ti ne wa ta out pl lo sh le) nn) := by
  refine met_go (QA := fun A => va_Qi (fun (r_ : Int32) (u_ : (Nat → Int32) × (Nat → Int64) × (Nat → Int64) × Int32 × (Nat → Int64)) => r_ = nI ((chs C).length) ∧ (BeOk (pushL L C) u_.1)) (PostW D vwCl (TY ca) (fun (u_ : (Nat → Int32) × (Nat → Int64) × (Nat → Int64) × Int32 × (Nat → Int64)) => (WM ca q (nI 0) (nI (pushL L C).length) ik ln u_.2.2.2.1 pa iw so na nb fo nu al (zOf (updN C 66 (msk (chs C)))) u_.1 ke te ti ne wa u_.2.1 u_.2.2.1 u_.2.2.2.2 lo (lNf (shN C (2 * (6 + C 0)))) le)) A) A) (by decide) (Nat.le_of_ble_eq_true rfl) (fun p e s m below meth c A ls QQ hQQ hx hb hr hts hown hlocks hml hA hP hK hD hE hl => ?_)
  have hown : s.vm.findClass RX3 = some m.cls := hown
  have hS : va_S A s.heap s.heap [] := va_S.rf
  have hl : lv_has ls 8 [(0, .ref (q 0))] := hl
  generalize hHe : s.heap = H at hP ⊢
  have hS : va_S A s.heap H [] := hHe ▸ hS
  generalize ([] : List Loc) = locs at hS ⊢
  refine lv_aload_n hx hb dX3_choose_0 rfl (lv_at hl 0 rfl) ?_
  refine lv_iconst (v := nI 0) hx hb dX3_choose_1 (by decide) ?_
  refine pWM_0_thrown_X3 hx hb hts hown hK hP hD hS dX3_choose_2 (fun H locs hP hD hS => ?_)
  refine lv_aload_n hx hb dX3_choose_5 rfl (lv_at hl 0 rfl) ?_
  refine xc_v (xr_V (b := q 0) (ci := 2) (q0 := 0) (As := []) (rest := []) (mt_X3_record l D ca q (nI 0) ik ln ou pa iw so na nb fo nu al be ke te ti ne wa ta out pl lo sh le C L (by first | assumption | omega | (simp only [updN, forgetC, changedC]; (repeat' split) <;> omega)) (by first | assumption | omega | (simp only [updN, forgetC, changedC]; (repeat' split) <;> omega)) H.size) ⟨hx, hb, hml, hown, hts⟩ (cwV 0 hts (lw_V q1680 q1682 qs42 q87 q1683) rfl rfl rfl (by decide +kernel) ⟨Nat.le_of_ble_eq_true rfl, Nat.le_of_ble_eq_true rfl⟩) Ev0_ok hE hK hS (Cut.all hP hD hS hA) rfl rfl rfl hl.1 rfl (Nat.le_of_ble_eq_true rfl) dX3_choose_6 ⟨Nat.le_of_ble_eq_true rfl, Nat.le_of_ble_eq_true rfl⟩) hS (Cut.all hP hD hS hA) (fun u_2 H locs hq_6 hP hD hS => ?_)
  obtain ⟨be1_3, rfl⟩ : ∃ z_, z_ = u_2 := ⟨_, rfl⟩
  have hP : va_P D vwCl (WM ca q (nI 0) (nI (pushL L C).length) ik ln ou pa iw so na nb fo nu al (zOf C) be1_3 ke te ti ne wa ta out pl lo sh le) H := hP
  have hD : va_D A (WM ca q (nI 0) (nI (pushL L C).length) ik ln ou pa iw so na nb fo nu al (zOf C) be1_3 ke te ti ne wa ta out pl lo sh le) := hD
  have hp_6 : BeOk (pushL L C) be1_3 := hq_6
  clear hq_6
  refine lv_aload_n hx hb dX3_choose_9 rfl (lv_at hl 0 rfl) ?_
  refine xc_l (xr_V (b := q 0) (ci := 2) (q0 := 0) (As := []) (rest := []) (mt_X3_tellShown l D ca q (nI 0) (nI (pushL L C).length) ik ln ou pa iw so na nb fo nu al be1_3 ke te ti ne wa ta out pl lo sh le C (by first | assumption | omega | (simp only [updN, forgetC, changedC]; (repeat' split) <;> omega)) (by first | assumption | omega | (simp only [updN, forgetC, changedC]; (repeat' split) <;> omega)) (by first | assumption | omega | (simp only [updN, forgetC, changedC]; (repeat' split) <;> omega)) (by first | assumption | omega | (simp only [updN, forgetC, changedC]; (repeat' split) <;> omega)) (by first | assumption | omega | (simp only [updN, forgetC, changedC]; (repeat' split) <;> omega)) (by first | assumption | omega | (simp only [updN, forgetC, changedC]; (repeat' split) <;> omega)) H.size) ⟨hx, hb, hml, hown, hts⟩ (cwV 0 hts (lw_V q1832 q1834 qs65 q87 q1835) rfl rfl rfl (by decide +kernel) ⟨Nat.le_of_ble_eq_true rfl, Nat.le_of_ble_eq_true rfl⟩) Ev0_ok hE hK hS (Cut.all hP hD hS hA) rfl rfl rfl hl.1 rfl (Nat.le_of_ble_eq_true rfl) dX3_choose_10 ⟨Nat.le_of_ble_eq_true rfl, Nat.le_of_ble_eq_true rfl⟩) hS (Cut.all hP hD hS hA) (fun r_4 u_5 H locs hq_10 hP hD hS => ?_)
  obtain ⟨ta1_6, out1_7, ou1_8, pl1_9⟩ := u_5
  have hP : va_P D vwCl (WM ca q (nI 0) (nI (pushL L C).length) ik ln ou1_8 pa iw so na nb fo nu al (zOf C) be1_3 ke te ti ne wa ta1_6 out1_7 pl1_9 lo (lNf (shN C (2 * (6 + C 0)))) le) H := hP
  have hD : va_D A (WM ca q (nI 0) (nI (pushL L C).length) ik ln ou1_8 pa iw so na nb fo nu al (zOf C) be1_3 ke te ti ne wa ta1_6 out1_7 pl1_9 lo (lNf (shN C (2 * (6 + C 0)))) le) := hD
  have hp_10 : r_4 = lN (opn C (2 * (6 + C 0))) := hq_10
  clear hq_10
  obtain rfl := hp_10
  refine lv_lstore_n (lv' := [(1, .long (lN (opn C (2 * (6 + C 0))))), (0, .ref (q 0))]) hx hb dX3_choose_13 rfl hl (by decide) rfl (fun ls hl => ?_)
  refine lv_lconst (v := lN 0) hx hb dX3_choose_14 (by decide) ?_
  refine lv_lstore_n (lv' := [(3, .long (lN 0)), (1, .long (lN (opn C (2 * (6 + C 0))))), (0, .ref (q 0))]) hx hb dX3_choose_15 rfl hl (by decide) rfl (fun ls hl => ?_)
  refine lv_iconst (v := nI 0) hx hb dX3_choose_16 (by decide) ?_
  refine lv_istore (lv' := [(5, .int (nI 0)), (3, .long (lN 0)), (1, .long (lN (opn C (2 * (6 + C 0))))), (0, .ref (q 0))]) hx hb dX3_choose_17 hl (by decide) rfl (fun ls hl => ?_)
  have lp_19 : ∀ (fu_19 : Nat) (k : Nat) (o : Nat) (w_ : Nat) (n : Nat), o < fu_19 → (o ≤ k) → (o < 2 ^ 36) → (AllSh (shN C (2 * (6 + C 0))) o) → (w_ ||| msk (grd (shN C (2 * (6 + C 0))) k o) = msk (chs C)) → (n + (grd (shN C (2 * (6 + C 0))) k o).length = (chs C).length) → (n + o ≤ 2 ^ 36) → ∀ (H : Heap) (locs : List Loc), va_P D vwCl (WM ca q (nI 0) (nI (pushL L C).length) ik ln ou1_8 pa iw so na nb fo nu al (zOf C) be1_3 ke te ti ne wa ta1_6 out1_7 pl1_9 lo (lNf (shN C (2 * (6 + C 0)))) le) H → va_D A (WM ca q (nI 0) (nI (pushL L C).length) ik ln ou1_8 pa iw so na nb fo nu al (zOf C) be1_3 ke te ti ne wa ta1_6 out1_7 pl1_9 lo (lNf (shN C (2 * (6 + C 0)))) le) → va_S A s.heap H locs → ∀ (ls : Array Slot), lv_has ls 8 [(5, .int (nI n)), (3, .long (lN w_)), (1, .long (lN o)), (0, .ref (q 0))] → W p l e ({ frames := 4, cells := 0, slots := 0, locals := 102 } : Room) s m ([.ref (q 0)] : List Value).toArray below meth c H locs 0 0 QQ (F0 m 19 ls []) := by
    intro fu_19
    induction fu_19 with
    | zero => intro k o w_ n hfu; exact absurd hfu (Nat.not_lt_zero _)
    | succ fu_19 ih_19 =>
      intro k o w_ n hfu hok ho36 hal hw_ hn_ hn36 H locs hP hD hS ls hl
      refine lv_lload_n hx hb dX3_choose_19 rfl (lv_at hl 2 rfl) ?_
      refine lv_lconst (v := lN 0) hx hb dX3_choose_20 (by decide) ?_
      refine nv_lcmp_eq (tgt := 107) hx hb dX3_choose_21 dX3_choose_22 (by decide) (fun c_21 => ?_) (fun c_21 => ?_)
      · skip
        have hk0 : grd (shN C (2 * (6 + C 0))) k o = [] := by rw [(lN_eq0 (by omega)).mp c_21]; exact grd_e
        have hmk : w_ = msk (chs C) := by rw [← hw_, hk0]; exact (Nat.or_zero _).symm
        have hlen : n = (chs C).length := by rw [← hn_, hk0]; rfl
        refine lv_aload_n hx hb dX3_choose_107 rfl (lv_at hl 3 rfl) ?_
        refine gWM_0_z_X3 hx hb hts hown hK hP dX3_choose_108 ?_
        refine lv_bipush (v := nI 66) hx hb dX3_choose_111 (by decide) ?_
        refine lv_lload_n hx hb dX3_choose_113 rfl (lv_at hl 1 rfl) ?_
        refine lv_l2i (v := nI w_) hx hb dX3_choose_114 (lN_i _) ?_
        refine lv_topi (nm_r (e' := lo32 (msk (chs C))) (by rw [← hmk]; exact (lN_i _).symm) ?_)
        refine stWM_1 hx hb hK hP hD hS (by omega) dX3_choose_115 (fun H locs hP hD hS => ?_)
        have ew_ : upd (zOf C) 66 (lo32 (msk (chs C))) = upd (zOf C) 66 (lo32 (msk (chs C))) := rfl
        have hP : va_P D vwCl (WM ca q (nI 0) (nI (pushL L C).length) ik ln ou1_8 pa iw so na nb fo nu al (upd (zOf C) 66 (lo32 (msk (chs C)))) be1_3 ke te ti ne wa ta1_6 out1_7 pl1_9 lo (lNf (shN C (2 * (6 + C 0)))) le) H := (congrArg (fun x_ => va_P D vwCl (WM ca q (nI 0) (nI (pushL L C).length) ik ln ou1_8 pa iw so na nb fo nu al x_ be1_3 ke te ti ne wa ta1_6 out1_7 pl1_9 lo (lNf (shN C (2 * (6 + C 0)))) le) H) ew_).mp hP
        have hD : va_D A (WM ca q (nI 0) (nI (pushL L C).length) ik ln ou1_8 pa iw so na nb fo nu al (upd (zOf C) 66 (lo32 (msk (chs C)))) be1_3 ke te ti ne wa ta1_6 out1_7 pl1_9 lo (lNf (shN C (2 * (6 + C 0)))) le) := (congrArg (fun x_ => va_D A (WM ca q (nI 0) (nI (pushL L C).length) ik ln ou1_8 pa iw so na nb fo nu al x_ be1_3 ke te ti ne wa ta1_6 out1_7 pl1_9 lo (lNf (shN C (2 * (6 + C 0)))) le)) ew_).mp hD
        clear ew_
        refine lv_aload_n hx hb dX3_choose_116 rfl (lv_at hl 3 rfl) ?_
        refine gWM_0_z_X3 hx hb hts hown hK hP dX3_choose_117 ?_
        refine lv_bipush (v := nI 67) hx hb dX3_choose_120 (by decide) ?_
        refine lv_lload_n hx hb dX3_choose_122 rfl (lv_at hl 1 rfl) ?_
        refine lv_bipush (v := nI 32) hx hb dX3_choose_123 (by decide) ?_
        refine lv_lushr (v := ush64 (lN w_) 32) hx hb dX3_choose_125 rfl ?_
        refine lv_l2i hx hb dX3_choose_126 rfl ?_
        refine lv_topi (nm_r (e' := hi32 (msk (chs C))) (by rw [← hmk]; rfl) ?_)
        refine stWM_1 hx hb hK hP hD hS (by omega) dX3_choose_127 (fun H locs hP hD hS => ?_)
        have ew_ : upd (upd (zOf C) 66 (lo32 (msk (chs C)))) 67 (hi32 (msk (chs C))) = zOf (updN C 66 (msk (chs C))) := zOf_66
        have hP : va_P D vwCl (WM ca q (nI 0) (nI (pushL L C).length) ik ln ou1_8 pa iw so na nb fo nu al (zOf (updN C 66 (msk (chs C)))) be1_3 ke te ti ne wa ta1_6 out1_7 pl1_9 lo (lNf (shN C (2 * (6 + C 0)))) le) H := (congrArg (fun x_ => va_P D vwCl (WM ca q (nI 0) (nI (pushL L C).length) ik ln ou1_8 pa iw so na nb fo nu al x_ be1_3 ke te ti ne wa ta1_6 out1_7 pl1_9 lo (lNf (shN C (2 * (6 + C 0)))) le) H) ew_).mp hP
        have hD : va_D A (WM ca q (nI 0) (nI (pushL L C).length) ik ln ou1_8 pa iw so na nb fo nu al (zOf (updN C 66 (msk (chs C)))) be1_3 ke te ti ne wa ta1_6 out1_7 pl1_9 lo (lNf (shN C (2 * (6 + C 0)))) le) := (congrArg (fun x_ => va_D A (WM ca q (nI 0) (nI (pushL L C).length) ik ln ou1_8 pa iw so na nb fo nu al x_ be1_3 ke te ti ne wa ta1_6 out1_7 pl1_9 lo (lNf (shN C (2 * (6 + C 0)))) le)) ew_).mp hD
        clear ew_
        refine lv_iload hx hb dX3_choose_128 (lv_at hl 0 rfl) ?_
        subst hQQ
        exact xe_i (v := nI n) (be1_3, ta1_6, out1_7, ou1_8, pl1_9) hx hb hr hlocks hK hP hD hS (⟨congrArg nI hlen, hp_6⟩) dX3_choose_130
      · skip
        have h0o : o ≠ 0 := fun z => c_21 (by rw [z])
        have hlt : adN o (shN C (2 * (6 + C 0)) (stg (shN C (2 * (6 + C 0))) o)) < o := adN_lt (stg_hit hal h0o (by omega))
        have hgr : grd (shN C (2 * (6 + C 0))) k o = stg (shN C (2 * (6 + C 0))) o :: grd (shN C (2 * (6 + C 0))) (k - 1) (adN o (shN C (2 * (6 + C 0)) (stg (shN C (2 * (6 + C 0))) o))) := by obtain ⟨k2, rfl⟩ := Nat.exists_eq_succ_of_ne_zero (show k ≠ 0 by omega); exact grd_s h0o
        refine lv_iconst (v := nI 0) hx hb dX3_choose_25 (by decide) ?_
        refine lv_istore (lv' := [(6, .int (nI 0)), (5, .int (nI n)), (3, .long (lN w_)), (1, .long (lN o)), (0, .ref (q 0))]) hx hb dX3_choose_26 hl (by decide) rfl (fun ls hl => ?_)
        refine lv_iconst (v := nI 1) hx hb dX3_choose_28 (by decide) ?_
        refine lv_istore (lv' := [(7, .int (nI 1)), (6, .int (nI 0)), (5, .int (nI n)), (3, .long (lN w_)), (1, .long (lN o)), (0, .ref (q 0))]) hx hb dX3_choose_29 hl (by decide) rfl (fun ls hl => ?_)
        have lp_31 : ∀ (fu_31 : Nat) (i : Nat), 63 - i < fu_31 → (i ≤ 63) → ∀ (H : Heap) (locs : List Loc), va_P D vwCl (WM ca q (nI 0) (nI (pushL L C).length) ik ln ou1_8 pa iw so na nb fo nu al (zOf C) be1_3 ke te ti ne wa ta1_6 out1_7 pl1_9 lo (lNf (shN C (2 * (6 + C 0)))) le) H → va_D A (WM ca q (nI 0) (nI (pushL L C).length) ik ln ou1_8 pa iw so na nb fo nu al (zOf C) be1_3 ke te ti ne wa ta1_6 out1_7 pl1_9 lo (lNf (shN C (2 * (6 + C 0)))) le) → va_S A s.heap H locs → ∀ (ls : Array Slot), lv_has ls 8 [(7, .int (nI (i + 1))), (6, .int (nI (stN (shN C (2 * (6 + C 0))) o i))), (5, .int (nI n)), (3, .long (lN w_)), (1, .long (lN o)), (0, .ref (q 0))] → W p l e ({ frames := 4, cells := 0, slots := 0, locals := 102 } : Room) s m ([.ref (q 0)] : List Value).toArray below meth c H locs 0 0 QQ (F0 m 31 ls []) := by
          intro fu_31
          induction fu_31 with
          | zero => intro i hfu; exact absurd hfu (Nat.not_lt_zero _)
          | succ fu_31 ih_31 =>
            intro i hfu hi H locs hP hD hS ls hl
            refine lv_iload hx hb dX3_choose_31 (lv_at hl 0 rfl) ?_
            refine lv_bipush (v := nI 64) hx hb dX3_choose_33 (by decide) ?_
            refine nv_icmp_ge (tgt := 80) hx hb dX3_choose_35 (by decide) (by omega) (by omega) (fun c_35 => ?_) (fun c_35 => ?_)
            · skip
              have e_ : 63 = i := Eq.symm (by omega)
              subst e_
              have hl : lv_has ls 8 [(7, .int (nI (63 + 1))), (6, .int (nI (stg (shN C (2 * (6 + C 0))) o))), (5, .int (nI n)), (3, .long (lN w_)), (1, .long (lN o)), (0, .ref (q 0))] := (congrArg (fun x_ => lv_has ls 8 [(7, .int (nI (63 + 1))), (6, .int x_), (5, .int (nI n)), (3, .long (lN w_)), (1, .long (lN o)), (0, .ref (q 0))]) (show nI (stN (shN C (2 * (6 + C 0))) o 63) = nI (stg (shN C (2 * (6 + C 0))) o) from rfl)).mp hl
              refine lv_lload_n hx hb dX3_choose_80 rfl (lv_at hl 3 rfl) ?_
              refine lv_lconst (v := lN 1) hx hb dX3_choose_81 (by decide) ?_
              refine lv_iload hx hb dX3_choose_82 (lv_at hl 1 rfl) ?_
              refine lv_lshl (v := shl64 (lN 1) (stg (shN C (2 * (6 + C 0))) o)) hx hb dX3_choose_84 rfl ?_
              refine lv_lor hx hb dX3_choose_85 ?_
              refine lv_topl (nm_r (e' := lN (w_ ||| (1 <<< stg (shN C (2 * (6 + C 0))) o))) (by rw [shl_lN (stg_lt _ _), lN_or]) ?_)
              refine lv_lstore_n (lv' := [(3, .long (lN (w_ ||| (1 <<< stg (shN C (2 * (6 + C 0))) o)))), (7, .int (nI (63 + 1))), (6, .int (nI (stg (shN C (2 * (6 + C 0))) o))), (5, .int (nI n)), (1, .long (lN o)), (0, .ref (q 0))]) hx hb dX3_choose_86 rfl hl (by decide) rfl (fun ls hl => ?_)
              refine lv_lload_n hx hb dX3_choose_87 rfl (lv_at hl 4 rfl) ?_
              refine lv_aload_n hx hb dX3_choose_88 rfl (lv_at hl 5 rfl) ?_
              refine gWM_0_shown_X3 hx hb hts hown hK hP dX3_choose_89 ?_
              refine lv_iload hx hb dX3_choose_92 (lv_at hl 2 rfl) ?_
              refine ldWM_10 hx hb hK hP (stg_lt _ _) dX3_choose_94 ?_
              refine lv_topl (nm_r (e' := lN (shN C (2 * (6 + C 0)) (stg (shN C (2 * (6 + C 0))) o))) (rfl) ?_)
              refine lv_ldc2 (v := (-1)) hx hb hown (hts _ q1792) dX3_choose_95 ?_
              refine lv_lxor hx hb dX3_choose_98 ?_
              refine lv_land hx hb dX3_choose_99 ?_
              refine lv_topl (nm_r (e' := lN (adN o (shN C (2 * (6 + C 0)) (stg (shN C (2 * (6 + C 0))) o)))) (lN_adn) ?_)
              refine lv_lstore_n (lv' := [(1, .long (lN (adN o (shN C (2 * (6 + C 0)) (stg (shN C (2 * (6 + C 0))) o))))), (3, .long (lN (w_ ||| (1 <<< stg (shN C (2 * (6 + C 0))) o)))), (7, .int (nI (63 + 1))), (6, .int (nI (stg (shN C (2 * (6 + C 0))) o))), (5, .int (nI n)), (0, .ref (q 0))]) hx hb dX3_choose_100 rfl hl (by decide) rfl (fun ls hl => ?_)
              refine lv_iinc (v := nI (n + 1)) (lv' := [(5, .int (nI (n + 1))), (1, .long (lN (adN o (shN C (2 * (6 + C 0)) (stg (shN C (2 * (6 + C 0))) o))))), (3, .long (lN (w_ ||| (1 <<< stg (shN C (2 * (6 + C 0))) o)))), (7, .int (nI (63 + 1))), (6, .int (nI (stg (shN C (2 * (6 + C 0))) o))), (0, .ref (q 0))]) hx hb dX3_choose_101 hl (k := 4) rfl (nI_add n 1) (by decide) rfl (fun ls hl => ?_)
              refine lv_goto (tgt := 19) hx hb dX3_choose_104 (by decide) ?_
              exact ih_19  (k - 1) (adN o (shN C (2 * (6 + C 0)) (stg (shN C (2 * (6 + C 0))) o))) (w_ ||| (1 <<< stg (shN C (2 * (6 + C 0))) o)) (n + 1) (by have := hlt; omega) (by omega) (by omega) (AllSh_ad hal) (by rw [← hw_, hgr]; exact Nat.or_assoc _ _ _) (by rw [← hn_, hgr, List.length_cons]; omega) (by omega) _ _ hP hD hS ls (lv_sub hl [0, 2, 1, 5] rfl)
            · skip
              refine lv_aload_n hx hb dX3_choose_38 rfl (lv_at hl 5 rfl) ?_
              refine gWM_0_shown_X3 hx hb hts hown hK hP dX3_choose_39 ?_
              refine lv_iload hx hb dX3_choose_42 (lv_at hl 0 rfl) ?_
              refine ldWM_10 hx hb hK hP (by omega) dX3_choose_44 ?_
              refine lv_topl (nm_r (e' := lN (shN C (2 * (6 + C 0)) (i + 1))) (rfl) ?_)
              refine lv_lload_n hx hb dX3_choose_45 rfl (lv_at hl 4 rfl) ?_
              refine lv_land hx hb dX3_choose_46 ?_
              refine lv_topl (nm_r (e' := lN (shN C (2 * (6 + C 0)) (i + 1) &&& o)) (lN_and _ _) ?_)
              refine xc_i (xr_S (As := [.long (lN (shN C (2 * (6 + C 0)) (i + 1) &&& o))]) (rest := []) (mt_X3_countLong l D ca (lN (shN C (2 * (6 + C 0)) (i + 1) &&& o))  H.size) ⟨hx, hb, hml, hown, hts⟩ (va_cwS 1 hts (lw_S q1840 q1841 q87 q1842) rfl rfl rfl (by decide +kernel) ⟨Nat.le_of_ble_eq_true rfl, Nat.le_of_ble_eq_true rfl⟩) Ev0_ok hE hK hS (Cut.app (wc := []) (wr := (WM ca q (nI 0) (nI (pushL L C).length) ik ln ou1_8 pa iw so na nb fo nu al (zOf C) be1_3 ke te ti ne wa ta1_6 out1_7 pl1_9 lo (lNf (shN C (2 * (6 + C 0)))) le)) hP hD hS hA) rfl hl.1 rfl (Nat.le_of_ble_eq_true rfl) dX3_choose_47 ⟨Nat.le_of_ble_eq_true rfl, Nat.le_of_ble_eq_true rfl⟩) hS (Cut.app (wc := []) (wr := (WM ca q (nI 0) (nI (pushL L C).length) ik ln ou1_8 pa iw so na nb fo nu al (zOf C) be1_3 ke te ti ne wa ta1_6 out1_7 pl1_9 lo (lNf (shN C (2 * (6 + C 0)))) le)) hP hD hS hA) (fun r_12 u_13 H locs hq_47 hP hD hS => ?_)
              have hP : va_P D vwCl (WM ca q (nI 0) (nI (pushL L C).length) ik ln ou1_8 pa iw so na nb fo nu al (zOf C) be1_3 ke te ti ne wa ta1_6 out1_7 pl1_9 lo (lNf (shN C (2 * (6 + C 0)))) le) H := hP
              have hD : va_D A (WM ca q (nI 0) (nI (pushL L C).length) ik ln ou1_8 pa iw so na nb fo nu al (zOf C) be1_3 ke te ti ne wa ta1_6 out1_7 pl1_9 lo (lNf (shN C (2 * (6 + C 0)))) le) := hD
              have hp_47 : r_12 = nI (popl 64 (lN (shN C (2 * (6 + C 0)) (i + 1) &&& o))) := hq_47
              clear hq_47
              obtain rfl := hp_47
              refine lv_aload_n hx hb dX3_choose_50 rfl (lv_at hl 5 rfl) ?_
              refine gWM_0_shown_X3 hx hb hts hown hK hP dX3_choose_51 ?_
              refine lv_iload hx hb dX3_choose_54 (lv_at hl 1 rfl) ?_
              refine ldWM_10 hx hb hK hP (by have := @stN_le (shN C (2 * (6 + C 0))) o i; omega) dX3_choose_56 ?_
              refine lv_topl (nm_r (e' := lN (shN C (2 * (6 + C 0)) (stN (shN C (2 * (6 + C 0))) o i))) (rfl) ?_)
              refine lv_lload_n hx hb dX3_choose_57 rfl (lv_at hl 4 rfl) ?_
              refine lv_land hx hb dX3_choose_58 ?_
              refine lv_topl (nm_r (e' := lN (shN C (2 * (6 + C 0)) (stN (shN C (2 * (6 + C 0))) o i) &&& o)) (lN_and _ _) ?_)
              refine xc_i (xr_S (As := [.long (lN (shN C (2 * (6 + C 0)) (stN (shN C (2 * (6 + C 0))) o i) &&& o))]) (rest := [.int (nI (popl 64 (lN (shN C (2 * (6 + C 0)) (i + 1) &&& o))))]) (mt_X3_countLong l D ca (lN (shN C (2 * (6 + C 0)) (stN (shN C (2 * (6 + C 0))) o i) &&& o))  H.size) ⟨hx, hb, hml, hown, hts⟩ (va_cwS 1 hts (lw_S q1840 q1841 q87 q1842) rfl rfl rfl (by decide +kernel) ⟨Nat.le_of_ble_eq_true rfl, Nat.le_of_ble_eq_true rfl⟩) Ev0_ok hE hK hS (Cut.app (wc := []) (wr := (WM ca q (nI 0) (nI (pushL L C).length) ik ln ou1_8 pa iw so na nb fo nu al (zOf C) be1_3 ke te ti ne wa ta1_6 out1_7 pl1_9 lo (lNf (shN C (2 * (6 + C 0)))) le)) hP hD hS hA) rfl hl.1 rfl (Nat.le_of_ble_eq_true rfl) dX3_choose_59 ⟨Nat.le_of_ble_eq_true rfl, Nat.le_of_ble_eq_true rfl⟩) hS (Cut.app (wc := []) (wr := (WM ca q (nI 0) (nI (pushL L C).length) ik ln ou1_8 pa iw so na nb fo nu al (zOf C) be1_3 ke te ti ne wa ta1_6 out1_7 pl1_9 lo (lNf (shN C (2 * (6 + C 0)))) le)) hP hD hS hA) (fun r_14 u_15 H locs hq_59 hP hD hS => ?_)
              have hP : va_P D vwCl (WM ca q (nI 0) (nI (pushL L C).length) ik ln ou1_8 pa iw so na nb fo nu al (zOf C) be1_3 ke te ti ne wa ta1_6 out1_7 pl1_9 lo (lNf (shN C (2 * (6 + C 0)))) le) H := hP
              have hD : va_D A (WM ca q (nI 0) (nI (pushL L C).length) ik ln ou1_8 pa iw so na nb fo nu al (zOf C) be1_3 ke te ti ne wa ta1_6 out1_7 pl1_9 lo (lNf (shN C (2 * (6 + C 0)))) le) := hD
              have hp_59 : r_14 = nI (popl 64 (lN (shN C (2 * (6 + C 0)) (stN (shN C (2 * (6 + C 0))) o i) &&& o))) := hq_59
              clear hq_59
              obtain rfl := hp_59
              refine nv_icmp_le (tgt := 70) hx hb dX3_choose_62 (by decide) (by have := popl_le 64 (lN (shN C (2 * (6 + C 0)) (i + 1) &&& o)); omega) (by have := popl_le 64 (lN (shN C (2 * (6 + C 0)) (stN (shN C (2 * (6 + C 0))) o i) &&& o)); omega) (fun c_62 => ?_) (fun c_62 => ?_)
              · skip
                refine lv_iload hx hb dX3_choose_70 (lv_at hl 1 rfl) ?_
                refine lv_topi (nm_r (e' := nI (stN (shN C (2 * (6 + C 0))) o (i + 1))) (congrArg nI (by simp only [stN]; rw [if_neg (by omega)])) ?_)
                refine lv_istore (lv' := [(6, .int (nI (stN (shN C (2 * (6 + C 0))) o (i + 1)))), (7, .int (nI (i + 1))), (5, .int (nI n)), (3, .long (lN w_)), (1, .long (lN o)), (0, .ref (q 0))]) hx hb dX3_choose_72 hl (by decide) rfl (fun ls hl => ?_)
                refine lv_iinc (v := nI (i + 1 + 1)) (lv' := [(7, .int (nI (i + 1 + 1))), (6, .int (nI (stN (shN C (2 * (6 + C 0))) o (i + 1)))), (5, .int (nI n)), (3, .long (lN w_)), (1, .long (lN o)), (0, .ref (q 0))]) hx hb dX3_choose_74 hl (k := 1) rfl (nI_add (i + 1) 1) (by decide) rfl (fun ls hl => ?_)
                refine lv_goto (tgt := 31) hx hb dX3_choose_77 (by decide) ?_
                exact ih_31  (i + 1) (by omega) (by omega) _ _ hP hD hS ls (lv_sub hl [0, 1, 2, 3, 4, 5] rfl)
              · skip
                refine lv_iload hx hb dX3_choose_65 (lv_at hl 0 rfl) ?_
                refine lv_goto (tgt := 72) hx hb dX3_choose_67 (by decide) ?_
                refine lv_topi (nm_r (e' := nI (stN (shN C (2 * (6 + C 0))) o (i + 1))) (congrArg nI (by simp only [stN]; rw [if_pos c_62])) ?_)
                refine lv_istore (lv' := [(6, .int (nI (stN (shN C (2 * (6 + C 0))) o (i + 1)))), (7, .int (nI (i + 1))), (5, .int (nI n)), (3, .long (lN w_)), (1, .long (lN o)), (0, .ref (q 0))]) hx hb dX3_choose_72 hl (by decide) rfl (fun ls hl => ?_)
                refine lv_iinc (v := nI (i + 1 + 1)) (lv' := [(7, .int (nI (i + 1 + 1))), (6, .int (nI (stN (shN C (2 * (6 + C 0))) o (i + 1)))), (5, .int (nI n)), (3, .long (lN w_)), (1, .long (lN o)), (0, .ref (q 0))]) hx hb dX3_choose_74 hl (k := 1) rfl (nI_add (i + 1) 1) (by decide) rfl (fun ls hl => ?_)
                refine lv_goto (tgt := 31) hx hb dX3_choose_77 (by decide) ?_
                exact ih_31  (i + 1) (by omega) (by omega) _ _ hP hD hS ls (lv_sub hl [0, 1, 2, 3, 4, 5] rfl)
        exact lp_31 (63 - 0 + 1) 0 (Nat.lt_succ_self _) (by omega) _ _ hP hD hS ls (lv_sub hl [0, 1, 2, 3, 4, 5] rfl)
  exact lp_19 ((opn C (2 * (6 + C 0))) + 1) (opn C (2 * (6 + C 0))) (opn C (2 * (6 + C 0))) 0 0 (Nat.lt_succ_self _) (Nat.le_refl _) (Nat.lt_of_lt_of_le (opn_lt _) (Nat.pow_le_pow_right (by decide) (by omega))) AllSh_open (Nat.zero_or _) (Nat.zero_add _) (by rw [Nat.zero_add]; exact Nat.le_of_lt (Nat.lt_of_lt_of_le (opn_lt _) (Nat.pow_le_pow_right (by decide) (by omega)))) _ _ hP hD hS ls (lv_sub hl [0, 1, 2, 3] rfl)
