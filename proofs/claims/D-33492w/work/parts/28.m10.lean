/-! contracts of the model: the fewest tests -/
set_option maxRecDepth 100000
set_option maxHeartbeats 4000000 in
set_option maxRecDepth 100000 in
theorem mt_X3_thinOut (l : Launch) (D : va_G) (ca : Nat → ClassId) (q : Nat → Nat) (th : Int32) (st : Int32) (ik : Int32) (ln : Int32) (ou : Int32) (pa : Int32) (iw : Int32) (so : Int32) (na : Int32) (nb : Int32) (fo : Int32) (nu : Int32) (al : Int32) (z : Nat → Int32) (be : Nat → Int32) (ke : Nat → Int32) (te : Nat → Int32) (ti : Nat → Int32) (ne : Nat → Int32) (wa : Nat → Int32) (ta : Nat → Int64) (out : Nat → Int64) (pl : Nat → Int64) (lo : Nat → Int64) (le : Nat → Int64) (X_ : Nat → Nat) (hXb : ∀ t, X_ t < 2 ^ 36) (nn : Nat) : Met l yX3_thinOut (ws_ yX3_thinOut cX3_thinOut 4 (Option.none : Option Jvm.ClassFile.FieldType)) ({ frames := 0, cells := 0, slots := 0, locals := 0 } : Room) (va_Pc [.ref (q 0)] (PreW Ev0 D vwCl (TY ca) (WM ca q th st ik ln ou pa iw so na nb fo nu al z be ke te ti ne wa ta out pl lo (lNf X_) le) nn)) (va_Qv (fun (u_ : (Nat → Nat)) => Dm X_ u_ ∧ ∀ t, u_ t < 2 ^ 36) (PostW D vwCl (TY ca) (fun (u_ : (Nat → Nat)) => (WM ca q th st ik ln ou pa iw so na nb fo nu al z be ke te ti ne wa ta out pl lo (lNf u_) le)) (va_A (WM ca q th st ik ln ou pa iw so na nb fo nu al z be ke te ti ne wa ta out pl lo (lNf X_) le) nn)) (va_A (WM ca q th st ik ln ou pa iw so na nb fo nu al z be ke te ti ne wa ta out pl lo (lNf X_) le) nn)) 0 0 (va_A (WM ca q th st ik ln ou pa iw so na nb fo nu al z be ke te ti ne wa ta out pl lo (lNf X_) le) nn) := by
  refine met_go (QA := fun A => va_Qv (fun (u_ : (Nat → Nat)) => Dm X_ u_ ∧ ∀ t, u_ t < 2 ^ 36) (PostW D vwCl (TY ca) (fun (u_ : (Nat → Nat)) => (WM ca q th st ik ln ou pa iw so na nb fo nu al z be ke te ti ne wa ta out pl lo (lNf u_) le)) A) A) (by decide) (Nat.le_of_ble_eq_true rfl) (fun p e s m below meth c A ls QQ hQQ hx hb hr hts hown hlocks hml hA hP hK hD hE hl => ?_)
  have hown : s.vm.findClass RX3 = some m.cls := hown
  have hS : va_S A s.heap s.heap [] := va_S.rf
  have hl : lv_has ls 4 [(0, .ref (q 0))] := hl
  generalize hHe : s.heap = H at hP ⊢
  have hS : va_S A s.heap H [] := hHe ▸ hS
  generalize ([] : List Loc) = locs at hS ⊢
  refine lv_iconst (v := nI 0) hx hb dX3_thinOut_0 (by decide) ?_
  refine lv_istore_n (lv' := [(1, .int (nI 0)), (0, .ref (q 0))]) hx hb dX3_thinOut_1 rfl hl (by decide) rfl (fun ls hl => ?_)
  have lp_2 : ∀ (fu_2 : Nat) (t : Nat) (Y_ : Nat → Nat), 64 - t < fu_2 → (t ≤ 64) → (Dm X_ Y_) → (∀ t, Y_ t < 2 ^ 36) → ∀ (H : Heap) (locs : List Loc), va_P D vwCl (WM ca q th st ik ln ou pa iw so na nb fo nu al z be ke te ti ne wa ta out pl lo (lNf Y_) le) H → va_D A (WM ca q th st ik ln ou pa iw so na nb fo nu al z be ke te ti ne wa ta out pl lo (lNf Y_) le) → va_S A s.heap H locs → ∀ (ls : Array Slot), lv_has ls 4 [(1, .int (nI t)), (0, .ref (q 0))] → W p l e ({ frames := 0, cells := 0, slots := 0, locals := 0 } : Room) s m ([.ref (q 0)] : List Value).toArray below meth c H locs 0 0 QQ (F0 m 2 ls []) := by
    intro fu_2
    induction fu_2 with
    | zero => intro t Y_ hfu; exact absurd hfu (Nat.not_lt_zero _)
    | succ fu_2 ih_2 =>
      intro t Y_ hfu ht_ hDm hYb H locs hP hD hS ls hl
      refine lv_iload_n hx hb dX3_thinOut_2 rfl (lv_at hl 0 rfl) ?_
      refine lv_bipush (v := nI 64) hx hb dX3_thinOut_3 (by decide) ?_
      refine nv_icmp_ge (tgt := 102) hx hb dX3_thinOut_5 (by decide) (by omega) (by omega) (fun c_5 => ?_) (fun c_5 => ?_)
      · skip
        have e_ : 64 = t := Eq.symm (by omega)
        subst e_
        subst hQQ
        exact xe_v Y_ hx hb hr hlocks hK hP hD hS (⟨hDm, hYb⟩) dX3_thinOut_102
      · skip
        refine lv_iconst (v := nI 0) hx hb dX3_thinOut_8 (by decide) ?_
        refine lv_istore_n (lv' := [(2, .int (nI 0)), (1, .int (nI t)), (0, .ref (q 0))]) hx hb dX3_thinOut_9 rfl hl (by decide) rfl (fun ls hl => ?_)
        have lp_10 : ∀ (fu_10 : Nat) (o : Nat) (Y_ : Nat → Nat), 64 - o < fu_10 → (o ≤ 64) → (Dm X_ Y_) → (∀ t, Y_ t < 2 ^ 36) → ∀ (H : Heap) (locs : List Loc), va_P D vwCl (WM ca q th st ik ln ou pa iw so na nb fo nu al z be ke te ti ne wa ta out pl lo (lNf Y_) le) H → va_D A (WM ca q th st ik ln ou pa iw so na nb fo nu al z be ke te ti ne wa ta out pl lo (lNf Y_) le) → va_S A s.heap H locs → ∀ (ls : Array Slot), lv_has ls 4 [(2, .int (nI o)), (1, .int (nI t)), (0, .ref (q 0))] → W p l e ({ frames := 0, cells := 0, slots := 0, locals := 0 } : Room) s m ([.ref (q 0)] : List Value).toArray below meth c H locs 0 0 QQ (F0 m 10 ls []) := by
          intro fu_10
          induction fu_10 with
          | zero => intro o Y_ hfu; exact absurd hfu (Nat.not_lt_zero _)
          | succ fu_10 ih_10 =>
            intro o Y_ hfu ho_ hDm hYb H locs hP hD hS ls hl
            refine lv_iload_n hx hb dX3_thinOut_10 rfl (lv_at hl 0 rfl) ?_
            refine lv_bipush (v := nI 64) hx hb dX3_thinOut_11 (by decide) ?_
            refine nv_icmp_ge (tgt := 96) hx hb dX3_thinOut_13 (by decide) (by omega) (by omega) (fun c_13 => ?_) (fun c_13 => ?_)
            · skip
              have e_ : 64 = o := Eq.symm (by omega)
              subst e_
              refine lv_iinc (v := nI (t + 1)) (lv' := [(1, .int (nI (t + 1))), (2, .int (nI 64)), (0, .ref (q 0))]) hx hb dX3_thinOut_96 hl (k := 1) rfl (nI_add t 1) (by decide) rfl (fun ls hl => ?_)
              refine lv_goto (tgt := 2) hx hb dX3_thinOut_99 (by decide) ?_
              exact ih_2  (t + 1) Y_ (by omega) (by omega) hDm hYb _ _ hP hD hS ls (lv_sub hl [0, 2] rfl)
            · skip
              refine lv_iload_n hx hb dX3_thinOut_16 rfl (lv_at hl 0 rfl) ?_
              refine lv_iload_n hx hb dX3_thinOut_17 rfl (lv_at hl 1 rfl) ?_
              refine nv_icmp_eq (tgt := 68) hx hb dX3_thinOut_18 (by decide) (by omega) (by omega) (fun c_18 => ?_) (fun c_18 => ?_)
              · skip
                refine lv_iconst (v := nI 0) hx hb dX3_thinOut_68 (by decide) ?_
                refine lv_istore_n (lv' := [(3, .int (nI 0)), (2, .int (nI o)), (1, .int (nI t)), (0, .ref (q 0))]) hx hb dX3_thinOut_69 rfl hl (by decide) rfl (fun ls hl => ?_)
                refine lv_aload_n hx hb dX3_thinOut_70 rfl (lv_at hl 3 rfl) ?_
                refine gWM_0_shown_X3 hx hb hts hown hK hP dX3_thinOut_71 ?_
                refine lv_iload_n hx hb dX3_thinOut_74 rfl (lv_at hl 2 rfl) ?_
                refine lv_iload_n hx hb dX3_thinOut_75 rfl (lv_at hl 0 rfl) ?_
                refine nv_if_eq (tgt := 83) hx hb dX3_thinOut_76 (by decide) (by omega) (fun c_76 => ?_) (fun c_76 => absurd c_76 (by decide))
                refine lv_aload_n hx hb dX3_thinOut_83 rfl (lv_at hl 3 rfl) ?_
                refine gWM_0_shown_X3 hx hb hts hown hK hP dX3_thinOut_84 ?_
                refine lv_iload_n hx hb dX3_thinOut_87 rfl (lv_at hl 2 rfl) ?_
                refine ldWM_10 hx hb hK hP (by omega) dX3_thinOut_88 ?_
                refine lv_topl (nm_r (e' := lN (Y_ t)) (rfl) ?_)
                refine stWM_10 hx hb hK hP hD hS (by omega) dX3_thinOut_89 (fun H locs hP hD hS => ?_)
                have ew_ : vp_updL (lNf Y_) t (lN (Y_ t)) = lNf Y_ := (lNf_u Y_ t (Y_ t)).trans (congrArg lNf (by funext j; simp only [updN]; split <;> simp_all))
                have hP : va_P D vwCl (WM ca q th st ik ln ou pa iw so na nb fo nu al z be ke te ti ne wa ta out pl lo (lNf Y_) le) H := (congrArg (fun x_ => va_P D vwCl (WM ca q th st ik ln ou pa iw so na nb fo nu al z be ke te ti ne wa ta out pl lo x_ le) H) ew_).mp hP
                have hD : va_D A (WM ca q th st ik ln ou pa iw so na nb fo nu al z be ke te ti ne wa ta out pl lo (lNf Y_) le) := (congrArg (fun x_ => va_D A (WM ca q th st ik ln ou pa iw so na nb fo nu al z be ke te ti ne wa ta out pl lo x_ le)) ew_).mp hD
                clear ew_
                refine lv_iinc (v := nI (o + 1)) (lv' := [(2, .int (nI (o + 1))), (3, .int (nI 0)), (1, .int (nI t)), (0, .ref (q 0))]) hx hb dX3_thinOut_90 hl (k := 1) rfl (nI_add o 1) (by decide) rfl (fun ls hl => ?_)
                refine lv_goto (tgt := 10) hx hb dX3_thinOut_93 (by decide) ?_
                exact ih_10  (o + 1) Y_ (by omega) (by omega) hDm hYb _ _ hP hD hS ls (lv_sub hl [0, 2, 3] rfl)
              · skip
                refine lv_aload_n hx hb dX3_thinOut_21 rfl (lv_at hl 2 rfl) ?_
                refine gWM_0_shown_X3 hx hb hts hown hK hP dX3_thinOut_22 ?_
                refine lv_iload_n hx hb dX3_thinOut_25 rfl (lv_at hl 1 rfl) ?_
                refine ldWM_10 hx hb hK hP (by omega) dX3_thinOut_26 ?_
                refine lv_topl (nm_r (e' := lN (Y_ t)) (rfl) ?_)
                refine lv_aload_n hx hb dX3_thinOut_27 rfl (lv_at hl 2 rfl) ?_
                refine gWM_0_shown_X3 hx hb hts hown hK hP dX3_thinOut_28 ?_
                refine lv_iload_n hx hb dX3_thinOut_31 rfl (lv_at hl 0 rfl) ?_
                refine ldWM_10 hx hb hK hP (by omega) dX3_thinOut_32 ?_
                refine lv_topl (nm_r (e' := lN (Y_ o)) (rfl) ?_)
                refine lv_ldc2 (v := (-1)) hx hb hown (hts _ q1792) dX3_thinOut_33 ?_
                refine lv_lxor hx hb dX3_thinOut_36 ?_
                refine lv_land hx hb dX3_thinOut_37 ?_
                refine lv_topl (nm_r (e' := lN (adN (Y_ t) (Y_ o))) (lN_adn) ?_)
                refine lv_lconst (v := lN 0) hx hb dX3_thinOut_38 (by decide) ?_
                refine nv_lcmp_ne (tgt := 68) hx hb dX3_thinOut_39 dX3_thinOut_40 (by decide) (fun c_39 => ?_) (fun c_39 => ?_)
                · skip
                  refine lv_iconst (v := nI 0) hx hb dX3_thinOut_68 (by decide) ?_
                  refine lv_istore_n (lv' := [(3, .int (nI 0)), (2, .int (nI o)), (1, .int (nI t)), (0, .ref (q 0))]) hx hb dX3_thinOut_69 rfl hl (by decide) rfl (fun ls hl => ?_)
                  refine lv_aload_n hx hb dX3_thinOut_70 rfl (lv_at hl 3 rfl) ?_
                  refine gWM_0_shown_X3 hx hb hts hown hK hP dX3_thinOut_71 ?_
                  refine lv_iload_n hx hb dX3_thinOut_74 rfl (lv_at hl 2 rfl) ?_
                  refine lv_iload_n hx hb dX3_thinOut_75 rfl (lv_at hl 0 rfl) ?_
                  refine nv_if_eq (tgt := 83) hx hb dX3_thinOut_76 (by decide) (by omega) (fun c_76 => ?_) (fun c_76 => absurd c_76 (by decide))
                  refine lv_aload_n hx hb dX3_thinOut_83 rfl (lv_at hl 3 rfl) ?_
                  refine gWM_0_shown_X3 hx hb hts hown hK hP dX3_thinOut_84 ?_
                  refine lv_iload_n hx hb dX3_thinOut_87 rfl (lv_at hl 2 rfl) ?_
                  refine ldWM_10 hx hb hK hP (by omega) dX3_thinOut_88 ?_
                  refine lv_topl (nm_r (e' := lN (Y_ t)) (rfl) ?_)
                  refine stWM_10 hx hb hK hP hD hS (by omega) dX3_thinOut_89 (fun H locs hP hD hS => ?_)
                  have ew_ : vp_updL (lNf Y_) t (lN (Y_ t)) = lNf Y_ := (lNf_u Y_ t (Y_ t)).trans (congrArg lNf (by funext j; simp only [updN]; split <;> simp_all))
                  have hP : va_P D vwCl (WM ca q th st ik ln ou pa iw so na nb fo nu al z be ke te ti ne wa ta out pl lo (lNf Y_) le) H := (congrArg (fun x_ => va_P D vwCl (WM ca q th st ik ln ou pa iw so na nb fo nu al z be ke te ti ne wa ta out pl lo x_ le) H) ew_).mp hP
                  have hD : va_D A (WM ca q th st ik ln ou pa iw so na nb fo nu al z be ke te ti ne wa ta out pl lo (lNf Y_) le) := (congrArg (fun x_ => va_D A (WM ca q th st ik ln ou pa iw so na nb fo nu al z be ke te ti ne wa ta out pl lo x_ le)) ew_).mp hD
                  clear ew_
                  refine lv_iinc (v := nI (o + 1)) (lv' := [(2, .int (nI (o + 1))), (3, .int (nI 0)), (1, .int (nI t)), (0, .ref (q 0))]) hx hb dX3_thinOut_90 hl (k := 1) rfl (nI_add o 1) (by decide) rfl (fun ls hl => ?_)
                  refine lv_goto (tgt := 10) hx hb dX3_thinOut_93 (by decide) ?_
                  exact ih_10  (o + 1) Y_ (by omega) (by omega) hDm hYb _ _ hP hD hS ls (lv_sub hl [0, 2, 3] rfl)
                · skip
                  refine lv_aload_n hx hb dX3_thinOut_43 rfl (lv_at hl 2 rfl) ?_
                  refine gWM_0_shown_X3 hx hb hts hown hK hP dX3_thinOut_44 ?_
                  refine lv_iload_n hx hb dX3_thinOut_47 rfl (lv_at hl 1 rfl) ?_
                  refine ldWM_10 hx hb hK hP (by omega) dX3_thinOut_48 ?_
                  refine lv_topl (nm_r (e' := lN (Y_ t)) (rfl) ?_)
                  refine lv_aload_n hx hb dX3_thinOut_49 rfl (lv_at hl 2 rfl) ?_
                  refine gWM_0_shown_X3 hx hb hts hown hK hP dX3_thinOut_50 ?_
                  refine lv_iload_n hx hb dX3_thinOut_53 rfl (lv_at hl 0 rfl) ?_
                  refine ldWM_10 hx hb hK hP (by omega) dX3_thinOut_54 ?_
                  refine lv_topl (nm_r (e' := lN (Y_ o)) (rfl) ?_)
                  refine nv_lcmp_ne (tgt := 64) hx hb dX3_thinOut_55 dX3_thinOut_56 (by decide) (fun c_55 => ?_) (fun c_55 => ?_)
                  · skip
                    refine lv_iconst (v := nI 1) hx hb dX3_thinOut_64 (by decide) ?_
                    refine lv_goto (tgt := 69) hx hb dX3_thinOut_65 (by decide) ?_
                    refine lv_istore_n (lv' := [(3, .int (nI 1)), (2, .int (nI o)), (1, .int (nI t)), (0, .ref (q 0))]) hx hb dX3_thinOut_69 rfl hl (by decide) rfl (fun ls hl => ?_)
                    refine lv_aload_n hx hb dX3_thinOut_70 rfl (lv_at hl 3 rfl) ?_
                    refine gWM_0_shown_X3 hx hb hts hown hK hP dX3_thinOut_71 ?_
                    refine lv_iload_n hx hb dX3_thinOut_74 rfl (lv_at hl 2 rfl) ?_
                    refine lv_iload_n hx hb dX3_thinOut_75 rfl (lv_at hl 0 rfl) ?_
                    refine nv_if_eq (tgt := 83) hx hb dX3_thinOut_76 (by decide) (by omega) (fun c_76 => absurd c_76 (by decide)) (fun c_76 => ?_)
                    refine lv_lconst (v := lN 0) hx hb dX3_thinOut_79 (by decide) ?_
                    refine lv_goto (tgt := 89) hx hb dX3_thinOut_80 (by decide) ?_
                    refine stWM_10 hx hb hK hP hD hS (by omega) dX3_thinOut_89 (fun H locs hP hD hS => ?_)
                    have ew_ : vp_updL (lNf Y_) t (lN 0) = lNf (updN Y_ t 0) := lNf_u _ _ _
                    have hP : va_P D vwCl (WM ca q th st ik ln ou pa iw so na nb fo nu al z be ke te ti ne wa ta out pl lo (lNf (updN Y_ t 0)) le) H := (congrArg (fun x_ => va_P D vwCl (WM ca q th st ik ln ou pa iw so na nb fo nu al z be ke te ti ne wa ta out pl lo x_ le) H) ew_).mp hP
                    have hD : va_D A (WM ca q th st ik ln ou pa iw so na nb fo nu al z be ke te ti ne wa ta out pl lo (lNf (updN Y_ t 0)) le) := (congrArg (fun x_ => va_D A (WM ca q th st ik ln ou pa iw so na nb fo nu al z be ke te ti ne wa ta out pl lo x_ le)) ew_).mp hD
                    clear ew_
                    refine lv_iinc (v := nI (o + 1)) (lv' := [(2, .int (nI (o + 1))), (3, .int (nI 1)), (1, .int (nI t)), (0, .ref (q 0))]) hx hb dX3_thinOut_90 hl (k := 1) rfl (nI_add o 1) (by decide) rfl (fun ls hl => ?_)
                    refine lv_goto (tgt := 10) hx hb dX3_thinOut_93 (by decide) ?_
                    exact ih_10  (o + 1) (updN Y_ t 0) (by omega) (by omega) (Dm_s hDm (by omega) c_18 (adN_0.mp ((lN_eq0 (Nat.lt_trans (adN_le2 (hYb t)) (by decide))).mp c_39))) (fun u => by simp only [updN]; split; exact (by decide); exact hYb u) _ _ hP hD hS ls (lv_sub hl [0, 2, 3] rfl)
                  · skip
                    refine lv_iload_n hx hb dX3_thinOut_59 rfl (lv_at hl 0 rfl) ?_
                    refine lv_iload_n hx hb dX3_thinOut_60 rfl (lv_at hl 1 rfl) ?_
                    refine nv_icmp_ge (tgt := 68) hx hb dX3_thinOut_61 (by decide) (by omega) (by omega) (fun c_61 => ?_) (fun c_61 => ?_)
                    · skip
                      refine lv_iconst (v := nI 0) hx hb dX3_thinOut_68 (by decide) ?_
                      refine lv_istore_n (lv' := [(3, .int (nI 0)), (2, .int (nI o)), (1, .int (nI t)), (0, .ref (q 0))]) hx hb dX3_thinOut_69 rfl hl (by decide) rfl (fun ls hl => ?_)
                      refine lv_aload_n hx hb dX3_thinOut_70 rfl (lv_at hl 3 rfl) ?_
                      refine gWM_0_shown_X3 hx hb hts hown hK hP dX3_thinOut_71 ?_
                      refine lv_iload_n hx hb dX3_thinOut_74 rfl (lv_at hl 2 rfl) ?_
                      refine lv_iload_n hx hb dX3_thinOut_75 rfl (lv_at hl 0 rfl) ?_
                      refine nv_if_eq (tgt := 83) hx hb dX3_thinOut_76 (by decide) (by omega) (fun c_76 => ?_) (fun c_76 => absurd c_76 (by decide))
                      refine lv_aload_n hx hb dX3_thinOut_83 rfl (lv_at hl 3 rfl) ?_
                      refine gWM_0_shown_X3 hx hb hts hown hK hP dX3_thinOut_84 ?_
                      refine lv_iload_n hx hb dX3_thinOut_87 rfl (lv_at hl 2 rfl) ?_
                      refine ldWM_10 hx hb hK hP (by omega) dX3_thinOut_88 ?_
                      refine lv_topl (nm_r (e' := lN (Y_ t)) (rfl) ?_)
                      refine stWM_10 hx hb hK hP hD hS (by omega) dX3_thinOut_89 (fun H locs hP hD hS => ?_)
                      have ew_ : vp_updL (lNf Y_) t (lN (Y_ t)) = lNf Y_ := (lNf_u Y_ t (Y_ t)).trans (congrArg lNf (by funext j; simp only [updN]; split <;> simp_all))
                      have hP : va_P D vwCl (WM ca q th st ik ln ou pa iw so na nb fo nu al z be ke te ti ne wa ta out pl lo (lNf Y_) le) H := (congrArg (fun x_ => va_P D vwCl (WM ca q th st ik ln ou pa iw so na nb fo nu al z be ke te ti ne wa ta out pl lo x_ le) H) ew_).mp hP
                      have hD : va_D A (WM ca q th st ik ln ou pa iw so na nb fo nu al z be ke te ti ne wa ta out pl lo (lNf Y_) le) := (congrArg (fun x_ => va_D A (WM ca q th st ik ln ou pa iw so na nb fo nu al z be ke te ti ne wa ta out pl lo x_ le)) ew_).mp hD
                      clear ew_
                      refine lv_iinc (v := nI (o + 1)) (lv' := [(2, .int (nI (o + 1))), (3, .int (nI 0)), (1, .int (nI t)), (0, .ref (q 0))]) hx hb dX3_thinOut_90 hl (k := 1) rfl (nI_add o 1) (by decide) rfl (fun ls hl => ?_)
                      refine lv_goto (tgt := 10) hx hb dX3_thinOut_93 (by decide) ?_
                      exact ih_10  (o + 1) Y_ (by omega) (by omega) hDm hYb _ _ hP hD hS ls (lv_sub hl [0, 2, 3] rfl)
                    · skip
                      refine lv_iconst (v := nI 1) hx hb dX3_thinOut_64 (by decide) ?_
                      refine lv_goto (tgt := 69) hx hb dX3_thinOut_65 (by decide) ?_
                      refine lv_istore_n (lv' := [(3, .int (nI 1)), (2, .int (nI o)), (1, .int (nI t)), (0, .ref (q 0))]) hx hb dX3_thinOut_69 rfl hl (by decide) rfl (fun ls hl => ?_)
                      refine lv_aload_n hx hb dX3_thinOut_70 rfl (lv_at hl 3 rfl) ?_
                      refine gWM_0_shown_X3 hx hb hts hown hK hP dX3_thinOut_71 ?_
                      refine lv_iload_n hx hb dX3_thinOut_74 rfl (lv_at hl 2 rfl) ?_
                      refine lv_iload_n hx hb dX3_thinOut_75 rfl (lv_at hl 0 rfl) ?_
                      refine nv_if_eq (tgt := 83) hx hb dX3_thinOut_76 (by decide) (by omega) (fun c_76 => absurd c_76 (by decide)) (fun c_76 => ?_)
                      refine lv_lconst (v := lN 0) hx hb dX3_thinOut_79 (by decide) ?_
                      refine lv_goto (tgt := 89) hx hb dX3_thinOut_80 (by decide) ?_
                      refine stWM_10 hx hb hK hP hD hS (by omega) dX3_thinOut_89 (fun H locs hP hD hS => ?_)
                      have ew_ : vp_updL (lNf Y_) t (lN 0) = lNf (updN Y_ t 0) := lNf_u _ _ _
                      have hP : va_P D vwCl (WM ca q th st ik ln ou pa iw so na nb fo nu al z be ke te ti ne wa ta out pl lo (lNf (updN Y_ t 0)) le) H := (congrArg (fun x_ => va_P D vwCl (WM ca q th st ik ln ou pa iw so na nb fo nu al z be ke te ti ne wa ta out pl lo x_ le) H) ew_).mp hP
                      have hD : va_D A (WM ca q th st ik ln ou pa iw so na nb fo nu al z be ke te ti ne wa ta out pl lo (lNf (updN Y_ t 0)) le) := (congrArg (fun x_ => va_D A (WM ca q th st ik ln ou pa iw so na nb fo nu al z be ke te ti ne wa ta out pl lo x_ le)) ew_).mp hD
                      clear ew_
                      refine lv_iinc (v := nI (o + 1)) (lv' := [(2, .int (nI (o + 1))), (3, .int (nI 1)), (1, .int (nI t)), (0, .ref (q 0))]) hx hb dX3_thinOut_90 hl (k := 1) rfl (nI_add o 1) (by decide) rfl (fun ls hl => ?_)
                      refine lv_goto (tgt := 10) hx hb dX3_thinOut_93 (by decide) ?_
                      exact ih_10  (o + 1) (updN Y_ t 0) (by omega) (by omega) (Dm_s hDm (by omega) c_18 (adN_0.mp ((lN_eq0 (Nat.lt_trans (adN_le2 (hYb t)) (by decide))).mp c_39))) (fun u => by simp only [updN]; split; exact (by decide); exact hYb u) _ _ hP hD hS ls (lv_sub hl [0, 2, 3] rfl)
        exact lp_10 (64 - 0 + 1) 0 Y_ (Nat.lt_succ_self _) (by omega) hDm hYb _ _ hP hD hS ls (lv_sub hl [0, 1, 2] rfl)
  exact lp_2 (64 - 0 + 1) 0 X_ (Nat.lt_succ_self _) (by omega) (Dm_rf _) hXb _ _ hP hD hS ls (lv_sub hl [0, 1] rfl)
set_option maxHeartbeats 4000000 in
set_option maxRecDepth 100000 in
theorem mt_X3_rarest (l : Launch) (D : va_G) (ca : Nat → ClassId) (q : Nat → Nat) (th : Int32) (st : Int32) (ik : Int32) (ln : Int32) (ou : Int32) (pa : Int32) (iw : Int32) (so : Int32) (na : Int32) (nb : Int32) (fo : Int32) (nu : Int32) (al : Int32) (z : Nat → Int32) (be : Nat → Int32) (ke : Nat → Int32) (te : Nat → Int32) (ti : Nat → Int32) (ne : Nat → Int32) (wa : Nat → Int32) (ta : Nat → Int64) (out : Nat → Int64) (pl : Nat → Int64) (lo : Nat → Int64) (le : Nat → Int64) (X_ : Nat → Nat) (S_ : Nat) (hS_ : S_ < 2 ^ 36) (nn : Nat) : Met l yX3_rarest (ws_ yX3_rarest cX3_rarest 8 (Option.some Jvm.ClassFile.FieldType.int)) ({ frames := 0, cells := 0, slots := 0, locals := 0 } : Room) (va_Pc [.ref (q 0), .long (lN S_)] (PreW Ev0 D vwCl (TY ca) (WM ca q th st ik ln ou pa iw so na nb fo nu al z be ke te ti ne wa ta out pl lo (lNf X_) le) nn)) (va_Qi (fun (r_ : Int32) (u_ : Nat) => r_ = fI u_ ∧ (u_ ≤ 36 ∧ (S_ ≠ 0 → u_ ≠ 0 ∧ u_ ≤ 36 ∧ S_.testBit (u_ - 1) = true))) (PostW D vwCl (TY ca) (fun (u_ : Nat) => (WM ca q th st ik ln ou pa iw so na nb fo nu al z be ke te ti ne wa ta out pl lo (lNf X_) le)) (va_A (WM ca q th st ik ln ou pa iw so na nb fo nu al z be ke te ti ne wa ta out pl lo (lNf X_) le) nn)) (va_A (WM ca q th st ik ln ou pa iw so na nb fo nu al z be ke te ti ne wa ta out pl lo (lNf X_) le) nn)) 0 0 (va_A (WM ca q th st ik ln ou pa iw so na nb fo nu al z be ke te ti ne wa ta out pl lo (lNf X_) le) nn) := by
  refine met_go (QA := fun A => va_Qi (fun (r_ : Int32) (u_ : Nat) => r_ = fI u_ ∧ (u_ ≤ 36 ∧ (S_ ≠ 0 → u_ ≠ 0 ∧ u_ ≤ 36 ∧ S_.testBit (u_ - 1) = true))) (PostW D vwCl (TY ca) (fun (u_ : Nat) => (WM ca q th st ik ln ou pa iw so na nb fo nu al z be ke te ti ne wa ta out pl lo (lNf X_) le)) A) A) (by decide) (Nat.le_of_ble_eq_true rfl) (fun p e s m below meth c A ls QQ hQQ hx hb hr hts hown hlocks hml hA hP hK hD hE hl => ?_)
  have hown : s.vm.findClass RX3 = some m.cls := hown
  have hS : va_S A s.heap s.heap [] := va_S.rf
  have hl : lv_has ls 8 [(0, .ref (q 0)), (1, .long (lN S_))] := hl
  generalize hHe : s.heap = H at hP ⊢
  have hS : va_S A s.heap H [] := hHe ▸ hS
  generalize ([] : List Loc) = locs at hS ⊢
  refine lv_iconst (v := fI 0) hx hb dX3_rarest_0 (by decide) ?_
  refine lv_istore_n (lv' := [(3, .int (fI 0)), (0, .ref (q 0)), (1, .long (lN S_))]) hx hb dX3_rarest_1 rfl hl (by decide) rfl (fun ls hl => ?_)
  refine lv_bipush (v := nI 65) hx hb dX3_rarest_2 (by decide) ?_
  refine lv_istore (lv' := [(4, .int (nI 65)), (3, .int (fI 0)), (0, .ref (q 0)), (1, .long (lN S_))]) hx hb dX3_rarest_4 hl (by decide) rfl (fun ls hl => ?_)
  refine lv_iconst (v := nI 0) hx hb dX3_rarest_6 (by decide) ?_
  refine lv_istore (lv' := [(5, .int (nI 0)), (4, .int (nI 65)), (3, .int (fI 0)), (0, .ref (q 0)), (1, .long (lN S_))]) hx hb dX3_rarest_7 hl (by decide) rfl (fun ls hl => ?_)
  have lp_9 : ∀ (fu_9 : Nat) (f : Nat) (w_ : Nat) (fw : Nat), 36 - f < fu_9 → (f ≤ 36) → (w_ ≤ f) → (w_ ≠ 0 → S_.testBit (w_ - 1) = true) → (w_ = 0 → fw = 65 ∧ ∀ j, j < f → S_.testBit j = false) → (fw ≤ 65) → ∀ (H : Heap) (locs : List Loc), va_P D vwCl (WM ca q th st ik ln ou pa iw so na nb fo nu al z be ke te ti ne wa ta out pl lo (lNf X_) le) H → va_D A (WM ca q th st ik ln ou pa iw so na nb fo nu al z be ke te ti ne wa ta out pl lo (lNf X_) le) → va_S A s.heap H locs → ∀ (ls : Array Slot), lv_has ls 8 [(5, .int (nI f)), (4, .int (nI fw)), (3, .int (fI w_)), (0, .ref (q 0)), (1, .long (lN S_))] → W p l e ({ frames := 0, cells := 0, slots := 0, locals := 0 } : Room) s m ([.ref (q 0), .long (lN S_)] : List Value).toArray below meth c H locs 0 0 QQ (F0 m 9 ls []) := by
    intro fu_9
    induction fu_9 with
    | zero => intro f w_ fw hfu; exact absurd hfu (Nat.not_lt_zero _)
    | succ fu_9 ih_9 =>
      intro f w_ fw hfu hf hw hwb hw0 hfw H locs hP hD hS ls hl
      refine lv_iload hx hb dX3_rarest_9 (lv_at hl 0 rfl) ?_
      refine lv_bipush (v := nI 36) hx hb dX3_rarest_11 (by decide) ?_
      refine nv_icmp_ge (tgt := 100) hx hb dX3_rarest_13 (by decide) (by omega) (by omega) (fun c_13 => ?_) (fun c_13 => ?_)
      · skip
        have e_ : 36 = f := Eq.symm (by omega)
        subst e_
        refine lv_iload_n hx hb dX3_rarest_100 rfl (lv_at hl 2 rfl) ?_
        subst hQQ
        exact xe_i (v := fI w_) w_ hx hb hr hlocks hK hP hD hS (⟨rfl, ⟨hw, fun h => by by_cases hz : w_ = 0; exact absurd (by apply Nat.eq_of_testBit_eq; intro i; rw [Nat.zero_testBit]; rcases Nat.lt_or_ge i 36 with q | q; exact (hw0 hz).2 i q; exact Nat.testBit_lt_two_pow (Nat.lt_of_lt_of_le hS_ (Nat.pow_le_pow_right (by decide) q))) h; exact ⟨hz, hw, hwb hz⟩⟩⟩) dX3_rarest_101
      · skip
        refine lv_lload_n hx hb dX3_rarest_16 rfl (lv_at hl 4 rfl) ?_
        refine lv_iload hx hb dX3_rarest_17 (lv_at hl 0 rfl) ?_
        refine lv_lushr (v := ush64 (lN S_) f) hx hb dX3_rarest_19 rfl ?_
        refine lv_lconst (v := lN 1) hx hb dX3_rarest_20 (by decide) ?_
        refine lv_land hx hb dX3_rarest_21 ?_
        refine lv_topl (nm_r (e' := lN (b2n (S_.testBit f))) ((ush_1 _ (by omega)).trans (by rw [bit_lN _ _ (by omega)])) ?_)
        refine lv_lconst (v := lN 1) hx hb dX3_rarest_22 (by decide) ?_
        refine nv_lcmp_ne (tgt := 94) hx hb dX3_rarest_23 dX3_rarest_24 (by decide) (fun c_23 => ?_) (fun c_23 => ?_)
        · skip
          refine lv_iinc (v := nI (f + 1)) (lv' := [(5, .int (nI (f + 1))), (4, .int (nI fw)), (3, .int (fI w_)), (0, .ref (q 0)), (1, .long (lN S_))]) hx hb dX3_rarest_94 hl (k := 0) rfl (nI_add f 1) (by decide) rfl (fun ls hl => ?_)
          refine lv_goto (tgt := 9) hx hb dX3_rarest_97 (by decide) ?_
          exact ih_9  (f + 1) w_ fw (by omega) (by omega) (by omega) hwb (fun h => ⟨(hw0 h).1, fun j hj => by rcases Nat.lt_or_ge j f with q | q; exact (hw0 h).2 j q; rw [Nat.le_antisymm (by omega) q]; exact Bool.eq_false_iff.mpr (fun z => c_23 (lN_b1.mpr z))⟩) hfw _ _ hP hD hS ls (lv_sub hl [0, 1, 2, 3, 4] rfl)
        · skip
          refine lv_iconst (v := nI 0) hx hb dX3_rarest_27 (by decide) ?_
          refine lv_istore (lv' := [(6, .int (nI 0)), (5, .int (nI f)), (4, .int (nI fw)), (3, .int (fI w_)), (0, .ref (q 0)), (1, .long (lN S_))]) hx hb dX3_rarest_28 hl (by decide) rfl (fun ls hl => ?_)
          refine lv_iconst (v := nI 0) hx hb dX3_rarest_30 (by decide) ?_
          refine lv_istore (lv' := [(7, .int (nI 0)), (6, .int (nI 0)), (5, .int (nI f)), (4, .int (nI fw)), (3, .int (fI w_)), (0, .ref (q 0)), (1, .long (lN S_))]) hx hb dX3_rarest_31 hl (by decide) rfl (fun ls hl => ?_)
          have lp_33 : ∀ (fu_33 : Nat) (t : Nat) (n : Nat), 64 - t < fu_33 → (t ≤ 64) → (n ≤ t) → ∀ (H : Heap) (locs : List Loc), va_P D vwCl (WM ca q th st ik ln ou pa iw so na nb fo nu al z be ke te ti ne wa ta out pl lo (lNf X_) le) H → va_D A (WM ca q th st ik ln ou pa iw so na nb fo nu al z be ke te ti ne wa ta out pl lo (lNf X_) le) → va_S A s.heap H locs → ∀ (ls : Array Slot), lv_has ls 8 [(7, .int (nI t)), (6, .int (nI n)), (5, .int (nI f)), (4, .int (nI fw)), (3, .int (fI w_)), (0, .ref (q 0)), (1, .long (lN S_))] → W p l e ({ frames := 0, cells := 0, slots := 0, locals := 0 } : Room) s m ([.ref (q 0), .long (lN S_)] : List Value).toArray below meth c H locs 0 0 QQ (F0 m 33 ls []) := by
            intro fu_33
            induction fu_33 with
            | zero => intro t n hfu; exact absurd hfu (Nat.not_lt_zero _)
            | succ fu_33 ih_33 =>
              intro t n hfu ht_ hn H locs hP hD hS ls hl
              refine lv_iload hx hb dX3_rarest_33 (lv_at hl 0 rfl) ?_
              refine lv_bipush (v := nI 64) hx hb dX3_rarest_35 (by decide) ?_
              refine nv_icmp_ge (tgt := 64) hx hb dX3_rarest_37 (by decide) (by omega) (by omega) (fun c_37 => ?_) (fun c_37 => ?_)
              · skip
                have e_ : 64 = t := Eq.symm (by omega)
                subst e_
                refine lv_iload hx hb dX3_rarest_64 (lv_at hl 1 rfl) ?_
                refine lv_iload hx hb dX3_rarest_66 (lv_at hl 3 rfl) ?_
                refine nv_icmp_ge (tgt := 76) hx hb dX3_rarest_68 (by decide) (by omega) (by omega) (fun c_68 => ?_) (fun c_68 => ?_)
                · skip
                  refine lv_iload_n hx hb dX3_rarest_76 rfl (lv_at hl 4 rfl) ?_
                  refine lv_istore_n (lv' := [(3, .int (fI w_)), (7, .int (nI 64)), (6, .int (nI n)), (5, .int (nI f)), (4, .int (nI fw)), (0, .ref (q 0)), (1, .long (lN S_))]) hx hb dX3_rarest_77 rfl hl (by decide) rfl (fun ls hl => ?_)
                  refine lv_iload hx hb dX3_rarest_78 (lv_at hl 2 rfl) ?_
                  refine lv_iload hx hb dX3_rarest_80 (lv_at hl 4 rfl) ?_
                  refine nv_icmp_ge (tgt := 90) hx hb dX3_rarest_82 (by decide) (by omega) (by omega) (fun c_82 => ?_) (fun c_82 => ?_)
                  · skip
                    refine lv_iload hx hb dX3_rarest_90 (lv_at hl 4 rfl) ?_
                    refine lv_istore (lv' := [(4, .int (nI fw)), (3, .int (fI w_)), (7, .int (nI 64)), (6, .int (nI n)), (5, .int (nI f)), (0, .ref (q 0)), (1, .long (lN S_))]) hx hb dX3_rarest_92 hl (by decide) rfl (fun ls hl => ?_)
                    refine lv_iinc (v := nI (f + 1)) (lv' := [(5, .int (nI (f + 1))), (4, .int (nI fw)), (3, .int (fI w_)), (7, .int (nI 64)), (6, .int (nI n)), (0, .ref (q 0)), (1, .long (lN S_))]) hx hb dX3_rarest_94 hl (k := 4) rfl (nI_add f 1) (by decide) rfl (fun ls hl => ?_)
                    refine lv_goto (tgt := 9) hx hb dX3_rarest_97 (by decide) ?_
                    exact ih_9  (f + 1) w_ fw (by omega) (by omega) (by omega) (by first | (exfalso; omega) | exact fun _ => lN_b1.mp c_23 | exact hwb) (by first | (exfalso; omega) | (intro h; exfalso; omega) | (intro h; exfalso; have := (hw0 h).1; omega)) (by omega) _ _ hP hD hS ls (lv_sub hl [0, 1, 2, 5, 6] rfl)
                  · skip
                    refine lv_iload hx hb dX3_rarest_85 (lv_at hl 2 rfl) ?_
                    refine lv_goto (tgt := 92) hx hb dX3_rarest_87 (by decide) ?_
                    refine lv_istore (lv' := [(4, .int (nI n)), (3, .int (fI w_)), (7, .int (nI 64)), (6, .int (nI n)), (5, .int (nI f)), (0, .ref (q 0)), (1, .long (lN S_))]) hx hb dX3_rarest_92 hl (by decide) rfl (fun ls hl => ?_)
                    refine lv_iinc (v := nI (f + 1)) (lv' := [(5, .int (nI (f + 1))), (4, .int (nI n)), (3, .int (fI w_)), (7, .int (nI 64)), (6, .int (nI n)), (0, .ref (q 0)), (1, .long (lN S_))]) hx hb dX3_rarest_94 hl (k := 4) rfl (nI_add f 1) (by decide) rfl (fun ls hl => ?_)
                    refine lv_goto (tgt := 9) hx hb dX3_rarest_97 (by decide) ?_
                    exact ih_9  (f + 1) w_ n (by omega) (by omega) (by omega) (by first | (exfalso; omega) | exact fun _ => lN_b1.mp c_23 | exact hwb) (by first | (exfalso; omega) | (intro h; exfalso; omega) | (intro h; exfalso; have := (hw0 h).1; omega)) (by omega) _ _ hP hD hS ls (lv_sub hl [0, 1, 2, 5, 6] rfl)
                · skip
                  refine lv_iload hx hb dX3_rarest_71 (lv_at hl 2 rfl) ?_
                  refine lv_goto (tgt := 77) hx hb dX3_rarest_73 (by decide) ?_
                  refine lv_topi (nm_r (e' := fI (f + 1)) (fI_S f) ?_)
                  refine lv_istore_n (lv' := [(3, .int (fI (f + 1))), (7, .int (nI 64)), (6, .int (nI n)), (5, .int (nI f)), (4, .int (nI fw)), (0, .ref (q 0)), (1, .long (lN S_))]) hx hb dX3_rarest_77 rfl hl (by decide) rfl (fun ls hl => ?_)
                  refine lv_iload hx hb dX3_rarest_78 (lv_at hl 2 rfl) ?_
                  refine lv_iload hx hb dX3_rarest_80 (lv_at hl 4 rfl) ?_
                  refine nv_icmp_ge (tgt := 90) hx hb dX3_rarest_82 (by decide) (by omega) (by omega) (fun c_82 => ?_) (fun c_82 => ?_)
                  · skip
                    refine lv_iload hx hb dX3_rarest_90 (lv_at hl 4 rfl) ?_
                    refine lv_istore (lv' := [(4, .int (nI fw)), (3, .int (fI (f + 1))), (7, .int (nI 64)), (6, .int (nI n)), (5, .int (nI f)), (0, .ref (q 0)), (1, .long (lN S_))]) hx hb dX3_rarest_92 hl (by decide) rfl (fun ls hl => ?_)
                    refine lv_iinc (v := nI (f + 1)) (lv' := [(5, .int (nI (f + 1))), (4, .int (nI fw)), (3, .int (fI (f + 1))), (7, .int (nI 64)), (6, .int (nI n)), (0, .ref (q 0)), (1, .long (lN S_))]) hx hb dX3_rarest_94 hl (k := 4) rfl (nI_add f 1) (by decide) rfl (fun ls hl => ?_)
                    refine lv_goto (tgt := 9) hx hb dX3_rarest_97 (by decide) ?_
                    exact ih_9  (f + 1) (f + 1) fw (by omega) (by omega) (by omega) (by first | (exfalso; omega) | exact fun _ => lN_b1.mp c_23 | exact hwb) (by first | (exfalso; omega) | (intro h; exfalso; omega) | (intro h; exfalso; have := (hw0 h).1; omega)) (by omega) _ _ hP hD hS ls (lv_sub hl [0, 1, 2, 5, 6] rfl)
                  · skip
                    refine lv_iload hx hb dX3_rarest_85 (lv_at hl 2 rfl) ?_
                    refine lv_goto (tgt := 92) hx hb dX3_rarest_87 (by decide) ?_
                    refine lv_istore (lv' := [(4, .int (nI n)), (3, .int (fI (f + 1))), (7, .int (nI 64)), (6, .int (nI n)), (5, .int (nI f)), (0, .ref (q 0)), (1, .long (lN S_))]) hx hb dX3_rarest_92 hl (by decide) rfl (fun ls hl => ?_)
                    refine lv_iinc (v := nI (f + 1)) (lv' := [(5, .int (nI (f + 1))), (4, .int (nI n)), (3, .int (fI (f + 1))), (7, .int (nI 64)), (6, .int (nI n)), (0, .ref (q 0)), (1, .long (lN S_))]) hx hb dX3_rarest_94 hl (k := 4) rfl (nI_add f 1) (by decide) rfl (fun ls hl => ?_)
                    refine lv_goto (tgt := 9) hx hb dX3_rarest_97 (by decide) ?_
                    exact ih_9  (f + 1) (f + 1) n (by omega) (by omega) (by omega) (by first | (exfalso; omega) | exact fun _ => lN_b1.mp c_23 | exact hwb) (by first | (exfalso; omega) | (intro h; exfalso; omega) | (intro h; exfalso; have := (hw0 h).1; omega)) (by omega) _ _ hP hD hS ls (lv_sub hl [0, 1, 2, 5, 6] rfl)
              · skip
                refine lv_iload hx hb dX3_rarest_40 (lv_at hl 1 rfl) ?_
                refine lv_aload_n hx hb dX3_rarest_42 rfl (lv_at hl 5 rfl) ?_
                refine gWM_0_shown_X3 hx hb hts hown hK hP dX3_rarest_43 ?_
                refine lv_iload hx hb dX3_rarest_46 (lv_at hl 0 rfl) ?_
                refine ldWM_10 hx hb hK hP (by omega) dX3_rarest_48 ?_
                refine lv_topl (nm_r (e' := lN (X_ t)) (rfl) ?_)
                refine lv_iload hx hb dX3_rarest_49 (lv_at hl 2 rfl) ?_
                refine lv_lushr (v := ush64 (lN (X_ t)) f) hx hb dX3_rarest_51 rfl ?_
                refine lv_lconst (v := lN 1) hx hb dX3_rarest_52 (by decide) ?_
                refine lv_land hx hb dX3_rarest_53 ?_
                refine lv_topl (nm_r (e' := lN (b2n (bit64 (lN (X_ t)) f))) (ush_1 _ (by omega)) ?_)
                refine lv_l2i (v := nI (b2n (bit64 (lN (X_ t)) f))) hx hb dX3_rarest_54 (lN_i _) ?_
                refine nv_iadd hx hb dX3_rarest_55 ?_
                refine lv_istore (lv' := [(6, .int (nI (n + (b2n (bit64 (lN (X_ t)) f))))), (7, .int (nI t)), (5, .int (nI f)), (4, .int (nI fw)), (3, .int (fI w_)), (0, .ref (q 0)), (1, .long (lN S_))]) hx hb dX3_rarest_56 hl (by decide) rfl (fun ls hl => ?_)
                refine lv_iinc (v := nI (t + 1)) (lv' := [(7, .int (nI (t + 1))), (6, .int (nI (n + (b2n (bit64 (lN (X_ t)) f))))), (5, .int (nI f)), (4, .int (nI fw)), (3, .int (fI w_)), (0, .ref (q 0)), (1, .long (lN S_))]) hx hb dX3_rarest_58 hl (k := 1) rfl (nI_add t 1) (by decide) rfl (fun ls hl => ?_)
                refine lv_goto (tgt := 33) hx hb dX3_rarest_61 (by decide) ?_
                exact ih_33  (t + 1) (n + (b2n (bit64 (lN (X_ t)) f))) (by omega) (by omega) (by have := b2n_le (bit64 (lN (X_ t)) f); omega) _ _ hP hD hS ls (lv_sub hl [0, 1, 2, 3, 4, 5, 6] rfl)
          exact lp_33 (64 - 0 + 1) 0 0 (Nat.lt_succ_self _) (by omega) (by omega) _ _ hP hD hS ls (lv_sub hl [0, 1, 2, 3, 4, 5, 6] rfl)
  exact lp_9 (36 - 0 + 1) 0 0 65 (Nat.lt_succ_self _) (by omega) (by omega) (fun h => absurd rfl h) (fun _ => ⟨rfl, fun j hj => absurd hj (Nat.not_lt_zero _)⟩) (by omega) _ _ hP hD hS ls (lv_sub hl [0, 1, 2, 3, 4] rfl)
set_option maxHeartbeats 4000000 in
set_option maxRecDepth 100000 in
theorem mt_X3_suffice (l : Launch) (D : va_G) (ca : Nat → ClassId) (q : Nat → Nat) (th : Int32) (st : Int32) (ik : Int32) (ln : Int32) (ou : Int32) (pa : Int32) (iw : Int32) (so : Int32) (na : Int32) (nb : Int32) (fo : Int32) (nu : Int32) (al : Int32) (z : Nat → Int32) (be : Nat → Int32) (ke : Nat → Int32) (te : Nat → Int32) (ti : Nat → Int32) (ne : Nat → Int32) (wa : Nat → Int32) (ta : Nat → Int64) (out : Nat → Int64) (pl : Nat → Int64) (lo : Nat → Int64) (le : Nat → Int64) (X_ : Nat → Nat) (S_ : Nat) (n_ : Nat) (hS_ : S_ < 2 ^ 36) (hn_ : n_ ≤ 6) (hXb : ∀ t, X_ t < 2 ^ 36) (nn : Nat) : Met l yX3_suffice (ws_ yX3_suffice cX3_suffice 6 (Option.some Jvm.ClassFile.FieldType.boolean)) ({ frames := 1, cells := 0, slots := 0, locals := 27 } : Room) (va_Pc [.ref (q 0), .long (lN S_), .int (nI n_)] (PreW Ev0 D vwCl (TY ca) (WM ca q th st ik ln ou pa iw so na nb fo nu al z be ke te ti ne wa ta out pl lo (lNf X_) le) nn)) (va_Qi (fun (r_ : Int32) (u_ : (Nat → Int64) × (Nat → Int32) × (Nat → Int32)) => r_ = bI (cvB X_ n_ S_)) (PostW D vwCl (TY ca) (fun (u_ : (Nat → Int64) × (Nat → Int32) × (Nat → Int32)) => (WM ca q th st ik ln ou pa iw so na nb fo nu al z be ke te ti u_.2.1 u_.2.2 ta out pl lo (lNf X_) u_.1)) (va_A (WM ca q th st ik ln ou pa iw so na nb fo nu al z be ke te ti ne wa ta out pl lo (lNf X_) le) nn)) (va_A (WM ca q th st ik ln ou pa iw so na nb fo nu al z be ke te ti ne wa ta out pl lo (lNf X_) le) nn)) 0 0 (va_A (WM ca q th st ik ln ou pa iw so na nb fo nu al z be ke te ti ne wa ta out pl lo (lNf X_) le) nn) := by
  refine met_go (QA := fun A => va_Qi (fun (r_ : Int32) (u_ : (Nat → Int64) × (Nat → Int32) × (Nat → Int32)) => r_ = bI (cvB X_ n_ S_)) (PostW D vwCl (TY ca) (fun (u_ : (Nat → Int64) × (Nat → Int32) × (Nat → Int32)) => (WM ca q th st ik ln ou pa iw so na nb fo nu al z be ke te ti u_.2.1 u_.2.2 ta out pl lo (lNf X_) u_.1)) A) A) (by decide) (Nat.le_of_ble_eq_true rfl) (fun p e s m below meth c A ls QQ hQQ hx hb hr hts hown hlocks hml hA hP hK hD hE hl => ?_)
  have hown : s.vm.findClass RX3 = some m.cls := hown
  have hS : va_S A s.heap s.heap [] := va_S.rf
  have hl : lv_has ls 6 [(0, .ref (q 0)), (1, .long (lN S_)), (3, .int (nI n_))] := hl
  generalize hHe : s.heap = H at hP ⊢
  have hS : va_S A s.heap H [] := hHe ▸ hS
  generalize ([] : List Loc) = locs at hS ⊢
  refine lv_iconst (v := nI 0) hx hb dX3_suffice_0 (by decide) ?_
  refine lv_istore (lv' := [(4, .int (nI 0)), (0, .ref (q 0)), (1, .long (lN S_)), (3, .int (nI n_))]) hx hb dX3_suffice_1 hl (by decide) rfl (fun ls hl => ?_)
  refine lv_aload_n hx hb dX3_suffice_3 rfl (lv_at hl 1 rfl) ?_
  refine gWM_0_left_X3 hx hb hts hown hK hP dX3_suffice_4 ?_
  refine lv_iconst (v := nI 0) hx hb dX3_suffice_7 (by decide) ?_
  refine lv_lload_n hx hb dX3_suffice_8 rfl (lv_at hl 2 rfl) ?_
  refine stWM_11 hx hb hK hP hD hS (by omega) dX3_suffice_9 (fun H locs hP hD hS => ?_)
  refine lv_aload_n hx hb dX3_suffice_10 rfl (lv_at hl 1 rfl) ?_
  refine gWM_0_next_X3 hx hb hts hown hK hP dX3_suffice_11 ?_
  refine lv_iconst (v := nI 0) hx hb dX3_suffice_14 (by decide) ?_
  refine lv_iconst (v := nI 0) hx hb dX3_suffice_15 (by decide) ?_
  refine stWM_12 hx hb hK hP hD hS (by omega) dX3_suffice_16 (fun H locs hP hD hS => ?_)
  refine lv_aload_n hx hb dX3_suffice_17 rfl (lv_at hl 1 rfl) ?_
  refine gWM_0_wanted_X3 hx hb hts hown hK hP dX3_suffice_18 ?_
  refine lv_iconst (v := nI 0) hx hb dX3_suffice_21 (by decide) ?_
  refine lv_aload_n hx hb dX3_suffice_22 rfl (lv_at hl 1 rfl) ?_
  refine lv_lload_n hx hb dX3_suffice_23 rfl (lv_at hl 2 rfl) ?_
  refine xc_i (xr_V (b := q 0) (ci := 2) (q0 := 0) (As := [.long (lN S_)]) (rest := [.int (nI 0), .ref (q 13)]) (mt_X3_rarest l D ca q th st ik ln ou pa iw so na nb fo nu al z be ke te ti (upd ne 0 (nI 0)) wa ta out pl lo (vp_updL le 0 (lN S_)) X_ S_ (by first | assumption | omega | (simp only [updN, forgetC, changedC]; (repeat' split) <;> omega)) H.size) ⟨hx, hb, hml, hown, hts⟩ (cwV 1 hts (lw_V q1855 q1857 qs69 q87 q1858) rfl rfl rfl (by decide +kernel) ⟨Nat.le_of_ble_eq_true rfl, Nat.le_of_ble_eq_true rfl⟩) Ev0_ok hE hK hS (Cut.all hP hD hS hA) rfl rfl rfl hl.1 rfl (Nat.le_of_ble_eq_true rfl) dX3_suffice_24 ⟨Nat.le_of_ble_eq_true rfl, Nat.le_of_ble_eq_true rfl⟩) hS (Cut.all hP hD hS hA) (fun r_1 u_2 H locs hq_24 hP hD hS => ?_)
  obtain ⟨W1_3, rfl⟩ : ∃ z_, z_ = u_2 := ⟨_, rfl⟩
  have hP : va_P D vwCl (WM ca q th st ik ln ou pa iw so na nb fo nu al z be ke te ti (upd ne 0 (nI 0)) wa ta out pl lo (lNf X_) (vp_updL le 0 (lN S_))) H := hP
  have hD : va_D A (WM ca q th st ik ln ou pa iw so na nb fo nu al z be ke te ti (upd ne 0 (nI 0)) wa ta out pl lo (lNf X_) (vp_updL le 0 (lN S_))) := hD
  have hp_24 : r_1 = fI W1_3 ∧ (W1_3 ≤ 36 ∧ (S_ ≠ 0 → W1_3 ≠ 0 ∧ W1_3 ≤ 36 ∧ S_.testBit (W1_3 - 1) = true)) := hq_24
  clear hq_24
  obtain ⟨rfl, hp_24⟩ := hp_24
  refine stWM_13 hx hb hK hP hD hS (by omega) dX3_suffice_27 (fun H locs hP hD hS => ?_)
  have lp_28 : ∀ (fu_28 : Nat) (D_ : Nat) (F_ : Nat → Nat) (N_ : Nat → Nat) (W_ : Nat → Nat) (le_ : Nat → Int64) (ne_ : Nat → Int32) (wa_ : Nat → Int32), mz n_ N_ D_ < fu_28 → (SkI X_ n_ D_ F_ N_ W_ S_) → (ArOk D_ F_ N_ W_ le_ ne_ wa_) → ∀ (H : Heap) (locs : List Loc), va_P D vwCl (WM ca q th st ik ln ou pa iw so na nb fo nu al z be ke te ti ne_ wa_ ta out pl lo (lNf X_) le_) H → va_D A (WM ca q th st ik ln ou pa iw so na nb fo nu al z be ke te ti ne_ wa_ ta out pl lo (lNf X_) le_) → va_S A s.heap H locs → ∀ (ls : Array Slot), lv_has ls 6 [(4, .int (fI D_)), (0, .ref (q 0)), (1, .long (lN S_)), (3, .int (nI n_))] → W p l e ({ frames := 1, cells := 0, slots := 0, locals := 27 } : Room) s m ([.ref (q 0), .long (lN S_), .int (nI n_)] : List Value).toArray below meth c H locs 0 0 QQ (F0 m 28 ls []) := by
    intro fu_28
    induction fu_28 with
    | zero => intro D_ F_ N_ W_ le_ ne_ wa_ hfu; exact absurd hfu (Nat.not_lt_zero _)
    | succ fu_28 ih_28 =>
      intro D_ F_ N_ W_ le_ ne_ wa_ hfu hSk har H locs hP hD hS ls hl
      refine lv_iload hx hb dX3_suffice_28 (lv_at hl 0 rfl) ?_
      refine nv_if_ltf (tgt := 174) hx hb dX3_suffice_30 (by decide) (by have := hSk.1; omega) (fun c_30 => ?_) (fun c_30 => ?_)
      · skip
        subst c_30
        refine lv_iconst (v := nI 0) hx hb dX3_suffice_174 (by decide) ?_
        subst hQQ
        refine (xe_z (b := false) (le_, ne_, wa_) hx hb hr hlocks hK hP hD hS (congrArg bI (cvB_f (SkI_end hSk)).symm) dX3_suffice_175)
      · skip
        obtain ⟨d, rfl⟩ := Nat.exists_eq_succ_of_ne_zero c_30
        have hl : lv_has ls 6 [(4, .int (nI d)), (0, .ref (q 0)), (1, .long (lN S_)), (3, .int (nI n_))] := (congrArg (fun x_ => lv_has ls 6 [(4, .int x_), (0, .ref (q 0)), (1, .long (lN S_)), (3, .int (nI n_))]) (show fI (d + 1) = nI d from (fI_S d).symm)).mp hl
        have hd1 : d ≤ n_ := Nat.le_of_succ_le_succ hSk.1
        have hd2 := hSk.2.1 d (Nat.lt_succ_self d)
        refine lv_aload_n hx hb dX3_suffice_33 rfl (lv_at hl 1 rfl) ?_
        refine gWM_0_left_X3 hx hb hts hown hK hP dX3_suffice_34 ?_
        refine lv_iload hx hb dX3_suffice_37 (lv_at hl 0 rfl) ?_
        refine ldWM_11 hx hb hK hP (by omega) dX3_suffice_39 ?_
        refine lv_topl (nm_r (e' := lN (F_ d)) ((har d (Nat.lt_succ_self d)).1) ?_)
        refine lv_lconst (v := lN 0) hx hb dX3_suffice_40 (by decide) ?_
        refine nv_lcmp_ne (tgt := 47) hx hb dX3_suffice_41 dX3_suffice_42 (by decide) (fun c_41 => ?_) (fun c_41 => ?_)
        · skip
          have hF0 : F_ d ≠ 0 := fun z => c_41 (by rw [z])
          refine lv_aload_n hx hb dX3_suffice_47 rfl (lv_at hl 1 rfl) ?_
          refine gWM_0_next_X3 hx hb hts hown hK hP dX3_suffice_48 ?_
          refine lv_iload hx hb dX3_suffice_51 (lv_at hl 0 rfl) ?_
          refine ldWM_12 hx hb hK hP (by omega) dX3_suffice_53 ?_
          refine lv_topi (nm_r (e' := nI (N_ d)) ((har d (Nat.lt_succ_self d)).2.1) ?_)
          refine lv_istore (lv' := [(5, .int (nI (N_ d))), (4, .int (nI d)), (0, .ref (q 0)), (1, .long (lN S_)), (3, .int (nI n_))]) hx hb dX3_suffice_54 hl (by decide) rfl (fun ls hl => ?_)
          refine lv_iload hx hb dX3_suffice_56 (lv_at hl 1 rfl) ?_
          refine lv_iload_n hx hb dX3_suffice_58 rfl (lv_at hl 4 rfl) ?_
          refine nv_icmp_eq (tgt := 69) hx hb dX3_suffice_59 (by decide) (by omega) (by omega) (fun c_59 => ?_) (fun c_59 => ?_)
          · skip
            have hpp : d = n_ ∨ N_ d = 64 := Or.inl c_59
            refine lv_iinc (v := fI d) (lv' := [(4, .int (fI d)), (5, .int (nI (N_ d))), (0, .ref (q 0)), (1, .long (lN S_)), (3, .int (nI n_))]) hx hb dX3_suffice_69 hl (k := 1) rfl (fI_dec d) (by decide) rfl (fun ls hl => ?_)
            refine lv_goto (tgt := 171) hx hb dX3_suffice_72 (by decide) ?_
            refine lv_goto (tgt := 28) hx hb dX3_suffice_171 (by decide) ?_
            exact ih_28  d F_ N_ W_ le_ ne_ wa_ (Nat.lt_of_lt_of_le (mz_pop hd2.2.1) (Nat.le_of_lt_succ hfu)) (SkI_pop hSk hF0 hpp) (fun i hi => har i (by omega)) _ _ hP hD hS ls (lv_sub hl [0, 2, 3, 4] rfl)
          · skip
            refine lv_iload hx hb dX3_suffice_62 (lv_at hl 0 rfl) ?_
            refine lv_bipush (v := nI 64) hx hb dX3_suffice_64 (by decide) ?_
            refine nv_icmp_ne (tgt := 75) hx hb dX3_suffice_66 (by decide) (by omega) (by omega) (fun c_66 => ?_) (fun c_66 => ?_)
            · skip
              have hN64 : N_ d < 64 := by omega
              refine lv_aload_n hx hb dX3_suffice_75 rfl (lv_at hl 2 rfl) ?_
              refine gWM_0_next_X3 hx hb hts hown hK hP dX3_suffice_76 ?_
              refine lv_iload hx hb dX3_suffice_79 (lv_at hl 1 rfl) ?_
              refine lv_dup2_11 hx hb dX3_suffice_81 rfl rfl ?_
              refine ldWM_12 hx hb hK hP (by omega) dX3_suffice_82 ?_
              refine lv_topi (nm_r (e' := nI (N_ d)) ((har d (Nat.lt_succ_self d)).2.1) ?_)
              refine lv_iconst (v := nI 1) hx hb dX3_suffice_83 (by decide) ?_
              refine nv_iadd hx hb dX3_suffice_84 ?_
              refine stWM_12 hx hb hK hP hD hS (by omega) dX3_suffice_85 (fun H locs hP hD hS => ?_)
              refine lv_aload_n hx hb dX3_suffice_86 rfl (lv_at hl 2 rfl) ?_
              refine gWM_0_shown_X3 hx hb hts hown hK hP dX3_suffice_87 ?_
              refine lv_iload hx hb dX3_suffice_90 (lv_at hl 0 rfl) ?_
              refine ldWM_10 hx hb hK hP (by omega) dX3_suffice_92 ?_
              refine lv_topl (nm_r (e' := lN (X_ (N_ d))) (rfl) ?_)
              refine lv_aload_n hx hb dX3_suffice_93 rfl (lv_at hl 2 rfl) ?_
              refine gWM_0_wanted_X3 hx hb hts hown hK hP dX3_suffice_94 ?_
              refine lv_iload hx hb dX3_suffice_97 (lv_at hl 1 rfl) ?_
              refine ldWM_13 hx hb hK hP (by omega) dX3_suffice_99 ?_
              refine lv_topi (nm_r (e' := nI (W_ d - 1)) (((har d (Nat.lt_succ_self d)).2.2).trans (fI_pos (hd2.2.2 hF0).1)) ?_)
              refine lv_lushr (v := ush64 (lN (X_ (N_ d))) (W_ d - 1)) hx hb dX3_suffice_100 rfl ?_
              refine lv_lconst (v := lN 1) hx hb dX3_suffice_101 (by decide) ?_
              refine lv_land hx hb dX3_suffice_102 ?_
              refine lv_topl (nm_r (e' := lN (b2n ((X_ (N_ d)).testBit (W_ d - 1)))) ((ush_1 _ (by have := (hd2.2.2 hF0).2.1; omega)).trans (by rw [bit_lN _ _ (by have := (hd2.2.2 hF0).2.1; omega)])) ?_)
              refine lv_lconst (v := lN 1) hx hb dX3_suffice_103 (by decide) ?_
              refine nv_lcmp_ne (tgt := 171) hx hb dX3_suffice_104 dX3_suffice_105 (by decide) (fun c_104 => ?_) (fun c_104 => ?_)
              · skip
                refine lv_goto (tgt := 28) hx hb dX3_suffice_171 (by decide) ?_
                have hl : lv_has ls 6 [(5, .int (nI (N_ d))), (4, .int (fI (d + 1))), (0, .ref (q 0)), (1, .long (lN S_)), (3, .int (nI n_))] := (congrArg (fun x_ => lv_has ls 6 [(5, .int (nI (N_ d))), (4, .int x_), (0, .ref (q 0)), (1, .long (lN S_)), (3, .int (nI n_))]) (show nI d = fI (d + 1) from fI_S d)).mp hl
                exact ih_28  (d + 1) F_ (updN N_ d (N_ d + 1)) W_ le_ (upd ne_ d (nI ((N_ d) + 1))) wa_ (Nat.lt_of_lt_of_le (mz_skip hN64) (Nat.le_of_lt_succ hfu)) (SkI_skip hSk hN64 (by cases hz : (X_ (N_ d)).testBit (W_ d - 1) with | false => rfl | true => exact absurd (lN_b1.mpr hz) c_104)) (fun i hi => ⟨(har i hi).1, by simp only [upd, updN]; split; rfl; exact (har i hi).2.1, (har i hi).2.2⟩) _ _ hP hD hS ls (lv_sub hl [1, 2, 3, 4] rfl)
              · skip
                refine lv_aload_n hx hb dX3_suffice_108 rfl (lv_at hl 2 rfl) ?_
                refine gWM_0_left_X3 hx hb hts hown hK hP dX3_suffice_109 ?_
                refine lv_iload hx hb dX3_suffice_112 (lv_at hl 1 rfl) ?_
                refine lv_iconst (v := nI 1) hx hb dX3_suffice_114 (by decide) ?_
                refine nv_iadd hx hb dX3_suffice_115 ?_
                refine lv_aload_n hx hb dX3_suffice_116 rfl (lv_at hl 2 rfl) ?_
                refine gWM_0_left_X3 hx hb hts hown hK hP dX3_suffice_117 ?_
                refine lv_iload hx hb dX3_suffice_120 (lv_at hl 1 rfl) ?_
                refine ldWM_11 hx hb hK hP (by omega) dX3_suffice_122 ?_
                refine lv_topl (nm_r (e' := lN (F_ d)) ((har d (Nat.lt_succ_self d)).1) ?_)
                refine lv_aload_n hx hb dX3_suffice_123 rfl (lv_at hl 2 rfl) ?_
                refine gWM_0_shown_X3 hx hb hts hown hK hP dX3_suffice_124 ?_
                refine lv_iload hx hb dX3_suffice_127 (lv_at hl 0 rfl) ?_
                refine ldWM_10 hx hb hK hP (by omega) dX3_suffice_129 ?_
                refine lv_topl (nm_r (e' := lN (X_ (N_ d))) (rfl) ?_)
                refine lv_ldc2 (v := (-1)) hx hb hown (hts _ q1792) dX3_suffice_130 ?_
                refine lv_lxor hx hb dX3_suffice_133 ?_
                refine lv_land hx hb dX3_suffice_134 ?_
                refine lv_topl (nm_r (e' := lN (adN (F_ d) (X_ (N_ d)))) (lN_adn) ?_)
                refine stWM_11 hx hb hK hP hD hS (by omega) dX3_suffice_135 (fun H locs hP hD hS => ?_)
                refine lv_aload_n hx hb dX3_suffice_136 rfl (lv_at hl 2 rfl) ?_
                refine gWM_0_next_X3 hx hb hts hown hK hP dX3_suffice_137 ?_
                refine lv_iload hx hb dX3_suffice_140 (lv_at hl 1 rfl) ?_
                refine lv_iconst (v := nI 1) hx hb dX3_suffice_142 (by decide) ?_
                refine nv_iadd hx hb dX3_suffice_143 ?_
                refine lv_iconst (v := nI 0) hx hb dX3_suffice_144 (by decide) ?_
                refine stWM_12 hx hb hK hP hD hS (by omega) dX3_suffice_145 (fun H locs hP hD hS => ?_)
                refine lv_aload_n hx hb dX3_suffice_146 rfl (lv_at hl 2 rfl) ?_
                refine gWM_0_wanted_X3 hx hb hts hown hK hP dX3_suffice_147 ?_
                refine lv_iload hx hb dX3_suffice_150 (lv_at hl 1 rfl) ?_
                refine lv_iconst (v := nI 1) hx hb dX3_suffice_152 (by decide) ?_
                refine nv_iadd hx hb dX3_suffice_153 ?_
                refine lv_aload_n hx hb dX3_suffice_154 rfl (lv_at hl 2 rfl) ?_
                refine lv_aload_n hx hb dX3_suffice_155 rfl (lv_at hl 2 rfl) ?_
                refine gWM_0_left_X3 hx hb hts hown hK hP dX3_suffice_156 ?_
                refine lv_iload hx hb dX3_suffice_159 (lv_at hl 1 rfl) ?_
                refine lv_iconst (v := nI 1) hx hb dX3_suffice_161 (by decide) ?_
                refine nv_iadd hx hb dX3_suffice_162 ?_
                refine ldWM_11 hx hb hK hP (by omega) dX3_suffice_163 ?_
                refine lv_topl (nm_r (e' := lN (adN (F_ d) (X_ (N_ d)))) (by simp [vp_updL]) ?_)
                refine xc_i (xr_V (b := q 0) (ci := 2) (q0 := 0) (As := [.long (lN (adN (F_ d) (X_ (N_ d))))]) (rest := [.int (nI (d + 1)), .ref (q 13)]) (mt_X3_rarest l D ca q th st ik ln ou pa iw so na nb fo nu al z be ke te ti (upd (upd ne_ d (nI ((N_ d) + 1))) (d + 1) (nI 0)) wa_ ta out pl lo (vp_updL le_ (d + 1) (lN (adN (F_ d) (X_ (N_ d))))) X_ (adN (F_ d) (X_ (N_ d))) (adN_le2 hd2.1) H.size) ⟨hx, hb, hml, hown, hts⟩ (cwV 1 hts (lw_V q1855 q1857 qs69 q87 q1858) rfl rfl rfl (by decide +kernel) ⟨Nat.le_of_ble_eq_true rfl, Nat.le_of_ble_eq_true rfl⟩) Ev0_ok hE hK hS (Cut.all hP hD hS hA) rfl rfl rfl hl.1 rfl (Nat.le_of_ble_eq_true rfl) dX3_suffice_164 ⟨Nat.le_of_ble_eq_true rfl, Nat.le_of_ble_eq_true rfl⟩) hS (Cut.all hP hD hS hA) (fun r_9 u_10 H locs hq_164 hP hD hS => ?_)
                obtain ⟨W1_11, rfl⟩ : ∃ z_, z_ = u_10 := ⟨_, rfl⟩
                have hP : va_P D vwCl (WM ca q th st ik ln ou pa iw so na nb fo nu al z be ke te ti (upd (upd ne_ d (nI ((N_ d) + 1))) (d + 1) (nI 0)) wa_ ta out pl lo (lNf X_) (vp_updL le_ (d + 1) (lN (adN (F_ d) (X_ (N_ d)))))) H := hP
                have hD : va_D A (WM ca q th st ik ln ou pa iw so na nb fo nu al z be ke te ti (upd (upd ne_ d (nI ((N_ d) + 1))) (d + 1) (nI 0)) wa_ ta out pl lo (lNf X_) (vp_updL le_ (d + 1) (lN (adN (F_ d) (X_ (N_ d)))))) := hD
                have hp_164 : r_9 = fI W1_11 ∧ (W1_11 ≤ 36 ∧ ((adN (F_ d) (X_ (N_ d))) ≠ 0 → W1_11 ≠ 0 ∧ W1_11 ≤ 36 ∧ (adN (F_ d) (X_ (N_ d))).testBit (W1_11 - 1) = true)) := hq_164
                clear hq_164
                obtain ⟨rfl, hp_164⟩ := hp_164
                refine stWM_13 hx hb hK hP hD hS (by omega) dX3_suffice_167 (fun H locs hP hD hS => ?_)
                refine lv_iinc (v := nI (d + 1)) (lv' := [(4, .int (nI (d + 1))), (5, .int (nI (N_ d))), (0, .ref (q 0)), (1, .long (lN S_)), (3, .int (nI n_))]) hx hb dX3_suffice_168 hl (k := 1) rfl (nI_add d 1) (by decide) rfl (fun ls hl => ?_)
                refine lv_goto (tgt := 28) hx hb dX3_suffice_171 (by decide) ?_
                have hl : lv_has ls 6 [(4, .int (fI (d + 1 + 1))), (5, .int (nI (N_ d))), (0, .ref (q 0)), (1, .long (lN S_)), (3, .int (nI n_))] := (congrArg (fun x_ => lv_has ls 6 [(4, .int x_), (5, .int (nI (N_ d))), (0, .ref (q 0)), (1, .long (lN S_)), (3, .int (nI n_))]) (show nI (d + 1) = fI (d + 1 + 1) from fI_S _)).mp hl
                exact ih_28  (d + 1 + 1) (updN F_ (d + 1) (adN (F_ d) (X_ (N_ d)))) (updN (updN N_ d (N_ d + 1)) (d + 1) 0) (updN W_ (d + 1) W1_11) (vp_updL le_ (d + 1) (lN (adN (F_ d) (X_ (N_ d))))) (upd (upd ne_ d (nI ((N_ d) + 1))) (d + 1) (nI 0)) (upd wa_ (d + 1) (fI W1_11)) (Nat.lt_of_lt_of_le (mz_push hN64 (by omega)) (Nat.le_of_lt_succ hfu)) (SkI_push hSk hF0 (by omega) hN64 (lN_b1.mp c_104) hp_164.2) (fun i hi => ⟨by simp only [vp_updL, updN]; split; rfl; exact (har i (by omega)).1, by simp only [upd, updN]; (repeat' split); rfl; rfl; exact (har i (by omega)).2.1, by simp only [upd, updN]; split; rfl; exact (har i (by omega)).2.2⟩) _ _ hP hD hS ls (lv_sub hl [0, 2, 3, 4] rfl)
            · skip
              have hpp : d = n_ ∨ N_ d = 64 := Or.inr c_66
              refine lv_iinc (v := fI d) (lv' := [(4, .int (fI d)), (5, .int (nI (N_ d))), (0, .ref (q 0)), (1, .long (lN S_)), (3, .int (nI n_))]) hx hb dX3_suffice_69 hl (k := 1) rfl (fI_dec d) (by decide) rfl (fun ls hl => ?_)
              refine lv_goto (tgt := 171) hx hb dX3_suffice_72 (by decide) ?_
              refine lv_goto (tgt := 28) hx hb dX3_suffice_171 (by decide) ?_
              exact ih_28  d F_ N_ W_ le_ ne_ wa_ (Nat.lt_of_lt_of_le (mz_pop hd2.2.1) (Nat.le_of_lt_succ hfu)) (SkI_pop hSk hF0 hpp) (fun i hi => har i (by omega)) _ _ hP hD hS ls (lv_sub hl [0, 2, 3, 4] rfl)
        · skip
          have hcv : Cv X_ n_ S_ := SkI_ret hSk ((lN_eq0 (Nat.lt_trans hd2.1 (by decide))).mp c_41)
          refine lv_iconst (v := nI 1) hx hb dX3_suffice_45 (by decide) ?_
          subst hQQ
          refine (xe_z (b := true) (le_, ne_, wa_) hx hb hr hlocks hK hP hD hS (congrArg bI (cvB_t hcv).symm) dX3_suffice_46)
  have hl : lv_has ls 6 [(4, .int (fI 1)), (0, .ref (q 0)), (1, .long (lN S_)), (3, .int (nI n_))] := (congrArg (fun x_ => lv_has ls 6 [(4, .int x_), (0, .ref (q 0)), (1, .long (lN S_)), (3, .int (nI n_))]) (show nI 0 = fI 1 from fI_S 0)).mp hl
  exact lp_28 (mz n_ (updN (fun _ => 0) 0 0) 1 + 1) 1 (updN (fun _ => 0) 0 S_) (updN (fun _ => 0) 0 0) (updN (fun _ => 0) 0 W1_3) (vp_updL le 0 (lN S_)) (upd ne 0 (nI 0)) (upd wa 0 (fI W1_3)) (Nat.lt_succ_self _) (SkI_0 hS_ hp_24.2) (fun i hi => by have e : i = 0 := (by omega); subst e; exact ⟨rfl, rfl, rfl⟩) _ _ hP hD hS ls (lv_sub hl [0, 1, 2, 3] rfl)
