/-! contracts of the model: what is told of candidates -/
set_option maxRecDepth 100000
set_option maxHeartbeats 4000000 in
set_option maxRecDepth 100000 in
theorem mt_X3_worst (l : Launch) (D : va_G) (ca : Nat → ClassId) (q : Nat → Nat) (th : Int32) (st : Int32) (ik : Int32) (ln : Int32) (ou : Int32) (pa : Int32) (iw : Int32) (so : Int32) (na : Int32) (nb : Int32) (fo : Int32) (nu : Int32) (al : Int32) (z : Nat → Int32) (be : Nat → Int32) (ke : Nat → Int32) (te : Nat → Int32) (ne : Nat → Int32) (wa : Nat → Int32) (ta : Nat → Int64) (out : Nat → Int64) (pl : Nat → Int64) (lo : Nat → Int64) (sh : Nat → Int64) (le : Nat → Int64) (X_ : Nat → Nat) (t_ : Nat) (ht : t_ < 64) (hX : ∀ k, X_ k < 100000) (nn : Nat) : Met l yX3_worst (ws_ yX3_worst cX3_worst 4 (Option.some Jvm.ClassFile.FieldType.int)) ({ frames := 0, cells := 0, slots := 0, locals := 0 } : Room) (va_Pc [.ref (q 0), .int (nI t_)] (PreW Ev0 D vwCl (TY ca) (WM ca q th st ik ln ou pa iw so na nb fo nu al z be ke te (nIf X_) ne wa ta out pl lo sh le) nn)) (va_Qi (fun (r_ : Int32) (_ : Unit) => r_ = nI (wst X_ t_)) (PostW D vwCl (TY ca) (fun (_ : Unit) => (WM ca q th st ik ln ou pa iw so na nb fo nu al z be ke te (nIf X_) ne wa ta out pl lo sh le)) (va_A (WM ca q th st ik ln ou pa iw so na nb fo nu al z be ke te (nIf X_) ne wa ta out pl lo sh le) nn)) (va_A (WM ca q th st ik ln ou pa iw so na nb fo nu al z be ke te (nIf X_) ne wa ta out pl lo sh le) nn)) 0 0 (va_A (WM ca q th st ik ln ou pa iw so na nb fo nu al z be ke te (nIf X_) ne wa ta out pl lo sh le) nn) := by
  refine met_go (QA := fun A => va_Qi (fun (r_ : Int32) (_ : Unit) => r_ = nI (wst X_ t_)) (PostW D vwCl (TY ca) (fun (_ : Unit) => (WM ca q th st ik ln ou pa iw so na nb fo nu al z be ke te (nIf X_) ne wa ta out pl lo sh le)) A) A) (by decide) (Nat.le_of_ble_eq_true rfl) (fun p e s m below meth c A ls QQ hQQ hx hb hr hts hown hlocks hml hA hP hK hD hE hl => ?_)
  have hown : s.vm.findClass RX3 = some m.cls := hown
  have hS : va_S A s.heap s.heap [] := va_S.rf
  have hl : lv_has ls 4 [(0, .ref (q 0)), (1, .int (nI t_))] := hl
  generalize hHe : s.heap = H at hP ⊢
  have hS : va_S A s.heap H [] := hHe ▸ hS
  generalize ([] : List Loc) = locs at hS ⊢
  refine lv_iconst (v := nI 0) hx hb dX3_worst_0 (by decide) ?_
  refine lv_istore_n (lv' := [(2, .int (nI 0)), (0, .ref (q 0)), (1, .int (nI t_))]) hx hb dX3_worst_1 rfl hl (by decide) rfl (fun ls hl => ?_)
  refine lv_bipush (v := nI 16) hx hb dX3_worst_2 (by decide) ?_
  refine lv_iload_n hx hb dX3_worst_4 rfl (lv_at hl 2 rfl) ?_
  refine nv_imul hx hb dX3_worst_5 ?_
  refine lv_istore_n (lv' := [(3, .int (nI (16 * t_))), (2, .int (nI 0)), (0, .ref (q 0)), (1, .int (nI t_))]) hx hb dX3_worst_6 rfl hl (by decide) rfl (fun ls hl => ?_)
  have lp_7 : ∀ (fu_7 : Nat) (i : Nat), 16 - i < fu_7 → (i ≤ 16) → ∀ (H : Heap) (locs : List Loc), va_P D vwCl (WM ca q th st ik ln ou pa iw so na nb fo nu al z be ke te (nIf X_) ne wa ta out pl lo sh le) H → va_D A (WM ca q th st ik ln ou pa iw so na nb fo nu al z be ke te (nIf X_) ne wa ta out pl lo sh le) → va_S A s.heap H locs → ∀ (ls : Array Slot), lv_has ls 4 [(3, .int (nI (16 * t_ + i))), (2, .int (nI (wsN X_ t_ i))), (0, .ref (q 0)), (1, .int (nI t_))] → W p l e ({ frames := 0, cells := 0, slots := 0, locals := 0 } : Room) s m ([.ref (q 0), .int (nI t_)] : List Value).toArray below meth c H locs 0 0 QQ (F0 m 7 ls []) := by
    intro fu_7
    induction fu_7 with
    | zero => intro i hfu; exact absurd hfu (Nat.not_lt_zero _)
    | succ fu_7 ih_7 =>
      intro i hfu hi H locs hP hD hS ls hl
      refine lv_iload_n hx hb dX3_worst_7 rfl (lv_at hl 0 rfl) ?_
      refine lv_bipush (v := nI 16) hx hb dX3_worst_8 (by decide) ?_
      refine lv_iload_n hx hb dX3_worst_10 rfl (lv_at hl 3 rfl) ?_
      refine nv_imul hx hb dX3_worst_11 ?_
      refine lv_bipush (v := nI 16) hx hb dX3_worst_12 (by decide) ?_
      refine nv_iadd hx hb dX3_worst_14 ?_
      refine nv_icmp_ge (tgt := 45) hx hb dX3_worst_15 (by decide) (by omega) (by omega) (fun c_15 => ?_) (fun c_15 => ?_)
      · skip
        have e_ : 16 = i := Eq.symm (by omega)
        subst e_
        refine lv_iload_n hx hb dX3_worst_45 rfl (lv_at hl 1 rfl) ?_
        subst hQQ
        exact xe_i (v := nI (wsN X_ t_ 16)) () hx hb hr hlocks hK hP hD hS (rfl) dX3_worst_46
      · skip
        refine lv_aload_n hx hb dX3_worst_18 rfl (lv_at hl 2 rfl) ?_
        refine gWM_0_times_X3 hx hb hts hown hK hP dX3_worst_19 ?_
        refine lv_iload_n hx hb dX3_worst_22 rfl (lv_at hl 0 rfl) ?_
        refine ldWM_9 hx hb hK hP (by omega) dX3_worst_23 ?_
        refine lv_topi (nm_r (e' := nI (X_ (16 * t_ + i))) (rfl) ?_)
        refine lv_iload_n hx hb dX3_worst_24 rfl (lv_at hl 1 rfl) ?_
        refine nv_icmp_le (tgt := 37) hx hb dX3_worst_25 (by decide) (by have := hX (16 * t_ + i); omega) (by have := wsN_lt (t := t_) (by decide : 0 < 100000) hX i; omega) (fun c_25 => ?_) (fun c_25 => ?_)
        · skip
          refine lv_iload_n hx hb dX3_worst_37 rfl (lv_at hl 1 rfl) ?_
          refine lv_topi (nm_r (e' := nI (wsN X_ t_ (i + 1))) (congrArg nI (by simp only [wsN]; rw [if_neg (by omega)])) ?_)
          refine lv_istore_n (lv' := [(2, .int (nI (wsN X_ t_ (i + 1)))), (3, .int (nI (16 * t_ + i))), (0, .ref (q 0)), (1, .int (nI t_))]) hx hb dX3_worst_38 rfl hl (by decide) rfl (fun ls hl => ?_)
          refine lv_iinc (v := nI (16 * t_ + i + 1)) (lv' := [(3, .int (nI (16 * t_ + i + 1))), (2, .int (nI (wsN X_ t_ (i + 1)))), (0, .ref (q 0)), (1, .int (nI t_))]) hx hb dX3_worst_39 hl (k := 1) rfl (nI_add (16 * t_ + i) 1) (by decide) rfl (fun ls hl => ?_)
          refine lv_goto (tgt := 7) hx hb dX3_worst_42 (by decide) ?_
          exact ih_7  (i + 1) (by omega) (by omega) _ _ hP hD hS ls (lv_sub hl [0, 1, 2, 3] rfl)
        · skip
          refine lv_aload_n hx hb dX3_worst_28 rfl (lv_at hl 2 rfl) ?_
          refine gWM_0_times_X3 hx hb hts hown hK hP dX3_worst_29 ?_
          refine lv_iload_n hx hb dX3_worst_32 rfl (lv_at hl 0 rfl) ?_
          refine ldWM_9 hx hb hK hP (by omega) dX3_worst_33 ?_
          refine lv_topi (nm_r (e' := nI (X_ (16 * t_ + i))) (rfl) ?_)
          refine lv_goto (tgt := 38) hx hb dX3_worst_34 (by decide) ?_
          refine lv_topi (nm_r (e' := nI (wsN X_ t_ (i + 1))) (congrArg nI (by simp only [wsN]; rw [if_pos c_25])) ?_)
          refine lv_istore_n (lv' := [(2, .int (nI (wsN X_ t_ (i + 1)))), (3, .int (nI (16 * t_ + i))), (0, .ref (q 0)), (1, .int (nI t_))]) hx hb dX3_worst_38 rfl hl (by decide) rfl (fun ls hl => ?_)
          refine lv_iinc (v := nI (16 * t_ + i + 1)) (lv' := [(3, .int (nI (16 * t_ + i + 1))), (2, .int (nI (wsN X_ t_ (i + 1)))), (0, .ref (q 0)), (1, .int (nI t_))]) hx hb dX3_worst_39 hl (k := 1) rfl (nI_add (16 * t_ + i) 1) (by decide) rfl (fun ls hl => ?_)
          refine lv_goto (tgt := 7) hx hb dX3_worst_42 (by decide) ?_
          exact ih_7  (i + 1) (by omega) (by omega) _ _ hP hD hS ls (lv_sub hl [0, 1, 2, 3] rfl)
  exact lp_7 (16 - 0 + 1) 0 (Nat.lt_succ_self _) (by omega) _ _ hP hD hS ls (lv_sub hl [0, 1, 2, 3] rfl)
set_option maxHeartbeats 4000000 in
set_option maxRecDepth 100000 in
theorem mt_X3_best (l : Launch) (D : va_G) (ca : Nat → ClassId) (q : Nat → Nat) (th : Int32) (st : Int32) (ik : Int32) (ln : Int32) (ou : Int32) (pa : Int32) (iw : Int32) (so : Int32) (na : Int32) (nb : Int32) (fo : Int32) (nu : Int32) (al : Int32) (z : Nat → Int32) (be : Nat → Int32) (ke : Nat → Int32) (te : Nat → Int32) (ne : Nat → Int32) (wa : Nat → Int32) (ta : Nat → Int64) (out : Nat → Int64) (pl : Nat → Int64) (lo : Nat → Int64) (sh : Nat → Int64) (le : Nat → Int64) (X_ : Nat → Nat) (hX : ∀ k, X_ k < 100000) (nn : Nat) : Met l yX3_best (ws_ yX3_best cX3_best 3 (Option.some Jvm.ClassFile.FieldType.int)) ({ frames := 1, cells := 0, slots := 0, locals := 23 } : Room) (va_Pc [.ref (q 0)] (PreW Ev0 D vwCl (TY ca) (WM ca q th st ik ln ou pa iw so na nb fo nu al z be ke te (nIf X_) ne wa ta out pl lo sh le) nn)) (va_Qi (fun (r_ : Int32) (_ : Unit) => r_ = nI (bsN X_ 63)) (PostW D vwCl (TY ca) (fun (_ : Unit) => (WM ca q th st ik ln ou pa iw so na nb fo nu al z be ke te (nIf X_) ne wa ta out pl lo sh le)) (va_A (WM ca q th st ik ln ou pa iw so na nb fo nu al z be ke te (nIf X_) ne wa ta out pl lo sh le) nn)) (va_A (WM ca q th st ik ln ou pa iw so na nb fo nu al z be ke te (nIf X_) ne wa ta out pl lo sh le) nn)) 0 0 (va_A (WM ca q th st ik ln ou pa iw so na nb fo nu al z be ke te (nIf X_) ne wa ta out pl lo sh le) nn) := by
  refine met_go (QA := fun A => va_Qi (fun (r_ : Int32) (_ : Unit) => r_ = nI (bsN X_ 63)) (PostW D vwCl (TY ca) (fun (_ : Unit) => (WM ca q th st ik ln ou pa iw so na nb fo nu al z be ke te (nIf X_) ne wa ta out pl lo sh le)) A) A) (by decide) (Nat.le_of_ble_eq_true rfl) (fun p e s m below meth c A ls QQ hQQ hx hb hr hts hown hlocks hml hA hP hK hD hE hl => ?_)
  have hown : s.vm.findClass RX3 = some m.cls := hown
  have hS : va_S A s.heap s.heap [] := va_S.rf
  have hl : lv_has ls 3 [(0, .ref (q 0))] := hl
  generalize hHe : s.heap = H at hP ⊢
  have hS : va_S A s.heap H [] := hHe ▸ hS
  generalize ([] : List Loc) = locs at hS ⊢
  refine lv_iconst (v := nI 0) hx hb dX3_best_0 (by decide) ?_
  refine lv_istore_n (lv' := [(1, .int (nI 0)), (0, .ref (q 0))]) hx hb dX3_best_1 rfl hl (by decide) rfl (fun ls hl => ?_)
  refine lv_iconst (v := nI 1) hx hb dX3_best_2 (by decide) ?_
  refine lv_istore_n (lv' := [(2, .int (nI 1)), (1, .int (nI 0)), (0, .ref (q 0))]) hx hb dX3_best_3 rfl hl (by decide) rfl (fun ls hl => ?_)
  have lp_4 : ∀ (fu_4 : Nat) (i : Nat), 63 - i < fu_4 → (i ≤ 63) → ∀ (H : Heap) (locs : List Loc), va_P D vwCl (WM ca q th st ik ln ou pa iw so na nb fo nu al z be ke te (nIf X_) ne wa ta out pl lo sh le) H → va_D A (WM ca q th st ik ln ou pa iw so na nb fo nu al z be ke te (nIf X_) ne wa ta out pl lo sh le) → va_S A s.heap H locs → ∀ (ls : Array Slot), lv_has ls 3 [(2, .int (nI (i + 1))), (1, .int (nI (bsN X_ i))), (0, .ref (q 0))] → W p l e ({ frames := 1, cells := 0, slots := 0, locals := 23 } : Room) s m ([.ref (q 0)] : List Value).toArray below meth c H locs 0 0 QQ (F0 m 4 ls []) := by
    intro fu_4
    induction fu_4 with
    | zero => intro i hfu; exact absurd hfu (Nat.not_lt_zero _)
    | succ fu_4 ih_4 =>
      intro i hfu hi H locs hP hD hS ls hl
      refine lv_iload_n hx hb dX3_best_4 rfl (lv_at hl 0 rfl) ?_
      refine lv_bipush (v := nI 64) hx hb dX3_best_5 (by decide) ?_
      refine nv_icmp_ge (tgt := 35) hx hb dX3_best_7 (by decide) (by omega) (by omega) (fun c_7 => ?_) (fun c_7 => ?_)
      · skip
        have e_ : 63 = i := Eq.symm (by omega)
        subst e_
        refine lv_iload_n hx hb dX3_best_35 rfl (lv_at hl 1 rfl) ?_
        subst hQQ
        exact xe_i (v := nI (bsN X_ 63)) () hx hb hr hlocks hK hP hD hS (rfl) dX3_best_36
      · skip
        refine lv_aload_n hx hb dX3_best_10 rfl (lv_at hl 2 rfl) ?_
        refine lv_iload_n hx hb dX3_best_11 rfl (lv_at hl 0 rfl) ?_
        refine xc_i (xr_V (b := q 0) (ci := 2) (q0 := 0) (As := [.int (nI (i + 1))]) (rest := []) (mt_X3_worst l D ca q th st ik ln ou pa iw so na nb fo nu al z be ke te ne wa ta out pl lo sh le X_ (i + 1) (by first | assumption | omega | (simp only [updN, forgetC, changedC]; (repeat' split) <;> omega)) (by first | assumption | omega | (simp only [updN, forgetC, changedC]; (repeat' split) <;> omega)) H.size) ⟨hx, hb, hml, hown, hts⟩ (cwV 1 hts (lw_V q1824 q1826 qs64 q87 q1827) rfl rfl rfl (by decide +kernel) ⟨Nat.le_of_ble_eq_true rfl, Nat.le_of_ble_eq_true rfl⟩) Ev0_ok hE hK hS (Cut.all hP hD hS hA) rfl rfl rfl hl.1 rfl (Nat.le_of_ble_eq_true rfl) dX3_best_12 ⟨Nat.le_of_ble_eq_true rfl, Nat.le_of_ble_eq_true rfl⟩) hS (Cut.all hP hD hS hA) (fun r_2 u_3 H locs hq_12 hP hD hS => ?_)
        have hP : va_P D vwCl (WM ca q th st ik ln ou pa iw so na nb fo nu al z be ke te (nIf X_) ne wa ta out pl lo sh le) H := hP
        have hD : va_D A (WM ca q th st ik ln ou pa iw so na nb fo nu al z be ke te (nIf X_) ne wa ta out pl lo sh le) := hD
        have hp_12 : r_2 = nI (wst X_ (i + 1)) := hq_12
        clear hq_12
        obtain rfl := hp_12
        refine lv_aload_n hx hb dX3_best_15 rfl (lv_at hl 2 rfl) ?_
        refine lv_iload_n hx hb dX3_best_16 rfl (lv_at hl 1 rfl) ?_
        refine xc_i (xr_V (b := q 0) (ci := 2) (q0 := 0) (As := [.int (nI (bsN X_ i))]) (rest := [.int (nI (wst X_ (i + 1)))]) (mt_X3_worst l D ca q th st ik ln ou pa iw so na nb fo nu al z be ke te ne wa ta out pl lo sh le X_ (bsN X_ i) (by have := @bsN_le X_ i; omega) hX H.size) ⟨hx, hb, hml, hown, hts⟩ (cwV 1 hts (lw_V q1824 q1826 qs64 q87 q1827) rfl rfl rfl (by decide +kernel) ⟨Nat.le_of_ble_eq_true rfl, Nat.le_of_ble_eq_true rfl⟩) Ev0_ok hE hK hS (Cut.all hP hD hS hA) rfl rfl rfl hl.1 rfl (Nat.le_of_ble_eq_true rfl) dX3_best_17 ⟨Nat.le_of_ble_eq_true rfl, Nat.le_of_ble_eq_true rfl⟩) hS (Cut.all hP hD hS hA) (fun r_4 u_5 H locs hq_17 hP hD hS => ?_)
        have hP : va_P D vwCl (WM ca q th st ik ln ou pa iw so na nb fo nu al z be ke te (nIf X_) ne wa ta out pl lo sh le) H := hP
        have hD : va_D A (WM ca q th st ik ln ou pa iw so na nb fo nu al z be ke te (nIf X_) ne wa ta out pl lo sh le) := hD
        have hp_17 : r_4 = nI (wst X_ (bsN X_ i)) := hq_17
        clear hq_17
        obtain rfl := hp_17
        refine nv_icmp_ge (tgt := 27) hx hb dX3_best_20 (by decide) (by have := wsN_lt (t := i + 1) (by decide : 0 < 100000) hX 16; unfold wst; omega) (by have := wsN_lt (t := bsN X_ i) (by decide : 0 < 100000) hX 16; unfold wst; omega) (fun c_20 => ?_) (fun c_20 => ?_)
        · skip
          refine lv_iload_n hx hb dX3_best_27 rfl (lv_at hl 1 rfl) ?_
          refine lv_topi (nm_r (e' := nI (bsN X_ (i + 1))) (congrArg nI (by simp only [bsN]; rw [if_neg (by omega)])) ?_)
          refine lv_istore_n (lv' := [(1, .int (nI (bsN X_ (i + 1)))), (2, .int (nI (i + 1))), (0, .ref (q 0))]) hx hb dX3_best_28 rfl hl (by decide) rfl (fun ls hl => ?_)
          refine lv_iinc (v := nI (i + 1 + 1)) (lv' := [(2, .int (nI (i + 1 + 1))), (1, .int (nI (bsN X_ (i + 1)))), (0, .ref (q 0))]) hx hb dX3_best_29 hl (k := 1) rfl (nI_add (i + 1) 1) (by decide) rfl (fun ls hl => ?_)
          refine lv_goto (tgt := 4) hx hb dX3_best_32 (by decide) ?_
          exact ih_4  (i + 1) (by omega) (by omega) _ _ hP hD hS ls (lv_sub hl [0, 1, 2] rfl)
        · skip
          refine lv_iload_n hx hb dX3_best_23 rfl (lv_at hl 0 rfl) ?_
          refine lv_goto (tgt := 28) hx hb dX3_best_24 (by decide) ?_
          refine lv_topi (nm_r (e' := nI (bsN X_ (i + 1))) (congrArg nI (by simp only [bsN]; rw [if_pos c_20])) ?_)
          refine lv_istore_n (lv' := [(1, .int (nI (bsN X_ (i + 1)))), (2, .int (nI (i + 1))), (0, .ref (q 0))]) hx hb dX3_best_28 rfl hl (by decide) rfl (fun ls hl => ?_)
          refine lv_iinc (v := nI (i + 1 + 1)) (lv' := [(2, .int (nI (i + 1 + 1))), (1, .int (nI (bsN X_ (i + 1)))), (0, .ref (q 0))]) hx hb dX3_best_29 hl (k := 1) rfl (nI_add (i + 1) 1) (by decide) rfl (fun ls hl => ?_)
          refine lv_goto (tgt := 4) hx hb dX3_best_32 (by decide) ?_
          exact ih_4  (i + 1) (by omega) (by omega) _ _ hP hD hS ls (lv_sub hl [0, 1, 2] rfl)
  exact lp_4 (63 - 0 + 1) 0 (Nat.lt_succ_self _) (by omega) _ _ hP hD hS ls (lv_sub hl [0, 1, 2] rfl)
set_option maxHeartbeats 4000000 in
set_option maxRecDepth 100000 in
theorem mt_X3_hypotheses (l : Launch) (D : va_G) (ca : Nat → ClassId) (q : Nat → Nat) (th : Int32) (st : Int32) (ik : Int32) (ln : Int32) (ou : Int32) (pa : Int32) (iw : Int32) (so : Int32) (na : Int32) (nb : Int32) (fo : Int32) (nu : Int32) (al : Int32) (be : Nat → Int32) (ke : Nat → Int32) (te : Nat → Int32) (ti : Nat → Int32) (ne : Nat → Int32) (wa : Nat → Int32) (ta : Nat → Int64) (out : Nat → Int64) (pl : Nat → Int64) (lo : Nat → Int64) (sh : Nat → Int64) (le : Nat → Int64) (C : Nat → Nat) (h0 : C 0 ≤ 12) (hbx : C 38 < 2 ^ 18) (hnb : popc 18 (C 38) ≤ 3) (h40 : C 40 ≤ 1) (nn : Nat) : Met l yX3_hypotheses (ws_ yX3_hypotheses cX3_hypotheses 1 (Option.some Jvm.ClassFile.FieldType.int)) ({ frames := 2, cells := 0, slots := 0, locals := 43 } : Room) (va_Pc [.ref (q 0)] (PreW Ev0 D vwCl (TY ca) (WM ca q th st ik ln ou pa iw so na nb fo nu al (zOf C) be ke te ti ne wa ta out pl lo sh le) nn)) (va_Qi (fun (r_ : Int32) (_ : Unit) => r_ = nI (ksm C * (fa C + 1))) (PostW D vwCl (TY ca) (fun (_ : Unit) => (WM ca q (nI 0) st ik ln ou pa iw so na nb fo nu al (zOf C) be ke te ti ne wa ta out pl lo sh le)) (va_A (WM ca q th st ik ln ou pa iw so na nb fo nu al (zOf C) be ke te ti ne wa ta out pl lo sh le) nn)) (va_A (WM ca q th st ik ln ou pa iw so na nb fo nu al (zOf C) be ke te ti ne wa ta out pl lo sh le) nn)) 0 0 (va_A (WM ca q th st ik ln ou pa iw so na nb fo nu al (zOf C) be ke te ti ne wa ta out pl lo sh le) nn) := by
  refine met_go (QA := fun A => va_Qi (fun (r_ : Int32) (_ : Unit) => r_ = nI (ksm C * (fa C + 1))) (PostW D vwCl (TY ca) (fun (_ : Unit) => (WM ca q (nI 0) st ik ln ou pa iw so na nb fo nu al (zOf C) be ke te ti ne wa ta out pl lo sh le)) A) A) (by decide) (Nat.le_of_ble_eq_true rfl) (fun p e s m below meth c A ls QQ hQQ hx hb hr hts hown hlocks hml hA hP hK hD hE hl => ?_)
  have hown : s.vm.findClass RX3 = some m.cls := hown
  have hS : va_S A s.heap s.heap [] := va_S.rf
  have hl : lv_has ls 1 [(0, .ref (q 0))] := hl
  generalize hHe : s.heap = H at hP ⊢
  have hS : va_S A s.heap H [] := hHe ▸ hS
  generalize ([] : List Loc) = locs at hS ⊢
  refine lv_aload_n hx hb dX3_hypotheses_0 rfl (lv_at hl 0 rfl) ?_
  refine lv_iconst (v := nI 0) hx hb dX3_hypotheses_1 (by decide) ?_
  refine pWM_0_thrown_X3 hx hb hts hown hK hP hD hS dX3_hypotheses_2 (fun H locs hP hD hS => ?_)
  refine lv_aload_n hx hb dX3_hypotheses_5 rfl (lv_at hl 0 rfl) ?_
  refine xc_i (xr_V (b := q 0) (ci := 2) (q0 := 0) (As := []) (rest := []) (mt_X3_kindSums l D ca q (nI 0) st ik ln ou pa iw so na nb fo nu al be ke te ti ne wa ta out pl lo sh le C (by first | assumption | omega | (simp only [updN, forgetC, changedC]; (repeat' split) <;> omega)) (by first | assumption | omega | (simp only [updN, forgetC, changedC]; (repeat' split) <;> omega)) (by first | assumption | omega | (simp only [updN, forgetC, changedC]; (repeat' split) <;> omega)) H.size) ⟨hx, hb, hml, hown, hts⟩ (cwV 0 hts (lw_V q1808 q1810 qs60 q87 q1811) rfl rfl rfl (by decide +kernel) ⟨Nat.le_of_ble_eq_true rfl, Nat.le_of_ble_eq_true rfl⟩) Ev0_ok hE hK hS (Cut.all hP hD hS hA) rfl rfl rfl hl.1 rfl (Nat.le_of_ble_eq_true rfl) dX3_hypotheses_6 ⟨Nat.le_of_ble_eq_true rfl, Nat.le_of_ble_eq_true rfl⟩) hS (Cut.all hP hD hS hA) (fun r_1 u_2 H locs hq_6 hP hD hS => ?_)
  have hP : va_P D vwCl (WM ca q (nI 0) st ik ln ou pa iw so na nb fo nu al (zOf C) be ke te ti ne wa ta out pl lo sh le) H := hP
  have hD : va_D A (WM ca q (nI 0) st ik ln ou pa iw so na nb fo nu al (zOf C) be ke te ti ne wa ta out pl lo sh le) := hD
  have hp_6 : r_1 = nI (ksm C) := hq_6
  clear hq_6
  obtain rfl := hp_6
  refine lv_aload_n hx hb dX3_hypotheses_9 rfl (lv_at hl 0 rfl) ?_
  refine xc_i (xr_V (b := q 0) (ci := 2) (q0 := 0) (As := []) (rest := [.int (nI (ksm C))]) (mt_X3_faults l D ca q (nI 0) st ik ln ou pa iw so na nb fo nu al be ke te ti ne wa ta out pl lo sh le C (by first | assumption | omega | (simp only [updN, forgetC, changedC]; (repeat' split) <;> omega)) (by first | assumption | omega | (simp only [updN, forgetC, changedC]; (repeat' split) <;> omega)) H.size) ⟨hx, hb, hml, hown, hts⟩ (cwV 0 hts (lw_V q1812 q1814 qs61 q87 q1815) rfl rfl rfl (by decide +kernel) ⟨Nat.le_of_ble_eq_true rfl, Nat.le_of_ble_eq_true rfl⟩) Ev0_ok hE hK hS (Cut.all hP hD hS hA) rfl rfl rfl hl.1 rfl (Nat.le_of_ble_eq_true rfl) dX3_hypotheses_10 ⟨Nat.le_of_ble_eq_true rfl, Nat.le_of_ble_eq_true rfl⟩) hS (Cut.all hP hD hS hA) (fun r_3 u_4 H locs hq_10 hP hD hS => ?_)
  have hP : va_P D vwCl (WM ca q (nI 0) st ik ln ou pa iw so na nb fo nu al (zOf C) be ke te ti ne wa ta out pl lo sh le) H := hP
  have hD : va_D A (WM ca q (nI 0) st ik ln ou pa iw so na nb fo nu al (zOf C) be ke te ti ne wa ta out pl lo sh le) := hD
  have hp_10 : r_3 = nI (fa C) := hq_10
  clear hq_10
  obtain rfl := hp_10
  refine lv_iconst (v := nI 1) hx hb dX3_hypotheses_13 (by decide) ?_
  refine nv_iadd hx hb dX3_hypotheses_14 ?_
  refine nv_imul hx hb dX3_hypotheses_15 ?_
  subst hQQ
  exact xe_i (v := nI ((ksm C) * ((fa C) + 1))) () hx hb hr hlocks hK hP hD hS (rfl) dX3_hypotheses_16
set_option maxHeartbeats 4000000 in
set_option maxRecDepth 100000 in
theorem mt_X3_candidates (l : Launch) (D : va_G) (ca : Nat → ClassId) (q : Nat → Nat) (th : Int32) (st : Int32) (ik : Int32) (ln : Int32) (ou : Int32) (pa : Int32) (iw : Int32) (so : Int32) (na : Int32) (nb : Int32) (fo : Int32) (nu : Int32) (al : Int32) (be : Nat → Int32) (ke : Nat → Int32) (te : Nat → Int32) (ti : Nat → Int32) (ne : Nat → Int32) (wa : Nat → Int32) (ta : Nat → Int64) (out : Nat → Int64) (pl : Nat → Int64) (lo : Nat → Int64) (sh : Nat → Int64) (le : Nat → Int64) (C : Nat → Nat) (b_ : Bool) (h0 : C 0 ≤ 12) (hkd0 : ∀ k, k < 12 → C (1 + k) < 8) (hse : ∀ k, k < 12 → C (13 + k) < 6 + k ∧ C (25 + k) < 6 + k) (ho : C 37 < 2 ^ 18) (hbx : C 38 < 2 ^ 18) (hno : popc 18 (C 37) ≤ 4) (hnb : popc 18 (C 38) ≤ 3) (hak : C 41 ≤ 12) (ht64 : ∀ k, k < 12 → C (42 + k) < 64) (h40 : C 40 ≤ 1) (ha16 : ∀ k, k < 12 → C (54 + k) < 16) (nn : Nat) : Met l yX3_candidates (ws_ yX3_candidates cX3_candidates 2 (Option.some Jvm.ClassFile.FieldType.int)) ({ frames := 4, cells := 0, slots := 0, locals := 102 } : Room) (va_Pc [.ref (q 0), .int (bI b_)] (PreW Ev0 D vwCl (TY ca) (WM ca q th st ik ln ou pa iw so na nb fo nu al (zOf C) be ke te ti ne wa ta out pl lo sh le) nn)) (va_Qi (fun (r_ : Int32) (u_ : (Nat → Int64) × (Nat → Int64) × Int32 × (Nat → Int64)) => r_ = nI ((cnds C).length)) (PostW D vwCl (TY ca) (fun (u_ : (Nat → Int64) × (Nat → Int64) × Int32 × (Nat → Int64)) => (WM ca q (nI 0) st ik ln u_.2.2.1 pa iw so na nb (nI ((cnds C).length)) (nuI 0 (cnds C)) (bI (alB C (cnds C))) (zOf C) be ke te ti ne wa u_.1 u_.2.1 u_.2.2.2 lo sh le)) (va_A (WM ca q th st ik ln ou pa iw so na nb fo nu al (zOf C) be ke te ti ne wa ta out pl lo sh le) nn)) (va_A (WM ca q th st ik ln ou pa iw so na nb fo nu al (zOf C) be ke te ti ne wa ta out pl lo sh le) nn)) 0 0 (va_A (WM ca q th st ik ln ou pa iw so na nb fo nu al (zOf C) be ke te ti ne wa ta out pl lo sh le) nn) := by
  refine met_go (QA := fun A => va_Qi (fun (r_ : Int32) (u_ : (Nat → Int64) × (Nat → Int64) × Int32 × (Nat → Int64)) => r_ = nI ((cnds C).length)) (PostW D vwCl (TY ca) (fun (u_ : (Nat → Int64) × (Nat → Int64) × Int32 × (Nat → Int64)) => (WM ca q (nI 0) st ik ln u_.2.2.1 pa iw so na nb (nI ((cnds C).length)) (nuI 0 (cnds C)) (bI (alB C (cnds C))) (zOf C) be ke te ti ne wa u_.1 u_.2.1 u_.2.2.2 lo sh le)) A) A) (by decide) (Nat.le_of_ble_eq_true rfl) (fun p e s m below meth c A ls QQ hQQ hx hb hr hts hown hlocks hml hA hP hK hD hE hl => ?_)
  have hown : s.vm.findClass RX3 = some m.cls := hown
  have hS : va_S A s.heap s.heap [] := va_S.rf
  have hl : lv_has ls 2 [(0, .ref (q 0)), (1, .int (bI b_))] := hl
  generalize hHe : s.heap = H at hP ⊢
  have hS : va_S A s.heap H [] := hHe ▸ hS
  generalize ([] : List Loc) = locs at hS ⊢
  refine lv_aload_n hx hb dX3_candidates_0 rfl (lv_at hl 0 rfl) ?_
  refine lv_iconst (v := nI 0) hx hb dX3_candidates_1 (by decide) ?_
  refine pWM_0_thrown_X3 hx hb hts hown hK hP hD hS dX3_candidates_2 (fun H locs hP hD hS => ?_)
  refine lv_aload_n hx hb dX3_candidates_5 rfl (lv_at hl 0 rfl) ?_
  refine lv_iconst (v := fI 0) hx hb dX3_candidates_6 (by decide) ?_
  refine lv_iconst (v := nI 0) hx hb dX3_candidates_7 (by decide) ?_
  refine xc_v (xr_V (b := q 0) (ci := 2) (q0 := 0) (As := [.int (fI 0), .int (nI 0)]) (rest := []) (mt_X3_goThrough_n l D ca q (nI 0) st ik ln ou pa iw so na nb fo nu al be ke te ti ne wa ta out pl lo sh le C 0 (by first | assumption | omega | (simp only [updN, forgetC, changedC]; (repeat' split) <;> omega)) (by first | assumption | omega | (simp only [updN, forgetC, changedC]; (repeat' split) <;> omega)) (by first | assumption | omega | (simp only [updN, forgetC, changedC]; (repeat' split) <;> omega)) (by first | assumption | omega | (simp only [updN, forgetC, changedC]; (repeat' split) <;> omega)) (by first | assumption | omega | (simp only [updN, forgetC, changedC]; (repeat' split) <;> omega)) (by first | assumption | omega | (simp only [updN, forgetC, changedC]; (repeat' split) <;> omega)) (by first | assumption | omega | (simp only [updN, forgetC, changedC]; (repeat' split) <;> omega)) (by first | assumption | omega | (simp only [updN, forgetC, changedC]; (repeat' split) <;> omega)) (by first | assumption | omega | (simp only [updN, forgetC, changedC]; (repeat' split) <;> omega)) (by first | assumption | omega | (simp only [updN, forgetC, changedC]; (repeat' split) <;> omega)) (by first | assumption | omega | (simp only [updN, forgetC, changedC]; (repeat' split) <;> omega)) (by first | assumption | omega | (simp only [updN, forgetC, changedC]; (repeat' split) <;> omega)) H.size) ⟨hx, hb, hml, hown, hts⟩ (cwV 2 hts (lw_V q1804 q1806 qs59 q87 q1807) rfl rfl rfl (by decide +kernel) ⟨Nat.le_of_ble_eq_true rfl, Nat.le_of_ble_eq_true rfl⟩) Ev0_ok hE hK hS (Cut.all hP hD hS hA) rfl rfl rfl hl.1 rfl (Nat.le_of_ble_eq_true rfl) dX3_candidates_8 ⟨Nat.le_of_ble_eq_true rfl, Nat.le_of_ble_eq_true rfl⟩) hS (Cut.all hP hD hS hA) (fun u_2 H locs hq_8 hP hD hS => ?_)
  obtain ⟨ta1_3, out1_4, ou1_5, pl1_6⟩ := u_2
  have hP : va_P D vwCl (WM ca q (nI 0) st ik ln ou1_5 pa iw so na nb (nI ((cnds C).length)) (nuI 0 (cnds C)) (bI (alB C (cnds C))) (zOf C) be ke te ti ne wa ta1_3 out1_4 pl1_6 lo sh le) H := hP
  have hD : va_D A (WM ca q (nI 0) st ik ln ou1_5 pa iw so na nb (nI ((cnds C).length)) (nuI 0 (cnds C)) (bI (alB C (cnds C))) (zOf C) be ke te ti ne wa ta1_3 out1_4 pl1_6 lo sh le) := hD
  refine lv_aload_n hx hb dX3_candidates_11 rfl (lv_at hl 0 rfl) ?_
  refine gWM_0_found_X3 hx hb hts hown hK hP dX3_candidates_12 ?_
  subst hQQ
  exact xe_i (v := nI ((cnds C).length)) (ta1_3, out1_4, ou1_5, pl1_6) hx hb hr hlocks hK hP hD hS (rfl) dX3_candidates_15
set_option maxHeartbeats 4000000 in
set_option maxRecDepth 100000 in
theorem mt_X3_areAlike (l : Launch) (D : va_G) (ca : Nat → ClassId) (q : Nat → Nat) (th : Int32) (st : Int32) (ik : Int32) (ln : Int32) (ou : Int32) (pa : Int32) (iw : Int32) (so : Int32) (na : Int32) (nb : Int32) (fo : Int32) (nu : Int32) (al : Int32) (be : Nat → Int32) (ke : Nat → Int32) (te : Nat → Int32) (ti : Nat → Int32) (ne : Nat → Int32) (wa : Nat → Int32) (ta : Nat → Int64) (out : Nat → Int64) (pl : Nat → Int64) (lo : Nat → Int64) (sh : Nat → Int64) (le : Nat → Int64) (C : Nat → Nat) (h0 : C 0 ≤ 12) (hkd0 : ∀ k, k < 12 → C (1 + k) < 8) (hse : ∀ k, k < 12 → C (13 + k) < 6 + k ∧ C (25 + k) < 6 + k) (ho : C 37 < 2 ^ 18) (hbx : C 38 < 2 ^ 18) (hno : popc 18 (C 37) ≤ 4) (hnb : popc 18 (C 38) ≤ 3) (hak : C 41 ≤ 12) (ht64 : ∀ k, k < 12 → C (42 + k) < 64) (h40 : C 40 ≤ 1) (ha16 : ∀ k, k < 12 → C (54 + k) < 16) (nn : Nat) : Met l yX3_areAlike (ws_ yX3_areAlike cX3_areAlike 1 (Option.some Jvm.ClassFile.FieldType.boolean)) ({ frames := 4, cells := 0, slots := 0, locals := 102 } : Room) (va_Pc [.ref (q 0)] (PreW Ev0 D vwCl (TY ca) (WM ca q th st ik ln ou pa iw so na nb fo nu al (zOf C) be ke te ti ne wa ta out pl lo sh le) nn)) (va_Qi (fun (r_ : Int32) (u_ : (Nat → Int64) × (Nat → Int64) × Int32 × (Nat → Int64)) => r_ = bI (alB C (cnds C))) (PostW D vwCl (TY ca) (fun (u_ : (Nat → Int64) × (Nat → Int64) × Int32 × (Nat → Int64)) => (WM ca q (nI 0) st ik ln u_.2.2.1 pa iw so na nb (nI ((cnds C).length)) (nuI 0 (cnds C)) (bI (alB C (cnds C))) (zOf C) be ke te ti ne wa u_.1 u_.2.1 u_.2.2.2 lo sh le)) (va_A (WM ca q th st ik ln ou pa iw so na nb fo nu al (zOf C) be ke te ti ne wa ta out pl lo sh le) nn)) (va_A (WM ca q th st ik ln ou pa iw so na nb fo nu al (zOf C) be ke te ti ne wa ta out pl lo sh le) nn)) 0 0 (va_A (WM ca q th st ik ln ou pa iw so na nb fo nu al (zOf C) be ke te ti ne wa ta out pl lo sh le) nn) := by
  refine met_go (QA := fun A => va_Qi (fun (r_ : Int32) (u_ : (Nat → Int64) × (Nat → Int64) × Int32 × (Nat → Int64)) => r_ = bI (alB C (cnds C))) (PostW D vwCl (TY ca) (fun (u_ : (Nat → Int64) × (Nat → Int64) × Int32 × (Nat → Int64)) => (WM ca q (nI 0) st ik ln u_.2.2.1 pa iw so na nb (nI ((cnds C).length)) (nuI 0 (cnds C)) (bI (alB C (cnds C))) (zOf C) be ke te ti ne wa u_.1 u_.2.1 u_.2.2.2 lo sh le)) A) A) (by decide) (Nat.le_of_ble_eq_true rfl) (fun p e s m below meth c A ls QQ hQQ hx hb hr hts hown hlocks hml hA hP hK hD hE hl => ?_)
  have hown : s.vm.findClass RX3 = some m.cls := hown
  have hS : va_S A s.heap s.heap [] := va_S.rf
  have hl : lv_has ls 1 [(0, .ref (q 0))] := hl
  generalize hHe : s.heap = H at hP ⊢
  have hS : va_S A s.heap H [] := hHe ▸ hS
  generalize ([] : List Loc) = locs at hS ⊢
  refine lv_aload_n hx hb dX3_areAlike_0 rfl (lv_at hl 0 rfl) ?_
  refine lv_iconst (v := nI 0) hx hb dX3_areAlike_1 (by decide) ?_
  refine pWM_0_thrown_X3 hx hb hts hown hK hP hD hS dX3_areAlike_2 (fun H locs hP hD hS => ?_)
  refine lv_aload_n hx hb dX3_areAlike_5 rfl (lv_at hl 0 rfl) ?_
  refine lv_iconst (v := fI 0) hx hb dX3_areAlike_6 (by decide) ?_
  refine lv_iconst (v := nI 0) hx hb dX3_areAlike_7 (by decide) ?_
  refine xc_v (xr_V (b := q 0) (ci := 2) (q0 := 0) (As := [.int (fI 0), .int (nI 0)]) (rest := []) (mt_X3_goThrough_n l D ca q (nI 0) st ik ln ou pa iw so na nb fo nu al be ke te ti ne wa ta out pl lo sh le C 0 (by first | assumption | omega | (simp only [updN, forgetC, changedC]; (repeat' split) <;> omega)) (by first | assumption | omega | (simp only [updN, forgetC, changedC]; (repeat' split) <;> omega)) (by first | assumption | omega | (simp only [updN, forgetC, changedC]; (repeat' split) <;> omega)) (by first | assumption | omega | (simp only [updN, forgetC, changedC]; (repeat' split) <;> omega)) (by first | assumption | omega | (simp only [updN, forgetC, changedC]; (repeat' split) <;> omega)) (by first | assumption | omega | (simp only [updN, forgetC, changedC]; (repeat' split) <;> omega)) (by first | assumption | omega | (simp only [updN, forgetC, changedC]; (repeat' split) <;> omega)) (by first | assumption | omega | (simp only [updN, forgetC, changedC]; (repeat' split) <;> omega)) (by first | assumption | omega | (simp only [updN, forgetC, changedC]; (repeat' split) <;> omega)) (by first | assumption | omega | (simp only [updN, forgetC, changedC]; (repeat' split) <;> omega)) (by first | assumption | omega | (simp only [updN, forgetC, changedC]; (repeat' split) <;> omega)) (by first | assumption | omega | (simp only [updN, forgetC, changedC]; (repeat' split) <;> omega)) H.size) ⟨hx, hb, hml, hown, hts⟩ (cwV 2 hts (lw_V q1804 q1806 qs59 q87 q1807) rfl rfl rfl (by decide +kernel) ⟨Nat.le_of_ble_eq_true rfl, Nat.le_of_ble_eq_true rfl⟩) Ev0_ok hE hK hS (Cut.all hP hD hS hA) rfl rfl rfl hl.1 rfl (Nat.le_of_ble_eq_true rfl) dX3_areAlike_8 ⟨Nat.le_of_ble_eq_true rfl, Nat.le_of_ble_eq_true rfl⟩) hS (Cut.all hP hD hS hA) (fun u_2 H locs hq_8 hP hD hS => ?_)
  obtain ⟨ta1_3, out1_4, ou1_5, pl1_6⟩ := u_2
  have hP : va_P D vwCl (WM ca q (nI 0) st ik ln ou1_5 pa iw so na nb (nI ((cnds C).length)) (nuI 0 (cnds C)) (bI (alB C (cnds C))) (zOf C) be ke te ti ne wa ta1_3 out1_4 pl1_6 lo sh le) H := hP
  have hD : va_D A (WM ca q (nI 0) st ik ln ou1_5 pa iw so na nb (nI ((cnds C).length)) (nuI 0 (cnds C)) (bI (alB C (cnds C))) (zOf C) be ke te ti ne wa ta1_3 out1_4 pl1_6 lo sh le) := hD
  refine lv_aload_n hx hb dX3_areAlike_11 rfl (lv_at hl 0 rfl) ?_
  refine gWM_0_areLike_X3 hx hb hts hown hK hP dX3_areAlike_12 ?_
  subst hQQ
  refine (xe_z (b := alB C (cnds C)) (ta1_3, out1_4, ou1_5, pl1_6) hx hb hr hlocks hK hP hD hS (rfl) dX3_areAlike_15)
set_option maxHeartbeats 4000000 in
set_option maxRecDepth 100000 in
theorem mt_X3_candidateAt_ok (l : Launch) (D : va_G) (ca : Nat → ClassId) (q : Nat → Nat) (th : Int32) (st : Int32) (ik : Int32) (ln : Int32) (ou : Int32) (pa : Int32) (iw : Int32) (so : Int32) (na : Int32) (nb : Int32) (fo : Int32) (nu : Int32) (al : Int32) (be : Nat → Int32) (ke : Nat → Int32) (te : Nat → Int32) (ti : Nat → Int32) (ne : Nat → Int32) (wa : Nat → Int32) (ta : Nat → Int64) (out : Nat → Int64) (pl : Nat → Int64) (lo : Nat → Int64) (sh : Nat → Int64) (le : Nat → Int64) (C : Nat → Nat) (n_ : Nat) (h0 : C 0 ≤ 12) (hkd0 : ∀ k, k < 12 → C (1 + k) < 8) (hse : ∀ k, k < 12 → C (13 + k) < 6 + k ∧ C (25 + k) < 6 + k) (ho : C 37 < 2 ^ 18) (hbx : C 38 < 2 ^ 18) (hno : popc 18 (C 37) ≤ 4) (hnb : popc 18 (C 38) ≤ 3) (hak : C 41 ≤ 12) (ht64 : ∀ k, k < 12 → C (42 + k) < 64) (h40 : C 40 ≤ 1) (ha16 : ∀ k, k < 12 → C (54 + k) < 16) (hn : n_ < 2147483648) (nn : Nat) : Met l yX3_candidateAt (ws_ yX3_candidateAt cX3_candidateAt 2 (Option.some Jvm.ClassFile.FieldType.int)) ({ frames := 4, cells := 0, slots := 0, locals := 102 } : Room) (va_Pc [.ref (q 0), .int (nI n_)] (PreW Ev0 D vwCl (TY ca) (WM ca q th st ik ln ou pa iw so na nb fo nu al (zOf C) be ke te ti ne wa ta out pl lo sh le) nn)) (va_Qi (fun (r_ : Int32) (u_ : (Nat → Int64) × (Nat → Int64) × Int32 × (Nat → Int64)) => r_ = nuI (n_ + 1) (cnds C)) (PostW D vwCl (TY ca) (fun (u_ : (Nat → Int64) × (Nat → Int64) × Int32 × (Nat → Int64)) => (WM ca q (nI 0) st ik ln u_.2.2.1 pa iw so na nb (nI ((cnds C).length)) (nuI (n_ + 1) (cnds C)) (bI (alB C (cnds C))) (zOf C) be ke te ti ne wa u_.1 u_.2.1 u_.2.2.2 lo sh le)) (va_A (WM ca q th st ik ln ou pa iw so na nb fo nu al (zOf C) be ke te ti ne wa ta out pl lo sh le) nn)) (va_A (WM ca q th st ik ln ou pa iw so na nb fo nu al (zOf C) be ke te ti ne wa ta out pl lo sh le) nn)) 0 0 (va_A (WM ca q th st ik ln ou pa iw so na nb fo nu al (zOf C) be ke te ti ne wa ta out pl lo sh le) nn) := by
  refine met_go (QA := fun A => va_Qi (fun (r_ : Int32) (u_ : (Nat → Int64) × (Nat → Int64) × Int32 × (Nat → Int64)) => r_ = nuI (n_ + 1) (cnds C)) (PostW D vwCl (TY ca) (fun (u_ : (Nat → Int64) × (Nat → Int64) × Int32 × (Nat → Int64)) => (WM ca q (nI 0) st ik ln u_.2.2.1 pa iw so na nb (nI ((cnds C).length)) (nuI (n_ + 1) (cnds C)) (bI (alB C (cnds C))) (zOf C) be ke te ti ne wa u_.1 u_.2.1 u_.2.2.2 lo sh le)) A) A) (by decide) (Nat.le_of_ble_eq_true rfl) (fun p e s m below meth c A ls QQ hQQ hx hb hr hts hown hlocks hml hA hP hK hD hE hl => ?_)
  have hown : s.vm.findClass RX3 = some m.cls := hown
  have hS : va_S A s.heap s.heap [] := va_S.rf
  have hl : lv_has ls 2 [(0, .ref (q 0)), (1, .int (nI n_))] := hl
  generalize hHe : s.heap = H at hP ⊢
  have hS : va_S A s.heap H [] := hHe ▸ hS
  generalize ([] : List Loc) = locs at hS ⊢
  refine lv_aload_n hx hb dX3_candidateAt_0 rfl (lv_at hl 0 rfl) ?_
  refine lv_iload_n hx hb dX3_candidateAt_1 rfl (lv_at hl 1 rfl) ?_
  refine nv_if_ge hx hb dX3_candidateAt_2 (tgt := 9) (by decide) (by omega) ?_
  refine lv_iconst (v := nI 0) hx hb dX3_candidateAt_9 (by decide) ?_
  refine pWM_0_thrown_X3 hx hb hts hown hK hP hD hS dX3_candidateAt_10 (fun H locs hP hD hS => ?_)
  refine lv_aload_n hx hb dX3_candidateAt_13 rfl (lv_at hl 0 rfl) ?_
  refine gWM_0_thrown_X3 hx hb hts hown hK hP dX3_candidateAt_14 ?_
  refine nv_if_le (tgt := 22) hx hb dX3_candidateAt_17 (by decide) (by omega) (fun c_17 => ?_) (fun c_17 => absurd c_17 (by decide))
  refine lv_aload_n hx hb dX3_candidateAt_22 rfl (lv_at hl 0 rfl) ?_
  refine lv_iload_n hx hb dX3_candidateAt_23 rfl (lv_at hl 1 rfl) ?_
  refine lv_topi (nm_r (e' := fI (n_ + 1)) (fI_S n_) ?_)
  refine lv_iconst (v := nI 0) hx hb dX3_candidateAt_24 (by decide) ?_
  refine xc_v (xr_V (b := q 0) (ci := 2) (q0 := 0) (As := [.int (fI (n_ + 1)), .int (nI 0)]) (rest := []) (mt_X3_goThrough_n l D ca q (nI 0) st ik ln ou pa iw so na nb fo nu al be ke te ti ne wa ta out pl lo sh le C (n_ + 1) (by first | assumption | omega | (simp only [updN, forgetC, changedC]; (repeat' split) <;> omega)) (by first | assumption | omega | (simp only [updN, forgetC, changedC]; (repeat' split) <;> omega)) (by first | assumption | omega | (simp only [updN, forgetC, changedC]; (repeat' split) <;> omega)) (by first | assumption | omega | (simp only [updN, forgetC, changedC]; (repeat' split) <;> omega)) (by first | assumption | omega | (simp only [updN, forgetC, changedC]; (repeat' split) <;> omega)) (by first | assumption | omega | (simp only [updN, forgetC, changedC]; (repeat' split) <;> omega)) (by first | assumption | omega | (simp only [updN, forgetC, changedC]; (repeat' split) <;> omega)) (by first | assumption | omega | (simp only [updN, forgetC, changedC]; (repeat' split) <;> omega)) (by first | assumption | omega | (simp only [updN, forgetC, changedC]; (repeat' split) <;> omega)) (by first | assumption | omega | (simp only [updN, forgetC, changedC]; (repeat' split) <;> omega)) (by first | assumption | omega | (simp only [updN, forgetC, changedC]; (repeat' split) <;> omega)) (by first | assumption | omega | (simp only [updN, forgetC, changedC]; (repeat' split) <;> omega)) H.size) ⟨hx, hb, hml, hown, hts⟩ (cwV 2 hts (lw_V q1804 q1806 qs59 q87 q1807) rfl rfl rfl (by decide +kernel) ⟨Nat.le_of_ble_eq_true rfl, Nat.le_of_ble_eq_true rfl⟩) Ev0_ok hE hK hS (Cut.all hP hD hS hA) rfl rfl rfl hl.1 rfl (Nat.le_of_ble_eq_true rfl) dX3_candidateAt_25 ⟨Nat.le_of_ble_eq_true rfl, Nat.le_of_ble_eq_true rfl⟩) hS (Cut.all hP hD hS hA) (fun u_2 H locs hq_25 hP hD hS => ?_)
  obtain ⟨ta1_3, out1_4, ou1_5, pl1_6⟩ := u_2
  have hP : va_P D vwCl (WM ca q (nI 0) st ik ln ou1_5 pa iw so na nb (nI ((cnds C).length)) (nuI (n_ + 1) (cnds C)) (bI (alB C (cnds C))) (zOf C) be ke te ti ne wa ta1_3 out1_4 pl1_6 lo sh le) H := hP
  have hD : va_D A (WM ca q (nI 0) st ik ln ou1_5 pa iw so na nb (nI ((cnds C).length)) (nuI (n_ + 1) (cnds C)) (bI (alB C (cnds C))) (zOf C) be ke te ti ne wa ta1_3 out1_4 pl1_6 lo sh le) := hD
  refine lv_aload_n hx hb dX3_candidateAt_28 rfl (lv_at hl 0 rfl) ?_
  refine gWM_0_number_X3 hx hb hts hown hK hP dX3_candidateAt_29 ?_
  subst hQQ
  exact xe_i (v := nuI (n_ + 1) (cnds C)) (ta1_3, out1_4, ou1_5, pl1_6) hx hb hr hlocks hK hP hD hS (rfl) dX3_candidateAt_32
set_option maxHeartbeats 4000000 in
set_option maxRecDepth 100000 in
theorem mt_X3_candidateAt_no (l : Launch) (D : va_G) (ca : Nat → ClassId) (q : Nat → Nat) (th : Int32) (st : Int32) (ik : Int32) (ln : Int32) (ou : Int32) (pa : Int32) (iw : Int32) (so : Int32) (na : Int32) (nb : Int32) (fo : Int32) (nu : Int32) (al : Int32) (z : Nat → Int32) (be : Nat → Int32) (ke : Nat → Int32) (te : Nat → Int32) (ti : Nat → Int32) (ne : Nat → Int32) (wa : Nat → Int32) (ta : Nat → Int64) (out : Nat → Int64) (pl : Nat → Int64) (lo : Nat → Int64) (sh : Nat → Int64) (le : Nat → Int64) (x_ : Int32) (hx_ : x_ < 0) (nn : Nat) : Met l yX3_candidateAt (ws_ yX3_candidateAt cX3_candidateAt 2 (Option.some Jvm.ClassFile.FieldType.int)) ({ frames := 0, cells := 0, slots := 0, locals := 0 } : Room) (va_Pc [.ref (q 0), .int x_] (PreW Ev0 D vwCl (TY ca) (WM ca q th st ik ln ou pa iw so na nb fo nu al z be ke te ti ne wa ta out pl lo sh le) nn)) (va_Qi (fun (r_ : Int32) (_ : Unit) => r_ = nI 0) (PostW D vwCl (TY ca) (fun (_ : Unit) => (WM ca q (nI 1) st ik ln ou pa iw so na nb fo nu al z be ke te ti ne wa ta out pl lo sh le)) (va_A (WM ca q th st ik ln ou pa iw so na nb fo nu al z be ke te ti ne wa ta out pl lo sh le) nn)) (va_A (WM ca q th st ik ln ou pa iw so na nb fo nu al z be ke te ti ne wa ta out pl lo sh le) nn)) 0 0 (va_A (WM ca q th st ik ln ou pa iw so na nb fo nu al z be ke te ti ne wa ta out pl lo sh le) nn) := by
  refine met_go (QA := fun A => va_Qi (fun (r_ : Int32) (_ : Unit) => r_ = nI 0) (PostW D vwCl (TY ca) (fun (_ : Unit) => (WM ca q (nI 1) st ik ln ou pa iw so na nb fo nu al z be ke te ti ne wa ta out pl lo sh le)) A) A) (by decide) (Nat.le_of_ble_eq_true rfl) (fun p e s m below meth c A ls QQ hQQ hx hb hr hts hown hlocks hml hA hP hK hD hE hl => ?_)
  have hown : s.vm.findClass RX3 = some m.cls := hown
  have hS : va_S A s.heap s.heap [] := va_S.rf
  have hl : lv_has ls 2 [(0, .ref (q 0)), (1, .int x_)] := hl
  generalize hHe : s.heap = H at hP ⊢
  have hS : va_S A s.heap H [] := hHe ▸ hS
  generalize ([] : List Loc) = locs at hS ⊢
  refine lv_aload_n hx hb dX3_candidateAt_0 rfl (lv_at hl 0 rfl) ?_
  refine lv_iload_n hx hb dX3_candidateAt_1 rfl (lv_at hl 1 rfl) ?_
  refine lv_if_ge (tgt := 9) hx hb dX3_candidateAt_2 (by decide) (fun c_2 => absurd c_2 (Int32.not_le.mpr hx_)) (fun c_2 => ?_)
  refine lv_iconst (v := nI 1) hx hb dX3_candidateAt_5 (by decide) ?_
  refine lv_goto (tgt := 10) hx hb dX3_candidateAt_6 (by decide) ?_
  refine pWM_0_thrown_X3 hx hb hts hown hK hP hD hS dX3_candidateAt_10 (fun H locs hP hD hS => ?_)
  refine lv_aload_n hx hb dX3_candidateAt_13 rfl (lv_at hl 0 rfl) ?_
  refine gWM_0_thrown_X3 hx hb hts hown hK hP dX3_candidateAt_14 ?_
  refine nv_if_le (tgt := 22) hx hb dX3_candidateAt_17 (by decide) (by omega) (fun c_17 => absurd c_17 (by decide)) (fun c_17 => ?_)
  refine lv_iconst (v := nI 0) hx hb dX3_candidateAt_20 (by decide) ?_
  subst hQQ
  exact xe_i (v := nI 0) () hx hb hr hlocks hK hP hD hS (rfl) dX3_candidateAt_21
set_option maxHeartbeats 4000000 in
set_option maxRecDepth 100000 in
theorem mt_X3_worstLeft_ok (l : Launch) (D : va_G) (ca : Nat → ClassId) (q : Nat → Nat) (th : Int32) (st : Int32) (ik : Int32) (ln : Int32) (ou : Int32) (pa : Int32) (iw : Int32) (so : Int32) (na : Int32) (nb : Int32) (fo : Int32) (nu : Int32) (al : Int32) (be : Nat → Int32) (ke : Nat → Int32) (te : Nat → Int32) (ti : Nat → Int32) (ne : Nat → Int32) (wa : Nat → Int32) (ta : Nat → Int64) (out : Nat → Int64) (pl : Nat → Int64) (lo : Nat → Int64) (sh : Nat → Int64) (le : Nat → Int64) (C : Nat → Nat) (t_ : Nat) (h0 : C 0 ≤ 12) (hkd0 : ∀ k, k < 12 → C (1 + k) < 8) (hse : ∀ k, k < 12 → C (13 + k) < 6 + k ∧ C (25 + k) < 6 + k) (ho : C 37 < 2 ^ 18) (hbx : C 38 < 2 ^ 18) (hno : popc 18 (C 37) ≤ 4) (hnb : popc 18 (C 38) ≤ 3) (hak : C 41 ≤ 12) (ht64 : ∀ k, k < 12 → C (42 + k) < 64) (h40 : C 40 ≤ 1) (ha16 : ∀ k, k < 12 → C (54 + k) < 16) (ht : t_ < 64) (nn : Nat) : Met l yX3_worstLeft (ws_ yX3_worstLeft cX3_worstLeft 2 (Option.some Jvm.ClassFile.FieldType.int)) ({ frames := 4, cells := 0, slots := 0, locals := 102 } : Room) (va_Pc [.ref (q 0), .int (nI t_)] (PreW Ev0 D vwCl (TY ca) (WM ca q th st ik ln ou pa iw so na nb fo nu al (zOf C) be ke te ti ne wa ta out pl lo sh le) nn)) (va_Qi (fun (r_ : Int32) (u_ : (Nat → Int64) × (Nat → Int64) × Int32 × (Nat → Int64)) => r_ = nI (wst (tmN C (cnds C)) t_)) (PostW D vwCl (TY ca) (fun (u_ : (Nat → Int64) × (Nat → Int64) × Int32 × (Nat → Int64)) => (WM ca q (nI 0) st ik ln u_.2.2.1 pa iw so na nb (nI ((cnds C).length)) (nuI 0 (cnds C)) (bI (alB C (cnds C))) (zOf C) be ke te (nIf (tmN C (cnds C))) ne wa u_.1 u_.2.1 u_.2.2.2 lo sh le)) (va_A (WM ca q th st ik ln ou pa iw so na nb fo nu al (zOf C) be ke te ti ne wa ta out pl lo sh le) nn)) (va_A (WM ca q th st ik ln ou pa iw so na nb fo nu al (zOf C) be ke te ti ne wa ta out pl lo sh le) nn)) 0 0 (va_A (WM ca q th st ik ln ou pa iw so na nb fo nu al (zOf C) be ke te ti ne wa ta out pl lo sh le) nn) := by
  refine met_go (QA := fun A => va_Qi (fun (r_ : Int32) (u_ : (Nat → Int64) × (Nat → Int64) × Int32 × (Nat → Int64)) => r_ = nI (wst (tmN C (cnds C)) t_)) (PostW D vwCl (TY ca) (fun (u_ : (Nat → Int64) × (Nat → Int64) × Int32 × (Nat → Int64)) => (WM ca q (nI 0) st ik ln u_.2.2.1 pa iw so na nb (nI ((cnds C).length)) (nuI 0 (cnds C)) (bI (alB C (cnds C))) (zOf C) be ke te (nIf (tmN C (cnds C))) ne wa u_.1 u_.2.1 u_.2.2.2 lo sh le)) A) A) (by decide) (Nat.le_of_ble_eq_true rfl) (fun p e s m below meth c A ls QQ hQQ hx hb hr hts hown hlocks hml hA hP hK hD hE hl => ?_)
  have hown : s.vm.findClass RX3 = some m.cls := hown
  have hS : va_S A s.heap s.heap [] := va_S.rf
  have hl : lv_has ls 2 [(0, .ref (q 0)), (1, .int (nI t_))] := hl
  generalize hHe : s.heap = H at hP ⊢
  have hS : va_S A s.heap H [] := hHe ▸ hS
  generalize ([] : List Loc) = locs at hS ⊢
  have hll := tm_lim h0 hnb
  refine lv_aload_n hx hb dX3_worstLeft_0 rfl (lv_at hl 0 rfl) ?_
  refine lv_iload_n hx hb dX3_worstLeft_1 rfl (lv_at hl 1 rfl) ?_
  refine lv_iconst (v := nI 0) hx hb dX3_worstLeft_2 (by decide) ?_
  refine lv_bipush (v := nI 63) hx hb dX3_worstLeft_3 (by decide) ?_
  refine xc_i (xr_S (As := [.int (nI t_), .int (nI 0), .int (nI 63)]) (rest := [.ref (q 0)]) (mt_X3_in l D ca (nI t_) (nI 0) (nI 63)  H.size) ⟨hx, hb, hml, hown, hts⟩ (va_cwS 3 hts (lw_S q1700 q1701 q87 q1702) rfl rfl rfl (by decide +kernel) ⟨Nat.le_of_ble_eq_true rfl, Nat.le_of_ble_eq_true rfl⟩) Ev0_ok hE hK hS (Cut.app (wc := []) (wr := (WM ca q th st ik ln ou pa iw so na nb fo nu al (zOf C) be ke te ti ne wa ta out pl lo sh le)) hP hD hS hA) rfl hl.1 rfl (Nat.le_of_ble_eq_true rfl) dX3_worstLeft_5 ⟨Nat.le_of_ble_eq_true rfl, Nat.le_of_ble_eq_true rfl⟩) hS (Cut.app (wc := []) (wr := (WM ca q th st ik ln ou pa iw so na nb fo nu al (zOf C) be ke te ti ne wa ta out pl lo sh le)) hP hD hS hA) (fun r_1 u_2 H locs hq_5 hP hD hS => ?_)
  have hP : va_P D vwCl (WM ca q th st ik ln ou pa iw so na nb fo nu al (zOf C) be ke te ti ne wa ta out pl lo sh le) H := hP
  have hD : va_D A (WM ca q th st ik ln ou pa iw so na nb fo nu al (zOf C) be ke te ti ne wa ta out pl lo sh le) := hD
  have hp_5 : r_1 = bI (decide ((nI 0) ≤ (nI t_) ∧ (nI t_) ≤ (nI 63))) := hq_5
  clear hq_5
  obtain rfl := hp_5
  refine nv_ifb_eq (tgt := 15) hx hb dX3_worstLeft_8 (by decide) (fun c_8 => (absurd c_8 (by rw [in_ok (by omega) (by decide)]; decide))) (fun c_8 => ?_)
  refine lv_iconst (v := nI 0) hx hb dX3_worstLeft_11 (by decide) ?_
  refine lv_goto (tgt := 16) hx hb dX3_worstLeft_12 (by decide) ?_
  refine pWM_0_thrown_X3 hx hb hts hown hK hP hD hS dX3_worstLeft_16 (fun H locs hP hD hS => ?_)
  refine lv_aload_n hx hb dX3_worstLeft_19 rfl (lv_at hl 0 rfl) ?_
  refine gWM_0_thrown_X3 hx hb hts hown hK hP dX3_worstLeft_20 ?_
  refine nv_if_le (tgt := 28) hx hb dX3_worstLeft_23 (by decide) (by omega) (fun c_23 => ?_) (fun c_23 => absurd c_23 (by decide))
  refine lv_aload_n hx hb dX3_worstLeft_28 rfl (lv_at hl 0 rfl) ?_
  refine lv_iconst (v := fI 0) hx hb dX3_worstLeft_29 (by decide) ?_
  refine lv_iconst (v := nI 1) hx hb dX3_worstLeft_30 (by decide) ?_
  refine xc_v (xr_V (b := q 0) (ci := 2) (q0 := 0) (As := [.int (fI 0), .int (nI 1)]) (rest := []) (mt_X3_goThrough_c l D ca q (nI 0) st ik ln ou pa iw so na nb fo nu al be ke te ti ne wa ta out pl lo sh le C 0 (by first | assumption | omega | (simp only [updN, forgetC, changedC]; (repeat' split) <;> omega)) (by first | assumption | omega | (simp only [updN, forgetC, changedC]; (repeat' split) <;> omega)) (by first | assumption | omega | (simp only [updN, forgetC, changedC]; (repeat' split) <;> omega)) (by first | assumption | omega | (simp only [updN, forgetC, changedC]; (repeat' split) <;> omega)) (by first | assumption | omega | (simp only [updN, forgetC, changedC]; (repeat' split) <;> omega)) (by first | assumption | omega | (simp only [updN, forgetC, changedC]; (repeat' split) <;> omega)) (by first | assumption | omega | (simp only [updN, forgetC, changedC]; (repeat' split) <;> omega)) (by first | assumption | omega | (simp only [updN, forgetC, changedC]; (repeat' split) <;> omega)) (by first | assumption | omega | (simp only [updN, forgetC, changedC]; (repeat' split) <;> omega)) (by first | assumption | omega | (simp only [updN, forgetC, changedC]; (repeat' split) <;> omega)) (by first | assumption | omega | (simp only [updN, forgetC, changedC]; (repeat' split) <;> omega)) (by first | assumption | omega | (simp only [updN, forgetC, changedC]; (repeat' split) <;> omega)) H.size) ⟨hx, hb, hml, hown, hts⟩ (cwV 2 hts (lw_V q1804 q1806 qs59 q87 q1807) rfl rfl rfl (by decide +kernel) ⟨Nat.le_of_ble_eq_true rfl, Nat.le_of_ble_eq_true rfl⟩) Ev0_ok hE hK hS (Cut.all hP hD hS hA) rfl rfl rfl hl.1 rfl (Nat.le_of_ble_eq_true rfl) dX3_worstLeft_31 ⟨Nat.le_of_ble_eq_true rfl, Nat.le_of_ble_eq_true rfl⟩) hS (Cut.all hP hD hS hA) (fun u_4 H locs hq_31 hP hD hS => ?_)
  obtain ⟨ta1_5, out1_6, ou1_7, pl1_8⟩ := u_4
  have hP : va_P D vwCl (WM ca q (nI 0) st ik ln ou1_7 pa iw so na nb (nI ((cnds C).length)) (nuI 0 (cnds C)) (bI (alB C (cnds C))) (zOf C) be ke te (nIf (tmN C (cnds C))) ne wa ta1_5 out1_6 pl1_8 lo sh le) H := hP
  have hD : va_D A (WM ca q (nI 0) st ik ln ou1_7 pa iw so na nb (nI ((cnds C).length)) (nuI 0 (cnds C)) (bI (alB C (cnds C))) (zOf C) be ke te (nIf (tmN C (cnds C))) ne wa ta1_5 out1_6 pl1_8 lo sh le) := hD
  refine lv_aload_n hx hb dX3_worstLeft_34 rfl (lv_at hl 0 rfl) ?_
  refine lv_iload_n hx hb dX3_worstLeft_35 rfl (lv_at hl 1 rfl) ?_
  refine xc_i (xr_V (b := q 0) (ci := 2) (q0 := 0) (As := [.int (nI t_)]) (rest := []) (mt_X3_worst l D ca q (nI 0) st ik ln ou1_7 pa iw so na nb (nI ((cnds C).length)) (nuI 0 (cnds C)) (bI (alB C (cnds C))) (zOf C) be ke te ne wa ta1_5 out1_6 pl1_8 lo sh le (tmN C (cnds C)) t_ ht hll H.size) ⟨hx, hb, hml, hown, hts⟩ (cwV 1 hts (lw_V q1824 q1826 qs64 q87 q1827) rfl rfl rfl (by decide +kernel) ⟨Nat.le_of_ble_eq_true rfl, Nat.le_of_ble_eq_true rfl⟩) Ev0_ok hE hK hS (Cut.all hP hD hS hA) rfl rfl rfl hl.1 rfl (Nat.le_of_ble_eq_true rfl) dX3_worstLeft_36 ⟨Nat.le_of_ble_eq_true rfl, Nat.le_of_ble_eq_true rfl⟩) hS (Cut.all hP hD hS hA) (fun r_9 u_10 H locs hq_36 hP hD hS => ?_)
  have hP : va_P D vwCl (WM ca q (nI 0) st ik ln ou1_7 pa iw so na nb (nI ((cnds C).length)) (nuI 0 (cnds C)) (bI (alB C (cnds C))) (zOf C) be ke te (nIf (tmN C (cnds C))) ne wa ta1_5 out1_6 pl1_8 lo sh le) H := hP
  have hD : va_D A (WM ca q (nI 0) st ik ln ou1_7 pa iw so na nb (nI ((cnds C).length)) (nuI 0 (cnds C)) (bI (alB C (cnds C))) (zOf C) be ke te (nIf (tmN C (cnds C))) ne wa ta1_5 out1_6 pl1_8 lo sh le) := hD
  have hp_36 : r_9 = nI (wst (tmN C (cnds C)) t_) := hq_36
  clear hq_36
  obtain rfl := hp_36
  subst hQQ
  exact xe_i (v := nI (wst (tmN C (cnds C)) t_)) (ta1_5, out1_6, ou1_7, pl1_8) hx hb hr hlocks hK hP hD hS (rfl) dX3_worstLeft_39
set_option maxHeartbeats 4000000 in
set_option maxRecDepth 100000 in
theorem mt_X3_worstLeft_no (l : Launch) (D : va_G) (ca : Nat → ClassId) (q : Nat → Nat) (th : Int32) (st : Int32) (ik : Int32) (ln : Int32) (ou : Int32) (pa : Int32) (iw : Int32) (so : Int32) (na : Int32) (nb : Int32) (fo : Int32) (nu : Int32) (al : Int32) (z : Nat → Int32) (be : Nat → Int32) (ke : Nat → Int32) (te : Nat → Int32) (ti : Nat → Int32) (ne : Nat → Int32) (wa : Nat → Int32) (ta : Nat → Int64) (out : Nat → Int64) (pl : Nat → Int64) (lo : Nat → Int64) (sh : Nat → Int64) (le : Nat → Int64) (t_ : Int32) (hc : inR 64 t_ = false) (nn : Nat) : Met l yX3_worstLeft (ws_ yX3_worstLeft cX3_worstLeft 2 (Option.some Jvm.ClassFile.FieldType.int)) ({ frames := 1, cells := 0, slots := 0, locals := 22 } : Room) (va_Pc [.ref (q 0), .int t_] (PreW Ev0 D vwCl (TY ca) (WM ca q th st ik ln ou pa iw so na nb fo nu al z be ke te ti ne wa ta out pl lo sh le) nn)) (va_Qi (fun (r_ : Int32) (_ : Unit) => r_ = nI 0) (PostW D vwCl (TY ca) (fun (_ : Unit) => (WM ca q (nI 1) st ik ln ou pa iw so na nb fo nu al z be ke te ti ne wa ta out pl lo sh le)) (va_A (WM ca q th st ik ln ou pa iw so na nb fo nu al z be ke te ti ne wa ta out pl lo sh le) nn)) (va_A (WM ca q th st ik ln ou pa iw so na nb fo nu al z be ke te ti ne wa ta out pl lo sh le) nn)) 0 0 (va_A (WM ca q th st ik ln ou pa iw so na nb fo nu al z be ke te ti ne wa ta out pl lo sh le) nn) := by
  refine met_go (QA := fun A => va_Qi (fun (r_ : Int32) (_ : Unit) => r_ = nI 0) (PostW D vwCl (TY ca) (fun (_ : Unit) => (WM ca q (nI 1) st ik ln ou pa iw so na nb fo nu al z be ke te ti ne wa ta out pl lo sh le)) A) A) (by decide) (Nat.le_of_ble_eq_true rfl) (fun p e s m below meth c A ls QQ hQQ hx hb hr hts hown hlocks hml hA hP hK hD hE hl => ?_)
  have hown : s.vm.findClass RX3 = some m.cls := hown
  have hS : va_S A s.heap s.heap [] := va_S.rf
  have hl : lv_has ls 2 [(0, .ref (q 0)), (1, .int t_)] := hl
  generalize hHe : s.heap = H at hP ⊢
  have hS : va_S A s.heap H [] := hHe ▸ hS
  generalize ([] : List Loc) = locs at hS ⊢
  refine lv_aload_n hx hb dX3_worstLeft_0 rfl (lv_at hl 0 rfl) ?_
  refine lv_iload_n hx hb dX3_worstLeft_1 rfl (lv_at hl 1 rfl) ?_
  refine lv_iconst (v := nI 0) hx hb dX3_worstLeft_2 (by decide) ?_
  refine lv_bipush (v := nI 63) hx hb dX3_worstLeft_3 (by decide) ?_
  refine xc_i (xr_S (As := [.int t_, .int (nI 0), .int (nI 63)]) (rest := [.ref (q 0)]) (mt_X3_in l D ca t_ (nI 0) (nI 63)  H.size) ⟨hx, hb, hml, hown, hts⟩ (va_cwS 3 hts (lw_S q1700 q1701 q87 q1702) rfl rfl rfl (by decide +kernel) ⟨Nat.le_of_ble_eq_true rfl, Nat.le_of_ble_eq_true rfl⟩) Ev0_ok hE hK hS (Cut.app (wc := []) (wr := (WM ca q th st ik ln ou pa iw so na nb fo nu al z be ke te ti ne wa ta out pl lo sh le)) hP hD hS hA) rfl hl.1 rfl (Nat.le_of_ble_eq_true rfl) dX3_worstLeft_5 ⟨Nat.le_of_ble_eq_true rfl, Nat.le_of_ble_eq_true rfl⟩) hS (Cut.app (wc := []) (wr := (WM ca q th st ik ln ou pa iw so na nb fo nu al z be ke te ti ne wa ta out pl lo sh le)) hP hD hS hA) (fun r_1 u_2 H locs hq_5 hP hD hS => ?_)
  have hP : va_P D vwCl (WM ca q th st ik ln ou pa iw so na nb fo nu al z be ke te ti ne wa ta out pl lo sh le) H := hP
  have hD : va_D A (WM ca q th st ik ln ou pa iw so na nb fo nu al z be ke te ti ne wa ta out pl lo sh le) := hD
  have hp_5 : r_1 = bI (decide ((nI 0) ≤ t_ ∧ t_ ≤ (nI 63))) := hq_5
  clear hq_5
  obtain rfl := hp_5
  refine nv_ifb_eq (tgt := 15) hx hb dX3_worstLeft_8 (by decide) (fun c_8 => ?_) (fun c_8 => (absurd c_8 (by rw [inR_lit (by decide), hc]; decide)))
  refine lv_iconst (v := nI 1) hx hb dX3_worstLeft_15 (by decide) ?_
  refine pWM_0_thrown_X3 hx hb hts hown hK hP hD hS dX3_worstLeft_16 (fun H locs hP hD hS => ?_)
  refine lv_aload_n hx hb dX3_worstLeft_19 rfl (lv_at hl 0 rfl) ?_
  refine gWM_0_thrown_X3 hx hb hts hown hK hP dX3_worstLeft_20 ?_
  refine nv_if_le (tgt := 28) hx hb dX3_worstLeft_23 (by decide) (by omega) (fun c_23 => absurd c_23 (by decide)) (fun c_23 => ?_)
  refine lv_iconst (v := nI 0) hx hb dX3_worstLeft_26 (by decide) ?_
  subst hQQ
  exact xe_i (v := nI 0) () hx hb hr hlocks hK hP hD hS (rfl) dX3_worstLeft_27
set_option maxHeartbeats 4000000 in
set_option maxRecDepth 100000 in
theorem mt_X3_bestTest (l : Launch) (D : va_G) (ca : Nat → ClassId) (q : Nat → Nat) (th : Int32) (st : Int32) (ik : Int32) (ln : Int32) (ou : Int32) (pa : Int32) (iw : Int32) (so : Int32) (na : Int32) (nb : Int32) (fo : Int32) (nu : Int32) (al : Int32) (be : Nat → Int32) (ke : Nat → Int32) (te : Nat → Int32) (ti : Nat → Int32) (ne : Nat → Int32) (wa : Nat → Int32) (ta : Nat → Int64) (out : Nat → Int64) (pl : Nat → Int64) (lo : Nat → Int64) (sh : Nat → Int64) (le : Nat → Int64) (C : Nat → Nat) (h0 : C 0 ≤ 12) (hkd0 : ∀ k, k < 12 → C (1 + k) < 8) (hse : ∀ k, k < 12 → C (13 + k) < 6 + k ∧ C (25 + k) < 6 + k) (ho : C 37 < 2 ^ 18) (hbx : C 38 < 2 ^ 18) (hno : popc 18 (C 37) ≤ 4) (hnb : popc 18 (C 38) ≤ 3) (hak : C 41 ≤ 12) (ht64 : ∀ k, k < 12 → C (42 + k) < 64) (h40 : C 40 ≤ 1) (ha16 : ∀ k, k < 12 → C (54 + k) < 16) (nn : Nat) : Met l yX3_bestTest (ws_ yX3_bestTest cX3_bestTest 1 (Option.some Jvm.ClassFile.FieldType.int)) ({ frames := 4, cells := 0, slots := 0, locals := 102 } : Room) (va_Pc [.ref (q 0)] (PreW Ev0 D vwCl (TY ca) (WM ca q th st ik ln ou pa iw so na nb fo nu al (zOf C) be ke te ti ne wa ta out pl lo sh le) nn)) (va_Qi (fun (r_ : Int32) (u_ : (Nat → Int64) × (Nat → Int64) × Int32 × (Nat → Int64)) => r_ = nI (bst C)) (PostW D vwCl (TY ca) (fun (u_ : (Nat → Int64) × (Nat → Int64) × Int32 × (Nat → Int64)) => (WM ca q (nI 0) st ik ln u_.2.2.1 pa iw so na nb (nI ((cnds C).length)) (nuI 0 (cnds C)) (bI (alB C (cnds C))) (zOf C) be ke te (nIf (tmN C (cnds C))) ne wa u_.1 u_.2.1 u_.2.2.2 lo sh le)) (va_A (WM ca q th st ik ln ou pa iw so na nb fo nu al (zOf C) be ke te ti ne wa ta out pl lo sh le) nn)) (va_A (WM ca q th st ik ln ou pa iw so na nb fo nu al (zOf C) be ke te ti ne wa ta out pl lo sh le) nn)) 0 0 (va_A (WM ca q th st ik ln ou pa iw so na nb fo nu al (zOf C) be ke te ti ne wa ta out pl lo sh le) nn) := by
  refine met_go (QA := fun A => va_Qi (fun (r_ : Int32) (u_ : (Nat → Int64) × (Nat → Int64) × Int32 × (Nat → Int64)) => r_ = nI (bst C)) (PostW D vwCl (TY ca) (fun (u_ : (Nat → Int64) × (Nat → Int64) × Int32 × (Nat → Int64)) => (WM ca q (nI 0) st ik ln u_.2.2.1 pa iw so na nb (nI ((cnds C).length)) (nuI 0 (cnds C)) (bI (alB C (cnds C))) (zOf C) be ke te (nIf (tmN C (cnds C))) ne wa u_.1 u_.2.1 u_.2.2.2 lo sh le)) A) A) (by decide) (Nat.le_of_ble_eq_true rfl) (fun p e s m below meth c A ls QQ hQQ hx hb hr hts hown hlocks hml hA hP hK hD hE hl => ?_)
  have hown : s.vm.findClass RX3 = some m.cls := hown
  have hS : va_S A s.heap s.heap [] := va_S.rf
  have hl : lv_has ls 1 [(0, .ref (q 0))] := hl
  generalize hHe : s.heap = H at hP ⊢
  have hS : va_S A s.heap H [] := hHe ▸ hS
  generalize ([] : List Loc) = locs at hS ⊢
  have hll := tm_lim h0 hnb
  refine lv_aload_n hx hb dX3_bestTest_0 rfl (lv_at hl 0 rfl) ?_
  refine lv_iconst (v := nI 0) hx hb dX3_bestTest_1 (by decide) ?_
  refine pWM_0_thrown_X3 hx hb hts hown hK hP hD hS dX3_bestTest_2 (fun H locs hP hD hS => ?_)
  refine lv_aload_n hx hb dX3_bestTest_5 rfl (lv_at hl 0 rfl) ?_
  refine lv_iconst (v := fI 0) hx hb dX3_bestTest_6 (by decide) ?_
  refine lv_iconst (v := nI 1) hx hb dX3_bestTest_7 (by decide) ?_
  refine xc_v (xr_V (b := q 0) (ci := 2) (q0 := 0) (As := [.int (fI 0), .int (nI 1)]) (rest := []) (mt_X3_goThrough_c l D ca q (nI 0) st ik ln ou pa iw so na nb fo nu al be ke te ti ne wa ta out pl lo sh le C 0 (by first | assumption | omega | (simp only [updN, forgetC, changedC]; (repeat' split) <;> omega)) (by first | assumption | omega | (simp only [updN, forgetC, changedC]; (repeat' split) <;> omega)) (by first | assumption | omega | (simp only [updN, forgetC, changedC]; (repeat' split) <;> omega)) (by first | assumption | omega | (simp only [updN, forgetC, changedC]; (repeat' split) <;> omega)) (by first | assumption | omega | (simp only [updN, forgetC, changedC]; (repeat' split) <;> omega)) (by first | assumption | omega | (simp only [updN, forgetC, changedC]; (repeat' split) <;> omega)) (by first | assumption | omega | (simp only [updN, forgetC, changedC]; (repeat' split) <;> omega)) (by first | assumption | omega | (simp only [updN, forgetC, changedC]; (repeat' split) <;> omega)) (by first | assumption | omega | (simp only [updN, forgetC, changedC]; (repeat' split) <;> omega)) (by first | assumption | omega | (simp only [updN, forgetC, changedC]; (repeat' split) <;> omega)) (by first | assumption | omega | (simp only [updN, forgetC, changedC]; (repeat' split) <;> omega)) (by first | assumption | omega | (simp only [updN, forgetC, changedC]; (repeat' split) <;> omega)) H.size) ⟨hx, hb, hml, hown, hts⟩ (cwV 2 hts (lw_V q1804 q1806 qs59 q87 q1807) rfl rfl rfl (by decide +kernel) ⟨Nat.le_of_ble_eq_true rfl, Nat.le_of_ble_eq_true rfl⟩) Ev0_ok hE hK hS (Cut.all hP hD hS hA) rfl rfl rfl hl.1 rfl (Nat.le_of_ble_eq_true rfl) dX3_bestTest_8 ⟨Nat.le_of_ble_eq_true rfl, Nat.le_of_ble_eq_true rfl⟩) hS (Cut.all hP hD hS hA) (fun u_2 H locs hq_8 hP hD hS => ?_)
  obtain ⟨ta1_3, out1_4, ou1_5, pl1_6⟩ := u_2
  have hP : va_P D vwCl (WM ca q (nI 0) st ik ln ou1_5 pa iw so na nb (nI ((cnds C).length)) (nuI 0 (cnds C)) (bI (alB C (cnds C))) (zOf C) be ke te (nIf (tmN C (cnds C))) ne wa ta1_3 out1_4 pl1_6 lo sh le) H := hP
  have hD : va_D A (WM ca q (nI 0) st ik ln ou1_5 pa iw so na nb (nI ((cnds C).length)) (nuI 0 (cnds C)) (bI (alB C (cnds C))) (zOf C) be ke te (nIf (tmN C (cnds C))) ne wa ta1_3 out1_4 pl1_6 lo sh le) := hD
  refine lv_aload_n hx hb dX3_bestTest_11 rfl (lv_at hl 0 rfl) ?_
  refine xc_i (xr_V (b := q 0) (ci := 2) (q0 := 0) (As := []) (rest := []) (mt_X3_best l D ca q (nI 0) st ik ln ou1_5 pa iw so na nb (nI ((cnds C).length)) (nuI 0 (cnds C)) (bI (alB C (cnds C))) (zOf C) be ke te ne wa ta1_3 out1_4 pl1_6 lo sh le (tmN C (cnds C)) hll H.size) ⟨hx, hb, hml, hown, hts⟩ (cwV 0 hts (lw_V q1820 q1822 qs63 q87 q1823) rfl rfl rfl (by decide +kernel) ⟨Nat.le_of_ble_eq_true rfl, Nat.le_of_ble_eq_true rfl⟩) Ev0_ok hE hK hS (Cut.all hP hD hS hA) rfl rfl rfl hl.1 rfl (Nat.le_of_ble_eq_true rfl) dX3_bestTest_12 ⟨Nat.le_of_ble_eq_true rfl, Nat.le_of_ble_eq_true rfl⟩) hS (Cut.all hP hD hS hA) (fun r_7 u_8 H locs hq_12 hP hD hS => ?_)
  have hP : va_P D vwCl (WM ca q (nI 0) st ik ln ou1_5 pa iw so na nb (nI ((cnds C).length)) (nuI 0 (cnds C)) (bI (alB C (cnds C))) (zOf C) be ke te (nIf (tmN C (cnds C))) ne wa ta1_3 out1_4 pl1_6 lo sh le) H := hP
  have hD : va_D A (WM ca q (nI 0) st ik ln ou1_5 pa iw so na nb (nI ((cnds C).length)) (nuI 0 (cnds C)) (bI (alB C (cnds C))) (zOf C) be ke te (nIf (tmN C (cnds C))) ne wa ta1_3 out1_4 pl1_6 lo sh le) := hD
  have hp_12 : r_7 = nI (bsN (tmN C (cnds C)) 63) := hq_12
  clear hq_12
  obtain rfl := hp_12
  subst hQQ
  exact xe_i (v := nI (bsN (tmN C (cnds C)) 63)) (ta1_3, out1_4, ou1_5, pl1_6) hx hb hr hlocks hK hP hD hS (rfl) dX3_bestTest_15
set_option maxHeartbeats 4000000 in
set_option maxRecDepth 100000 in
theorem mt_X3_askBest_ok (l : Launch) (D : va_G) (ca : Nat → ClassId) (q : Nat → Nat) (th : Int32) (ik : Int32) (ln : Int32) (ou : Int32) (pa : Int32) (iw : Int32) (so : Int32) (na : Int32) (nb : Int32) (fo : Int32) (nu : Int32) (al : Int32) (be : Nat → Int32) (ke : Nat → Int32) (te : Nat → Int32) (ti : Nat → Int32) (ne : Nat → Int32) (wa : Nat → Int32) (ta : Nat → Int64) (out : Nat → Int64) (pl : Nat → Int64) (lo : Nat → Int64) (sh : Nat → Int64) (le : Nat → Int64) (C : Nat → Nat) (L : List (Nat → Nat)) (m_ : Nat) (h0 : C 0 ≤ 12) (hkd0 : ∀ k, k < 12 → C (1 + k) < 8) (hse : ∀ k, k < 12 → C (13 + k) < 6 + k ∧ C (25 + k) < 6 + k) (ho : C 37 < 2 ^ 18) (hbx : C 38 < 2 ^ 18) (hno : popc 18 (C 37) ≤ 4) (hnb : popc 18 (C 38) ≤ 3) (hak : C 41 ≤ 12) (ht64 : ∀ k, k < 12 → C (42 + k) < 64) (h40 : C 40 ≤ 1) (ha16 : ∀ k, k < 12 → C (54 + k) < 16) (h39 : C 39 ≤ 64) (hm1 : 1 ≤ m_) (hm : m_ ≤ 12) (hL : L.length ≤ 5) (hB : BeOk L be) (nn : Nat) : Met l yX3_askBest (ws_ yX3_askBest cX3_askBest 3 (Option.some Jvm.ClassFile.FieldType.int)) ({ frames := 4, cells := 0, slots := 0, locals := 102 } : Room) (va_Pc [.ref (q 0), .int (nI m_)] (PreW Ev0 D vwCl (TY ca) (WM ca q th (nI L.length) ik ln ou pa iw so na nb fo nu al (zOf C) be ke te ti ne wa ta out pl lo sh le) nn)) (va_Qi (fun (r_ : Int32) (u_ : (Nat → Int32) × (Nat → Int64) × (Nat → Int64) × Int32 × (Nat → Int64)) => r_ = nI (abN m_ C) ∧ (BeOk (pushL L C) u_.1)) (PostW D vwCl (TY ca) (fun (u_ : (Nat → Int32) × (Nat → Int64) × (Nat → Int64) × Int32 × (Nat → Int64)) => (WM ca q (nI 0) (nI (pushL L C).length) ik ln u_.2.2.2.1 pa iw so na nb (nI ((cnds (abF m_ C)).length)) (nuI 0 (cnds (abF m_ C))) (bI (alB (abF m_ C) (cnds (abF m_ C)))) (zOf (abF m_ C)) u_.1 ke te (nIf (tmN (abF m_ C) (cnds (abF m_ C)))) ne wa u_.2.1 u_.2.2.1 u_.2.2.2.2 lo sh le)) (va_A (WM ca q th (nI L.length) ik ln ou pa iw so na nb fo nu al (zOf C) be ke te ti ne wa ta out pl lo sh le) nn)) (va_A (WM ca q th (nI L.length) ik ln ou pa iw so na nb fo nu al (zOf C) be ke te ti ne wa ta out pl lo sh le) nn)) 0 0 (va_A (WM ca q th (nI L.length) ik ln ou pa iw so na nb fo nu al (zOf C) be ke te ti ne wa ta out pl lo sh le) nn) := by
  refine met_go (QA := fun A => va_Qi (fun (r_ : Int32) (u_ : (Nat → Int32) × (Nat → Int64) × (Nat → Int64) × Int32 × (Nat → Int64)) => r_ = nI (abN m_ C) ∧ (BeOk (pushL L C) u_.1)) (PostW D vwCl (TY ca) (fun (u_ : (Nat → Int32) × (Nat → Int64) × (Nat → Int64) × Int32 × (Nat → Int64)) => (WM ca q (nI 0) (nI (pushL L C).length) ik ln u_.2.2.2.1 pa iw so na nb (nI ((cnds (abF m_ C)).length)) (nuI 0 (cnds (abF m_ C))) (bI (alB (abF m_ C) (cnds (abF m_ C)))) (zOf (abF m_ C)) u_.1 ke te (nIf (tmN (abF m_ C) (cnds (abF m_ C)))) ne wa u_.2.1 u_.2.2.1 u_.2.2.2.2 lo sh le)) A) A) (by decide) (Nat.le_of_ble_eq_true rfl) (fun p e s m below meth c A ls QQ hQQ hx hb hr hts hown hlocks hml hA hP hK hD hE hl => ?_)
  have hown : s.vm.findClass RX3 = some m.cls := hown
  have hS : va_S A s.heap s.heap [] := va_S.rf
  have hl : lv_has ls 3 [(0, .ref (q 0)), (1, .int (nI m_))] := hl
  generalize hHe : s.heap = H at hP ⊢
  have hS : va_S A s.heap H [] := hHe ▸ hS
  generalize ([] : List Loc) = locs at hS ⊢
  have hnc : no C ≤ 4 := Nat.le_trans (popc_mono (by omega)) hno
  refine lv_aload_n hx hb dX3_askBest_0 rfl (lv_at hl 0 rfl) ?_
  refine lv_iload_n hx hb dX3_askBest_1 rfl (lv_at hl 1 rfl) ?_
  refine lv_iconst (v := nI 1) hx hb dX3_askBest_2 (by decide) ?_
  refine lv_bipush (v := nI 12) hx hb dX3_askBest_3 (by decide) ?_
  refine xc_i (xr_S (As := [.int (nI m_), .int (nI 1), .int (nI 12)]) (rest := [.ref (q 0)]) (mt_X3_in l D ca (nI m_) (nI 1) (nI 12)  H.size) ⟨hx, hb, hml, hown, hts⟩ (va_cwS 3 hts (lw_S q1700 q1701 q87 q1702) rfl rfl rfl (by decide +kernel) ⟨Nat.le_of_ble_eq_true rfl, Nat.le_of_ble_eq_true rfl⟩) Ev0_ok hE hK hS (Cut.app (wc := []) (wr := (WM ca q th (nI L.length) ik ln ou pa iw so na nb fo nu al (zOf C) be ke te ti ne wa ta out pl lo sh le)) hP hD hS hA) rfl hl.1 rfl (Nat.le_of_ble_eq_true rfl) dX3_askBest_5 ⟨Nat.le_of_ble_eq_true rfl, Nat.le_of_ble_eq_true rfl⟩) hS (Cut.app (wc := []) (wr := (WM ca q th (nI L.length) ik ln ou pa iw so na nb fo nu al (zOf C) be ke te ti ne wa ta out pl lo sh le)) hP hD hS hA) (fun r_1 u_2 H locs hq_5 hP hD hS => ?_)
  have hP : va_P D vwCl (WM ca q th (nI L.length) ik ln ou pa iw so na nb fo nu al (zOf C) be ke te ti ne wa ta out pl lo sh le) H := hP
  have hD : va_D A (WM ca q th (nI L.length) ik ln ou pa iw so na nb fo nu al (zOf C) be ke te ti ne wa ta out pl lo sh le) := hD
  have hp_5 : r_1 = bI (decide ((nI 1) ≤ (nI m_) ∧ (nI m_) ≤ (nI 12))) := hq_5
  clear hq_5
  obtain rfl := hp_5
  refine nv_ifb_eq (tgt := 15) hx hb dX3_askBest_8 (by decide) (fun c_8 => (absurd c_8 (by rw [in1_ok hm1 (by omega) (by decide)]; decide))) (fun c_8 => ?_)
  refine lv_iconst (v := nI 0) hx hb dX3_askBest_11 (by decide) ?_
  refine lv_goto (tgt := 16) hx hb dX3_askBest_12 (by decide) ?_
  refine pWM_0_thrown_X3 hx hb hts hown hK hP hD hS dX3_askBest_16 (fun H locs hP hD hS => ?_)
  refine lv_aload_n hx hb dX3_askBest_19 rfl (lv_at hl 0 rfl) ?_
  refine gWM_0_thrown_X3 hx hb hts hown hK hP dX3_askBest_20 ?_
  refine nv_if_le (tgt := 28) hx hb dX3_askBest_23 (by decide) (by omega) (fun c_23 => ?_) (fun c_23 => absurd c_23 (by decide))
  refine lv_aload_n hx hb dX3_askBest_28 rfl (lv_at hl 0 rfl) ?_
  refine xc_v (xr_V (b := q 0) (ci := 2) (q0 := 0) (As := []) (rest := []) (mt_X3_record l D ca q (nI 0) ik ln ou pa iw so na nb fo nu al be ke te ti ne wa ta out pl lo sh le C L (by first | assumption | omega | (simp only [updN, forgetC, changedC]; (repeat' split) <;> omega)) (by first | assumption | omega | (simp only [updN, forgetC, changedC]; (repeat' split) <;> omega)) H.size) ⟨hx, hb, hml, hown, hts⟩ (cwV 0 hts (lw_V q1680 q1682 qs42 q87 q1683) rfl rfl rfl (by decide +kernel) ⟨Nat.le_of_ble_eq_true rfl, Nat.le_of_ble_eq_true rfl⟩) Ev0_ok hE hK hS (Cut.all hP hD hS hA) rfl rfl rfl hl.1 rfl (Nat.le_of_ble_eq_true rfl) dX3_askBest_29 ⟨Nat.le_of_ble_eq_true rfl, Nat.le_of_ble_eq_true rfl⟩) hS (Cut.all hP hD hS hA) (fun u_4 H locs hq_29 hP hD hS => ?_)
  obtain ⟨be1_5, rfl⟩ : ∃ z_, z_ = u_4 := ⟨_, rfl⟩
  have hP : va_P D vwCl (WM ca q (nI 0) (nI (pushL L C).length) ik ln ou pa iw so na nb fo nu al (zOf C) be1_5 ke te ti ne wa ta out pl lo sh le) H := hP
  have hD : va_D A (WM ca q (nI 0) (nI (pushL L C).length) ik ln ou pa iw so na nb fo nu al (zOf C) be1_5 ke te ti ne wa ta out pl lo sh le) := hD
  have hp_29 : BeOk (pushL L C) be1_5 := hq_29
  clear hq_29
  refine lv_iconst (v := nI 0) hx hb dX3_askBest_32 (by decide) ?_
  refine lv_istore_n (lv' := [(2, .int (nI 0)), (0, .ref (q 0)), (1, .int (nI m_))]) hx hb dX3_askBest_33 rfl hl (by decide) rfl (fun ls hl => ?_)
  refine lv_aload_n hx hb dX3_askBest_34 rfl (lv_at hl 1 rfl) ?_
  refine lv_iconst (v := fI 0) hx hb dX3_askBest_35 (by decide) ?_
  refine lv_iconst (v := nI 1) hx hb dX3_askBest_36 (by decide) ?_
  refine xc_v (xr_V (b := q 0) (ci := 2) (q0 := 0) (As := [.int (fI 0), .int (nI 1)]) (rest := []) (mt_X3_goThrough_c l D ca q (nI 0) (nI (pushL L C).length) ik ln ou pa iw so na nb fo nu al be1_5 ke te ti ne wa ta out pl lo sh le C 0 (by first | assumption | omega | (simp only [updN, forgetC, changedC]; (repeat' split) <;> omega)) (by first | assumption | omega | (simp only [updN, forgetC, changedC]; (repeat' split) <;> omega)) (by first | assumption | omega | (simp only [updN, forgetC, changedC]; (repeat' split) <;> omega)) (by first | assumption | omega | (simp only [updN, forgetC, changedC]; (repeat' split) <;> omega)) (by first | assumption | omega | (simp only [updN, forgetC, changedC]; (repeat' split) <;> omega)) (by first | assumption | omega | (simp only [updN, forgetC, changedC]; (repeat' split) <;> omega)) (by first | assumption | omega | (simp only [updN, forgetC, changedC]; (repeat' split) <;> omega)) (by first | assumption | omega | (simp only [updN, forgetC, changedC]; (repeat' split) <;> omega)) (by first | assumption | omega | (simp only [updN, forgetC, changedC]; (repeat' split) <;> omega)) (by first | assumption | omega | (simp only [updN, forgetC, changedC]; (repeat' split) <;> omega)) (by first | assumption | omega | (simp only [updN, forgetC, changedC]; (repeat' split) <;> omega)) (by first | assumption | omega | (simp only [updN, forgetC, changedC]; (repeat' split) <;> omega)) H.size) ⟨hx, hb, hml, hown, hts⟩ (cwV 2 hts (lw_V q1804 q1806 qs59 q87 q1807) rfl rfl rfl (by decide +kernel) ⟨Nat.le_of_ble_eq_true rfl, Nat.le_of_ble_eq_true rfl⟩) Ev0_ok hE hK hS (Cut.all hP hD hS hA) rfl rfl rfl hl.1 rfl (Nat.le_of_ble_eq_true rfl) dX3_askBest_37 ⟨Nat.le_of_ble_eq_true rfl, Nat.le_of_ble_eq_true rfl⟩) hS (Cut.all hP hD hS hA) (fun u_7 H locs hq_37 hP hD hS => ?_)
  obtain ⟨ta1_8, out1_9, ou1_10, pl1_11⟩ := u_7
  have hP : va_P D vwCl (WM ca q (nI 0) (nI (pushL L C).length) ik ln ou1_10 pa iw so na nb (nI ((cnds C).length)) (nuI 0 (cnds C)) (bI (alB C (cnds C))) (zOf C) be1_5 ke te (nIf (tmN C (cnds C))) ne wa ta1_8 out1_9 pl1_11 lo sh le) H := hP
  have hD : va_D A (WM ca q (nI 0) (nI (pushL L C).length) ik ln ou1_10 pa iw so na nb (nI ((cnds C).length)) (nuI 0 (cnds C)) (bI (alB C (cnds C))) (zOf C) be1_5 ke te (nIf (tmN C (cnds C))) ne wa ta1_8 out1_9 pl1_11 lo sh le) := hD
  have lp_40 : ∀ (fu_40 : Nat) (n : Nat) (Z_ : Nat → Nat) (ta_ : Nat → Int64) (out_ : Nat → Int64) (ou_ : Int32) (pl_ : Nat → Int64), m_ - n < fu_40 → (n ≤ m_) → (Sm C Z_) → (∀ k, k < 12 → Z_ (54 + k) < 16) → (abF (m_ - n) Z_ = abF m_ C) → (n + abN (m_ - n) Z_ = abN m_ C) → ∀ (H : Heap) (locs : List Loc), va_P D vwCl (WM ca q (nI 0) (nI (pushL L C).length) ik ln ou_ pa iw so na nb (nI ((cnds Z_).length)) (nuI 0 (cnds Z_)) (bI (alB Z_ (cnds Z_))) (zOf Z_) be1_5 ke te (nIf (tmN Z_ (cnds Z_))) ne wa ta_ out_ pl_ lo sh le) H → va_D A (WM ca q (nI 0) (nI (pushL L C).length) ik ln ou_ pa iw so na nb (nI ((cnds Z_).length)) (nuI 0 (cnds Z_)) (bI (alB Z_ (cnds Z_))) (zOf Z_) be1_5 ke te (nIf (tmN Z_ (cnds Z_))) ne wa ta_ out_ pl_ lo sh le) → va_S A s.heap H locs → ∀ (ls : Array Slot), lv_has ls 3 [(2, .int (nI n)), (0, .ref (q 0)), (1, .int (nI m_))] → W p l e ({ frames := 4, cells := 0, slots := 0, locals := 102 } : Room) s m ([.ref (q 0), .int (nI m_)] : List Value).toArray below meth c H locs 0 0 QQ (F0 m 40 ls []) := by
    intro fu_40
    induction fu_40 with
    | zero => intro n Z_ ta_ out_ ou_ pl_ hfu; exact absurd hfu (Nat.not_lt_zero _)
    | succ fu_40 ih_40 =>
      intro n Z_ ta_ out_ ou_ pl_ hfu hn hSm hZ16 hF hN H locs hP hD hS ls hl
      refine lv_iload_n hx hb dX3_askBest_40 rfl (lv_at hl 0 rfl) ?_
      refine lv_iload_n hx hb dX3_askBest_41 rfl (lv_at hl 2 rfl) ?_
      refine nv_icmp_ge (tgt := 85) hx hb dX3_askBest_42 (by decide) (by omega) (by omega) (fun c_42 => ?_) (fun c_42 => ?_)
      · skip
        have hz : Z_ = abF m_ C := by rw [← hF, show m_ - n = 0 by omega]; rfl
        have hn2 : n = abN m_ C := by rw [← hN, show m_ - n = 0 by omega]; rfl
        have ew_ : zOf Z_ = zOf (abF m_ C) := by rw [hz]
        have hP : va_P D vwCl (WM ca q (nI 0) (nI (pushL L C).length) ik ln ou_ pa iw so na nb (nI ((cnds Z_).length)) (nuI 0 (cnds Z_)) (bI (alB Z_ (cnds Z_))) (zOf (abF m_ C)) be1_5 ke te (nIf (tmN Z_ (cnds Z_))) ne wa ta_ out_ pl_ lo sh le) H := (congrArg (fun x_ => va_P D vwCl (WM ca q (nI 0) (nI (pushL L C).length) ik ln ou_ pa iw so na nb (nI ((cnds Z_).length)) (nuI 0 (cnds Z_)) (bI (alB Z_ (cnds Z_))) x_ be1_5 ke te (nIf (tmN Z_ (cnds Z_))) ne wa ta_ out_ pl_ lo sh le) H) ew_).mp hP
        have hD : va_D A (WM ca q (nI 0) (nI (pushL L C).length) ik ln ou_ pa iw so na nb (nI ((cnds Z_).length)) (nuI 0 (cnds Z_)) (bI (alB Z_ (cnds Z_))) (zOf (abF m_ C)) be1_5 ke te (nIf (tmN Z_ (cnds Z_))) ne wa ta_ out_ pl_ lo sh le) := (congrArg (fun x_ => va_D A (WM ca q (nI 0) (nI (pushL L C).length) ik ln ou_ pa iw so na nb (nI ((cnds Z_).length)) (nuI 0 (cnds Z_)) (bI (alB Z_ (cnds Z_))) x_ be1_5 ke te (nIf (tmN Z_ (cnds Z_))) ne wa ta_ out_ pl_ lo sh le)) ew_).mp hD
        clear ew_
        have ew_ : nI ((cnds Z_).length) = nI ((cnds (abF m_ C)).length) := by rw [hz]
        have hP : va_P D vwCl (WM ca q (nI 0) (nI (pushL L C).length) ik ln ou_ pa iw so na nb (nI ((cnds (abF m_ C)).length)) (nuI 0 (cnds Z_)) (bI (alB Z_ (cnds Z_))) (zOf (abF m_ C)) be1_5 ke te (nIf (tmN Z_ (cnds Z_))) ne wa ta_ out_ pl_ lo sh le) H := (congrArg (fun x_ => va_P D vwCl (WM ca q (nI 0) (nI (pushL L C).length) ik ln ou_ pa iw so na nb x_ (nuI 0 (cnds Z_)) (bI (alB Z_ (cnds Z_))) (zOf (abF m_ C)) be1_5 ke te (nIf (tmN Z_ (cnds Z_))) ne wa ta_ out_ pl_ lo sh le) H) ew_).mp hP
        have hD : va_D A (WM ca q (nI 0) (nI (pushL L C).length) ik ln ou_ pa iw so na nb (nI ((cnds (abF m_ C)).length)) (nuI 0 (cnds Z_)) (bI (alB Z_ (cnds Z_))) (zOf (abF m_ C)) be1_5 ke te (nIf (tmN Z_ (cnds Z_))) ne wa ta_ out_ pl_ lo sh le) := (congrArg (fun x_ => va_D A (WM ca q (nI 0) (nI (pushL L C).length) ik ln ou_ pa iw so na nb x_ (nuI 0 (cnds Z_)) (bI (alB Z_ (cnds Z_))) (zOf (abF m_ C)) be1_5 ke te (nIf (tmN Z_ (cnds Z_))) ne wa ta_ out_ pl_ lo sh le)) ew_).mp hD
        clear ew_
        have ew_ : nuI 0 (cnds Z_) = nuI 0 (cnds (abF m_ C)) := by rw [hz]
        have hP : va_P D vwCl (WM ca q (nI 0) (nI (pushL L C).length) ik ln ou_ pa iw so na nb (nI ((cnds (abF m_ C)).length)) (nuI 0 (cnds (abF m_ C))) (bI (alB Z_ (cnds Z_))) (zOf (abF m_ C)) be1_5 ke te (nIf (tmN Z_ (cnds Z_))) ne wa ta_ out_ pl_ lo sh le) H := (congrArg (fun x_ => va_P D vwCl (WM ca q (nI 0) (nI (pushL L C).length) ik ln ou_ pa iw so na nb (nI ((cnds (abF m_ C)).length)) x_ (bI (alB Z_ (cnds Z_))) (zOf (abF m_ C)) be1_5 ke te (nIf (tmN Z_ (cnds Z_))) ne wa ta_ out_ pl_ lo sh le) H) ew_).mp hP
        have hD : va_D A (WM ca q (nI 0) (nI (pushL L C).length) ik ln ou_ pa iw so na nb (nI ((cnds (abF m_ C)).length)) (nuI 0 (cnds (abF m_ C))) (bI (alB Z_ (cnds Z_))) (zOf (abF m_ C)) be1_5 ke te (nIf (tmN Z_ (cnds Z_))) ne wa ta_ out_ pl_ lo sh le) := (congrArg (fun x_ => va_D A (WM ca q (nI 0) (nI (pushL L C).length) ik ln ou_ pa iw so na nb (nI ((cnds (abF m_ C)).length)) x_ (bI (alB Z_ (cnds Z_))) (zOf (abF m_ C)) be1_5 ke te (nIf (tmN Z_ (cnds Z_))) ne wa ta_ out_ pl_ lo sh le)) ew_).mp hD
        clear ew_
        have ew_ : bI (alB Z_ (cnds Z_)) = bI (alB (abF m_ C) (cnds (abF m_ C))) := by rw [hz]
        have hP : va_P D vwCl (WM ca q (nI 0) (nI (pushL L C).length) ik ln ou_ pa iw so na nb (nI ((cnds (abF m_ C)).length)) (nuI 0 (cnds (abF m_ C))) (bI (alB (abF m_ C) (cnds (abF m_ C)))) (zOf (abF m_ C)) be1_5 ke te (nIf (tmN Z_ (cnds Z_))) ne wa ta_ out_ pl_ lo sh le) H := (congrArg (fun x_ => va_P D vwCl (WM ca q (nI 0) (nI (pushL L C).length) ik ln ou_ pa iw so na nb (nI ((cnds (abF m_ C)).length)) (nuI 0 (cnds (abF m_ C))) x_ (zOf (abF m_ C)) be1_5 ke te (nIf (tmN Z_ (cnds Z_))) ne wa ta_ out_ pl_ lo sh le) H) ew_).mp hP
        have hD : va_D A (WM ca q (nI 0) (nI (pushL L C).length) ik ln ou_ pa iw so na nb (nI ((cnds (abF m_ C)).length)) (nuI 0 (cnds (abF m_ C))) (bI (alB (abF m_ C) (cnds (abF m_ C)))) (zOf (abF m_ C)) be1_5 ke te (nIf (tmN Z_ (cnds Z_))) ne wa ta_ out_ pl_ lo sh le) := (congrArg (fun x_ => va_D A (WM ca q (nI 0) (nI (pushL L C).length) ik ln ou_ pa iw so na nb (nI ((cnds (abF m_ C)).length)) (nuI 0 (cnds (abF m_ C))) x_ (zOf (abF m_ C)) be1_5 ke te (nIf (tmN Z_ (cnds Z_))) ne wa ta_ out_ pl_ lo sh le)) ew_).mp hD
        clear ew_
        have ew_ : nIf (tmN Z_ (cnds Z_)) = nIf (tmN (abF m_ C) (cnds (abF m_ C))) := by rw [hz]
        have hP : va_P D vwCl (WM ca q (nI 0) (nI (pushL L C).length) ik ln ou_ pa iw so na nb (nI ((cnds (abF m_ C)).length)) (nuI 0 (cnds (abF m_ C))) (bI (alB (abF m_ C) (cnds (abF m_ C)))) (zOf (abF m_ C)) be1_5 ke te (nIf (tmN (abF m_ C) (cnds (abF m_ C)))) ne wa ta_ out_ pl_ lo sh le) H := (congrArg (fun x_ => va_P D vwCl (WM ca q (nI 0) (nI (pushL L C).length) ik ln ou_ pa iw so na nb (nI ((cnds (abF m_ C)).length)) (nuI 0 (cnds (abF m_ C))) (bI (alB (abF m_ C) (cnds (abF m_ C)))) (zOf (abF m_ C)) be1_5 ke te x_ ne wa ta_ out_ pl_ lo sh le) H) ew_).mp hP
        have hD : va_D A (WM ca q (nI 0) (nI (pushL L C).length) ik ln ou_ pa iw so na nb (nI ((cnds (abF m_ C)).length)) (nuI 0 (cnds (abF m_ C))) (bI (alB (abF m_ C) (cnds (abF m_ C)))) (zOf (abF m_ C)) be1_5 ke te (nIf (tmN (abF m_ C) (cnds (abF m_ C)))) ne wa ta_ out_ pl_ lo sh le) := (congrArg (fun x_ => va_D A (WM ca q (nI 0) (nI (pushL L C).length) ik ln ou_ pa iw so na nb (nI ((cnds (abF m_ C)).length)) (nuI 0 (cnds (abF m_ C))) (bI (alB (abF m_ C) (cnds (abF m_ C)))) (zOf (abF m_ C)) be1_5 ke te x_ ne wa ta_ out_ pl_ lo sh le)) ew_).mp hD
        clear ew_
        refine lv_iload_n hx hb dX3_askBest_85 rfl (lv_at hl 0 rfl) ?_
        subst hQQ
        exact xe_i (v := nI n) (be1_5, ta_, out_, ou_, pl_) hx hb hr hlocks hK hP hD hS (⟨congrArg nI hn2, hp_29⟩) dX3_askBest_86
      · skip
        refine lv_aload_n hx hb dX3_askBest_45 rfl (lv_at hl 1 rfl) ?_
        refine gWM_0_z_X3 hx hb hts hown hK hP dX3_askBest_46 ?_
        refine lv_bipush (v := nI 41) hx hb dX3_askBest_49 (by decide) ?_
        refine ldWM_1 hx hb hK hP (by omega) dX3_askBest_51 ?_
        refine lv_topi (nm_r (e' := nI (Z_ 41)) (rfl) ?_)
        refine lv_bipush (v := nI 12) hx hb dX3_askBest_52 (by decide) ?_
        refine nv_icmp_ge (tgt := 85) hx hb dX3_askBest_54 (by decide) (by have := hSm.2.1; omega) (by omega) (fun c_54 => ?_) (fun c_54 => ?_)
        · skip
          have hz : Z_ = abF m_ C := by rw [← hF, abF_e (Or.inl (by omega))]
          have hn2 : n = abN m_ C := by rw [← hN, abN_e (Or.inl (by omega))]; rfl
          have ew_ : zOf Z_ = zOf (abF m_ C) := by rw [hz]
          have hP : va_P D vwCl (WM ca q (nI 0) (nI (pushL L C).length) ik ln ou_ pa iw so na nb (nI ((cnds Z_).length)) (nuI 0 (cnds Z_)) (bI (alB Z_ (cnds Z_))) (zOf (abF m_ C)) be1_5 ke te (nIf (tmN Z_ (cnds Z_))) ne wa ta_ out_ pl_ lo sh le) H := (congrArg (fun x_ => va_P D vwCl (WM ca q (nI 0) (nI (pushL L C).length) ik ln ou_ pa iw so na nb (nI ((cnds Z_).length)) (nuI 0 (cnds Z_)) (bI (alB Z_ (cnds Z_))) x_ be1_5 ke te (nIf (tmN Z_ (cnds Z_))) ne wa ta_ out_ pl_ lo sh le) H) ew_).mp hP
          have hD : va_D A (WM ca q (nI 0) (nI (pushL L C).length) ik ln ou_ pa iw so na nb (nI ((cnds Z_).length)) (nuI 0 (cnds Z_)) (bI (alB Z_ (cnds Z_))) (zOf (abF m_ C)) be1_5 ke te (nIf (tmN Z_ (cnds Z_))) ne wa ta_ out_ pl_ lo sh le) := (congrArg (fun x_ => va_D A (WM ca q (nI 0) (nI (pushL L C).length) ik ln ou_ pa iw so na nb (nI ((cnds Z_).length)) (nuI 0 (cnds Z_)) (bI (alB Z_ (cnds Z_))) x_ be1_5 ke te (nIf (tmN Z_ (cnds Z_))) ne wa ta_ out_ pl_ lo sh le)) ew_).mp hD
          clear ew_
          have ew_ : nI ((cnds Z_).length) = nI ((cnds (abF m_ C)).length) := by rw [hz]
          have hP : va_P D vwCl (WM ca q (nI 0) (nI (pushL L C).length) ik ln ou_ pa iw so na nb (nI ((cnds (abF m_ C)).length)) (nuI 0 (cnds Z_)) (bI (alB Z_ (cnds Z_))) (zOf (abF m_ C)) be1_5 ke te (nIf (tmN Z_ (cnds Z_))) ne wa ta_ out_ pl_ lo sh le) H := (congrArg (fun x_ => va_P D vwCl (WM ca q (nI 0) (nI (pushL L C).length) ik ln ou_ pa iw so na nb x_ (nuI 0 (cnds Z_)) (bI (alB Z_ (cnds Z_))) (zOf (abF m_ C)) be1_5 ke te (nIf (tmN Z_ (cnds Z_))) ne wa ta_ out_ pl_ lo sh le) H) ew_).mp hP
          have hD : va_D A (WM ca q (nI 0) (nI (pushL L C).length) ik ln ou_ pa iw so na nb (nI ((cnds (abF m_ C)).length)) (nuI 0 (cnds Z_)) (bI (alB Z_ (cnds Z_))) (zOf (abF m_ C)) be1_5 ke te (nIf (tmN Z_ (cnds Z_))) ne wa ta_ out_ pl_ lo sh le) := (congrArg (fun x_ => va_D A (WM ca q (nI 0) (nI (pushL L C).length) ik ln ou_ pa iw so na nb x_ (nuI 0 (cnds Z_)) (bI (alB Z_ (cnds Z_))) (zOf (abF m_ C)) be1_5 ke te (nIf (tmN Z_ (cnds Z_))) ne wa ta_ out_ pl_ lo sh le)) ew_).mp hD
          clear ew_
          have ew_ : nuI 0 (cnds Z_) = nuI 0 (cnds (abF m_ C)) := by rw [hz]
          have hP : va_P D vwCl (WM ca q (nI 0) (nI (pushL L C).length) ik ln ou_ pa iw so na nb (nI ((cnds (abF m_ C)).length)) (nuI 0 (cnds (abF m_ C))) (bI (alB Z_ (cnds Z_))) (zOf (abF m_ C)) be1_5 ke te (nIf (tmN Z_ (cnds Z_))) ne wa ta_ out_ pl_ lo sh le) H := (congrArg (fun x_ => va_P D vwCl (WM ca q (nI 0) (nI (pushL L C).length) ik ln ou_ pa iw so na nb (nI ((cnds (abF m_ C)).length)) x_ (bI (alB Z_ (cnds Z_))) (zOf (abF m_ C)) be1_5 ke te (nIf (tmN Z_ (cnds Z_))) ne wa ta_ out_ pl_ lo sh le) H) ew_).mp hP
          have hD : va_D A (WM ca q (nI 0) (nI (pushL L C).length) ik ln ou_ pa iw so na nb (nI ((cnds (abF m_ C)).length)) (nuI 0 (cnds (abF m_ C))) (bI (alB Z_ (cnds Z_))) (zOf (abF m_ C)) be1_5 ke te (nIf (tmN Z_ (cnds Z_))) ne wa ta_ out_ pl_ lo sh le) := (congrArg (fun x_ => va_D A (WM ca q (nI 0) (nI (pushL L C).length) ik ln ou_ pa iw so na nb (nI ((cnds (abF m_ C)).length)) x_ (bI (alB Z_ (cnds Z_))) (zOf (abF m_ C)) be1_5 ke te (nIf (tmN Z_ (cnds Z_))) ne wa ta_ out_ pl_ lo sh le)) ew_).mp hD
          clear ew_
          have ew_ : bI (alB Z_ (cnds Z_)) = bI (alB (abF m_ C) (cnds (abF m_ C))) := by rw [hz]
          have hP : va_P D vwCl (WM ca q (nI 0) (nI (pushL L C).length) ik ln ou_ pa iw so na nb (nI ((cnds (abF m_ C)).length)) (nuI 0 (cnds (abF m_ C))) (bI (alB (abF m_ C) (cnds (abF m_ C)))) (zOf (abF m_ C)) be1_5 ke te (nIf (tmN Z_ (cnds Z_))) ne wa ta_ out_ pl_ lo sh le) H := (congrArg (fun x_ => va_P D vwCl (WM ca q (nI 0) (nI (pushL L C).length) ik ln ou_ pa iw so na nb (nI ((cnds (abF m_ C)).length)) (nuI 0 (cnds (abF m_ C))) x_ (zOf (abF m_ C)) be1_5 ke te (nIf (tmN Z_ (cnds Z_))) ne wa ta_ out_ pl_ lo sh le) H) ew_).mp hP
          have hD : va_D A (WM ca q (nI 0) (nI (pushL L C).length) ik ln ou_ pa iw so na nb (nI ((cnds (abF m_ C)).length)) (nuI 0 (cnds (abF m_ C))) (bI (alB (abF m_ C) (cnds (abF m_ C)))) (zOf (abF m_ C)) be1_5 ke te (nIf (tmN Z_ (cnds Z_))) ne wa ta_ out_ pl_ lo sh le) := (congrArg (fun x_ => va_D A (WM ca q (nI 0) (nI (pushL L C).length) ik ln ou_ pa iw so na nb (nI ((cnds (abF m_ C)).length)) (nuI 0 (cnds (abF m_ C))) x_ (zOf (abF m_ C)) be1_5 ke te (nIf (tmN Z_ (cnds Z_))) ne wa ta_ out_ pl_ lo sh le)) ew_).mp hD
          clear ew_
          have ew_ : nIf (tmN Z_ (cnds Z_)) = nIf (tmN (abF m_ C) (cnds (abF m_ C))) := by rw [hz]
          have hP : va_P D vwCl (WM ca q (nI 0) (nI (pushL L C).length) ik ln ou_ pa iw so na nb (nI ((cnds (abF m_ C)).length)) (nuI 0 (cnds (abF m_ C))) (bI (alB (abF m_ C) (cnds (abF m_ C)))) (zOf (abF m_ C)) be1_5 ke te (nIf (tmN (abF m_ C) (cnds (abF m_ C)))) ne wa ta_ out_ pl_ lo sh le) H := (congrArg (fun x_ => va_P D vwCl (WM ca q (nI 0) (nI (pushL L C).length) ik ln ou_ pa iw so na nb (nI ((cnds (abF m_ C)).length)) (nuI 0 (cnds (abF m_ C))) (bI (alB (abF m_ C) (cnds (abF m_ C)))) (zOf (abF m_ C)) be1_5 ke te x_ ne wa ta_ out_ pl_ lo sh le) H) ew_).mp hP
          have hD : va_D A (WM ca q (nI 0) (nI (pushL L C).length) ik ln ou_ pa iw so na nb (nI ((cnds (abF m_ C)).length)) (nuI 0 (cnds (abF m_ C))) (bI (alB (abF m_ C) (cnds (abF m_ C)))) (zOf (abF m_ C)) be1_5 ke te (nIf (tmN (abF m_ C) (cnds (abF m_ C)))) ne wa ta_ out_ pl_ lo sh le) := (congrArg (fun x_ => va_D A (WM ca q (nI 0) (nI (pushL L C).length) ik ln ou_ pa iw so na nb (nI ((cnds (abF m_ C)).length)) (nuI 0 (cnds (abF m_ C))) (bI (alB (abF m_ C) (cnds (abF m_ C)))) (zOf (abF m_ C)) be1_5 ke te x_ ne wa ta_ out_ pl_ lo sh le)) ew_).mp hD
          clear ew_
          refine lv_iload_n hx hb dX3_askBest_85 rfl (lv_at hl 0 rfl) ?_
          subst hQQ
          exact xe_i (v := nI n) (be1_5, ta_, out_, ou_, pl_) hx hb hr hlocks hK hP hD hS (⟨congrArg nI hn2, hp_29⟩) dX3_askBest_86
        · skip
          refine lv_aload_n hx hb dX3_askBest_57 rfl (lv_at hl 1 rfl) ?_
          refine gWM_0_areLike_X3 hx hb hts hown hK hP dX3_askBest_58 ?_
          refine nv_ifb_ne (tgt := 85) hx hb dX3_askBest_61 (by decide) (fun c_61 => ?_) (fun c_61 => ?_)
          · skip
            have hz : Z_ = abF m_ C := by rw [← hF, abF_e (Or.inr c_61)]
            have hn2 : n = abN m_ C := by rw [← hN, abN_e (Or.inr c_61)]; rfl
            have ew_ : zOf Z_ = zOf (abF m_ C) := by rw [hz]
            have hP : va_P D vwCl (WM ca q (nI 0) (nI (pushL L C).length) ik ln ou_ pa iw so na nb (nI ((cnds Z_).length)) (nuI 0 (cnds Z_)) (bI (alB Z_ (cnds Z_))) (zOf (abF m_ C)) be1_5 ke te (nIf (tmN Z_ (cnds Z_))) ne wa ta_ out_ pl_ lo sh le) H := (congrArg (fun x_ => va_P D vwCl (WM ca q (nI 0) (nI (pushL L C).length) ik ln ou_ pa iw so na nb (nI ((cnds Z_).length)) (nuI 0 (cnds Z_)) (bI (alB Z_ (cnds Z_))) x_ be1_5 ke te (nIf (tmN Z_ (cnds Z_))) ne wa ta_ out_ pl_ lo sh le) H) ew_).mp hP
            have hD : va_D A (WM ca q (nI 0) (nI (pushL L C).length) ik ln ou_ pa iw so na nb (nI ((cnds Z_).length)) (nuI 0 (cnds Z_)) (bI (alB Z_ (cnds Z_))) (zOf (abF m_ C)) be1_5 ke te (nIf (tmN Z_ (cnds Z_))) ne wa ta_ out_ pl_ lo sh le) := (congrArg (fun x_ => va_D A (WM ca q (nI 0) (nI (pushL L C).length) ik ln ou_ pa iw so na nb (nI ((cnds Z_).length)) (nuI 0 (cnds Z_)) (bI (alB Z_ (cnds Z_))) x_ be1_5 ke te (nIf (tmN Z_ (cnds Z_))) ne wa ta_ out_ pl_ lo sh le)) ew_).mp hD
            clear ew_
            have ew_ : nI ((cnds Z_).length) = nI ((cnds (abF m_ C)).length) := by rw [hz]
            have hP : va_P D vwCl (WM ca q (nI 0) (nI (pushL L C).length) ik ln ou_ pa iw so na nb (nI ((cnds (abF m_ C)).length)) (nuI 0 (cnds Z_)) (bI (alB Z_ (cnds Z_))) (zOf (abF m_ C)) be1_5 ke te (nIf (tmN Z_ (cnds Z_))) ne wa ta_ out_ pl_ lo sh le) H := (congrArg (fun x_ => va_P D vwCl (WM ca q (nI 0) (nI (pushL L C).length) ik ln ou_ pa iw so na nb x_ (nuI 0 (cnds Z_)) (bI (alB Z_ (cnds Z_))) (zOf (abF m_ C)) be1_5 ke te (nIf (tmN Z_ (cnds Z_))) ne wa ta_ out_ pl_ lo sh le) H) ew_).mp hP
            have hD : va_D A (WM ca q (nI 0) (nI (pushL L C).length) ik ln ou_ pa iw so na nb (nI ((cnds (abF m_ C)).length)) (nuI 0 (cnds Z_)) (bI (alB Z_ (cnds Z_))) (zOf (abF m_ C)) be1_5 ke te (nIf (tmN Z_ (cnds Z_))) ne wa ta_ out_ pl_ lo sh le) := (congrArg (fun x_ => va_D A (WM ca q (nI 0) (nI (pushL L C).length) ik ln ou_ pa iw so na nb x_ (nuI 0 (cnds Z_)) (bI (alB Z_ (cnds Z_))) (zOf (abF m_ C)) be1_5 ke te (nIf (tmN Z_ (cnds Z_))) ne wa ta_ out_ pl_ lo sh le)) ew_).mp hD
            clear ew_
            have ew_ : nuI 0 (cnds Z_) = nuI 0 (cnds (abF m_ C)) := by rw [hz]
            have hP : va_P D vwCl (WM ca q (nI 0) (nI (pushL L C).length) ik ln ou_ pa iw so na nb (nI ((cnds (abF m_ C)).length)) (nuI 0 (cnds (abF m_ C))) (bI (alB Z_ (cnds Z_))) (zOf (abF m_ C)) be1_5 ke te (nIf (tmN Z_ (cnds Z_))) ne wa ta_ out_ pl_ lo sh le) H := (congrArg (fun x_ => va_P D vwCl (WM ca q (nI 0) (nI (pushL L C).length) ik ln ou_ pa iw so na nb (nI ((cnds (abF m_ C)).length)) x_ (bI (alB Z_ (cnds Z_))) (zOf (abF m_ C)) be1_5 ke te (nIf (tmN Z_ (cnds Z_))) ne wa ta_ out_ pl_ lo sh le) H) ew_).mp hP
            have hD : va_D A (WM ca q (nI 0) (nI (pushL L C).length) ik ln ou_ pa iw so na nb (nI ((cnds (abF m_ C)).length)) (nuI 0 (cnds (abF m_ C))) (bI (alB Z_ (cnds Z_))) (zOf (abF m_ C)) be1_5 ke te (nIf (tmN Z_ (cnds Z_))) ne wa ta_ out_ pl_ lo sh le) := (congrArg (fun x_ => va_D A (WM ca q (nI 0) (nI (pushL L C).length) ik ln ou_ pa iw so na nb (nI ((cnds (abF m_ C)).length)) x_ (bI (alB Z_ (cnds Z_))) (zOf (abF m_ C)) be1_5 ke te (nIf (tmN Z_ (cnds Z_))) ne wa ta_ out_ pl_ lo sh le)) ew_).mp hD
            clear ew_
            have ew_ : bI (alB Z_ (cnds Z_)) = bI (alB (abF m_ C) (cnds (abF m_ C))) := by rw [hz]
            have hP : va_P D vwCl (WM ca q (nI 0) (nI (pushL L C).length) ik ln ou_ pa iw so na nb (nI ((cnds (abF m_ C)).length)) (nuI 0 (cnds (abF m_ C))) (bI (alB (abF m_ C) (cnds (abF m_ C)))) (zOf (abF m_ C)) be1_5 ke te (nIf (tmN Z_ (cnds Z_))) ne wa ta_ out_ pl_ lo sh le) H := (congrArg (fun x_ => va_P D vwCl (WM ca q (nI 0) (nI (pushL L C).length) ik ln ou_ pa iw so na nb (nI ((cnds (abF m_ C)).length)) (nuI 0 (cnds (abF m_ C))) x_ (zOf (abF m_ C)) be1_5 ke te (nIf (tmN Z_ (cnds Z_))) ne wa ta_ out_ pl_ lo sh le) H) ew_).mp hP
            have hD : va_D A (WM ca q (nI 0) (nI (pushL L C).length) ik ln ou_ pa iw so na nb (nI ((cnds (abF m_ C)).length)) (nuI 0 (cnds (abF m_ C))) (bI (alB (abF m_ C) (cnds (abF m_ C)))) (zOf (abF m_ C)) be1_5 ke te (nIf (tmN Z_ (cnds Z_))) ne wa ta_ out_ pl_ lo sh le) := (congrArg (fun x_ => va_D A (WM ca q (nI 0) (nI (pushL L C).length) ik ln ou_ pa iw so na nb (nI ((cnds (abF m_ C)).length)) (nuI 0 (cnds (abF m_ C))) x_ (zOf (abF m_ C)) be1_5 ke te (nIf (tmN Z_ (cnds Z_))) ne wa ta_ out_ pl_ lo sh le)) ew_).mp hD
            clear ew_
            have ew_ : nIf (tmN Z_ (cnds Z_)) = nIf (tmN (abF m_ C) (cnds (abF m_ C))) := by rw [hz]
            have hP : va_P D vwCl (WM ca q (nI 0) (nI (pushL L C).length) ik ln ou_ pa iw so na nb (nI ((cnds (abF m_ C)).length)) (nuI 0 (cnds (abF m_ C))) (bI (alB (abF m_ C) (cnds (abF m_ C)))) (zOf (abF m_ C)) be1_5 ke te (nIf (tmN (abF m_ C) (cnds (abF m_ C)))) ne wa ta_ out_ pl_ lo sh le) H := (congrArg (fun x_ => va_P D vwCl (WM ca q (nI 0) (nI (pushL L C).length) ik ln ou_ pa iw so na nb (nI ((cnds (abF m_ C)).length)) (nuI 0 (cnds (abF m_ C))) (bI (alB (abF m_ C) (cnds (abF m_ C)))) (zOf (abF m_ C)) be1_5 ke te x_ ne wa ta_ out_ pl_ lo sh le) H) ew_).mp hP
            have hD : va_D A (WM ca q (nI 0) (nI (pushL L C).length) ik ln ou_ pa iw so na nb (nI ((cnds (abF m_ C)).length)) (nuI 0 (cnds (abF m_ C))) (bI (alB (abF m_ C) (cnds (abF m_ C)))) (zOf (abF m_ C)) be1_5 ke te (nIf (tmN (abF m_ C) (cnds (abF m_ C)))) ne wa ta_ out_ pl_ lo sh le) := (congrArg (fun x_ => va_D A (WM ca q (nI 0) (nI (pushL L C).length) ik ln ou_ pa iw so na nb (nI ((cnds (abF m_ C)).length)) (nuI 0 (cnds (abF m_ C))) (bI (alB (abF m_ C) (cnds (abF m_ C)))) (zOf (abF m_ C)) be1_5 ke te x_ ne wa ta_ out_ pl_ lo sh le)) ew_).mp hD
            clear ew_
            refine lv_iload_n hx hb dX3_askBest_85 rfl (lv_at hl 0 rfl) ?_
            subst hQQ
            exact xe_i (v := nI n) (be1_5, ta_, out_, ou_, pl_) hx hb hr hlocks hK hP hD hS (⟨congrArg nI hn2, hp_29⟩) dX3_askBest_86
          · skip
            refine lv_aload_n hx hb dX3_askBest_64 rfl (lv_at hl 1 rfl) ?_
            refine lv_aload_n hx hb dX3_askBest_65 rfl (lv_at hl 1 rfl) ?_
            refine xc_i (xr_V (b := q 0) (ci := 2) (q0 := 0) (As := []) (rest := [.ref (q 0)]) (mt_X3_best l D ca q (nI 0) (nI (pushL L C).length) ik ln ou_ pa iw so na nb (nI ((cnds Z_).length)) (nuI 0 (cnds Z_)) (bI (alB Z_ (cnds Z_))) (zOf Z_) be1_5 ke te ne wa ta_ out_ pl_ lo sh le (tmN Z_ (cnds Z_)) (tm_lim (by rw [(hSm).1 0 (by omega)]; exact h0) (by rw [(hSm).1 38 (by omega)]; exact hnb)) H.size) ⟨hx, hb, hml, hown, hts⟩ (cwV 0 hts (lw_V q1820 q1822 qs63 q87 q1823) rfl rfl rfl (by decide +kernel) ⟨Nat.le_of_ble_eq_true rfl, Nat.le_of_ble_eq_true rfl⟩) Ev0_ok hE hK hS (Cut.all hP hD hS hA) rfl rfl rfl hl.1 rfl (Nat.le_of_ble_eq_true rfl) dX3_askBest_66 ⟨Nat.le_of_ble_eq_true rfl, Nat.le_of_ble_eq_true rfl⟩) hS (Cut.all hP hD hS hA) (fun r_15 u_16 H locs hq_66 hP hD hS => ?_)
            have hP : va_P D vwCl (WM ca q (nI 0) (nI (pushL L C).length) ik ln ou_ pa iw so na nb (nI ((cnds Z_).length)) (nuI 0 (cnds Z_)) (bI (alB Z_ (cnds Z_))) (zOf Z_) be1_5 ke te (nIf (tmN Z_ (cnds Z_))) ne wa ta_ out_ pl_ lo sh le) H := hP
            have hD : va_D A (WM ca q (nI 0) (nI (pushL L C).length) ik ln ou_ pa iw so na nb (nI ((cnds Z_).length)) (nuI 0 (cnds Z_)) (bI (alB Z_ (cnds Z_))) (zOf Z_) be1_5 ke te (nIf (tmN Z_ (cnds Z_))) ne wa ta_ out_ pl_ lo sh le) := hD
            have hp_66 : r_15 = nI (bsN (tmN Z_ (cnds Z_)) 63) := hq_66
            clear hq_66
            obtain rfl := hp_66
            refine lv_topi (nm_r (e' := nI (bst Z_)) (rfl) ?_)
            refine xc_i (xr_V (b := q 0) (ci := 2) (q0 := 0) (As := [.int (nI (bst Z_))]) (rest := []) (mt_X3_asks l D ca q (nI 0) (nI (pushL L C).length) ik ln ou_ pa iw so na nb (nI ((cnds Z_).length)) (nuI 0 (cnds Z_)) (bI (alB Z_ (cnds Z_))) be1_5 ke te (nIf (tmN Z_ (cnds Z_))) ne wa ta_ out_ pl_ lo sh le Z_ (bst Z_) (by rw [(hSm).1 0 (by omega)]; exact h0) (fun k hk => by rw [(hSm).1 _ (by omega)]; exact hkd0 k hk) (fun k hk => by rw [(hSm).1 _ (by omega), (hSm).1 _ (by omega)]; exact hse k hk) (by rw [(hSm).1 37 (by omega)]; exact ho) (by rw [(hSm).1 38 (by omega)]; exact hbx) (by rw [(hSm).1 37 (by omega)]; exact hno) (by rw [(hSm).1 39 (by omega)]; exact h39) c_54 (bst_lt Z_) H.size) ⟨hx, hb, hml, hown, hts⟩ (cwV 1 hts (lw_V q1777 q1779 qs55 q87 q1780) rfl rfl rfl (by decide +kernel) ⟨Nat.le_of_ble_eq_true rfl, Nat.le_of_ble_eq_true rfl⟩) Ev0_ok hE hK hS (Cut.all hP hD hS hA) rfl rfl rfl hl.1 rfl (Nat.le_of_ble_eq_true rfl) dX3_askBest_69 ⟨Nat.le_of_ble_eq_true rfl, Nat.le_of_ble_eq_true rfl⟩) hS (Cut.all hP hD hS hA) (fun r_17 u_18 H locs hq_69 hP hD hS => ?_)
            obtain ⟨ta1_19, out1_20⟩ := u_18
            have hP : va_P D vwCl (WM ca q (nI 0) (nI (pushL L C).length) ik ln (nI (no Z_)) pa iw so na nb (nI ((cnds Z_).length)) (nuI 0 (cnds Z_)) (bI (alB Z_ (cnds Z_))) (zOf (askC Z_ (bst Z_) (anC Z_ 0 (Z_ 39) (bst Z_)))) be1_5 ke te (nIf (tmN Z_ (cnds Z_))) ne wa ta1_19 out1_20 pl_ lo sh le) H := hP
            have hD : va_D A (WM ca q (nI 0) (nI (pushL L C).length) ik ln (nI (no Z_)) pa iw so na nb (nI ((cnds Z_).length)) (nuI 0 (cnds Z_)) (bI (alB Z_ (cnds Z_))) (zOf (askC Z_ (bst Z_) (anC Z_ 0 (Z_ 39) (bst Z_)))) be1_5 ke te (nIf (tmN Z_ (cnds Z_))) ne wa ta1_19 out1_20 pl_ lo sh le) := hD
            have hp_69 : r_17 = nI (anC Z_ 0 (Z_ 39) (bst Z_)) := hq_69
            clear hq_69
            obtain rfl := hp_69
            refine lv_pop hx hb dX3_askBest_72 rfl ?_
            have hSm2 : Sm C (askC Z_ (bst Z_) (anC Z_ 0 (Z_ 39) (bst Z_))) := Sm_ask hSm c_54 (bst_lt Z_)
            have hZ2 : ∀ k, k < 12 → (askC Z_ (bst Z_) (anC Z_ 0 (Z_ 39) (bst Z_))) (54 + k) < 16 := ask16 hZ16 c_54 (anC_lt (by unfold no; rw [hSm.1 0 (by omega), hSm.1 37 (by omega)]; exact hnc))
            refine lv_iinc (v := nI (n + 1)) (lv' := [(2, .int (nI (n + 1))), (0, .ref (q 0)), (1, .int (nI m_))]) hx hb dX3_askBest_73 hl (k := 0) rfl (nI_add n 1) (by decide) rfl (fun ls hl => ?_)
            refine lv_aload_n hx hb dX3_askBest_76 rfl (lv_at hl 1 rfl) ?_
            refine lv_iconst (v := fI 0) hx hb dX3_askBest_77 (by decide) ?_
            refine lv_iconst (v := nI 1) hx hb dX3_askBest_78 (by decide) ?_
            refine xc_v (xr_V (b := q 0) (ci := 2) (q0 := 0) (As := [.int (fI 0), .int (nI 1)]) (rest := []) (mt_X3_goThrough_c l D ca q (nI 0) (nI (pushL L C).length) ik ln (nI (no Z_)) pa iw so na nb (nI ((cnds Z_).length)) (nuI 0 (cnds Z_)) (bI (alB Z_ (cnds Z_))) be1_5 ke te (nIf (tmN Z_ (cnds Z_))) ne wa ta1_19 out1_20 pl_ lo sh le (askC Z_ (bst Z_) (anC Z_ 0 (Z_ 39) (bst Z_))) 0 (by rw [(hSm2).1 0 (by omega)]; exact h0) (fun k hk => by rw [(hSm2).1 _ (by omega)]; exact hkd0 k hk) (fun k hk => by rw [(hSm2).1 _ (by omega), (hSm2).1 _ (by omega)]; exact hse k hk) (by rw [(hSm2).1 37 (by omega)]; exact ho) (by rw [(hSm2).1 38 (by omega)]; exact hbx) (by rw [(hSm2).1 37 (by omega)]; exact hno) (by rw [(hSm2).1 38 (by omega)]; exact hnb) (hSm2).2.1 (hSm2).2.2 (by rw [(hSm2).1 40 (by omega)]; exact h40) hZ2 (by omega) H.size) ⟨hx, hb, hml, hown, hts⟩ (cwV 2 hts (lw_V q1804 q1806 qs59 q87 q1807) rfl rfl rfl (by decide +kernel) ⟨Nat.le_of_ble_eq_true rfl, Nat.le_of_ble_eq_true rfl⟩) Ev0_ok hE hK hS (Cut.all hP hD hS hA) rfl rfl rfl hl.1 rfl (Nat.le_of_ble_eq_true rfl) dX3_askBest_79 ⟨Nat.le_of_ble_eq_true rfl, Nat.le_of_ble_eq_true rfl⟩) hS (Cut.all hP hD hS hA) (fun u_22 H locs hq_79 hP hD hS => ?_)
            obtain ⟨ta1_23, out1_24, ou1_25, pl1_26⟩ := u_22
            have hP : va_P D vwCl (WM ca q (nI 0) (nI (pushL L C).length) ik ln ou1_25 pa iw so na nb (nI ((cnds (askC Z_ (bst Z_) (anC Z_ 0 (Z_ 39) (bst Z_)))).length)) (nuI 0 (cnds (askC Z_ (bst Z_) (anC Z_ 0 (Z_ 39) (bst Z_))))) (bI (alB (askC Z_ (bst Z_) (anC Z_ 0 (Z_ 39) (bst Z_))) (cnds (askC Z_ (bst Z_) (anC Z_ 0 (Z_ 39) (bst Z_)))))) (zOf (askC Z_ (bst Z_) (anC Z_ 0 (Z_ 39) (bst Z_)))) be1_5 ke te (nIf (tmN (askC Z_ (bst Z_) (anC Z_ 0 (Z_ 39) (bst Z_))) (cnds (askC Z_ (bst Z_) (anC Z_ 0 (Z_ 39) (bst Z_)))))) ne wa ta1_23 out1_24 pl1_26 lo sh le) H := hP
            have hD : va_D A (WM ca q (nI 0) (nI (pushL L C).length) ik ln ou1_25 pa iw so na nb (nI ((cnds (askC Z_ (bst Z_) (anC Z_ 0 (Z_ 39) (bst Z_)))).length)) (nuI 0 (cnds (askC Z_ (bst Z_) (anC Z_ 0 (Z_ 39) (bst Z_))))) (bI (alB (askC Z_ (bst Z_) (anC Z_ 0 (Z_ 39) (bst Z_))) (cnds (askC Z_ (bst Z_) (anC Z_ 0 (Z_ 39) (bst Z_)))))) (zOf (askC Z_ (bst Z_) (anC Z_ 0 (Z_ 39) (bst Z_)))) be1_5 ke te (nIf (tmN (askC Z_ (bst Z_) (anC Z_ 0 (Z_ 39) (bst Z_))) (cnds (askC Z_ (bst Z_) (anC Z_ 0 (Z_ 39) (bst Z_)))))) ne wa ta1_23 out1_24 pl1_26 lo sh le) := hD
            refine lv_goto (tgt := 40) hx hb dX3_askBest_82 (by decide) ?_
            exact ih_40  (n + 1) (askC Z_ (bst Z_) (anC Z_ 0 (Z_ 39) (bst Z_))) ta1_23 out1_24 ou1_25 pl1_26 (by omega) (by omega) hSm2 hZ2 (by have h_ : m_ - n = (m_ - (n + 1)) + 1 := (by omega); rw [← hF, h_, abF_s c_54 c_61]) (by have h_ : m_ - n = (m_ - (n + 1)) + 1 := (by omega); rw [← hN, h_, abN_s c_54 c_61]; omega) _ _ hP hD hS ls (lv_sub hl [0, 1, 2] rfl)
  exact lp_40 (m_ - 0 + 1) 0 C ta1_8 out1_9 ou1_10 pl1_11 (Nat.lt_succ_self _) (by omega) ⟨fun _ _ => rfl, hak, ht64⟩ ha16 rfl (Nat.zero_add _) _ _ hP hD hS ls (lv_sub hl [0, 1, 2] rfl)
set_option maxHeartbeats 4000000 in
set_option maxRecDepth 100000 in
theorem mt_X3_askBest_no (l : Launch) (D : va_G) (ca : Nat → ClassId) (q : Nat → Nat) (th : Int32) (st : Int32) (ik : Int32) (ln : Int32) (ou : Int32) (pa : Int32) (iw : Int32) (so : Int32) (na : Int32) (nb : Int32) (fo : Int32) (nu : Int32) (al : Int32) (z : Nat → Int32) (be : Nat → Int32) (ke : Nat → Int32) (te : Nat → Int32) (ti : Nat → Int32) (ne : Nat → Int32) (wa : Nat → Int32) (ta : Nat → Int64) (out : Nat → Int64) (pl : Nat → Int64) (lo : Nat → Int64) (sh : Nat → Int64) (le : Nat → Int64) (x_ : Int32) (hc : decide (nI 1 ≤ x_ ∧ x_ ≤ nI 12) = false) (nn : Nat) : Met l yX3_askBest (ws_ yX3_askBest cX3_askBest 3 (Option.some Jvm.ClassFile.FieldType.int)) ({ frames := 1, cells := 0, slots := 0, locals := 22 } : Room) (va_Pc [.ref (q 0), .int x_] (PreW Ev0 D vwCl (TY ca) (WM ca q th st ik ln ou pa iw so na nb fo nu al z be ke te ti ne wa ta out pl lo sh le) nn)) (va_Qi (fun (r_ : Int32) (_ : Unit) => r_ = nI 0) (PostW D vwCl (TY ca) (fun (_ : Unit) => (WM ca q (nI 1) st ik ln ou pa iw so na nb fo nu al z be ke te ti ne wa ta out pl lo sh le)) (va_A (WM ca q th st ik ln ou pa iw so na nb fo nu al z be ke te ti ne wa ta out pl lo sh le) nn)) (va_A (WM ca q th st ik ln ou pa iw so na nb fo nu al z be ke te ti ne wa ta out pl lo sh le) nn)) 0 0 (va_A (WM ca q th st ik ln ou pa iw so na nb fo nu al z be ke te ti ne wa ta out pl lo sh le) nn) := by
  refine met_go (QA := fun A => va_Qi (fun (r_ : Int32) (_ : Unit) => r_ = nI 0) (PostW D vwCl (TY ca) (fun (_ : Unit) => (WM ca q (nI 1) st ik ln ou pa iw so na nb fo nu al z be ke te ti ne wa ta out pl lo sh le)) A) A) (by decide) (Nat.le_of_ble_eq_true rfl) (fun p e s m below meth c A ls QQ hQQ hx hb hr hts hown hlocks hml hA hP hK hD hE hl => ?_)
  have hown : s.vm.findClass RX3 = some m.cls := hown
  have hS : va_S A s.heap s.heap [] := va_S.rf
  have hl : lv_has ls 3 [(0, .ref (q 0)), (1, .int x_)] := hl
  generalize hHe : s.heap = H at hP ⊢
  have hS : va_S A s.heap H [] := hHe ▸ hS
  generalize ([] : List Loc) = locs at hS ⊢
  refine lv_aload_n hx hb dX3_askBest_0 rfl (lv_at hl 0 rfl) ?_
  refine lv_iload_n hx hb dX3_askBest_1 rfl (lv_at hl 1 rfl) ?_
  refine lv_iconst (v := nI 1) hx hb dX3_askBest_2 (by decide) ?_
  refine lv_bipush (v := nI 12) hx hb dX3_askBest_3 (by decide) ?_
  refine xc_i (xr_S (As := [.int x_, .int (nI 1), .int (nI 12)]) (rest := [.ref (q 0)]) (mt_X3_in l D ca x_ (nI 1) (nI 12)  H.size) ⟨hx, hb, hml, hown, hts⟩ (va_cwS 3 hts (lw_S q1700 q1701 q87 q1702) rfl rfl rfl (by decide +kernel) ⟨Nat.le_of_ble_eq_true rfl, Nat.le_of_ble_eq_true rfl⟩) Ev0_ok hE hK hS (Cut.app (wc := []) (wr := (WM ca q th st ik ln ou pa iw so na nb fo nu al z be ke te ti ne wa ta out pl lo sh le)) hP hD hS hA) rfl hl.1 rfl (Nat.le_of_ble_eq_true rfl) dX3_askBest_5 ⟨Nat.le_of_ble_eq_true rfl, Nat.le_of_ble_eq_true rfl⟩) hS (Cut.app (wc := []) (wr := (WM ca q th st ik ln ou pa iw so na nb fo nu al z be ke te ti ne wa ta out pl lo sh le)) hP hD hS hA) (fun r_1 u_2 H locs hq_5 hP hD hS => ?_)
  have hP : va_P D vwCl (WM ca q th st ik ln ou pa iw so na nb fo nu al z be ke te ti ne wa ta out pl lo sh le) H := hP
  have hD : va_D A (WM ca q th st ik ln ou pa iw so na nb fo nu al z be ke te ti ne wa ta out pl lo sh le) := hD
  have hp_5 : r_1 = bI (decide ((nI 1) ≤ x_ ∧ x_ ≤ (nI 12))) := hq_5
  clear hq_5
  obtain rfl := hp_5
  refine nv_ifb_eq (tgt := 15) hx hb dX3_askBest_8 (by decide) (fun c_8 => ?_) (fun c_8 => (absurd c_8 (by rw [hc]; decide)))
  refine lv_iconst (v := nI 1) hx hb dX3_askBest_15 (by decide) ?_
  refine pWM_0_thrown_X3 hx hb hts hown hK hP hD hS dX3_askBest_16 (fun H locs hP hD hS => ?_)
  refine lv_aload_n hx hb dX3_askBest_19 rfl (lv_at hl 0 rfl) ?_
  refine gWM_0_thrown_X3 hx hb hts hown hK hP dX3_askBest_20 ?_
  refine nv_if_le (tgt := 28) hx hb dX3_askBest_23 (by decide) (by omega) (fun c_23 => absurd c_23 (by decide)) (fun c_23 => ?_)
  refine lv_iconst (v := nI 0) hx hb dX3_askBest_26 (by decide) ?_
  subst hQQ
  exact xe_i (v := nI 0) () hx hb hr hlocks hK hP hD hS (rfl) dX3_askBest_27
