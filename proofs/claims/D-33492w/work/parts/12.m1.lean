/-! contracts of the model: leaves -/
set_option maxRecDepth 100000
set_option maxHeartbeats 4000000 in
set_option maxRecDepth 100000 in
theorem mt_X3_thrown (l : Launch) (D : va_G) (ca : Nat → ClassId) (q : Nat → Nat) (th : Int32) (st : Int32) (ik : Int32) (ln : Int32) (ou : Int32) (pa : Int32) (iw : Int32) (so : Int32) (na : Int32) (nb : Int32) (fo : Int32) (nu : Int32) (al : Int32) (z : Nat → Int32) (be : Nat → Int32) (ke : Nat → Int32) (te : Nat → Int32) (ti : Nat → Int32) (ne : Nat → Int32) (wa : Nat → Int32) (ta : Nat → Int64) (out : Nat → Int64) (pl : Nat → Int64) (lo : Nat → Int64) (sh : Nat → Int64) (le : Nat → Int64)  (nn : Nat) : Met l yX3_thrown (ws_ yX3_thrown cX3_thrown 1 (Option.some Jvm.ClassFile.FieldType.int)) ({ frames := 0, cells := 0, slots := 0, locals := 0 } : Room) (va_Pc [.ref (q 0)] (PreW Ev0 D vwCl (TY ca) (WM ca q th st ik ln ou pa iw so na nb fo nu al z be ke te ti ne wa ta out pl lo sh le) nn)) (va_Qi (fun (r_ : Int32) (_ : Unit) => r_ = th) (PostW D vwCl (TY ca) (fun (_ : Unit) => (WM ca q th st ik ln ou pa iw so na nb fo nu al z be ke te ti ne wa ta out pl lo sh le)) (va_A (WM ca q th st ik ln ou pa iw so na nb fo nu al z be ke te ti ne wa ta out pl lo sh le) nn)) (va_A (WM ca q th st ik ln ou pa iw so na nb fo nu al z be ke te ti ne wa ta out pl lo sh le) nn)) 0 0 (va_A (WM ca q th st ik ln ou pa iw so na nb fo nu al z be ke te ti ne wa ta out pl lo sh le) nn) := by
  refine met_go (QA := fun A => va_Qi (fun (r_ : Int32) (_ : Unit) => r_ = th) (PostW D vwCl (TY ca) (fun (_ : Unit) => (WM ca q th st ik ln ou pa iw so na nb fo nu al z be ke te ti ne wa ta out pl lo sh le)) A) A) (by decide) (Nat.le_of_ble_eq_true rfl) (fun p e s m below meth c A ls QQ hQQ hx hb hr hts hown hlocks hml hA hP hK hD hE hl => ?_)
  have hown : s.vm.findClass RX3 = some m.cls := hown
  have hS : va_S A s.heap s.heap [] := va_S.rf
  have hl : lv_has ls 1 [(0, .ref (q 0))] := hl
  generalize hHe : s.heap = H at hP ⊢
  have hS : va_S A s.heap H [] := hHe ▸ hS
  generalize ([] : List Loc) = locs at hS ⊢
  refine lv_aload_n hx hb dX3_thrown_0 rfl (lv_at hl 0 rfl) ?_
  refine gWM_0_thrown_X3 hx hb hts hown hK hP dX3_thrown_1 ?_
  subst hQQ
  exact xe_i (v := th) () hx hb hr hlocks hK hP hD hS (rfl) dX3_thrown_4
set_option maxHeartbeats 4000000 in
set_option maxRecDepth 100000 in
theorem mt_X3_in (l : Launch) (D : va_G) (ca : Nat → ClassId) (v_ : Int32) (lo_ : Int32) (hi_ : Int32)  (nn : Nat) : Met l yX3_in (ws_ yX3_in cX3_in 3 (Option.some Jvm.ClassFile.FieldType.boolean)) ({ frames := 0, cells := 0, slots := 0, locals := 0 } : Room) (va_Pc [.int v_, .int lo_, .int hi_] (PreW Ev0 D vwCl (TY ca) ([] : va_W) nn)) (va_Qi (fun (r_ : Int32) (_ : Unit) => r_ = bI (decide (lo_ ≤ v_ ∧ v_ ≤ hi_))) (PostW D vwCl (TY ca) (fun (_ : Unit) => ([] : va_W)) (va_A ([] : va_W) nn)) (va_A ([] : va_W) nn)) 0 0 (va_A ([] : va_W) nn) := by
  refine met_go (QA := fun A => va_Qi (fun (r_ : Int32) (_ : Unit) => r_ = bI (decide (lo_ ≤ v_ ∧ v_ ≤ hi_))) (PostW D vwCl (TY ca) (fun (_ : Unit) => ([] : va_W)) A) A) (by decide) (Nat.le_of_ble_eq_true rfl) (fun p e s m below meth c A ls QQ hQQ hx hb hr hts hown hlocks hml hA hP hK hD hE hl => ?_)
  have hown : s.vm.findClass RX3 = some m.cls := hown
  have hS : va_S A s.heap s.heap [] := va_S.rf
  have hl : lv_has ls 3 [(0, .int v_), (1, .int lo_), (2, .int hi_)] := hl
  generalize hHe : s.heap = H at hP ⊢
  have hS : va_S A s.heap H [] := hHe ▸ hS
  generalize ([] : List Loc) = locs at hS ⊢
  refine lv_iload_n hx hb dX3_in_0 rfl (lv_at hl 0 rfl) ?_
  refine lv_iload_n hx hb dX3_in_1 rfl (lv_at hl 1 rfl) ?_
  refine lv_icmp_lt (tgt := 14) hx hb dX3_in_2 (by decide) (fun c_2 => ?_) (fun c_2 => ?_)
  · skip
    refine lv_iconst (v := nI 0) hx hb dX3_in_14 (by decide) ?_
    subst hQQ
    refine (xe_z (b := false) () hx hb hr hlocks hK hP hD hS (congrArg bI (by simp only [i32_lt, i32_le] at *; simp; omega)) dX3_in_15)
  · skip
    refine lv_iload_n hx hb dX3_in_5 rfl (lv_at hl 0 rfl) ?_
    refine lv_iload_n hx hb dX3_in_6 rfl (lv_at hl 2 rfl) ?_
    refine lv_icmp_gt (tgt := 14) hx hb dX3_in_7 (by decide) (fun c_7 => ?_) (fun c_7 => ?_)
    · skip
      refine lv_iconst (v := nI 0) hx hb dX3_in_14 (by decide) ?_
      subst hQQ
      refine (xe_z (b := false) () hx hb hr hlocks hK hP hD hS (congrArg bI (by simp only [i32_lt, i32_le] at *; simp; omega)) dX3_in_15)
    · skip
      refine lv_iconst (v := nI 1) hx hb dX3_in_10 (by decide) ?_
      refine lv_goto (tgt := 15) hx hb dX3_in_11 (by decide) ?_
      subst hQQ
      refine (xe_z (b := true) () hx hb hr hlocks hK hP hD hS (congrArg bI (by simp only [i32_lt, i32_le] at *; simp; omega)) dX3_in_15)
set_option maxHeartbeats 4000000 in
set_option maxRecDepth 100000 in
theorem mt_X3_has (l : Launch) (D : va_G) (ca : Nat → ClassId) (set_ : Nat) (k_ : Nat) (hk : k_ < 32) (hs : set_ < 2 ^ 31) (nn : Nat) : Met l yX3_has (ws_ yX3_has cX3_has 2 (Option.some Jvm.ClassFile.FieldType.boolean)) ({ frames := 0, cells := 0, slots := 0, locals := 0 } : Room) (va_Pc [.int (nI set_), .int (nI k_)] (PreW Ev0 D vwCl (TY ca) ([] : va_W) nn)) (va_Qi (fun (r_ : Int32) (_ : Unit) => r_ = bI (set_.testBit k_)) (PostW D vwCl (TY ca) (fun (_ : Unit) => ([] : va_W)) (va_A ([] : va_W) nn)) (va_A ([] : va_W) nn)) 0 0 (va_A ([] : va_W) nn) := by
  refine met_go (QA := fun A => va_Qi (fun (r_ : Int32) (_ : Unit) => r_ = bI (set_.testBit k_)) (PostW D vwCl (TY ca) (fun (_ : Unit) => ([] : va_W)) A) A) (by decide) (Nat.le_of_ble_eq_true rfl) (fun p e s m below meth c A ls QQ hQQ hx hb hr hts hown hlocks hml hA hP hK hD hE hl => ?_)
  have hown : s.vm.findClass RX3 = some m.cls := hown
  have hS : va_S A s.heap s.heap [] := va_S.rf
  have hl : lv_has ls 2 [(0, .int (nI set_)), (1, .int (nI k_))] := hl
  generalize hHe : s.heap = H at hP ⊢
  have hS : va_S A s.heap H [] := hHe ▸ hS
  generalize ([] : List Loc) = locs at hS ⊢
  refine lv_iload_n hx hb dX3_has_0 rfl (lv_at hl 0 rfl) ?_
  refine lv_iload_n hx hb dX3_has_1 rfl (lv_at hl 1 rfl) ?_
  refine nv_ishr hx hb dX3_has_2 (by omega) (by omega) ?_
  refine lv_iconst (v := nI 1) hx hb dX3_has_3 (by decide) ?_
  refine nv_iand hx hb dX3_has_4 ?_
  refine lv_iconst (v := nI 1) hx hb dX3_has_5 (by decide) ?_
  refine nv_icmp_ne (tgt := 13) hx hb dX3_has_6 (by decide) (by have := tb_le set_ k_; omega) (by omega) (fun c_6 => ?_) (fun c_6 => ?_)
  · skip
    refine lv_iconst (v := nI 0) hx hb dX3_has_13 (by decide) ?_
    subst hQQ
    refine (xe_z (b := false) () hx hb hr hlocks hK hP hD hS (congrArg bI (by first | exact (tb_1.mp (by assumption)).symm | (cases hz : set_.testBit k_ with | false => rfl | true => exact absurd (tb_1.mpr hz) (by assumption)))) dX3_has_14)
  · skip
    refine lv_iconst (v := nI 1) hx hb dX3_has_9 (by decide) ?_
    refine lv_goto (tgt := 14) hx hb dX3_has_10 (by decide) ?_
    subst hQQ
    refine (xe_z (b := true) () hx hb hr hlocks hK hP hD hS (congrArg bI (by first | exact (tb_1.mp (by assumption)).symm | (cases hz : set_.testBit k_ with | false => rfl | true => exact absurd (tb_1.mpr hz) (by assumption)))) dX3_has_14)
set_option maxHeartbeats 4000000 in
set_option maxRecDepth 100000 in
theorem mt_X3_count (l : Launch) (D : va_G) (ca : Nat → ClassId) (set_ : Nat) (hs : set_ < 2 ^ 31) (nn : Nat) : Met l yX3_count (ws_ yX3_count cX3_count 3 (Option.some Jvm.ClassFile.FieldType.int)) ({ frames := 0, cells := 0, slots := 0, locals := 0 } : Room) (va_Pc [.int (nI set_)] (PreW Ev0 D vwCl (TY ca) ([] : va_W) nn)) (va_Qi (fun (r_ : Int32) (_ : Unit) => r_ = nI (popc 18 set_)) (PostW D vwCl (TY ca) (fun (_ : Unit) => ([] : va_W)) (va_A ([] : va_W) nn)) (va_A ([] : va_W) nn)) 0 0 (va_A ([] : va_W) nn) := by
  refine met_go (QA := fun A => va_Qi (fun (r_ : Int32) (_ : Unit) => r_ = nI (popc 18 set_)) (PostW D vwCl (TY ca) (fun (_ : Unit) => ([] : va_W)) A) A) (by decide) (Nat.le_of_ble_eq_true rfl) (fun p e s m below meth c A ls QQ hQQ hx hb hr hts hown hlocks hml hA hP hK hD hE hl => ?_)
  have hown : s.vm.findClass RX3 = some m.cls := hown
  have hS : va_S A s.heap s.heap [] := va_S.rf
  have hl : lv_has ls 3 [(0, .int (nI set_))] := hl
  generalize hHe : s.heap = H at hP ⊢
  have hS : va_S A s.heap H [] := hHe ▸ hS
  generalize ([] : List Loc) = locs at hS ⊢
  refine lv_iconst (v := nI 0) hx hb dX3_count_0 (by decide) ?_
  refine lv_istore_n (lv' := [(1, .int (nI 0)), (0, .int (nI set_))]) hx hb dX3_count_1 rfl hl (by decide) rfl (fun ls hl => ?_)
  refine lv_iconst (v := nI 0) hx hb dX3_count_2 (by decide) ?_
  refine lv_istore_n (lv' := [(2, .int (nI 0)), (1, .int (nI 0)), (0, .int (nI set_))]) hx hb dX3_count_3 rfl hl (by decide) rfl (fun ls hl => ?_)
  have lp_4 : ∀ (fu_4 : Nat) (i : Nat), 18 - i < fu_4 → (i ≤ 18) → ∀ (H : Heap) (locs : List Loc), va_P D vwCl ([] : va_W) H → va_D A ([] : va_W) → va_S A s.heap H locs → ∀ (ls : Array Slot), lv_has ls 3 [(2, .int (nI i)), (1, .int (nI (popc i set_))), (0, .int (nI set_))] → W p l e ({ frames := 0, cells := 0, slots := 0, locals := 0 } : Room) s m ([.int (nI set_)] : List Value).toArray below meth c H locs 0 0 QQ (F0 m 4 ls []) := by
    intro fu_4
    induction fu_4 with
    | zero => intro i hfu; exact absurd hfu (Nat.not_lt_zero _)
    | succ fu_4 ih_4 =>
      intro i hfu hi H locs hP hD hS ls hl
      refine lv_iload_n hx hb dX3_count_4 rfl (lv_at hl 0 rfl) ?_
      refine lv_bipush (v := nI 18) hx hb dX3_count_5 (by decide) ?_
      refine nv_icmp_ge (tgt := 24) hx hb dX3_count_7 (by decide) (by omega) (by omega) (fun c_7 => ?_) (fun c_7 => ?_)
      · skip
        have e_ : 18 = i := Eq.symm (by omega)
        subst e_
        refine lv_iload_n hx hb dX3_count_24 rfl (lv_at hl 1 rfl) ?_
        subst hQQ
        exact xe_i (v := nI (popc 18 set_)) () hx hb hr hlocks hK hP hD hS (rfl) dX3_count_25
      · skip
        refine lv_iload_n hx hb dX3_count_10 rfl (lv_at hl 1 rfl) ?_
        refine lv_iload_n hx hb dX3_count_11 rfl (lv_at hl 2 rfl) ?_
        refine lv_iload_n hx hb dX3_count_12 rfl (lv_at hl 0 rfl) ?_
        refine nv_ishr hx hb dX3_count_13 (by omega) (by omega) ?_
        refine lv_iconst (v := nI 1) hx hb dX3_count_14 (by decide) ?_
        refine nv_iand hx hb dX3_count_15 ?_
        refine nv_iadd hx hb dX3_count_16 ?_
        refine lv_istore_n (lv' := [(1, .int (nI ((popc i set_) + ((set_ >>> i) &&& 1)))), (2, .int (nI i)), (0, .int (nI set_))]) hx hb dX3_count_17 rfl hl (by decide) rfl (fun ls hl => ?_)
        refine lv_iinc (v := nI (i + 1)) (lv' := [(2, .int (nI (i + 1))), (1, .int (nI ((popc i set_) + ((set_ >>> i) &&& 1)))), (0, .int (nI set_))]) hx hb dX3_count_18 hl (k := 1) rfl (nI_add i 1) (by decide) rfl (fun ls hl => ?_)
        refine lv_goto (tgt := 4) hx hb dX3_count_21 (by decide) ?_
        exact ih_4  (i + 1) (by omega) (by omega) _ _ hP hD hS ls (lv_sub hl [0, 1, 2] rfl)
  exact lp_4 (18 - 0 + 1) 0 (Nat.lt_succ_self _) (by omega) _ _ hP hD hS ls (lv_sub hl [0, 1, 2] rfl)
set_option maxHeartbeats 4000000 in
set_option maxRecDepth 100000 in
theorem mt_X3_countLong (l : Launch) (D : va_G) (ca : Nat → ClassId) (set_ : Int64)  (nn : Nat) : Met l yX3_countLong (ws_ yX3_countLong cX3_countLong 4 (Option.some Jvm.ClassFile.FieldType.int)) ({ frames := 0, cells := 0, slots := 0, locals := 0 } : Room) (va_Pc [.long set_] (PreW Ev0 D vwCl (TY ca) ([] : va_W) nn)) (va_Qi (fun (r_ : Int32) (_ : Unit) => r_ = nI (popl 64 set_)) (PostW D vwCl (TY ca) (fun (_ : Unit) => ([] : va_W)) (va_A ([] : va_W) nn)) (va_A ([] : va_W) nn)) 0 0 (va_A ([] : va_W) nn) := by
  refine met_go (QA := fun A => va_Qi (fun (r_ : Int32) (_ : Unit) => r_ = nI (popl 64 set_)) (PostW D vwCl (TY ca) (fun (_ : Unit) => ([] : va_W)) A) A) (by decide) (Nat.le_of_ble_eq_true rfl) (fun p e s m below meth c A ls QQ hQQ hx hb hr hts hown hlocks hml hA hP hK hD hE hl => ?_)
  have hown : s.vm.findClass RX3 = some m.cls := hown
  have hS : va_S A s.heap s.heap [] := va_S.rf
  have hl : lv_has ls 4 [(0, .long set_)] := hl
  generalize hHe : s.heap = H at hP ⊢
  have hS : va_S A s.heap H [] := hHe ▸ hS
  generalize ([] : List Loc) = locs at hS ⊢
  refine lv_iconst (v := nI 0) hx hb dX3_countLong_0 (by decide) ?_
  refine lv_istore_n (lv' := [(2, .int (nI 0)), (0, .long set_)]) hx hb dX3_countLong_1 rfl hl (by decide) rfl (fun ls hl => ?_)
  refine lv_iconst (v := nI 0) hx hb dX3_countLong_2 (by decide) ?_
  refine lv_istore_n (lv' := [(3, .int (nI 0)), (2, .int (nI 0)), (0, .long set_)]) hx hb dX3_countLong_3 rfl hl (by decide) rfl (fun ls hl => ?_)
  have lp_4 : ∀ (fu_4 : Nat) (i : Nat), 64 - i < fu_4 → (i ≤ 64) → ∀ (H : Heap) (locs : List Loc), va_P D vwCl ([] : va_W) H → va_D A ([] : va_W) → va_S A s.heap H locs → ∀ (ls : Array Slot), lv_has ls 4 [(3, .int (nI i)), (2, .int (nI (popl i set_))), (0, .long set_)] → W p l e ({ frames := 0, cells := 0, slots := 0, locals := 0 } : Room) s m ([.long set_] : List Value).toArray below meth c H locs 0 0 QQ (F0 m 4 ls []) := by
    intro fu_4
    induction fu_4 with
    | zero => intro i hfu; exact absurd hfu (Nat.not_lt_zero _)
    | succ fu_4 ih_4 =>
      intro i hfu hi H locs hP hD hS ls hl
      refine lv_iload_n hx hb dX3_countLong_4 rfl (lv_at hl 0 rfl) ?_
      refine lv_bipush (v := nI 64) hx hb dX3_countLong_5 (by decide) ?_
      refine nv_icmp_ge (tgt := 25) hx hb dX3_countLong_7 (by decide) (by omega) (by omega) (fun c_7 => ?_) (fun c_7 => ?_)
      · skip
        have e_ : 64 = i := Eq.symm (by omega)
        subst e_
        refine lv_iload_n hx hb dX3_countLong_25 rfl (lv_at hl 1 rfl) ?_
        subst hQQ
        exact xe_i (v := nI (popl 64 set_)) () hx hb hr hlocks hK hP hD hS (rfl) dX3_countLong_26
      · skip
        refine lv_iload_n hx hb dX3_countLong_10 rfl (lv_at hl 1 rfl) ?_
        refine lv_lload_n hx hb dX3_countLong_11 rfl (lv_at hl 2 rfl) ?_
        refine lv_iload_n hx hb dX3_countLong_12 rfl (lv_at hl 0 rfl) ?_
        refine lv_lushr (v := ush64 set_ i) hx hb dX3_countLong_13 rfl ?_
        refine lv_lconst (v := lN 1) hx hb dX3_countLong_14 (by decide) ?_
        refine lv_land hx hb dX3_countLong_15 ?_
        refine lv_topl (nm_r (e' := lN (b2n (bit64 set_ i))) (ush_1 set_ (by omega)) ?_)
        refine lv_l2i (v := nI (b2n (bit64 set_ i))) hx hb dX3_countLong_16 (lN_i _) ?_
        refine nv_iadd hx hb dX3_countLong_17 ?_
        refine lv_istore_n (lv' := [(2, .int (nI ((popl i set_) + (b2n (bit64 set_ i))))), (3, .int (nI i)), (0, .long set_)]) hx hb dX3_countLong_18 rfl hl (by decide) rfl (fun ls hl => ?_)
        refine lv_iinc (v := nI (i + 1)) (lv' := [(3, .int (nI (i + 1))), (2, .int (nI ((popl i set_) + (b2n (bit64 set_ i))))), (0, .long set_)]) hx hb dX3_countLong_19 hl (k := 1) rfl (nI_add i 1) (by decide) rfl (fun ls hl => ?_)
        refine lv_goto (tgt := 4) hx hb dX3_countLong_22 (by decide) ?_
        exact ih_4  (i + 1) (by omega) (by omega) _ _ hP hD hS ls (lv_sub hl [0, 1, 2] rfl)
  exact lp_4 (64 - 0 + 1) 0 (Nat.lt_succ_self _) (by omega) _ _ hP hD hS ls (lv_sub hl [0, 1, 2] rfl)
set_option maxHeartbeats 4000000 in
set_option maxRecDepth 100000 in
theorem mt_X3_lines (l : Launch) (D : va_G) (ca : Nat → ClassId) (q : Nat → Nat) (th : Int32) (st : Int32) (ik : Int32) (ln : Int32) (ou : Int32) (pa : Int32) (iw : Int32) (so : Int32) (na : Int32) (nb : Int32) (fo : Int32) (nu : Int32) (al : Int32) (be : Nat → Int32) (ke : Nat → Int32) (te : Nat → Int32) (ti : Nat → Int32) (ne : Nat → Int32) (wa : Nat → Int32) (ta : Nat → Int64) (out : Nat → Int64) (pl : Nat → Int64) (lo : Nat → Int64) (sh : Nat → Int64) (le : Nat → Int64) (C : Nat → Nat)  (nn : Nat) : Met l yX3_lines (ws_ yX3_lines cX3_lines 1 (Option.some Jvm.ClassFile.FieldType.int)) ({ frames := 0, cells := 0, slots := 0, locals := 0 } : Room) (va_Pc [.ref (q 0)] (PreW Ev0 D vwCl (TY ca) (WM ca q th st ik ln ou pa iw so na nb fo nu al (zOf C) be ke te ti ne wa ta out pl lo sh le) nn)) (va_Qi (fun (r_ : Int32) (_ : Unit) => r_ = nI (6 + C 0)) (PostW D vwCl (TY ca) (fun (_ : Unit) => (WM ca q th st ik ln ou pa iw so na nb fo nu al (zOf C) be ke te ti ne wa ta out pl lo sh le)) (va_A (WM ca q th st ik ln ou pa iw so na nb fo nu al (zOf C) be ke te ti ne wa ta out pl lo sh le) nn)) (va_A (WM ca q th st ik ln ou pa iw so na nb fo nu al (zOf C) be ke te ti ne wa ta out pl lo sh le) nn)) 0 0 (va_A (WM ca q th st ik ln ou pa iw so na nb fo nu al (zOf C) be ke te ti ne wa ta out pl lo sh le) nn) := by
  refine met_go (QA := fun A => va_Qi (fun (r_ : Int32) (_ : Unit) => r_ = nI (6 + C 0)) (PostW D vwCl (TY ca) (fun (_ : Unit) => (WM ca q th st ik ln ou pa iw so na nb fo nu al (zOf C) be ke te ti ne wa ta out pl lo sh le)) A) A) (by decide) (Nat.le_of_ble_eq_true rfl) (fun p e s m below meth c A ls QQ hQQ hx hb hr hts hown hlocks hml hA hP hK hD hE hl => ?_)
  have hown : s.vm.findClass RX3 = some m.cls := hown
  have hS : va_S A s.heap s.heap [] := va_S.rf
  have hl : lv_has ls 1 [(0, .ref (q 0))] := hl
  generalize hHe : s.heap = H at hP ⊢
  have hS : va_S A s.heap H [] := hHe ▸ hS
  generalize ([] : List Loc) = locs at hS ⊢
  refine lv_bipush (v := nI 6) hx hb dX3_lines_0 (by decide) ?_
  refine lv_aload_n hx hb dX3_lines_2 rfl (lv_at hl 0 rfl) ?_
  refine gWM_0_z_X3 hx hb hts hown hK hP dX3_lines_3 ?_
  refine lv_iconst (v := nI 0) hx hb dX3_lines_6 (by decide) ?_
  refine ldWM_1 hx hb hK hP (by omega) dX3_lines_7 ?_
  refine lv_topi (nm_r (e' := nI (C 0)) (rfl) ?_)
  refine nv_iadd hx hb dX3_lines_8 ?_
  subst hQQ
  exact xe_i (v := nI (6 + (C 0))) () hx hb hr hlocks hK hP hD hS (rfl) dX3_lines_9
set_option maxHeartbeats 4000000 in
set_option maxRecDepth 100000 in
theorem mt_X3_isLine (l : Launch) (D : va_G) (ca : Nat → ClassId) (q : Nat → Nat) (th : Int32) (st : Int32) (ik : Int32) (ln : Int32) (ou : Int32) (pa : Int32) (iw : Int32) (so : Int32) (na : Int32) (nb : Int32) (fo : Int32) (nu : Int32) (al : Int32) (be : Nat → Int32) (ke : Nat → Int32) (te : Nat → Int32) (ti : Nat → Int32) (ne : Nat → Int32) (wa : Nat → Int32) (ta : Nat → Int64) (out : Nat → Int64) (pl : Nat → Int64) (lo : Nat → Int64) (sh : Nat → Int64) (le : Nat → Int64) (C : Nat → Nat) (x_ : Int32) (h0 : C 0 ≤ 12) (nn : Nat) : Met l yX3_isLine (ws_ yX3_isLine cX3_isLine 2 (Option.some Jvm.ClassFile.FieldType.boolean)) ({ frames := 1, cells := 0, slots := 0, locals := 22 } : Room) (va_Pc [.ref (q 0), .int x_] (PreW Ev0 D vwCl (TY ca) (WM ca q th st ik ln ou pa iw so na nb fo nu al (zOf C) be ke te ti ne wa ta out pl lo sh le) nn)) (va_Qi (fun (r_ : Int32) (_ : Unit) => r_ = bI (inR (6 + C 0) x_)) (PostW D vwCl (TY ca) (fun (_ : Unit) => (WM ca q th st ik ln ou pa iw so na nb fo nu al (zOf C) be ke te ti ne wa ta out pl lo sh le)) (va_A (WM ca q th st ik ln ou pa iw so na nb fo nu al (zOf C) be ke te ti ne wa ta out pl lo sh le) nn)) (va_A (WM ca q th st ik ln ou pa iw so na nb fo nu al (zOf C) be ke te ti ne wa ta out pl lo sh le) nn)) 0 0 (va_A (WM ca q th st ik ln ou pa iw so na nb fo nu al (zOf C) be ke te ti ne wa ta out pl lo sh le) nn) := by
  refine met_go (QA := fun A => va_Qi (fun (r_ : Int32) (_ : Unit) => r_ = bI (inR (6 + C 0) x_)) (PostW D vwCl (TY ca) (fun (_ : Unit) => (WM ca q th st ik ln ou pa iw so na nb fo nu al (zOf C) be ke te ti ne wa ta out pl lo sh le)) A) A) (by decide) (Nat.le_of_ble_eq_true rfl) (fun p e s m below meth c A ls QQ hQQ hx hb hr hts hown hlocks hml hA hP hK hD hE hl => ?_)
  have hown : s.vm.findClass RX3 = some m.cls := hown
  have hS : va_S A s.heap s.heap [] := va_S.rf
  have hl : lv_has ls 2 [(0, .ref (q 0)), (1, .int x_)] := hl
  generalize hHe : s.heap = H at hP ⊢
  have hS : va_S A s.heap H [] := hHe ▸ hS
  generalize ([] : List Loc) = locs at hS ⊢
  refine lv_iload_n hx hb dX3_isLine_0 rfl (lv_at hl 1 rfl) ?_
  refine lv_iconst (v := nI 0) hx hb dX3_isLine_1 (by decide) ?_
  refine lv_aload_n hx hb dX3_isLine_2 rfl (lv_at hl 0 rfl) ?_
  refine xc_i (xr_V (b := q 0) (ci := 2) (q0 := 0) (As := []) (rest := [.int (nI 0), .int x_]) (mt_X3_lines l D ca q th st ik ln ou pa iw so na nb fo nu al be ke te ti ne wa ta out pl lo sh le C  H.size) ⟨hx, hb, hml, hown, hts⟩ (cwV 0 hts (lw_V q1696 q1698 qs45 q87 q1699) rfl rfl rfl (by decide +kernel) ⟨Nat.le_of_ble_eq_true rfl, Nat.le_of_ble_eq_true rfl⟩) Ev0_ok hE hK hS (Cut.all hP hD hS hA) rfl rfl rfl hl.1 rfl (Nat.le_of_ble_eq_true rfl) dX3_isLine_3 ⟨Nat.le_of_ble_eq_true rfl, Nat.le_of_ble_eq_true rfl⟩) hS (Cut.all hP hD hS hA) (fun r_1 u_2 H locs hq_3 hP hD hS => ?_)
  have hP : va_P D vwCl (WM ca q th st ik ln ou pa iw so na nb fo nu al (zOf C) be ke te ti ne wa ta out pl lo sh le) H := hP
  have hD : va_D A (WM ca q th st ik ln ou pa iw so na nb fo nu al (zOf C) be ke te ti ne wa ta out pl lo sh le) := hD
  have hp_3 : r_1 = nI (6 + C 0) := hq_3
  clear hq_3
  obtain rfl := hp_3
  refine lv_iconst (v := nI 1) hx hb dX3_isLine_6 (by decide) ?_
  refine lv_isub hx hb dX3_isLine_7 ?_
  refine xc_i (xr_S (As := [.int x_, .int (nI 0), .int ((nI (6 + C 0)) - (nI 1))]) (rest := []) (mt_X3_in l D ca x_ (nI 0) ((nI (6 + C 0)) - (nI 1))  H.size) ⟨hx, hb, hml, hown, hts⟩ (va_cwS 3 hts (lw_S q1700 q1701 q87 q1702) rfl rfl rfl (by decide +kernel) ⟨Nat.le_of_ble_eq_true rfl, Nat.le_of_ble_eq_true rfl⟩) Ev0_ok hE hK hS (Cut.app (wc := []) (wr := (WM ca q th st ik ln ou pa iw so na nb fo nu al (zOf C) be ke te ti ne wa ta out pl lo sh le)) hP hD hS hA) rfl hl.1 rfl (Nat.le_of_ble_eq_true rfl) dX3_isLine_8 ⟨Nat.le_of_ble_eq_true rfl, Nat.le_of_ble_eq_true rfl⟩) hS (Cut.app (wc := []) (wr := (WM ca q th st ik ln ou pa iw so na nb fo nu al (zOf C) be ke te ti ne wa ta out pl lo sh le)) hP hD hS hA) (fun r_3 u_4 H locs hq_8 hP hD hS => ?_)
  have hP : va_P D vwCl (WM ca q th st ik ln ou pa iw so na nb fo nu al (zOf C) be ke te ti ne wa ta out pl lo sh le) H := hP
  have hD : va_D A (WM ca q th st ik ln ou pa iw so na nb fo nu al (zOf C) be ke te ti ne wa ta out pl lo sh le) := hD
  have hp_8 : r_3 = bI (decide ((nI 0) ≤ x_ ∧ x_ ≤ ((nI (6 + C 0)) - (nI 1)))) := hq_8
  clear hq_8
  obtain rfl := hp_8
  subst hQQ
  refine (xe_z (b := decide ((nI 0) ≤ x_ ∧ x_ ≤ ((nI (6 + C 0)) - (nI 1)))) () hx hb hr hlocks hK hP hD hS (congrArg bI (inR_end (by omega))) dX3_isLine_11)
set_option maxHeartbeats 4000000 in
set_option maxRecDepth 100000 in
theorem mt_X3_isGate (l : Launch) (D : va_G) (ca : Nat → ClassId) (q : Nat → Nat) (th : Int32) (st : Int32) (ik : Int32) (ln : Int32) (ou : Int32) (pa : Int32) (iw : Int32) (so : Int32) (na : Int32) (nb : Int32) (fo : Int32) (nu : Int32) (al : Int32) (be : Nat → Int32) (ke : Nat → Int32) (te : Nat → Int32) (ti : Nat → Int32) (ne : Nat → Int32) (wa : Nat → Int32) (ta : Nat → Int64) (out : Nat → Int64) (pl : Nat → Int64) (lo : Nat → Int64) (sh : Nat → Int64) (le : Nat → Int64) (C : Nat → Nat) (x_ : Int32) (h0 : C 0 ≤ 12) (nn : Nat) : Met l yX3_isGate (ws_ yX3_isGate cX3_isGate 2 (Option.some Jvm.ClassFile.FieldType.boolean)) ({ frames := 1, cells := 0, slots := 0, locals := 22 } : Room) (va_Pc [.ref (q 0), .int x_] (PreW Ev0 D vwCl (TY ca) (WM ca q th st ik ln ou pa iw so na nb fo nu al (zOf C) be ke te ti ne wa ta out pl lo sh le) nn)) (va_Qi (fun (r_ : Int32) (_ : Unit) => r_ = bI (inR (C 0) x_)) (PostW D vwCl (TY ca) (fun (_ : Unit) => (WM ca q th st ik ln ou pa iw so na nb fo nu al (zOf C) be ke te ti ne wa ta out pl lo sh le)) (va_A (WM ca q th st ik ln ou pa iw so na nb fo nu al (zOf C) be ke te ti ne wa ta out pl lo sh le) nn)) (va_A (WM ca q th st ik ln ou pa iw so na nb fo nu al (zOf C) be ke te ti ne wa ta out pl lo sh le) nn)) 0 0 (va_A (WM ca q th st ik ln ou pa iw so na nb fo nu al (zOf C) be ke te ti ne wa ta out pl lo sh le) nn) := by
  refine met_go (QA := fun A => va_Qi (fun (r_ : Int32) (_ : Unit) => r_ = bI (inR (C 0) x_)) (PostW D vwCl (TY ca) (fun (_ : Unit) => (WM ca q th st ik ln ou pa iw so na nb fo nu al (zOf C) be ke te ti ne wa ta out pl lo sh le)) A) A) (by decide) (Nat.le_of_ble_eq_true rfl) (fun p e s m below meth c A ls QQ hQQ hx hb hr hts hown hlocks hml hA hP hK hD hE hl => ?_)
  have hown : s.vm.findClass RX3 = some m.cls := hown
  have hS : va_S A s.heap s.heap [] := va_S.rf
  have hl : lv_has ls 2 [(0, .ref (q 0)), (1, .int x_)] := hl
  generalize hHe : s.heap = H at hP ⊢
  have hS : va_S A s.heap H [] := hHe ▸ hS
  generalize ([] : List Loc) = locs at hS ⊢
  refine lv_iload_n hx hb dX3_isGate_0 rfl (lv_at hl 1 rfl) ?_
  refine lv_iconst (v := nI 0) hx hb dX3_isGate_1 (by decide) ?_
  refine lv_aload_n hx hb dX3_isGate_2 rfl (lv_at hl 0 rfl) ?_
  refine gWM_0_z_X3 hx hb hts hown hK hP dX3_isGate_3 ?_
  refine lv_iconst (v := nI 0) hx hb dX3_isGate_6 (by decide) ?_
  refine ldWM_1 hx hb hK hP (by omega) dX3_isGate_7 ?_
  refine lv_topi (nm_r (e' := nI (C 0)) (rfl) ?_)
  refine lv_iconst (v := nI 1) hx hb dX3_isGate_8 (by decide) ?_
  refine lv_isub hx hb dX3_isGate_9 ?_
  refine xc_i (xr_S (As := [.int x_, .int (nI 0), .int ((nI (C 0)) - (nI 1))]) (rest := []) (mt_X3_in l D ca x_ (nI 0) ((nI (C 0)) - (nI 1))  H.size) ⟨hx, hb, hml, hown, hts⟩ (va_cwS 3 hts (lw_S q1700 q1701 q87 q1702) rfl rfl rfl (by decide +kernel) ⟨Nat.le_of_ble_eq_true rfl, Nat.le_of_ble_eq_true rfl⟩) Ev0_ok hE hK hS (Cut.app (wc := []) (wr := (WM ca q th st ik ln ou pa iw so na nb fo nu al (zOf C) be ke te ti ne wa ta out pl lo sh le)) hP hD hS hA) rfl hl.1 rfl (Nat.le_of_ble_eq_true rfl) dX3_isGate_10 ⟨Nat.le_of_ble_eq_true rfl, Nat.le_of_ble_eq_true rfl⟩) hS (Cut.app (wc := []) (wr := (WM ca q th st ik ln ou pa iw so na nb fo nu al (zOf C) be ke te ti ne wa ta out pl lo sh le)) hP hD hS hA) (fun r_1 u_2 H locs hq_10 hP hD hS => ?_)
  have hP : va_P D vwCl (WM ca q th st ik ln ou pa iw so na nb fo nu al (zOf C) be ke te ti ne wa ta out pl lo sh le) H := hP
  have hD : va_D A (WM ca q th st ik ln ou pa iw so na nb fo nu al (zOf C) be ke te ti ne wa ta out pl lo sh le) := hD
  have hp_10 : r_1 = bI (decide ((nI 0) ≤ x_ ∧ x_ ≤ ((nI (C 0)) - (nI 1)))) := hq_10
  clear hq_10
  obtain rfl := hp_10
  subst hQQ
  refine (xe_z (b := decide ((nI 0) ≤ x_ ∧ x_ ≤ ((nI (C 0)) - (nI 1)))) () hx hb hr hlocks hK hP hD hS (congrArg bI (inR_end (by omega))) dX3_isGate_13)
set_option maxHeartbeats 4000000 in
set_option maxRecDepth 100000 in
theorem mt_X3_isFault (l : Launch) (D : va_G) (ca : Nat → ClassId) (q : Nat → Nat) (th : Int32) (st : Int32) (ik : Int32) (ln : Int32) (ou : Int32) (pa : Int32) (iw : Int32) (so : Int32) (na : Int32) (nb : Int32) (fo : Int32) (nu : Int32) (al : Int32) (be : Nat → Int32) (ke : Nat → Int32) (te : Nat → Int32) (ti : Nat → Int32) (ne : Nat → Int32) (wa : Nat → Int32) (ta : Nat → Int64) (out : Nat → Int64) (pl : Nat → Int64) (lo : Nat → Int64) (sh : Nat → Int64) (le : Nat → Int64) (C : Nat → Nat) (x_ : Int32) (h0 : C 0 ≤ 12) (nn : Nat) : Met l yX3_isFault (ws_ yX3_isFault cX3_isFault 2 (Option.some Jvm.ClassFile.FieldType.boolean)) ({ frames := 1, cells := 0, slots := 0, locals := 22 } : Room) (va_Pc [.ref (q 0), .int x_] (PreW Ev0 D vwCl (TY ca) (WM ca q th st ik ln ou pa iw so na nb fo nu al (zOf C) be ke te ti ne wa ta out pl lo sh le) nn)) (va_Qi (fun (r_ : Int32) (_ : Unit) => r_ = bI (inR (2 * (6 + C 0)) x_)) (PostW D vwCl (TY ca) (fun (_ : Unit) => (WM ca q th st ik ln ou pa iw so na nb fo nu al (zOf C) be ke te ti ne wa ta out pl lo sh le)) (va_A (WM ca q th st ik ln ou pa iw so na nb fo nu al (zOf C) be ke te ti ne wa ta out pl lo sh le) nn)) (va_A (WM ca q th st ik ln ou pa iw so na nb fo nu al (zOf C) be ke te ti ne wa ta out pl lo sh le) nn)) 0 0 (va_A (WM ca q th st ik ln ou pa iw so na nb fo nu al (zOf C) be ke te ti ne wa ta out pl lo sh le) nn) := by
  refine met_go (QA := fun A => va_Qi (fun (r_ : Int32) (_ : Unit) => r_ = bI (inR (2 * (6 + C 0)) x_)) (PostW D vwCl (TY ca) (fun (_ : Unit) => (WM ca q th st ik ln ou pa iw so na nb fo nu al (zOf C) be ke te ti ne wa ta out pl lo sh le)) A) A) (by decide) (Nat.le_of_ble_eq_true rfl) (fun p e s m below meth c A ls QQ hQQ hx hb hr hts hown hlocks hml hA hP hK hD hE hl => ?_)
  have hown : s.vm.findClass RX3 = some m.cls := hown
  have hS : va_S A s.heap s.heap [] := va_S.rf
  have hl : lv_has ls 2 [(0, .ref (q 0)), (1, .int x_)] := hl
  generalize hHe : s.heap = H at hP ⊢
  have hS : va_S A s.heap H [] := hHe ▸ hS
  generalize ([] : List Loc) = locs at hS ⊢
  refine lv_iload_n hx hb dX3_isFault_0 rfl (lv_at hl 1 rfl) ?_
  refine lv_iconst (v := nI 0) hx hb dX3_isFault_1 (by decide) ?_
  refine lv_iconst (v := nI 2) hx hb dX3_isFault_2 (by decide) ?_
  refine lv_aload_n hx hb dX3_isFault_3 rfl (lv_at hl 0 rfl) ?_
  refine xc_i (xr_V (b := q 0) (ci := 2) (q0 := 0) (As := []) (rest := [.int (nI 2), .int (nI 0), .int x_]) (mt_X3_lines l D ca q th st ik ln ou pa iw so na nb fo nu al be ke te ti ne wa ta out pl lo sh le C  H.size) ⟨hx, hb, hml, hown, hts⟩ (cwV 0 hts (lw_V q1696 q1698 qs45 q87 q1699) rfl rfl rfl (by decide +kernel) ⟨Nat.le_of_ble_eq_true rfl, Nat.le_of_ble_eq_true rfl⟩) Ev0_ok hE hK hS (Cut.all hP hD hS hA) rfl rfl rfl hl.1 rfl (Nat.le_of_ble_eq_true rfl) dX3_isFault_4 ⟨Nat.le_of_ble_eq_true rfl, Nat.le_of_ble_eq_true rfl⟩) hS (Cut.all hP hD hS hA) (fun r_1 u_2 H locs hq_4 hP hD hS => ?_)
  have hP : va_P D vwCl (WM ca q th st ik ln ou pa iw so na nb fo nu al (zOf C) be ke te ti ne wa ta out pl lo sh le) H := hP
  have hD : va_D A (WM ca q th st ik ln ou pa iw so na nb fo nu al (zOf C) be ke te ti ne wa ta out pl lo sh le) := hD
  have hp_4 : r_1 = nI (6 + C 0) := hq_4
  clear hq_4
  obtain rfl := hp_4
  refine nv_imul hx hb dX3_isFault_7 ?_
  refine lv_iconst (v := nI 1) hx hb dX3_isFault_8 (by decide) ?_
  refine lv_isub hx hb dX3_isFault_9 ?_
  refine xc_i (xr_S (As := [.int x_, .int (nI 0), .int ((nI (2 * (6 + C 0))) - (nI 1))]) (rest := []) (mt_X3_in l D ca x_ (nI 0) ((nI (2 * (6 + C 0))) - (nI 1))  H.size) ⟨hx, hb, hml, hown, hts⟩ (va_cwS 3 hts (lw_S q1700 q1701 q87 q1702) rfl rfl rfl (by decide +kernel) ⟨Nat.le_of_ble_eq_true rfl, Nat.le_of_ble_eq_true rfl⟩) Ev0_ok hE hK hS (Cut.app (wc := []) (wr := (WM ca q th st ik ln ou pa iw so na nb fo nu al (zOf C) be ke te ti ne wa ta out pl lo sh le)) hP hD hS hA) rfl hl.1 rfl (Nat.le_of_ble_eq_true rfl) dX3_isFault_10 ⟨Nat.le_of_ble_eq_true rfl, Nat.le_of_ble_eq_true rfl⟩) hS (Cut.app (wc := []) (wr := (WM ca q th st ik ln ou pa iw so na nb fo nu al (zOf C) be ke te ti ne wa ta out pl lo sh le)) hP hD hS hA) (fun r_3 u_4 H locs hq_10 hP hD hS => ?_)
  have hP : va_P D vwCl (WM ca q th st ik ln ou pa iw so na nb fo nu al (zOf C) be ke te ti ne wa ta out pl lo sh le) H := hP
  have hD : va_D A (WM ca q th st ik ln ou pa iw so na nb fo nu al (zOf C) be ke te ti ne wa ta out pl lo sh le) := hD
  have hp_10 : r_3 = bI (decide ((nI 0) ≤ x_ ∧ x_ ≤ ((nI (2 * (6 + C 0))) - (nI 1)))) := hq_10
  clear hq_10
  obtain rfl := hp_10
  subst hQQ
  refine (xe_z (b := decide ((nI 0) ≤ x_ ∧ x_ ≤ ((nI (2 * (6 + C 0))) - (nI 1)))) () hx hb hr hlocks hK hP hD hS (congrArg bI (inR_end (by omega))) dX3_isFault_13)
set_option maxHeartbeats 4000000 in
set_option maxRecDepth 100000 in
theorem mt_X3_savedStates (l : Launch) (D : va_G) (ca : Nat → ClassId) (q : Nat → Nat) (th : Int32) (st : Int32) (ik : Int32) (ln : Int32) (ou : Int32) (pa : Int32) (iw : Int32) (so : Int32) (na : Int32) (nb : Int32) (fo : Int32) (nu : Int32) (al : Int32) (z : Nat → Int32) (be : Nat → Int32) (ke : Nat → Int32) (te : Nat → Int32) (ti : Nat → Int32) (ne : Nat → Int32) (wa : Nat → Int32) (ta : Nat → Int64) (out : Nat → Int64) (pl : Nat → Int64) (lo : Nat → Int64) (sh : Nat → Int64) (le : Nat → Int64)  (nn : Nat) : Met l yX3_savedStates (ws_ yX3_savedStates cX3_savedStates 1 (Option.some Jvm.ClassFile.FieldType.int)) ({ frames := 0, cells := 0, slots := 0, locals := 0 } : Room) (va_Pc [.ref (q 0)] (PreW Ev0 D vwCl (TY ca) (WM ca q th st ik ln ou pa iw so na nb fo nu al z be ke te ti ne wa ta out pl lo sh le) nn)) (va_Qi (fun (r_ : Int32) (_ : Unit) => r_ = st) (PostW D vwCl (TY ca) (fun (_ : Unit) => (WM ca q (nI 0) st ik ln ou pa iw so na nb fo nu al z be ke te ti ne wa ta out pl lo sh le)) (va_A (WM ca q th st ik ln ou pa iw so na nb fo nu al z be ke te ti ne wa ta out pl lo sh le) nn)) (va_A (WM ca q th st ik ln ou pa iw so na nb fo nu al z be ke te ti ne wa ta out pl lo sh le) nn)) 0 0 (va_A (WM ca q th st ik ln ou pa iw so na nb fo nu al z be ke te ti ne wa ta out pl lo sh le) nn) := by
  refine met_go (QA := fun A => va_Qi (fun (r_ : Int32) (_ : Unit) => r_ = st) (PostW D vwCl (TY ca) (fun (_ : Unit) => (WM ca q (nI 0) st ik ln ou pa iw so na nb fo nu al z be ke te ti ne wa ta out pl lo sh le)) A) A) (by decide) (Nat.le_of_ble_eq_true rfl) (fun p e s m below meth c A ls QQ hQQ hx hb hr hts hown hlocks hml hA hP hK hD hE hl => ?_)
  have hown : s.vm.findClass RX3 = some m.cls := hown
  have hS : va_S A s.heap s.heap [] := va_S.rf
  have hl : lv_has ls 1 [(0, .ref (q 0))] := hl
  generalize hHe : s.heap = H at hP ⊢
  have hS : va_S A s.heap H [] := hHe ▸ hS
  generalize ([] : List Loc) = locs at hS ⊢
  refine lv_aload_n hx hb dX3_savedStates_0 rfl (lv_at hl 0 rfl) ?_
  refine lv_iconst (v := nI 0) hx hb dX3_savedStates_1 (by decide) ?_
  refine pWM_0_thrown_X3 hx hb hts hown hK hP hD hS dX3_savedStates_2 (fun H locs hP hD hS => ?_)
  refine lv_aload_n hx hb dX3_savedStates_5 rfl (lv_at hl 0 rfl) ?_
  refine gWM_0_states_X3 hx hb hts hown hK hP dX3_savedStates_6 ?_
  subst hQQ
  exact xe_i (v := st) () hx hb hr hlocks hK hP hD hS (rfl) dX3_savedStates_9
set_option maxHeartbeats 4000000 in
set_option maxRecDepth 100000 in
theorem mt_X3_gates (l : Launch) (D : va_G) (ca : Nat → ClassId) (q : Nat → Nat) (th : Int32) (st : Int32) (ik : Int32) (ln : Int32) (ou : Int32) (pa : Int32) (iw : Int32) (so : Int32) (na : Int32) (nb : Int32) (fo : Int32) (nu : Int32) (al : Int32) (be : Nat → Int32) (ke : Nat → Int32) (te : Nat → Int32) (ti : Nat → Int32) (ne : Nat → Int32) (wa : Nat → Int32) (ta : Nat → Int64) (out : Nat → Int64) (pl : Nat → Int64) (lo : Nat → Int64) (sh : Nat → Int64) (le : Nat → Int64) (C : Nat → Nat)  (nn : Nat) : Met l yX3_gates (ws_ yX3_gates cX3_gates 1 (Option.some Jvm.ClassFile.FieldType.int)) ({ frames := 0, cells := 0, slots := 0, locals := 0 } : Room) (va_Pc [.ref (q 0)] (PreW Ev0 D vwCl (TY ca) (WM ca q th st ik ln ou pa iw so na nb fo nu al (zOf C) be ke te ti ne wa ta out pl lo sh le) nn)) (va_Qi (fun (r_ : Int32) (_ : Unit) => r_ = nI (C 0)) (PostW D vwCl (TY ca) (fun (_ : Unit) => (WM ca q (nI 0) st ik ln ou pa iw so na nb fo nu al (zOf C) be ke te ti ne wa ta out pl lo sh le)) (va_A (WM ca q th st ik ln ou pa iw so na nb fo nu al (zOf C) be ke te ti ne wa ta out pl lo sh le) nn)) (va_A (WM ca q th st ik ln ou pa iw so na nb fo nu al (zOf C) be ke te ti ne wa ta out pl lo sh le) nn)) 0 0 (va_A (WM ca q th st ik ln ou pa iw so na nb fo nu al (zOf C) be ke te ti ne wa ta out pl lo sh le) nn) := by
  refine met_go (QA := fun A => va_Qi (fun (r_ : Int32) (_ : Unit) => r_ = nI (C 0)) (PostW D vwCl (TY ca) (fun (_ : Unit) => (WM ca q (nI 0) st ik ln ou pa iw so na nb fo nu al (zOf C) be ke te ti ne wa ta out pl lo sh le)) A) A) (by decide) (Nat.le_of_ble_eq_true rfl) (fun p e s m below meth c A ls QQ hQQ hx hb hr hts hown hlocks hml hA hP hK hD hE hl => ?_)
  have hown : s.vm.findClass RX3 = some m.cls := hown
  have hS : va_S A s.heap s.heap [] := va_S.rf
  have hl : lv_has ls 1 [(0, .ref (q 0))] := hl
  generalize hHe : s.heap = H at hP ⊢
  have hS : va_S A s.heap H [] := hHe ▸ hS
  generalize ([] : List Loc) = locs at hS ⊢
  refine lv_aload_n hx hb dX3_gates_0 rfl (lv_at hl 0 rfl) ?_
  refine lv_iconst (v := nI 0) hx hb dX3_gates_1 (by decide) ?_
  refine pWM_0_thrown_X3 hx hb hts hown hK hP hD hS dX3_gates_2 (fun H locs hP hD hS => ?_)
  refine lv_aload_n hx hb dX3_gates_5 rfl (lv_at hl 0 rfl) ?_
  refine gWM_0_z_X3 hx hb hts hown hK hP dX3_gates_6 ?_
  refine lv_iconst (v := nI 0) hx hb dX3_gates_9 (by decide) ?_
  refine ldWM_1 hx hb hK hP (by omega) dX3_gates_10 ?_
  refine lv_topi (nm_r (e' := nI (C 0)) (rfl) ?_)
  subst hQQ
  exact xe_i (v := nI (C 0)) () hx hb hr hlocks hK hP hD hS (rfl) dX3_gates_11
set_option maxHeartbeats 4000000 in
set_option maxRecDepth 100000 in
theorem mt_X3_outputs (l : Launch) (D : va_G) (ca : Nat → ClassId) (q : Nat → Nat) (th : Int32) (st : Int32) (ik : Int32) (ln : Int32) (ou : Int32) (pa : Int32) (iw : Int32) (so : Int32) (na : Int32) (nb : Int32) (fo : Int32) (nu : Int32) (al : Int32) (be : Nat → Int32) (ke : Nat → Int32) (te : Nat → Int32) (ti : Nat → Int32) (ne : Nat → Int32) (wa : Nat → Int32) (ta : Nat → Int64) (out : Nat → Int64) (pl : Nat → Int64) (lo : Nat → Int64) (sh : Nat → Int64) (le : Nat → Int64) (C : Nat → Nat)  (nn : Nat) : Met l yX3_outputs (ws_ yX3_outputs cX3_outputs 1 (Option.some Jvm.ClassFile.FieldType.int)) ({ frames := 0, cells := 0, slots := 0, locals := 0 } : Room) (va_Pc [.ref (q 0)] (PreW Ev0 D vwCl (TY ca) (WM ca q th st ik ln ou pa iw so na nb fo nu al (zOf C) be ke te ti ne wa ta out pl lo sh le) nn)) (va_Qi (fun (r_ : Int32) (_ : Unit) => r_ = nI (C 37)) (PostW D vwCl (TY ca) (fun (_ : Unit) => (WM ca q (nI 0) st ik ln ou pa iw so na nb fo nu al (zOf C) be ke te ti ne wa ta out pl lo sh le)) (va_A (WM ca q th st ik ln ou pa iw so na nb fo nu al (zOf C) be ke te ti ne wa ta out pl lo sh le) nn)) (va_A (WM ca q th st ik ln ou pa iw so na nb fo nu al (zOf C) be ke te ti ne wa ta out pl lo sh le) nn)) 0 0 (va_A (WM ca q th st ik ln ou pa iw so na nb fo nu al (zOf C) be ke te ti ne wa ta out pl lo sh le) nn) := by
  refine met_go (QA := fun A => va_Qi (fun (r_ : Int32) (_ : Unit) => r_ = nI (C 37)) (PostW D vwCl (TY ca) (fun (_ : Unit) => (WM ca q (nI 0) st ik ln ou pa iw so na nb fo nu al (zOf C) be ke te ti ne wa ta out pl lo sh le)) A) A) (by decide) (Nat.le_of_ble_eq_true rfl) (fun p e s m below meth c A ls QQ hQQ hx hb hr hts hown hlocks hml hA hP hK hD hE hl => ?_)
  have hown : s.vm.findClass RX3 = some m.cls := hown
  have hS : va_S A s.heap s.heap [] := va_S.rf
  have hl : lv_has ls 1 [(0, .ref (q 0))] := hl
  generalize hHe : s.heap = H at hP ⊢
  have hS : va_S A s.heap H [] := hHe ▸ hS
  generalize ([] : List Loc) = locs at hS ⊢
  refine lv_aload_n hx hb dX3_outputs_0 rfl (lv_at hl 0 rfl) ?_
  refine lv_iconst (v := nI 0) hx hb dX3_outputs_1 (by decide) ?_
  refine pWM_0_thrown_X3 hx hb hts hown hK hP hD hS dX3_outputs_2 (fun H locs hP hD hS => ?_)
  refine lv_aload_n hx hb dX3_outputs_5 rfl (lv_at hl 0 rfl) ?_
  refine gWM_0_z_X3 hx hb hts hown hK hP dX3_outputs_6 ?_
  refine lv_bipush (v := nI 37) hx hb dX3_outputs_9 (by decide) ?_
  refine ldWM_1 hx hb hK hP (by omega) dX3_outputs_11 ?_
  refine lv_topi (nm_r (e' := nI (C 37)) (rfl) ?_)
  subst hQQ
  exact xe_i (v := nI (C 37)) () hx hb hr hlocks hK hP hD hS (rfl) dX3_outputs_12
set_option maxHeartbeats 4000000 in
set_option maxRecDepth 100000 in
theorem mt_X3_boxes (l : Launch) (D : va_G) (ca : Nat → ClassId) (q : Nat → Nat) (th : Int32) (st : Int32) (ik : Int32) (ln : Int32) (ou : Int32) (pa : Int32) (iw : Int32) (so : Int32) (na : Int32) (nb : Int32) (fo : Int32) (nu : Int32) (al : Int32) (be : Nat → Int32) (ke : Nat → Int32) (te : Nat → Int32) (ti : Nat → Int32) (ne : Nat → Int32) (wa : Nat → Int32) (ta : Nat → Int64) (out : Nat → Int64) (pl : Nat → Int64) (lo : Nat → Int64) (sh : Nat → Int64) (le : Nat → Int64) (C : Nat → Nat)  (nn : Nat) : Met l yX3_boxes (ws_ yX3_boxes cX3_boxes 1 (Option.some Jvm.ClassFile.FieldType.int)) ({ frames := 0, cells := 0, slots := 0, locals := 0 } : Room) (va_Pc [.ref (q 0)] (PreW Ev0 D vwCl (TY ca) (WM ca q th st ik ln ou pa iw so na nb fo nu al (zOf C) be ke te ti ne wa ta out pl lo sh le) nn)) (va_Qi (fun (r_ : Int32) (_ : Unit) => r_ = nI (C 38)) (PostW D vwCl (TY ca) (fun (_ : Unit) => (WM ca q (nI 0) st ik ln ou pa iw so na nb fo nu al (zOf C) be ke te ti ne wa ta out pl lo sh le)) (va_A (WM ca q th st ik ln ou pa iw so na nb fo nu al (zOf C) be ke te ti ne wa ta out pl lo sh le) nn)) (va_A (WM ca q th st ik ln ou pa iw so na nb fo nu al (zOf C) be ke te ti ne wa ta out pl lo sh le) nn)) 0 0 (va_A (WM ca q th st ik ln ou pa iw so na nb fo nu al (zOf C) be ke te ti ne wa ta out pl lo sh le) nn) := by
  refine met_go (QA := fun A => va_Qi (fun (r_ : Int32) (_ : Unit) => r_ = nI (C 38)) (PostW D vwCl (TY ca) (fun (_ : Unit) => (WM ca q (nI 0) st ik ln ou pa iw so na nb fo nu al (zOf C) be ke te ti ne wa ta out pl lo sh le)) A) A) (by decide) (Nat.le_of_ble_eq_true rfl) (fun p e s m below meth c A ls QQ hQQ hx hb hr hts hown hlocks hml hA hP hK hD hE hl => ?_)
  have hown : s.vm.findClass RX3 = some m.cls := hown
  have hS : va_S A s.heap s.heap [] := va_S.rf
  have hl : lv_has ls 1 [(0, .ref (q 0))] := hl
  generalize hHe : s.heap = H at hP ⊢
  have hS : va_S A s.heap H [] := hHe ▸ hS
  generalize ([] : List Loc) = locs at hS ⊢
  refine lv_aload_n hx hb dX3_boxes_0 rfl (lv_at hl 0 rfl) ?_
  refine lv_iconst (v := nI 0) hx hb dX3_boxes_1 (by decide) ?_
  refine pWM_0_thrown_X3 hx hb hts hown hK hP hD hS dX3_boxes_2 (fun H locs hP hD hS => ?_)
  refine lv_aload_n hx hb dX3_boxes_5 rfl (lv_at hl 0 rfl) ?_
  refine gWM_0_z_X3 hx hb hts hown hK hP dX3_boxes_6 ?_
  refine lv_bipush (v := nI 38) hx hb dX3_boxes_9 (by decide) ?_
  refine ldWM_1 hx hb hK hP (by omega) dX3_boxes_11 ?_
  refine lv_topi (nm_r (e' := nI (C 38)) (rfl) ?_)
  subst hQQ
  exact xe_i (v := nI (C 38)) () hx hb hr hlocks hK hP hD hS (rfl) dX3_boxes_12
set_option maxHeartbeats 4000000 in
set_option maxRecDepth 100000 in
theorem mt_X3_asked (l : Launch) (D : va_G) (ca : Nat → ClassId) (q : Nat → Nat) (th : Int32) (st : Int32) (ik : Int32) (ln : Int32) (ou : Int32) (pa : Int32) (iw : Int32) (so : Int32) (na : Int32) (nb : Int32) (fo : Int32) (nu : Int32) (al : Int32) (be : Nat → Int32) (ke : Nat → Int32) (te : Nat → Int32) (ti : Nat → Int32) (ne : Nat → Int32) (wa : Nat → Int32) (ta : Nat → Int64) (out : Nat → Int64) (pl : Nat → Int64) (lo : Nat → Int64) (sh : Nat → Int64) (le : Nat → Int64) (C : Nat → Nat)  (nn : Nat) : Met l yX3_asked (ws_ yX3_asked cX3_asked 1 (Option.some Jvm.ClassFile.FieldType.int)) ({ frames := 0, cells := 0, slots := 0, locals := 0 } : Room) (va_Pc [.ref (q 0)] (PreW Ev0 D vwCl (TY ca) (WM ca q th st ik ln ou pa iw so na nb fo nu al (zOf C) be ke te ti ne wa ta out pl lo sh le) nn)) (va_Qi (fun (r_ : Int32) (_ : Unit) => r_ = nI (C 41)) (PostW D vwCl (TY ca) (fun (_ : Unit) => (WM ca q (nI 0) st ik ln ou pa iw so na nb fo nu al (zOf C) be ke te ti ne wa ta out pl lo sh le)) (va_A (WM ca q th st ik ln ou pa iw so na nb fo nu al (zOf C) be ke te ti ne wa ta out pl lo sh le) nn)) (va_A (WM ca q th st ik ln ou pa iw so na nb fo nu al (zOf C) be ke te ti ne wa ta out pl lo sh le) nn)) 0 0 (va_A (WM ca q th st ik ln ou pa iw so na nb fo nu al (zOf C) be ke te ti ne wa ta out pl lo sh le) nn) := by
  refine met_go (QA := fun A => va_Qi (fun (r_ : Int32) (_ : Unit) => r_ = nI (C 41)) (PostW D vwCl (TY ca) (fun (_ : Unit) => (WM ca q (nI 0) st ik ln ou pa iw so na nb fo nu al (zOf C) be ke te ti ne wa ta out pl lo sh le)) A) A) (by decide) (Nat.le_of_ble_eq_true rfl) (fun p e s m below meth c A ls QQ hQQ hx hb hr hts hown hlocks hml hA hP hK hD hE hl => ?_)
  have hown : s.vm.findClass RX3 = some m.cls := hown
  have hS : va_S A s.heap s.heap [] := va_S.rf
  have hl : lv_has ls 1 [(0, .ref (q 0))] := hl
  generalize hHe : s.heap = H at hP ⊢
  have hS : va_S A s.heap H [] := hHe ▸ hS
  generalize ([] : List Loc) = locs at hS ⊢
  refine lv_aload_n hx hb dX3_asked_0 rfl (lv_at hl 0 rfl) ?_
  refine lv_iconst (v := nI 0) hx hb dX3_asked_1 (by decide) ?_
  refine pWM_0_thrown_X3 hx hb hts hown hK hP hD hS dX3_asked_2 (fun H locs hP hD hS => ?_)
  refine lv_aload_n hx hb dX3_asked_5 rfl (lv_at hl 0 rfl) ?_
  refine gWM_0_z_X3 hx hb hts hown hK hP dX3_asked_6 ?_
  refine lv_bipush (v := nI 41) hx hb dX3_asked_9 (by decide) ?_
  refine ldWM_1 hx hb hK hP (by omega) dX3_asked_11 ?_
  refine lv_topi (nm_r (e' := nI (C 41)) (rfl) ?_)
  subst hQQ
  exact xe_i (v := nI (C 41)) () hx hb hr hlocks hK hP hD hS (rfl) dX3_asked_12
set_option maxHeartbeats 4000000 in
set_option maxRecDepth 100000 in
theorem mt_X3_secret (l : Launch) (D : va_G) (ca : Nat → ClassId) (q : Nat → Nat) (th : Int32) (st : Int32) (ik : Int32) (ln : Int32) (ou : Int32) (pa : Int32) (iw : Int32) (so : Int32) (na : Int32) (nb : Int32) (fo : Int32) (nu : Int32) (al : Int32) (be : Nat → Int32) (ke : Nat → Int32) (te : Nat → Int32) (ti : Nat → Int32) (ne : Nat → Int32) (wa : Nat → Int32) (ta : Nat → Int64) (out : Nat → Int64) (pl : Nat → Int64) (lo : Nat → Int64) (sh : Nat → Int64) (le : Nat → Int64) (C : Nat → Nat)  (nn : Nat) : Met l yX3_secret (ws_ yX3_secret cX3_secret 1 (Option.some Jvm.ClassFile.FieldType.int)) ({ frames := 0, cells := 0, slots := 0, locals := 0 } : Room) (va_Pc [.ref (q 0)] (PreW Ev0 D vwCl (TY ca) (WM ca q th st ik ln ou pa iw so na nb fo nu al (zOf C) be ke te ti ne wa ta out pl lo sh le) nn)) (va_Qi (fun (r_ : Int32) (_ : Unit) => r_ = fI (C 39)) (PostW D vwCl (TY ca) (fun (_ : Unit) => (WM ca q (nI 0) st ik ln ou pa iw so na nb fo nu al (zOf C) be ke te ti ne wa ta out pl lo sh le)) (va_A (WM ca q th st ik ln ou pa iw so na nb fo nu al (zOf C) be ke te ti ne wa ta out pl lo sh le) nn)) (va_A (WM ca q th st ik ln ou pa iw so na nb fo nu al (zOf C) be ke te ti ne wa ta out pl lo sh le) nn)) 0 0 (va_A (WM ca q th st ik ln ou pa iw so na nb fo nu al (zOf C) be ke te ti ne wa ta out pl lo sh le) nn) := by
  refine met_go (QA := fun A => va_Qi (fun (r_ : Int32) (_ : Unit) => r_ = fI (C 39)) (PostW D vwCl (TY ca) (fun (_ : Unit) => (WM ca q (nI 0) st ik ln ou pa iw so na nb fo nu al (zOf C) be ke te ti ne wa ta out pl lo sh le)) A) A) (by decide) (Nat.le_of_ble_eq_true rfl) (fun p e s m below meth c A ls QQ hQQ hx hb hr hts hown hlocks hml hA hP hK hD hE hl => ?_)
  have hown : s.vm.findClass RX3 = some m.cls := hown
  have hS : va_S A s.heap s.heap [] := va_S.rf
  have hl : lv_has ls 1 [(0, .ref (q 0))] := hl
  generalize hHe : s.heap = H at hP ⊢
  have hS : va_S A s.heap H [] := hHe ▸ hS
  generalize ([] : List Loc) = locs at hS ⊢
  refine lv_aload_n hx hb dX3_secret_0 rfl (lv_at hl 0 rfl) ?_
  refine lv_iconst (v := nI 0) hx hb dX3_secret_1 (by decide) ?_
  refine pWM_0_thrown_X3 hx hb hts hown hK hP hD hS dX3_secret_2 (fun H locs hP hD hS => ?_)
  refine lv_aload_n hx hb dX3_secret_5 rfl (lv_at hl 0 rfl) ?_
  refine gWM_0_z_X3 hx hb hts hown hK hP dX3_secret_6 ?_
  refine lv_bipush (v := nI 39) hx hb dX3_secret_9 (by decide) ?_
  refine ldWM_1 hx hb hK hP (by omega) dX3_secret_11 ?_
  refine lv_topi (nm_r (e' := fI (C 39)) (rfl) ?_)
  subst hQQ
  exact xe_i (v := fI (C 39)) () hx hb hr hlocks hK hP hD hS (rfl) dX3_secret_12
