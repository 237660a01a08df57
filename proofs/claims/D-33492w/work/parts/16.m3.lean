/-! contracts of the model: tables, answers -/
set_option maxRecDepth 100000
set_option maxHeartbeats 4000000 in
set_option maxRecDepth 100000 in
theorem mt_X3_inputTable (l : Launch) (D : va_G) (ca : Nat → ClassId) (k_ : Nat) (hk : k_ < 6) (nn : Nat) : Met l yX3_inputTable (ws_ yX3_inputTable cX3_inputTable 4 (Option.some Jvm.ClassFile.FieldType.long)) ({ frames := 0, cells := 0, slots := 0, locals := 0 } : Room) (va_Pc [.int (nI k_)] (PreW Ev0 D vwCl (TY ca) ([] : va_W) nn)) (va_Ql (fun (r_ : Int64) (_ : Unit) => r_ = inT k_) (PostW D vwCl (TY ca) (fun (_ : Unit) => ([] : va_W)) (va_A ([] : va_W) nn)) (va_A ([] : va_W) nn)) 0 0 (va_A ([] : va_W) nn) := by
  refine met_go (QA := fun A => va_Ql (fun (r_ : Int64) (_ : Unit) => r_ = inT k_) (PostW D vwCl (TY ca) (fun (_ : Unit) => ([] : va_W)) A) A) (by decide) (Nat.le_of_ble_eq_true rfl) (fun p e s m below meth c A ls QQ hQQ hx hb hr hts hown hlocks hml hA hP hK hD hE hl => ?_)
  have hown : s.vm.findClass RX3 = some m.cls := hown
  have hS : va_S A s.heap s.heap [] := va_S.rf
  have hl : lv_has ls 4 [(0, .int (nI k_))] := hl
  generalize hHe : s.heap = H at hP ⊢
  have hS : va_S A s.heap H [] := hHe ▸ hS
  generalize ([] : List Loc) = locs at hS ⊢
  refine lv_lconst (v := lN 0) hx hb dX3_inputTable_0 (by decide) ?_
  refine lv_lstore_n (lv' := [(1, .long (lN 0)), (0, .int (nI k_))]) hx hb dX3_inputTable_1 rfl hl (by decide) rfl (fun ls hl => ?_)
  refine lv_iconst (v := nI 0) hx hb dX3_inputTable_2 (by decide) ?_
  refine lv_istore_n (lv' := [(3, .int (nI 0)), (1, .long (lN 0)), (0, .int (nI k_))]) hx hb dX3_inputTable_3 rfl hl (by decide) rfl (fun ls hl => ?_)
  have lp_4 : ∀ (fu_4 : Nat) (i : Nat), 64 - i < fu_4 → (i ≤ 64) → ∀ (H : Heap) (locs : List Loc), va_P D vwCl ([] : va_W) H → va_D A ([] : va_W) → va_S A s.heap H locs → ∀ (ls : Array Slot), lv_has ls 4 [(3, .int (nI i)), (1, .long (inTl i k_)), (0, .int (nI k_))] → W p l e ({ frames := 0, cells := 0, slots := 0, locals := 0 } : Room) s m ([.int (nI k_)] : List Value).toArray below meth c H locs 0 0 QQ (F0 m 4 ls []) := by
    intro fu_4
    induction fu_4 with
    | zero => intro i hfu; exact absurd hfu (Nat.not_lt_zero _)
    | succ fu_4 ih_4 =>
      intro i hfu hi H locs hP hD hS ls hl
      refine lv_iload_n hx hb dX3_inputTable_4 rfl (lv_at hl 0 rfl) ?_
      refine lv_bipush (v := nI 64) hx hb dX3_inputTable_5 (by decide) ?_
      refine nv_icmp_ge (tgt := 27) hx hb dX3_inputTable_7 (by decide) (by omega) (by omega) (fun c_7 => ?_) (fun c_7 => ?_)
      · skip
        have e_ : 64 = i := Eq.symm (by omega)
        subst e_
        refine lv_lload_n hx hb dX3_inputTable_27 rfl (lv_at hl 1 rfl) ?_
        subst hQQ
        exact xe_l (v := inTl 64 k_) () hx hb hr hlocks hK hP hD hS (rfl) dX3_inputTable_28
      · skip
        refine lv_lload_n hx hb dX3_inputTable_10 rfl (lv_at hl 1 rfl) ?_
        refine lv_iload_n hx hb dX3_inputTable_11 rfl (lv_at hl 0 rfl) ?_
        refine lv_iload_n hx hb dX3_inputTable_12 rfl (lv_at hl 2 rfl) ?_
        refine nv_ishr hx hb dX3_inputTable_13 (by omega) (by omega) ?_
        refine lv_iconst (v := nI 1) hx hb dX3_inputTable_14 (by decide) ?_
        refine nv_iand hx hb dX3_inputTable_15 ?_
        refine lv_i2l (v := lN ((i >>> k_) &&& 1)) hx hb dX3_inputTable_16 (nI_l (by have := tb_le i k_; omega)) ?_
        refine lv_iload_n hx hb dX3_inputTable_17 rfl (lv_at hl 0 rfl) ?_
        refine lv_lshl (v := shl64 (lN ((i >>> k_) &&& 1)) i) hx hb dX3_inputTable_18 rfl ?_
        refine lv_lor hx hb dX3_inputTable_19 ?_
        refine lv_lstore_n (lv' := [(1, .long ((inTl i k_) ||| (shl64 (lN ((i >>> k_) &&& 1)) i))), (3, .int (nI i)), (0, .int (nI k_))]) hx hb dX3_inputTable_20 rfl hl (by decide) rfl (fun ls hl => ?_)
        refine lv_iinc (v := nI (i + 1)) (lv' := [(3, .int (nI (i + 1))), (1, .long ((inTl i k_) ||| (shl64 (lN ((i >>> k_) &&& 1)) i))), (0, .int (nI k_))]) hx hb dX3_inputTable_21 hl (k := 1) rfl (nI_add i 1) (by decide) rfl (fun ls hl => ?_)
        refine lv_goto (tgt := 4) hx hb dX3_inputTable_24 (by decide) ?_
        exact ih_4  (i + 1) (by omega) (by omega) _ _ hP hD hS ls (lv_sub hl [0, 1, 2] rfl)
  exact lp_4 (64 - 0 + 1) 0 (Nat.lt_succ_self _) (by omega) _ _ hP hD hS ls (lv_sub hl [0, 1, 2] rfl)
set_option maxHeartbeats 4000000 in
set_option maxRecDepth 100000 in
theorem mt_X3_gate (l : Launch) (D : va_G) (ca : Nat → ClassId) (k_ : Nat) (a_ : Int64) (b_ : Int64) (hk : k_ < 8) (nn : Nat) : Met l yX3_gate (ws_ yX3_gate cX3_gate 7 (Option.some Jvm.ClassFile.FieldType.long)) ({ frames := 0, cells := 0, slots := 0, locals := 0 } : Room) (va_Pc [.int (nI k_), .long a_, .long b_] (PreW Ev0 D vwCl (TY ca) ([] : va_W) nn)) (va_Ql (fun (r_ : Int64) (_ : Unit) => r_ = gT k_ a_ b_) (PostW D vwCl (TY ca) (fun (_ : Unit) => ([] : va_W)) (va_A ([] : va_W) nn)) (va_A ([] : va_W) nn)) 0 0 (va_A ([] : va_W) nn) := by
  refine met_go (QA := fun A => va_Ql (fun (r_ : Int64) (_ : Unit) => r_ = gT k_ a_ b_) (PostW D vwCl (TY ca) (fun (_ : Unit) => ([] : va_W)) A) A) (by decide) (Nat.le_of_ble_eq_true rfl) (fun p e s m below meth c A ls QQ hQQ hx hb hr hts hown hlocks hml hA hP hK hD hE hl => ?_)
  have hown : s.vm.findClass RX3 = some m.cls := hown
  have hS : va_S A s.heap s.heap [] := va_S.rf
  have hl : lv_has ls 7 [(0, .int (nI k_)), (1, .long a_), (3, .long b_)] := hl
  generalize hHe : s.heap = H at hP ⊢
  have hS : va_S A s.heap H [] := hHe ▸ hS
  generalize ([] : List Loc) = locs at hS ⊢
  refine lv_iload_n hx hb dX3_gate_0 rfl (lv_at hl 0 rfl) ?_
  refine nv_if_eq (tgt := 9) hx hb dX3_gate_1 (by decide) (by omega) (fun c_1 => ?_) (fun c_1 => ?_)
  · skip
    refine lv_lload_n hx hb dX3_gate_9 rfl (lv_at hl 1 rfl) ?_
    refine lv_lload_n hx hb dX3_gate_10 rfl (lv_at hl 2 rfl) ?_
    refine lv_land hx hb dX3_gate_11 ?_
    refine lv_goto (tgt := 48) hx hb dX3_gate_12 (by decide) ?_
    refine lv_lstore (lv' := [(5, .long (a_ &&& b_)), (0, .int (nI k_)), (1, .long a_), (3, .long b_)]) hx hb dX3_gate_48 hl (by decide) rfl (fun ls hl => ?_)
    refine lv_iload_n hx hb dX3_gate_50 rfl (lv_at hl 1 rfl) ?_
    refine lv_iconst (v := nI 3) hx hb dX3_gate_51 (by decide) ?_
    refine nv_icmp_lt (tgt := 61) hx hb dX3_gate_52 (by decide) (by omega) (by omega) (fun c_52 => ?_) (fun c_52 => ?_)
    · skip
      refine lv_lload hx hb dX3_gate_61 (lv_at hl 0 rfl) ?_
      refine lv_goto (tgt := 72) hx hb dX3_gate_63 (by decide) ?_
      subst hQQ
      exact xe_l (v := a_ &&& b_) () hx hb hr hlocks hK hP hD hS ((by unfold gT; (repeat' split) <;> first | rfl | (exfalso; omega))) dX3_gate_72
    · skip
      refine lv_iload_n hx hb dX3_gate_55 rfl (lv_at hl 1 rfl) ?_
      refine lv_bipush (v := nI 7) hx hb dX3_gate_56 (by decide) ?_
      refine nv_icmp_ne (tgt := 66) hx hb dX3_gate_58 (by decide) (by omega) (by omega) (fun c_58 => ?_) (fun c_58 => ?_)
      · skip
        refine lv_lload hx hb dX3_gate_66 (lv_at hl 0 rfl) ?_
        refine lv_ldc2 (v := (-1)) hx hb hown (hts _ q1792) dX3_gate_68 ?_
        refine lv_lxor hx hb dX3_gate_71 ?_
        subst hQQ
        exact xe_l (v := (a_ &&& b_) ^^^ (-1)) () hx hb hr hlocks hK hP hD hS ((by unfold gT; (repeat' split) <;> first | rfl | (exfalso; omega))) dX3_gate_72
      · skip
        refine lv_lload hx hb dX3_gate_61 (lv_at hl 0 rfl) ?_
        refine lv_goto (tgt := 72) hx hb dX3_gate_63 (by decide) ?_
        subst hQQ
        exact xe_l (v := a_ &&& b_) () hx hb hr hlocks hK hP hD hS ((by unfold gT; (repeat' split) <;> first | rfl | (exfalso; omega))) dX3_gate_72
  · skip
    refine lv_iload_n hx hb dX3_gate_4 rfl (lv_at hl 0 rfl) ?_
    refine lv_iconst (v := nI 3) hx hb dX3_gate_5 (by decide) ?_
    refine nv_icmp_ne (tgt := 15) hx hb dX3_gate_6 (by decide) (by omega) (by omega) (fun c_6 => ?_) (fun c_6 => ?_)
    · skip
      refine lv_iload_n hx hb dX3_gate_15 rfl (lv_at hl 0 rfl) ?_
      refine lv_iconst (v := nI 1) hx hb dX3_gate_16 (by decide) ?_
      refine nv_icmp_eq (tgt := 25) hx hb dX3_gate_17 (by decide) (by omega) (by omega) (fun c_17 => ?_) (fun c_17 => ?_)
      · skip
        refine lv_lload_n hx hb dX3_gate_25 rfl (lv_at hl 1 rfl) ?_
        refine lv_lload_n hx hb dX3_gate_26 rfl (lv_at hl 2 rfl) ?_
        refine lv_lor hx hb dX3_gate_27 ?_
        refine lv_goto (tgt := 48) hx hb dX3_gate_28 (by decide) ?_
        refine lv_lstore (lv' := [(5, .long (a_ ||| b_)), (0, .int (nI k_)), (1, .long a_), (3, .long b_)]) hx hb dX3_gate_48 hl (by decide) rfl (fun ls hl => ?_)
        refine lv_iload_n hx hb dX3_gate_50 rfl (lv_at hl 1 rfl) ?_
        refine lv_iconst (v := nI 3) hx hb dX3_gate_51 (by decide) ?_
        refine nv_icmp_lt (tgt := 61) hx hb dX3_gate_52 (by decide) (by omega) (by omega) (fun c_52 => ?_) (fun c_52 => ?_)
        · skip
          refine lv_lload hx hb dX3_gate_61 (lv_at hl 0 rfl) ?_
          refine lv_goto (tgt := 72) hx hb dX3_gate_63 (by decide) ?_
          subst hQQ
          exact xe_l (v := a_ ||| b_) () hx hb hr hlocks hK hP hD hS ((by unfold gT; (repeat' split) <;> first | rfl | (exfalso; omega))) dX3_gate_72
        · skip
          refine lv_iload_n hx hb dX3_gate_55 rfl (lv_at hl 1 rfl) ?_
          refine lv_bipush (v := nI 7) hx hb dX3_gate_56 (by decide) ?_
          refine nv_icmp_ne (tgt := 66) hx hb dX3_gate_58 (by decide) (by omega) (by omega) (fun c_58 => ?_) (fun c_58 => ?_)
          · skip
            refine lv_lload hx hb dX3_gate_66 (lv_at hl 0 rfl) ?_
            refine lv_ldc2 (v := (-1)) hx hb hown (hts _ q1792) dX3_gate_68 ?_
            refine lv_lxor hx hb dX3_gate_71 ?_
            subst hQQ
            exact xe_l (v := (a_ ||| b_) ^^^ (-1)) () hx hb hr hlocks hK hP hD hS ((by unfold gT; (repeat' split) <;> first | rfl | (exfalso; omega))) dX3_gate_72
          · skip
            refine lv_lload hx hb dX3_gate_61 (lv_at hl 0 rfl) ?_
            refine lv_goto (tgt := 72) hx hb dX3_gate_63 (by decide) ?_
            subst hQQ
            exact xe_l (v := a_ ||| b_) () hx hb hr hlocks hK hP hD hS ((by unfold gT; (repeat' split) <;> first | rfl | (exfalso; omega))) dX3_gate_72
      · skip
        refine lv_iload_n hx hb dX3_gate_20 rfl (lv_at hl 0 rfl) ?_
        refine lv_iconst (v := nI 4) hx hb dX3_gate_21 (by decide) ?_
        refine nv_icmp_ne (tgt := 31) hx hb dX3_gate_22 (by decide) (by omega) (by omega) (fun c_22 => ?_) (fun c_22 => ?_)
        · skip
          refine lv_iload_n hx hb dX3_gate_31 rfl (lv_at hl 0 rfl) ?_
          refine lv_iconst (v := nI 2) hx hb dX3_gate_32 (by decide) ?_
          refine nv_icmp_eq (tgt := 41) hx hb dX3_gate_33 (by decide) (by omega) (by omega) (fun c_33 => ?_) (fun c_33 => ?_)
          · skip
            refine lv_lload_n hx hb dX3_gate_41 rfl (lv_at hl 1 rfl) ?_
            refine lv_lload_n hx hb dX3_gate_42 rfl (lv_at hl 2 rfl) ?_
            refine lv_lxor hx hb dX3_gate_43 ?_
            refine lv_goto (tgt := 48) hx hb dX3_gate_44 (by decide) ?_
            refine lv_lstore (lv' := [(5, .long (a_ ^^^ b_)), (0, .int (nI k_)), (1, .long a_), (3, .long b_)]) hx hb dX3_gate_48 hl (by decide) rfl (fun ls hl => ?_)
            refine lv_iload_n hx hb dX3_gate_50 rfl (lv_at hl 1 rfl) ?_
            refine lv_iconst (v := nI 3) hx hb dX3_gate_51 (by decide) ?_
            refine nv_icmp_lt (tgt := 61) hx hb dX3_gate_52 (by decide) (by omega) (by omega) (fun c_52 => ?_) (fun c_52 => ?_)
            · skip
              refine lv_lload hx hb dX3_gate_61 (lv_at hl 0 rfl) ?_
              refine lv_goto (tgt := 72) hx hb dX3_gate_63 (by decide) ?_
              subst hQQ
              exact xe_l (v := a_ ^^^ b_) () hx hb hr hlocks hK hP hD hS ((by unfold gT; (repeat' split) <;> first | rfl | (exfalso; omega))) dX3_gate_72
            · skip
              refine lv_iload_n hx hb dX3_gate_55 rfl (lv_at hl 1 rfl) ?_
              refine lv_bipush (v := nI 7) hx hb dX3_gate_56 (by decide) ?_
              refine nv_icmp_ne (tgt := 66) hx hb dX3_gate_58 (by decide) (by omega) (by omega) (fun c_58 => ?_) (fun c_58 => ?_)
              · skip
                refine lv_lload hx hb dX3_gate_66 (lv_at hl 0 rfl) ?_
                refine lv_ldc2 (v := (-1)) hx hb hown (hts _ q1792) dX3_gate_68 ?_
                refine lv_lxor hx hb dX3_gate_71 ?_
                subst hQQ
                exact xe_l (v := (a_ ^^^ b_) ^^^ (-1)) () hx hb hr hlocks hK hP hD hS ((by unfold gT; (repeat' split) <;> first | rfl | (exfalso; omega))) dX3_gate_72
              · skip
                refine lv_lload hx hb dX3_gate_61 (lv_at hl 0 rfl) ?_
                refine lv_goto (tgt := 72) hx hb dX3_gate_63 (by decide) ?_
                subst hQQ
                exact xe_l (v := a_ ^^^ b_) () hx hb hr hlocks hK hP hD hS ((by unfold gT; (repeat' split) <;> first | rfl | (exfalso; omega))) dX3_gate_72
          · skip
            refine lv_iload_n hx hb dX3_gate_36 rfl (lv_at hl 0 rfl) ?_
            refine lv_iconst (v := nI 5) hx hb dX3_gate_37 (by decide) ?_
            refine nv_icmp_ne (tgt := 47) hx hb dX3_gate_38 (by decide) (by omega) (by omega) (fun c_38 => ?_) (fun c_38 => ?_)
            · skip
              refine lv_lload_n hx hb dX3_gate_47 rfl (lv_at hl 1 rfl) ?_
              refine lv_lstore (lv' := [(5, .long a_), (0, .int (nI k_)), (1, .long a_), (3, .long b_)]) hx hb dX3_gate_48 hl (by decide) rfl (fun ls hl => ?_)
              refine lv_iload_n hx hb dX3_gate_50 rfl (lv_at hl 1 rfl) ?_
              refine lv_iconst (v := nI 3) hx hb dX3_gate_51 (by decide) ?_
              refine nv_icmp_lt (tgt := 61) hx hb dX3_gate_52 (by decide) (by omega) (by omega) (fun c_52 => ?_) (fun c_52 => ?_)
              · skip
                refine lv_lload hx hb dX3_gate_61 (lv_at hl 0 rfl) ?_
                refine lv_goto (tgt := 72) hx hb dX3_gate_63 (by decide) ?_
                subst hQQ
                exact xe_l (v := a_) () hx hb hr hlocks hK hP hD hS ((by unfold gT; (repeat' split) <;> first | rfl | (exfalso; omega))) dX3_gate_72
              · skip
                refine lv_iload_n hx hb dX3_gate_55 rfl (lv_at hl 1 rfl) ?_
                refine lv_bipush (v := nI 7) hx hb dX3_gate_56 (by decide) ?_
                refine nv_icmp_ne (tgt := 66) hx hb dX3_gate_58 (by decide) (by omega) (by omega) (fun c_58 => ?_) (fun c_58 => ?_)
                · skip
                  refine lv_lload hx hb dX3_gate_66 (lv_at hl 0 rfl) ?_
                  refine lv_ldc2 (v := (-1)) hx hb hown (hts _ q1792) dX3_gate_68 ?_
                  refine lv_lxor hx hb dX3_gate_71 ?_
                  subst hQQ
                  exact xe_l (v := a_ ^^^ (-1)) () hx hb hr hlocks hK hP hD hS ((by unfold gT; (repeat' split) <;> first | rfl | (exfalso; omega))) dX3_gate_72
                · skip
                  refine lv_lload hx hb dX3_gate_61 (lv_at hl 0 rfl) ?_
                  refine lv_goto (tgt := 72) hx hb dX3_gate_63 (by decide) ?_
                  subst hQQ
                  exact xe_l (v := a_) () hx hb hr hlocks hK hP hD hS ((by unfold gT; (repeat' split) <;> first | rfl | (exfalso; omega))) dX3_gate_72
            · skip
              refine lv_lload_n hx hb dX3_gate_41 rfl (lv_at hl 1 rfl) ?_
              refine lv_lload_n hx hb dX3_gate_42 rfl (lv_at hl 2 rfl) ?_
              refine lv_lxor hx hb dX3_gate_43 ?_
              refine lv_goto (tgt := 48) hx hb dX3_gate_44 (by decide) ?_
              refine lv_lstore (lv' := [(5, .long (a_ ^^^ b_)), (0, .int (nI k_)), (1, .long a_), (3, .long b_)]) hx hb dX3_gate_48 hl (by decide) rfl (fun ls hl => ?_)
              refine lv_iload_n hx hb dX3_gate_50 rfl (lv_at hl 1 rfl) ?_
              refine lv_iconst (v := nI 3) hx hb dX3_gate_51 (by decide) ?_
              refine nv_icmp_lt (tgt := 61) hx hb dX3_gate_52 (by decide) (by omega) (by omega) (fun c_52 => ?_) (fun c_52 => ?_)
              · skip
                refine lv_lload hx hb dX3_gate_61 (lv_at hl 0 rfl) ?_
                refine lv_goto (tgt := 72) hx hb dX3_gate_63 (by decide) ?_
                subst hQQ
                exact xe_l (v := a_ ^^^ b_) () hx hb hr hlocks hK hP hD hS ((by unfold gT; (repeat' split) <;> first | rfl | (exfalso; omega))) dX3_gate_72
              · skip
                refine lv_iload_n hx hb dX3_gate_55 rfl (lv_at hl 1 rfl) ?_
                refine lv_bipush (v := nI 7) hx hb dX3_gate_56 (by decide) ?_
                refine nv_icmp_ne (tgt := 66) hx hb dX3_gate_58 (by decide) (by omega) (by omega) (fun c_58 => ?_) (fun c_58 => ?_)
                · skip
                  refine lv_lload hx hb dX3_gate_66 (lv_at hl 0 rfl) ?_
                  refine lv_ldc2 (v := (-1)) hx hb hown (hts _ q1792) dX3_gate_68 ?_
                  refine lv_lxor hx hb dX3_gate_71 ?_
                  subst hQQ
                  exact xe_l (v := (a_ ^^^ b_) ^^^ (-1)) () hx hb hr hlocks hK hP hD hS ((by unfold gT; (repeat' split) <;> first | rfl | (exfalso; omega))) dX3_gate_72
                · skip
                  refine lv_lload hx hb dX3_gate_61 (lv_at hl 0 rfl) ?_
                  refine lv_goto (tgt := 72) hx hb dX3_gate_63 (by decide) ?_
                  subst hQQ
                  exact xe_l (v := a_ ^^^ b_) () hx hb hr hlocks hK hP hD hS ((by unfold gT; (repeat' split) <;> first | rfl | (exfalso; omega))) dX3_gate_72
        · skip
          refine lv_lload_n hx hb dX3_gate_25 rfl (lv_at hl 1 rfl) ?_
          refine lv_lload_n hx hb dX3_gate_26 rfl (lv_at hl 2 rfl) ?_
          refine lv_lor hx hb dX3_gate_27 ?_
          refine lv_goto (tgt := 48) hx hb dX3_gate_28 (by decide) ?_
          refine lv_lstore (lv' := [(5, .long (a_ ||| b_)), (0, .int (nI k_)), (1, .long a_), (3, .long b_)]) hx hb dX3_gate_48 hl (by decide) rfl (fun ls hl => ?_)
          refine lv_iload_n hx hb dX3_gate_50 rfl (lv_at hl 1 rfl) ?_
          refine lv_iconst (v := nI 3) hx hb dX3_gate_51 (by decide) ?_
          refine nv_icmp_lt (tgt := 61) hx hb dX3_gate_52 (by decide) (by omega) (by omega) (fun c_52 => ?_) (fun c_52 => ?_)
          · skip
            refine lv_lload hx hb dX3_gate_61 (lv_at hl 0 rfl) ?_
            refine lv_goto (tgt := 72) hx hb dX3_gate_63 (by decide) ?_
            subst hQQ
            exact xe_l (v := a_ ||| b_) () hx hb hr hlocks hK hP hD hS ((by unfold gT; (repeat' split) <;> first | rfl | (exfalso; omega))) dX3_gate_72
          · skip
            refine lv_iload_n hx hb dX3_gate_55 rfl (lv_at hl 1 rfl) ?_
            refine lv_bipush (v := nI 7) hx hb dX3_gate_56 (by decide) ?_
            refine nv_icmp_ne (tgt := 66) hx hb dX3_gate_58 (by decide) (by omega) (by omega) (fun c_58 => ?_) (fun c_58 => ?_)
            · skip
              refine lv_lload hx hb dX3_gate_66 (lv_at hl 0 rfl) ?_
              refine lv_ldc2 (v := (-1)) hx hb hown (hts _ q1792) dX3_gate_68 ?_
              refine lv_lxor hx hb dX3_gate_71 ?_
              subst hQQ
              exact xe_l (v := (a_ ||| b_) ^^^ (-1)) () hx hb hr hlocks hK hP hD hS ((by unfold gT; (repeat' split) <;> first | rfl | (exfalso; omega))) dX3_gate_72
            · skip
              refine lv_lload hx hb dX3_gate_61 (lv_at hl 0 rfl) ?_
              refine lv_goto (tgt := 72) hx hb dX3_gate_63 (by decide) ?_
              subst hQQ
              exact xe_l (v := a_ ||| b_) () hx hb hr hlocks hK hP hD hS ((by unfold gT; (repeat' split) <;> first | rfl | (exfalso; omega))) dX3_gate_72
    · skip
      refine lv_lload_n hx hb dX3_gate_9 rfl (lv_at hl 1 rfl) ?_
      refine lv_lload_n hx hb dX3_gate_10 rfl (lv_at hl 2 rfl) ?_
      refine lv_land hx hb dX3_gate_11 ?_
      refine lv_goto (tgt := 48) hx hb dX3_gate_12 (by decide) ?_
      refine lv_lstore (lv' := [(5, .long (a_ &&& b_)), (0, .int (nI k_)), (1, .long a_), (3, .long b_)]) hx hb dX3_gate_48 hl (by decide) rfl (fun ls hl => ?_)
      refine lv_iload_n hx hb dX3_gate_50 rfl (lv_at hl 1 rfl) ?_
      refine lv_iconst (v := nI 3) hx hb dX3_gate_51 (by decide) ?_
      refine nv_icmp_lt (tgt := 61) hx hb dX3_gate_52 (by decide) (by omega) (by omega) (fun c_52 => ?_) (fun c_52 => ?_)
      · skip
        refine lv_lload hx hb dX3_gate_61 (lv_at hl 0 rfl) ?_
        refine lv_goto (tgt := 72) hx hb dX3_gate_63 (by decide) ?_
        subst hQQ
        exact xe_l (v := a_ &&& b_) () hx hb hr hlocks hK hP hD hS ((by unfold gT; (repeat' split) <;> first | rfl | (exfalso; omega))) dX3_gate_72
      · skip
        refine lv_iload_n hx hb dX3_gate_55 rfl (lv_at hl 1 rfl) ?_
        refine lv_bipush (v := nI 7) hx hb dX3_gate_56 (by decide) ?_
        refine nv_icmp_ne (tgt := 66) hx hb dX3_gate_58 (by decide) (by omega) (by omega) (fun c_58 => ?_) (fun c_58 => ?_)
        · skip
          refine lv_lload hx hb dX3_gate_66 (lv_at hl 0 rfl) ?_
          refine lv_ldc2 (v := (-1)) hx hb hown (hts _ q1792) dX3_gate_68 ?_
          refine lv_lxor hx hb dX3_gate_71 ?_
          subst hQQ
          exact xe_l (v := (a_ &&& b_) ^^^ (-1)) () hx hb hr hlocks hK hP hD hS ((by unfold gT; (repeat' split) <;> first | rfl | (exfalso; omega))) dX3_gate_72
        · skip
          refine lv_lload hx hb dX3_gate_61 (lv_at hl 0 rfl) ?_
          refine lv_goto (tgt := 72) hx hb dX3_gate_63 (by decide) ?_
          subst hQQ
          exact xe_l (v := a_ &&& b_) () hx hb hr hlocks hK hP hD hS ((by unfold gT; (repeat' split) <;> first | rfl | (exfalso; omega))) dX3_gate_72
set_option maxHeartbeats 4000000 in
set_option maxRecDepth 100000 in
theorem mt_X3_stuck (l : Launch) (D : va_G) (ca : Nat → ClassId) (q : Nat → Nat) (th : Int32) (st : Int32) (ik : Int32) (ln : Int32) (ou : Int32) (pa : Int32) (iw : Int32) (so : Int32) (na : Int32) (nb : Int32) (fo : Int32) (nu : Int32) (al : Int32) (z : Nat → Int32) (be : Nat → Int32) (ke : Nat → Int32) (te : Nat → Int32) (ti : Nat → Int32) (ne : Nat → Int32) (wa : Nat → Int32) (ta : Nat → Int64) (out : Nat → Int64) (pl : Nat → Int64) (lo : Nat → Int64) (sh : Nat → Int64) (le : Nat → Int64) (l_ : Nat) (F_ : Nat) (v_ : Int64) (hF : F_ ≤ 100) (hl0 : l_ < 100) (nn : Nat) : Met l yX3_stuck (ws_ yX3_stuck cX3_stuck 5 (Option.some Jvm.ClassFile.FieldType.long)) ({ frames := 0, cells := 0, slots := 0, locals := 0 } : Room) (va_Pc [.ref (q 0), .int (nI l_), .int (fI F_), .long v_] (PreW Ev0 D vwCl (TY ca) (WM ca q th st ik ln ou pa iw so na nb fo nu al z be ke te ti ne wa ta out pl lo sh le) nn)) (va_Ql (fun (r_ : Int64) (_ : Unit) => r_ = stk l_ F_ v_) (PostW D vwCl (TY ca) (fun (_ : Unit) => (WM ca q th st ik ln ou pa iw so na nb fo nu al z be ke te ti ne wa ta out pl lo sh le)) (va_A (WM ca q th st ik ln ou pa iw so na nb fo nu al z be ke te ti ne wa ta out pl lo sh le) nn)) (va_A (WM ca q th st ik ln ou pa iw so na nb fo nu al z be ke te ti ne wa ta out pl lo sh le) nn)) 0 0 (va_A (WM ca q th st ik ln ou pa iw so na nb fo nu al z be ke te ti ne wa ta out pl lo sh le) nn) := by
  refine met_go (QA := fun A => va_Ql (fun (r_ : Int64) (_ : Unit) => r_ = stk l_ F_ v_) (PostW D vwCl (TY ca) (fun (_ : Unit) => (WM ca q th st ik ln ou pa iw so na nb fo nu al z be ke te ti ne wa ta out pl lo sh le)) A) A) (by decide) (Nat.le_of_ble_eq_true rfl) (fun p e s m below meth c A ls QQ hQQ hx hb hr hts hown hlocks hml hA hP hK hD hE hl => ?_)
  have hown : s.vm.findClass RX3 = some m.cls := hown
  have hS : va_S A s.heap s.heap [] := va_S.rf
  have hl : lv_has ls 5 [(0, .ref (q 0)), (1, .int (nI l_)), (2, .int (fI F_)), (3, .long v_)] := hl
  generalize hHe : s.heap = H at hP ⊢
  have hS : va_S A s.heap H [] := hHe ▸ hS
  generalize ([] : List Loc) = locs at hS ⊢
  refine lv_iload_n hx hb dX3_stuck_0 rfl (lv_at hl 2 rfl) ?_
  refine lv_iconst (v := fI 0) hx hb dX3_stuck_1 (by decide) ?_
  refine nv_icmp_eqf (tgt := 29) hx hb dX3_stuck_2 (by decide) (by omega) (fun c_2 => ?_) (fun c_2 => ?_)
  · skip
    refine lv_lload_n hx hb dX3_stuck_29 rfl (lv_at hl 3 rfl) ?_
    subst hQQ
    exact xe_l (v := v_) () hx hb hr hlocks hK hP hD hS ((by unfold stk; (repeat' split) <;> first | rfl | (exfalso; omega))) dX3_stuck_30
  · skip
    refine lv_iload_n hx hb dX3_stuck_5 rfl (lv_at hl 2 rfl) ?_
    refine lv_topi (nm_r (e' := nI (F_ - 1)) (fI_pos c_2) ?_)
    refine lv_iconst (v := nI 2) hx hb dX3_stuck_6 (by decide) ?_
    refine nv_idiv hx hb dX3_stuck_7 (by omega) (by omega) (by omega) ?_
    refine lv_iload_n hx hb dX3_stuck_8 rfl (lv_at hl 1 rfl) ?_
    refine nv_icmp_ne (tgt := 29) hx hb dX3_stuck_9 (by decide) (by omega) (by omega) (fun c_9 => ?_) (fun c_9 => ?_)
    · skip
      refine lv_lload_n hx hb dX3_stuck_29 rfl (lv_at hl 3 rfl) ?_
      subst hQQ
      exact xe_l (v := v_) () hx hb hr hlocks hK hP hD hS ((by unfold stk; (repeat' split) <;> first | rfl | (exfalso; omega))) dX3_stuck_30
    · skip
      refine lv_iload_n hx hb dX3_stuck_12 rfl (lv_at hl 2 rfl) ?_
      refine lv_topi (nm_r (e' := nI (F_ - 1)) (fI_pos c_2) ?_)
      refine lv_iconst (v := nI 2) hx hb dX3_stuck_13 (by decide) ?_
      refine nv_irem hx hb dX3_stuck_14 (by omega) (by omega) (by omega) ?_
      refine lv_iconst (v := nI 1) hx hb dX3_stuck_15 (by decide) ?_
      refine nv_icmp_ne (tgt := 25) hx hb dX3_stuck_16 (by decide) (by omega) (by omega) (fun c_16 => ?_) (fun c_16 => ?_)
      · skip
        refine lv_lconst (v := lN 0) hx hb dX3_stuck_25 (by decide) ?_
        refine lv_goto (tgt := 30) hx hb dX3_stuck_26 (by decide) ?_
        subst hQQ
        exact xe_l (v := lN 0) () hx hb hr hlocks hK hP hD hS ((by unfold stk; (repeat' split) <;> first | rfl | (exfalso; omega))) dX3_stuck_30
      · skip
        refine lv_ldc2 (v := (-1)) hx hb hown (hts _ q1792) dX3_stuck_19 ?_
        refine lv_goto (tgt := 30) hx hb dX3_stuck_22 (by decide) ?_
        subst hQQ
        exact xe_l (v := (-1)) () hx hb hr hlocks hK hP hD hS ((by unfold stk; (repeat' split) <;> first | rfl | (exfalso; omega))) dX3_stuck_30
set_option maxHeartbeats 4000000 in
set_option maxRecDepth 100000 in
theorem mt_X3_lay (l : Launch) (D : va_G) (ca : Nat → ClassId) (q : Nat → Nat) (th : Int32) (st : Int32) (ik : Int32) (ln : Int32) (ou : Int32) (pa : Int32) (iw : Int32) (so : Int32) (na : Int32) (nb : Int32) (fo : Int32) (nu : Int32) (al : Int32) (be : Nat → Int32) (ke : Nat → Int32) (te : Nat → Int32) (ti : Nat → Int32) (ne : Nat → Int32) (wa : Nat → Int32) (ta : Nat → Int64) (out : Nat → Int64) (pl : Nat → Int64) (lo : Nat → Int64) (sh : Nat → Int64) (le : Nat → Int64) (C : Nat → Nat) (K_ : Nat) (F_ : Nat) (h0 : C 0 ≤ 12) (hkd0 : ∀ k, k < 12 → C (1 + k) < 8) (hse : ∀ k, k < 12 → C (13 + k) < 6 + k ∧ C (25 + k) < 6 + k) (ho : C 37 < 2 ^ 18) (hbx : C 38 < 2 ^ 18) (hno : popc 18 (C 37) ≤ 4) (hK : K_ ≤ 216) (hF : F_ ≤ 100) (nn : Nat) : Met l yX3_lay (ws_ yX3_lay cX3_lay 6 (Option.none : Option Jvm.ClassFile.FieldType)) ({ frames := 1, cells := 0, slots := 0, locals := 26 } : Room) (va_Pc [.ref (q 0), .int (fI K_), .int (fI F_)] (PreW Ev0 D vwCl (TY ca) (WM ca q th st ik ln ou pa iw so na nb fo nu al (zOf C) be ke te ti ne wa ta out pl lo sh le) nn)) (va_Qv (fun (_ : Unit) => True) (PostW D vwCl (TY ca) (fun (_ : Unit) => (WM ca q th st ik ln (nI (no C)) pa iw so na nb fo nu al (zOf C) be ke te ti ne wa (fillL (6 + C 0) (tb C K_ F_) ta) (outF C (tb C K_ F_) (6 + C 0) out) pl lo sh le)) (va_A (WM ca q th st ik ln ou pa iw so na nb fo nu al (zOf C) be ke te ti ne wa ta out pl lo sh le) nn)) (va_A (WM ca q th st ik ln ou pa iw so na nb fo nu al (zOf C) be ke te ti ne wa ta out pl lo sh le) nn)) 0 0 (va_A (WM ca q th st ik ln ou pa iw so na nb fo nu al (zOf C) be ke te ti ne wa ta out pl lo sh le) nn) := by
  refine met_go (QA := fun A => va_Qv (fun (_ : Unit) => True) (PostW D vwCl (TY ca) (fun (_ : Unit) => (WM ca q th st ik ln (nI (no C)) pa iw so na nb fo nu al (zOf C) be ke te ti ne wa (fillL (6 + C 0) (tb C K_ F_) ta) (outF C (tb C K_ F_) (6 + C 0) out) pl lo sh le)) A) A) (by decide) (Nat.le_of_ble_eq_true rfl) (fun p e s m below meth c A ls QQ hQQ hx hb hr hts hown hlocks hml hA hP hK hD hE hl => ?_)
  have hown : s.vm.findClass RX3 = some m.cls := hown
  have hS : va_S A s.heap s.heap [] := va_S.rf
  have hl : lv_has ls 6 [(0, .ref (q 0)), (1, .int (fI K_)), (2, .int (fI F_))] := hl
  generalize hHe : s.heap = H at hP ⊢
  have hS : va_S A s.heap H [] := hHe ▸ hS
  generalize ([] : List Loc) = locs at hS ⊢
  refine lv_iconst (v := nI 0) hx hb dX3_lay_0 (by decide) ?_
  refine lv_istore_n (lv' := [(3, .int (nI 0)), (0, .ref (q 0)), (1, .int (fI K_)), (2, .int (fI F_))]) hx hb dX3_lay_1 rfl hl (by decide) rfl (fun ls hl => ?_)
  have lp_2 : ∀ (fu_2 : Nat) (i : Nat), 6 - i < fu_2 → (i ≤ 6) → ∀ (H : Heap) (locs : List Loc), va_P D vwCl (WM ca q th st ik ln ou pa iw so na nb fo nu al (zOf C) be ke te ti ne wa (fillL i (tbs C K_ F_ 0) ta) out pl lo sh le) H → va_D A (WM ca q th st ik ln ou pa iw so na nb fo nu al (zOf C) be ke te ti ne wa (fillL i (tbs C K_ F_ 0) ta) out pl lo sh le) → va_S A s.heap H locs → ∀ (ls : Array Slot), lv_has ls 6 [(3, .int (nI i)), (0, .ref (q 0)), (1, .int (fI K_)), (2, .int (fI F_))] → W p l e ({ frames := 1, cells := 0, slots := 0, locals := 26 } : Room) s m ([.ref (q 0), .int (fI K_), .int (fI F_)] : List Value).toArray below meth c H locs 0 0 QQ (F0 m 2 ls []) := by
    intro fu_2
    induction fu_2 with
    | zero => intro i hfu; exact absurd hfu (Nat.not_lt_zero _)
    | succ fu_2 ih_2 =>
      intro i hfu hi H locs hP hD hS ls hl
      refine lv_iload_n hx hb dX3_lay_2 rfl (lv_at hl 0 rfl) ?_
      refine lv_bipush (v := nI 6) hx hb dX3_lay_3 (by decide) ?_
      refine nv_icmp_ge (tgt := 30) hx hb dX3_lay_5 (by decide) (by omega) (by omega) (fun c_5 => ?_) (fun c_5 => ?_)
      · skip
        have e_ : 6 = i := Eq.symm (by omega)
        subst e_
        refine lv_iload_n hx hb dX3_lay_30 rfl (lv_at hl 2 rfl) ?_
        refine lv_topi (nm_r (e' := smI C K_ 0) (smI_0 C K_) ?_)
        refine lv_istore_n (lv' := [(3, .int (smI C K_ 0)), (0, .ref (q 0)), (1, .int (fI K_)), (2, .int (fI F_))]) hx hb dX3_lay_31 rfl hl (by decide) rfl (fun ls hl => ?_)
        refine lv_iconst (v := nI 0) hx hb dX3_lay_32 (by decide) ?_
        refine lv_istore (lv' := [(4, .int (nI 0)), (3, .int (smI C K_ 0)), (0, .ref (q 0)), (1, .int (fI K_)), (2, .int (fI F_))]) hx hb dX3_lay_33 hl (by decide) rfl (fun ls hl => ?_)
        have lp_35 : ∀ (fu_35 : Nat) (g : Nat), C 0 - g < fu_35 → (g ≤ C 0) → ∀ (H : Heap) (locs : List Loc), va_P D vwCl (WM ca q th st ik ln ou pa iw so na nb fo nu al (zOf C) be ke te ti ne wa (fillL (6 + g) (tbs C K_ F_ g) ta) out pl lo sh le) H → va_D A (WM ca q th st ik ln ou pa iw so na nb fo nu al (zOf C) be ke te ti ne wa (fillL (6 + g) (tbs C K_ F_ g) ta) out pl lo sh le) → va_S A s.heap H locs → ∀ (ls : Array Slot), lv_has ls 6 [(4, .int (nI g)), (3, .int (smI C K_ g)), (0, .ref (q 0)), (1, .int (fI K_)), (2, .int (fI F_))] → W p l e ({ frames := 1, cells := 0, slots := 0, locals := 26 } : Room) s m ([.ref (q 0), .int (fI K_), .int (fI F_)] : List Value).toArray below meth c H locs 0 0 QQ (F0 m 35 ls []) := by
          intro fu_35
          induction fu_35 with
          | zero => intro g hfu; exact absurd hfu (Nat.not_lt_zero _)
          | succ fu_35 ih_35 =>
            intro g hfu hg H locs hP hD hS ls hl
            refine lv_iload hx hb dX3_lay_35 (lv_at hl 0 rfl) ?_
            refine lv_aload_n hx hb dX3_lay_37 rfl (lv_at hl 2 rfl) ?_
            refine gWM_0_z_X3 hx hb hts hown hK hP dX3_lay_38 ?_
            refine lv_iconst (v := nI 0) hx hb dX3_lay_41 (by decide) ?_
            refine ldWM_1 hx hb hK hP (by omega) dX3_lay_42 ?_
            refine lv_topi (nm_r (e' := nI (C 0)) (rfl) ?_)
            refine nv_icmp_ge (tgt := 149) hx hb dX3_lay_43 (by decide) (by omega) (by omega) (fun c_43 => ?_) (fun c_43 => ?_)
            · skip
              have e_ : C 0 = g := Eq.symm (by omega)
              subst e_
              have ew_ : fillL (6 + (C 0)) (tbs C K_ F_ (C 0)) ta = fillL (6 + C 0) (tb C K_ F_) ta := rfl
              have hP : va_P D vwCl (WM ca q th st ik ln ou pa iw so na nb fo nu al (zOf C) be ke te ti ne wa (fillL (6 + C 0) (tb C K_ F_) ta) out pl lo sh le) H := (congrArg (fun x_ => va_P D vwCl (WM ca q th st ik ln ou pa iw so na nb fo nu al (zOf C) be ke te ti ne wa x_ out pl lo sh le) H) ew_).mp hP
              have hD : va_D A (WM ca q th st ik ln ou pa iw so na nb fo nu al (zOf C) be ke te ti ne wa (fillL (6 + C 0) (tb C K_ F_) ta) out pl lo sh le) := (congrArg (fun x_ => va_D A (WM ca q th st ik ln ou pa iw so na nb fo nu al (zOf C) be ke te ti ne wa x_ out pl lo sh le)) ew_).mp hD
              clear ew_
              refine lv_aload_n hx hb dX3_lay_149 rfl (lv_at hl 2 rfl) ?_
              refine lv_iconst (v := nI 0) hx hb dX3_lay_150 (by decide) ?_
              refine pWM_0_outs_X3 hx hb hts hown hK hP hD hS dX3_lay_151 (fun H locs hP hD hS => ?_)
              refine lv_iconst (v := nI 0) hx hb dX3_lay_154 (by decide) ?_
              refine lv_istore (lv' := [(4, .int (nI 0)), (3, .int (smI C K_ (C 0))), (0, .ref (q 0)), (1, .int (fI K_)), (2, .int (fI F_))]) hx hb dX3_lay_155 hl (by decide) rfl (fun ls hl => ?_)
              have lp_157 : ∀ (fu_157 : Nat) (j : Nat), 6 + C 0 - j < fu_157 → (j ≤ 6 + C 0) → ∀ (H : Heap) (locs : List Loc), va_P D vwCl (WM ca q th st ik ln (nI (popc j (C 37))) pa iw so na nb fo nu al (zOf C) be ke te ti ne wa (fillL (6 + C 0) (tb C K_ F_) ta) (outF C (tb C K_ F_) j out) pl lo sh le) H → va_D A (WM ca q th st ik ln (nI (popc j (C 37))) pa iw so na nb fo nu al (zOf C) be ke te ti ne wa (fillL (6 + C 0) (tb C K_ F_) ta) (outF C (tb C K_ F_) j out) pl lo sh le) → va_S A s.heap H locs → ∀ (ls : Array Slot), lv_has ls 6 [(4, .int (nI j)), (0, .ref (q 0)), (1, .int (fI K_)), (2, .int (fI F_))] → W p l e ({ frames := 1, cells := 0, slots := 0, locals := 26 } : Room) s m ([.ref (q 0), .int (fI K_), .int (fI F_)] : List Value).toArray below meth c H locs 0 0 QQ (F0 m 157 ls []) := by
                intro fu_157
                induction fu_157 with
                | zero => intro j hfu; exact absurd hfu (Nat.not_lt_zero _)
                | succ fu_157 ih_157 =>
                  intro j hfu hj H locs hP hD hS ls hl
                  refine lv_iload hx hb dX3_lay_157 (lv_at hl 0 rfl) ?_
                  refine lv_aload_n hx hb dX3_lay_159 rfl (lv_at hl 1 rfl) ?_
                  refine xc_i (xr_V (b := q 0) (ci := 2) (q0 := 0) (As := []) (rest := [.int (nI j)]) (mt_X3_lines l D ca q th st ik ln (nI (popc j (C 37))) pa iw so na nb fo nu al be ke te ti ne wa (fillL (6 + C 0) (tb C K_ F_) ta) (outF C (tb C K_ F_) j out) pl lo sh le C  H.size) ⟨hx, hb, hml, hown, hts⟩ (cwV 0 hts (lw_V q1696 q1698 qs45 q87 q1699) rfl rfl rfl (by decide +kernel) ⟨Nat.le_of_ble_eq_true rfl, Nat.le_of_ble_eq_true rfl⟩) Ev0_ok hE hK hS (Cut.all hP hD hS hA) rfl rfl rfl hl.1 rfl (Nat.le_of_ble_eq_true rfl) dX3_lay_160 ⟨Nat.le_of_ble_eq_true rfl, Nat.le_of_ble_eq_true rfl⟩) hS (Cut.all hP hD hS hA) (fun r_3 u_4 H locs hq_160 hP hD hS => ?_)
                  have hP : va_P D vwCl (WM ca q th st ik ln (nI (popc j (C 37))) pa iw so na nb fo nu al (zOf C) be ke te ti ne wa (fillL (6 + C 0) (tb C K_ F_) ta) (outF C (tb C K_ F_) j out) pl lo sh le) H := hP
                  have hD : va_D A (WM ca q th st ik ln (nI (popc j (C 37))) pa iw so na nb fo nu al (zOf C) be ke te ti ne wa (fillL (6 + C 0) (tb C K_ F_) ta) (outF C (tb C K_ F_) j out) pl lo sh le) := hD
                  have hp_160 : r_3 = nI (6 + C 0) := hq_160
                  clear hq_160
                  obtain rfl := hp_160
                  refine nv_icmp_ge (tgt := 213) hx hb dX3_lay_163 (by decide) (by omega) (by omega) (fun c_163 => ?_) (fun c_163 => ?_)
                  · skip
                    have e_ : 6 + C 0 = j := Eq.symm (by omega)
                    subst e_
                    have ew_ : nI (popc (6 + C 0) (C 37)) = nI (no C) := rfl
                    have hP : va_P D vwCl (WM ca q th st ik ln (nI (no C)) pa iw so na nb fo nu al (zOf C) be ke te ti ne wa (fillL (6 + C 0) (tb C K_ F_) ta) (outF C (tb C K_ F_) (6 + C 0) out) pl lo sh le) H := (congrArg (fun x_ => va_P D vwCl (WM ca q th st ik ln x_ pa iw so na nb fo nu al (zOf C) be ke te ti ne wa (fillL (6 + C 0) (tb C K_ F_) ta) (outF C (tb C K_ F_) (6 + C 0) out) pl lo sh le) H) ew_).mp hP
                    have hD : va_D A (WM ca q th st ik ln (nI (no C)) pa iw so na nb fo nu al (zOf C) be ke te ti ne wa (fillL (6 + C 0) (tb C K_ F_) ta) (outF C (tb C K_ F_) (6 + C 0) out) pl lo sh le) := (congrArg (fun x_ => va_D A (WM ca q th st ik ln x_ pa iw so na nb fo nu al (zOf C) be ke te ti ne wa (fillL (6 + C 0) (tb C K_ F_) ta) (outF C (tb C K_ F_) (6 + C 0) out) pl lo sh le)) ew_).mp hD
                    clear ew_
                    subst hQQ
                    exact xe_v () hx hb hr hlocks hK hP hD hS (trivial) dX3_lay_213
                  · skip
                    refine lv_aload_n hx hb dX3_lay_166 rfl (lv_at hl 1 rfl) ?_
                    refine gWM_0_z_X3 hx hb hts hown hK hP dX3_lay_167 ?_
                    refine lv_bipush (v := nI 37) hx hb dX3_lay_170 (by decide) ?_
                    refine ldWM_1 hx hb hK hP (by omega) dX3_lay_172 ?_
                    refine lv_topi (nm_r (e' := nI (C 37)) (rfl) ?_)
                    refine lv_iload hx hb dX3_lay_173 (lv_at hl 0 rfl) ?_
                    refine xc_i (xr_S (As := [.int (nI (C 37)), .int (nI j)]) (rest := []) (mt_X3_has l D ca (C 37) j (by first | assumption | omega | (simp only [updN, forgetC, changedC]; (repeat' split) <;> omega)) (by first | assumption | omega | (simp only [updN, forgetC, changedC]; (repeat' split) <;> omega)) H.size) ⟨hx, hb, hml, hown, hts⟩ (va_cwS 2 hts (lw_S q1731 q1732 q87 q1733) rfl rfl rfl (by decide +kernel) ⟨Nat.le_of_ble_eq_true rfl, Nat.le_of_ble_eq_true rfl⟩) Ev0_ok hE hK hS (Cut.app (wc := []) (wr := (WM ca q th st ik ln (nI (popc j (C 37))) pa iw so na nb fo nu al (zOf C) be ke te ti ne wa (fillL (6 + C 0) (tb C K_ F_) ta) (outF C (tb C K_ F_) j out) pl lo sh le)) hP hD hS hA) rfl hl.1 rfl (Nat.le_of_ble_eq_true rfl) dX3_lay_175 ⟨Nat.le_of_ble_eq_true rfl, Nat.le_of_ble_eq_true rfl⟩) hS (Cut.app (wc := []) (wr := (WM ca q th st ik ln (nI (popc j (C 37))) pa iw so na nb fo nu al (zOf C) be ke te ti ne wa (fillL (6 + C 0) (tb C K_ F_) ta) (outF C (tb C K_ F_) j out) pl lo sh le)) hP hD hS hA) (fun r_6 u_7 H locs hq_175 hP hD hS => ?_)
                    have hP : va_P D vwCl (WM ca q th st ik ln (nI (popc j (C 37))) pa iw so na nb fo nu al (zOf C) be ke te ti ne wa (fillL (6 + C 0) (tb C K_ F_) ta) (outF C (tb C K_ F_) j out) pl lo sh le) H := hP
                    have hD : va_D A (WM ca q th st ik ln (nI (popc j (C 37))) pa iw so na nb fo nu al (zOf C) be ke te ti ne wa (fillL (6 + C 0) (tb C K_ F_) ta) (outF C (tb C K_ F_) j out) pl lo sh le) := hD
                    have hp_175 : r_6 = bI ((C 37).testBit j) := hq_175
                    clear hq_175
                    obtain rfl := hp_175
                    refine nv_ifb_eq (tgt := 207) hx hb dX3_lay_178 (by decide) (fun c_178 => ?_) (fun c_178 => ?_)
                    · skip
                      refine lv_iinc (v := nI (j + 1)) (lv' := [(4, .int (nI (j + 1))), (0, .ref (q 0)), (1, .int (fI K_)), (2, .int (fI F_))]) hx hb dX3_lay_207 hl (k := 0) rfl (nI_add j 1) (by decide) rfl (fun ls hl => ?_)
                      refine lv_goto (tgt := 157) hx hb dX3_lay_210 (by decide) ?_
                      have ew_ : outF C (tb C K_ F_) j out = outF C (tb C K_ F_) (j + 1) out := outF_n c_178
                      have hP : va_P D vwCl (WM ca q th st ik ln (nI (popc j (C 37))) pa iw so na nb fo nu al (zOf C) be ke te ti ne wa (fillL (6 + C 0) (tb C K_ F_) ta) (outF C (tb C K_ F_) (j + 1) out) pl lo sh le) H := (congrArg (fun x_ => va_P D vwCl (WM ca q th st ik ln (nI (popc j (C 37))) pa iw so na nb fo nu al (zOf C) be ke te ti ne wa (fillL (6 + C 0) (tb C K_ F_) ta) x_ pl lo sh le) H) ew_).mp hP
                      have hD : va_D A (WM ca q th st ik ln (nI (popc j (C 37))) pa iw so na nb fo nu al (zOf C) be ke te ti ne wa (fillL (6 + C 0) (tb C K_ F_) ta) (outF C (tb C K_ F_) (j + 1) out) pl lo sh le) := (congrArg (fun x_ => va_D A (WM ca q th st ik ln (nI (popc j (C 37))) pa iw so na nb fo nu al (zOf C) be ke te ti ne wa (fillL (6 + C 0) (tb C K_ F_) ta) x_ pl lo sh le)) ew_).mp hD
                      clear ew_
                      have ew_ : nI (popc j (C 37)) = nI (popc (j + 1) (C 37)) := congrArg nI (popc_n c_178).symm
                      have hP : va_P D vwCl (WM ca q th st ik ln (nI (popc (j + 1) (C 37))) pa iw so na nb fo nu al (zOf C) be ke te ti ne wa (fillL (6 + C 0) (tb C K_ F_) ta) (outF C (tb C K_ F_) (j + 1) out) pl lo sh le) H := (congrArg (fun x_ => va_P D vwCl (WM ca q th st ik ln x_ pa iw so na nb fo nu al (zOf C) be ke te ti ne wa (fillL (6 + C 0) (tb C K_ F_) ta) (outF C (tb C K_ F_) (j + 1) out) pl lo sh le) H) ew_).mp hP
                      have hD : va_D A (WM ca q th st ik ln (nI (popc (j + 1) (C 37))) pa iw so na nb fo nu al (zOf C) be ke te ti ne wa (fillL (6 + C 0) (tb C K_ F_) ta) (outF C (tb C K_ F_) (j + 1) out) pl lo sh le) := (congrArg (fun x_ => va_D A (WM ca q th st ik ln x_ pa iw so na nb fo nu al (zOf C) be ke te ti ne wa (fillL (6 + C 0) (tb C K_ F_) ta) (outF C (tb C K_ F_) (j + 1) out) pl lo sh le)) ew_).mp hD
                      clear ew_
                      exact ih_157  (j + 1) (by omega) (by omega) _ _ hP hD hS ls (lv_sub hl [0, 1, 2, 3] rfl)
                    · skip
                      refine lv_aload_n hx hb dX3_lay_181 rfl (lv_at hl 1 rfl) ?_
                      refine gWM_0_out_X3 hx hb hts hown hK hP dX3_lay_182 ?_
                      refine lv_aload_n hx hb dX3_lay_185 rfl (lv_at hl 1 rfl) ?_
                      refine gWM_0_outs_X3 hx hb hts hown hK hP dX3_lay_186 ?_
                      refine lv_aload_n hx hb dX3_lay_189 rfl (lv_at hl 1 rfl) ?_
                      refine gWM_0_table_X3 hx hb hts hown hK hP dX3_lay_190 ?_
                      refine lv_iload hx hb dX3_lay_193 (lv_at hl 0 rfl) ?_
                      refine ldWM_5 hx hb hK hP (by omega) dX3_lay_195 ?_
                      refine lv_topl (nm_r (e' := tb C K_ F_ j) (fillL_at (by omega)) ?_)
                      refine stWM_6 hx hb hK hP hD hS (popc_idx c_178 (by omega) hno) dX3_lay_196 (fun H locs hP hD hS => ?_)
                      refine lv_aload_n hx hb dX3_lay_197 rfl (lv_at hl 1 rfl) ?_
                      refine lv_dup hx hb dX3_lay_198 rfl ?_
                      refine gWM_0_outs_X3 hx hb hts hown hK hP dX3_lay_199 ?_
                      refine lv_iconst (v := nI 1) hx hb dX3_lay_202 (by decide) ?_
                      refine nv_iadd hx hb dX3_lay_203 ?_
                      refine pWM_0_outs_X3 hx hb hts hown hK hP hD hS dX3_lay_204 (fun H locs hP hD hS => ?_)
                      refine lv_iinc (v := nI (j + 1)) (lv' := [(4, .int (nI (j + 1))), (0, .ref (q 0)), (1, .int (fI K_)), (2, .int (fI F_))]) hx hb dX3_lay_207 hl (k := 0) rfl (nI_add j 1) (by decide) rfl (fun ls hl => ?_)
                      refine lv_goto (tgt := 157) hx hb dX3_lay_210 (by decide) ?_
                      have ew_ : vp_updL (outF C (tb C K_ F_) j out) (popc j (C 37)) (tb C K_ F_ j) = outF C (tb C K_ F_) (j + 1) out := outF_y c_178
                      have hP : va_P D vwCl (WM ca q th st ik ln (nI ((popc j (C 37)) + 1)) pa iw so na nb fo nu al (zOf C) be ke te ti ne wa (fillL (6 + C 0) (tb C K_ F_) ta) (outF C (tb C K_ F_) (j + 1) out) pl lo sh le) H := (congrArg (fun x_ => va_P D vwCl (WM ca q th st ik ln (nI ((popc j (C 37)) + 1)) pa iw so na nb fo nu al (zOf C) be ke te ti ne wa (fillL (6 + C 0) (tb C K_ F_) ta) x_ pl lo sh le) H) ew_).mp hP
                      have hD : va_D A (WM ca q th st ik ln (nI ((popc j (C 37)) + 1)) pa iw so na nb fo nu al (zOf C) be ke te ti ne wa (fillL (6 + C 0) (tb C K_ F_) ta) (outF C (tb C K_ F_) (j + 1) out) pl lo sh le) := (congrArg (fun x_ => va_D A (WM ca q th st ik ln (nI ((popc j (C 37)) + 1)) pa iw so na nb fo nu al (zOf C) be ke te ti ne wa (fillL (6 + C 0) (tb C K_ F_) ta) x_ pl lo sh le)) ew_).mp hD
                      clear ew_
                      have ew_ : nI ((popc j (C 37)) + 1) = nI (popc (j + 1) (C 37)) := congrArg nI (popc_s c_178).symm
                      have hP : va_P D vwCl (WM ca q th st ik ln (nI (popc (j + 1) (C 37))) pa iw so na nb fo nu al (zOf C) be ke te ti ne wa (fillL (6 + C 0) (tb C K_ F_) ta) (outF C (tb C K_ F_) (j + 1) out) pl lo sh le) H := (congrArg (fun x_ => va_P D vwCl (WM ca q th st ik ln x_ pa iw so na nb fo nu al (zOf C) be ke te ti ne wa (fillL (6 + C 0) (tb C K_ F_) ta) (outF C (tb C K_ F_) (j + 1) out) pl lo sh le) H) ew_).mp hP
                      have hD : va_D A (WM ca q th st ik ln (nI (popc (j + 1) (C 37))) pa iw so na nb fo nu al (zOf C) be ke te ti ne wa (fillL (6 + C 0) (tb C K_ F_) ta) (outF C (tb C K_ F_) (j + 1) out) pl lo sh le) := (congrArg (fun x_ => va_D A (WM ca q th st ik ln x_ pa iw so na nb fo nu al (zOf C) be ke te ti ne wa (fillL (6 + C 0) (tb C K_ F_) ta) (outF C (tb C K_ F_) (j + 1) out) pl lo sh le)) ew_).mp hD
                      clear ew_
                      exact ih_157  (j + 1) (by omega) (by omega) _ _ hP hD hS ls (lv_sub hl [0, 1, 2, 3] rfl)
              have ew_ : out = outF C (tb C K_ F_) 0 out := rfl
              have hP : va_P D vwCl (WM ca q th st ik ln (nI 0) pa iw so na nb fo nu al (zOf C) be ke te ti ne wa (fillL (6 + C 0) (tb C K_ F_) ta) (outF C (tb C K_ F_) 0 out) pl lo sh le) H := (congrArg (fun x_ => va_P D vwCl (WM ca q th st ik ln (nI 0) pa iw so na nb fo nu al (zOf C) be ke te ti ne wa (fillL (6 + C 0) (tb C K_ F_) ta) x_ pl lo sh le) H) ew_).mp hP
              have hD : va_D A (WM ca q th st ik ln (nI 0) pa iw so na nb fo nu al (zOf C) be ke te ti ne wa (fillL (6 + C 0) (tb C K_ F_) ta) (outF C (tb C K_ F_) 0 out) pl lo sh le) := (congrArg (fun x_ => va_D A (WM ca q th st ik ln (nI 0) pa iw so na nb fo nu al (zOf C) be ke te ti ne wa (fillL (6 + C 0) (tb C K_ F_) ta) x_ pl lo sh le)) ew_).mp hD
              clear ew_
              have ew_ : nI 0 = nI (popc 0 (C 37)) := rfl
              have hP : va_P D vwCl (WM ca q th st ik ln (nI (popc 0 (C 37))) pa iw so na nb fo nu al (zOf C) be ke te ti ne wa (fillL (6 + C 0) (tb C K_ F_) ta) (outF C (tb C K_ F_) 0 out) pl lo sh le) H := (congrArg (fun x_ => va_P D vwCl (WM ca q th st ik ln x_ pa iw so na nb fo nu al (zOf C) be ke te ti ne wa (fillL (6 + C 0) (tb C K_ F_) ta) (outF C (tb C K_ F_) 0 out) pl lo sh le) H) ew_).mp hP
              have hD : va_D A (WM ca q th st ik ln (nI (popc 0 (C 37))) pa iw so na nb fo nu al (zOf C) be ke te ti ne wa (fillL (6 + C 0) (tb C K_ F_) ta) (outF C (tb C K_ F_) 0 out) pl lo sh le) := (congrArg (fun x_ => va_D A (WM ca q th st ik ln x_ pa iw so na nb fo nu al (zOf C) be ke te ti ne wa (fillL (6 + C 0) (tb C K_ F_) ta) (outF C (tb C K_ F_) 0 out) pl lo sh le)) ew_).mp hD
              clear ew_
              exact lp_157 (6 + C 0 - 0 + 1) 0 (Nat.lt_succ_self _) (by omega) _ _ hP hD hS ls (lv_sub hl [0, 2, 3, 4] rfl)
            · skip
              refine lv_aload_n hx hb dX3_lay_46 rfl (lv_at hl 2 rfl) ?_
              refine gWM_0_z_X3 hx hb hts hown hK hP dX3_lay_47 ?_
              refine lv_iconst (v := nI 1) hx hb dX3_lay_50 (by decide) ?_
              refine lv_iload hx hb dX3_lay_51 (lv_at hl 0 rfl) ?_
              refine nv_iadd hx hb dX3_lay_53 ?_
              refine ldWM_1 hx hb hK hP (by omega) dX3_lay_54 ?_
              refine lv_topi (nm_r (e' := nI (C (1 + g))) (zOf_n (by omega)) ?_)
              refine lv_istore (lv' := [(5, .int (nI (C (1 + g)))), (4, .int (nI g)), (3, .int (smI C K_ g)), (0, .ref (q 0)), (1, .int (fI K_)), (2, .int (fI F_))]) hx hb dX3_lay_55 hl (by decide) rfl (fun ls hl => ?_)
              have jn_88 : ∀ (H : Heap) (locs : List Loc), va_P D vwCl (WM ca q th st ik ln ou pa iw so na nb fo nu al (zOf C) be ke te ti ne wa (fillL (6 + g) (tbs C K_ F_ g) ta) out pl lo sh le) H → va_D A (WM ca q th st ik ln ou pa iw so na nb fo nu al (zOf C) be ke te ti ne wa (fillL (6 + g) (tbs C K_ F_ g) ta) out pl lo sh le) → va_S A s.heap H locs → ∀ (ls : Array Slot), lv_has ls 6 [(5, .int (nI (kOf C K_ g))), (4, .int (nI g)), (3, .int (smI C K_ (g + 1))), (0, .ref (q 0)), (1, .int (fI K_)), (2, .int (fI F_))] → W p l e ({ frames := 1, cells := 0, slots := 0, locals := 26 } : Room) s m ([.ref (q 0), .int (fI K_), .int (fI F_)] : List Value).toArray below meth c H locs 0 0 QQ (F0 m 88 ls []) := by
                intro H locs hP hD hS ls hl 
                refine lv_aload_n hx hb dX3_lay_88 rfl (lv_at hl 3 rfl) ?_
                refine gWM_0_table_X3 hx hb hts hown hK hP dX3_lay_89 ?_
                refine lv_bipush (v := nI 6) hx hb dX3_lay_92 (by decide) ?_
                refine lv_iload hx hb dX3_lay_94 (lv_at hl 1 rfl) ?_
                refine nv_iadd hx hb dX3_lay_96 ?_
                refine lv_aload_n hx hb dX3_lay_97 rfl (lv_at hl 3 rfl) ?_
                refine lv_bipush (v := nI 6) hx hb dX3_lay_98 (by decide) ?_
                refine lv_iload hx hb dX3_lay_100 (lv_at hl 1 rfl) ?_
                refine nv_iadd hx hb dX3_lay_102 ?_
                refine lv_iload_n hx hb dX3_lay_103 rfl (lv_at hl 5 rfl) ?_
                refine lv_iload hx hb dX3_lay_104 (lv_at hl 0 rfl) ?_
                refine lv_aload_n hx hb dX3_lay_106 rfl (lv_at hl 3 rfl) ?_
                refine gWM_0_table_X3 hx hb hts hown hK hP dX3_lay_107 ?_
                refine lv_aload_n hx hb dX3_lay_110 rfl (lv_at hl 3 rfl) ?_
                refine gWM_0_z_X3 hx hb hts hown hK hP dX3_lay_111 ?_
                refine lv_bipush (v := nI 13) hx hb dX3_lay_114 (by decide) ?_
                refine lv_iload hx hb dX3_lay_116 (lv_at hl 1 rfl) ?_
                refine nv_iadd hx hb dX3_lay_118 ?_
                refine ldWM_1 hx hb hK hP (by omega) dX3_lay_119 ?_
                refine lv_topi (nm_r (e' := nI (C (13 + g))) (zOf_n (by omega)) ?_)
                refine ldWM_5 hx hb hK hP (by have := hse g (by omega); omega) dX3_lay_120 ?_
                refine lv_topl (nm_r (e' := tbs C K_ F_ g (C (13 + g))) (fillL_at (by have := hse g (by omega); omega)) ?_)
                refine lv_aload_n hx hb dX3_lay_121 rfl (lv_at hl 3 rfl) ?_
                refine gWM_0_table_X3 hx hb hts hown hK hP dX3_lay_122 ?_
                refine lv_aload_n hx hb dX3_lay_125 rfl (lv_at hl 3 rfl) ?_
                refine gWM_0_z_X3 hx hb hts hown hK hP dX3_lay_126 ?_
                refine lv_bipush (v := nI 25) hx hb dX3_lay_129 (by decide) ?_
                refine lv_iload hx hb dX3_lay_131 (lv_at hl 1 rfl) ?_
                refine nv_iadd hx hb dX3_lay_133 ?_
                refine ldWM_1 hx hb hK hP (by omega) dX3_lay_134 ?_
                refine lv_topi (nm_r (e' := nI (C (25 + g))) (zOf_n (by omega)) ?_)
                refine ldWM_5 hx hb hK hP (by have := hse g (by omega); omega) dX3_lay_135 ?_
                refine lv_topl (nm_r (e' := tbs C K_ F_ g (C (25 + g))) (fillL_at (by have := hse g (by omega); omega)) ?_)
                refine xc_l (xr_S (As := [.int (nI (kOf C K_ g)), .long (tbs C K_ F_ g (C (13 + g))), .long (tbs C K_ F_ g (C (25 + g)))]) (rest := [.int (fI F_), .int (nI (6 + g)), .ref (q 0), .int (nI (6 + g)), .ref (q 5)]) (mt_X3_gate l D ca (kOf C K_ g) (tbs C K_ F_ g (C (13 + g))) (tbs C K_ F_ g (C (25 + g))) (kOf_lt (hkd0 g (by omega))) H.size) ⟨hx, hb, hml, hown, hts⟩ (va_cwS 3 hts (lw_S q1793 q1794 q87 q1795) rfl rfl rfl (by decide +kernel) ⟨Nat.le_of_ble_eq_true rfl, Nat.le_of_ble_eq_true rfl⟩) Ev0_ok hE hK hS (Cut.app (wc := []) (wr := (WM ca q th st ik ln ou pa iw so na nb fo nu al (zOf C) be ke te ti ne wa (fillL (6 + g) (tbs C K_ F_ g) ta) out pl lo sh le)) hP hD hS hA) rfl hl.1 rfl (Nat.le_of_ble_eq_true rfl) dX3_lay_136 ⟨Nat.le_of_ble_eq_true rfl, Nat.le_of_ble_eq_true rfl⟩) hS (Cut.app (wc := []) (wr := (WM ca q th st ik ln ou pa iw so na nb fo nu al (zOf C) be ke te ti ne wa (fillL (6 + g) (tbs C K_ F_ g) ta) out pl lo sh le)) hP hD hS hA) (fun r_9 u_10 H locs hq_136 hP hD hS => ?_)
                have hP : va_P D vwCl (WM ca q th st ik ln ou pa iw so na nb fo nu al (zOf C) be ke te ti ne wa (fillL (6 + g) (tbs C K_ F_ g) ta) out pl lo sh le) H := hP
                have hD : va_D A (WM ca q th st ik ln ou pa iw so na nb fo nu al (zOf C) be ke te ti ne wa (fillL (6 + g) (tbs C K_ F_ g) ta) out pl lo sh le) := hD
                have hp_136 : r_9 = gT (kOf C K_ g) (tbs C K_ F_ g (C (13 + g))) (tbs C K_ F_ g (C (25 + g))) := hq_136
                clear hq_136
                obtain rfl := hp_136
                refine xc_l (xr_V (b := q 0) (ci := 2) (q0 := 0) (As := [.int (nI (6 + g)), .int (fI F_), .long (gT (kOf C K_ g) (tbs C K_ F_ g (C (13 + g))) (tbs C K_ F_ g (C (25 + g))))]) (rest := [.int (nI (6 + g)), .ref (q 5)]) (mt_X3_stuck l D ca q th st ik ln ou pa iw so na nb fo nu al (zOf C) be ke te ti ne wa (fillL (6 + g) (tbs C K_ F_ g) ta) out pl lo sh le (6 + g) F_ (gT (kOf C K_ g) (tbs C K_ F_ g (C (13 + g))) (tbs C K_ F_ g (C (25 + g)))) (by first | assumption | omega | (simp only [updN, forgetC, changedC]; (repeat' split) <;> omega)) (by first | assumption | omega | (simp only [updN, forgetC, changedC]; (repeat' split) <;> omega)) H.size) ⟨hx, hb, hml, hown, hts⟩ (cwV 3 hts (lw_V q1788 q1790 qs57 q87 q1791) rfl rfl rfl (by decide +kernel) ⟨Nat.le_of_ble_eq_true rfl, Nat.le_of_ble_eq_true rfl⟩) Ev0_ok hE hK hS (Cut.all hP hD hS hA) rfl rfl rfl hl.1 rfl (Nat.le_of_ble_eq_true rfl) dX3_lay_139 ⟨Nat.le_of_ble_eq_true rfl, Nat.le_of_ble_eq_true rfl⟩) hS (Cut.all hP hD hS hA) (fun r_11 u_12 H locs hq_139 hP hD hS => ?_)
                have hP : va_P D vwCl (WM ca q th st ik ln ou pa iw so na nb fo nu al (zOf C) be ke te ti ne wa (fillL (6 + g) (tbs C K_ F_ g) ta) out pl lo sh le) H := hP
                have hD : va_D A (WM ca q th st ik ln ou pa iw so na nb fo nu al (zOf C) be ke te ti ne wa (fillL (6 + g) (tbs C K_ F_ g) ta) out pl lo sh le) := hD
                have hp_139 : r_11 = stk (6 + g) F_ (gT (kOf C K_ g) (tbs C K_ F_ g (C (13 + g))) (tbs C K_ F_ g (C (25 + g)))) := hq_139
                clear hq_139
                obtain rfl := hp_139
                refine stWM_5 hx hb hK hP hD hS (by omega) dX3_lay_142 (fun H locs hP hD hS => ?_)
                refine lv_iinc (v := nI (g + 1)) (lv' := [(4, .int (nI (g + 1))), (5, .int (nI (kOf C K_ g))), (3, .int (smI C K_ (g + 1))), (0, .ref (q 0)), (1, .int (fI K_)), (2, .int (fI F_))]) hx hb dX3_lay_143 hl (k := 1) rfl (nI_add g 1) (by decide) rfl (fun ls hl => ?_)
                refine lv_goto (tgt := 35) hx hb dX3_lay_146 (by decide) ?_
                have ew_ : vp_updL (fillL (6 + g) (tbs C K_ F_ g) ta) (6 + g) (stk (6 + g) F_ (gT (kOf C K_ g) (tbs C K_ F_ g (C (13 + g))) (tbs C K_ F_ g (C (25 + g))))) = fillL (6 + (g + 1)) (tbs C K_ F_ (g + 1)) ta := tbs_s _ _ _ _ _
                have hP : va_P D vwCl (WM ca q th st ik ln ou pa iw so na nb fo nu al (zOf C) be ke te ti ne wa (fillL (6 + (g + 1)) (tbs C K_ F_ (g + 1)) ta) out pl lo sh le) H := (congrArg (fun x_ => va_P D vwCl (WM ca q th st ik ln ou pa iw so na nb fo nu al (zOf C) be ke te ti ne wa x_ out pl lo sh le) H) ew_).mp hP
                have hD : va_D A (WM ca q th st ik ln ou pa iw so na nb fo nu al (zOf C) be ke te ti ne wa (fillL (6 + (g + 1)) (tbs C K_ F_ (g + 1)) ta) out pl lo sh le) := (congrArg (fun x_ => va_D A (WM ca q th st ik ln ou pa iw so na nb fo nu al (zOf C) be ke te ti ne wa x_ out pl lo sh le)) ew_).mp hD
                clear ew_
                exact ih_35  (g + 1) (by omega) (by omega) _ _ hP hD hS ls (lv_sub hl [0, 2, 3, 4, 5] rfl)
              refine lv_iload_n hx hb dX3_lay_57 rfl (lv_at hl 4 rfl) ?_
              refine lv_iconst (v := fI 0) hx hb dX3_lay_58 (by decide) ?_
              refine nv_icmp_eqf (tgt := 88) hx hb dX3_lay_59 (by decide) (by omega) (fun c_59 => ?_) (fun c_59 => ?_)
              · skip
                have hl : lv_has ls 6 [(5, .int (nI (kOf C K_ g))), (4, .int (nI g)), (3, .int (smI C K_ g)), (0, .ref (q 0)), (1, .int (fI K_)), (2, .int (fI F_))] := (congrArg (fun x_ => lv_has ls 6 [(5, .int x_), (4, .int (nI g)), (3, .int (smI C K_ g)), (0, .ref (q 0)), (1, .int (fI K_)), (2, .int (fI F_))]) (show nI (C (1 + g)) = nI (kOf C K_ g) from kOf_no (Or.inl c_59))).mp hl
                have hl : lv_has ls 6 [(5, .int (nI (kOf C K_ g))), (4, .int (nI g)), (3, .int (smI C K_ (g + 1))), (0, .ref (q 0)), (1, .int (fI K_)), (2, .int (fI F_))] := (congrArg (fun x_ => lv_has ls 6 [(5, .int (nI (kOf C K_ g))), (4, .int (nI g)), (3, .int x_), (0, .ref (q 0)), (1, .int (fI K_)), (2, .int (fI F_))]) (show smI C K_ g = smI C K_ (g + 1) from smI_no (Or.inl c_59))).mp hl
                exact jn_88  _ _ hP hD hS ls (lv_sub hl [0, 1, 2, 3, 4, 5] rfl)
              · skip
                refine lv_aload_n hx hb dX3_lay_62 rfl (lv_at hl 3 rfl) ?_
                refine gWM_0_z_X3 hx hb hts hown hK hP dX3_lay_63 ?_
                refine lv_bipush (v := nI 38) hx hb dX3_lay_66 (by decide) ?_
                refine ldWM_1 hx hb hK hP (by omega) dX3_lay_68 ?_
                refine lv_topi (nm_r (e' := nI (C 38)) (rfl) ?_)
                refine lv_iload hx hb dX3_lay_69 (lv_at hl 1 rfl) ?_
                refine xc_i (xr_S (As := [.int (nI (C 38)), .int (nI g)]) (rest := []) (mt_X3_has l D ca (C 38) g (by first | assumption | omega | (simp only [updN, forgetC, changedC]; (repeat' split) <;> omega)) (by first | assumption | omega | (simp only [updN, forgetC, changedC]; (repeat' split) <;> omega)) H.size) ⟨hx, hb, hml, hown, hts⟩ (va_cwS 2 hts (lw_S q1731 q1732 q87 q1733) rfl rfl rfl (by decide +kernel) ⟨Nat.le_of_ble_eq_true rfl, Nat.le_of_ble_eq_true rfl⟩) Ev0_ok hE hK hS (Cut.app (wc := []) (wr := (WM ca q th st ik ln ou pa iw so na nb fo nu al (zOf C) be ke te ti ne wa (fillL (6 + g) (tbs C K_ F_ g) ta) out pl lo sh le)) hP hD hS hA) rfl hl.1 rfl (Nat.le_of_ble_eq_true rfl) dX3_lay_71 ⟨Nat.le_of_ble_eq_true rfl, Nat.le_of_ble_eq_true rfl⟩) hS (Cut.app (wc := []) (wr := (WM ca q th st ik ln ou pa iw so na nb fo nu al (zOf C) be ke te ti ne wa (fillL (6 + g) (tbs C K_ F_ g) ta) out pl lo sh le)) hP hD hS hA) (fun r_14 u_15 H locs hq_71 hP hD hS => ?_)
                have hP : va_P D vwCl (WM ca q th st ik ln ou pa iw so na nb fo nu al (zOf C) be ke te ti ne wa (fillL (6 + g) (tbs C K_ F_ g) ta) out pl lo sh le) H := hP
                have hD : va_D A (WM ca q th st ik ln ou pa iw so na nb fo nu al (zOf C) be ke te ti ne wa (fillL (6 + g) (tbs C K_ F_ g) ta) out pl lo sh le) := hD
                have hp_71 : r_14 = bI ((C 38).testBit g) := hq_71
                clear hq_71
                obtain rfl := hp_71
                refine nv_ifb_eq (tgt := 88) hx hb dX3_lay_74 (by decide) (fun c_74 => ?_) (fun c_74 => ?_)
                · skip
                  have hl : lv_has ls 6 [(5, .int (nI (kOf C K_ g))), (4, .int (nI g)), (3, .int (smI C K_ g)), (0, .ref (q 0)), (1, .int (fI K_)), (2, .int (fI F_))] := (congrArg (fun x_ => lv_has ls 6 [(5, .int x_), (4, .int (nI g)), (3, .int (smI C K_ g)), (0, .ref (q 0)), (1, .int (fI K_)), (2, .int (fI F_))]) (show nI (C (1 + g)) = nI (kOf C K_ g) from kOf_no (Or.inr c_74))).mp hl
                  have hl : lv_has ls 6 [(5, .int (nI (kOf C K_ g))), (4, .int (nI g)), (3, .int (smI C K_ (g + 1))), (0, .ref (q 0)), (1, .int (fI K_)), (2, .int (fI F_))] := (congrArg (fun x_ => lv_has ls 6 [(5, .int (nI (kOf C K_ g))), (4, .int (nI g)), (3, .int x_), (0, .ref (q 0)), (1, .int (fI K_)), (2, .int (fI F_))]) (show smI C K_ g = smI C K_ (g + 1) from smI_no (Or.inr c_74))).mp hl
                  exact jn_88  _ _ hP hD hS ls (lv_sub hl [0, 1, 2, 3, 4, 5] rfl)
                · skip
                  refine lv_iload_n hx hb dX3_lay_77 rfl (lv_at hl 2 rfl) ?_
                  refine lv_topi (nm_r (e' := nI ((K_ - 1) / 6 ^ rk C g)) (smI_pos c_59) ?_)
                  refine lv_bipush (v := nI 6) hx hb dX3_lay_78 (by decide) ?_
                  refine nv_irem hx hb dX3_lay_80 (by have := Nat.div_le_self (K_ - 1) (6 ^ rk C g); omega) (by omega) (by omega) ?_
                  refine lv_istore (lv' := [(5, .int (nI (((K_ - 1) / 6 ^ rk C g) % 6))), (4, .int (nI g)), (3, .int (smI C K_ g)), (0, .ref (q 0)), (1, .int (fI K_)), (2, .int (fI F_))]) hx hb dX3_lay_81 hl (by decide) rfl (fun ls hl => ?_)
                  refine lv_iload_n hx hb dX3_lay_83 rfl (lv_at hl 2 rfl) ?_
                  refine lv_topi (nm_r (e' := nI ((K_ - 1) / 6 ^ rk C g)) (smI_pos c_59) ?_)
                  refine lv_bipush (v := nI 6) hx hb dX3_lay_84 (by decide) ?_
                  refine nv_idiv hx hb dX3_lay_86 (by have := Nat.div_le_self (K_ - 1) (6 ^ rk C g); omega) (by omega) (by omega) ?_
                  refine lv_istore_n (lv' := [(3, .int (nI (((K_ - 1) / 6 ^ rk C g) / 6))), (5, .int (nI (((K_ - 1) / 6 ^ rk C g) % 6))), (4, .int (nI g)), (0, .ref (q 0)), (1, .int (fI K_)), (2, .int (fI F_))]) hx hb dX3_lay_87 rfl hl (by decide) rfl (fun ls hl => ?_)
                  have hl : lv_has ls 6 [(3, .int (nI (((K_ - 1) / 6 ^ rk C g) / 6))), (5, .int (nI (kOf C K_ g))), (4, .int (nI g)), (0, .ref (q 0)), (1, .int (fI K_)), (2, .int (fI F_))] := (congrArg (fun x_ => lv_has ls 6 [(3, .int (nI (((K_ - 1) / 6 ^ rk C g) / 6))), (5, .int x_), (4, .int (nI g)), (0, .ref (q 0)), (1, .int (fI K_)), (2, .int (fI F_))]) (show nI (((K_ - 1) / 6 ^ rk C g) % 6) = nI (kOf C K_ g) from kOf_yes c_59 c_74)).mp hl
                  have hl : lv_has ls 6 [(3, .int (smI C K_ (g + 1))), (5, .int (nI (kOf C K_ g))), (4, .int (nI g)), (0, .ref (q 0)), (1, .int (fI K_)), (2, .int (fI F_))] := (congrArg (fun x_ => lv_has ls 6 [(3, .int x_), (5, .int (nI (kOf C K_ g))), (4, .int (nI g)), (0, .ref (q 0)), (1, .int (fI K_)), (2, .int (fI F_))]) (show nI (((K_ - 1) / 6 ^ rk C g) / 6) = smI C K_ (g + 1) from smI_yes c_59 c_74)).mp hl
                  exact jn_88  _ _ hP hD hS ls (lv_sub hl [1, 2, 0, 3, 4, 5] rfl)
        have ew_ : fillL 6 (tbs C K_ F_ 0) ta = fillL (6 + 0) (tbs C K_ F_ 0) ta := rfl
        have hP : va_P D vwCl (WM ca q th st ik ln ou pa iw so na nb fo nu al (zOf C) be ke te ti ne wa (fillL (6 + 0) (tbs C K_ F_ 0) ta) out pl lo sh le) H := (congrArg (fun x_ => va_P D vwCl (WM ca q th st ik ln ou pa iw so na nb fo nu al (zOf C) be ke te ti ne wa x_ out pl lo sh le) H) ew_).mp hP
        have hD : va_D A (WM ca q th st ik ln ou pa iw so na nb fo nu al (zOf C) be ke te ti ne wa (fillL (6 + 0) (tbs C K_ F_ 0) ta) out pl lo sh le) := (congrArg (fun x_ => va_D A (WM ca q th st ik ln ou pa iw so na nb fo nu al (zOf C) be ke te ti ne wa x_ out pl lo sh le)) ew_).mp hD
        clear ew_
        exact lp_35 (C 0 - 0 + 1) 0 (Nat.lt_succ_self _) (by omega) _ _ hP hD hS ls (lv_sub hl [0, 1, 2, 3, 4] rfl)
      · skip
        refine lv_aload_n hx hb dX3_lay_8 rfl (lv_at hl 1 rfl) ?_
        refine gWM_0_table_X3 hx hb hts hown hK hP dX3_lay_9 ?_
        refine lv_iload_n hx hb dX3_lay_12 rfl (lv_at hl 0 rfl) ?_
        refine lv_aload_n hx hb dX3_lay_13 rfl (lv_at hl 1 rfl) ?_
        refine lv_iload_n hx hb dX3_lay_14 rfl (lv_at hl 0 rfl) ?_
        refine lv_iload_n hx hb dX3_lay_15 rfl (lv_at hl 3 rfl) ?_
        refine lv_iload_n hx hb dX3_lay_16 rfl (lv_at hl 0 rfl) ?_
        refine xc_l (xr_S (As := [.int (nI i)]) (rest := [.int (fI F_), .int (nI i), .ref (q 0), .int (nI i), .ref (q 5)]) (mt_X3_inputTable l D ca i (by first | assumption | omega | (simp only [updN, forgetC, changedC]; (repeat' split) <;> omega)) H.size) ⟨hx, hb, hml, hown, hts⟩ (va_cwS 1 hts (lw_S q1785 q1786 q87 q1787) rfl rfl rfl (by decide +kernel) ⟨Nat.le_of_ble_eq_true rfl, Nat.le_of_ble_eq_true rfl⟩) Ev0_ok hE hK hS (Cut.app (wc := []) (wr := (WM ca q th st ik ln ou pa iw so na nb fo nu al (zOf C) be ke te ti ne wa (fillL i (tbs C K_ F_ 0) ta) out pl lo sh le)) hP hD hS hA) rfl hl.1 rfl (Nat.le_of_ble_eq_true rfl) dX3_lay_17 ⟨Nat.le_of_ble_eq_true rfl, Nat.le_of_ble_eq_true rfl⟩) hS (Cut.app (wc := []) (wr := (WM ca q th st ik ln ou pa iw so na nb fo nu al (zOf C) be ke te ti ne wa (fillL i (tbs C K_ F_ 0) ta) out pl lo sh le)) hP hD hS hA) (fun r_17 u_18 H locs hq_17 hP hD hS => ?_)
        have hP : va_P D vwCl (WM ca q th st ik ln ou pa iw so na nb fo nu al (zOf C) be ke te ti ne wa (fillL i (tbs C K_ F_ 0) ta) out pl lo sh le) H := hP
        have hD : va_D A (WM ca q th st ik ln ou pa iw so na nb fo nu al (zOf C) be ke te ti ne wa (fillL i (tbs C K_ F_ 0) ta) out pl lo sh le) := hD
        have hp_17 : r_17 = inT i := hq_17
        clear hq_17
        obtain rfl := hp_17
        refine xc_l (xr_V (b := q 0) (ci := 2) (q0 := 0) (As := [.int (nI i), .int (fI F_), .long (inT i)]) (rest := [.int (nI i), .ref (q 5)]) (mt_X3_stuck l D ca q th st ik ln ou pa iw so na nb fo nu al (zOf C) be ke te ti ne wa (fillL i (tbs C K_ F_ 0) ta) out pl lo sh le i F_ (inT i) (by first | assumption | omega | (simp only [updN, forgetC, changedC]; (repeat' split) <;> omega)) (by first | assumption | omega | (simp only [updN, forgetC, changedC]; (repeat' split) <;> omega)) H.size) ⟨hx, hb, hml, hown, hts⟩ (cwV 3 hts (lw_V q1788 q1790 qs57 q87 q1791) rfl rfl rfl (by decide +kernel) ⟨Nat.le_of_ble_eq_true rfl, Nat.le_of_ble_eq_true rfl⟩) Ev0_ok hE hK hS (Cut.all hP hD hS hA) rfl rfl rfl hl.1 rfl (Nat.le_of_ble_eq_true rfl) dX3_lay_20 ⟨Nat.le_of_ble_eq_true rfl, Nat.le_of_ble_eq_true rfl⟩) hS (Cut.all hP hD hS hA) (fun r_19 u_20 H locs hq_20 hP hD hS => ?_)
        have hP : va_P D vwCl (WM ca q th st ik ln ou pa iw so na nb fo nu al (zOf C) be ke te ti ne wa (fillL i (tbs C K_ F_ 0) ta) out pl lo sh le) H := hP
        have hD : va_D A (WM ca q th st ik ln ou pa iw so na nb fo nu al (zOf C) be ke te ti ne wa (fillL i (tbs C K_ F_ 0) ta) out pl lo sh le) := hD
        have hp_20 : r_19 = stk i F_ (inT i) := hq_20
        clear hq_20
        obtain rfl := hp_20
        refine stWM_5 hx hb hK hP hD hS (by omega) dX3_lay_23 (fun H locs hP hD hS => ?_)
        refine lv_iinc (v := nI (i + 1)) (lv' := [(3, .int (nI (i + 1))), (0, .ref (q 0)), (1, .int (fI K_)), (2, .int (fI F_))]) hx hb dX3_lay_24 hl (k := 0) rfl (nI_add i 1) (by decide) rfl (fun ls hl => ?_)
        refine lv_goto (tgt := 2) hx hb dX3_lay_27 (by decide) ?_
        have ew_ : vp_updL (fillL i (tbs C K_ F_ 0) ta) i (stk i F_ (inT i)) = fillL (i + 1) (tbs C K_ F_ 0) ta := fillL_s _ _ _
        have hP : va_P D vwCl (WM ca q th st ik ln ou pa iw so na nb fo nu al (zOf C) be ke te ti ne wa (fillL (i + 1) (tbs C K_ F_ 0) ta) out pl lo sh le) H := (congrArg (fun x_ => va_P D vwCl (WM ca q th st ik ln ou pa iw so na nb fo nu al (zOf C) be ke te ti ne wa x_ out pl lo sh le) H) ew_).mp hP
        have hD : va_D A (WM ca q th st ik ln ou pa iw so na nb fo nu al (zOf C) be ke te ti ne wa (fillL (i + 1) (tbs C K_ F_ 0) ta) out pl lo sh le) := (congrArg (fun x_ => va_D A (WM ca q th st ik ln ou pa iw so na nb fo nu al (zOf C) be ke te ti ne wa x_ out pl lo sh le)) ew_).mp hD
        clear ew_
        exact ih_2  (i + 1) (by omega) (by omega) _ _ hP hD hS ls (lv_sub hl [0, 1, 2, 3] rfl)
  have ew_ : ta = fillL 0 (tbs C K_ F_ 0) ta := (fillL_0 _ _).symm
  have hP : va_P D vwCl (WM ca q th st ik ln ou pa iw so na nb fo nu al (zOf C) be ke te ti ne wa (fillL 0 (tbs C K_ F_ 0) ta) out pl lo sh le) H := (congrArg (fun x_ => va_P D vwCl (WM ca q th st ik ln ou pa iw so na nb fo nu al (zOf C) be ke te ti ne wa x_ out pl lo sh le) H) ew_).mp hP
  have hD : va_D A (WM ca q th st ik ln ou pa iw so na nb fo nu al (zOf C) be ke te ti ne wa (fillL 0 (tbs C K_ F_ 0) ta) out pl lo sh le) := (congrArg (fun x_ => va_D A (WM ca q th st ik ln ou pa iw so na nb fo nu al (zOf C) be ke te ti ne wa x_ out pl lo sh le)) ew_).mp hD
  clear ew_
  exact lp_2 (6 - 0 + 1) 0 (Nat.lt_succ_self _) (by omega) _ _ hP hD hS ls (lv_sub hl [0, 1, 2, 3] rfl)
set_option maxHeartbeats 4000000 in
set_option maxRecDepth 100000 in
theorem mt_X3_answer (l : Launch) (D : va_G) (ca : Nat → ClassId) (q : Nat → Nat) (th : Int32) (st : Int32) (ik : Int32) (ln : Int32) (pa : Int32) (iw : Int32) (so : Int32) (na : Int32) (nb : Int32) (fo : Int32) (nu : Int32) (al : Int32) (z : Nat → Int32) (be : Nat → Int32) (ke : Nat → Int32) (te : Nat → Int32) (ti : Nat → Int32) (ne : Nat → Int32) (wa : Nat → Int32) (ta : Nat → Int64) (out : Nat → Int64) (pl : Nat → Int64) (lo : Nat → Int64) (sh : Nat → Int64) (le : Nat → Int64) (n_ : Nat) (t_ : Nat) (hn : n_ ≤ 4) (ht : t_ < 64) (nn : Nat) : Met l yX3_answer (ws_ yX3_answer cX3_answer 4 (Option.some Jvm.ClassFile.FieldType.int)) ({ frames := 0, cells := 0, slots := 0, locals := 0 } : Room) (va_Pc [.ref (q 0), .int (nI t_)] (PreW Ev0 D vwCl (TY ca) (WM ca q th st ik ln (nI n_) pa iw so na nb fo nu al z be ke te ti ne wa ta out pl lo sh le) nn)) (va_Qi (fun (r_ : Int32) (_ : Unit) => r_ = nI (anF n_ out t_)) (PostW D vwCl (TY ca) (fun (_ : Unit) => (WM ca q th st ik ln (nI n_) pa iw so na nb fo nu al z be ke te ti ne wa ta out pl lo sh le)) (va_A (WM ca q th st ik ln (nI n_) pa iw so na nb fo nu al z be ke te ti ne wa ta out pl lo sh le) nn)) (va_A (WM ca q th st ik ln (nI n_) pa iw so na nb fo nu al z be ke te ti ne wa ta out pl lo sh le) nn)) 0 0 (va_A (WM ca q th st ik ln (nI n_) pa iw so na nb fo nu al z be ke te ti ne wa ta out pl lo sh le) nn) := by
  refine met_go (QA := fun A => va_Qi (fun (r_ : Int32) (_ : Unit) => r_ = nI (anF n_ out t_)) (PostW D vwCl (TY ca) (fun (_ : Unit) => (WM ca q th st ik ln (nI n_) pa iw so na nb fo nu al z be ke te ti ne wa ta out pl lo sh le)) A) A) (by decide) (Nat.le_of_ble_eq_true rfl) (fun p e s m below meth c A ls QQ hQQ hx hb hr hts hown hlocks hml hA hP hK hD hE hl => ?_)
  have hown : s.vm.findClass RX3 = some m.cls := hown
  have hS : va_S A s.heap s.heap [] := va_S.rf
  have hl : lv_has ls 4 [(0, .ref (q 0)), (1, .int (nI t_))] := hl
  generalize hHe : s.heap = H at hP ⊢
  have hS : va_S A s.heap H [] := hHe ▸ hS
  generalize ([] : List Loc) = locs at hS ⊢
  refine lv_iconst (v := nI 0) hx hb dX3_answer_0 (by decide) ?_
  refine lv_istore_n (lv' := [(2, .int (nI 0)), (0, .ref (q 0)), (1, .int (nI t_))]) hx hb dX3_answer_1 rfl hl (by decide) rfl (fun ls hl => ?_)
  refine lv_iconst (v := nI 0) hx hb dX3_answer_2 (by decide) ?_
  refine lv_istore_n (lv' := [(3, .int (nI 0)), (2, .int (nI 0)), (0, .ref (q 0)), (1, .int (nI t_))]) hx hb dX3_answer_3 rfl hl (by decide) rfl (fun ls hl => ?_)
  have lp_4 : ∀ (fu_4 : Nat) (i : Nat), n_ - i < fu_4 → (i ≤ n_) → ∀ (H : Heap) (locs : List Loc), va_P D vwCl (WM ca q th st ik ln (nI n_) pa iw so na nb fo nu al z be ke te ti ne wa ta out pl lo sh le) H → va_D A (WM ca q th st ik ln (nI n_) pa iw so na nb fo nu al z be ke te ti ne wa ta out pl lo sh le) → va_S A s.heap H locs → ∀ (ls : Array Slot), lv_has ls 4 [(3, .int (nI i)), (2, .int (nI (anF i out t_))), (0, .ref (q 0)), (1, .int (nI t_))] → W p l e ({ frames := 0, cells := 0, slots := 0, locals := 0 } : Room) s m ([.ref (q 0), .int (nI t_)] : List Value).toArray below meth c H locs 0 0 QQ (F0 m 4 ls []) := by
    intro fu_4
    induction fu_4 with
    | zero => intro i hfu; exact absurd hfu (Nat.not_lt_zero _)
    | succ fu_4 ih_4 =>
      intro i hfu hi H locs hP hD hS ls hl
      refine lv_iload_n hx hb dX3_answer_4 rfl (lv_at hl 0 rfl) ?_
      refine lv_aload_n hx hb dX3_answer_5 rfl (lv_at hl 2 rfl) ?_
      refine gWM_0_outs_X3 hx hb hts hown hK hP dX3_answer_6 ?_
      refine nv_icmp_ge (tgt := 34) hx hb dX3_answer_9 (by decide) (by omega) (by omega) (fun c_9 => ?_) (fun c_9 => ?_)
      · skip
        have e_ : n_ = i := Eq.symm (by omega)
        subst e_
        refine lv_iload_n hx hb dX3_answer_34 rfl (lv_at hl 1 rfl) ?_
        subst hQQ
        exact xe_i (v := nI (anF n_ out t_)) () hx hb hr hlocks hK hP hD hS (rfl) dX3_answer_35
      · skip
        refine lv_iload_n hx hb dX3_answer_12 rfl (lv_at hl 1 rfl) ?_
        refine lv_aload_n hx hb dX3_answer_13 rfl (lv_at hl 2 rfl) ?_
        refine gWM_0_out_X3 hx hb hts hown hK hP dX3_answer_14 ?_
        refine lv_iload_n hx hb dX3_answer_17 rfl (lv_at hl 0 rfl) ?_
        refine ldWM_6 hx hb hK hP (by omega) dX3_answer_18 ?_
        refine lv_iload_n hx hb dX3_answer_19 rfl (lv_at hl 3 rfl) ?_
        refine lv_lushr (v := ush64 (out i) t_) hx hb dX3_answer_20 rfl ?_
        refine lv_lconst (v := lN 1) hx hb dX3_answer_21 (by decide) ?_
        refine lv_land hx hb dX3_answer_22 ?_
        refine lv_topl (nm_r (e' := lN (b2n (bit64 (out i) t_))) (ush_1 (out i) ht) ?_)
        refine lv_l2i (v := nI (b2n (bit64 (out i) t_))) hx hb dX3_answer_23 (lN_i _) ?_
        refine lv_iload_n hx hb dX3_answer_24 rfl (lv_at hl 0 rfl) ?_
        refine nv_ishl hx hb dX3_answer_25 (by omega) (b2n_shl (by omega)) ?_
        refine nv_ior hx hb dX3_answer_26 ?_
        refine lv_istore_n (lv' := [(2, .int (nI ((anF i out t_) ||| ((b2n (bit64 (out i) t_)) <<< i)))), (3, .int (nI i)), (0, .ref (q 0)), (1, .int (nI t_))]) hx hb dX3_answer_27 rfl hl (by decide) rfl (fun ls hl => ?_)
        refine lv_iinc (v := nI (i + 1)) (lv' := [(3, .int (nI (i + 1))), (2, .int (nI ((anF i out t_) ||| ((b2n (bit64 (out i) t_)) <<< i)))), (0, .ref (q 0)), (1, .int (nI t_))]) hx hb dX3_answer_28 hl (k := 1) rfl (nI_add i 1) (by decide) rfl (fun ls hl => ?_)
        refine lv_goto (tgt := 4) hx hb dX3_answer_31 (by decide) ?_
        exact ih_4  (i + 1) (by omega) (by omega) _ _ hP hD hS ls (lv_sub hl [0, 1, 2, 3] rfl)
  exact lp_4 (n_ - 0 + 1) 0 (Nat.lt_succ_self _) (by omega) _ _ hP hD hS ls (lv_sub hl [0, 1, 2, 3] rfl)
set_option maxHeartbeats 4000000 in
set_option maxRecDepth 100000 in
theorem mt_X3_apart (l : Launch) (D : va_G) (ca : Nat → ClassId) (q : Nat → Nat) (th : Int32) (st : Int32) (ik : Int32) (ln : Int32) (ou : Int32) (pa : Int32) (iw : Int32) (so : Int32) (na : Int32) (nb : Int32) (fo : Int32) (nu : Int32) (al : Int32) (be : Nat → Int32) (ke : Nat → Int32) (te : Nat → Int32) (ti : Nat → Int32) (ne : Nat → Int32) (wa : Nat → Int32) (ta : Nat → Int64) (out : Nat → Int64) (pl : Nat → Int64) (lo : Nat → Int64) (sh : Nat → Int64) (le : Nat → Int64) (C : Nat → Nat) (F_ : Nat) (G_ : Nat) (h0 : C 0 ≤ 12) (hkd0 : ∀ k, k < 12 → C (1 + k) < 8) (hse : ∀ k, k < 12 → C (13 + k) < 6 + k ∧ C (25 + k) < 6 + k) (ho : C 37 < 2 ^ 18) (hbx : C 38 < 2 ^ 18) (hno : popc 18 (C 37) ≤ 4) (hF : F_ ≤ 100) (hG : G_ ≤ 100) (nn : Nat) : Met l yX3_apart (ws_ yX3_apart cX3_apart 6 (Option.some Jvm.ClassFile.FieldType.long)) ({ frames := 2, cells := 0, slots := 0, locals := 51 } : Room) (va_Pc [.ref (q 0), .int (fI F_), .int (fI G_)] (PreW Ev0 D vwCl (TY ca) (WM ca q th st ik ln ou pa iw so na nb fo nu al (zOf C) be ke te ti ne wa ta out pl lo sh le) nn)) (va_Ql (fun (r_ : Int64) (u_ : (Nat → Int64) × (Nat → Int64) × (Nat → Int64)) => r_ = apC C F_ G_) (PostW D vwCl (TY ca) (fun (u_ : (Nat → Int64) × (Nat → Int64) × (Nat → Int64)) => (WM ca q th st ik ln (nI (no C)) pa iw so na nb fo nu al (zOf C) be ke te ti ne wa u_.1 u_.2.1 u_.2.2 lo sh le)) (va_A (WM ca q th st ik ln ou pa iw so na nb fo nu al (zOf C) be ke te ti ne wa ta out pl lo sh le) nn)) (va_A (WM ca q th st ik ln ou pa iw so na nb fo nu al (zOf C) be ke te ti ne wa ta out pl lo sh le) nn)) 0 0 (va_A (WM ca q th st ik ln ou pa iw so na nb fo nu al (zOf C) be ke te ti ne wa ta out pl lo sh le) nn) := by
  refine met_go (QA := fun A => va_Ql (fun (r_ : Int64) (u_ : (Nat → Int64) × (Nat → Int64) × (Nat → Int64)) => r_ = apC C F_ G_) (PostW D vwCl (TY ca) (fun (u_ : (Nat → Int64) × (Nat → Int64) × (Nat → Int64)) => (WM ca q th st ik ln (nI (no C)) pa iw so na nb fo nu al (zOf C) be ke te ti ne wa u_.1 u_.2.1 u_.2.2 lo sh le)) A) A) (by decide) (Nat.le_of_ble_eq_true rfl) (fun p e s m below meth c A ls QQ hQQ hx hb hr hts hown hlocks hml hA hP hK hD hE hl => ?_)
  have hown : s.vm.findClass RX3 = some m.cls := hown
  have hS : va_S A s.heap s.heap [] := va_S.rf
  have hl : lv_has ls 6 [(0, .ref (q 0)), (1, .int (fI F_)), (2, .int (fI G_))] := hl
  generalize hHe : s.heap = H at hP ⊢
  have hS : va_S A s.heap H [] := hHe ▸ hS
  generalize ([] : List Loc) = locs at hS ⊢
  have hnc : no C ≤ 4 := Nat.le_trans (popc_mono (by omega)) hno
  refine lv_aload_n hx hb dX3_apart_0 rfl (lv_at hl 0 rfl) ?_
  refine lv_iconst (v := fI 0) hx hb dX3_apart_1 (by decide) ?_
  refine lv_iload_n hx hb dX3_apart_2 rfl (lv_at hl 2 rfl) ?_
  refine xc_v (xr_V (b := q 0) (ci := 2) (q0 := 0) (As := [.int (fI 0), .int (fI G_)]) (rest := []) (mt_X3_lay l D ca q th st ik ln ou pa iw so na nb fo nu al be ke te ti ne wa ta out pl lo sh le C 0 G_ (by first | assumption | omega | (simp only [updN, forgetC, changedC]; (repeat' split) <;> omega)) (by first | assumption | omega | (simp only [updN, forgetC, changedC]; (repeat' split) <;> omega)) (by first | assumption | omega | (simp only [updN, forgetC, changedC]; (repeat' split) <;> omega)) (by first | assumption | omega | (simp only [updN, forgetC, changedC]; (repeat' split) <;> omega)) (by first | assumption | omega | (simp only [updN, forgetC, changedC]; (repeat' split) <;> omega)) (by first | assumption | omega | (simp only [updN, forgetC, changedC]; (repeat' split) <;> omega)) (by first | assumption | omega | (simp only [updN, forgetC, changedC]; (repeat' split) <;> omega)) (by first | assumption | omega | (simp only [updN, forgetC, changedC]; (repeat' split) <;> omega)) H.size) ⟨hx, hb, hml, hown, hts⟩ (cwV 2 hts (lw_V q1781 q1783 qs56 q87 q1784) rfl rfl rfl (by decide +kernel) ⟨Nat.le_of_ble_eq_true rfl, Nat.le_of_ble_eq_true rfl⟩) Ev0_ok hE hK hS (Cut.all hP hD hS hA) rfl rfl rfl hl.1 rfl (Nat.le_of_ble_eq_true rfl) dX3_apart_3 ⟨Nat.le_of_ble_eq_true rfl, Nat.le_of_ble_eq_true rfl⟩) hS (Cut.all hP hD hS hA) (fun u_2 H locs hq_3 hP hD hS => ?_)
  have hP : va_P D vwCl (WM ca q th st ik ln (nI (no C)) pa iw so na nb fo nu al (zOf C) be ke te ti ne wa (fillL (6 + C 0) (tb C 0 G_) ta) (outF C (tb C 0 G_) (6 + C 0) out) pl lo sh le) H := hP
  have hD : va_D A (WM ca q th st ik ln (nI (no C)) pa iw so na nb fo nu al (zOf C) be ke te ti ne wa (fillL (6 + C 0) (tb C 0 G_) ta) (outF C (tb C 0 G_) (6 + C 0) out) pl lo sh le) := hD
  refine lv_iconst (v := nI 0) hx hb dX3_apart_6 (by decide) ?_
  refine lv_istore_n (lv' := [(3, .int (nI 0)), (0, .ref (q 0)), (1, .int (fI F_)), (2, .int (fI G_))]) hx hb dX3_apart_7 rfl hl (by decide) rfl (fun ls hl => ?_)
  have lp_8 : ∀ (fu_8 : Nat) (i : Nat), no C - i < fu_8 → (i ≤ no C) → ∀ (H : Heap) (locs : List Loc), va_P D vwCl (WM ca q th st ik ln (nI (no C)) pa iw so na nb fo nu al (zOf C) be ke te ti ne wa (fillL (6 + C 0) (tb C 0 G_) ta) (outF C (tb C 0 G_) (6 + C 0) out) (fillL i (outF C (tb C 0 G_) (6 + C 0) out) pl) lo sh le) H → va_D A (WM ca q th st ik ln (nI (no C)) pa iw so na nb fo nu al (zOf C) be ke te ti ne wa (fillL (6 + C 0) (tb C 0 G_) ta) (outF C (tb C 0 G_) (6 + C 0) out) (fillL i (outF C (tb C 0 G_) (6 + C 0) out) pl) lo sh le) → va_S A s.heap H locs → ∀ (ls : Array Slot), lv_has ls 6 [(3, .int (nI i)), (0, .ref (q 0)), (1, .int (fI F_)), (2, .int (fI G_))] → W p l e ({ frames := 2, cells := 0, slots := 0, locals := 51 } : Room) s m ([.ref (q 0), .int (fI F_), .int (fI G_)] : List Value).toArray below meth c H locs 0 0 QQ (F0 m 8 ls []) := by
    intro fu_8
    induction fu_8 with
    | zero => intro i hfu; exact absurd hfu (Nat.not_lt_zero _)
    | succ fu_8 ih_8 =>
      intro i hfu hi H locs hP hD hS ls hl
      refine lv_iload_n hx hb dX3_apart_8 rfl (lv_at hl 0 rfl) ?_
      refine lv_aload_n hx hb dX3_apart_9 rfl (lv_at hl 1 rfl) ?_
      refine gWM_0_outs_X3 hx hb hts hown hK hP dX3_apart_10 ?_
      refine nv_icmp_ge (tgt := 34) hx hb dX3_apart_13 (by decide) (by omega) (by omega) (fun c_13 => ?_) (fun c_13 => ?_)
      · skip
        have e_ : no C = i := Eq.symm (by omega)
        subst e_
        refine lv_aload_n hx hb dX3_apart_34 rfl (lv_at hl 1 rfl) ?_
        refine lv_iconst (v := fI 0) hx hb dX3_apart_35 (by decide) ?_
        refine lv_iload_n hx hb dX3_apart_36 rfl (lv_at hl 2 rfl) ?_
        refine xc_v (xr_V (b := q 0) (ci := 2) (q0 := 0) (As := [.int (fI 0), .int (fI F_)]) (rest := []) (mt_X3_lay l D ca q th st ik ln (nI (no C)) pa iw so na nb fo nu al be ke te ti ne wa (fillL (6 + C 0) (tb C 0 G_) ta) (outF C (tb C 0 G_) (6 + C 0) out) (fillL (no C) (outF C (tb C 0 G_) (6 + C 0) out) pl) lo sh le C 0 F_ (by first | assumption | omega | (simp only [updN, forgetC, changedC]; (repeat' split) <;> omega)) (by first | assumption | omega | (simp only [updN, forgetC, changedC]; (repeat' split) <;> omega)) (by first | assumption | omega | (simp only [updN, forgetC, changedC]; (repeat' split) <;> omega)) (by first | assumption | omega | (simp only [updN, forgetC, changedC]; (repeat' split) <;> omega)) (by first | assumption | omega | (simp only [updN, forgetC, changedC]; (repeat' split) <;> omega)) (by first | assumption | omega | (simp only [updN, forgetC, changedC]; (repeat' split) <;> omega)) (by first | assumption | omega | (simp only [updN, forgetC, changedC]; (repeat' split) <;> omega)) (by first | assumption | omega | (simp only [updN, forgetC, changedC]; (repeat' split) <;> omega)) H.size) ⟨hx, hb, hml, hown, hts⟩ (cwV 2 hts (lw_V q1781 q1783 qs56 q87 q1784) rfl rfl rfl (by decide +kernel) ⟨Nat.le_of_ble_eq_true rfl, Nat.le_of_ble_eq_true rfl⟩) Ev0_ok hE hK hS (Cut.all hP hD hS hA) rfl rfl rfl hl.1 rfl (Nat.le_of_ble_eq_true rfl) dX3_apart_37 ⟨Nat.le_of_ble_eq_true rfl, Nat.le_of_ble_eq_true rfl⟩) hS (Cut.all hP hD hS hA) (fun u_5 H locs hq_37 hP hD hS => ?_)
        have hP : va_P D vwCl (WM ca q th st ik ln (nI (no C)) pa iw so na nb fo nu al (zOf C) be ke te ti ne wa (fillL (6 + C 0) (tb C 0 F_) (fillL (6 + C 0) (tb C 0 G_) ta)) (outF C (tb C 0 F_) (6 + C 0) (outF C (tb C 0 G_) (6 + C 0) out)) (fillL (no C) (outF C (tb C 0 G_) (6 + C 0) out) pl) lo sh le) H := hP
        have hD : va_D A (WM ca q th st ik ln (nI (no C)) pa iw so na nb fo nu al (zOf C) be ke te ti ne wa (fillL (6 + C 0) (tb C 0 F_) (fillL (6 + C 0) (tb C 0 G_) ta)) (outF C (tb C 0 F_) (6 + C 0) (outF C (tb C 0 G_) (6 + C 0) out)) (fillL (no C) (outF C (tb C 0 G_) (6 + C 0) out) pl) lo sh le) := hD
        refine lv_lconst (v := lN 0) hx hb dX3_apart_40 (by decide) ?_
        refine lv_lstore_n (lv' := [(3, .long (lN 0)), (0, .ref (q 0)), (1, .int (fI F_)), (2, .int (fI G_))]) hx hb dX3_apart_41 rfl hl (by decide) rfl (fun ls hl => ?_)
        refine lv_iconst (v := nI 0) hx hb dX3_apart_42 (by decide) ?_
        refine lv_istore (lv' := [(5, .int (nI 0)), (3, .long (lN 0)), (0, .ref (q 0)), (1, .int (fI F_)), (2, .int (fI G_))]) hx hb dX3_apart_43 hl (by decide) rfl (fun ls hl => ?_)
        have lp_45 : ∀ (fu_45 : Nat) (k : Nat), no C - k < fu_45 → (k ≤ no C) → ∀ (H : Heap) (locs : List Loc), va_P D vwCl (WM ca q th st ik ln (nI (no C)) pa iw so na nb fo nu al (zOf C) be ke te ti ne wa (fillL (6 + C 0) (tb C 0 F_) (fillL (6 + C 0) (tb C 0 G_) ta)) (outF C (tb C 0 F_) (6 + C 0) (outF C (tb C 0 G_) (6 + C 0) out)) (fillL (no C) (outF C (tb C 0 G_) (6 + C 0) out) pl) lo sh le) H → va_D A (WM ca q th st ik ln (nI (no C)) pa iw so na nb fo nu al (zOf C) be ke te ti ne wa (fillL (6 + C 0) (tb C 0 F_) (fillL (6 + C 0) (tb C 0 G_) ta)) (outF C (tb C 0 F_) (6 + C 0) (outF C (tb C 0 G_) (6 + C 0) out)) (fillL (no C) (outF C (tb C 0 G_) (6 + C 0) out) pl) lo sh le) → va_S A s.heap H locs → ∀ (ls : Array Slot), lv_has ls 6 [(5, .int (nI k)), (3, .long (apF k (ou0 C (tb C 0 F_)) (ou0 C (tb C 0 G_)))), (0, .ref (q 0)), (1, .int (fI F_)), (2, .int (fI G_))] → W p l e ({ frames := 2, cells := 0, slots := 0, locals := 51 } : Room) s m ([.ref (q 0), .int (fI F_), .int (fI G_)] : List Value).toArray below meth c H locs 0 0 QQ (F0 m 45 ls []) := by
          intro fu_45
          induction fu_45 with
          | zero => intro k hfu; exact absurd hfu (Nat.not_lt_zero _)
          | succ fu_45 ih_45 =>
            intro k hfu hk H locs hP hD hS ls hl
            refine lv_iload hx hb dX3_apart_45 (lv_at hl 0 rfl) ?_
            refine lv_aload_n hx hb dX3_apart_47 rfl (lv_at hl 2 rfl) ?_
            refine gWM_0_outs_X3 hx hb hts hown hK hP dX3_apart_48 ?_
            refine nv_icmp_ge (tgt := 78) hx hb dX3_apart_51 (by decide) (by omega) (by omega) (fun c_51 => ?_) (fun c_51 => ?_)
            · skip
              have e_ : no C = k := Eq.symm (by omega)
              subst e_
              refine lv_lload_n hx hb dX3_apart_78 rfl (lv_at hl 1 rfl) ?_
              subst hQQ
              exact xe_l (v := apF (no C) (ou0 C (tb C 0 F_)) (ou0 C (tb C 0 G_))) (fillL (6 + C 0) (tb C 0 F_) (fillL (6 + C 0) (tb C 0 G_) ta), outF C (tb C 0 F_) (6 + C 0) (outF C (tb C 0 G_) (6 + C 0) out), fillL (no C) (outF C (tb C 0 G_) (6 + C 0) out) pl) hx hb hr hlocks hK hP hD hS (rfl) dX3_apart_79
            · skip
              refine lv_lload_n hx hb dX3_apart_54 rfl (lv_at hl 1 rfl) ?_
              refine lv_aload_n hx hb dX3_apart_55 rfl (lv_at hl 2 rfl) ?_
              refine gWM_0_out_X3 hx hb hts hown hK hP dX3_apart_56 ?_
              refine lv_iload hx hb dX3_apart_59 (lv_at hl 0 rfl) ?_
              refine ldWM_6 hx hb hK hP (by omega) dX3_apart_61 ?_
              refine lv_topl (nm_r (e' := ou0 C (tb C 0 F_) k) (ou0_at (by omega)) ?_)
              refine lv_aload_n hx hb dX3_apart_62 rfl (lv_at hl 2 rfl) ?_
              refine gWM_0_plain_X3 hx hb hts hown hK hP dX3_apart_63 ?_
              refine lv_iload hx hb dX3_apart_66 (lv_at hl 0 rfl) ?_
              refine ldWM_7 hx hb hK hP (by omega) dX3_apart_68 ?_
              refine lv_topl (nm_r (e' := ou0 C (tb C 0 G_) k) ((fillL_at (by omega)).trans (ou0_at (by omega))) ?_)
              refine lv_lxor hx hb dX3_apart_69 ?_
              refine lv_lor hx hb dX3_apart_70 ?_
              refine lv_lstore_n (lv' := [(3, .long ((apF k (ou0 C (tb C 0 F_)) (ou0 C (tb C 0 G_))) ||| ((ou0 C (tb C 0 F_) k) ^^^ (ou0 C (tb C 0 G_) k)))), (5, .int (nI k)), (0, .ref (q 0)), (1, .int (fI F_)), (2, .int (fI G_))]) hx hb dX3_apart_71 rfl hl (by decide) rfl (fun ls hl => ?_)
              refine lv_iinc (v := nI (k + 1)) (lv' := [(5, .int (nI (k + 1))), (3, .long ((apF k (ou0 C (tb C 0 F_)) (ou0 C (tb C 0 G_))) ||| ((ou0 C (tb C 0 F_) k) ^^^ (ou0 C (tb C 0 G_) k)))), (0, .ref (q 0)), (1, .int (fI F_)), (2, .int (fI G_))]) hx hb dX3_apart_72 hl (k := 1) rfl (nI_add k 1) (by decide) rfl (fun ls hl => ?_)
              refine lv_goto (tgt := 45) hx hb dX3_apart_75 (by decide) ?_
              exact ih_45  (k + 1) (by omega) (by omega) _ _ hP hD hS ls (lv_sub hl [0, 1, 2, 3, 4] rfl)
        exact lp_45 (no C - 0 + 1) 0 (Nat.lt_succ_self _) (by omega) _ _ hP hD hS ls (lv_sub hl [0, 1, 2, 3, 4] rfl)
      · skip
        refine lv_aload_n hx hb dX3_apart_16 rfl (lv_at hl 1 rfl) ?_
        refine gWM_0_plain_X3 hx hb hts hown hK hP dX3_apart_17 ?_
        refine lv_iload_n hx hb dX3_apart_20 rfl (lv_at hl 0 rfl) ?_
        refine lv_aload_n hx hb dX3_apart_21 rfl (lv_at hl 1 rfl) ?_
        refine gWM_0_out_X3 hx hb hts hown hK hP dX3_apart_22 ?_
        refine lv_iload_n hx hb dX3_apart_25 rfl (lv_at hl 0 rfl) ?_
        refine ldWM_6 hx hb hK hP (by omega) dX3_apart_26 ?_
        refine stWM_7 hx hb hK hP hD hS (by omega) dX3_apart_27 (fun H locs hP hD hS => ?_)
        refine lv_iinc (v := nI (i + 1)) (lv' := [(3, .int (nI (i + 1))), (0, .ref (q 0)), (1, .int (fI F_)), (2, .int (fI G_))]) hx hb dX3_apart_28 hl (k := 0) rfl (nI_add i 1) (by decide) rfl (fun ls hl => ?_)
        refine lv_goto (tgt := 8) hx hb dX3_apart_31 (by decide) ?_
        have ew_ : vp_updL (fillL i (outF C (tb C 0 G_) (6 + C 0) out) pl) i ((outF C (tb C 0 G_) (6 + C 0) out) i) = fillL (i + 1) (outF C (tb C 0 G_) (6 + C 0) out) pl := fillL_s _ _ _
        have hP : va_P D vwCl (WM ca q th st ik ln (nI (no C)) pa iw so na nb fo nu al (zOf C) be ke te ti ne wa (fillL (6 + C 0) (tb C 0 G_) ta) (outF C (tb C 0 G_) (6 + C 0) out) (fillL (i + 1) (outF C (tb C 0 G_) (6 + C 0) out) pl) lo sh le) H := (congrArg (fun x_ => va_P D vwCl (WM ca q th st ik ln (nI (no C)) pa iw so na nb fo nu al (zOf C) be ke te ti ne wa (fillL (6 + C 0) (tb C 0 G_) ta) (outF C (tb C 0 G_) (6 + C 0) out) x_ lo sh le) H) ew_).mp hP
        have hD : va_D A (WM ca q th st ik ln (nI (no C)) pa iw so na nb fo nu al (zOf C) be ke te ti ne wa (fillL (6 + C 0) (tb C 0 G_) ta) (outF C (tb C 0 G_) (6 + C 0) out) (fillL (i + 1) (outF C (tb C 0 G_) (6 + C 0) out) pl) lo sh le) := (congrArg (fun x_ => va_D A (WM ca q th st ik ln (nI (no C)) pa iw so na nb fo nu al (zOf C) be ke te ti ne wa (fillL (6 + C 0) (tb C 0 G_) ta) (outF C (tb C 0 G_) (6 + C 0) out) x_ lo sh le)) ew_).mp hD
        clear ew_
        exact ih_8  (i + 1) (by omega) (by omega) _ _ hP hD hS ls (lv_sub hl [0, 1, 2, 3] rfl)
  have ew_ : pl = fillL 0 (outF C (tb C 0 G_) (6 + C 0) out) pl := (fillL_0 _ _).symm
  have hP : va_P D vwCl (WM ca q th st ik ln (nI (no C)) pa iw so na nb fo nu al (zOf C) be ke te ti ne wa (fillL (6 + C 0) (tb C 0 G_) ta) (outF C (tb C 0 G_) (6 + C 0) out) (fillL 0 (outF C (tb C 0 G_) (6 + C 0) out) pl) lo sh le) H := (congrArg (fun x_ => va_P D vwCl (WM ca q th st ik ln (nI (no C)) pa iw so na nb fo nu al (zOf C) be ke te ti ne wa (fillL (6 + C 0) (tb C 0 G_) ta) (outF C (tb C 0 G_) (6 + C 0) out) x_ lo sh le) H) ew_).mp hP
  have hD : va_D A (WM ca q th st ik ln (nI (no C)) pa iw so na nb fo nu al (zOf C) be ke te ti ne wa (fillL (6 + C 0) (tb C 0 G_) ta) (outF C (tb C 0 G_) (6 + C 0) out) (fillL 0 (outF C (tb C 0 G_) (6 + C 0) out) pl) lo sh le) := (congrArg (fun x_ => va_D A (WM ca q th st ik ln (nI (no C)) pa iw so na nb fo nu al (zOf C) be ke te ti ne wa (fillL (6 + C 0) (tb C 0 G_) ta) (outF C (tb C 0 G_) (6 + C 0) out) x_ lo sh le)) ew_).mp hD
  clear ew_
  exact lp_8 (no C - 0 + 1) 0 (Nat.lt_succ_self _) (by omega) _ _ hP hD hS ls (lv_sub hl [0, 1, 2, 3] rfl)
set_option maxHeartbeats 4000000 in
set_option maxRecDepth 100000 in
theorem mt_X3_asks (l : Launch) (D : va_G) (ca : Nat → ClassId) (q : Nat → Nat) (th : Int32) (st : Int32) (ik : Int32) (ln : Int32) (ou : Int32) (pa : Int32) (iw : Int32) (so : Int32) (na : Int32) (nb : Int32) (fo : Int32) (nu : Int32) (al : Int32) (be : Nat → Int32) (ke : Nat → Int32) (te : Nat → Int32) (ti : Nat → Int32) (ne : Nat → Int32) (wa : Nat → Int32) (ta : Nat → Int64) (out : Nat → Int64) (pl : Nat → Int64) (lo : Nat → Int64) (sh : Nat → Int64) (le : Nat → Int64) (C : Nat → Nat) (t_ : Nat) (h0 : C 0 ≤ 12) (hkd0 : ∀ k, k < 12 → C (1 + k) < 8) (hse : ∀ k, k < 12 → C (13 + k) < 6 + k ∧ C (25 + k) < 6 + k) (ho : C 37 < 2 ^ 18) (hbx : C 38 < 2 ^ 18) (hno : popc 18 (C 37) ≤ 4) (h39 : C 39 ≤ 64) (hak : C 41 < 12) (ht : t_ < 64) (nn : Nat) : Met l yX3_asks (ws_ yX3_asks cX3_asks 3 (Option.some Jvm.ClassFile.FieldType.int)) ({ frames := 2, cells := 0, slots := 0, locals := 51 } : Room) (va_Pc [.ref (q 0), .int (nI t_)] (PreW Ev0 D vwCl (TY ca) (WM ca q th st ik ln ou pa iw so na nb fo nu al (zOf C) be ke te ti ne wa ta out pl lo sh le) nn)) (va_Qi (fun (r_ : Int32) (u_ : (Nat → Int64) × (Nat → Int64)) => r_ = nI (anC C 0 (C 39) t_)) (PostW D vwCl (TY ca) (fun (u_ : (Nat → Int64) × (Nat → Int64)) => (WM ca q th st ik ln (nI (no C)) pa iw so na nb fo nu al (zOf (askC C t_ (anC C 0 (C 39) t_))) be ke te ti ne wa u_.1 u_.2 pl lo sh le)) (va_A (WM ca q th st ik ln ou pa iw so na nb fo nu al (zOf C) be ke te ti ne wa ta out pl lo sh le) nn)) (va_A (WM ca q th st ik ln ou pa iw so na nb fo nu al (zOf C) be ke te ti ne wa ta out pl lo sh le) nn)) 0 0 (va_A (WM ca q th st ik ln ou pa iw so na nb fo nu al (zOf C) be ke te ti ne wa ta out pl lo sh le) nn) := by
  refine met_go (QA := fun A => va_Qi (fun (r_ : Int32) (u_ : (Nat → Int64) × (Nat → Int64)) => r_ = nI (anC C 0 (C 39) t_)) (PostW D vwCl (TY ca) (fun (u_ : (Nat → Int64) × (Nat → Int64)) => (WM ca q th st ik ln (nI (no C)) pa iw so na nb fo nu al (zOf (askC C t_ (anC C 0 (C 39) t_))) be ke te ti ne wa u_.1 u_.2 pl lo sh le)) A) A) (by decide) (Nat.le_of_ble_eq_true rfl) (fun p e s m below meth c A ls QQ hQQ hx hb hr hts hown hlocks hml hA hP hK hD hE hl => ?_)
  have hown : s.vm.findClass RX3 = some m.cls := hown
  have hS : va_S A s.heap s.heap [] := va_S.rf
  have hl : lv_has ls 3 [(0, .ref (q 0)), (1, .int (nI t_))] := hl
  generalize hHe : s.heap = H at hP ⊢
  have hS : va_S A s.heap H [] := hHe ▸ hS
  generalize ([] : List Loc) = locs at hS ⊢
  have hnc : no C ≤ 4 := Nat.le_trans (popc_mono (by omega)) hno
  refine lv_aload_n hx hb dX3_asks_0 rfl (lv_at hl 0 rfl) ?_
  refine lv_iconst (v := fI 0) hx hb dX3_asks_1 (by decide) ?_
  refine lv_aload_n hx hb dX3_asks_2 rfl (lv_at hl 0 rfl) ?_
  refine gWM_0_z_X3 hx hb hts hown hK hP dX3_asks_3 ?_
  refine lv_bipush (v := nI 39) hx hb dX3_asks_6 (by decide) ?_
  refine ldWM_1 hx hb hK hP (by omega) dX3_asks_8 ?_
  refine lv_topi (nm_r (e' := fI (C 39)) (rfl) ?_)
  refine xc_v (xr_V (b := q 0) (ci := 2) (q0 := 0) (As := [.int (fI 0), .int (fI (C 39))]) (rest := []) (mt_X3_lay l D ca q th st ik ln ou pa iw so na nb fo nu al be ke te ti ne wa ta out pl lo sh le C 0 (C 39) (by first | assumption | omega | (simp only [updN, forgetC, changedC]; (repeat' split) <;> omega)) (by first | assumption | omega | (simp only [updN, forgetC, changedC]; (repeat' split) <;> omega)) (by first | assumption | omega | (simp only [updN, forgetC, changedC]; (repeat' split) <;> omega)) (by first | assumption | omega | (simp only [updN, forgetC, changedC]; (repeat' split) <;> omega)) (by first | assumption | omega | (simp only [updN, forgetC, changedC]; (repeat' split) <;> omega)) (by first | assumption | omega | (simp only [updN, forgetC, changedC]; (repeat' split) <;> omega)) (by first | assumption | omega | (simp only [updN, forgetC, changedC]; (repeat' split) <;> omega)) (by first | assumption | omega | (simp only [updN, forgetC, changedC]; (repeat' split) <;> omega)) H.size) ⟨hx, hb, hml, hown, hts⟩ (cwV 2 hts (lw_V q1781 q1783 qs56 q87 q1784) rfl rfl rfl (by decide +kernel) ⟨Nat.le_of_ble_eq_true rfl, Nat.le_of_ble_eq_true rfl⟩) Ev0_ok hE hK hS (Cut.all hP hD hS hA) rfl rfl rfl hl.1 rfl (Nat.le_of_ble_eq_true rfl) dX3_asks_9 ⟨Nat.le_of_ble_eq_true rfl, Nat.le_of_ble_eq_true rfl⟩) hS (Cut.all hP hD hS hA) (fun u_2 H locs hq_9 hP hD hS => ?_)
  have hP : va_P D vwCl (WM ca q th st ik ln (nI (no C)) pa iw so na nb fo nu al (zOf C) be ke te ti ne wa (fillL (6 + C 0) (tb C 0 (C 39)) ta) (outF C (tb C 0 (C 39)) (6 + C 0) out) pl lo sh le) H := hP
  have hD : va_D A (WM ca q th st ik ln (nI (no C)) pa iw so na nb fo nu al (zOf C) be ke te ti ne wa (fillL (6 + C 0) (tb C 0 (C 39)) ta) (outF C (tb C 0 (C 39)) (6 + C 0) out) pl lo sh le) := hD
  refine lv_aload_n hx hb dX3_asks_12 rfl (lv_at hl 0 rfl) ?_
  refine gWM_0_z_X3 hx hb hts hown hK hP dX3_asks_13 ?_
  refine lv_bipush (v := nI 41) hx hb dX3_asks_16 (by decide) ?_
  refine ldWM_1 hx hb hK hP (by omega) dX3_asks_18 ?_
  refine lv_topi (nm_r (e' := nI (C 41)) (rfl) ?_)
  refine lv_istore_n (lv' := [(2, .int (nI (C 41))), (0, .ref (q 0)), (1, .int (nI t_))]) hx hb dX3_asks_19 rfl hl (by decide) rfl (fun ls hl => ?_)
  refine lv_aload_n hx hb dX3_asks_20 rfl (lv_at hl 1 rfl) ?_
  refine gWM_0_z_X3 hx hb hts hown hK hP dX3_asks_21 ?_
  refine lv_bipush (v := nI 42) hx hb dX3_asks_24 (by decide) ?_
  refine lv_iload_n hx hb dX3_asks_26 rfl (lv_at hl 0 rfl) ?_
  refine nv_iadd hx hb dX3_asks_27 ?_
  refine lv_iload_n hx hb dX3_asks_28 rfl (lv_at hl 2 rfl) ?_
  refine stWM_1 hx hb hK hP hD hS (by omega) dX3_asks_29 (fun H locs hP hD hS => ?_)
  have ew_ : upd (zOf C) (42 + (C 41)) (nI t_) = zOf (updN C (42 + (C 41)) t_) := zOf_u (by omega)
  have hP : va_P D vwCl (WM ca q th st ik ln (nI (no C)) pa iw so na nb fo nu al (zOf (updN C (42 + (C 41)) t_)) be ke te ti ne wa (fillL (6 + C 0) (tb C 0 (C 39)) ta) (outF C (tb C 0 (C 39)) (6 + C 0) out) pl lo sh le) H := (congrArg (fun x_ => va_P D vwCl (WM ca q th st ik ln (nI (no C)) pa iw so na nb fo nu al x_ be ke te ti ne wa (fillL (6 + C 0) (tb C 0 (C 39)) ta) (outF C (tb C 0 (C 39)) (6 + C 0) out) pl lo sh le) H) ew_).mp hP
  have hD : va_D A (WM ca q th st ik ln (nI (no C)) pa iw so na nb fo nu al (zOf (updN C (42 + (C 41)) t_)) be ke te ti ne wa (fillL (6 + C 0) (tb C 0 (C 39)) ta) (outF C (tb C 0 (C 39)) (6 + C 0) out) pl lo sh le) := (congrArg (fun x_ => va_D A (WM ca q th st ik ln (nI (no C)) pa iw so na nb fo nu al x_ be ke te ti ne wa (fillL (6 + C 0) (tb C 0 (C 39)) ta) (outF C (tb C 0 (C 39)) (6 + C 0) out) pl lo sh le)) ew_).mp hD
  clear ew_
  refine lv_aload_n hx hb dX3_asks_30 rfl (lv_at hl 1 rfl) ?_
  refine gWM_0_z_X3 hx hb hts hown hK hP dX3_asks_31 ?_
  refine lv_bipush (v := nI 54) hx hb dX3_asks_34 (by decide) ?_
  refine lv_iload_n hx hb dX3_asks_36 rfl (lv_at hl 0 rfl) ?_
  refine nv_iadd hx hb dX3_asks_37 ?_
  refine lv_aload_n hx hb dX3_asks_38 rfl (lv_at hl 1 rfl) ?_
  refine lv_iload_n hx hb dX3_asks_39 rfl (lv_at hl 2 rfl) ?_
  refine xc_i (xr_V (b := q 0) (ci := 2) (q0 := 0) (As := [.int (nI t_)]) (rest := [.int (nI (54 + (C 41))), .ref (q 1)]) (mt_X3_answer l D ca q th st ik ln pa iw so na nb fo nu al (zOf (updN C (42 + (C 41)) t_)) be ke te ti ne wa (fillL (6 + C 0) (tb C 0 (C 39)) ta) (outF C (tb C 0 (C 39)) (6 + C 0) out) pl lo sh le (no C) t_ (by first | assumption | omega | (simp only [updN, forgetC, changedC]; (repeat' split) <;> omega)) (by first | assumption | omega | (simp only [updN, forgetC, changedC]; (repeat' split) <;> omega)) H.size) ⟨hx, hb, hml, hown, hts⟩ (cwV 1 hts (lw_V q1796 q1798 qs58 q87 q1799) rfl rfl rfl (by decide +kernel) ⟨Nat.le_of_ble_eq_true rfl, Nat.le_of_ble_eq_true rfl⟩) Ev0_ok hE hK hS (Cut.all hP hD hS hA) rfl rfl rfl hl.1 rfl (Nat.le_of_ble_eq_true rfl) dX3_asks_40 ⟨Nat.le_of_ble_eq_true rfl, Nat.le_of_ble_eq_true rfl⟩) hS (Cut.all hP hD hS hA) (fun r_3 u_4 H locs hq_40 hP hD hS => ?_)
  have hP : va_P D vwCl (WM ca q th st ik ln (nI (no C)) pa iw so na nb fo nu al (zOf (updN C (42 + (C 41)) t_)) be ke te ti ne wa (fillL (6 + C 0) (tb C 0 (C 39)) ta) (outF C (tb C 0 (C 39)) (6 + C 0) out) pl lo sh le) H := hP
  have hD : va_D A (WM ca q th st ik ln (nI (no C)) pa iw so na nb fo nu al (zOf (updN C (42 + (C 41)) t_)) be ke te ti ne wa (fillL (6 + C 0) (tb C 0 (C 39)) ta) (outF C (tb C 0 (C 39)) (6 + C 0) out) pl lo sh le) := hD
  have hp_40 : r_3 = nI (anF (no C) (outF C (tb C 0 (C 39)) (6 + C 0) out) t_) := hq_40
  clear hq_40
  obtain rfl := hp_40
  refine lv_topi (nm_r (e' := nI (anC C 0 (C 39) t_)) (congrArg nI anC_of) ?_)
  refine stWM_1 hx hb hK hP hD hS (by omega) dX3_asks_43 (fun H locs hP hD hS => ?_)
  have ew_ : upd (zOf (updN C (42 + (C 41)) t_)) (54 + (C 41)) (nI (anC C 0 (C 39) t_)) = zOf (updN (updN C (42 + (C 41)) t_) (54 + (C 41)) (anC C 0 (C 39) t_)) := zOf_u (by omega)
  have hP : va_P D vwCl (WM ca q th st ik ln (nI (no C)) pa iw so na nb fo nu al (zOf (updN (updN C (42 + (C 41)) t_) (54 + (C 41)) (anC C 0 (C 39) t_))) be ke te ti ne wa (fillL (6 + C 0) (tb C 0 (C 39)) ta) (outF C (tb C 0 (C 39)) (6 + C 0) out) pl lo sh le) H := (congrArg (fun x_ => va_P D vwCl (WM ca q th st ik ln (nI (no C)) pa iw so na nb fo nu al x_ be ke te ti ne wa (fillL (6 + C 0) (tb C 0 (C 39)) ta) (outF C (tb C 0 (C 39)) (6 + C 0) out) pl lo sh le) H) ew_).mp hP
  have hD : va_D A (WM ca q th st ik ln (nI (no C)) pa iw so na nb fo nu al (zOf (updN (updN C (42 + (C 41)) t_) (54 + (C 41)) (anC C 0 (C 39) t_))) be ke te ti ne wa (fillL (6 + C 0) (tb C 0 (C 39)) ta) (outF C (tb C 0 (C 39)) (6 + C 0) out) pl lo sh le) := (congrArg (fun x_ => va_D A (WM ca q th st ik ln (nI (no C)) pa iw so na nb fo nu al x_ be ke te ti ne wa (fillL (6 + C 0) (tb C 0 (C 39)) ta) (outF C (tb C 0 (C 39)) (6 + C 0) out) pl lo sh le)) ew_).mp hD
  clear ew_
  refine lv_aload_n hx hb dX3_asks_44 rfl (lv_at hl 1 rfl) ?_
  refine gWM_0_z_X3 hx hb hts hown hK hP dX3_asks_45 ?_
  refine lv_bipush (v := nI 41) hx hb dX3_asks_48 (by decide) ?_
  refine lv_dup2_11 hx hb dX3_asks_50 rfl rfl ?_
  refine ldWM_1 hx hb hK hP (by omega) dX3_asks_51 ?_
  refine lv_topi (nm_r (e' := nI (C 41)) ((zOf_n (by decide)).trans (congrArg nI (by simp only [updN]; (repeat' split) <;> omega))) ?_)
  refine lv_iconst (v := nI 1) hx hb dX3_asks_52 (by decide) ?_
  refine nv_iadd hx hb dX3_asks_53 ?_
  refine stWM_1 hx hb hK hP hD hS (by omega) dX3_asks_54 (fun H locs hP hD hS => ?_)
  have ew_ : upd (zOf (updN (updN C (42 + (C 41)) t_) (54 + (C 41)) (anC C 0 (C 39) t_))) 41 (nI ((C 41) + 1)) = zOf (updN (updN (updN C (42 + (C 41)) t_) (54 + (C 41)) (anC C 0 (C 39) t_)) 41 ((C 41) + 1)) := zOf_u (by decide)
  have hP : va_P D vwCl (WM ca q th st ik ln (nI (no C)) pa iw so na nb fo nu al (zOf (updN (updN (updN C (42 + (C 41)) t_) (54 + (C 41)) (anC C 0 (C 39) t_)) 41 ((C 41) + 1))) be ke te ti ne wa (fillL (6 + C 0) (tb C 0 (C 39)) ta) (outF C (tb C 0 (C 39)) (6 + C 0) out) pl lo sh le) H := (congrArg (fun x_ => va_P D vwCl (WM ca q th st ik ln (nI (no C)) pa iw so na nb fo nu al x_ be ke te ti ne wa (fillL (6 + C 0) (tb C 0 (C 39)) ta) (outF C (tb C 0 (C 39)) (6 + C 0) out) pl lo sh le) H) ew_).mp hP
  have hD : va_D A (WM ca q th st ik ln (nI (no C)) pa iw so na nb fo nu al (zOf (updN (updN (updN C (42 + (C 41)) t_) (54 + (C 41)) (anC C 0 (C 39) t_)) 41 ((C 41) + 1))) be ke te ti ne wa (fillL (6 + C 0) (tb C 0 (C 39)) ta) (outF C (tb C 0 (C 39)) (6 + C 0) out) pl lo sh le) := (congrArg (fun x_ => va_D A (WM ca q th st ik ln (nI (no C)) pa iw so na nb fo nu al x_ be ke te ti ne wa (fillL (6 + C 0) (tb C 0 (C 39)) ta) (outF C (tb C 0 (C 39)) (6 + C 0) out) pl lo sh le)) ew_).mp hD
  clear ew_
  refine lv_aload_n hx hb dX3_asks_55 rfl (lv_at hl 1 rfl) ?_
  refine gWM_0_z_X3 hx hb hts hown hK hP dX3_asks_56 ?_
  refine lv_bipush (v := nI 54) hx hb dX3_asks_59 (by decide) ?_
  refine lv_iload_n hx hb dX3_asks_61 rfl (lv_at hl 0 rfl) ?_
  refine nv_iadd hx hb dX3_asks_62 ?_
  refine ldWM_1 hx hb hK hP (by omega) dX3_asks_63 ?_
  refine lv_topi (nm_r (e' := nI (anC C 0 (C 39) t_)) ((zOf_n (by omega)).trans (congrArg nI (by simp only [updN]; (repeat' split) <;> first | rfl | (exfalso; omega)))) ?_)
  subst hQQ
  exact xe_i (v := nI (anC C 0 (C 39) t_)) (fillL (6 + C 0) (tb C 0 (C 39)) ta, outF C (tb C 0 (C 39)) (6 + C 0) out) hx hb hr hlocks hK hP hD hS (rfl) dX3_asks_64
set_option maxHeartbeats 4000000 in
set_option maxRecDepth 100000 in
theorem mt_X3_ask_ok (l : Launch) (D : va_G) (ca : Nat → ClassId) (q : Nat → Nat) (th : Int32) (ik : Int32) (ln : Int32) (ou : Int32) (pa : Int32) (iw : Int32) (so : Int32) (na : Int32) (nb : Int32) (fo : Int32) (nu : Int32) (al : Int32) (be : Nat → Int32) (ke : Nat → Int32) (te : Nat → Int32) (ti : Nat → Int32) (ne : Nat → Int32) (wa : Nat → Int32) (ta : Nat → Int64) (out : Nat → Int64) (pl : Nat → Int64) (lo : Nat → Int64) (sh : Nat → Int64) (le : Nat → Int64) (C : Nat → Nat) (L : List (Nat → Nat)) (t_ : Nat) (h0 : C 0 ≤ 12) (hkd0 : ∀ k, k < 12 → C (1 + k) < 8) (hse : ∀ k, k < 12 → C (13 + k) < 6 + k ∧ C (25 + k) < 6 + k) (ho : C 37 < 2 ^ 18) (hbx : C 38 < 2 ^ 18) (hno : popc 18 (C 37) ≤ 4) (h39 : C 39 ≤ 64) (hak : C 41 < 12) (ht : t_ < 64) (hL : L.length ≤ 5) (hB : BeOk L be) (nn : Nat) : Met l yX3_ask (ws_ yX3_ask cX3_ask 2 (Option.some Jvm.ClassFile.FieldType.int)) ({ frames := 3, cells := 0, slots := 0, locals := 73 } : Room) (va_Pc [.ref (q 0), .int (nI t_)] (PreW Ev0 D vwCl (TY ca) (WM ca q th (nI L.length) ik ln ou pa iw so na nb fo nu al (zOf C) be ke te ti ne wa ta out pl lo sh le) nn)) (va_Qi (fun (r_ : Int32) (u_ : (Nat → Int32) × (Nat → Int64) × (Nat → Int64)) => r_ = nI (anC C 0 (C 39) t_) ∧ (BeOk (pushL L C) u_.1)) (PostW D vwCl (TY ca) (fun (u_ : (Nat → Int32) × (Nat → Int64) × (Nat → Int64)) => (WM ca q (nI 0) (nI (pushL L C).length) ik ln (nI (no C)) pa iw so na nb fo nu al (zOf (askC C t_ (anC C 0 (C 39) t_))) u_.1 ke te ti ne wa u_.2.1 u_.2.2 pl lo sh le)) (va_A (WM ca q th (nI L.length) ik ln ou pa iw so na nb fo nu al (zOf C) be ke te ti ne wa ta out pl lo sh le) nn)) (va_A (WM ca q th (nI L.length) ik ln ou pa iw so na nb fo nu al (zOf C) be ke te ti ne wa ta out pl lo sh le) nn)) 0 0 (va_A (WM ca q th (nI L.length) ik ln ou pa iw so na nb fo nu al (zOf C) be ke te ti ne wa ta out pl lo sh le) nn) := by
  refine met_go (QA := fun A => va_Qi (fun (r_ : Int32) (u_ : (Nat → Int32) × (Nat → Int64) × (Nat → Int64)) => r_ = nI (anC C 0 (C 39) t_) ∧ (BeOk (pushL L C) u_.1)) (PostW D vwCl (TY ca) (fun (u_ : (Nat → Int32) × (Nat → Int64) × (Nat → Int64)) => (WM ca q (nI 0) (nI (pushL L C).length) ik ln (nI (no C)) pa iw so na nb fo nu al (zOf (askC C t_ (anC C 0 (C 39) t_))) u_.1 ke te ti ne wa u_.2.1 u_.2.2 pl lo sh le)) A) A) (by decide) (Nat.le_of_ble_eq_true rfl) (fun p e s m below meth c A ls QQ hQQ hx hb hr hts hown hlocks hml hA hP hK hD hE hl => ?_)
  have hown : s.vm.findClass RX3 = some m.cls := hown
  have hS : va_S A s.heap s.heap [] := va_S.rf
  have hl : lv_has ls 2 [(0, .ref (q 0)), (1, .int (nI t_))] := hl
  generalize hHe : s.heap = H at hP ⊢
  have hS : va_S A s.heap H [] := hHe ▸ hS
  generalize ([] : List Loc) = locs at hS ⊢
  refine lv_aload_n hx hb dX3_ask_0 rfl (lv_at hl 0 rfl) ?_
  refine lv_iload_n hx hb dX3_ask_1 rfl (lv_at hl 1 rfl) ?_
  refine lv_iconst (v := nI 0) hx hb dX3_ask_2 (by decide) ?_
  refine lv_bipush (v := nI 63) hx hb dX3_ask_3 (by decide) ?_
  refine xc_i (xr_S (As := [.int (nI t_), .int (nI 0), .int (nI 63)]) (rest := [.ref (q 0)]) (mt_X3_in l D ca (nI t_) (nI 0) (nI 63)  H.size) ⟨hx, hb, hml, hown, hts⟩ (va_cwS 3 hts (lw_S q1700 q1701 q87 q1702) rfl rfl rfl (by decide +kernel) ⟨Nat.le_of_ble_eq_true rfl, Nat.le_of_ble_eq_true rfl⟩) Ev0_ok hE hK hS (Cut.app (wc := []) (wr := (WM ca q th (nI L.length) ik ln ou pa iw so na nb fo nu al (zOf C) be ke te ti ne wa ta out pl lo sh le)) hP hD hS hA) rfl hl.1 rfl (Nat.le_of_ble_eq_true rfl) dX3_ask_5 ⟨Nat.le_of_ble_eq_true rfl, Nat.le_of_ble_eq_true rfl⟩) hS (Cut.app (wc := []) (wr := (WM ca q th (nI L.length) ik ln ou pa iw so na nb fo nu al (zOf C) be ke te ti ne wa ta out pl lo sh le)) hP hD hS hA) (fun r_1 u_2 H locs hq_5 hP hD hS => ?_)
  have hP : va_P D vwCl (WM ca q th (nI L.length) ik ln ou pa iw so na nb fo nu al (zOf C) be ke te ti ne wa ta out pl lo sh le) H := hP
  have hD : va_D A (WM ca q th (nI L.length) ik ln ou pa iw so na nb fo nu al (zOf C) be ke te ti ne wa ta out pl lo sh le) := hD
  have hp_5 : r_1 = bI (decide ((nI 0) ≤ (nI t_) ∧ (nI t_) ≤ (nI 63))) := hq_5
  clear hq_5
  obtain rfl := hp_5
  refine nv_ifb_ne (tgt := 15) hx hb dX3_ask_8 (by decide) (fun c_8 => ?_) (fun c_8 => (absurd c_8 (by rw [in_ok (by omega) (by decide)]; decide)))
  refine lv_aload_n hx hb dX3_ask_15 rfl (lv_at hl 0 rfl) ?_
  refine gWM_0_z_X3 hx hb hts hown hK hP dX3_ask_16 ?_
  refine lv_bipush (v := nI 41) hx hb dX3_ask_19 (by decide) ?_
  refine ldWM_1 hx hb hK hP (by omega) dX3_ask_21 ?_
  refine lv_topi (nm_r (e' := nI (C 41)) (rfl) ?_)
  refine lv_bipush (v := nI 12) hx hb dX3_ask_22 (by decide) ?_
  refine nv_icmp_ne (tgt := 31) hx hb dX3_ask_24 (by decide) (by omega) (by omega) (fun c_24 => ?_) (fun c_24 => (absurd c_24 (by omega)))
  refine lv_iconst (v := nI 0) hx hb dX3_ask_31 (by decide) ?_
  refine pWM_0_thrown_X3 hx hb hts hown hK hP hD hS dX3_ask_32 (fun H locs hP hD hS => ?_)
  refine lv_aload_n hx hb dX3_ask_35 rfl (lv_at hl 0 rfl) ?_
  refine gWM_0_thrown_X3 hx hb hts hown hK hP dX3_ask_36 ?_
  refine nv_if_le (tgt := 44) hx hb dX3_ask_39 (by decide) (by omega) (fun c_39 => ?_) (fun c_39 => absurd c_39 (by decide))
  refine lv_aload_n hx hb dX3_ask_44 rfl (lv_at hl 0 rfl) ?_
  refine xc_v (xr_V (b := q 0) (ci := 2) (q0 := 0) (As := []) (rest := []) (mt_X3_record l D ca q (nI 0) ik ln ou pa iw so na nb fo nu al be ke te ti ne wa ta out pl lo sh le C L (by first | assumption | omega | (simp only [updN, forgetC, changedC]; (repeat' split) <;> omega)) (by first | assumption | omega | (simp only [updN, forgetC, changedC]; (repeat' split) <;> omega)) H.size) ⟨hx, hb, hml, hown, hts⟩ (cwV 0 hts (lw_V q1680 q1682 qs42 q87 q1683) rfl rfl rfl (by decide +kernel) ⟨Nat.le_of_ble_eq_true rfl, Nat.le_of_ble_eq_true rfl⟩) Ev0_ok hE hK hS (Cut.all hP hD hS hA) rfl rfl rfl hl.1 rfl (Nat.le_of_ble_eq_true rfl) dX3_ask_45 ⟨Nat.le_of_ble_eq_true rfl, Nat.le_of_ble_eq_true rfl⟩) hS (Cut.all hP hD hS hA) (fun u_4 H locs hq_45 hP hD hS => ?_)
  obtain ⟨be1_5, rfl⟩ : ∃ z_, z_ = u_4 := ⟨_, rfl⟩
  have hP : va_P D vwCl (WM ca q (nI 0) (nI (pushL L C).length) ik ln ou pa iw so na nb fo nu al (zOf C) be1_5 ke te ti ne wa ta out pl lo sh le) H := hP
  have hD : va_D A (WM ca q (nI 0) (nI (pushL L C).length) ik ln ou pa iw so na nb fo nu al (zOf C) be1_5 ke te ti ne wa ta out pl lo sh le) := hD
  have hp_45 : BeOk (pushL L C) be1_5 := hq_45
  clear hq_45
  refine lv_aload_n hx hb dX3_ask_48 rfl (lv_at hl 0 rfl) ?_
  refine lv_iload_n hx hb dX3_ask_49 rfl (lv_at hl 1 rfl) ?_
  refine xc_i (xr_V (b := q 0) (ci := 2) (q0 := 0) (As := [.int (nI t_)]) (rest := []) (mt_X3_asks l D ca q (nI 0) (nI (pushL L C).length) ik ln ou pa iw so na nb fo nu al be1_5 ke te ti ne wa ta out pl lo sh le C t_ (by first | assumption | omega | (simp only [updN, forgetC, changedC]; (repeat' split) <;> omega)) (by first | assumption | omega | (simp only [updN, forgetC, changedC]; (repeat' split) <;> omega)) (by first | assumption | omega | (simp only [updN, forgetC, changedC]; (repeat' split) <;> omega)) (by first | assumption | omega | (simp only [updN, forgetC, changedC]; (repeat' split) <;> omega)) (by first | assumption | omega | (simp only [updN, forgetC, changedC]; (repeat' split) <;> omega)) (by first | assumption | omega | (simp only [updN, forgetC, changedC]; (repeat' split) <;> omega)) (by first | assumption | omega | (simp only [updN, forgetC, changedC]; (repeat' split) <;> omega)) (by first | assumption | omega | (simp only [updN, forgetC, changedC]; (repeat' split) <;> omega)) (by first | assumption | omega | (simp only [updN, forgetC, changedC]; (repeat' split) <;> omega)) H.size) ⟨hx, hb, hml, hown, hts⟩ (cwV 1 hts (lw_V q1777 q1779 qs55 q87 q1780) rfl rfl rfl (by decide +kernel) ⟨Nat.le_of_ble_eq_true rfl, Nat.le_of_ble_eq_true rfl⟩) Ev0_ok hE hK hS (Cut.all hP hD hS hA) rfl rfl rfl hl.1 rfl (Nat.le_of_ble_eq_true rfl) dX3_ask_50 ⟨Nat.le_of_ble_eq_true rfl, Nat.le_of_ble_eq_true rfl⟩) hS (Cut.all hP hD hS hA) (fun r_6 u_7 H locs hq_50 hP hD hS => ?_)
  obtain ⟨ta1_8, out1_9⟩ := u_7
  have hP : va_P D vwCl (WM ca q (nI 0) (nI (pushL L C).length) ik ln (nI (no C)) pa iw so na nb fo nu al (zOf (askC C t_ (anC C 0 (C 39) t_))) be1_5 ke te ti ne wa ta1_8 out1_9 pl lo sh le) H := hP
  have hD : va_D A (WM ca q (nI 0) (nI (pushL L C).length) ik ln (nI (no C)) pa iw so na nb fo nu al (zOf (askC C t_ (anC C 0 (C 39) t_))) be1_5 ke te ti ne wa ta1_8 out1_9 pl lo sh le) := hD
  have hp_50 : r_6 = nI (anC C 0 (C 39) t_) := hq_50
  clear hq_50
  obtain rfl := hp_50
  subst hQQ
  exact xe_i (v := nI (anC C 0 (C 39) t_)) (be1_5, ta1_8, out1_9) hx hb hr hlocks hK hP hD hS (⟨rfl, hp_45⟩) dX3_ask_53
