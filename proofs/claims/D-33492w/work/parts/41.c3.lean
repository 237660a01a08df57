/-! the component: tables -/
set_option maxRecDepth 100000
theorem stk_n {x : Nat} : -(lN (x % 2)) = if x % 2 = 1 then -1 else lN 0 := by
  have h : x % 2 = 0 ∨ x % 2 = 1 := by omega
  rcases h with h | h <;> rw [h] <;> decide
theorem rk_and {g s : Nat} (h : g ≤ 18) : popc 18 (s &&& (1 <<< g - 1)) = popc g s := by
  rw [Nat.one_shiftLeft, Nat.and_two_pow_sub_one_eq_mod, popc_up (n := g) (Nat.mod_lt _ (Nat.two_pow_pos g)) h, popc_lo]
theorem kOf_n {C : Nat → Nat} {K g : Nat} (h : K = 0 ∨ (C 38).testBit g = false) : kOf C K g = C (1 + g) := by
  unfold kOf; rw [if_neg]; rintro ⟨a, b⟩; rcases h with h | h
  · exact a h
  · rw [h] at b; cases b
theorem kOf_y {C : Nat → Nat} {K g : Nat} (h : ¬ K = 0) (h2 : (C 38).testBit g = true) : kOf C K g = (K - 1) / 6 ^ (popc g (C 38)) % 6 := if_pos ⟨h, h2⟩
theorem div6 {a i : Nat} : a / 6 ^ i / 6 = a / 6 ^ (i + 1) := by rw [Nat.div_div_eq_div_mul, Nat.pow_succ]
set_option maxHeartbeats 4000000 in
set_option maxRecDepth 100000 in
theorem mt_X1_gateTable (l : Launch) (D : va_G) (ca : Nat → ClassId) (k_ : Nat) (a_ : Int64) (b_ : Int64) (hk : k_ < 8) (nn : Nat) : Met l yX1_gateTable (ws_ yX1_gateTable cX1_gateTable 5 (Option.some Jvm.ClassFile.FieldType.long)) ({ frames := 0, cells := 0, slots := 0, locals := 0 } : Room) (va_Pc [.int (nI k_), .long a_, .long b_] (PreW Ev0 D vwCl (TY ca) ([] : va_W) nn)) (va_Ql (fun (r_ : Int64) (_ : Unit) => r_ = gT k_ a_ b_) (PostW D vwCl (TY ca) (fun (_ : Unit) => ([] : va_W)) (va_A ([] : va_W) nn)) (va_A ([] : va_W) nn)) 0 0 (va_A ([] : va_W) nn) := by
  refine met_go (QA := fun A => va_Ql (fun (r_ : Int64) (_ : Unit) => r_ = gT k_ a_ b_) (PostW D vwCl (TY ca) (fun (_ : Unit) => ([] : va_W)) A) A) (by decide) (Nat.le_of_ble_eq_true rfl) (fun p e s m below meth c A ls QQ hQQ hx hb hr hts hown hlocks hml hA hP hK hD hE hl => ?_)
  have hown : s.vm.findClass RX1 = some m.cls := hown
  have hS : va_S A s.heap s.heap [] := va_S.rf
  have hl : lv_has ls 5 [(0, .int (nI k_)), (1, .long a_), (3, .long b_)] := hl
  generalize hHe : s.heap = H at hP ⊢
  have hS : va_S A s.heap H [] := hHe ▸ hS
  generalize ([] : List Loc) = locs at hS ⊢
  refine lv_iload_n hx hb dX1_gateTable_0 rfl (lv_at hl 0 rfl) ?_
  by_cases c_1 : k_ = 0
  · skip
    refine lv_tableIn (x := nI k_) (tgt := 44) (off := 43) hx hb dX1_gateTable_1 (by rw [c_1]; decide) (by rw [c_1]; decide) (by rw [c_1]; rfl) (by decide) ?_
    refine lv_lload_n hx hb dX1_gateTable_44 rfl (lv_at hl 1 rfl) ?_
    refine lv_lload_n hx hb dX1_gateTable_45 rfl (lv_at hl 2 rfl) ?_
    refine lv_land hx hb dX1_gateTable_46 ?_
    subst hQQ
    exact xe_l (v := a_ &&& b_) () hx hb hr hlocks hK hP hD hS ((by unfold gT not64; (repeat' split) <;> first | rfl | (exfalso; omega))) dX1_gateTable_47
  have n_1_0 : ¬ k_ = 0 := c_1
  clear c_1
  by_cases c_1 : k_ = 1
  · skip
    refine lv_tableIn (x := nI k_) (tgt := 48) (off := 47) hx hb dX1_gateTable_1 (by rw [c_1]; decide) (by rw [c_1]; decide) (by rw [c_1]; rfl) (by decide) ?_
    refine lv_lload_n hx hb dX1_gateTable_48 rfl (lv_at hl 1 rfl) ?_
    refine lv_lload_n hx hb dX1_gateTable_49 rfl (lv_at hl 2 rfl) ?_
    refine lv_lor hx hb dX1_gateTable_50 ?_
    subst hQQ
    exact xe_l (v := a_ ||| b_) () hx hb hr hlocks hK hP hD hS ((by unfold gT not64; (repeat' split) <;> first | rfl | (exfalso; omega))) dX1_gateTable_51
  have n_1_1 : ¬ k_ = 1 := c_1
  clear c_1
  by_cases c_1 : k_ = 2
  · skip
    refine lv_tableIn (x := nI k_) (tgt := 52) (off := 51) hx hb dX1_gateTable_1 (by rw [c_1]; decide) (by rw [c_1]; decide) (by rw [c_1]; rfl) (by decide) ?_
    refine lv_lload_n hx hb dX1_gateTable_52 rfl (lv_at hl 1 rfl) ?_
    refine lv_lload_n hx hb dX1_gateTable_53 rfl (lv_at hl 2 rfl) ?_
    refine lv_lxor hx hb dX1_gateTable_54 ?_
    subst hQQ
    exact xe_l (v := a_ ^^^ b_) () hx hb hr hlocks hK hP hD hS ((by unfold gT not64; (repeat' split) <;> first | rfl | (exfalso; omega))) dX1_gateTable_55
  have n_1_2 : ¬ k_ = 2 := c_1
  clear c_1
  by_cases c_1 : k_ = 3
  · skip
    refine lv_tableIn (x := nI k_) (tgt := 56) (off := 55) hx hb dX1_gateTable_1 (by rw [c_1]; decide) (by rw [c_1]; decide) (by rw [c_1]; rfl) (by decide) ?_
    refine lv_lload_n hx hb dX1_gateTable_56 rfl (lv_at hl 1 rfl) ?_
    refine lv_lload_n hx hb dX1_gateTable_57 rfl (lv_at hl 2 rfl) ?_
    refine lv_land hx hb dX1_gateTable_58 ?_
    refine lv_ldc2 (v := (-1)) hx hb hown (hts _ q476) dX1_gateTable_59 ?_
    refine lv_lxor hx hb dX1_gateTable_62 ?_
    subst hQQ
    exact xe_l (v := (a_ &&& b_) ^^^ (-1)) () hx hb hr hlocks hK hP hD hS ((by unfold gT not64; (repeat' split) <;> first | rfl | (exfalso; omega))) dX1_gateTable_63
  have n_1_3 : ¬ k_ = 3 := c_1
  clear c_1
  by_cases c_1 : k_ = 4
  · skip
    refine lv_tableIn (x := nI k_) (tgt := 64) (off := 63) hx hb dX1_gateTable_1 (by rw [c_1]; decide) (by rw [c_1]; decide) (by rw [c_1]; rfl) (by decide) ?_
    refine lv_lload_n hx hb dX1_gateTable_64 rfl (lv_at hl 1 rfl) ?_
    refine lv_lload_n hx hb dX1_gateTable_65 rfl (lv_at hl 2 rfl) ?_
    refine lv_lor hx hb dX1_gateTable_66 ?_
    refine lv_ldc2 (v := (-1)) hx hb hown (hts _ q476) dX1_gateTable_67 ?_
    refine lv_lxor hx hb dX1_gateTable_70 ?_
    subst hQQ
    exact xe_l (v := (a_ ||| b_) ^^^ (-1)) () hx hb hr hlocks hK hP hD hS ((by unfold gT not64; (repeat' split) <;> first | rfl | (exfalso; omega))) dX1_gateTable_71
  have n_1_4 : ¬ k_ = 4 := c_1
  clear c_1
  by_cases c_1 : k_ = 5
  · skip
    refine lv_tableIn (x := nI k_) (tgt := 72) (off := 71) hx hb dX1_gateTable_1 (by rw [c_1]; decide) (by rw [c_1]; decide) (by rw [c_1]; rfl) (by decide) ?_
    refine lv_lload_n hx hb dX1_gateTable_72 rfl (lv_at hl 1 rfl) ?_
    refine lv_lload_n hx hb dX1_gateTable_73 rfl (lv_at hl 2 rfl) ?_
    refine lv_lxor hx hb dX1_gateTable_74 ?_
    refine lv_ldc2 (v := (-1)) hx hb hown (hts _ q476) dX1_gateTable_75 ?_
    refine lv_lxor hx hb dX1_gateTable_78 ?_
    subst hQQ
    exact xe_l (v := (a_ ^^^ b_) ^^^ (-1)) () hx hb hr hlocks hK hP hD hS ((by unfold gT not64; (repeat' split) <;> first | rfl | (exfalso; omega))) dX1_gateTable_79
  have n_1_5 : ¬ k_ = 5 := c_1
  clear c_1
  by_cases c_1 : k_ = 6
  · skip
    refine lv_tableIn (x := nI k_) (tgt := 80) (off := 79) hx hb dX1_gateTable_1 (by rw [c_1]; decide) (by rw [c_1]; decide) (by rw [c_1]; rfl) (by decide) ?_
    refine lv_lload_n hx hb dX1_gateTable_80 rfl (lv_at hl 1 rfl) ?_
    refine lv_ldc2 (v := (-1)) hx hb hown (hts _ q476) dX1_gateTable_81 ?_
    refine lv_lxor hx hb dX1_gateTable_84 ?_
    subst hQQ
    exact xe_l (v := a_ ^^^ (-1)) () hx hb hr hlocks hK hP hD hS ((by unfold gT not64; (repeat' split) <;> first | rfl | (exfalso; omega))) dX1_gateTable_85
  have n_1_6 : ¬ k_ = 6 := c_1
  clear c_1
  refine lv_tableOut (x := nI k_) (tgt := 86) hx hb dX1_gateTable_1 (by rw [nI_toInt (by omega)]; omega) (by decide) ?_
  refine lv_lload_n hx hb dX1_gateTable_86 rfl (lv_at hl 1 rfl) ?_
  subst hQQ
  exact xe_l (v := a_) () hx hb hr hlocks hK hP hD hS ((by unfold gT not64; (repeat' split) <;> first | rfl | (exfalso; omega))) dX1_gateTable_87
set_option maxHeartbeats 4000000 in
set_option maxRecDepth 100000 in
theorem mt_X1_stuck (l : Launch) (D : va_G) (ca : Nat → ClassId) (v_ : Int64) (l_ : Nat) (F_ : Nat) (hF : F_ ≤ 100) (hl0 : l_ < 100) (nn : Nat) : Met l yX1_stuck (ws_ yX1_stuck cX1_stuck 4 (Option.some Jvm.ClassFile.FieldType.long)) ({ frames := 0, cells := 0, slots := 0, locals := 0 } : Room) (va_Pc [.long v_, .int (nI l_), .int (fI F_)] (PreW Ev0 D vwCl (TY ca) ([] : va_W) nn)) (va_Ql (fun (r_ : Int64) (_ : Unit) => r_ = stk l_ F_ v_) (PostW D vwCl (TY ca) (fun (_ : Unit) => ([] : va_W)) (va_A ([] : va_W) nn)) (va_A ([] : va_W) nn)) 0 0 (va_A ([] : va_W) nn) := by
  refine met_go (QA := fun A => va_Ql (fun (r_ : Int64) (_ : Unit) => r_ = stk l_ F_ v_) (PostW D vwCl (TY ca) (fun (_ : Unit) => ([] : va_W)) A) A) (by decide) (Nat.le_of_ble_eq_true rfl) (fun p e s m below meth c A ls QQ hQQ hx hb hr hts hown hlocks hml hA hP hK hD hE hl => ?_)
  have hown : s.vm.findClass RX1 = some m.cls := hown
  have hS : va_S A s.heap s.heap [] := va_S.rf
  have hl : lv_has ls 4 [(0, .long v_), (2, .int (nI l_)), (3, .int (fI F_))] := hl
  generalize hHe : s.heap = H at hP ⊢
  have hS : va_S A s.heap H [] := hHe ▸ hS
  generalize ([] : List Loc) = locs at hS ⊢
  refine lv_iload_n hx hb dX1_stuck_0 rfl (lv_at hl 2 rfl) ?_
  refine lv_iconst (v := fI 0) hx hb dX1_stuck_1 (by decide) ?_
  refine nv_icmp_eqf (tgt := 20) hx hb dX1_stuck_2 (by decide) (by omega) (fun c_2 => ?_) (fun c_2 => ?_)
  · skip
    refine lv_lload_n hx hb dX1_stuck_20 rfl (lv_at hl 0 rfl) ?_
    subst hQQ
    exact xe_l (v := v_) () hx hb hr hlocks hK hP hD hS ((by unfold stk; rw [if_neg (by omega)])) dX1_stuck_21
  · skip
    refine lv_iload_n hx hb dX1_stuck_5 rfl (lv_at hl 2 rfl) ?_
    refine lv_topi (nm_r (e' := nI (F_ - 1)) (fI_pos c_2) ?_)
    refine lv_iconst (v := nI 2) hx hb dX1_stuck_6 (by decide) ?_
    refine nv_idiv hx hb dX1_stuck_7 (by omega) (by omega) (by omega) ?_
    refine lv_iload_n hx hb dX1_stuck_8 rfl (lv_at hl 1 rfl) ?_
    refine nv_icmp_ne (tgt := 20) hx hb dX1_stuck_9 (by decide) (by omega) (by omega) (fun c_9 => ?_) (fun c_9 => ?_)
    · skip
      refine lv_lload_n hx hb dX1_stuck_20 rfl (lv_at hl 0 rfl) ?_
      subst hQQ
      exact xe_l (v := v_) () hx hb hr hlocks hK hP hD hS ((by unfold stk; rw [if_neg (by omega)])) dX1_stuck_21
    · skip
      refine lv_iload_n hx hb dX1_stuck_12 rfl (lv_at hl 2 rfl) ?_
      refine lv_topi (nm_r (e' := nI (F_ - 1)) (fI_pos c_2) ?_)
      refine lv_iconst (v := nI 2) hx hb dX1_stuck_13 (by decide) ?_
      refine nv_irem hx hb dX1_stuck_14 (by omega) (by omega) (by omega) ?_
      refine lv_i2l (v := lN ((F_ - 1) % 2)) hx hb dX1_stuck_15 (nI_l (by omega)) ?_
      refine lv_lneg hx hb dX1_stuck_16 ?_
      refine lv_goto (tgt := 21) hx hb dX1_stuck_17 (by decide) ?_
      subst hQQ
      exact xe_l (v := -(lN ((F_ - 1) % 2))) () hx hb hr hlocks hK hP hD hS ((by unfold stk; rw [if_pos ⟨c_2, by omega⟩]; exact stk_n)) dX1_stuck_21
set_option maxHeartbeats 4000000 in
set_option maxRecDepth 100000 in
theorem mt_X1_kindBy (l : Launch) (D : va_G) (ca : Nat → ClassId) (cq : Nat → Nat) (xq : Nat → Nat) (ak : Nat → Int32) (tb_ : Nat → Int64) (va : Nat → Int32) (fy : Nat → Int64) (cn : Nat → Int32) (an : Nat → Int32) (sw : Nat → Int64) (sb : Nat → Int64) (sv : Value) (C : Nat → Nat) (g_ : Nat) (K_ : Nat) (h0 : C 0 ≤ 12) (hbx : C 38 < 2 ^ 18) (hg : g_ < 12) (hK : K_ ≤ 216) (nn : Nat) : Met l yX1_kindBy (ws_ yX1_kindBy cX1_kindBy 5 (Option.some Jvm.ClassFile.FieldType.int)) ({ frames := 1, cells := 0, slots := 0, locals := 21 } : Room) (va_Pc [.ref (xq 0), .int (nI g_), .int (fI K_)] (PreW EvX D vwCl (TY ca) (WT ca cq xq (kdC C) (fsC C) (snC C) ak (nI (C 0)) (nI (C 37)) (nI (C 38)) (fI (C 39)) (nI (C 40)) (lN (C 66)) (nI (C 41)) tb_ va fy cn an sw sb sv) nn)) (va_Qi (fun (r_ : Int32) (_ : Unit) => r_ = nI (kOf C K_ g_)) (PostW D vwCl (TY ca) (fun (_ : Unit) => (WT ca cq xq (kdC C) (fsC C) (snC C) ak (nI (C 0)) (nI (C 37)) (nI (C 38)) (fI (C 39)) (nI (C 40)) (lN (C 66)) (nI (C 41)) tb_ va fy cn an sw sb sv)) (va_A (WT ca cq xq (kdC C) (fsC C) (snC C) ak (nI (C 0)) (nI (C 37)) (nI (C 38)) (fI (C 39)) (nI (C 40)) (lN (C 66)) (nI (C 41)) tb_ va fy cn an sw sb sv) nn)) (va_A (WT ca cq xq (kdC C) (fsC C) (snC C) ak (nI (C 0)) (nI (C 37)) (nI (C 38)) (fI (C 39)) (nI (C 40)) (lN (C 66)) (nI (C 41)) tb_ va fy cn an sw sb sv) nn)) 0 0 (va_A (WT ca cq xq (kdC C) (fsC C) (snC C) ak (nI (C 0)) (nI (C 37)) (nI (C 38)) (fI (C 39)) (nI (C 40)) (lN (C 66)) (nI (C 41)) tb_ va fy cn an sw sb sv) nn) := by
  refine met_go (QA := fun A => va_Qi (fun (r_ : Int32) (_ : Unit) => r_ = nI (kOf C K_ g_)) (PostW D vwCl (TY ca) (fun (_ : Unit) => (WT ca cq xq (kdC C) (fsC C) (snC C) ak (nI (C 0)) (nI (C 37)) (nI (C 38)) (fI (C 39)) (nI (C 40)) (lN (C 66)) (nI (C 41)) tb_ va fy cn an sw sb sv)) A) A) (by decide) (Nat.le_of_ble_eq_true rfl) (fun p e s m below meth c A ls QQ hQQ hx hb hr hts hown hlocks hml hA hP hK hD hE hl => ?_)
  have hown : s.vm.findClass RX1 = some m.cls := hown
  have hS : va_S A s.heap s.heap [] := va_S.rf
  have hl : lv_has ls 5 [(0, .ref (xq 0)), (1, .int (nI g_)), (2, .int (fI K_))] := hl
  generalize hHe : s.heap = H at hP ⊢
  have hS : va_S A s.heap H [] := hHe ▸ hS
  generalize ([] : List Loc) = locs at hS ⊢
  have hpl := popc_le g_ (C 38)
  refine lv_iload_n hx hb dX1_kindBy_0 rfl (lv_at hl 2 rfl) ?_
  refine lv_iconst (v := fI 0) hx hb dX1_kindBy_1 (by decide) ?_
  refine nv_icmp_eqf (tgt := 19) hx hb dX1_kindBy_2 (by decide) (by omega) (fun c_2 => ?_) (fun c_2 => ?_)
  · skip
    refine lv_aload_n hx hb dX1_kindBy_19 rfl (lv_at hl 0 rfl) ?_
    refine gWT_5_circuit_X1 hx hb hts hown hK hP dX1_kindBy_20 ?_
    refine gWT_0_kinds_X1 hE hx hb hts hown hK hP dX1_kindBy_23 ?_
    refine lv_iload_n hx hb dX1_kindBy_26 rfl (lv_at hl 1 rfl) ?_
    refine ldWT_1 hx hb hK hP (by omega) dX1_kindBy_27 ?_
    refine lv_topi (nm_r (e' := nI (C (1 + g_))) (rfl) ?_)
    subst hQQ
    exact xe_i (v := nI (C (1 + g_))) () hx hb hr hlocks hK hP hD hS (congrArg nI (kOf_n (by first | exact Or.inl c_2 | exact Or.inr c_16)).symm) dX1_kindBy_28
  · skip
    refine lv_aload_n hx hb dX1_kindBy_5 rfl (lv_at hl 0 rfl) ?_
    refine gWT_5_circuit_X1 hx hb hts hown hK hP dX1_kindBy_6 ?_
    refine gWT_0_boxes_X1 hE hx hb hts hown hK hP dX1_kindBy_9 ?_
    refine lv_iload_n hx hb dX1_kindBy_12 rfl (lv_at hl 1 rfl) ?_
    refine xc_i (xr_S (As := [.int (nI (C 38)), .int (nI g_)]) (rest := []) (mt_X1_isIn l D ca (C 38) g_ (by first | assumption | omega | (simp only [updN, forgetC, changedC]; (repeat' split) <;> omega)) (by first | assumption | omega | (simp only [updN, forgetC, changedC]; (repeat' split) <;> omega)) H.size) ⟨hx, hb, hml, hown, hts⟩ (va_cwS 2 hts (lw_S q464 q465 q79 q466) rfl rfl rfl (by decide +kernel) ⟨Nat.le_of_ble_eq_true rfl, Nat.le_of_ble_eq_true rfl⟩) Ev0_ok trivial hK hS (Cut.app (wc := []) (wr := (WT ca cq xq (kdC C) (fsC C) (snC C) ak (nI (C 0)) (nI (C 37)) (nI (C 38)) (fI (C 39)) (nI (C 40)) (lN (C 66)) (nI (C 41)) tb_ va fy cn an sw sb sv)) hP hD hS hA) rfl hl.1 rfl (Nat.le_of_ble_eq_true rfl) dX1_kindBy_13 ⟨Nat.le_of_ble_eq_true rfl, Nat.le_of_ble_eq_true rfl⟩) hS (Cut.app (wc := []) (wr := (WT ca cq xq (kdC C) (fsC C) (snC C) ak (nI (C 0)) (nI (C 37)) (nI (C 38)) (fI (C 39)) (nI (C 40)) (lN (C 66)) (nI (C 41)) tb_ va fy cn an sw sb sv)) hP hD hS hA) (fun r_2 u_3 H locs hq_13 hP hD hS => ?_)
    have hP : va_P D vwCl (WT ca cq xq (kdC C) (fsC C) (snC C) ak (nI (C 0)) (nI (C 37)) (nI (C 38)) (fI (C 39)) (nI (C 40)) (lN (C 66)) (nI (C 41)) tb_ va fy cn an sw sb sv) H := hP
    have hD : va_D A (WT ca cq xq (kdC C) (fsC C) (snC C) ak (nI (C 0)) (nI (C 37)) (nI (C 38)) (fI (C 39)) (nI (C 40)) (lN (C 66)) (nI (C 41)) tb_ va fy cn an sw sb sv) := hD
    have hp_13 : r_2 = bI ((C 38).testBit g_) := hq_13
    clear hq_13
    obtain rfl := hp_13
    refine nv_ifb_ne (tgt := 29) hx hb dX1_kindBy_16 (by decide) (fun c_16 => ?_) (fun c_16 => ?_)
    · skip
      refine lv_iload_n hx hb dX1_kindBy_29 rfl (lv_at hl 2 rfl) ?_
      refine lv_topi (nm_r (e' := nI (K_ - 1)) (fI_pos c_2) ?_)
      refine lv_istore_n (lv' := [(3, .int (nI (K_ - 1))), (0, .ref (xq 0)), (1, .int (nI g_)), (2, .int (fI K_))]) hx hb dX1_kindBy_30 rfl hl (by decide) rfl (fun ls hl => ?_)
      refine lv_aload_n hx hb dX1_kindBy_31 rfl (lv_at hl 1 rfl) ?_
      refine gWT_5_circuit_X1 hx hb hts hown hK hP dX1_kindBy_32 ?_
      refine gWT_0_boxes_X1 hE hx hb hts hown hK hP dX1_kindBy_35 ?_
      refine lv_iconst (v := nI 1) hx hb dX1_kindBy_38 (by decide) ?_
      refine lv_iload_n hx hb dX1_kindBy_39 rfl (lv_at hl 2 rfl) ?_
      refine nv_ishl hx hb dX1_kindBy_40 (by omega) (by have : 2 ^ g_ ≤ 2 ^ 11 := Nat.pow_le_pow_right (by decide) (by omega); omega) ?_
      refine lv_iconst (v := nI 1) hx hb dX1_kindBy_41 (by decide) ?_
      refine nv_isub hx hb dX1_kindBy_42 (by rw [Nat.one_shiftLeft]; exact Nat.two_pow_pos g_) ?_
      refine nv_iand hx hb dX1_kindBy_43 ?_
      refine xc_i (xr_S (As := [.int (nI ((C 38) &&& ((1 <<< g_) - 1)))]) (rest := []) (mt_J15_bitCount l D ca ((C 38) &&& ((1 <<< g_) - 1)) (Nat.lt_of_le_of_lt Nat.and_le_left hbx) H.size) ⟨hx, hb, hml, hown, hts⟩ (va_cwS 1 hts (lw_S q467 q468 q99 q469) rfl rfl rfl (by decide +kernel) ⟨Nat.le_of_ble_eq_true rfl, Nat.le_of_ble_eq_true rfl⟩) Ev0_ok trivial hK hS (Cut.app (wc := []) (wr := (WT ca cq xq (kdC C) (fsC C) (snC C) ak (nI (C 0)) (nI (C 37)) (nI (C 38)) (fI (C 39)) (nI (C 40)) (lN (C 66)) (nI (C 41)) tb_ va fy cn an sw sb sv)) hP hD hS hA) rfl hl.1 rfl (Nat.le_of_ble_eq_true rfl) dX1_kindBy_44 ⟨Nat.le_of_ble_eq_true rfl, Nat.le_of_ble_eq_true rfl⟩) hS (Cut.app (wc := []) (wr := (WT ca cq xq (kdC C) (fsC C) (snC C) ak (nI (C 0)) (nI (C 37)) (nI (C 38)) (fI (C 39)) (nI (C 40)) (lN (C 66)) (nI (C 41)) tb_ va fy cn an sw sb sv)) hP hD hS hA) (fun r_5 u_6 H locs hq_44 hP hD hS => ?_)
      have hP : va_P D vwCl (WT ca cq xq (kdC C) (fsC C) (snC C) ak (nI (C 0)) (nI (C 37)) (nI (C 38)) (fI (C 39)) (nI (C 40)) (lN (C 66)) (nI (C 41)) tb_ va fy cn an sw sb sv) H := hP
      have hD : va_D A (WT ca cq xq (kdC C) (fsC C) (snC C) ak (nI (C 0)) (nI (C 37)) (nI (C 38)) (fI (C 39)) (nI (C 40)) (lN (C 66)) (nI (C 41)) tb_ va fy cn an sw sb sv) := hD
      have hp_44 : r_5 = nI (popc 18 ((C 38) &&& ((1 <<< g_) - 1))) := hq_44
      clear hq_44
      obtain rfl := hp_44
      refine lv_topi (nm_r (e' := nI (popc g_ (C 38))) (congrArg nI (rk_and (by omega))) ?_)
      refine lv_istore (lv' := [(4, .int (nI (popc g_ (C 38)))), (3, .int (nI (K_ - 1))), (0, .ref (xq 0)), (1, .int (nI g_)), (2, .int (fI K_))]) hx hb dX1_kindBy_47 hl (by decide) rfl (fun ls hl => ?_)
      have lp_49 : ∀ (fu_49 : Nat) (i : Nat), popc g_ (C 38) - i < fu_49 → (i ≤ popc g_ (C 38)) → ∀ (H : Heap) (locs : List Loc), va_P D vwCl (WT ca cq xq (kdC C) (fsC C) (snC C) ak (nI (C 0)) (nI (C 37)) (nI (C 38)) (fI (C 39)) (nI (C 40)) (lN (C 66)) (nI (C 41)) tb_ va fy cn an sw sb sv) H → va_D A (WT ca cq xq (kdC C) (fsC C) (snC C) ak (nI (C 0)) (nI (C 37)) (nI (C 38)) (fI (C 39)) (nI (C 40)) (lN (C 66)) (nI (C 41)) tb_ va fy cn an sw sb sv) → va_S A s.heap H locs → ∀ (ls : Array Slot), lv_has ls 5 [(4, .int (nI (popc g_ (C 38) - i))), (3, .int (nI ((K_ - 1) / 6 ^ i))), (0, .ref (xq 0)), (1, .int (nI g_)), (2, .int (fI K_))] → W p l e ({ frames := 1, cells := 0, slots := 0, locals := 21 } : Room) s m ([.ref (xq 0), .int (nI g_), .int (fI K_)] : List Value).toArray below meth c H locs 0 0 QQ (F0 m 49 ls []) := by
        intro fu_49
        induction fu_49 with
        | zero => intro i hfu; exact absurd hfu (Nat.not_lt_zero _)
        | succ fu_49 ih_49 =>
          intro i hfu hi H locs hP hD hS ls hl
          refine lv_iload hx hb dX1_kindBy_49 (lv_at hl 0 rfl) ?_
          refine nv_if_le (tgt := 65) hx hb dX1_kindBy_51 (by decide) (by omega) (fun c_51 => ?_) (fun c_51 => ?_)
          · skip
            have e_ : popc g_ (C 38) = i := Eq.symm (by omega)
            subst e_
            refine lv_iload_n hx hb dX1_kindBy_65 rfl (lv_at hl 1 rfl) ?_
            refine lv_bipush (v := nI 6) hx hb dX1_kindBy_66 (by decide) ?_
            refine nv_irem hx hb dX1_kindBy_68 (by have := Nat.div_le_self (K_ - 1) (6 ^ (popc g_ (C 38))); omega) (by omega) (by omega) ?_
            subst hQQ
            exact xe_i (v := nI (((K_ - 1) / 6 ^ (popc g_ (C 38))) % 6)) () hx hb hr hlocks hK hP hD hS (congrArg nI (kOf_y c_2 c_16).symm) dX1_kindBy_69
          · skip
            refine lv_iload_n hx hb dX1_kindBy_54 rfl (lv_at hl 1 rfl) ?_
            refine lv_bipush (v := nI 6) hx hb dX1_kindBy_55 (by decide) ?_
            refine nv_idiv hx hb dX1_kindBy_57 (by have := Nat.div_le_self (K_ - 1) (6 ^ i); omega) (by omega) (by omega) ?_
            refine lv_istore_n (lv' := [(3, .int (nI (((K_ - 1) / 6 ^ i) / 6))), (4, .int (nI (popc g_ (C 38) - i))), (0, .ref (xq 0)), (1, .int (nI g_)), (2, .int (fI K_))]) hx hb dX1_kindBy_58 rfl hl (by decide) rfl (fun ls hl => ?_)
            refine lv_iinc (v := nI (popc g_ (C 38) - i - 1)) (lv' := [(4, .int (nI (popc g_ (C 38) - i - 1))), (3, .int (nI (((K_ - 1) / 6 ^ i) / 6))), (0, .ref (xq 0)), (1, .int (nI g_)), (2, .int (fI K_))]) hx hb dX1_kindBy_59 hl (k := 1) rfl (by have h_ := (by omega : 0 < popc g_ (C 38) - i); exact sb_m1 h_) (by decide) rfl (fun ls hl => ?_)
            refine lv_goto (tgt := 49) hx hb dX1_kindBy_62 (by decide) ?_
            have hl : lv_has ls 5 [(4, .int (nI (popc g_ (C 38) - i - 1))), (3, .int (nI ((K_ - 1) / 6 ^ (i + 1)))), (0, .ref (xq 0)), (1, .int (nI g_)), (2, .int (fI K_))] := (congrArg (fun x_ => lv_has ls 5 [(4, .int (nI (popc g_ (C 38) - i - 1))), (3, .int x_), (0, .ref (xq 0)), (1, .int (nI g_)), (2, .int (fI K_))]) (show nI (((K_ - 1) / 6 ^ i) / 6) = nI ((K_ - 1) / 6 ^ (i + 1)) from congrArg nI div6)).mp hl
            have hl : lv_has ls 5 [(4, .int (nI (popc g_ (C 38) - (i + 1)))), (3, .int (nI ((K_ - 1) / 6 ^ (i + 1)))), (0, .ref (xq 0)), (1, .int (nI g_)), (2, .int (fI K_))] := (congrArg (fun x_ => lv_has ls 5 [(4, .int x_), (3, .int (nI ((K_ - 1) / 6 ^ (i + 1)))), (0, .ref (xq 0)), (1, .int (nI g_)), (2, .int (fI K_))]) (show nI (popc g_ (C 38) - i - 1) = nI (popc g_ (C 38) - (i + 1)) from congrArg nI (by omega))).mp hl
            exact ih_49  (i + 1) (by omega) (by omega) _ _ hP hD hS ls (lv_sub hl [0, 1, 2, 3, 4] rfl)
      have hl : lv_has ls 5 [(4, .int (nI (popc g_ (C 38)))), (3, .int (nI ((K_ - 1) / 6 ^ 0))), (0, .ref (xq 0)), (1, .int (nI g_)), (2, .int (fI K_))] := (congrArg (fun x_ => lv_has ls 5 [(4, .int (nI (popc g_ (C 38)))), (3, .int x_), (0, .ref (xq 0)), (1, .int (nI g_)), (2, .int (fI K_))]) (show nI (K_ - 1) = nI ((K_ - 1) / 6 ^ 0) from congrArg nI (by rw [Nat.pow_zero, Nat.div_one]))).mp hl
      have hl : lv_has ls 5 [(4, .int (nI (popc g_ (C 38) - 0))), (3, .int (nI ((K_ - 1) / 6 ^ 0))), (0, .ref (xq 0)), (1, .int (nI g_)), (2, .int (fI K_))] := (congrArg (fun x_ => lv_has ls 5 [(4, .int x_), (3, .int (nI ((K_ - 1) / 6 ^ 0))), (0, .ref (xq 0)), (1, .int (nI g_)), (2, .int (fI K_))]) (show nI (popc g_ (C 38)) = nI (popc g_ (C 38) - 0) from rfl)).mp hl
      exact lp_49 (popc g_ (C 38) - 0 + 1) 0 (Nat.lt_succ_self _) (by omega) _ _ hP hD hS ls (lv_sub hl [0, 1, 2, 3, 4] rfl)
    · skip
      refine lv_aload_n hx hb dX1_kindBy_19 rfl (lv_at hl 0 rfl) ?_
      refine gWT_5_circuit_X1 hx hb hts hown hK hP dX1_kindBy_20 ?_
      refine gWT_0_kinds_X1 hE hx hb hts hown hK hP dX1_kindBy_23 ?_
      refine lv_iload_n hx hb dX1_kindBy_26 rfl (lv_at hl 1 rfl) ?_
      refine ldWT_1 hx hb hK hP (by omega) dX1_kindBy_27 ?_
      refine lv_topi (nm_r (e' := nI (C (1 + g_))) (rfl) ?_)
      subst hQQ
      exact xe_i (v := nI (C (1 + g_))) () hx hb hr hlocks hK hP hD hS (congrArg nI (kOf_n (by first | exact Or.inl c_2 | exact Or.inr c_16)).symm) dX1_kindBy_28
set_option maxHeartbeats 4000000 in
set_option maxRecDepth 100000 in
theorem mt_X1_layTables (l : Launch) (D : va_G) (ca : Nat → ClassId) (cq : Nat → Nat) (xq : Nat → Nat) (ak : Nat → Int32) (tb_ : Nat → Int64) (va : Nat → Int32) (fy : Nat → Int64) (cn : Nat → Int32) (an : Nat → Int32) (sw : Nat → Int64) (sb : Nat → Int64) (sv : Value) (C : Nat → Nat) (K_ : Nat) (F_ : Nat) (h0 : C 0 ≤ 12) (hkd0 : ∀ k, k < 12 → C (1 + k) < 8) (hse : ∀ k, k < 12 → C (13 + k) < 6 + k ∧ C (25 + k) < 6 + k) (ho : C 37 < 2 ^ 18) (hbx : C 38 < 2 ^ 18) (hno : popc 18 (C 37) ≤ 4) (hK : K_ ≤ 216) (hF : F_ ≤ 100) (nn : Nat) : Met l yX1_layTables (ws_ yX1_layTables cX1_layTables 6 (Option.none : Option Jvm.ClassFile.FieldType)) ({ frames := 2, cells := 0, slots := 0, locals := 45 } : Room) (va_Pc [.ref (xq 0), .int (fI K_), .int (fI F_)] (PreW EvX D vwCl (TY ca) (WT ca cq xq (kdC C) (fsC C) (snC C) ak (nI (C 0)) (nI (C 37)) (nI (C 38)) (fI (C 39)) (nI (C 40)) (lN (C 66)) (nI (C 41)) tb_ va fy cn an sw sb sv) nn)) (va_Qv (fun (_ : Unit) => True) (PostW D vwCl (TY ca) (fun (_ : Unit) => (WT ca cq xq (kdC C) (fsC C) (snC C) ak (nI (C 0)) (nI (C 37)) (nI (C 38)) (fI (C 39)) (nI (C 40)) (lN (C 66)) (nI (C 41)) (fillL (6 + C 0) (tb C K_ F_) tb_) va fy cn an sw sb sv)) (va_A (WT ca cq xq (kdC C) (fsC C) (snC C) ak (nI (C 0)) (nI (C 37)) (nI (C 38)) (fI (C 39)) (nI (C 40)) (lN (C 66)) (nI (C 41)) tb_ va fy cn an sw sb sv) nn)) (va_A (WT ca cq xq (kdC C) (fsC C) (snC C) ak (nI (C 0)) (nI (C 37)) (nI (C 38)) (fI (C 39)) (nI (C 40)) (lN (C 66)) (nI (C 41)) tb_ va fy cn an sw sb sv) nn)) 0 0 (va_A (WT ca cq xq (kdC C) (fsC C) (snC C) ak (nI (C 0)) (nI (C 37)) (nI (C 38)) (fI (C 39)) (nI (C 40)) (lN (C 66)) (nI (C 41)) tb_ va fy cn an sw sb sv) nn) := by
  refine met_go (QA := fun A => va_Qv (fun (_ : Unit) => True) (PostW D vwCl (TY ca) (fun (_ : Unit) => (WT ca cq xq (kdC C) (fsC C) (snC C) ak (nI (C 0)) (nI (C 37)) (nI (C 38)) (fI (C 39)) (nI (C 40)) (lN (C 66)) (nI (C 41)) (fillL (6 + C 0) (tb C K_ F_) tb_) va fy cn an sw sb sv)) A) A) (by decide) (Nat.le_of_ble_eq_true rfl) (fun p e s m below meth c A ls QQ hQQ hx hb hr hts hown hlocks hml hA hP hK hD hE hl => ?_)
  have hown : s.vm.findClass RX1 = some m.cls := hown
  have hS : va_S A s.heap s.heap [] := va_S.rf
  have hl : lv_has ls 6 [(0, .ref (xq 0)), (1, .int (fI K_)), (2, .int (fI F_))] := hl
  generalize hHe : s.heap = H at hP ⊢
  have hS : va_S A s.heap H [] := hHe ▸ hS
  generalize ([] : List Loc) = locs at hS ⊢
  obtain ⟨tSt, hZs, hTs⟩ := hE.2
  refine lv_iconst (v := nI 0) hx hb dX1_layTables_0 (by decide) ?_
  refine lv_istore_n (lv' := [(3, .int (nI 0)), (0, .ref (xq 0)), (1, .int (fI K_)), (2, .int (fI F_))]) hx hb dX1_layTables_1 rfl hl (by decide) rfl (fun ls hl => ?_)
  have lp_2 : ∀ (fu_2 : Nat) (i : Nat), 6 - i < fu_2 → (i ≤ 6) → ∀ (H : Heap) (locs : List Loc), va_P D vwCl (WT ca cq xq (kdC C) (fsC C) (snC C) ak (nI (C 0)) (nI (C 37)) (nI (C 38)) (fI (C 39)) (nI (C 40)) (lN (C 66)) (nI (C 41)) (fillL i (tbs C K_ F_ 0) tb_) va fy cn an sw sb sv) H → va_D A (WT ca cq xq (kdC C) (fsC C) (snC C) ak (nI (C 0)) (nI (C 37)) (nI (C 38)) (fI (C 39)) (nI (C 40)) (lN (C 66)) (nI (C 41)) (fillL i (tbs C K_ F_ 0) tb_) va fy cn an sw sb sv) → va_S A s.heap H locs → ∀ (ls : Array Slot), lv_has ls 6 [(3, .int (nI i)), (0, .ref (xq 0)), (1, .int (fI K_)), (2, .int (fI F_))] → W p l e ({ frames := 2, cells := 0, slots := 0, locals := 45 } : Room) s m ([.ref (xq 0), .int (fI K_), .int (fI F_)] : List Value).toArray below meth c H locs 0 0 QQ (F0 m 2 ls []) := by
    intro fu_2
    induction fu_2 with
    | zero => intro i hfu; exact absurd hfu (Nat.not_lt_zero _)
    | succ fu_2 ih_2 =>
      intro i hfu hi H locs hP hD hS ls hl
      refine lv_iload_n hx hb dX1_layTables_2 rfl (lv_at hl 0 rfl) ?_
      refine lv_bipush (v := nI 6) hx hb dX1_layTables_3 (by decide) ?_
      refine nv_icmp_ge (tgt := 30) hx hb dX1_layTables_5 (by decide) (by omega) (by omega) (fun c_5 => ?_) (fun c_5 => ?_)
      · skip
        have e_ : 6 = i := Eq.symm (by omega)
        subst e_
        refine lv_iconst (v := nI 0) hx hb dX1_layTables_30 (by decide) ?_
        refine lv_istore_n (lv' := [(3, .int (nI 0)), (0, .ref (xq 0)), (1, .int (fI K_)), (2, .int (fI F_))]) hx hb dX1_layTables_31 rfl hl (by decide) rfl (fun ls hl => ?_)
        have lp_32 : ∀ (fu_32 : Nat) (g : Nat), C 0 - g < fu_32 → (g ≤ C 0) → ∀ (H : Heap) (locs : List Loc), va_P D vwCl (WT ca cq xq (kdC C) (fsC C) (snC C) ak (nI (C 0)) (nI (C 37)) (nI (C 38)) (fI (C 39)) (nI (C 40)) (lN (C 66)) (nI (C 41)) (fillL (6 + g) (tbs C K_ F_ g) tb_) va fy cn an sw sb sv) H → va_D A (WT ca cq xq (kdC C) (fsC C) (snC C) ak (nI (C 0)) (nI (C 37)) (nI (C 38)) (fI (C 39)) (nI (C 40)) (lN (C 66)) (nI (C 41)) (fillL (6 + g) (tbs C K_ F_ g) tb_) va fy cn an sw sb sv) → va_S A s.heap H locs → ∀ (ls : Array Slot), lv_has ls 6 [(3, .int (nI g)), (0, .ref (xq 0)), (1, .int (fI K_)), (2, .int (fI F_))] → W p l e ({ frames := 2, cells := 0, slots := 0, locals := 45 } : Room) s m ([.ref (xq 0), .int (fI K_), .int (fI F_)] : List Value).toArray below meth c H locs 0 0 QQ (F0 m 32 ls []) := by
          intro fu_32
          induction fu_32 with
          | zero => intro g hfu; exact absurd hfu (Nat.not_lt_zero _)
          | succ fu_32 ih_32 =>
            intro g hfu hg H locs hP hD hS ls hl
            refine lv_iload_n hx hb dX1_layTables_32 rfl (lv_at hl 0 rfl) ?_
            refine lv_aload_n hx hb dX1_layTables_33 rfl (lv_at hl 1 rfl) ?_
            refine gWT_5_circuit_X1 hx hb hts hown hK hP dX1_layTables_34 ?_
            refine gWT_0_gates_X1 hE hx hb hts hown hK hP dX1_layTables_37 ?_
            refine nv_icmp_ge (tgt := 107) hx hb dX1_layTables_40 (by decide) (by omega) (by omega) (fun c_40 => ?_) (fun c_40 => ?_)
            · skip
              have e_ : C 0 = g := Eq.symm (by omega)
              subst e_
              have ew_ : fillL (6 + (C 0)) (tbs C K_ F_ (C 0)) tb_ = fillL (6 + C 0) (tb C K_ F_) tb_ := rfl
              have hP : va_P D vwCl (WT ca cq xq (kdC C) (fsC C) (snC C) ak (nI (C 0)) (nI (C 37)) (nI (C 38)) (fI (C 39)) (nI (C 40)) (lN (C 66)) (nI (C 41)) (fillL (6 + C 0) (tb C K_ F_) tb_) va fy cn an sw sb sv) H := (congrArg (fun x_ => va_P D vwCl (WT ca cq xq (kdC C) (fsC C) (snC C) ak (nI (C 0)) (nI (C 37)) (nI (C 38)) (fI (C 39)) (nI (C 40)) (lN (C 66)) (nI (C 41)) x_ va fy cn an sw sb sv) H) ew_).mp hP
              have hD : va_D A (WT ca cq xq (kdC C) (fsC C) (snC C) ak (nI (C 0)) (nI (C 37)) (nI (C 38)) (fI (C 39)) (nI (C 40)) (lN (C 66)) (nI (C 41)) (fillL (6 + C 0) (tb C K_ F_) tb_) va fy cn an sw sb sv) := (congrArg (fun x_ => va_D A (WT ca cq xq (kdC C) (fsC C) (snC C) ak (nI (C 0)) (nI (C 37)) (nI (C 38)) (fI (C 39)) (nI (C 40)) (lN (C 66)) (nI (C 41)) x_ va fy cn an sw sb sv)) ew_).mp hD
              clear ew_
              subst hQQ
              exact xe_v () hx hb hr hlocks hK hP hD hS (trivial) dX1_layTables_107
            · skip
              refine lv_aload_n hx hb dX1_layTables_43 rfl (lv_at hl 1 rfl) ?_
              refine lv_iload_n hx hb dX1_layTables_44 rfl (lv_at hl 0 rfl) ?_
              refine lv_iload_n hx hb dX1_layTables_45 rfl (lv_at hl 2 rfl) ?_
              refine xc_i (xr_V (b := xq 0) (ci := 0) (q0 := 5) (As := [.int (nI g), .int (fI K_)]) (rest := []) (mt_X1_kindBy l D ca cq xq ak (fillL (6 + g) (tbs C K_ F_ g) tb_) va fy cn an sw sb sv C g K_ (by first | assumption | omega | (simp only [updN, forgetC, changedC]; (repeat' split) <;> omega)) (by first | assumption | omega | (simp only [updN, forgetC, changedC]; (repeat' split) <;> omega)) (by first | assumption | omega | (simp only [updN, forgetC, changedC]; (repeat' split) <;> omega)) (by first | assumption | omega | (simp only [updN, forgetC, changedC]; (repeat' split) <;> omega)) H.size) ⟨hx, hb, hml, hown, hts⟩ (cwV 2 hts (lw_V q460 q462 qs9 q79 q463) rfl rfl rfl (by decide +kernel) ⟨Nat.le_of_ble_eq_true rfl, Nat.le_of_ble_eq_true rfl⟩) EvX_ok hE hK hS (Cut.all hP hD hS hA) rfl rfl rfl hl.1 rfl (Nat.le_of_ble_eq_true rfl) dX1_layTables_46 ⟨Nat.le_of_ble_eq_true rfl, Nat.le_of_ble_eq_true rfl⟩) hS (Cut.all hP hD hS hA) (fun r_3 u_4 H locs hq_46 hP hD hS => ?_)
              have hP : va_P D vwCl (WT ca cq xq (kdC C) (fsC C) (snC C) ak (nI (C 0)) (nI (C 37)) (nI (C 38)) (fI (C 39)) (nI (C 40)) (lN (C 66)) (nI (C 41)) (fillL (6 + g) (tbs C K_ F_ g) tb_) va fy cn an sw sb sv) H := hP
              have hD : va_D A (WT ca cq xq (kdC C) (fsC C) (snC C) ak (nI (C 0)) (nI (C 37)) (nI (C 38)) (fI (C 39)) (nI (C 40)) (lN (C 66)) (nI (C 41)) (fillL (6 + g) (tbs C K_ F_ g) tb_) va fy cn an sw sb sv) := hD
              have hp_46 : r_3 = nI (kOf C K_ g) := hq_46
              clear hq_46
              obtain rfl := hp_46
              refine lv_aload_n hx hb dX1_layTables_49 rfl (lv_at hl 1 rfl) ?_
              refine gWT_5_tables_X1 hx hb hts hown hK hP dX1_layTables_50 ?_
              refine lv_aload_n hx hb dX1_layTables_53 rfl (lv_at hl 1 rfl) ?_
              refine gWT_5_circuit_X1 hx hb hts hown hK hP dX1_layTables_54 ?_
              refine gWT_0_firsts_X1 hE hx hb hts hown hK hP dX1_layTables_57 ?_
              refine lv_iload_n hx hb dX1_layTables_60 rfl (lv_at hl 0 rfl) ?_
              refine ldWT_2 hx hb hK hP (by omega) dX1_layTables_61 ?_
              refine lv_topi (nm_r (e' := nI (C (13 + g))) (rfl) ?_)
              refine ldWT_6 hx hb hK hP (by have := hse g (by omega); omega) dX1_layTables_62 ?_
              refine lv_topl (nm_r (e' := tbs C K_ F_ g (C (13 + g))) (fillL_at (by have := hse g (by omega); omega)) ?_)
              refine lv_aload_n hx hb dX1_layTables_63 rfl (lv_at hl 1 rfl) ?_
              refine gWT_5_tables_X1 hx hb hts hown hK hP dX1_layTables_64 ?_
              refine lv_aload_n hx hb dX1_layTables_67 rfl (lv_at hl 1 rfl) ?_
              refine gWT_5_circuit_X1 hx hb hts hown hK hP dX1_layTables_68 ?_
              refine gWT_0_seconds_X1 hE hx hb hts hown hK hP dX1_layTables_71 ?_
              refine lv_iload_n hx hb dX1_layTables_74 rfl (lv_at hl 0 rfl) ?_
              refine ldWT_3 hx hb hK hP (by omega) dX1_layTables_75 ?_
              refine lv_topi (nm_r (e' := nI (C (25 + g))) (rfl) ?_)
              refine ldWT_6 hx hb hK hP (by have := hse g (by omega); omega) dX1_layTables_76 ?_
              refine lv_topl (nm_r (e' := tbs C K_ F_ g (C (25 + g))) (fillL_at (by have := hse g (by omega); omega)) ?_)
              refine xc_l (xr_S (As := [.int (nI (kOf C K_ g)), .long (tbs C K_ F_ g (C (13 + g))), .long (tbs C K_ F_ g (C (25 + g)))]) (rest := []) (mt_X1_gateTable l D ca (kOf C K_ g) (tbs C K_ F_ g (C (13 + g))) (tbs C K_ F_ g (C (25 + g))) (kOf_lt (hkd0 g (by omega))) H.size) ⟨hx, hb, hml, hown, hts⟩ (va_cwS 3 hts (lw_S q473 q474 q79 q475) rfl rfl rfl (by decide +kernel) ⟨Nat.le_of_ble_eq_true rfl, Nat.le_of_ble_eq_true rfl⟩) Ev0_ok trivial hK hS (Cut.app (wc := []) (wr := (WT ca cq xq (kdC C) (fsC C) (snC C) ak (nI (C 0)) (nI (C 37)) (nI (C 38)) (fI (C 39)) (nI (C 40)) (lN (C 66)) (nI (C 41)) (fillL (6 + g) (tbs C K_ F_ g) tb_) va fy cn an sw sb sv)) hP hD hS hA) rfl hl.1 rfl (Nat.le_of_ble_eq_true rfl) dX1_layTables_77 ⟨Nat.le_of_ble_eq_true rfl, Nat.le_of_ble_eq_true rfl⟩) hS (Cut.app (wc := []) (wr := (WT ca cq xq (kdC C) (fsC C) (snC C) ak (nI (C 0)) (nI (C 37)) (nI (C 38)) (fI (C 39)) (nI (C 40)) (lN (C 66)) (nI (C 41)) (fillL (6 + g) (tbs C K_ F_ g) tb_) va fy cn an sw sb sv)) hP hD hS hA) (fun r_5 u_6 H locs hq_77 hP hD hS => ?_)
              have hP : va_P D vwCl (WT ca cq xq (kdC C) (fsC C) (snC C) ak (nI (C 0)) (nI (C 37)) (nI (C 38)) (fI (C 39)) (nI (C 40)) (lN (C 66)) (nI (C 41)) (fillL (6 + g) (tbs C K_ F_ g) tb_) va fy cn an sw sb sv) H := hP
              have hD : va_D A (WT ca cq xq (kdC C) (fsC C) (snC C) ak (nI (C 0)) (nI (C 37)) (nI (C 38)) (fI (C 39)) (nI (C 40)) (lN (C 66)) (nI (C 41)) (fillL (6 + g) (tbs C K_ F_ g) tb_) va fy cn an sw sb sv) := hD
              have hp_77 : r_5 = gT (kOf C K_ g) (tbs C K_ F_ g (C (13 + g))) (tbs C K_ F_ g (C (25 + g))) := hq_77
              clear hq_77
              obtain rfl := hp_77
              refine lv_lstore (lv' := [(4, .long (gT (kOf C K_ g) (tbs C K_ F_ g (C (13 + g))) (tbs C K_ F_ g (C (25 + g))))), (3, .int (nI g)), (0, .ref (xq 0)), (1, .int (fI K_)), (2, .int (fI F_))]) hx hb dX1_layTables_80 hl (by decide) rfl (fun ls hl => ?_)
              refine lv_aload_n hx hb dX1_layTables_82 rfl (lv_at hl 2 rfl) ?_
              refine gWT_5_tables_X1 hx hb hts hown hK hP dX1_layTables_83 ?_
              refine lv_bipush (v := nI 6) hx hb dX1_layTables_86 (by decide) ?_
              refine lv_iload_n hx hb dX1_layTables_88 rfl (lv_at hl 1 rfl) ?_
              refine nv_iadd hx hb dX1_layTables_89 ?_
              refine lv_lload hx hb dX1_layTables_90 (lv_at hl 0 rfl) ?_
              refine lv_bipush (v := nI 6) hx hb dX1_layTables_92 (by decide) ?_
              refine lv_iload_n hx hb dX1_layTables_94 rfl (lv_at hl 1 rfl) ?_
              refine nv_iadd hx hb dX1_layTables_95 ?_
              refine lv_iload_n hx hb dX1_layTables_96 rfl (lv_at hl 4 rfl) ?_
              refine xc_l (xr_S (As := [.long (gT (kOf C K_ g) (tbs C K_ F_ g (C (13 + g))) (tbs C K_ F_ g (C (25 + g)))), .int (nI (6 + g)), .int (fI F_)]) (rest := [.int (nI (6 + g)), .ref (xq 1)]) (mt_X1_stuck l D ca (gT (kOf C K_ g) (tbs C K_ F_ g (C (13 + g))) (tbs C K_ F_ g (C (25 + g)))) (6 + g) F_ (by first | assumption | omega | (simp only [updN, forgetC, changedC]; (repeat' split) <;> omega)) (by first | assumption | omega | (simp only [updN, forgetC, changedC]; (repeat' split) <;> omega)) H.size) ⟨hx, hb, hml, hown, hts⟩ (va_cwS 3 hts (lw_S q457 q458 q79 q459) rfl rfl rfl (by decide +kernel) ⟨Nat.le_of_ble_eq_true rfl, Nat.le_of_ble_eq_true rfl⟩) Ev0_ok trivial hK hS (Cut.app (wc := []) (wr := (WT ca cq xq (kdC C) (fsC C) (snC C) ak (nI (C 0)) (nI (C 37)) (nI (C 38)) (fI (C 39)) (nI (C 40)) (lN (C 66)) (nI (C 41)) (fillL (6 + g) (tbs C K_ F_ g) tb_) va fy cn an sw sb sv)) hP hD hS hA) rfl hl.1 rfl (Nat.le_of_ble_eq_true rfl) dX1_layTables_97 ⟨Nat.le_of_ble_eq_true rfl, Nat.le_of_ble_eq_true rfl⟩) hS (Cut.app (wc := []) (wr := (WT ca cq xq (kdC C) (fsC C) (snC C) ak (nI (C 0)) (nI (C 37)) (nI (C 38)) (fI (C 39)) (nI (C 40)) (lN (C 66)) (nI (C 41)) (fillL (6 + g) (tbs C K_ F_ g) tb_) va fy cn an sw sb sv)) hP hD hS hA) (fun r_7 u_8 H locs hq_97 hP hD hS => ?_)
              have hP : va_P D vwCl (WT ca cq xq (kdC C) (fsC C) (snC C) ak (nI (C 0)) (nI (C 37)) (nI (C 38)) (fI (C 39)) (nI (C 40)) (lN (C 66)) (nI (C 41)) (fillL (6 + g) (tbs C K_ F_ g) tb_) va fy cn an sw sb sv) H := hP
              have hD : va_D A (WT ca cq xq (kdC C) (fsC C) (snC C) ak (nI (C 0)) (nI (C 37)) (nI (C 38)) (fI (C 39)) (nI (C 40)) (lN (C 66)) (nI (C 41)) (fillL (6 + g) (tbs C K_ F_ g) tb_) va fy cn an sw sb sv) := hD
              have hp_97 : r_7 = stk (6 + g) F_ (gT (kOf C K_ g) (tbs C K_ F_ g (C (13 + g))) (tbs C K_ F_ g (C (25 + g)))) := hq_97
              clear hq_97
              obtain rfl := hp_97
              refine stWT_6 hx hb hK hP hD hS (by omega) dX1_layTables_100 (fun H locs hP hD hS => ?_)
              refine lv_iinc (v := nI (g + 1)) (lv' := [(3, .int (nI (g + 1))), (4, .long (gT (kOf C K_ g) (tbs C K_ F_ g (C (13 + g))) (tbs C K_ F_ g (C (25 + g))))), (0, .ref (xq 0)), (1, .int (fI K_)), (2, .int (fI F_))]) hx hb dX1_layTables_101 hl (k := 1) rfl (nI_add g 1) (by decide) rfl (fun ls hl => ?_)
              refine lv_goto (tgt := 32) hx hb dX1_layTables_104 (by decide) ?_
              have ew_ : vp_updL (fillL (6 + g) (tbs C K_ F_ g) tb_) (6 + g) (stk (6 + g) F_ (gT (kOf C K_ g) (tbs C K_ F_ g (C (13 + g))) (tbs C K_ F_ g (C (25 + g))))) = fillL (6 + (g + 1)) (tbs C K_ F_ (g + 1)) tb_ := tbs_s _ _ _ _ _
              have hP : va_P D vwCl (WT ca cq xq (kdC C) (fsC C) (snC C) ak (nI (C 0)) (nI (C 37)) (nI (C 38)) (fI (C 39)) (nI (C 40)) (lN (C 66)) (nI (C 41)) (fillL (6 + (g + 1)) (tbs C K_ F_ (g + 1)) tb_) va fy cn an sw sb sv) H := (congrArg (fun x_ => va_P D vwCl (WT ca cq xq (kdC C) (fsC C) (snC C) ak (nI (C 0)) (nI (C 37)) (nI (C 38)) (fI (C 39)) (nI (C 40)) (lN (C 66)) (nI (C 41)) x_ va fy cn an sw sb sv) H) ew_).mp hP
              have hD : va_D A (WT ca cq xq (kdC C) (fsC C) (snC C) ak (nI (C 0)) (nI (C 37)) (nI (C 38)) (fI (C 39)) (nI (C 40)) (lN (C 66)) (nI (C 41)) (fillL (6 + (g + 1)) (tbs C K_ F_ (g + 1)) tb_) va fy cn an sw sb sv) := (congrArg (fun x_ => va_D A (WT ca cq xq (kdC C) (fsC C) (snC C) ak (nI (C 0)) (nI (C 37)) (nI (C 38)) (fI (C 39)) (nI (C 40)) (lN (C 66)) (nI (C 41)) x_ va fy cn an sw sb sv)) ew_).mp hD
              clear ew_
              exact ih_32  (g + 1) (by omega) (by omega) _ _ hP hD hS ls (lv_sub hl [0, 2, 3, 4] rfl)
        have ew_ : fillL 6 (tbs C K_ F_ 0) tb_ = fillL (6 + 0) (tbs C K_ F_ 0) tb_ := rfl
        have hP : va_P D vwCl (WT ca cq xq (kdC C) (fsC C) (snC C) ak (nI (C 0)) (nI (C 37)) (nI (C 38)) (fI (C 39)) (nI (C 40)) (lN (C 66)) (nI (C 41)) (fillL (6 + 0) (tbs C K_ F_ 0) tb_) va fy cn an sw sb sv) H := (congrArg (fun x_ => va_P D vwCl (WT ca cq xq (kdC C) (fsC C) (snC C) ak (nI (C 0)) (nI (C 37)) (nI (C 38)) (fI (C 39)) (nI (C 40)) (lN (C 66)) (nI (C 41)) x_ va fy cn an sw sb sv) H) ew_).mp hP
        have hD : va_D A (WT ca cq xq (kdC C) (fsC C) (snC C) ak (nI (C 0)) (nI (C 37)) (nI (C 38)) (fI (C 39)) (nI (C 40)) (lN (C 66)) (nI (C 41)) (fillL (6 + 0) (tbs C K_ F_ 0) tb_) va fy cn an sw sb sv) := (congrArg (fun x_ => va_D A (WT ca cq xq (kdC C) (fsC C) (snC C) ak (nI (C 0)) (nI (C 37)) (nI (C 38)) (fI (C 39)) (nI (C 40)) (lN (C 66)) (nI (C 41)) x_ va fy cn an sw sb sv)) ew_).mp hD
        clear ew_
        exact lp_32 (C 0 - 0 + 1) 0 (Nat.lt_succ_self _) (by omega) _ _ hP hD hS ls (lv_sub hl [0, 1, 2, 3] rfl)
      · skip
        refine lv_aload_n hx hb dX1_layTables_8 rfl (lv_at hl 1 rfl) ?_
        refine gWT_5_tables_X1 hx hb hts hown hK hP dX1_layTables_9 ?_
        refine lv_iload_n hx hb dX1_layTables_12 rfl (lv_at hl 0 rfl) ?_
        refine va_gets (v := .ref tSt) hx hb hZs hS hown (hts _ q455) (fun _ h9 => h9) dX1_layTables_13 ?_
        refine lv_iload_n hx hb dX1_layTables_16 rfl (lv_at hl 0 rfl) ?_
        refine va_tl hx hb hTs hS (vp_in_nI (by omega) (by decide)) (v := .long (inT i)) (by rw [nI_clamp (by omega)]) dX1_layTables_17 ?_
        refine lv_iload_n hx hb dX1_layTables_18 rfl (lv_at hl 0 rfl) ?_
        refine lv_iload_n hx hb dX1_layTables_19 rfl (lv_at hl 3 rfl) ?_
        refine xc_l (xr_S (As := [.long (inT i), .int (nI i), .int (fI F_)]) (rest := [.int (nI i), .ref (xq 1)]) (mt_X1_stuck l D ca (inT i) i F_ (by first | assumption | omega | (simp only [updN, forgetC, changedC]; (repeat' split) <;> omega)) (by first | assumption | omega | (simp only [updN, forgetC, changedC]; (repeat' split) <;> omega)) H.size) ⟨hx, hb, hml, hown, hts⟩ (va_cwS 3 hts (lw_S q457 q458 q79 q459) rfl rfl rfl (by decide +kernel) ⟨Nat.le_of_ble_eq_true rfl, Nat.le_of_ble_eq_true rfl⟩) Ev0_ok trivial hK hS (Cut.app (wc := []) (wr := (WT ca cq xq (kdC C) (fsC C) (snC C) ak (nI (C 0)) (nI (C 37)) (nI (C 38)) (fI (C 39)) (nI (C 40)) (lN (C 66)) (nI (C 41)) (fillL i (tbs C K_ F_ 0) tb_) va fy cn an sw sb sv)) hP hD hS hA) rfl hl.1 rfl (Nat.le_of_ble_eq_true rfl) dX1_layTables_20 ⟨Nat.le_of_ble_eq_true rfl, Nat.le_of_ble_eq_true rfl⟩) hS (Cut.app (wc := []) (wr := (WT ca cq xq (kdC C) (fsC C) (snC C) ak (nI (C 0)) (nI (C 37)) (nI (C 38)) (fI (C 39)) (nI (C 40)) (lN (C 66)) (nI (C 41)) (fillL i (tbs C K_ F_ 0) tb_) va fy cn an sw sb sv)) hP hD hS hA) (fun r_9 u_10 H locs hq_20 hP hD hS => ?_)
        have hP : va_P D vwCl (WT ca cq xq (kdC C) (fsC C) (snC C) ak (nI (C 0)) (nI (C 37)) (nI (C 38)) (fI (C 39)) (nI (C 40)) (lN (C 66)) (nI (C 41)) (fillL i (tbs C K_ F_ 0) tb_) va fy cn an sw sb sv) H := hP
        have hD : va_D A (WT ca cq xq (kdC C) (fsC C) (snC C) ak (nI (C 0)) (nI (C 37)) (nI (C 38)) (fI (C 39)) (nI (C 40)) (lN (C 66)) (nI (C 41)) (fillL i (tbs C K_ F_ 0) tb_) va fy cn an sw sb sv) := hD
        have hp_20 : r_9 = stk i F_ (inT i) := hq_20
        clear hq_20
        obtain rfl := hp_20
        refine stWT_6 hx hb hK hP hD hS (by omega) dX1_layTables_23 (fun H locs hP hD hS => ?_)
        refine lv_iinc (v := nI (i + 1)) (lv' := [(3, .int (nI (i + 1))), (0, .ref (xq 0)), (1, .int (fI K_)), (2, .int (fI F_))]) hx hb dX1_layTables_24 hl (k := 0) rfl (nI_add i 1) (by decide) rfl (fun ls hl => ?_)
        refine lv_goto (tgt := 2) hx hb dX1_layTables_27 (by decide) ?_
        have ew_ : vp_updL (fillL i (tbs C K_ F_ 0) tb_) i (stk i F_ (inT i)) = fillL (i + 1) (tbs C K_ F_ 0) tb_ := fillL_s _ _ _
        have hP : va_P D vwCl (WT ca cq xq (kdC C) (fsC C) (snC C) ak (nI (C 0)) (nI (C 37)) (nI (C 38)) (fI (C 39)) (nI (C 40)) (lN (C 66)) (nI (C 41)) (fillL (i + 1) (tbs C K_ F_ 0) tb_) va fy cn an sw sb sv) H := (congrArg (fun x_ => va_P D vwCl (WT ca cq xq (kdC C) (fsC C) (snC C) ak (nI (C 0)) (nI (C 37)) (nI (C 38)) (fI (C 39)) (nI (C 40)) (lN (C 66)) (nI (C 41)) x_ va fy cn an sw sb sv) H) ew_).mp hP
        have hD : va_D A (WT ca cq xq (kdC C) (fsC C) (snC C) ak (nI (C 0)) (nI (C 37)) (nI (C 38)) (fI (C 39)) (nI (C 40)) (lN (C 66)) (nI (C 41)) (fillL (i + 1) (tbs C K_ F_ 0) tb_) va fy cn an sw sb sv) := (congrArg (fun x_ => va_D A (WT ca cq xq (kdC C) (fsC C) (snC C) ak (nI (C 0)) (nI (C 37)) (nI (C 38)) (fI (C 39)) (nI (C 40)) (lN (C 66)) (nI (C 41)) x_ va fy cn an sw sb sv)) ew_).mp hD
        clear ew_
        exact ih_2  (i + 1) (by omega) (by omega) _ _ hP hD hS ls (lv_sub hl [0, 1, 2, 3] rfl)
  have ew_ : tb_ = fillL 0 (tbs C K_ F_ 0) tb_ := (fillL_0 _ _).symm
  have hP : va_P D vwCl (WT ca cq xq (kdC C) (fsC C) (snC C) ak (nI (C 0)) (nI (C 37)) (nI (C 38)) (fI (C 39)) (nI (C 40)) (lN (C 66)) (nI (C 41)) (fillL 0 (tbs C K_ F_ 0) tb_) va fy cn an sw sb sv) H := (congrArg (fun x_ => va_P D vwCl (WT ca cq xq (kdC C) (fsC C) (snC C) ak (nI (C 0)) (nI (C 37)) (nI (C 38)) (fI (C 39)) (nI (C 40)) (lN (C 66)) (nI (C 41)) x_ va fy cn an sw sb sv) H) ew_).mp hP
  have hD : va_D A (WT ca cq xq (kdC C) (fsC C) (snC C) ak (nI (C 0)) (nI (C 37)) (nI (C 38)) (fI (C 39)) (nI (C 40)) (lN (C 66)) (nI (C 41)) (fillL 0 (tbs C K_ F_ 0) tb_) va fy cn an sw sb sv) := (congrArg (fun x_ => va_D A (WT ca cq xq (kdC C) (fsC C) (snC C) ak (nI (C 0)) (nI (C 37)) (nI (C 38)) (fI (C 39)) (nI (C 40)) (lN (C 66)) (nI (C 41)) x_ va fy cn an sw sb sv)) ew_).mp hD
  clear ew_
  exact lp_2 (6 - 0 + 1) 0 (Nat.lt_succ_self _) (by omega) _ _ hP hD hS ls (lv_sub hl [0, 1, 2, 3] rfl)
