/-! the component: tests that show a fault, wires -/
set_option maxRecDepth 100000
theorem outF_pos {C : Nat → Nat} {T : Nat → Int64} {l : Nat} (hb : (C 37).testBit l = true) : ∀ {n : Nat} {o : Nat → Int64}, l < n → outF C T n o (popc l (C 37)) = T l := by
  intro n; induction n with
  | zero => intro o h; exact absurd h (Nat.not_lt_zero _)
  | succ n ih =>
    intro o h
    simp only [outF]
    by_cases e : l = n
    · subst e; rw [if_pos hb]; simp [vp_updL]
    · have h2 := ih (o := o) (by omega)
      split
      · simp only [vp_updL]
        have h3 : popc (l + 1) (C 37) ≤ popc n (C 37) := popc_mono (by omega)
        rw [popc_s hb] at h3
        rw [if_neg (by omega)]; exact h2
      · exact h2
def tyF (C : Nat → Nat) (F G : Nat) : Nat → Int64
  | 0 => lN 0
  | n + 1 => tyF C F G n ||| (if (C 37).testBit n = true then tb C 0 G n ^^^ tb C 0 F n else lN 0)
theorem or_l0 (x : Int64) : x ||| lN 0 = x := by
  apply i64_ext; intro i hi; rw [bit_or, bit_lN _ _ hi, Nat.zero_testBit, Bool.or_false]
theorem xor_c (x y : Int64) : x ^^^ y = y ^^^ x := by
  apply i64_ext; intro i hi; rw [bit_xor, bit_xor, Bool.xor_comm]
theorem tyF_ap {C : Nat → Nat} {F G : Nat} : ∀ n, n ≤ 6 + C 0 → tyF C F G n = apF (popc n (C 37)) (ou0 C (tb C 0 F)) (ou0 C (tb C 0 G)) := by
  intro n; induction n with
  | zero => intro _; rfl
  | succ n ih =>
    intro h
    have e := ih (by omega)
    show tyF C F G n ||| _ = _
    cases hb : (C 37).testBit n with
    | true =>
      rw [if_pos rfl, popc_s hb, e]
      show _ = apF _ _ _ ||| (ou0 C (tb C 0 F) (popc n (C 37)) ^^^ ou0 C (tb C 0 G) (popc n (C 37)))
      unfold ou0
      rw [outF_pos hb (by omega), outF_pos hb (by omega), xor_c (tb C 0 G n)]
    | false => rw [if_neg (by decide), popc_n hb, e, or_l0]
theorem tyF_all {C : Nat → Nat} {F G : Nat} : tyF C F G (6 + C 0) = apC C F G := tyF_ap _ (Nat.le_refl _)
set_option maxHeartbeats 4000000 in
set_option maxRecDepth 100000 in
theorem mt_X1_testsBy (l : Launch) (D : va_G) (ca : Nat → ClassId) (cq : Nat → Nat) (xq : Nat → Nat) (ak : Nat → Int32) (tb_ : Nat → Int64) (va : Nat → Int32) (fy : Nat → Int64) (cn : Nat → Int32) (an : Nat → Int32) (sw : Nat → Int64) (sb : Nat → Int64) (sv : Value) (C : Nat → Nat) (F_ : Nat) (G_ : Nat) (h0 : C 0 ≤ 12) (hkd0 : ∀ k, k < 12 → C (1 + k) < 8) (hse : ∀ k, k < 12 → C (13 + k) < 6 + k ∧ C (25 + k) < 6 + k) (ho : C 37 < 2 ^ 18) (hbx : C 38 < 2 ^ 18) (hno : popc 18 (C 37) ≤ 4) (hF : F_ ≤ 100) (hG : G_ ≤ 100) (nn : Nat) : Met l yX1_testsBy (ws_ yX1_testsBy cX1_testsBy 6 (Option.some Jvm.ClassFile.FieldType.long)) ({ frames := 3, cells := 0, slots := 0, locals := 70 } : Room) (va_Pc [.ref (xq 0), .int (fI F_), .int (fI G_)] (PreW EvX D vwCl (TY ca) (WT ca cq xq (kdC C) (fsC C) (snC C) ak (nI (C 0)) (nI (C 37)) (nI (C 38)) (fI (C 39)) (nI (C 40)) (lN (C 66)) (nI (C 41)) tb_ va fy cn an sw sb sv) nn)) (va_Ql (fun (r_ : Int64) (u_ : (Nat → Int64) × (Nat → Int64)) => r_ = apC C F_ G_) (PostW D vwCl (TY ca) (fun (u_ : (Nat → Int64) × (Nat → Int64)) => (WT ca cq xq (kdC C) (fsC C) (snC C) ak (nI (C 0)) (nI (C 37)) (nI (C 38)) (fI (C 39)) (nI (C 40)) (lN (C 66)) (nI (C 41)) u_.1 va u_.2 cn an sw sb sv)) (va_A (WT ca cq xq (kdC C) (fsC C) (snC C) ak (nI (C 0)) (nI (C 37)) (nI (C 38)) (fI (C 39)) (nI (C 40)) (lN (C 66)) (nI (C 41)) tb_ va fy cn an sw sb sv) nn)) (va_A (WT ca cq xq (kdC C) (fsC C) (snC C) ak (nI (C 0)) (nI (C 37)) (nI (C 38)) (fI (C 39)) (nI (C 40)) (lN (C 66)) (nI (C 41)) tb_ va fy cn an sw sb sv) nn)) 0 0 (va_A (WT ca cq xq (kdC C) (fsC C) (snC C) ak (nI (C 0)) (nI (C 37)) (nI (C 38)) (fI (C 39)) (nI (C 40)) (lN (C 66)) (nI (C 41)) tb_ va fy cn an sw sb sv) nn) := by
  refine met_go (QA := fun A => va_Ql (fun (r_ : Int64) (u_ : (Nat → Int64) × (Nat → Int64)) => r_ = apC C F_ G_) (PostW D vwCl (TY ca) (fun (u_ : (Nat → Int64) × (Nat → Int64)) => (WT ca cq xq (kdC C) (fsC C) (snC C) ak (nI (C 0)) (nI (C 37)) (nI (C 38)) (fI (C 39)) (nI (C 40)) (lN (C 66)) (nI (C 41)) u_.1 va u_.2 cn an sw sb sv)) A) A) (by decide) (Nat.le_of_ble_eq_true rfl) (fun p e s m below meth c A ls QQ hQQ hx hb hr hts hown hlocks hml hA hP hK hD hE hl => ?_)
  have hown : s.vm.findClass RX1 = some m.cls := hown
  have hS : va_S A s.heap s.heap [] := va_S.rf
  have hl : lv_has ls 6 [(0, .ref (xq 0)), (1, .int (fI F_)), (2, .int (fI G_))] := hl
  generalize hHe : s.heap = H at hP ⊢
  have hS : va_S A s.heap H [] := hHe ▸ hS
  generalize ([] : List Loc) = locs at hS ⊢
  refine lv_lconst (v := lN 0) hx hb dX1_testsBy_0 (by decide) ?_
  refine lv_lstore_n (lv' := [(3, .long (lN 0)), (0, .ref (xq 0)), (1, .int (fI F_)), (2, .int (fI G_))]) hx hb dX1_testsBy_1 rfl hl (by decide) rfl (fun ls hl => ?_)
  refine lv_aload_n hx hb dX1_testsBy_2 rfl (lv_at hl 1 rfl) ?_
  refine lv_iconst (v := fI 0) hx hb dX1_testsBy_3 (by decide) ?_
  refine lv_iload_n hx hb dX1_testsBy_4 rfl (lv_at hl 2 rfl) ?_
  refine xc_v (xr_V (b := xq 0) (ci := 0) (q0 := 5) (As := [.int (fI 0), .int (fI F_)]) (rest := []) (mt_X1_layTables l D ca cq xq ak tb_ va fy cn an sw sb sv C 0 F_ (by first | assumption | omega | (simp only [updN, forgetC, changedC]; (repeat' split) <;> omega)) (by first | assumption | omega | (simp only [updN, forgetC, changedC]; (repeat' split) <;> omega)) (by first | assumption | omega | (simp only [updN, forgetC, changedC]; (repeat' split) <;> omega)) (by first | assumption | omega | (simp only [updN, forgetC, changedC]; (repeat' split) <;> omega)) (by first | assumption | omega | (simp only [updN, forgetC, changedC]; (repeat' split) <;> omega)) (by first | assumption | omega | (simp only [updN, forgetC, changedC]; (repeat' split) <;> omega)) (by first | assumption | omega | (simp only [updN, forgetC, changedC]; (repeat' split) <;> omega)) (by first | assumption | omega | (simp only [updN, forgetC, changedC]; (repeat' split) <;> omega)) H.size) ⟨hx, hb, hml, hown, hts⟩ (cwV 2 hts (lw_V q451 q453 qs8 q79 q454) rfl rfl rfl (by decide +kernel) ⟨Nat.le_of_ble_eq_true rfl, Nat.le_of_ble_eq_true rfl⟩) EvX_ok hE hK hS (Cut.all hP hD hS hA) rfl rfl rfl hl.1 rfl (Nat.le_of_ble_eq_true rfl) dX1_testsBy_5 ⟨Nat.le_of_ble_eq_true rfl, Nat.le_of_ble_eq_true rfl⟩) hS (Cut.all hP hD hS hA) (fun u_2 H locs hq_5 hP hD hS => ?_)
  have hP : va_P D vwCl (WT ca cq xq (kdC C) (fsC C) (snC C) ak (nI (C 0)) (nI (C 37)) (nI (C 38)) (fI (C 39)) (nI (C 40)) (lN (C 66)) (nI (C 41)) (fillL (6 + C 0) (tb C 0 F_) tb_) va fy cn an sw sb sv) H := hP
  have hD : va_D A (WT ca cq xq (kdC C) (fsC C) (snC C) ak (nI (C 0)) (nI (C 37)) (nI (C 38)) (fI (C 39)) (nI (C 40)) (lN (C 66)) (nI (C 41)) (fillL (6 + C 0) (tb C 0 F_) tb_) va fy cn an sw sb sv) := hD
  refine lv_iconst (v := nI 0) hx hb dX1_testsBy_8 (by decide) ?_
  refine lv_istore (lv' := [(5, .int (nI 0)), (3, .long (lN 0)), (0, .ref (xq 0)), (1, .int (fI F_)), (2, .int (fI G_))]) hx hb dX1_testsBy_9 hl (by decide) rfl (fun ls hl => ?_)
  have lp_11 : ∀ (fu_11 : Nat) (i : Nat), 6 + C 0 - i < fu_11 → (i ≤ 6 + C 0) → ∀ (H : Heap) (locs : List Loc), va_P D vwCl (WT ca cq xq (kdC C) (fsC C) (snC C) ak (nI (C 0)) (nI (C 37)) (nI (C 38)) (fI (C 39)) (nI (C 40)) (lN (C 66)) (nI (C 41)) (fillL (6 + C 0) (tb C 0 F_) tb_) va (fillL i (tb C 0 F_) fy) cn an sw sb sv) H → va_D A (WT ca cq xq (kdC C) (fsC C) (snC C) ak (nI (C 0)) (nI (C 37)) (nI (C 38)) (fI (C 39)) (nI (C 40)) (lN (C 66)) (nI (C 41)) (fillL (6 + C 0) (tb C 0 F_) tb_) va (fillL i (tb C 0 F_) fy) cn an sw sb sv) → va_S A s.heap H locs → ∀ (ls : Array Slot), lv_has ls 6 [(5, .int (nI i)), (3, .long (lN 0)), (0, .ref (xq 0)), (1, .int (fI F_)), (2, .int (fI G_))] → W p l e ({ frames := 3, cells := 0, slots := 0, locals := 70 } : Room) s m ([.ref (xq 0), .int (fI F_), .int (fI G_)] : List Value).toArray below meth c H locs 0 0 QQ (F0 m 11 ls []) := by
    intro fu_11
    induction fu_11 with
    | zero => intro i hfu; exact absurd hfu (Nat.not_lt_zero _)
    | succ fu_11 ih_11 =>
      intro i hfu hi H locs hP hD hS ls hl
      refine lv_iload hx hb dX1_testsBy_11 (lv_at hl 0 rfl) ?_
      refine lv_aload_n hx hb dX1_testsBy_13 rfl (lv_at hl 2 rfl) ?_
      refine gWT_5_circuit_X1 hx hb hts hown hK hP dX1_testsBy_14 ?_
      refine xc_i (xr_V (b := cq 0) (ci := 1) (q0 := 0) (As := []) (rest := [.int (nI i)]) (mt_X2_lines l D ca cq (kdC C) (fsC C) (snC C) ak (nI (C 37)) (nI (C 38)) (fI (C 39)) (nI (C 40)) (lN (C 66)) (nI (C 41)) (C 0)  H.size) ⟨hx, hb, hml, hown, hts⟩ (cwV 0 hts (lw_V q477 q444 q445 q80 q446) rfl rfl rfl (by decide +kernel) ⟨Nat.le_of_ble_eq_true rfl, Nat.le_of_ble_eq_true rfl⟩) EvX_ok hE hK hS (Cut.app (wc := (WC ca cq (kdC C) (fsC C) (snC C) ak (nI (C 0)) (nI (C 37)) (nI (C 38)) (fI (C 39)) (nI (C 40)) (lN (C 66)) (nI (C 41)))) (wr := (WTr ca cq xq (fillL (6 + C 0) (tb C 0 F_) tb_) va (fillL i (tb C 0 F_) fy) cn an sw sb sv)) hP hD hS hA) rfl rfl rfl hl.1 rfl (Nat.le_of_ble_eq_true rfl) dX1_testsBy_17 ⟨Nat.le_of_ble_eq_true rfl, Nat.le_of_ble_eq_true rfl⟩) hS (Cut.app (wc := (WC ca cq (kdC C) (fsC C) (snC C) ak (nI (C 0)) (nI (C 37)) (nI (C 38)) (fI (C 39)) (nI (C 40)) (lN (C 66)) (nI (C 41)))) (wr := (WTr ca cq xq (fillL (6 + C 0) (tb C 0 F_) tb_) va (fillL i (tb C 0 F_) fy) cn an sw sb sv)) hP hD hS hA) (fun r_3 u_4 H locs hq_17 hP hD hS => ?_)
      have hP : va_P D vwCl (WT ca cq xq (kdC C) (fsC C) (snC C) ak (nI (C 0)) (nI (C 37)) (nI (C 38)) (fI (C 39)) (nI (C 40)) (lN (C 66)) (nI (C 41)) (fillL (6 + C 0) (tb C 0 F_) tb_) va (fillL i (tb C 0 F_) fy) cn an sw sb sv) H := hP
      have hD : va_D A (WT ca cq xq (kdC C) (fsC C) (snC C) ak (nI (C 0)) (nI (C 37)) (nI (C 38)) (fI (C 39)) (nI (C 40)) (lN (C 66)) (nI (C 41)) (fillL (6 + C 0) (tb C 0 F_) tb_) va (fillL i (tb C 0 F_) fy) cn an sw sb sv) := hD
      have hp_17 : r_3 = nI (6 + (C 0)) := hq_17
      clear hq_17
      obtain rfl := hp_17
      refine nv_icmp_ge (tgt := 43) hx hb dX1_testsBy_20 (by decide) (by omega) (by omega) (fun c_20 => ?_) (fun c_20 => ?_)
      · skip
        have e_ : 6 + C 0 = i := Eq.symm (by omega)
        subst e_
        refine lv_aload_n hx hb dX1_testsBy_43 rfl (lv_at hl 2 rfl) ?_
        refine lv_iconst (v := fI 0) hx hb dX1_testsBy_44 (by decide) ?_
        refine lv_iload_n hx hb dX1_testsBy_45 rfl (lv_at hl 4 rfl) ?_
        refine xc_v (xr_V (b := xq 0) (ci := 0) (q0 := 5) (As := [.int (fI 0), .int (fI G_)]) (rest := []) (mt_X1_layTables l D ca cq xq ak (fillL (6 + C 0) (tb C 0 F_) tb_) va (fillL (6 + C 0) (tb C 0 F_) fy) cn an sw sb sv C 0 G_ (by first | assumption | omega | (simp only [updN, forgetC, changedC]; (repeat' split) <;> omega)) (by first | assumption | omega | (simp only [updN, forgetC, changedC]; (repeat' split) <;> omega)) (by first | assumption | omega | (simp only [updN, forgetC, changedC]; (repeat' split) <;> omega)) (by first | assumption | omega | (simp only [updN, forgetC, changedC]; (repeat' split) <;> omega)) (by first | assumption | omega | (simp only [updN, forgetC, changedC]; (repeat' split) <;> omega)) (by first | assumption | omega | (simp only [updN, forgetC, changedC]; (repeat' split) <;> omega)) (by first | assumption | omega | (simp only [updN, forgetC, changedC]; (repeat' split) <;> omega)) (by first | assumption | omega | (simp only [updN, forgetC, changedC]; (repeat' split) <;> omega)) H.size) ⟨hx, hb, hml, hown, hts⟩ (cwV 2 hts (lw_V q451 q453 qs8 q79 q454) rfl rfl rfl (by decide +kernel) ⟨Nat.le_of_ble_eq_true rfl, Nat.le_of_ble_eq_true rfl⟩) EvX_ok hE hK hS (Cut.all hP hD hS hA) rfl rfl rfl hl.1 rfl (Nat.le_of_ble_eq_true rfl) dX1_testsBy_46 ⟨Nat.le_of_ble_eq_true rfl, Nat.le_of_ble_eq_true rfl⟩) hS (Cut.all hP hD hS hA) (fun u_7 H locs hq_46 hP hD hS => ?_)
        have hP : va_P D vwCl (WT ca cq xq (kdC C) (fsC C) (snC C) ak (nI (C 0)) (nI (C 37)) (nI (C 38)) (fI (C 39)) (nI (C 40)) (lN (C 66)) (nI (C 41)) (fillL (6 + C 0) (tb C 0 G_) (fillL (6 + C 0) (tb C 0 F_) tb_)) va (fillL (6 + C 0) (tb C 0 F_) fy) cn an sw sb sv) H := hP
        have hD : va_D A (WT ca cq xq (kdC C) (fsC C) (snC C) ak (nI (C 0)) (nI (C 37)) (nI (C 38)) (fI (C 39)) (nI (C 40)) (lN (C 66)) (nI (C 41)) (fillL (6 + C 0) (tb C 0 G_) (fillL (6 + C 0) (tb C 0 F_) tb_)) va (fillL (6 + C 0) (tb C 0 F_) fy) cn an sw sb sv) := hD
        refine lv_iconst (v := nI 0) hx hb dX1_testsBy_49 (by decide) ?_
        refine lv_istore (lv' := [(5, .int (nI 0)), (3, .long (lN 0)), (0, .ref (xq 0)), (1, .int (fI F_)), (2, .int (fI G_))]) hx hb dX1_testsBy_50 hl (by decide) rfl (fun ls hl => ?_)
        have lp_52 : ∀ (fu_52 : Nat) (j : Nat), 6 + C 0 - j < fu_52 → (j ≤ 6 + C 0) → ∀ (H : Heap) (locs : List Loc), va_P D vwCl (WT ca cq xq (kdC C) (fsC C) (snC C) ak (nI (C 0)) (nI (C 37)) (nI (C 38)) (fI (C 39)) (nI (C 40)) (lN (C 66)) (nI (C 41)) (fillL (6 + C 0) (tb C 0 G_) (fillL (6 + C 0) (tb C 0 F_) tb_)) va (fillL (6 + C 0) (tb C 0 F_) fy) cn an sw sb sv) H → va_D A (WT ca cq xq (kdC C) (fsC C) (snC C) ak (nI (C 0)) (nI (C 37)) (nI (C 38)) (fI (C 39)) (nI (C 40)) (lN (C 66)) (nI (C 41)) (fillL (6 + C 0) (tb C 0 G_) (fillL (6 + C 0) (tb C 0 F_) tb_)) va (fillL (6 + C 0) (tb C 0 F_) fy) cn an sw sb sv) → va_S A s.heap H locs → ∀ (ls : Array Slot), lv_has ls 6 [(5, .int (nI j)), (3, .long (tyF C F_ G_ j)), (0, .ref (xq 0)), (1, .int (fI F_)), (2, .int (fI G_))] → W p l e ({ frames := 3, cells := 0, slots := 0, locals := 70 } : Room) s m ([.ref (xq 0), .int (fI F_), .int (fI G_)] : List Value).toArray below meth c H locs 0 0 QQ (F0 m 52 ls []) := by
          intro fu_52
          induction fu_52 with
          | zero => intro j hfu; exact absurd hfu (Nat.not_lt_zero _)
          | succ fu_52 ih_52 =>
            intro j hfu hj H locs hP hD hS ls hl
            refine lv_iload hx hb dX1_testsBy_52 (lv_at hl 0 rfl) ?_
            refine lv_aload_n hx hb dX1_testsBy_54 rfl (lv_at hl 2 rfl) ?_
            refine gWT_5_circuit_X1 hx hb hts hown hK hP dX1_testsBy_55 ?_
            refine xc_i (xr_V (b := cq 0) (ci := 1) (q0 := 0) (As := []) (rest := [.int (nI j)]) (mt_X2_lines l D ca cq (kdC C) (fsC C) (snC C) ak (nI (C 37)) (nI (C 38)) (fI (C 39)) (nI (C 40)) (lN (C 66)) (nI (C 41)) (C 0)  H.size) ⟨hx, hb, hml, hown, hts⟩ (cwV 0 hts (lw_V q477 q444 q445 q80 q446) rfl rfl rfl (by decide +kernel) ⟨Nat.le_of_ble_eq_true rfl, Nat.le_of_ble_eq_true rfl⟩) EvX_ok hE hK hS (Cut.app (wc := (WC ca cq (kdC C) (fsC C) (snC C) ak (nI (C 0)) (nI (C 37)) (nI (C 38)) (fI (C 39)) (nI (C 40)) (lN (C 66)) (nI (C 41)))) (wr := (WTr ca cq xq (fillL (6 + C 0) (tb C 0 G_) (fillL (6 + C 0) (tb C 0 F_) tb_)) va (fillL (6 + C 0) (tb C 0 F_) fy) cn an sw sb sv)) hP hD hS hA) rfl rfl rfl hl.1 rfl (Nat.le_of_ble_eq_true rfl) dX1_testsBy_58 ⟨Nat.le_of_ble_eq_true rfl, Nat.le_of_ble_eq_true rfl⟩) hS (Cut.app (wc := (WC ca cq (kdC C) (fsC C) (snC C) ak (nI (C 0)) (nI (C 37)) (nI (C 38)) (fI (C 39)) (nI (C 40)) (lN (C 66)) (nI (C 41)))) (wr := (WTr ca cq xq (fillL (6 + C 0) (tb C 0 G_) (fillL (6 + C 0) (tb C 0 F_) tb_)) va (fillL (6 + C 0) (tb C 0 F_) fy) cn an sw sb sv)) hP hD hS hA) (fun r_8 u_9 H locs hq_58 hP hD hS => ?_)
            have hP : va_P D vwCl (WT ca cq xq (kdC C) (fsC C) (snC C) ak (nI (C 0)) (nI (C 37)) (nI (C 38)) (fI (C 39)) (nI (C 40)) (lN (C 66)) (nI (C 41)) (fillL (6 + C 0) (tb C 0 G_) (fillL (6 + C 0) (tb C 0 F_) tb_)) va (fillL (6 + C 0) (tb C 0 F_) fy) cn an sw sb sv) H := hP
            have hD : va_D A (WT ca cq xq (kdC C) (fsC C) (snC C) ak (nI (C 0)) (nI (C 37)) (nI (C 38)) (fI (C 39)) (nI (C 40)) (lN (C 66)) (nI (C 41)) (fillL (6 + C 0) (tb C 0 G_) (fillL (6 + C 0) (tb C 0 F_) tb_)) va (fillL (6 + C 0) (tb C 0 F_) fy) cn an sw sb sv) := hD
            have hp_58 : r_8 = nI (6 + (C 0)) := hq_58
            clear hq_58
            obtain rfl := hp_58
            refine nv_icmp_ge (tgt := 107) hx hb dX1_testsBy_61 (by decide) (by omega) (by omega) (fun c_61 => ?_) (fun c_61 => ?_)
            · skip
              have e_ : 6 + C 0 = j := Eq.symm (by omega)
              subst e_
              refine lv_lload_n hx hb dX1_testsBy_107 rfl (lv_at hl 1 rfl) ?_
              subst hQQ
              exact xe_l (v := tyF C F_ G_ (6 + C 0)) (fillL (6 + C 0) (tb C 0 G_) (fillL (6 + C 0) (tb C 0 F_) tb_), fillL (6 + C 0) (tb C 0 F_) fy) hx hb hr hlocks hK hP hD hS (tyF_all) dX1_testsBy_108
            · skip
              refine lv_lload_n hx hb dX1_testsBy_64 rfl (lv_at hl 1 rfl) ?_
              refine lv_aload_n hx hb dX1_testsBy_65 rfl (lv_at hl 2 rfl) ?_
              refine gWT_5_circuit_X1 hx hb hts hown hK hP dX1_testsBy_66 ?_
              refine gWT_0_outputs_X1 hE hx hb hts hown hK hP dX1_testsBy_69 ?_
              refine lv_iload hx hb dX1_testsBy_72 (lv_at hl 0 rfl) ?_
              refine xc_i (xr_S (As := [.int (nI (C 37)), .int (nI j)]) (rest := [.long (tyF C F_ G_ j)]) (mt_X1_isIn l D ca (C 37) j (by first | assumption | omega | (simp only [updN, forgetC, changedC]; (repeat' split) <;> omega)) (by first | assumption | omega | (simp only [updN, forgetC, changedC]; (repeat' split) <;> omega)) H.size) ⟨hx, hb, hml, hown, hts⟩ (va_cwS 2 hts (lw_S q464 q465 q79 q466) rfl rfl rfl (by decide +kernel) ⟨Nat.le_of_ble_eq_true rfl, Nat.le_of_ble_eq_true rfl⟩) Ev0_ok trivial hK hS (Cut.app (wc := []) (wr := (WT ca cq xq (kdC C) (fsC C) (snC C) ak (nI (C 0)) (nI (C 37)) (nI (C 38)) (fI (C 39)) (nI (C 40)) (lN (C 66)) (nI (C 41)) (fillL (6 + C 0) (tb C 0 G_) (fillL (6 + C 0) (tb C 0 F_) tb_)) va (fillL (6 + C 0) (tb C 0 F_) fy) cn an sw sb sv)) hP hD hS hA) rfl hl.1 rfl (Nat.le_of_ble_eq_true rfl) dX1_testsBy_74 ⟨Nat.le_of_ble_eq_true rfl, Nat.le_of_ble_eq_true rfl⟩) hS (Cut.app (wc := []) (wr := (WT ca cq xq (kdC C) (fsC C) (snC C) ak (nI (C 0)) (nI (C 37)) (nI (C 38)) (fI (C 39)) (nI (C 40)) (lN (C 66)) (nI (C 41)) (fillL (6 + C 0) (tb C 0 G_) (fillL (6 + C 0) (tb C 0 F_) tb_)) va (fillL (6 + C 0) (tb C 0 F_) fy) cn an sw sb sv)) hP hD hS hA) (fun r_11 u_12 H locs hq_74 hP hD hS => ?_)
              have hP : va_P D vwCl (WT ca cq xq (kdC C) (fsC C) (snC C) ak (nI (C 0)) (nI (C 37)) (nI (C 38)) (fI (C 39)) (nI (C 40)) (lN (C 66)) (nI (C 41)) (fillL (6 + C 0) (tb C 0 G_) (fillL (6 + C 0) (tb C 0 F_) tb_)) va (fillL (6 + C 0) (tb C 0 F_) fy) cn an sw sb sv) H := hP
              have hD : va_D A (WT ca cq xq (kdC C) (fsC C) (snC C) ak (nI (C 0)) (nI (C 37)) (nI (C 38)) (fI (C 39)) (nI (C 40)) (lN (C 66)) (nI (C 41)) (fillL (6 + C 0) (tb C 0 G_) (fillL (6 + C 0) (tb C 0 F_) tb_)) va (fillL (6 + C 0) (tb C 0 F_) fy) cn an sw sb sv) := hD
              have hp_74 : r_11 = bI ((C 37).testBit j) := hq_74
              clear hq_74
              obtain rfl := hp_74
              refine nv_ifb_eq (tgt := 98) hx hb dX1_testsBy_77 (by decide) (fun c_77 => ?_) (fun c_77 => ?_)
              · skip
                refine lv_lconst (v := lN 0) hx hb dX1_testsBy_98 (by decide) ?_
                refine lv_lor hx hb dX1_testsBy_99 ?_
                refine lv_lstore_n (lv' := [(3, .long ((tyF C F_ G_ j) ||| (lN 0))), (5, .int (nI j)), (0, .ref (xq 0)), (1, .int (fI F_)), (2, .int (fI G_))]) hx hb dX1_testsBy_100 rfl hl (by decide) rfl (fun ls hl => ?_)
                refine lv_iinc (v := nI (j + 1)) (lv' := [(5, .int (nI (j + 1))), (3, .long ((tyF C F_ G_ j) ||| (lN 0))), (0, .ref (xq 0)), (1, .int (fI F_)), (2, .int (fI G_))]) hx hb dX1_testsBy_101 hl (k := 1) rfl (nI_add j 1) (by decide) rfl (fun ls hl => ?_)
                refine lv_goto (tgt := 52) hx hb dX1_testsBy_104 (by decide) ?_
                have hl : lv_has ls 6 [(5, .int (nI (j + 1))), (3, .long (tyF C F_ G_ (j + 1))), (0, .ref (xq 0)), (1, .int (fI F_)), (2, .int (fI G_))] := (congrArg (fun x_ => lv_has ls 6 [(5, .int (nI (j + 1))), (3, .long x_), (0, .ref (xq 0)), (1, .int (fI F_)), (2, .int (fI G_))]) (show (tyF C F_ G_ j) ||| (lN 0) = tyF C F_ G_ (j + 1) from by simp only [tyF]; rw [if_neg (by first | exact c_77 | (rw [c_77]; decide))])).mp hl
                exact ih_52  (j + 1) (by omega) (by omega) _ _ hP hD hS ls (lv_sub hl [0, 1, 2, 3, 4] rfl)
              · skip
                refine lv_aload_n hx hb dX1_testsBy_80 rfl (lv_at hl 2 rfl) ?_
                refine gWT_5_tables_X1 hx hb hts hown hK hP dX1_testsBy_81 ?_
                refine lv_iload hx hb dX1_testsBy_84 (lv_at hl 0 rfl) ?_
                refine ldWT_6 hx hb hK hP (by omega) dX1_testsBy_86 ?_
                refine lv_topl (nm_r (e' := tb C 0 G_ j) (fillL_at (by omega)) ?_)
                refine lv_aload_n hx hb dX1_testsBy_87 rfl (lv_at hl 2 rfl) ?_
                refine gWT_5_faulty_X1 hx hb hts hown hK hP dX1_testsBy_88 ?_
                refine lv_iload hx hb dX1_testsBy_91 (lv_at hl 0 rfl) ?_
                refine ldWT_8 hx hb hK hP (by omega) dX1_testsBy_93 ?_
                refine lv_topl (nm_r (e' := tb C 0 F_ j) (fillL_at (by omega)) ?_)
                refine lv_lxor hx hb dX1_testsBy_94 ?_
                refine lv_goto (tgt := 99) hx hb dX1_testsBy_95 (by decide) ?_
                refine lv_lor hx hb dX1_testsBy_99 ?_
                refine lv_lstore_n (lv' := [(3, .long ((tyF C F_ G_ j) ||| ((tb C 0 G_ j) ^^^ (tb C 0 F_ j)))), (5, .int (nI j)), (0, .ref (xq 0)), (1, .int (fI F_)), (2, .int (fI G_))]) hx hb dX1_testsBy_100 rfl hl (by decide) rfl (fun ls hl => ?_)
                refine lv_iinc (v := nI (j + 1)) (lv' := [(5, .int (nI (j + 1))), (3, .long ((tyF C F_ G_ j) ||| ((tb C 0 G_ j) ^^^ (tb C 0 F_ j)))), (0, .ref (xq 0)), (1, .int (fI F_)), (2, .int (fI G_))]) hx hb dX1_testsBy_101 hl (k := 1) rfl (nI_add j 1) (by decide) rfl (fun ls hl => ?_)
                refine lv_goto (tgt := 52) hx hb dX1_testsBy_104 (by decide) ?_
                have hl : lv_has ls 6 [(5, .int (nI (j + 1))), (3, .long (tyF C F_ G_ (j + 1))), (0, .ref (xq 0)), (1, .int (fI F_)), (2, .int (fI G_))] := (congrArg (fun x_ => lv_has ls 6 [(5, .int (nI (j + 1))), (3, .long x_), (0, .ref (xq 0)), (1, .int (fI F_)), (2, .int (fI G_))]) (show (tyF C F_ G_ j) ||| ((tb C 0 G_ j) ^^^ (tb C 0 F_ j)) = tyF C F_ G_ (j + 1) from by simp only [tyF]; rw [if_pos (by first | exact c_77 | (rw [c_77]; decide))])).mp hl
                exact ih_52  (j + 1) (by omega) (by omega) _ _ hP hD hS ls (lv_sub hl [0, 1, 2, 3, 4] rfl)
        exact lp_52 (6 + C 0 - 0 + 1) 0 (Nat.lt_succ_self _) (by omega) _ _ hP hD hS ls (lv_sub hl [0, 1, 2, 3, 4] rfl)
      · skip
        refine lv_aload_n hx hb dX1_testsBy_23 rfl (lv_at hl 2 rfl) ?_
        refine gWT_5_faulty_X1 hx hb hts hown hK hP dX1_testsBy_24 ?_
        refine lv_iload hx hb dX1_testsBy_27 (lv_at hl 0 rfl) ?_
        refine lv_aload_n hx hb dX1_testsBy_29 rfl (lv_at hl 2 rfl) ?_
        refine gWT_5_tables_X1 hx hb hts hown hK hP dX1_testsBy_30 ?_
        refine lv_iload hx hb dX1_testsBy_33 (lv_at hl 0 rfl) ?_
        refine ldWT_6 hx hb hK hP (by omega) dX1_testsBy_35 ?_
        refine lv_topl (nm_r (e' := tb C 0 F_ i) (fillL_at (by omega)) ?_)
        refine stWT_8 hx hb hK hP hD hS (by omega) dX1_testsBy_36 (fun H locs hP hD hS => ?_)
        refine lv_iinc (v := nI (i + 1)) (lv' := [(5, .int (nI (i + 1))), (3, .long (lN 0)), (0, .ref (xq 0)), (1, .int (fI F_)), (2, .int (fI G_))]) hx hb dX1_testsBy_37 hl (k := 0) rfl (nI_add i 1) (by decide) rfl (fun ls hl => ?_)
        refine lv_goto (tgt := 11) hx hb dX1_testsBy_40 (by decide) ?_
        have ew_ : vp_updL (fillL i (tb C 0 F_) fy) i (tb C 0 F_ i) = fillL (i + 1) (tb C 0 F_) fy := fillL_s _ _ _
        have hP : va_P D vwCl (WT ca cq xq (kdC C) (fsC C) (snC C) ak (nI (C 0)) (nI (C 37)) (nI (C 38)) (fI (C 39)) (nI (C 40)) (lN (C 66)) (nI (C 41)) (fillL (6 + C 0) (tb C 0 F_) tb_) va (fillL (i + 1) (tb C 0 F_) fy) cn an sw sb sv) H := (congrArg (fun x_ => va_P D vwCl (WT ca cq xq (kdC C) (fsC C) (snC C) ak (nI (C 0)) (nI (C 37)) (nI (C 38)) (fI (C 39)) (nI (C 40)) (lN (C 66)) (nI (C 41)) (fillL (6 + C 0) (tb C 0 F_) tb_) va x_ cn an sw sb sv) H) ew_).mp hP
        have hD : va_D A (WT ca cq xq (kdC C) (fsC C) (snC C) ak (nI (C 0)) (nI (C 37)) (nI (C 38)) (fI (C 39)) (nI (C 40)) (lN (C 66)) (nI (C 41)) (fillL (6 + C 0) (tb C 0 F_) tb_) va (fillL (i + 1) (tb C 0 F_) fy) cn an sw sb sv) := (congrArg (fun x_ => va_D A (WT ca cq xq (kdC C) (fsC C) (snC C) ak (nI (C 0)) (nI (C 37)) (nI (C 38)) (fI (C 39)) (nI (C 40)) (lN (C 66)) (nI (C 41)) (fillL (6 + C 0) (tb C 0 F_) tb_) va x_ cn an sw sb sv)) ew_).mp hD
        clear ew_
        exact ih_11  (i + 1) (by omega) (by omega) _ _ hP hD hS ls (lv_sub hl [0, 1, 2, 3, 4] rfl)
  have ew_ : fy = fillL 0 (tb C 0 F_) fy := (fillL_0 _ _).symm
  have hP : va_P D vwCl (WT ca cq xq (kdC C) (fsC C) (snC C) ak (nI (C 0)) (nI (C 37)) (nI (C 38)) (fI (C 39)) (nI (C 40)) (lN (C 66)) (nI (C 41)) (fillL (6 + C 0) (tb C 0 F_) tb_) va (fillL 0 (tb C 0 F_) fy) cn an sw sb sv) H := (congrArg (fun x_ => va_P D vwCl (WT ca cq xq (kdC C) (fsC C) (snC C) ak (nI (C 0)) (nI (C 37)) (nI (C 38)) (fI (C 39)) (nI (C 40)) (lN (C 66)) (nI (C 41)) (fillL (6 + C 0) (tb C 0 F_) tb_) va x_ cn an sw sb sv) H) ew_).mp hP
  have hD : va_D A (WT ca cq xq (kdC C) (fsC C) (snC C) ak (nI (C 0)) (nI (C 37)) (nI (C 38)) (fI (C 39)) (nI (C 40)) (lN (C 66)) (nI (C 41)) (fillL (6 + C 0) (tb C 0 F_) tb_) va (fillL 0 (tb C 0 F_) fy) cn an sw sb sv) := (congrArg (fun x_ => va_D A (WT ca cq xq (kdC C) (fsC C) (snC C) ak (nI (C 0)) (nI (C 37)) (nI (C 38)) (fI (C 39)) (nI (C 40)) (lN (C 66)) (nI (C 41)) (fillL (6 + C 0) (tb C 0 F_) tb_) va x_ cn an sw sb sv)) ew_).mp hD
  clear ew_
  exact lp_11 (6 + C 0 - 0 + 1) 0 (Nat.lt_succ_self _) (by omega) _ _ hP hD hS ls (lv_sub hl [0, 1, 2, 3, 4] rfl)
def bkI (l n : Nat) : Int32 := if l < 5 then nI l - nI 6 else fI n
theorem bkI_0 {l : Nat} (h : l < 18) : nI l - nI 6 = bkI l (l - 5) := by
  unfold bkI
  split
  · rfl
  · obtain ⟨n, rfl⟩ := Nat.le.dest (show 5 ≤ l by omega)
    rw [show 5 + n - 5 = n by omega, ← nI_add]; unfold fI
    have h5 : nI 5 = 5 := rfl
    have h6 : nI 6 = 6 := rfl
    rw [h5, h6]; grind
theorem bkI_lt {l n : Nat} (hl : l < 18) (hn : n ≤ l - 5) (h : bkI l n < 0) : n = 0 := by
  unfold bkI at h
  split at h
  · omega
  · have h := Int32.lt_iff_toInt_lt.mp h
    rw [fI_toInt (by omega)] at h
    have : (0 : Int32).toInt = 0 := rfl
    omega
theorem bkI_ge {l n : Nat} (hl : l < 18) (hn : n ≤ l - 5) (h : ¬ bkI l n < 0) : 5 ≤ l ∧ 0 < n := by
  unfold bkI at h
  split at h
  · exfalso
    apply h
    rw [Int32.lt_iff_toInt_lt, pk_sub_toInt (by omega) (by decide)]
    have : (0 : Int32).toInt = 0 := rfl
    omega
  · refine ⟨by omega, Nat.pos_of_ne_zero fun e => h ?_⟩
    subst e; decide
theorem bkI_p {l n : Nat} (h : 5 ≤ l) (h0 : 0 < n) : bkI l n = nI (n - 1) := by
  unfold bkI; rw [if_neg (by omega)]; exact fI_pos (by omega)
theorem nI_dec (a : Nat) : nI a + (-1) = fI a := by unfold fI; grind
theorem stp_n {C : Nat → Nat} {g s : Nat} (h : s.testBit (6 + g) = false) : s = stp C g s := by unfold stp; rw [if_neg (by rw [h]; decide)]
theorem stp_y {C : Nat → Nat} {g s : Nat} (h : s.testBit (6 + g) = true) (h2 : (decide (1 = 0) || decide (C (1 + g) < 6)) = true) : (s ||| 1 <<< C (13 + g)) ||| 1 <<< C (25 + g) = stp C g s := by
  unfold stp; rw [if_pos h, if_pos (by simpa using h2), Nat.or_assoc]
theorem stp_z {C : Nat → Nat} {g s : Nat} (h : s.testBit (6 + g) = true) (h2 : (decide (1 = 0) || decide (C (1 + g) < 6)) = false) : (s ||| 1 <<< C (13 + g)) ||| 0 = stp C g s := by
  unfold stp; rw [if_pos h, if_neg (by simpa using h2), Nat.or_zero, Nat.or_zero]
theorem bo_p {C : Nat → Nat} {n s : Nat} (h : 0 < n) : bo C (n - 1) (stp C (n - 1) s) = bo C n s := by
  obtain ⟨k, rfl⟩ := Nat.exists_eq_succ_of_ne_zero (by omega : n ≠ 0); rfl
theorem stp_lt18 {C : Nat → Nat} {g u : Nat} (h : C (13 + g) < 6 + g ∧ C (25 + g) < 6 + g) (hg : g < 12) (hu : u < 2 ^ 18) : stp C g u < 2 ^ 18 := by
  have e : ∀ l, l < 18 → 1 <<< l < 2 ^ 18 := fun l hl => by rw [Nat.one_shiftLeft]; exact Nat.pow_lt_pow_right (by decide) hl
  unfold stp
  split
  · refine Nat.or_lt_two_pow hu (Nat.or_lt_two_pow (e _ (by omega)) ?_)
    split
    · exact e _ (by omega)
    · decide
  · exact hu
theorem sh18 {l : Nat} (h : l < 18) : 1 <<< l < 2 ^ 18 := by rw [Nat.one_shiftLeft]; exact Nat.pow_lt_pow_right (by decide) h
set_option maxHeartbeats 4000000 in
set_option maxRecDepth 100000 in
theorem mt_X1_behind (l : Launch) (D : va_G) (ca : Nat → ClassId) (cq : Nat → Nat) (xq : Nat → Nat) (ak : Nat → Int32) (tb_ : Nat → Int64) (va : Nat → Int32) (fy : Nat → Int64) (cn : Nat → Int32) (an : Nat → Int32) (sw : Nat → Int64) (sb : Nat → Int64) (sv : Value) (C : Nat → Nat) (l_ : Nat) (h0 : C 0 ≤ 12) (hkd0 : ∀ k, k < 12 → C (1 + k) < 8) (hse : ∀ k, k < 12 → C (13 + k) < 6 + k ∧ C (25 + k) < 6 + k) (hl : l_ < 6 + C 0) (nn : Nat) : Met l yX1_behind (ws_ yX1_behind cX1_behind 4 (Option.some Jvm.ClassFile.FieldType.int)) ({ frames := 1, cells := 0, slots := 0, locals := 22 } : Room) (va_Pc [.ref (xq 0), .int (nI l_)] (PreW EvX D vwCl (TY ca) (WT ca cq xq (kdC C) (fsC C) (snC C) ak (nI (C 0)) (nI (C 37)) (nI (C 38)) (fI (C 39)) (nI (C 40)) (lN (C 66)) (nI (C 41)) tb_ va fy cn an sw sb sv) nn)) (va_Qi (fun (r_ : Int32) (_ : Unit) => r_ = nI (bo C (l_ - 5) (1 <<< l_))) (PostW D vwCl (TY ca) (fun (_ : Unit) => (WT ca cq xq (kdC C) (fsC C) (snC C) ak (nI (C 0)) (nI (C 37)) (nI (C 38)) (fI (C 39)) (nI (C 40)) (lN (C 66)) (nI (C 41)) tb_ va fy cn an sw sb sv)) (va_A (WT ca cq xq (kdC C) (fsC C) (snC C) ak (nI (C 0)) (nI (C 37)) (nI (C 38)) (fI (C 39)) (nI (C 40)) (lN (C 66)) (nI (C 41)) tb_ va fy cn an sw sb sv) nn)) (va_A (WT ca cq xq (kdC C) (fsC C) (snC C) ak (nI (C 0)) (nI (C 37)) (nI (C 38)) (fI (C 39)) (nI (C 40)) (lN (C 66)) (nI (C 41)) tb_ va fy cn an sw sb sv) nn)) 0 0 (va_A (WT ca cq xq (kdC C) (fsC C) (snC C) ak (nI (C 0)) (nI (C 37)) (nI (C 38)) (fI (C 39)) (nI (C 40)) (lN (C 66)) (nI (C 41)) tb_ va fy cn an sw sb sv) nn) := by
  refine met_go (QA := fun A => va_Qi (fun (r_ : Int32) (_ : Unit) => r_ = nI (bo C (l_ - 5) (1 <<< l_))) (PostW D vwCl (TY ca) (fun (_ : Unit) => (WT ca cq xq (kdC C) (fsC C) (snC C) ak (nI (C 0)) (nI (C 37)) (nI (C 38)) (fI (C 39)) (nI (C 40)) (lN (C 66)) (nI (C 41)) tb_ va fy cn an sw sb sv)) A) A) (by decide) (Nat.le_of_ble_eq_true rfl) (fun p e s m below meth c A ls QQ hQQ hx hb hr hts hown hlocks hml hA hP hK hD hE hl => ?_)
  have hown : s.vm.findClass RX1 = some m.cls := hown
  have hS : va_S A s.heap s.heap [] := va_S.rf
  have hl : lv_has ls 4 [(0, .ref (xq 0)), (1, .int (nI l_))] := hl
  generalize hHe : s.heap = H at hP ⊢
  have hS : va_S A s.heap H [] := hHe ▸ hS
  generalize ([] : List Loc) = locs at hS ⊢
  refine lv_iconst (v := nI 1) hx hb dX1_behind_0 (by decide) ?_
  refine lv_iload_n hx hb dX1_behind_1 rfl (lv_at hl 1 rfl) ?_
  refine nv_ishl hx hb dX1_behind_2 (by omega) (sh1_ok (by omega)) ?_
  refine lv_istore_n (lv' := [(2, .int (nI (1 <<< l_))), (0, .ref (xq 0)), (1, .int (nI l_))]) hx hb dX1_behind_3 rfl hl (by decide) rfl (fun ls hl => ?_)
  refine lv_iload_n hx hb dX1_behind_4 rfl (lv_at hl 2 rfl) ?_
  refine lv_bipush (v := nI 6) hx hb dX1_behind_5 (by decide) ?_
  refine lv_isub hx hb dX1_behind_7 ?_
  refine lv_istore_n (lv' := [(3, .int ((nI l_) - (nI 6))), (2, .int (nI (1 <<< l_))), (0, .ref (xq 0)), (1, .int (nI l_))]) hx hb dX1_behind_8 rfl hl (by decide) rfl (fun ls hl => ?_)
  have lp_9 : ∀ (fu_9 : Nat) (n : Nat) (u : Nat), n < fu_9 → (n ≤ l_ - 5) → (u < 2 ^ 18) → (bo C n u = bo C (l_ - 5) (1 <<< l_)) → ∀ (H : Heap) (locs : List Loc), va_P D vwCl (WT ca cq xq (kdC C) (fsC C) (snC C) ak (nI (C 0)) (nI (C 37)) (nI (C 38)) (fI (C 39)) (nI (C 40)) (lN (C 66)) (nI (C 41)) tb_ va fy cn an sw sb sv) H → va_D A (WT ca cq xq (kdC C) (fsC C) (snC C) ak (nI (C 0)) (nI (C 37)) (nI (C 38)) (fI (C 39)) (nI (C 40)) (lN (C 66)) (nI (C 41)) tb_ va fy cn an sw sb sv) → va_S A s.heap H locs → ∀ (ls : Array Slot), lv_has ls 4 [(3, .int (bkI l_ n)), (2, .int (nI u)), (0, .ref (xq 0)), (1, .int (nI l_))] → W p l e ({ frames := 1, cells := 0, slots := 0, locals := 22 } : Room) s m ([.ref (xq 0), .int (nI l_)] : List Value).toArray below meth c H locs 0 0 QQ (F0 m 9 ls []) := by
    intro fu_9
    induction fu_9 with
    | zero => intro n u hfu; exact absurd hfu (Nat.not_lt_zero _)
    | succ fu_9 ih_9 =>
      intro n u hfu hn hs hbo H locs hP hD hS ls hl
      refine lv_iload_n hx hb dX1_behind_9 rfl (lv_at hl 0 rfl) ?_
      refine lv_if_lt (tgt := 74) hx hb dX1_behind_10 (by decide) (fun c_10 => ?_) (fun c_10 => ?_)
      · skip
        have hz := bkI_lt (by omega) hn c_10
        refine lv_iload_n hx hb dX1_behind_74 rfl (lv_at hl 1 rfl) ?_
        subst hQQ
        exact xe_i (v := nI u) () hx hb hr hlocks hK hP hD hS (congrArg nI (by rw [hz] at hbo; exact hbo)) dX1_behind_75
      · skip
        have hpos := bkI_ge (by omega) hn c_10
        have hl : lv_has ls 4 [(3, .int (nI (n - 1))), (2, .int (nI u)), (0, .ref (xq 0)), (1, .int (nI l_))] := (congrArg (fun x_ => lv_has ls 4 [(3, .int x_), (2, .int (nI u)), (0, .ref (xq 0)), (1, .int (nI l_))]) (show bkI l_ n = nI (n - 1) from bkI_p hpos.1 hpos.2)).mp hl
        refine lv_iload_n hx hb dX1_behind_13 rfl (lv_at hl 1 rfl) ?_
        refine lv_bipush (v := nI 6) hx hb dX1_behind_14 (by decide) ?_
        refine lv_iload_n hx hb dX1_behind_16 rfl (lv_at hl 0 rfl) ?_
        refine nv_iadd hx hb dX1_behind_17 ?_
        refine xc_i (xr_S (As := [.int (nI u), .int (nI (6 + (n - 1)))]) (rest := []) (mt_X1_isIn l D ca u (6 + (n - 1)) (by first | assumption | omega | (simp only [updN, forgetC, changedC]; (repeat' split) <;> omega)) (by first | assumption | omega | (simp only [updN, forgetC, changedC]; (repeat' split) <;> omega)) H.size) ⟨hx, hb, hml, hown, hts⟩ (va_cwS 2 hts (lw_S q464 q465 q79 q466) rfl rfl rfl (by decide +kernel) ⟨Nat.le_of_ble_eq_true rfl, Nat.le_of_ble_eq_true rfl⟩) Ev0_ok trivial hK hS (Cut.app (wc := []) (wr := (WT ca cq xq (kdC C) (fsC C) (snC C) ak (nI (C 0)) (nI (C 37)) (nI (C 38)) (fI (C 39)) (nI (C 40)) (lN (C 66)) (nI (C 41)) tb_ va fy cn an sw sb sv)) hP hD hS hA) rfl hl.1 rfl (Nat.le_of_ble_eq_true rfl) dX1_behind_18 ⟨Nat.le_of_ble_eq_true rfl, Nat.le_of_ble_eq_true rfl⟩) hS (Cut.app (wc := []) (wr := (WT ca cq xq (kdC C) (fsC C) (snC C) ak (nI (C 0)) (nI (C 37)) (nI (C 38)) (fI (C 39)) (nI (C 40)) (lN (C 66)) (nI (C 41)) tb_ va fy cn an sw sb sv)) hP hD hS hA) (fun r_2 u_3 H locs hq_18 hP hD hS => ?_)
        have hP : va_P D vwCl (WT ca cq xq (kdC C) (fsC C) (snC C) ak (nI (C 0)) (nI (C 37)) (nI (C 38)) (fI (C 39)) (nI (C 40)) (lN (C 66)) (nI (C 41)) tb_ va fy cn an sw sb sv) H := hP
        have hD : va_D A (WT ca cq xq (kdC C) (fsC C) (snC C) ak (nI (C 0)) (nI (C 37)) (nI (C 38)) (fI (C 39)) (nI (C 40)) (lN (C 66)) (nI (C 41)) tb_ va fy cn an sw sb sv) := hD
        have hp_18 : r_2 = bI (u.testBit (6 + (n - 1))) := hq_18
        clear hq_18
        obtain rfl := hp_18
        refine nv_ifb_eq (tgt := 68) hx hb dX1_behind_21 (by decide) (fun c_21 => ?_) (fun c_21 => ?_)
        · skip
          refine lv_iinc (v := fI (n - 1)) (lv' := [(3, .int (fI (n - 1))), (2, .int (nI u)), (0, .ref (xq 0)), (1, .int (nI l_))]) hx hb dX1_behind_68 hl (k := 0) rfl (nI_dec _) (by decide) rfl (fun ls hl => ?_)
          refine lv_goto (tgt := 9) hx hb dX1_behind_71 (by decide) ?_
          have hl : lv_has ls 4 [(3, .int (fI (n - 1))), (2, .int (nI (stp C (n - 1) u))), (0, .ref (xq 0)), (1, .int (nI l_))] := (congrArg (fun x_ => lv_has ls 4 [(3, .int (fI (n - 1))), (2, .int x_), (0, .ref (xq 0)), (1, .int (nI l_))]) (show nI u = nI (stp C (n - 1) u) from congrArg nI (stp_n c_21))).mp hl
          have hl : lv_has ls 4 [(3, .int (bkI l_ (n - 1))), (2, .int (nI (stp C (n - 1) u))), (0, .ref (xq 0)), (1, .int (nI l_))] := (congrArg (fun x_ => lv_has ls 4 [(3, .int x_), (2, .int (nI (stp C (n - 1) u))), (0, .ref (xq 0)), (1, .int (nI l_))]) (show fI (n - 1) = bkI l_ (n - 1) from (if_neg (by omega)).symm)).mp hl
          exact ih_9  (n - 1) (stp C (n - 1) u) (by omega) (by omega) (stp_lt18 (hse _ (by omega)) (by omega) hs) ((bo_p hpos.2).trans hbo) _ _ hP hD hS ls (lv_sub hl [0, 1, 2, 3] rfl)
        · skip
          refine lv_iload_n hx hb dX1_behind_24 rfl (lv_at hl 1 rfl) ?_
          refine lv_iconst (v := nI 1) hx hb dX1_behind_25 (by decide) ?_
          refine lv_aload_n hx hb dX1_behind_26 rfl (lv_at hl 2 rfl) ?_
          refine gWT_5_circuit_X1 hx hb hts hown hK hP dX1_behind_27 ?_
          refine gWT_0_firsts_X1 hE hx hb hts hown hK hP dX1_behind_30 ?_
          refine lv_iload_n hx hb dX1_behind_33 rfl (lv_at hl 0 rfl) ?_
          refine ldWT_2 hx hb hK hP (by omega) dX1_behind_34 ?_
          refine lv_topi (nm_r (e' := nI (C (13 + (n - 1)))) (rfl) ?_)
          refine nv_ishl hx hb dX1_behind_35 (by have := hse (n - 1) (by omega); omega) (sh1_ok (by have := hse (n - 1) (by omega); omega)) ?_
          refine nv_ior hx hb dX1_behind_36 ?_
          refine lv_istore_n (lv' := [(2, .int (nI (u ||| (1 <<< (C (13 + (n - 1))))))), (3, .int (nI (n - 1))), (0, .ref (xq 0)), (1, .int (nI l_))]) hx hb dX1_behind_37 rfl hl (by decide) rfl (fun ls hl => ?_)
          refine lv_iload_n hx hb dX1_behind_38 rfl (lv_at hl 0 rfl) ?_
          refine lv_aload_n hx hb dX1_behind_39 rfl (lv_at hl 2 rfl) ?_
          refine gWT_5_circuit_X1 hx hb hts hown hK hP dX1_behind_40 ?_
          refine lv_iload_n hx hb dX1_behind_43 rfl (lv_at hl 1 rfl) ?_
          refine lv_iconst (v := nI 1) hx hb dX1_behind_44 (by decide) ?_
          refine xc_i (xr_V (b := cq 0) (ci := 1) (q0 := 0) (As := [.int (nI (n - 1)), .int (nI 1)]) (rest := [.int (nI (u ||| (1 <<< (C (13 + (n - 1))))))]) (mt_X2_looksAt l D ca cq (fsC C) (snC C) ak (nI (C 0)) (nI (C 37)) (nI (C 38)) (fI (C 39)) (nI (C 40)) (lN (C 66)) (nI (C 41)) C (n - 1) 1 (by omega) (by decide) (hkd0 _ (by omega)) H.size) ⟨hx, hb, hml, hown, hts⟩ (cwV 2 hts (lw_V q1009 q1010 q1011 q80 q1012) rfl rfl rfl (by decide +kernel) ⟨Nat.le_of_ble_eq_true rfl, Nat.le_of_ble_eq_true rfl⟩) EvX_ok hE hK hS (Cut.app (wc := (WC ca cq (kdC C) (fsC C) (snC C) ak (nI (C 0)) (nI (C 37)) (nI (C 38)) (fI (C 39)) (nI (C 40)) (lN (C 66)) (nI (C 41)))) (wr := (WTr ca cq xq tb_ va fy cn an sw sb sv)) hP hD hS hA) rfl rfl rfl hl.1 rfl (Nat.le_of_ble_eq_true rfl) dX1_behind_45 ⟨Nat.le_of_ble_eq_true rfl, Nat.le_of_ble_eq_true rfl⟩) hS (Cut.app (wc := (WC ca cq (kdC C) (fsC C) (snC C) ak (nI (C 0)) (nI (C 37)) (nI (C 38)) (fI (C 39)) (nI (C 40)) (lN (C 66)) (nI (C 41)))) (wr := (WTr ca cq xq tb_ va fy cn an sw sb sv)) hP hD hS hA) (fun r_5 u_6 H locs hq_45 hP hD hS => ?_)
          have hP : va_P D vwCl (WT ca cq xq (kdC C) (fsC C) (snC C) ak (nI (C 0)) (nI (C 37)) (nI (C 38)) (fI (C 39)) (nI (C 40)) (lN (C 66)) (nI (C 41)) tb_ va fy cn an sw sb sv) H := hP
          have hD : va_D A (WT ca cq xq (kdC C) (fsC C) (snC C) ak (nI (C 0)) (nI (C 37)) (nI (C 38)) (fI (C 39)) (nI (C 40)) (lN (C 66)) (nI (C 41)) tb_ va fy cn an sw sb sv) := hD
          have hp_45 : r_5 = bI (decide (1 = 0) || decide (C (1 + (n - 1)) < 6)) := hq_45
          clear hq_45
          obtain rfl := hp_45
          refine nv_ifb_eq (tgt := 65) hx hb dX1_behind_48 (by decide) (fun c_48 => ?_) (fun c_48 => ?_)
          · skip
            refine lv_iconst (v := nI 0) hx hb dX1_behind_65 (by decide) ?_
            refine nv_ior hx hb dX1_behind_66 ?_
            refine lv_istore_n (lv' := [(2, .int (nI ((u ||| (1 <<< (C (13 + (n - 1))))) ||| 0))), (3, .int (nI (n - 1))), (0, .ref (xq 0)), (1, .int (nI l_))]) hx hb dX1_behind_67 rfl hl (by decide) rfl (fun ls hl => ?_)
            refine lv_iinc (v := fI (n - 1)) (lv' := [(3, .int (fI (n - 1))), (2, .int (nI ((u ||| (1 <<< (C (13 + (n - 1))))) ||| 0))), (0, .ref (xq 0)), (1, .int (nI l_))]) hx hb dX1_behind_68 hl (k := 1) rfl (nI_dec _) (by decide) rfl (fun ls hl => ?_)
            refine lv_goto (tgt := 9) hx hb dX1_behind_71 (by decide) ?_
            have hl : lv_has ls 4 [(3, .int (fI (n - 1))), (2, .int (nI (stp C (n - 1) u))), (0, .ref (xq 0)), (1, .int (nI l_))] := (congrArg (fun x_ => lv_has ls 4 [(3, .int (fI (n - 1))), (2, .int x_), (0, .ref (xq 0)), (1, .int (nI l_))]) (show nI ((u ||| (1 <<< (C (13 + (n - 1))))) ||| 0) = nI (stp C (n - 1) u) from congrArg nI (stp_z c_21 c_48))).mp hl
            have hl : lv_has ls 4 [(3, .int (bkI l_ (n - 1))), (2, .int (nI (stp C (n - 1) u))), (0, .ref (xq 0)), (1, .int (nI l_))] := (congrArg (fun x_ => lv_has ls 4 [(3, .int x_), (2, .int (nI (stp C (n - 1) u))), (0, .ref (xq 0)), (1, .int (nI l_))]) (show fI (n - 1) = bkI l_ (n - 1) from (if_neg (by omega)).symm)).mp hl
            exact ih_9  (n - 1) (stp C (n - 1) u) (by omega) (by omega) (stp_lt18 (hse _ (by omega)) (by omega) hs) ((bo_p hpos.2).trans hbo) _ _ hP hD hS ls (lv_sub hl [0, 1, 2, 3] rfl)
          · skip
            refine lv_iconst (v := nI 1) hx hb dX1_behind_51 (by decide) ?_
            refine lv_aload_n hx hb dX1_behind_52 rfl (lv_at hl 2 rfl) ?_
            refine gWT_5_circuit_X1 hx hb hts hown hK hP dX1_behind_53 ?_
            refine gWT_0_seconds_X1 hE hx hb hts hown hK hP dX1_behind_56 ?_
            refine lv_iload_n hx hb dX1_behind_59 rfl (lv_at hl 1 rfl) ?_
            refine ldWT_3 hx hb hK hP (by omega) dX1_behind_60 ?_
            refine lv_topi (nm_r (e' := nI (C (25 + (n - 1)))) (rfl) ?_)
            refine nv_ishl hx hb dX1_behind_61 (by have := hse (n - 1) (by omega); omega) (sh1_ok (by have := hse (n - 1) (by omega); omega)) ?_
            refine lv_goto (tgt := 66) hx hb dX1_behind_62 (by decide) ?_
            refine nv_ior hx hb dX1_behind_66 ?_
            refine lv_istore_n (lv' := [(2, .int (nI ((u ||| (1 <<< (C (13 + (n - 1))))) ||| (1 <<< (C (25 + (n - 1))))))), (3, .int (nI (n - 1))), (0, .ref (xq 0)), (1, .int (nI l_))]) hx hb dX1_behind_67 rfl hl (by decide) rfl (fun ls hl => ?_)
            refine lv_iinc (v := fI (n - 1)) (lv' := [(3, .int (fI (n - 1))), (2, .int (nI ((u ||| (1 <<< (C (13 + (n - 1))))) ||| (1 <<< (C (25 + (n - 1))))))), (0, .ref (xq 0)), (1, .int (nI l_))]) hx hb dX1_behind_68 hl (k := 1) rfl (nI_dec _) (by decide) rfl (fun ls hl => ?_)
            refine lv_goto (tgt := 9) hx hb dX1_behind_71 (by decide) ?_
            have hl : lv_has ls 4 [(3, .int (fI (n - 1))), (2, .int (nI (stp C (n - 1) u))), (0, .ref (xq 0)), (1, .int (nI l_))] := (congrArg (fun x_ => lv_has ls 4 [(3, .int (fI (n - 1))), (2, .int x_), (0, .ref (xq 0)), (1, .int (nI l_))]) (show nI ((u ||| (1 <<< (C (13 + (n - 1))))) ||| (1 <<< (C (25 + (n - 1))))) = nI (stp C (n - 1) u) from congrArg nI (stp_y c_21 c_48))).mp hl
            have hl : lv_has ls 4 [(3, .int (bkI l_ (n - 1))), (2, .int (nI (stp C (n - 1) u))), (0, .ref (xq 0)), (1, .int (nI l_))] := (congrArg (fun x_ => lv_has ls 4 [(3, .int x_), (2, .int (nI (stp C (n - 1) u))), (0, .ref (xq 0)), (1, .int (nI l_))]) (show fI (n - 1) = bkI l_ (n - 1) from (if_neg (by omega)).symm)).mp hl
            exact ih_9  (n - 1) (stp C (n - 1) u) (by omega) (by omega) (stp_lt18 (hse _ (by omega)) (by omega) hs) ((bo_p hpos.2).trans hbo) _ _ hP hD hS ls (lv_sub hl [0, 1, 2, 3] rfl)
  have hl : lv_has ls 4 [(3, .int (bkI l_ (l_ - 5))), (2, .int (nI (1 <<< l_))), (0, .ref (xq 0)), (1, .int (nI l_))] := (congrArg (fun x_ => lv_has ls 4 [(3, .int x_), (2, .int (nI (1 <<< l_))), (0, .ref (xq 0)), (1, .int (nI l_))]) (show (nI l_) - (nI 6) = bkI l_ (l_ - 5) from bkI_0 (by omega))).mp hl
  exact lp_9 ((l_ - 5) + 1) (l_ - 5) (1 <<< l_) (Nat.lt_succ_self _) (Nat.le_refl _) (sh18 (by omega)) rfl _ _ hP hD hS ls (lv_sub hl [0, 1, 2, 3] rfl)
