/-! the component: tellings by the shown faults -/
set_option maxRecDepth 100000
theorem op_f {C : Nat → Nat} {N n : Nat} (hN : N < 64) (hn : n < N) (h : bit64 (lN (opn C N)) n = false) : apC C (n + 1) 0 = lN 0 := by
  rw [bit_lN _ _ (by omega), opn_bit] at h
  simpa [hn] using h
theorem l0_and {x : Int64} : lN 0 &&& x = lN 0 := by
  apply i64_ext; intro i hi; rw [bit_and, bit_lN _ _ hi, Nat.zero_testBit, Bool.false_and]
set_option maxHeartbeats 4000000 in
set_option maxRecDepth 100000 in
theorem mt_X1_shownBy (l : Launch) (D : va_G) (ca : Nat → ClassId) (cq : Nat → Nat) (xq : Nat → Nat) (ak : Nat → Int32) (tb_ : Nat → Int64) (va : Nat → Int32) (fy : Nat → Int64) (cn : Nat → Int32) (an : Nat → Int32) (sw : Nat → Int64) (sb : Nat → Int64) (sv : Value) (C : Nat → Nat) (ts_ : Int64) (h0 : C 0 ≤ 12) (hkd0 : ∀ k, k < 12 → C (1 + k) < 8) (hse : ∀ k, k < 12 → C (13 + k) < 6 + k ∧ C (25 + k) < 6 + k) (ho : C 37 < 2 ^ 18) (hbx : C 38 < 2 ^ 18) (hno : popc 18 (C 37) ≤ 4) (nn : Nat) : Met l yX1_shownBy (ws_ yX1_shownBy cX1_shownBy 7 (Option.some Jvm.ClassFile.FieldType.int)) ({ frames := 5, cells := 0, slots := 0, locals := 119 } : Room) (va_Pc [.ref (xq 0), .long ts_] (PreW EvX D vwCl (TY ca) (WT ca cq xq (kdC C) (fsC C) (snC C) ak (nI (C 0)) (nI (C 37)) (nI (C 38)) (fI (C 39)) (nI (C 40)) (lN (C 66)) (nI (C 41)) tb_ va fy cn an sw sb sv) nn)) (va_Qi (fun (r_ : Int32) (u_ : (Nat → Int64) × (Nat → Int64) × (Nat → Int64) × (Nat → Int64)) => r_ = nI (sbn C ts_ (2 * (6 + C 0)))) (PostW D vwCl (TY ca) (fun (u_ : (Nat → Int64) × (Nat → Int64) × (Nat → Int64) × (Nat → Int64)) => (WT ca cq xq (kdC C) (fsC C) (snC C) ak (nI (C 0)) (nI (C 37)) (nI (C 38)) (fI (C 39)) (nI (C 40)) (lN (C 66)) (nI (C 41)) u_.1 va u_.2.1 cn an u_.2.2.1 u_.2.2.2 sv)) (va_A (WT ca cq xq (kdC C) (fsC C) (snC C) ak (nI (C 0)) (nI (C 37)) (nI (C 38)) (fI (C 39)) (nI (C 40)) (lN (C 66)) (nI (C 41)) tb_ va fy cn an sw sb sv) nn)) (va_A (WT ca cq xq (kdC C) (fsC C) (snC C) ak (nI (C 0)) (nI (C 37)) (nI (C 38)) (fI (C 39)) (nI (C 40)) (lN (C 66)) (nI (C 41)) tb_ va fy cn an sw sb sv) nn)) 0 0 (va_A (WT ca cq xq (kdC C) (fsC C) (snC C) ak (nI (C 0)) (nI (C 37)) (nI (C 38)) (fI (C 39)) (nI (C 40)) (lN (C 66)) (nI (C 41)) tb_ va fy cn an sw sb sv) nn) := by
  refine met_go (QA := fun A => va_Qi (fun (r_ : Int32) (u_ : (Nat → Int64) × (Nat → Int64) × (Nat → Int64) × (Nat → Int64)) => r_ = nI (sbn C ts_ (2 * (6 + C 0)))) (PostW D vwCl (TY ca) (fun (u_ : (Nat → Int64) × (Nat → Int64) × (Nat → Int64) × (Nat → Int64)) => (WT ca cq xq (kdC C) (fsC C) (snC C) ak (nI (C 0)) (nI (C 37)) (nI (C 38)) (fI (C 39)) (nI (C 40)) (lN (C 66)) (nI (C 41)) u_.1 va u_.2.1 cn an u_.2.2.1 u_.2.2.2 sv)) A) A) (by decide) (Nat.le_of_ble_eq_true rfl) (fun p e s m below meth c A ls QQ hQQ hx hb hr hts hown hlocks hml hA hP hK hD hE hl => ?_)
  have hown : s.vm.findClass RX1 = some m.cls := hown
  have hS : va_S A s.heap s.heap [] := va_S.rf
  have hl : lv_has ls 7 [(0, .ref (xq 0)), (1, .long ts_)] := hl
  generalize hHe : s.heap = H at hP ⊢
  have hS : va_S A s.heap H [] := hHe ▸ hS
  generalize ([] : List Loc) = locs at hS ⊢
  refine lv_aload_n hx hb dX1_shownBy_0 rfl (lv_at hl 0 rfl) ?_
  refine xc_l (xr_V (b := xq 0) (ci := 0) (q0 := 5) (As := []) (rest := []) (mt_X1_layShown l D ca cq xq ak tb_ va fy cn an sw sb sv C (by first | assumption | omega | (simp only [updN, forgetC, changedC]; (repeat' split) <;> omega)) (by first | assumption | omega | (simp only [updN, forgetC, changedC]; (repeat' split) <;> omega)) (by first | assumption | omega | (simp only [updN, forgetC, changedC]; (repeat' split) <;> omega)) (by first | assumption | omega | (simp only [updN, forgetC, changedC]; (repeat' split) <;> omega)) (by first | assumption | omega | (simp only [updN, forgetC, changedC]; (repeat' split) <;> omega)) (by first | assumption | omega | (simp only [updN, forgetC, changedC]; (repeat' split) <;> omega)) H.size) ⟨hx, hb, hml, hown, hts⟩ (cwV 0 hts (lw_V q435 q437 qs6 q79 q438) rfl rfl rfl (by decide +kernel) ⟨Nat.le_of_ble_eq_true rfl, Nat.le_of_ble_eq_true rfl⟩) EvX_ok hE hK hS (Cut.all hP hD hS hA) rfl rfl rfl hl.1 rfl (Nat.le_of_ble_eq_true rfl) dX1_shownBy_1 ⟨Nat.le_of_ble_eq_true rfl, Nat.le_of_ble_eq_true rfl⟩) hS (Cut.all hP hD hS hA) (fun r_1 u_2 H locs hq_1 hP hD hS => ?_)
  obtain ⟨tb1_3, fy1_4, sb1_5⟩ := u_2
  have hP : va_P D vwCl (WT ca cq xq (kdC C) (fsC C) (snC C) ak (nI (C 0)) (nI (C 37)) (nI (C 38)) (fI (C 39)) (nI (C 40)) (lN (C 66)) (nI (C 41)) tb1_3 va fy1_4 cn an (fillL (2 * (6 + C 0)) (fun f => apC C (f + 1) 0) sw) sb1_5 sv) H := hP
  have hD : va_D A (WT ca cq xq (kdC C) (fsC C) (snC C) ak (nI (C 0)) (nI (C 37)) (nI (C 38)) (fI (C 39)) (nI (C 40)) (lN (C 66)) (nI (C 41)) tb1_3 va fy1_4 cn an (fillL (2 * (6 + C 0)) (fun f => apC C (f + 1) 0) sw) sb1_5 sv) := hD
  have hp_1 : r_1 = lN (opn C (2 * (6 + C 0))) ∧ ((∀ t, t < 64 → sb1_5 t = lN (shN C (2 * (6 + C 0)) t))) := hq_1
  clear hq_1
  obtain ⟨rfl, hp_1⟩ := hp_1
  refine lv_lstore_n (lv' := [(3, .long (lN (opn C (2 * (6 + C 0))))), (0, .ref (xq 0)), (1, .long ts_)]) hx hb dX1_shownBy_4 rfl hl (by decide) rfl (fun ls hl => ?_)
  refine lv_iconst (v := nI 0) hx hb dX1_shownBy_5 (by decide) ?_
  refine lv_istore (lv' := [(5, .int (nI 0)), (3, .long (lN (opn C (2 * (6 + C 0))))), (0, .ref (xq 0)), (1, .long ts_)]) hx hb dX1_shownBy_6 hl (by decide) rfl (fun ls hl => ?_)
  refine lv_iconst (v := nI 0) hx hb dX1_shownBy_8 (by decide) ?_
  refine lv_istore (lv' := [(6, .int (nI 0)), (5, .int (nI 0)), (3, .long (lN (opn C (2 * (6 + C 0))))), (0, .ref (xq 0)), (1, .long ts_)]) hx hb dX1_shownBy_9 hl (by decide) rfl (fun ls hl => ?_)
  have lp_11 : ∀ (fu_11 : Nat) (n : Nat), 2 * (6 + C 0) - n < fu_11 → (n ≤ 2 * (6 + C 0)) → ∀ (H : Heap) (locs : List Loc), va_P D vwCl (WT ca cq xq (kdC C) (fsC C) (snC C) ak (nI (C 0)) (nI (C 37)) (nI (C 38)) (fI (C 39)) (nI (C 40)) (lN (C 66)) (nI (C 41)) tb1_3 va fy1_4 cn an (fillL (2 * (6 + C 0)) (fun f => apC C (f + 1) 0) sw) sb1_5 sv) H → va_D A (WT ca cq xq (kdC C) (fsC C) (snC C) ak (nI (C 0)) (nI (C 37)) (nI (C 38)) (fI (C 39)) (nI (C 40)) (lN (C 66)) (nI (C 41)) tb1_3 va fy1_4 cn an (fillL (2 * (6 + C 0)) (fun f => apC C (f + 1) 0) sw) sb1_5 sv) → va_S A s.heap H locs → ∀ (ls : Array Slot), lv_has ls 7 [(6, .int (nI n)), (5, .int (nI (sbn C ts_ n))), (3, .long (lN (opn C (2 * (6 + C 0))))), (0, .ref (xq 0)), (1, .long ts_)] → W p l e ({ frames := 5, cells := 0, slots := 0, locals := 119 } : Room) s m ([.ref (xq 0), .long ts_] : List Value).toArray below meth c H locs 0 0 QQ (F0 m 11 ls []) := by
    intro fu_11
    induction fu_11 with
    | zero => intro n hfu; exact absurd hfu (Nat.not_lt_zero _)
    | succ fu_11 ih_11 =>
      intro n hfu hn H locs hP hD hS ls hl
      refine lv_iload hx hb dX1_shownBy_11 (lv_at hl 0 rfl) ?_
      refine lv_aload_n hx hb dX1_shownBy_13 rfl (lv_at hl 3 rfl) ?_
      refine gWT_5_circuit_X1 hx hb hts hown hK hP dX1_shownBy_14 ?_
      refine xc_i (xr_V (b := cq 0) (ci := 1) (q0 := 0) (As := []) (rest := [.int (nI n)]) (mt_X2_faults l D ca cq (kdC C) (fsC C) (snC C) ak (nI (C 37)) (nI (C 38)) (fI (C 39)) (nI (C 40)) (lN (C 66)) (nI (C 41)) (C 0)  H.size) ⟨hx, hb, hml, hown, hts⟩ (cwV 0 hts (lw_V q439 q440 q441 q80 q442) rfl rfl rfl (by decide +kernel) ⟨Nat.le_of_ble_eq_true rfl, Nat.le_of_ble_eq_true rfl⟩) EvX_ok hE hK hS (Cut.app (wc := (WC ca cq (kdC C) (fsC C) (snC C) ak (nI (C 0)) (nI (C 37)) (nI (C 38)) (fI (C 39)) (nI (C 40)) (lN (C 66)) (nI (C 41)))) (wr := (WTr ca cq xq tb1_3 va fy1_4 cn an (fillL (2 * (6 + C 0)) (fun f => apC C (f + 1) 0) sw) sb1_5 sv)) hP hD hS hA) rfl rfl rfl hl.1 rfl (Nat.le_of_ble_eq_true rfl) dX1_shownBy_17 ⟨Nat.le_of_ble_eq_true rfl, Nat.le_of_ble_eq_true rfl⟩) hS (Cut.app (wc := (WC ca cq (kdC C) (fsC C) (snC C) ak (nI (C 0)) (nI (C 37)) (nI (C 38)) (fI (C 39)) (nI (C 40)) (lN (C 66)) (nI (C 41)))) (wr := (WTr ca cq xq tb1_3 va fy1_4 cn an (fillL (2 * (6 + C 0)) (fun f => apC C (f + 1) 0) sw) sb1_5 sv)) hP hD hS hA) (fun r_6 u_7 H locs hq_17 hP hD hS => ?_)
      have hP : va_P D vwCl (WT ca cq xq (kdC C) (fsC C) (snC C) ak (nI (C 0)) (nI (C 37)) (nI (C 38)) (fI (C 39)) (nI (C 40)) (lN (C 66)) (nI (C 41)) tb1_3 va fy1_4 cn an (fillL (2 * (6 + C 0)) (fun f => apC C (f + 1) 0) sw) sb1_5 sv) H := hP
      have hD : va_D A (WT ca cq xq (kdC C) (fsC C) (snC C) ak (nI (C 0)) (nI (C 37)) (nI (C 38)) (fI (C 39)) (nI (C 40)) (lN (C 66)) (nI (C 41)) tb1_3 va fy1_4 cn an (fillL (2 * (6 + C 0)) (fun f => apC C (f + 1) 0) sw) sb1_5 sv) := hD
      have hp_17 : r_6 = nI (2 * (6 + (C 0))) := hq_17
      clear hq_17
      obtain rfl := hp_17
      refine nv_icmp_ge (tgt := 62) hx hb dX1_shownBy_20 (by decide) (by omega) (by omega) (fun c_20 => ?_) (fun c_20 => ?_)
      · skip
        have e_ : 2 * (6 + C 0) = n := Eq.symm (by omega)
        subst e_
        refine lv_iload hx hb dX1_shownBy_62 (lv_at hl 1 rfl) ?_
        subst hQQ
        exact xe_i (v := nI (sbn C ts_ (2 * (6 + C 0)))) (tb1_3, fy1_4, fillL (2 * (6 + C 0)) (fun f => apC C (f + 1) 0) sw, sb1_5) hx hb hr hlocks hK hP hD hS (rfl) dX1_shownBy_64
      · skip
        refine lv_iload hx hb dX1_shownBy_23 (lv_at hl 1 rfl) ?_
        refine lv_lload_n hx hb dX1_shownBy_25 rfl (lv_at hl 2 rfl) ?_
        refine lv_iload hx hb dX1_shownBy_26 (lv_at hl 0 rfl) ?_
        refine xc_i (xr_S (As := [.long (lN (opn C (2 * (6 + C 0)))), .int (nI n)]) (rest := [.int (nI (sbn C ts_ n))]) (mt_X1_isIn_2 l D ca (lN (opn C (2 * (6 + C 0)))) n (by first | assumption | omega | (simp only [updN, forgetC, changedC]; (repeat' split) <;> omega)) H.size) ⟨hx, hb, hml, hown, hts⟩ (va_cwS 2 hts (lw_S q478 q479 q79 q480) rfl rfl rfl (by decide +kernel) ⟨Nat.le_of_ble_eq_true rfl, Nat.le_of_ble_eq_true rfl⟩) Ev0_ok trivial hK hS (Cut.app (wc := []) (wr := (WT ca cq xq (kdC C) (fsC C) (snC C) ak (nI (C 0)) (nI (C 37)) (nI (C 38)) (fI (C 39)) (nI (C 40)) (lN (C 66)) (nI (C 41)) tb1_3 va fy1_4 cn an (fillL (2 * (6 + C 0)) (fun f => apC C (f + 1) 0) sw) sb1_5 sv)) hP hD hS hA) rfl hl.1 rfl (Nat.le_of_ble_eq_true rfl) dX1_shownBy_28 ⟨Nat.le_of_ble_eq_true rfl, Nat.le_of_ble_eq_true rfl⟩) hS (Cut.app (wc := []) (wr := (WT ca cq xq (kdC C) (fsC C) (snC C) ak (nI (C 0)) (nI (C 37)) (nI (C 38)) (fI (C 39)) (nI (C 40)) (lN (C 66)) (nI (C 41)) tb1_3 va fy1_4 cn an (fillL (2 * (6 + C 0)) (fun f => apC C (f + 1) 0) sw) sb1_5 sv)) hP hD hS hA) (fun r_9 u_10 H locs hq_28 hP hD hS => ?_)
        have hP : va_P D vwCl (WT ca cq xq (kdC C) (fsC C) (snC C) ak (nI (C 0)) (nI (C 37)) (nI (C 38)) (fI (C 39)) (nI (C 40)) (lN (C 66)) (nI (C 41)) tb1_3 va fy1_4 cn an (fillL (2 * (6 + C 0)) (fun f => apC C (f + 1) 0) sw) sb1_5 sv) H := hP
        have hD : va_D A (WT ca cq xq (kdC C) (fsC C) (snC C) ak (nI (C 0)) (nI (C 37)) (nI (C 38)) (fI (C 39)) (nI (C 40)) (lN (C 66)) (nI (C 41)) tb1_3 va fy1_4 cn an (fillL (2 * (6 + C 0)) (fun f => apC C (f + 1) 0) sw) sb1_5 sv) := hD
        have hp_28 : r_9 = bI (bit64 (lN (opn C (2 * (6 + C 0)))) n) := hq_28
        clear hq_28
        obtain rfl := hp_28
        refine nv_ifb_eq (tgt := 52) hx hb dX1_shownBy_31 (by decide) (fun c_31 => ?_) (fun c_31 => ?_)
        · skip
          refine lv_iconst (v := nI 0) hx hb dX1_shownBy_52 (by decide) ?_
          refine nv_iadd hx hb dX1_shownBy_53 ?_
          refine lv_istore (lv' := [(5, .int (nI ((sbn C ts_ n) + 0))), (6, .int (nI n)), (3, .long (lN (opn C (2 * (6 + C 0))))), (0, .ref (xq 0)), (1, .long ts_)]) hx hb dX1_shownBy_54 hl (by decide) rfl (fun ls hl => ?_)
          refine lv_iinc (v := nI (n + 1)) (lv' := [(6, .int (nI (n + 1))), (5, .int (nI ((sbn C ts_ n) + 0))), (3, .long (lN (opn C (2 * (6 + C 0))))), (0, .ref (xq 0)), (1, .long ts_)]) hx hb dX1_shownBy_56 hl (k := 1) rfl (nI_add n 1) (by decide) rfl (fun ls hl => ?_)
          refine lv_goto (tgt := 11) hx hb dX1_shownBy_59 (by decide) ?_
          have hl : lv_has ls 7 [(6, .int (nI (n + 1))), (5, .int (nI (sbn C ts_ (n + 1)))), (3, .long (lN (opn C (2 * (6 + C 0))))), (0, .ref (xq 0)), (1, .long ts_)] := (congrArg (fun x_ => lv_has ls 7 [(6, .int (nI (n + 1))), (5, .int x_), (3, .long (lN (opn C (2 * (6 + C 0))))), (0, .ref (xq 0)), (1, .long ts_)]) (show nI ((sbn C ts_ n) + 0) = nI (sbn C ts_ (n + 1)) from congrArg nI (by simp only [sbn]; first | rw [if_pos c_44] | rw [if_pos (by rw [op_f (N := 2 * (6 + C 0)) (by omega) (by omega) c_31]; exact l0_and)]))).mp hl
          exact ih_11  (n + 1) (by omega) (by omega) _ _ hP hD hS ls (lv_sub hl [0, 1, 2, 3, 4] rfl)
        · skip
          refine lv_aload_n hx hb dX1_shownBy_34 rfl (lv_at hl 3 rfl) ?_
          refine gWT_5_shown_X1 hx hb hts hown hK hP dX1_shownBy_35 ?_
          refine lv_iload hx hb dX1_shownBy_38 (lv_at hl 0 rfl) ?_
          refine ldWT_11 hx hb hK hP (by omega) dX1_shownBy_40 ?_
          refine lv_topl (nm_r (e' := apC C (n + 1) 0) (fillL_at (by omega)) ?_)
          refine lv_lload_n hx hb dX1_shownBy_41 rfl (lv_at hl 4 rfl) ?_
          refine lv_land hx hb dX1_shownBy_42 ?_
          refine lv_lconst (v := lN 0) hx hb dX1_shownBy_43 (by decide) ?_
          refine nv_lcmp_eq (tgt := 52) hx hb dX1_shownBy_44 dX1_shownBy_45 (by decide) (fun c_44 => ?_) (fun c_44 => ?_)
          · skip
            refine lv_iconst (v := nI 0) hx hb dX1_shownBy_52 (by decide) ?_
            refine nv_iadd hx hb dX1_shownBy_53 ?_
            refine lv_istore (lv' := [(5, .int (nI ((sbn C ts_ n) + 0))), (6, .int (nI n)), (3, .long (lN (opn C (2 * (6 + C 0))))), (0, .ref (xq 0)), (1, .long ts_)]) hx hb dX1_shownBy_54 hl (by decide) rfl (fun ls hl => ?_)
            refine lv_iinc (v := nI (n + 1)) (lv' := [(6, .int (nI (n + 1))), (5, .int (nI ((sbn C ts_ n) + 0))), (3, .long (lN (opn C (2 * (6 + C 0))))), (0, .ref (xq 0)), (1, .long ts_)]) hx hb dX1_shownBy_56 hl (k := 1) rfl (nI_add n 1) (by decide) rfl (fun ls hl => ?_)
            refine lv_goto (tgt := 11) hx hb dX1_shownBy_59 (by decide) ?_
            have hl : lv_has ls 7 [(6, .int (nI (n + 1))), (5, .int (nI (sbn C ts_ (n + 1)))), (3, .long (lN (opn C (2 * (6 + C 0))))), (0, .ref (xq 0)), (1, .long ts_)] := (congrArg (fun x_ => lv_has ls 7 [(6, .int (nI (n + 1))), (5, .int x_), (3, .long (lN (opn C (2 * (6 + C 0))))), (0, .ref (xq 0)), (1, .long ts_)]) (show nI ((sbn C ts_ n) + 0) = nI (sbn C ts_ (n + 1)) from congrArg nI (by simp only [sbn]; first | rw [if_pos c_44] | rw [if_pos (by rw [op_f (N := 2 * (6 + C 0)) (by omega) (by omega) c_31]; exact l0_and)]))).mp hl
            exact ih_11  (n + 1) (by omega) (by omega) _ _ hP hD hS ls (lv_sub hl [0, 1, 2, 3, 4] rfl)
          · skip
            refine lv_iconst (v := nI 1) hx hb dX1_shownBy_48 (by decide) ?_
            refine lv_goto (tgt := 53) hx hb dX1_shownBy_49 (by decide) ?_
            refine nv_iadd hx hb dX1_shownBy_53 ?_
            refine lv_istore (lv' := [(5, .int (nI ((sbn C ts_ n) + 1))), (6, .int (nI n)), (3, .long (lN (opn C (2 * (6 + C 0))))), (0, .ref (xq 0)), (1, .long ts_)]) hx hb dX1_shownBy_54 hl (by decide) rfl (fun ls hl => ?_)
            refine lv_iinc (v := nI (n + 1)) (lv' := [(6, .int (nI (n + 1))), (5, .int (nI ((sbn C ts_ n) + 1))), (3, .long (lN (opn C (2 * (6 + C 0))))), (0, .ref (xq 0)), (1, .long ts_)]) hx hb dX1_shownBy_56 hl (k := 1) rfl (nI_add n 1) (by decide) rfl (fun ls hl => ?_)
            refine lv_goto (tgt := 11) hx hb dX1_shownBy_59 (by decide) ?_
            have hl : lv_has ls 7 [(6, .int (nI (n + 1))), (5, .int (nI (sbn C ts_ (n + 1)))), (3, .long (lN (opn C (2 * (6 + C 0))))), (0, .ref (xq 0)), (1, .long ts_)] := (congrArg (fun x_ => lv_has ls 7 [(6, .int (nI (n + 1))), (5, .int x_), (3, .long (lN (opn C (2 * (6 + C 0))))), (0, .ref (xq 0)), (1, .long ts_)]) (show nI ((sbn C ts_ n) + 1) = nI (sbn C ts_ (n + 1)) from congrArg nI (by simp only [sbn]; rw [if_neg c_44]))).mp hl
            exact ih_11  (n + 1) (by omega) (by omega) _ _ hP hD hS ls (lv_sub hl [0, 1, 2, 3, 4] rfl)
  exact lp_11 (2 * (6 + C 0) - 0 + 1) 0 (Nat.lt_succ_self _) (by omega) _ _ hP hD hS ls (lv_sub hl [0, 1, 2, 3, 4] rfl)
theorem mt_J16_bitCount_r (l : Launch) (D : va_G) (ca : Nat → ClassId) (y_ : Int64)  (nn : Nat) : Met l yJ16_bitCount (ws_ yJ16_bitCount cJ16_bitCount 2 (Option.some Jvm.ClassFile.FieldType.int)) ({ frames := 0, cells := 0, slots := 0, locals := 0 } : Room) (va_Pc [.long y_] (PreW Ev0 D vwCl (TY ca) ([] : va_W) nn)) (va_Qi (fun (r_ : Int32) (_ : Unit) => r_ = nI (popl 64 y_)) (PostW D vwCl (TY ca) (fun (_ : Unit) => ([] : va_W)) (va_A ([] : va_W) nn)) (va_A ([] : va_W) nn)) 0 0 (va_A ([] : va_W) nn) := by
  obtain ⟨n, hn, rfl⟩ := lN_of y_
  rw [popl_lN n 64 (Nat.le_refl _)]
  exact mt_J16_bitCount l D ca n hn nn
set_option maxHeartbeats 4000000 in
set_option maxRecDepth 100000 in
theorem mt_X1_neededTests (l : Launch) (D : va_G) (ca : Nat → ClassId) (cq : Nat → Nat) (xq : Nat → Nat) (ak : Nat → Int32) (tb_ : Nat → Int64) (va : Nat → Int32) (fy : Nat → Int64) (cn : Nat → Int32) (an : Nat → Int32) (sw : Nat → Int64) (sb : Nat → Int64) (sv : Value) (C : Nat → Nat) (h0 : C 0 ≤ 12) (hkd0 : ∀ k, k < 12 → C (1 + k) < 8) (hse : ∀ k, k < 12 → C (13 + k) < 6 + k ∧ C (25 + k) < 6 + k) (ho : C 37 < 2 ^ 18) (hbx : C 38 < 2 ^ 18) (hno : popc 18 (C 37) ≤ 4) (nn : Nat) : Met l yX1_neededTests (ws_ yX1_neededTests cX1_neededTests 4 (Option.some Jvm.ClassFile.FieldType.long)) ({ frames := 5, cells := 0, slots := 0, locals := 119 } : Room) (va_Pc [.ref (xq 0)] (PreW EvX D vwCl (TY ca) (WT ca cq xq (kdC C) (fsC C) (snC C) ak (nI (C 0)) (nI (C 37)) (nI (C 38)) (fI (C 39)) (nI (C 40)) (lN (C 66)) (nI (C 41)) tb_ va fy cn an sw sb sv) nn)) (va_Ql (fun (r_ : Int64) (u_ : (Nat → Int64) × (Nat → Int64) × (Nat → Int64) × (Nat → Int64)) => r_ = ndd C (2 * (6 + C 0))) (PostW D vwCl (TY ca) (fun (u_ : (Nat → Int64) × (Nat → Int64) × (Nat → Int64) × (Nat → Int64)) => (WT ca cq xq (kdC C) (fsC C) (snC C) ak (nI (C 0)) (nI (C 37)) (nI (C 38)) (fI (C 39)) (nI (C 40)) (lN (C 66)) (nI (C 41)) u_.1 va u_.2.1 cn an u_.2.2.1 u_.2.2.2 sv)) (va_A (WT ca cq xq (kdC C) (fsC C) (snC C) ak (nI (C 0)) (nI (C 37)) (nI (C 38)) (fI (C 39)) (nI (C 40)) (lN (C 66)) (nI (C 41)) tb_ va fy cn an sw sb sv) nn)) (va_A (WT ca cq xq (kdC C) (fsC C) (snC C) ak (nI (C 0)) (nI (C 37)) (nI (C 38)) (fI (C 39)) (nI (C 40)) (lN (C 66)) (nI (C 41)) tb_ va fy cn an sw sb sv) nn)) 0 0 (va_A (WT ca cq xq (kdC C) (fsC C) (snC C) ak (nI (C 0)) (nI (C 37)) (nI (C 38)) (fI (C 39)) (nI (C 40)) (lN (C 66)) (nI (C 41)) tb_ va fy cn an sw sb sv) nn) := by
  refine met_go (QA := fun A => va_Ql (fun (r_ : Int64) (u_ : (Nat → Int64) × (Nat → Int64) × (Nat → Int64) × (Nat → Int64)) => r_ = ndd C (2 * (6 + C 0))) (PostW D vwCl (TY ca) (fun (u_ : (Nat → Int64) × (Nat → Int64) × (Nat → Int64) × (Nat → Int64)) => (WT ca cq xq (kdC C) (fsC C) (snC C) ak (nI (C 0)) (nI (C 37)) (nI (C 38)) (fI (C 39)) (nI (C 40)) (lN (C 66)) (nI (C 41)) u_.1 va u_.2.1 cn an u_.2.2.1 u_.2.2.2 sv)) A) A) (by decide) (Nat.le_of_ble_eq_true rfl) (fun p e s m below meth c A ls QQ hQQ hx hb hr hts hown hlocks hml hA hP hK hD hE hl => ?_)
  have hown : s.vm.findClass RX1 = some m.cls := hown
  have hS : va_S A s.heap s.heap [] := va_S.rf
  have hl : lv_has ls 4 [(0, .ref (xq 0))] := hl
  generalize hHe : s.heap = H at hP ⊢
  have hS : va_S A s.heap H [] := hHe ▸ hS
  generalize ([] : List Loc) = locs at hS ⊢
  refine lv_aload_n hx hb dX1_neededTests_0 rfl (lv_at hl 0 rfl) ?_
  refine xc_l (xr_V (b := xq 0) (ci := 0) (q0 := 5) (As := []) (rest := []) (mt_X1_layShown l D ca cq xq ak tb_ va fy cn an sw sb sv C (by first | assumption | omega | (simp only [updN, forgetC, changedC]; (repeat' split) <;> omega)) (by first | assumption | omega | (simp only [updN, forgetC, changedC]; (repeat' split) <;> omega)) (by first | assumption | omega | (simp only [updN, forgetC, changedC]; (repeat' split) <;> omega)) (by first | assumption | omega | (simp only [updN, forgetC, changedC]; (repeat' split) <;> omega)) (by first | assumption | omega | (simp only [updN, forgetC, changedC]; (repeat' split) <;> omega)) (by first | assumption | omega | (simp only [updN, forgetC, changedC]; (repeat' split) <;> omega)) H.size) ⟨hx, hb, hml, hown, hts⟩ (cwV 0 hts (lw_V q435 q437 qs6 q79 q438) rfl rfl rfl (by decide +kernel) ⟨Nat.le_of_ble_eq_true rfl, Nat.le_of_ble_eq_true rfl⟩) EvX_ok hE hK hS (Cut.all hP hD hS hA) rfl rfl rfl hl.1 rfl (Nat.le_of_ble_eq_true rfl) dX1_neededTests_1 ⟨Nat.le_of_ble_eq_true rfl, Nat.le_of_ble_eq_true rfl⟩) hS (Cut.all hP hD hS hA) (fun r_1 u_2 H locs hq_1 hP hD hS => ?_)
  obtain ⟨tb1_3, fy1_4, sb1_5⟩ := u_2
  have hP : va_P D vwCl (WT ca cq xq (kdC C) (fsC C) (snC C) ak (nI (C 0)) (nI (C 37)) (nI (C 38)) (fI (C 39)) (nI (C 40)) (lN (C 66)) (nI (C 41)) tb1_3 va fy1_4 cn an (fillL (2 * (6 + C 0)) (fun f => apC C (f + 1) 0) sw) sb1_5 sv) H := hP
  have hD : va_D A (WT ca cq xq (kdC C) (fsC C) (snC C) ak (nI (C 0)) (nI (C 37)) (nI (C 38)) (fI (C 39)) (nI (C 40)) (lN (C 66)) (nI (C 41)) tb1_3 va fy1_4 cn an (fillL (2 * (6 + C 0)) (fun f => apC C (f + 1) 0) sw) sb1_5 sv) := hD
  have hp_1 : r_1 = lN (opn C (2 * (6 + C 0))) ∧ ((∀ t, t < 64 → sb1_5 t = lN (shN C (2 * (6 + C 0)) t))) := hq_1
  clear hq_1
  obtain ⟨rfl, hp_1⟩ := hp_1
  refine lv_pop2_2 hx hb dX1_neededTests_4 rfl ?_
  refine lv_lconst (v := lN 0) hx hb dX1_neededTests_5 (by decide) ?_
  refine lv_lstore_n (lv' := [(1, .long (lN 0)), (0, .ref (xq 0))]) hx hb dX1_neededTests_6 rfl hl (by decide) rfl (fun ls hl => ?_)
  refine lv_iconst (v := nI 0) hx hb dX1_neededTests_7 (by decide) ?_
  refine lv_istore_n (lv' := [(3, .int (nI 0)), (1, .long (lN 0)), (0, .ref (xq 0))]) hx hb dX1_neededTests_8 rfl hl (by decide) rfl (fun ls hl => ?_)
  have lp_9 : ∀ (fu_9 : Nat) (n : Nat), 2 * (6 + C 0) - n < fu_9 → (n ≤ 2 * (6 + C 0)) → ∀ (H : Heap) (locs : List Loc), va_P D vwCl (WT ca cq xq (kdC C) (fsC C) (snC C) ak (nI (C 0)) (nI (C 37)) (nI (C 38)) (fI (C 39)) (nI (C 40)) (lN (C 66)) (nI (C 41)) tb1_3 va fy1_4 cn an (fillL (2 * (6 + C 0)) (fun f => apC C (f + 1) 0) sw) sb1_5 sv) H → va_D A (WT ca cq xq (kdC C) (fsC C) (snC C) ak (nI (C 0)) (nI (C 37)) (nI (C 38)) (fI (C 39)) (nI (C 40)) (lN (C 66)) (nI (C 41)) tb1_3 va fy1_4 cn an (fillL (2 * (6 + C 0)) (fun f => apC C (f + 1) 0) sw) sb1_5 sv) → va_S A s.heap H locs → ∀ (ls : Array Slot), lv_has ls 4 [(3, .int (nI n)), (1, .long (ndd C n)), (0, .ref (xq 0))] → W p l e ({ frames := 5, cells := 0, slots := 0, locals := 119 } : Room) s m ([.ref (xq 0)] : List Value).toArray below meth c H locs 0 0 QQ (F0 m 9 ls []) := by
    intro fu_9
    induction fu_9 with
    | zero => intro n hfu; exact absurd hfu (Nat.not_lt_zero _)
    | succ fu_9 ih_9 =>
      intro n hfu hn H locs hP hD hS ls hl
      refine lv_iload_n hx hb dX1_neededTests_9 rfl (lv_at hl 0 rfl) ?_
      refine lv_aload_n hx hb dX1_neededTests_10 rfl (lv_at hl 2 rfl) ?_
      refine gWT_5_circuit_X1 hx hb hts hown hK hP dX1_neededTests_11 ?_
      refine xc_i (xr_V (b := cq 0) (ci := 1) (q0 := 0) (As := []) (rest := [.int (nI n)]) (mt_X2_faults l D ca cq (kdC C) (fsC C) (snC C) ak (nI (C 37)) (nI (C 38)) (fI (C 39)) (nI (C 40)) (lN (C 66)) (nI (C 41)) (C 0)  H.size) ⟨hx, hb, hml, hown, hts⟩ (cwV 0 hts (lw_V q439 q440 q441 q80 q442) rfl rfl rfl (by decide +kernel) ⟨Nat.le_of_ble_eq_true rfl, Nat.le_of_ble_eq_true rfl⟩) EvX_ok hE hK hS (Cut.app (wc := (WC ca cq (kdC C) (fsC C) (snC C) ak (nI (C 0)) (nI (C 37)) (nI (C 38)) (fI (C 39)) (nI (C 40)) (lN (C 66)) (nI (C 41)))) (wr := (WTr ca cq xq tb1_3 va fy1_4 cn an (fillL (2 * (6 + C 0)) (fun f => apC C (f + 1) 0) sw) sb1_5 sv)) hP hD hS hA) rfl rfl rfl hl.1 rfl (Nat.le_of_ble_eq_true rfl) dX1_neededTests_14 ⟨Nat.le_of_ble_eq_true rfl, Nat.le_of_ble_eq_true rfl⟩) hS (Cut.app (wc := (WC ca cq (kdC C) (fsC C) (snC C) ak (nI (C 0)) (nI (C 37)) (nI (C 38)) (fI (C 39)) (nI (C 40)) (lN (C 66)) (nI (C 41)))) (wr := (WTr ca cq xq tb1_3 va fy1_4 cn an (fillL (2 * (6 + C 0)) (fun f => apC C (f + 1) 0) sw) sb1_5 sv)) hP hD hS hA) (fun r_6 u_7 H locs hq_14 hP hD hS => ?_)
      have hP : va_P D vwCl (WT ca cq xq (kdC C) (fsC C) (snC C) ak (nI (C 0)) (nI (C 37)) (nI (C 38)) (fI (C 39)) (nI (C 40)) (lN (C 66)) (nI (C 41)) tb1_3 va fy1_4 cn an (fillL (2 * (6 + C 0)) (fun f => apC C (f + 1) 0) sw) sb1_5 sv) H := hP
      have hD : va_D A (WT ca cq xq (kdC C) (fsC C) (snC C) ak (nI (C 0)) (nI (C 37)) (nI (C 38)) (fI (C 39)) (nI (C 40)) (lN (C 66)) (nI (C 41)) tb1_3 va fy1_4 cn an (fillL (2 * (6 + C 0)) (fun f => apC C (f + 1) 0) sw) sb1_5 sv) := hD
      have hp_14 : r_6 = nI (2 * (6 + (C 0))) := hq_14
      clear hq_14
      obtain rfl := hp_14
      refine nv_icmp_ge (tgt := 52) hx hb dX1_neededTests_17 (by decide) (by omega) (by omega) (fun c_17 => ?_) (fun c_17 => ?_)
      · skip
        have e_ : 2 * (6 + C 0) = n := Eq.symm (by omega)
        subst e_
        refine lv_lload_n hx hb dX1_neededTests_52 rfl (lv_at hl 1 rfl) ?_
        subst hQQ
        exact xe_l (v := ndd C (2 * (6 + C 0))) (tb1_3, fy1_4, fillL (2 * (6 + C 0)) (fun f => apC C (f + 1) 0) sw, sb1_5) hx hb hr hlocks hK hP hD hS (rfl) dX1_neededTests_53
      · skip
        refine lv_lload_n hx hb dX1_neededTests_20 rfl (lv_at hl 1 rfl) ?_
        refine lv_aload_n hx hb dX1_neededTests_21 rfl (lv_at hl 2 rfl) ?_
        refine gWT_5_shown_X1 hx hb hts hown hK hP dX1_neededTests_22 ?_
        refine lv_iload_n hx hb dX1_neededTests_25 rfl (lv_at hl 0 rfl) ?_
        refine ldWT_11 hx hb hK hP (by omega) dX1_neededTests_26 ?_
        refine lv_topl (nm_r (e' := apC C (n + 1) 0) (fillL_at (by omega)) ?_)
        refine xc_i (xr_S (As := [.long (apC C (n + 1) 0)]) (rest := [.long (ndd C n)]) (mt_J16_bitCount_r l D ca (apC C (n + 1) 0)  H.size) ⟨hx, hb, hml, hown, hts⟩ (va_cwS 1 hts (lw_S q485 q486 q100 q487) rfl rfl rfl (by decide +kernel) ⟨Nat.le_of_ble_eq_true rfl, Nat.le_of_ble_eq_true rfl⟩) Ev0_ok trivial hK hS (Cut.app (wc := []) (wr := (WT ca cq xq (kdC C) (fsC C) (snC C) ak (nI (C 0)) (nI (C 37)) (nI (C 38)) (fI (C 39)) (nI (C 40)) (lN (C 66)) (nI (C 41)) tb1_3 va fy1_4 cn an (fillL (2 * (6 + C 0)) (fun f => apC C (f + 1) 0) sw) sb1_5 sv)) hP hD hS hA) rfl hl.1 rfl (Nat.le_of_ble_eq_true rfl) dX1_neededTests_27 ⟨Nat.le_of_ble_eq_true rfl, Nat.le_of_ble_eq_true rfl⟩) hS (Cut.app (wc := []) (wr := (WT ca cq xq (kdC C) (fsC C) (snC C) ak (nI (C 0)) (nI (C 37)) (nI (C 38)) (fI (C 39)) (nI (C 40)) (lN (C 66)) (nI (C 41)) tb1_3 va fy1_4 cn an (fillL (2 * (6 + C 0)) (fun f => apC C (f + 1) 0) sw) sb1_5 sv)) hP hD hS hA) (fun r_9 u_10 H locs hq_27 hP hD hS => ?_)
        have hP : va_P D vwCl (WT ca cq xq (kdC C) (fsC C) (snC C) ak (nI (C 0)) (nI (C 37)) (nI (C 38)) (fI (C 39)) (nI (C 40)) (lN (C 66)) (nI (C 41)) tb1_3 va fy1_4 cn an (fillL (2 * (6 + C 0)) (fun f => apC C (f + 1) 0) sw) sb1_5 sv) H := hP
        have hD : va_D A (WT ca cq xq (kdC C) (fsC C) (snC C) ak (nI (C 0)) (nI (C 37)) (nI (C 38)) (fI (C 39)) (nI (C 40)) (lN (C 66)) (nI (C 41)) tb1_3 va fy1_4 cn an (fillL (2 * (6 + C 0)) (fun f => apC C (f + 1) 0) sw) sb1_5 sv) := hD
        have hp_27 : r_9 = nI (popl 64 (apC C (n + 1) 0)) := hq_27
        clear hq_27
        obtain rfl := hp_27
        refine lv_iconst (v := nI 1) hx hb dX1_neededTests_30 (by decide) ?_
        refine nv_icmp_ne (tgt := 43) hx hb dX1_neededTests_31 (by decide) (by have := popl_le 64 (apC C (n + 1) 0); omega) (by omega) (fun c_31 => ?_) (fun c_31 => ?_)
        · skip
          refine lv_lconst (v := lN 0) hx hb dX1_neededTests_43 (by decide) ?_
          refine lv_lor hx hb dX1_neededTests_44 ?_
          refine lv_lstore_n (lv' := [(1, .long ((ndd C n) ||| (lN 0))), (3, .int (nI n)), (0, .ref (xq 0))]) hx hb dX1_neededTests_45 rfl hl (by decide) rfl (fun ls hl => ?_)
          refine lv_iinc (v := nI (n + 1)) (lv' := [(3, .int (nI (n + 1))), (1, .long ((ndd C n) ||| (lN 0))), (0, .ref (xq 0))]) hx hb dX1_neededTests_46 hl (k := 1) rfl (nI_add n 1) (by decide) rfl (fun ls hl => ?_)
          refine lv_goto (tgt := 9) hx hb dX1_neededTests_49 (by decide) ?_
          have hl : lv_has ls 4 [(3, .int (nI (n + 1))), (1, .long (ndd C (n + 1))), (0, .ref (xq 0))] := (congrArg (fun x_ => lv_has ls 4 [(3, .int (nI (n + 1))), (1, .long x_), (0, .ref (xq 0))]) (show (ndd C n) ||| (lN 0) = ndd C (n + 1) from by simp only [ndd]; first | rw [if_pos c_31] | rw [if_neg c_31])).mp hl
          exact ih_9  (n + 1) (by omega) (by omega) _ _ hP hD hS ls (lv_sub hl [0, 1, 2] rfl)
        · skip
          refine lv_aload_n hx hb dX1_neededTests_34 rfl (lv_at hl 2 rfl) ?_
          refine gWT_5_shown_X1 hx hb hts hown hK hP dX1_neededTests_35 ?_
          refine lv_iload_n hx hb dX1_neededTests_38 rfl (lv_at hl 0 rfl) ?_
          refine ldWT_11 hx hb hK hP (by omega) dX1_neededTests_39 ?_
          refine lv_topl (nm_r (e' := apC C (n + 1) 0) (fillL_at (by omega)) ?_)
          refine lv_goto (tgt := 44) hx hb dX1_neededTests_40 (by decide) ?_
          refine lv_lor hx hb dX1_neededTests_44 ?_
          refine lv_lstore_n (lv' := [(1, .long ((ndd C n) ||| (apC C (n + 1) 0))), (3, .int (nI n)), (0, .ref (xq 0))]) hx hb dX1_neededTests_45 rfl hl (by decide) rfl (fun ls hl => ?_)
          refine lv_iinc (v := nI (n + 1)) (lv' := [(3, .int (nI (n + 1))), (1, .long ((ndd C n) ||| (apC C (n + 1) 0))), (0, .ref (xq 0))]) hx hb dX1_neededTests_46 hl (k := 1) rfl (nI_add n 1) (by decide) rfl (fun ls hl => ?_)
          refine lv_goto (tgt := 9) hx hb dX1_neededTests_49 (by decide) ?_
          have hl : lv_has ls 4 [(3, .int (nI (n + 1))), (1, .long (ndd C (n + 1))), (0, .ref (xq 0))] := (congrArg (fun x_ => lv_has ls 4 [(3, .int (nI (n + 1))), (1, .long x_), (0, .ref (xq 0))]) (show (ndd C n) ||| (apC C (n + 1) 0) = ndd C (n + 1) from by simp only [ndd]; first | rw [if_pos c_31] | rw [if_neg c_31])).mp hl
          exact ih_9  (n + 1) (by omega) (by omega) _ _ hP hD hS ls (lv_sub hl [0, 1, 2] rfl)
  exact lp_9 (2 * (6 + C 0) - 0 + 1) 0 (Nat.lt_succ_self _) (by omega) _ _ hP hD hS ls (lv_sub hl [0, 1, 2] rfl)
set_option maxHeartbeats 4000000 in
set_option maxRecDepth 100000 in
theorem mt_X1_whyHidden_ok (l : Launch) (D : va_G) (ca : Nat → ClassId) (cq : Nat → Nat) (xq : Nat → Nat) (ak : Nat → Int32) (tb_ : Nat → Int64) (va : Nat → Int32) (fy : Nat → Int64) (cn : Nat → Int32) (an : Nat → Int32) (sw : Nat → Int64) (sb : Nat → Int64) (sv : Value) (C : Nat → Nat) (F_ : Nat) (h0 : C 0 ≤ 12) (hkd0 : ∀ k, k < 12 → C (1 + k) < 8) (hse : ∀ k, k < 12 → C (13 + k) < 6 + k ∧ C (25 + k) < 6 + k) (ho : C 37 < 2 ^ 18) (hbx : C 38 < 2 ^ 18) (hno : popc 18 (C 37) ≤ 4) (hF0 : F_ ≠ 0) (hF : F_ ≤ 2 * (6 + C 0)) (hosz : C 37 < 2 ^ (6 + C 0)) (nn : Nat) : Met l yX1_whyHidden (ws_ yX1_whyHidden cX1_whyHidden 2 (Option.some Jvm.ClassFile.FieldType.int)) ({ frames := 4, cells := 0, slots := 0, locals := 95 } : Room) (va_Pc [.ref (xq 0), .int (fI F_)] (PreW EvX D vwCl (TY ca) (WT ca cq xq (kdC C) (fsC C) (snC C) ak (nI (C 0)) (nI (C 37)) (nI (C 38)) (fI (C 39)) (nI (C 40)) (lN (C 66)) (nI (C 41)) tb_ va fy cn an sw sb sv) nn)) (va_Qi (fun (r_ : Int32) (u_ : (Nat → Int64) × (Nat → Int64)) => r_ = nI (wyh C F_)) (PostW D vwCl (TY ca) (fun (u_ : (Nat → Int64) × (Nat → Int64)) => (WT ca cq xq (kdC C) (fsC C) (snC C) ak (nI (C 0)) (nI (C 37)) (nI (C 38)) (fI (C 39)) (nI (C 40)) (lN (C 66)) (nI (C 41)) u_.1 va u_.2 cn an sw sb sv)) (va_A (WT ca cq xq (kdC C) (fsC C) (snC C) ak (nI (C 0)) (nI (C 37)) (nI (C 38)) (fI (C 39)) (nI (C 40)) (lN (C 66)) (nI (C 41)) tb_ va fy cn an sw sb sv) nn)) (va_A (WT ca cq xq (kdC C) (fsC C) (snC C) ak (nI (C 0)) (nI (C 37)) (nI (C 38)) (fI (C 39)) (nI (C 40)) (lN (C 66)) (nI (C 41)) tb_ va fy cn an sw sb sv) nn)) 0 0 (va_A (WT ca cq xq (kdC C) (fsC C) (snC C) ak (nI (C 0)) (nI (C 37)) (nI (C 38)) (fI (C 39)) (nI (C 40)) (lN (C 66)) (nI (C 41)) tb_ va fy cn an sw sb sv) nn) := by
  refine met_go (QA := fun A => va_Qi (fun (r_ : Int32) (u_ : (Nat → Int64) × (Nat → Int64)) => r_ = nI (wyh C F_)) (PostW D vwCl (TY ca) (fun (u_ : (Nat → Int64) × (Nat → Int64)) => (WT ca cq xq (kdC C) (fsC C) (snC C) ak (nI (C 0)) (nI (C 37)) (nI (C 38)) (fI (C 39)) (nI (C 40)) (lN (C 66)) (nI (C 41)) u_.1 va u_.2 cn an sw sb sv)) A) A) (by decide) (Nat.le_of_ble_eq_true rfl) (fun p e s m below meth c A ls QQ hQQ hx hb hr hts hown hlocks hml hA hP hK hD hE hl => ?_)
  have hown : s.vm.findClass RX1 = some m.cls := hown
  have hS : va_S A s.heap s.heap [] := va_S.rf
  have hl : lv_has ls 2 [(0, .ref (xq 0)), (1, .int (fI F_))] := hl
  generalize hHe : s.heap = H at hP ⊢
  have hS : va_S A s.heap H [] := hHe ▸ hS
  generalize ([] : List Loc) = locs at hS ⊢
  refine lv_aload_n hx hb dX1_whyHidden_0 rfl (lv_at hl 0 rfl) ?_
  refine lv_iload_n hx hb dX1_whyHidden_1 rfl (lv_at hl 1 rfl) ?_
  refine xc_v (xr_V (b := xq 0) (ci := 0) (q0 := 5) (As := [.int (fI F_)]) (rest := []) (mt_X1_needFault_ok l D ca cq xq ak tb_ va fy cn an sw sb sv C F_ (by first | assumption | omega | (simp only [updN, forgetC, changedC]; (repeat' split) <;> omega)) (by first | assumption | omega | (simp only [updN, forgetC, changedC]; (repeat' split) <;> omega)) (by first | assumption | omega | (simp only [updN, forgetC, changedC]; (repeat' split) <;> omega)) H.size) ⟨hx, hb, hml, hown, hts⟩ (cwV 1 hts (lw_V q1040 q1042 qs21 q79 q1043) rfl rfl rfl (by decide +kernel) ⟨Nat.le_of_ble_eq_true rfl, Nat.le_of_ble_eq_true rfl⟩) EvX_ok hE hK hS (Cut.all hP hD hS hA) rfl rfl rfl hl.1 rfl (Nat.le_of_ble_eq_true rfl) dX1_whyHidden_2 ⟨Nat.le_of_ble_eq_true rfl, Nat.le_of_ble_eq_true rfl⟩) hS (Cut.all hP hD hS hA) (fun u_2 H locs hq_2 hP hD hS => ?_)
  have hP : va_P D vwCl (WT ca cq xq (kdC C) (fsC C) (snC C) ak (nI (C 0)) (nI (C 37)) (nI (C 38)) (fI (C 39)) (nI (C 40)) (lN (C 66)) (nI (C 41)) tb_ va fy cn an sw sb sv) H := hP
  have hD : va_D A (WT ca cq xq (kdC C) (fsC C) (snC C) ak (nI (C 0)) (nI (C 37)) (nI (C 38)) (fI (C 39)) (nI (C 40)) (lN (C 66)) (nI (C 41)) tb_ va fy cn an sw sb sv) := hD
  refine lv_aload_n hx hb dX1_whyHidden_5 rfl (lv_at hl 0 rfl) ?_
  refine lv_iload_n hx hb dX1_whyHidden_6 rfl (lv_at hl 1 rfl) ?_
  refine lv_iconst (v := fI 0) hx hb dX1_whyHidden_7 (by decide) ?_
  refine xc_l (xr_V (b := xq 0) (ci := 0) (q0 := 5) (As := [.int (fI F_), .int (fI 0)]) (rest := []) (mt_X1_testsBy l D ca cq xq ak tb_ va fy cn an sw sb sv C F_ 0 (by first | assumption | omega | (simp only [updN, forgetC, changedC]; (repeat' split) <;> omega)) (by first | assumption | omega | (simp only [updN, forgetC, changedC]; (repeat' split) <;> omega)) (by first | assumption | omega | (simp only [updN, forgetC, changedC]; (repeat' split) <;> omega)) (by first | assumption | omega | (simp only [updN, forgetC, changedC]; (repeat' split) <;> omega)) (by first | assumption | omega | (simp only [updN, forgetC, changedC]; (repeat' split) <;> omega)) (by first | assumption | omega | (simp only [updN, forgetC, changedC]; (repeat' split) <;> omega)) (by first | assumption | omega | (simp only [updN, forgetC, changedC]; (repeat' split) <;> omega)) (by first | assumption | omega | (simp only [updN, forgetC, changedC]; (repeat' split) <;> omega)) H.size) ⟨hx, hb, hml, hown, hts⟩ (cwV 2 hts (lw_V q447 q449 qs7 q79 q450) rfl rfl rfl (by decide +kernel) ⟨Nat.le_of_ble_eq_true rfl, Nat.le_of_ble_eq_true rfl⟩) EvX_ok hE hK hS (Cut.all hP hD hS hA) rfl rfl rfl hl.1 rfl (Nat.le_of_ble_eq_true rfl) dX1_whyHidden_8 ⟨Nat.le_of_ble_eq_true rfl, Nat.le_of_ble_eq_true rfl⟩) hS (Cut.all hP hD hS hA) (fun r_3 u_4 H locs hq_8 hP hD hS => ?_)
  obtain ⟨tb1_5, fy1_6⟩ := u_4
  have hP : va_P D vwCl (WT ca cq xq (kdC C) (fsC C) (snC C) ak (nI (C 0)) (nI (C 37)) (nI (C 38)) (fI (C 39)) (nI (C 40)) (lN (C 66)) (nI (C 41)) tb1_5 va fy1_6 cn an sw sb sv) H := hP
  have hD : va_D A (WT ca cq xq (kdC C) (fsC C) (snC C) ak (nI (C 0)) (nI (C 37)) (nI (C 38)) (fI (C 39)) (nI (C 40)) (lN (C 66)) (nI (C 41)) tb1_5 va fy1_6 cn an sw sb sv) := hD
  have hp_8 : r_3 = apC C F_ 0 := hq_8
  clear hq_8
  obtain rfl := hp_8
  refine lv_lconst (v := lN 0) hx hb dX1_whyHidden_11 (by decide) ?_
  refine nv_lcmp_eq (tgt := 18) hx hb dX1_whyHidden_12 dX1_whyHidden_13 (by decide) (fun c_12 => ?_) (fun c_12 => ?_)
  · skip
    refine lv_aload_n hx hb dX1_whyHidden_18 rfl (lv_at hl 0 rfl) ?_
    refine xc_i (xr_V (b := xq 0) (ci := 0) (q0 := 5) (As := []) (rest := []) (mt_X1_lively l D ca cq xq ak tb1_5 va fy1_6 cn an sw sb sv C (by first | assumption | omega | (simp only [updN, forgetC, changedC]; (repeat' split) <;> omega)) (by first | assumption | omega | (simp only [updN, forgetC, changedC]; (repeat' split) <;> omega)) (by first | assumption | omega | (simp only [updN, forgetC, changedC]; (repeat' split) <;> omega)) (by first | assumption | omega | (simp only [updN, forgetC, changedC]; (repeat' split) <;> omega)) (by first | assumption | omega | (simp only [updN, forgetC, changedC]; (repeat' split) <;> omega)) H.size) ⟨hx, hb, hml, hown, hts⟩ (cwV 0 hts (lw_V q1001 q1003 qs17 q79 q1004) rfl rfl rfl (by decide +kernel) ⟨Nat.le_of_ble_eq_true rfl, Nat.le_of_ble_eq_true rfl⟩) EvX_ok hE hK hS (Cut.all hP hD hS hA) rfl rfl rfl hl.1 rfl (Nat.le_of_ble_eq_true rfl) dX1_whyHidden_19 ⟨Nat.le_of_ble_eq_true rfl, Nat.le_of_ble_eq_true rfl⟩) hS (Cut.all hP hD hS hA) (fun r_8 u_9 H locs hq_19 hP hD hS => ?_)
    have hP : va_P D vwCl (WT ca cq xq (kdC C) (fsC C) (snC C) ak (nI (C 0)) (nI (C 37)) (nI (C 38)) (fI (C 39)) (nI (C 40)) (lN (C 66)) (nI (C 41)) tb1_5 va fy1_6 cn an sw sb sv) H := hP
    have hD : va_D A (WT ca cq xq (kdC C) (fsC C) (snC C) ak (nI (C 0)) (nI (C 37)) (nI (C 38)) (fI (C 39)) (nI (C 40)) (lN (C 66)) (nI (C 41)) tb1_5 va fy1_6 cn an sw sb sv) := hD
    have hp_19 : r_8 = nI (bo C (C 0) (C 37)) := hq_19
    clear hq_19
    obtain rfl := hp_19
    refine lv_iload_n hx hb dX1_whyHidden_22 rfl (lv_at hl 1 rfl) ?_
    refine lv_topi (nm_r (e' := nI (F_ - 1)) (fI_pos hF0) ?_)
    refine lv_iconst (v := nI 2) hx hb dX1_whyHidden_23 (by decide) ?_
    refine nv_idiv hx hb dX1_whyHidden_24 (by omega) (by omega) (by omega) ?_
    refine xc_i (xr_S (As := [.int (nI (bo C (C 0) (C 37))), .int (nI ((F_ - 1) / 2))]) (rest := []) (mt_X1_isIn l D ca (bo C (C 0) (C 37)) ((F_ - 1) / 2) (by omega) (Nat.lt_trans (bo_lt h0 hse ho) (by decide)) H.size) ⟨hx, hb, hml, hown, hts⟩ (va_cwS 2 hts (lw_S q464 q465 q79 q466) rfl rfl rfl (by decide +kernel) ⟨Nat.le_of_ble_eq_true rfl, Nat.le_of_ble_eq_true rfl⟩) Ev0_ok trivial hK hS (Cut.app (wc := []) (wr := (WT ca cq xq (kdC C) (fsC C) (snC C) ak (nI (C 0)) (nI (C 37)) (nI (C 38)) (fI (C 39)) (nI (C 40)) (lN (C 66)) (nI (C 41)) tb1_5 va fy1_6 cn an sw sb sv)) hP hD hS hA) rfl hl.1 rfl (Nat.le_of_ble_eq_true rfl) dX1_whyHidden_25 ⟨Nat.le_of_ble_eq_true rfl, Nat.le_of_ble_eq_true rfl⟩) hS (Cut.app (wc := []) (wr := (WT ca cq xq (kdC C) (fsC C) (snC C) ak (nI (C 0)) (nI (C 37)) (nI (C 38)) (fI (C 39)) (nI (C 40)) (lN (C 66)) (nI (C 41)) tb1_5 va fy1_6 cn an sw sb sv)) hP hD hS hA) (fun r_10 u_11 H locs hq_25 hP hD hS => ?_)
    have hP : va_P D vwCl (WT ca cq xq (kdC C) (fsC C) (snC C) ak (nI (C 0)) (nI (C 37)) (nI (C 38)) (fI (C 39)) (nI (C 40)) (lN (C 66)) (nI (C 41)) tb1_5 va fy1_6 cn an sw sb sv) H := hP
    have hD : va_D A (WT ca cq xq (kdC C) (fsC C) (snC C) ak (nI (C 0)) (nI (C 37)) (nI (C 38)) (fI (C 39)) (nI (C 40)) (lN (C 66)) (nI (C 41)) tb1_5 va fy1_6 cn an sw sb sv) := hD
    have hp_25 : r_10 = bI ((bo C (C 0) (C 37)).testBit ((F_ - 1) / 2)) := hq_25
    clear hq_25
    obtain rfl := hp_25
    refine nv_ifb_ne (tgt := 33) hx hb dX1_whyHidden_28 (by decide) (fun c_28 => ?_) (fun c_28 => ?_)
    · skip
      refine lv_aload_n hx hb dX1_whyHidden_33 rfl (lv_at hl 0 rfl) ?_
      refine lv_iconst (v := fI 0) hx hb dX1_whyHidden_34 (by decide) ?_
      refine lv_iconst (v := fI 0) hx hb dX1_whyHidden_35 (by decide) ?_
      refine xc_v (xr_V (b := xq 0) (ci := 0) (q0 := 5) (As := [.int (fI 0), .int (fI 0)]) (rest := []) (mt_X1_layTables l D ca cq xq ak tb1_5 va fy1_6 cn an sw sb sv C 0 0 (by first | assumption | omega | (simp only [updN, forgetC, changedC]; (repeat' split) <;> omega)) (by first | assumption | omega | (simp only [updN, forgetC, changedC]; (repeat' split) <;> omega)) (by first | assumption | omega | (simp only [updN, forgetC, changedC]; (repeat' split) <;> omega)) (by first | assumption | omega | (simp only [updN, forgetC, changedC]; (repeat' split) <;> omega)) (by first | assumption | omega | (simp only [updN, forgetC, changedC]; (repeat' split) <;> omega)) (by first | assumption | omega | (simp only [updN, forgetC, changedC]; (repeat' split) <;> omega)) (by first | assumption | omega | (simp only [updN, forgetC, changedC]; (repeat' split) <;> omega)) (by first | assumption | omega | (simp only [updN, forgetC, changedC]; (repeat' split) <;> omega)) H.size) ⟨hx, hb, hml, hown, hts⟩ (cwV 2 hts (lw_V q451 q453 qs8 q79 q454) rfl rfl rfl (by decide +kernel) ⟨Nat.le_of_ble_eq_true rfl, Nat.le_of_ble_eq_true rfl⟩) EvX_ok hE hK hS (Cut.all hP hD hS hA) rfl rfl rfl hl.1 rfl (Nat.le_of_ble_eq_true rfl) dX1_whyHidden_36 ⟨Nat.le_of_ble_eq_true rfl, Nat.le_of_ble_eq_true rfl⟩) hS (Cut.all hP hD hS hA) (fun u_14 H locs hq_36 hP hD hS => ?_)
      have hP : va_P D vwCl (WT ca cq xq (kdC C) (fsC C) (snC C) ak (nI (C 0)) (nI (C 37)) (nI (C 38)) (fI (C 39)) (nI (C 40)) (lN (C 66)) (nI (C 41)) (fillL (6 + C 0) (tb C 0 0) tb1_5) va fy1_6 cn an sw sb sv) H := hP
      have hD : va_D A (WT ca cq xq (kdC C) (fsC C) (snC C) ak (nI (C 0)) (nI (C 37)) (nI (C 38)) (fI (C 39)) (nI (C 40)) (lN (C 66)) (nI (C 41)) (fillL (6 + C 0) (tb C 0 0) tb1_5) va fy1_6 cn an sw sb sv) := hD
      refine lv_aload_n hx hb dX1_whyHidden_39 rfl (lv_at hl 0 rfl) ?_
      refine gWT_5_tables_X1 hx hb hts hown hK hP dX1_whyHidden_40 ?_
      refine lv_iload_n hx hb dX1_whyHidden_43 rfl (lv_at hl 1 rfl) ?_
      refine lv_topi (nm_r (e' := nI (F_ - 1)) (fI_pos hF0) ?_)
      refine lv_iconst (v := nI 2) hx hb dX1_whyHidden_44 (by decide) ?_
      refine nv_idiv hx hb dX1_whyHidden_45 (by omega) (by omega) (by omega) ?_
      refine ldWT_6 hx hb hK hP (by omega) dX1_whyHidden_46 ?_
      refine lv_topl (nm_r (e' := tb C 0 0 ((F_ - 1) / 2)) (fillL_at (by omega)) ?_)
      refine lv_iload_n hx hb dX1_whyHidden_47 rfl (lv_at hl 1 rfl) ?_
      refine lv_topi (nm_r (e' := nI (F_ - 1)) (fI_pos hF0) ?_)
      refine lv_iconst (v := nI 2) hx hb dX1_whyHidden_48 (by decide) ?_
      refine nv_irem hx hb dX1_whyHidden_49 (by omega) (by omega) (by omega) ?_
      refine lv_i2l (v := lN ((F_ - 1) % 2)) hx hb dX1_whyHidden_50 (nI_l (by omega)) ?_
      refine lv_lneg hx hb dX1_whyHidden_51 ?_
      refine lv_topl (nm_r (e' := if (F_ - 1) % 2 = 1 then -1 else lN 0) (stk_n) ?_)
      refine nv_lcmp_ne (tgt := 60) hx hb dX1_whyHidden_52 dX1_whyHidden_53 (by decide) (fun c_52 => ?_) (fun c_52 => ?_)
      · skip
        refine lv_iconst (v := nI 3) hx hb dX1_whyHidden_60 (by decide) ?_
        subst hQQ
        exact xe_i (v := nI 3) (fillL (6 + C 0) (tb C 0 0) tb1_5, fy1_6) hx hb hr hlocks hK hP hD hS (congrArg nI (by unfold wyh; first | (rw [if_pos c_12]; done) | (rw [if_neg (fun h_ => h_ c_12), if_pos c_28]; done) | (rw [if_neg (fun h_ => h_ c_12), if_neg (by rw [c_28]; decide)]; first | (rw [if_pos c_52]; done) | (rw [if_neg c_52]; done)))) dX1_whyHidden_61
      · skip
        refine lv_iconst (v := nI 2) hx hb dX1_whyHidden_56 (by decide) ?_
        refine lv_goto (tgt := 61) hx hb dX1_whyHidden_57 (by decide) ?_
        subst hQQ
        exact xe_i (v := nI 2) (fillL (6 + C 0) (tb C 0 0) tb1_5, fy1_6) hx hb hr hlocks hK hP hD hS (congrArg nI (by unfold wyh; first | (rw [if_pos c_12]; done) | (rw [if_neg (fun h_ => h_ c_12), if_pos c_28]; done) | (rw [if_neg (fun h_ => h_ c_12), if_neg (by rw [c_28]; decide)]; first | (rw [if_pos c_52]; done) | (rw [if_neg c_52]; done)))) dX1_whyHidden_61
    · skip
      refine lv_iconst (v := nI 1) hx hb dX1_whyHidden_31 (by decide) ?_
      subst hQQ
      exact xe_i (v := nI 1) (tb1_5, fy1_6) hx hb hr hlocks hK hP hD hS (congrArg nI (by unfold wyh; first | (rw [if_pos c_12]; done) | (rw [if_neg (fun h_ => h_ c_12), if_pos c_28]; done) | (rw [if_neg (fun h_ => h_ c_12), if_neg (by rw [c_28]; decide)]; first | (rw [if_pos c_52]; done) | (rw [if_neg c_52]; done)))) dX1_whyHidden_32
  · skip
    refine lv_iconst (v := nI 0) hx hb dX1_whyHidden_16 (by decide) ?_
    subst hQQ
    exact xe_i (v := nI 0) (tb1_5, fy1_6) hx hb hr hlocks hK hP hD hS (congrArg nI (by unfold wyh; first | (rw [if_pos c_12]; done) | (rw [if_neg (fun h_ => h_ c_12), if_pos c_28]; done) | (rw [if_neg (fun h_ => h_ c_12), if_neg (by rw [c_28]; decide)]; first | (rw [if_pos c_52]; done) | (rw [if_neg c_52]; done)))) dX1_whyHidden_17
