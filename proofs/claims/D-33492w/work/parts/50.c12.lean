/-! the component: candidates by tables -/
set_option maxRecDepth 100000
theorem ak_div {t a : Nat} (h : a < 16) : (16 * t + a) / 16 = t := by omega
theorem ak_mod {t a : Nat} (h : a < 16) : (16 * t + a) % 16 = a := by omega
set_option maxHeartbeats 4000000 in
set_option maxRecDepth 100000 in
theorem mt_X1_isCandidate (l : Launch) (D : va_G) (ca : Nat → ClassId) (cq : Nat → Nat) (xq : Nat → Nat) (ak : Nat → Int32) (tb_ : Nat → Int64) (va : Nat → Int32) (fy : Nat → Int64) (cn : Nat → Int32) (an : Nat → Int32) (sw : Nat → Int64) (sb : Nat → Int64) (sv : Value) (C : Nat → Nat) (K_ : Nat) (F_ : Nat) (h0 : C 0 ≤ 12) (hkd0 : ∀ k, k < 12 → C (1 + k) < 8) (hse : ∀ k, k < 12 → C (13 + k) < 6 + k ∧ C (25 + k) < 6 + k) (ho : C 37 < 2 ^ 18) (hbx : C 38 < 2 ^ 18) (hno : popc 18 (C 37) ≤ 4) (hK : K_ ≤ 216) (hF : F_ ≤ 100) (hak : C 41 ≤ 12) (hAk : AkOk C ak) (ha16 : ∀ k, k < 12 → C (54 + k) < 16) (ht64 : ∀ k, k < 12 → C (42 + k) < 64) (nn : Nat) : Met l yX1_isCandidate (ws_ yX1_isCandidate cX1_isCandidate 5 (Option.some Jvm.ClassFile.FieldType.boolean)) ({ frames := 3, cells := 0, slots := 0, locals := 70 } : Room) (va_Pc [.ref (xq 0), .int (fI K_), .int (nI F_)] (PreW EvX D vwCl (TY ca) (WT ca cq xq (kdC C) (fsC C) (snC C) ak (nI (C 0)) (nI (C 37)) (nI (C 38)) (fI (C 39)) (nI (C 40)) (lN (C 66)) (nI (C 41)) tb_ va fy cn an sw sb sv) nn)) (va_Qi (fun (r_ : Int32) (u_ : (Nat → Int64) × (Nat → Int32)) => r_ = bI (candB C K_ F_) ∧ (∀ t, t < 64 → u_.2 t = nI (anC C K_ F_ t))) (PostW D vwCl (TY ca) (fun (u_ : (Nat → Int64) × (Nat → Int32)) => (WT ca cq xq (kdC C) (fsC C) (snC C) ak (nI (C 0)) (nI (C 37)) (nI (C 38)) (fI (C 39)) (nI (C 40)) (lN (C 66)) (nI (C 41)) u_.1 va fy cn u_.2 sw sb sv)) (va_A (WT ca cq xq (kdC C) (fsC C) (snC C) ak (nI (C 0)) (nI (C 37)) (nI (C 38)) (fI (C 39)) (nI (C 40)) (lN (C 66)) (nI (C 41)) tb_ va fy cn an sw sb sv) nn)) (va_A (WT ca cq xq (kdC C) (fsC C) (snC C) ak (nI (C 0)) (nI (C 37)) (nI (C 38)) (fI (C 39)) (nI (C 40)) (lN (C 66)) (nI (C 41)) tb_ va fy cn an sw sb sv) nn)) 0 0 (va_A (WT ca cq xq (kdC C) (fsC C) (snC C) ak (nI (C 0)) (nI (C 37)) (nI (C 38)) (fI (C 39)) (nI (C 40)) (lN (C 66)) (nI (C 41)) tb_ va fy cn an sw sb sv) nn) := by
  refine met_go (QA := fun A => va_Qi (fun (r_ : Int32) (u_ : (Nat → Int64) × (Nat → Int32)) => r_ = bI (candB C K_ F_) ∧ (∀ t, t < 64 → u_.2 t = nI (anC C K_ F_ t))) (PostW D vwCl (TY ca) (fun (u_ : (Nat → Int64) × (Nat → Int32)) => (WT ca cq xq (kdC C) (fsC C) (snC C) ak (nI (C 0)) (nI (C 37)) (nI (C 38)) (fI (C 39)) (nI (C 40)) (lN (C 66)) (nI (C 41)) u_.1 va fy cn u_.2 sw sb sv)) A) A) (by decide) (Nat.le_of_ble_eq_true rfl) (fun p e s m below meth c A ls QQ hQQ hx hb hr hts hown hlocks hml hA hP hK hD hE hl => ?_)
  have hown : s.vm.findClass RX1 = some m.cls := hown
  have hS : va_S A s.heap s.heap [] := va_S.rf
  have hl : lv_has ls 5 [(0, .ref (xq 0)), (1, .int (fI K_)), (2, .int (nI F_))] := hl
  generalize hHe : s.heap = H at hP ⊢
  have hS : va_S A s.heap H [] := hHe ▸ hS
  generalize ([] : List Loc) = locs at hS ⊢
  refine lv_aload_n hx hb dX1_isCandidate_0 rfl (lv_at hl 0 rfl) ?_
  refine lv_iload_n hx hb dX1_isCandidate_1 rfl (lv_at hl 1 rfl) ?_
  refine lv_iload_n hx hb dX1_isCandidate_2 rfl (lv_at hl 2 rfl) ?_
  refine lv_iconst (v := nI 1) hx hb dX1_isCandidate_3 (by decide) ?_
  refine lv_isub hx hb dX1_isCandidate_4 ?_
  refine lv_topi (nm_r (e' := fI F_) (rfl) ?_)
  refine xc_v (xr_V (b := xq 0) (ci := 0) (q0 := 5) (As := [.int (fI K_), .int (fI F_)]) (rest := []) (mt_X1_layTables l D ca cq xq ak tb_ va fy cn an sw sb sv C K_ F_ (by first | assumption | omega | (simp only [updN, forgetC, changedC]; (repeat' split) <;> omega)) (by first | assumption | omega | (simp only [updN, forgetC, changedC]; (repeat' split) <;> omega)) (by first | assumption | omega | (simp only [updN, forgetC, changedC]; (repeat' split) <;> omega)) (by first | assumption | omega | (simp only [updN, forgetC, changedC]; (repeat' split) <;> omega)) (by first | assumption | omega | (simp only [updN, forgetC, changedC]; (repeat' split) <;> omega)) (by first | assumption | omega | (simp only [updN, forgetC, changedC]; (repeat' split) <;> omega)) (by first | assumption | omega | (simp only [updN, forgetC, changedC]; (repeat' split) <;> omega)) (by first | assumption | omega | (simp only [updN, forgetC, changedC]; (repeat' split) <;> omega)) H.size) ⟨hx, hb, hml, hown, hts⟩ (cwV 2 hts (lw_V q451 q453 qs8 q79 q454) rfl rfl rfl (by decide +kernel) ⟨Nat.le_of_ble_eq_true rfl, Nat.le_of_ble_eq_true rfl⟩) EvX_ok hE hK hS (Cut.all hP hD hS hA) rfl rfl rfl hl.1 rfl (Nat.le_of_ble_eq_true rfl) dX1_isCandidate_5 ⟨Nat.le_of_ble_eq_true rfl, Nat.le_of_ble_eq_true rfl⟩) hS (Cut.all hP hD hS hA) (fun u_2 H locs hq_5 hP hD hS => ?_)
  have hP : va_P D vwCl (WT ca cq xq (kdC C) (fsC C) (snC C) ak (nI (C 0)) (nI (C 37)) (nI (C 38)) (fI (C 39)) (nI (C 40)) (lN (C 66)) (nI (C 41)) (fillL (6 + C 0) (tb C K_ F_) tb_) va fy cn an sw sb sv) H := hP
  have hD : va_D A (WT ca cq xq (kdC C) (fsC C) (snC C) ak (nI (C 0)) (nI (C 37)) (nI (C 38)) (fI (C 39)) (nI (C 40)) (lN (C 66)) (nI (C 41)) (fillL (6 + C 0) (tb C K_ F_) tb_) va fy cn an sw sb sv) := hD
  refine lv_aload_n hx hb dX1_isCandidate_8 rfl (lv_at hl 0 rfl) ?_
  refine xc_v (xr_V (b := xq 0) (ci := 0) (q0 := 5) (As := []) (rest := []) (mt_X1_layAnswers l D ca cq xq ak va fy cn an sw sb sv C (tb C K_ F_) tb_ (by first | assumption | omega | (simp only [updN, forgetC, changedC]; (repeat' split) <;> omega)) (by first | assumption | omega | (simp only [updN, forgetC, changedC]; (repeat' split) <;> omega)) (by first | assumption | omega | (simp only [updN, forgetC, changedC]; (repeat' split) <;> omega)) H.size) ⟨hx, hb, hml, hown, hts⟩ (cwV 0 hts (lw_V q1111 q1113 qs28 q79 q1114) rfl rfl rfl (by decide +kernel) ⟨Nat.le_of_ble_eq_true rfl, Nat.le_of_ble_eq_true rfl⟩) EvX_ok hE hK hS (Cut.all hP hD hS hA) rfl rfl rfl hl.1 rfl (Nat.le_of_ble_eq_true rfl) dX1_isCandidate_9 ⟨Nat.le_of_ble_eq_true rfl, Nat.le_of_ble_eq_true rfl⟩) hS (Cut.all hP hD hS hA) (fun u_4 H locs hq_9 hP hD hS => ?_)
  obtain ⟨an1_5, rfl⟩ : ∃ z_, z_ = u_4 := ⟨_, rfl⟩
  have hP : va_P D vwCl (WT ca cq xq (kdC C) (fsC C) (snC C) ak (nI (C 0)) (nI (C 37)) (nI (C 38)) (fI (C 39)) (nI (C 40)) (lN (C 66)) (nI (C 41)) (fillL (6 + C 0) (tb C K_ F_) tb_) va fy cn an1_5 sw sb sv) H := hP
  have hD : va_D A (WT ca cq xq (kdC C) (fsC C) (snC C) ak (nI (C 0)) (nI (C 37)) (nI (C 38)) (fI (C 39)) (nI (C 40)) (lN (C 66)) (nI (C 41)) (fillL (6 + C 0) (tb C K_ F_) tb_) va fy cn an1_5 sw sb sv) := hD
  have hp_9 : ∀ t, t < 64 → an1_5 t = nI (anL C (tb C K_ F_) t (6 + C 0)) := hq_9
  clear hq_9
  refine lv_iconst (v := nI 1) hx hb dX1_isCandidate_12 (by decide) ?_
  refine lv_istore_n (lv' := [(3, .int (nI 1)), (0, .ref (xq 0)), (1, .int (fI K_)), (2, .int (nI F_))]) hx hb dX1_isCandidate_13 rfl hl (by decide) rfl (fun ls hl => ?_)
  refine lv_iconst (v := nI 0) hx hb dX1_isCandidate_14 (by decide) ?_
  refine lv_istore (lv' := [(4, .int (nI 0)), (3, .int (nI 1)), (0, .ref (xq 0)), (1, .int (fI K_)), (2, .int (nI F_))]) hx hb dX1_isCandidate_15 hl (by decide) rfl (fun ls hl => ?_)
  have lp_17 : ∀ (fu_17 : Nat) (k : Nat), C 41 - k < fu_17 → (k ≤ C 41) → ∀ (H : Heap) (locs : List Loc), va_P D vwCl (WT ca cq xq (kdC C) (fsC C) (snC C) ak (nI (C 0)) (nI (C 37)) (nI (C 38)) (fI (C 39)) (nI (C 40)) (lN (C 66)) (nI (C 41)) (fillL (6 + C 0) (tb C K_ F_) tb_) va fy cn an1_5 sw sb sv) H → va_D A (WT ca cq xq (kdC C) (fsC C) (snC C) ak (nI (C 0)) (nI (C 37)) (nI (C 38)) (fI (C 39)) (nI (C 40)) (lN (C 66)) (nI (C 41)) (fillL (6 + C 0) (tb C K_ F_) tb_) va fy cn an1_5 sw sb sv) → va_S A s.heap H locs → ∀ (ls : Array Slot), lv_has ls 5 [(4, .int (nI k)), (3, .int (bI (cdN C K_ F_ k))), (0, .ref (xq 0)), (1, .int (fI K_)), (2, .int (nI F_))] → W p l e ({ frames := 3, cells := 0, slots := 0, locals := 70 } : Room) s m ([.ref (xq 0), .int (fI K_), .int (nI F_)] : List Value).toArray below meth c H locs 0 0 QQ (F0 m 17 ls []) := by
    intro fu_17
    induction fu_17 with
    | zero => intro k hfu; exact absurd hfu (Nat.not_lt_zero _)
    | succ fu_17 ih_17 =>
      intro k hfu hk H locs hP hD hS ls hl
      refine lv_iload hx hb dX1_isCandidate_17 (lv_at hl 0 rfl) ?_
      refine lv_aload_n hx hb dX1_isCandidate_19 rfl (lv_at hl 2 rfl) ?_
      refine gWT_5_circuit_X1 hx hb hts hown hK hP dX1_isCandidate_20 ?_
      refine gWT_0_asked_X1 hE hx hb hts hown hK hP dX1_isCandidate_23 ?_
      refine nv_icmp_ge (tgt := 79) hx hb dX1_isCandidate_26 (by decide) (by omega) (by omega) (fun c_26 => ?_) (fun c_26 => ?_)
      · skip
        have e_ : C 41 = k := Eq.symm (by omega)
        subst e_
        refine lv_iload_n hx hb dX1_isCandidate_79 rfl (lv_at hl 1 rfl) ?_
        subst hQQ
        refine (xe_z (b := cdN C K_ F_ (C 41)) (fillL (6 + C 0) (tb C K_ F_) tb_, an1_5) hx hb hr hlocks hK hP hD hS (⟨rfl, fun t ht => (hp_9 t ht).trans (congrArg nI anL_all)⟩) dX1_isCandidate_80)
      · skip
        refine lv_iload_n hx hb dX1_isCandidate_29 rfl (lv_at hl 1 rfl) ?_
        refine nv_ifb_eq (tgt := 71) hx hb dX1_isCandidate_30 (by decide) (fun c_30 => ?_) (fun c_30 => ?_)
        · skip
          refine lv_iconst (v := nI 0) hx hb dX1_isCandidate_71 (by decide) ?_
          refine lv_istore_n (lv' := [(3, .int (nI 0)), (4, .int (nI k)), (0, .ref (xq 0)), (1, .int (fI K_)), (2, .int (nI F_))]) hx hb dX1_isCandidate_72 rfl hl (by decide) rfl (fun ls hl => ?_)
          refine lv_iinc (v := nI (k + 1)) (lv' := [(4, .int (nI (k + 1))), (3, .int (nI 0)), (0, .ref (xq 0)), (1, .int (fI K_)), (2, .int (nI F_))]) hx hb dX1_isCandidate_73 hl (k := 1) rfl (nI_add k 1) (by decide) rfl (fun ls hl => ?_)
          refine lv_goto (tgt := 17) hx hb dX1_isCandidate_76 (by decide) ?_
          have hl : lv_has ls 5 [(4, .int (nI (k + 1))), (3, .int (bI (cdN C K_ F_ (k + 1)))), (0, .ref (xq 0)), (1, .int (fI K_)), (2, .int (nI F_))] := (congrArg (fun x_ => lv_has ls 5 [(4, .int (nI (k + 1))), (3, .int x_), (0, .ref (xq 0)), (1, .int (fI K_)), (2, .int (nI F_))]) (show nI 0 = bI (cdN C K_ F_ (k + 1)) from show bI false = _ from congrArg bI (by simp only [cdN]; simp [*]))).mp hl
          exact ih_17  (k + 1) (by omega) (by omega) _ _ hP hD hS ls (lv_sub hl [0, 1, 2, 3, 4] rfl)
        · skip
          refine lv_aload_n hx hb dX1_isCandidate_33 rfl (lv_at hl 2 rfl) ?_
          refine gWT_5_answers_X1 hx hb hts hown hK hP dX1_isCandidate_34 ?_
          refine lv_aload_n hx hb dX1_isCandidate_37 rfl (lv_at hl 2 rfl) ?_
          refine gWT_5_circuit_X1 hx hb hts hown hK hP dX1_isCandidate_38 ?_
          refine gWT_0_asks_X1 hE hx hb hts hown hK hP dX1_isCandidate_41 ?_
          refine lv_iload hx hb dX1_isCandidate_44 (lv_at hl 0 rfl) ?_
          refine ldWT_4 hx hb hK hP (by omega) dX1_isCandidate_46 ?_
          refine lv_topi (nm_r (e' := nI (16 * C (42 + k) + C (54 + k))) (hAk k (by omega)) ?_)
          refine lv_bipush (v := nI 16) hx hb dX1_isCandidate_47 (by decide) ?_
          refine nv_idiv hx hb dX1_isCandidate_49 (by have := ht64 k (by omega); have := ha16 k (by omega); omega) (by omega) (by omega) ?_
          refine lv_topi (nm_r (e' := nI (C (42 + k))) (congrArg nI (ak_div (ha16 k (by omega)))) ?_)
          refine ldWT_10 hx hb hK hP (ht64 k (by omega)) dX1_isCandidate_50 ?_
          refine lv_topi (nm_r (e' := nI (anC C K_ F_ (C (42 + k)))) ((hp_9 _ (ht64 k (by omega))).trans (congrArg nI anL_all)) ?_)
          refine lv_aload_n hx hb dX1_isCandidate_51 rfl (lv_at hl 2 rfl) ?_
          refine gWT_5_circuit_X1 hx hb hts hown hK hP dX1_isCandidate_52 ?_
          refine gWT_0_asks_X1 hE hx hb hts hown hK hP dX1_isCandidate_55 ?_
          refine lv_iload hx hb dX1_isCandidate_58 (lv_at hl 0 rfl) ?_
          refine ldWT_4 hx hb hK hP (by omega) dX1_isCandidate_60 ?_
          refine lv_topi (nm_r (e' := nI (16 * C (42 + k) + C (54 + k))) (hAk k (by omega)) ?_)
          refine lv_bipush (v := nI 16) hx hb dX1_isCandidate_61 (by decide) ?_
          refine nv_irem hx hb dX1_isCandidate_63 (by have := ht64 k (by omega); have := ha16 k (by omega); omega) (by omega) (by omega) ?_
          refine lv_topi (nm_r (e' := nI (C (54 + k))) (congrArg nI (ak_mod (ha16 k (by omega)))) ?_)
          refine nv_icmp_ne (tgt := 71) hx hb dX1_isCandidate_64 (by decide) (by have := anC_lt (C := C) (K := K_) (F := F_) (t := C (42 + k)) (Nat.le_trans (popc_mono (by omega)) hno); omega) (by have := ha16 k (by omega); omega) (fun c_64 => ?_) (fun c_64 => ?_)
          · skip
            refine lv_iconst (v := nI 0) hx hb dX1_isCandidate_71 (by decide) ?_
            refine lv_istore_n (lv' := [(3, .int (nI 0)), (4, .int (nI k)), (0, .ref (xq 0)), (1, .int (fI K_)), (2, .int (nI F_))]) hx hb dX1_isCandidate_72 rfl hl (by decide) rfl (fun ls hl => ?_)
            refine lv_iinc (v := nI (k + 1)) (lv' := [(4, .int (nI (k + 1))), (3, .int (nI 0)), (0, .ref (xq 0)), (1, .int (fI K_)), (2, .int (nI F_))]) hx hb dX1_isCandidate_73 hl (k := 1) rfl (nI_add k 1) (by decide) rfl (fun ls hl => ?_)
            refine lv_goto (tgt := 17) hx hb dX1_isCandidate_76 (by decide) ?_
            have hl : lv_has ls 5 [(4, .int (nI (k + 1))), (3, .int (bI (cdN C K_ F_ (k + 1)))), (0, .ref (xq 0)), (1, .int (fI K_)), (2, .int (nI F_))] := (congrArg (fun x_ => lv_has ls 5 [(4, .int (nI (k + 1))), (3, .int x_), (0, .ref (xq 0)), (1, .int (fI K_)), (2, .int (nI F_))]) (show nI 0 = bI (cdN C K_ F_ (k + 1)) from show bI false = _ from congrArg bI (by simp only [cdN]; simp [*]))).mp hl
            exact ih_17  (k + 1) (by omega) (by omega) _ _ hP hD hS ls (lv_sub hl [0, 1, 2, 3, 4] rfl)
          · skip
            refine lv_iconst (v := nI 1) hx hb dX1_isCandidate_67 (by decide) ?_
            refine lv_goto (tgt := 72) hx hb dX1_isCandidate_68 (by decide) ?_
            refine lv_istore_n (lv' := [(3, .int (nI 1)), (4, .int (nI k)), (0, .ref (xq 0)), (1, .int (fI K_)), (2, .int (nI F_))]) hx hb dX1_isCandidate_72 rfl hl (by decide) rfl (fun ls hl => ?_)
            refine lv_iinc (v := nI (k + 1)) (lv' := [(4, .int (nI (k + 1))), (3, .int (nI 1)), (0, .ref (xq 0)), (1, .int (fI K_)), (2, .int (nI F_))]) hx hb dX1_isCandidate_73 hl (k := 1) rfl (nI_add k 1) (by decide) rfl (fun ls hl => ?_)
            refine lv_goto (tgt := 17) hx hb dX1_isCandidate_76 (by decide) ?_
            have hl : lv_has ls 5 [(4, .int (nI (k + 1))), (3, .int (bI (cdN C K_ F_ (k + 1)))), (0, .ref (xq 0)), (1, .int (fI K_)), (2, .int (nI F_))] := (congrArg (fun x_ => lv_has ls 5 [(4, .int (nI (k + 1))), (3, .int x_), (0, .ref (xq 0)), (1, .int (fI K_)), (2, .int (nI F_))]) (show nI 1 = bI (cdN C K_ F_ (k + 1)) from show bI true = _ from congrArg bI (by simp only [cdN]; simp [*]))).mp hl
            exact ih_17  (k + 1) (by omega) (by omega) _ _ hP hD hS ls (lv_sub hl [0, 1, 2, 3, 4] rfl)
  have hl : lv_has ls 5 [(4, .int (nI 0)), (3, .int (bI (cdN C K_ F_ 0))), (0, .ref (xq 0)), (1, .int (fI K_)), (2, .int (nI F_))] := (congrArg (fun x_ => lv_has ls 5 [(4, .int (nI 0)), (3, .int x_), (0, .ref (xq 0)), (1, .int (fI K_)), (2, .int (nI F_))]) (show nI 1 = bI (cdN C K_ F_ 0) from rfl)).mp hl
  exact lp_17 (C 41 - 0 + 1) 0 (Nat.lt_succ_self _) (by omega) _ _ hP hD hS ls (lv_sub hl [0, 1, 2, 3, 4] rfl)
set_option maxHeartbeats 4000000 in
set_option maxRecDepth 100000 in
theorem mt_X1_candidatesByTables (l : Launch) (D : va_G) (ca : Nat → ClassId) (cq : Nat → Nat) (xq : Nat → Nat) (ak : Nat → Int32) (tb_ : Nat → Int64) (va : Nat → Int32) (fy : Nat → Int64) (cn : Nat → Int32) (an : Nat → Int32) (sw : Nat → Int64) (sb : Nat → Int64) (sv : Value) (C : Nat → Nat) (h0 : C 0 ≤ 12) (hkd0 : ∀ k, k < 12 → C (1 + k) < 8) (hse : ∀ k, k < 12 → C (13 + k) < 6 + k ∧ C (25 + k) < 6 + k) (ho : C 37 < 2 ^ 18) (hbx : C 38 < 2 ^ 18) (hno : popc 18 (C 37) ≤ 4) (hnb : popc 18 (C 38) ≤ 3) (hbsz : C 38 < 2 ^ C 0) (h40 : C 40 ≤ 1) (hak : C 41 ≤ 12) (hAk : AkOk C ak) (ha16 : ∀ k, k < 12 → C (54 + k) < 16) (ht64 : ∀ k, k < 12 → C (42 + k) < 64) (nn : Nat) : Met l yX1_candidatesByTables (ws_ yX1_candidatesByTables cX1_candidatesByTables 6 (Option.some Jvm.ClassFile.FieldType.int)) ({ frames := 4, cells := 0, slots := 0, locals := 94 } : Room) (va_Pc [.ref (xq 0)] (PreW EvX D vwCl (TY ca) (WT ca cq xq (kdC C) (fsC C) (snC C) ak (nI (C 0)) (nI (C 37)) (nI (C 38)) (fI (C 39)) (nI (C 40)) (lN (C 66)) (nI (C 41)) tb_ va fy cn an sw sb sv) nn)) (va_Qi (fun (r_ : Int32) (u_ : (Nat → Int64) × (Nat → Int32)) => r_ = nI ((cnds C).length)) (PostW D vwCl (TY ca) (fun (u_ : (Nat → Int64) × (Nat → Int32)) => (WT ca cq xq (kdC C) (fsC C) (snC C) ak (nI (C 0)) (nI (C 37)) (nI (C 38)) (fI (C 39)) (nI (C 40)) (lN (C 66)) (nI (C 41)) u_.1 va fy cn u_.2 sw sb sv)) (va_A (WT ca cq xq (kdC C) (fsC C) (snC C) ak (nI (C 0)) (nI (C 37)) (nI (C 38)) (fI (C 39)) (nI (C 40)) (lN (C 66)) (nI (C 41)) tb_ va fy cn an sw sb sv) nn)) (va_A (WT ca cq xq (kdC C) (fsC C) (snC C) ak (nI (C 0)) (nI (C 37)) (nI (C 38)) (fI (C 39)) (nI (C 40)) (lN (C 66)) (nI (C 41)) tb_ va fy cn an sw sb sv) nn)) 0 0 (va_A (WT ca cq xq (kdC C) (fsC C) (snC C) ak (nI (C 0)) (nI (C 37)) (nI (C 38)) (fI (C 39)) (nI (C 40)) (lN (C 66)) (nI (C 41)) tb_ va fy cn an sw sb sv) nn) := by
  refine met_go (QA := fun A => va_Qi (fun (r_ : Int32) (u_ : (Nat → Int64) × (Nat → Int32)) => r_ = nI ((cnds C).length)) (PostW D vwCl (TY ca) (fun (u_ : (Nat → Int64) × (Nat → Int32)) => (WT ca cq xq (kdC C) (fsC C) (snC C) ak (nI (C 0)) (nI (C 37)) (nI (C 38)) (fI (C 39)) (nI (C 40)) (lN (C 66)) (nI (C 41)) u_.1 va fy cn u_.2 sw sb sv)) A) A) (by decide) (Nat.le_of_ble_eq_true rfl) (fun p e s m below meth c A ls QQ hQQ hx hb hr hts hown hlocks hml hA hP hK hD hE hl => ?_)
  have hown : s.vm.findClass RX1 = some m.cls := hown
  have hS : va_S A s.heap s.heap [] := va_S.rf
  have hl : lv_has ls 6 [(0, .ref (xq 0))] := hl
  generalize hHe : s.heap = H at hP ⊢
  have hS : va_S A s.heap H [] := hHe ▸ hS
  generalize ([] : List Loc) = locs at hS ⊢
  have hks := ksm_le h0 hnb
  have hfa := fa_le h0
  refine lv_iconst (v := nI 0) hx hb dX1_candidatesByTables_0 (by decide) ?_
  refine lv_istore_n (lv' := [(1, .int (nI 0)), (0, .ref (xq 0))]) hx hb dX1_candidatesByTables_1 rfl hl (by decide) rfl (fun ls hl => ?_)
  refine lv_aload_n hx hb dX1_candidatesByTables_2 rfl (lv_at hl 1 rfl) ?_
  refine xc_i (xr_V (b := xq 0) (ci := 0) (q0 := 5) (As := []) (rest := []) (mt_X1_assignments l D ca cq xq ak tb_ va fy cn an sw sb sv C (by first | assumption | omega | (simp only [updN, forgetC, changedC]; (repeat' split) <;> omega)) (by first | assumption | omega | (simp only [updN, forgetC, changedC]; (repeat' split) <;> omega)) (by first | assumption | omega | (simp only [updN, forgetC, changedC]; (repeat' split) <;> omega)) (by first | assumption | omega | (simp only [updN, forgetC, changedC]; (repeat' split) <;> omega)) H.size) ⟨hx, hb, hml, hown, hts⟩ (cwV 0 hts (lw_V q1091 q1093 qs24 q79 q1094) rfl rfl rfl (by decide +kernel) ⟨Nat.le_of_ble_eq_true rfl, Nat.le_of_ble_eq_true rfl⟩) EvX_ok hE hK hS (Cut.all hP hD hS hA) rfl rfl rfl hl.1 rfl (Nat.le_of_ble_eq_true rfl) dX1_candidatesByTables_3 ⟨Nat.le_of_ble_eq_true rfl, Nat.le_of_ble_eq_true rfl⟩) hS (Cut.all hP hD hS hA) (fun r_1 u_2 H locs hq_3 hP hD hS => ?_)
  have hP : va_P D vwCl (WT ca cq xq (kdC C) (fsC C) (snC C) ak (nI (C 0)) (nI (C 37)) (nI (C 38)) (fI (C 39)) (nI (C 40)) (lN (C 66)) (nI (C 41)) tb_ va fy cn an sw sb sv) H := hP
  have hD : va_D A (WT ca cq xq (kdC C) (fsC C) (snC C) ak (nI (C 0)) (nI (C 37)) (nI (C 38)) (fI (C 39)) (nI (C 40)) (lN (C 66)) (nI (C 41)) tb_ va fy cn an sw sb sv) := hD
  have hp_3 : r_1 = nI (ksm C) := hq_3
  clear hq_3
  obtain rfl := hp_3
  refine lv_istore_n (lv' := [(2, .int (nI (ksm C))), (1, .int (nI 0)), (0, .ref (xq 0))]) hx hb dX1_candidatesByTables_6 rfl hl (by decide) rfl (fun ls hl => ?_)
  refine lv_aload_n hx hb dX1_candidatesByTables_7 rfl (lv_at hl 2 rfl) ?_
  refine xc_i (xr_V (b := xq 0) (ci := 0) (q0 := 5) (As := []) (rest := []) (mt_X1_faultsTold l D ca cq xq ak tb_ va fy cn an sw sb sv C (by first | assumption | omega | (simp only [updN, forgetC, changedC]; (repeat' split) <;> omega)) (by first | assumption | omega | (simp only [updN, forgetC, changedC]; (repeat' split) <;> omega)) H.size) ⟨hx, hb, hml, hown, hts⟩ (cwV 0 hts (lw_V q1095 q1097 qs25 q79 q1098) rfl rfl rfl (by decide +kernel) ⟨Nat.le_of_ble_eq_true rfl, Nat.le_of_ble_eq_true rfl⟩) EvX_ok hE hK hS (Cut.all hP hD hS hA) rfl rfl rfl hl.1 rfl (Nat.le_of_ble_eq_true rfl) dX1_candidatesByTables_8 ⟨Nat.le_of_ble_eq_true rfl, Nat.le_of_ble_eq_true rfl⟩) hS (Cut.all hP hD hS hA) (fun r_3 u_4 H locs hq_8 hP hD hS => ?_)
  have hP : va_P D vwCl (WT ca cq xq (kdC C) (fsC C) (snC C) ak (nI (C 0)) (nI (C 37)) (nI (C 38)) (fI (C 39)) (nI (C 40)) (lN (C 66)) (nI (C 41)) tb_ va fy cn an sw sb sv) H := hP
  have hD : va_D A (WT ca cq xq (kdC C) (fsC C) (snC C) ak (nI (C 0)) (nI (C 37)) (nI (C 38)) (fI (C 39)) (nI (C 40)) (lN (C 66)) (nI (C 41)) tb_ va fy cn an sw sb sv) := hD
  have hp_8 : r_3 = nI (fa C + 1) := hq_8
  clear hq_8
  obtain rfl := hp_8
  refine lv_istore_n (lv' := [(3, .int (nI (fa C + 1))), (2, .int (nI (ksm C))), (1, .int (nI 0)), (0, .ref (xq 0))]) hx hb dX1_candidatesByTables_11 rfl hl (by decide) rfl (fun ls hl => ?_)
  refine lv_iconst (v := nI 0) hx hb dX1_candidatesByTables_12 (by decide) ?_
  refine lv_istore (lv' := [(4, .int (nI 0)), (3, .int (nI (fa C + 1))), (2, .int (nI (ksm C))), (1, .int (nI 0)), (0, .ref (xq 0))]) hx hb dX1_candidatesByTables_13 hl (by decide) rfl (fun ls hl => ?_)
  have lp_15 : ∀ (fu_15 : Nat) (d : Nat) (t_ : Nat → Int64) (n_ : Nat → Int32), ksm C - d < fu_15 → (d ≤ ksm C) → ∀ (H : Heap) (locs : List Loc), va_P D vwCl (WT ca cq xq (kdC C) (fsC C) (snC C) ak (nI (C 0)) (nI (C 37)) (nI (C 38)) (fI (C 39)) (nI (C 40)) (lN (C 66)) (nI (C 41)) t_ va fy cn n_ sw sb sv) H → va_D A (WT ca cq xq (kdC C) (fsC C) (snC C) ak (nI (C 0)) (nI (C 37)) (nI (C 38)) (fI (C 39)) (nI (C 40)) (lN (C 66)) (nI (C 41)) t_ va fy cn n_ sw sb sv) → va_S A s.heap H locs → ∀ (ls : Array Slot), lv_has ls 6 [(4, .int (nI d)), (3, .int (nI (fa C + 1))), (2, .int (nI (ksm C))), (1, .int (nI ((clK C d).length))), (0, .ref (xq 0))] → W p l e ({ frames := 4, cells := 0, slots := 0, locals := 94 } : Room) s m ([.ref (xq 0)] : List Value).toArray below meth c H locs 0 0 QQ (F0 m 15 ls []) := by
    intro fu_15
    induction fu_15 with
    | zero => intro d t_ n_ hfu; exact absurd hfu (Nat.not_lt_zero _)
    | succ fu_15 ih_15 =>
      intro d t_ n_ hfu hd H locs hP hD hS ls hl
      refine lv_iload hx hb dX1_candidatesByTables_15 (lv_at hl 0 rfl) ?_
      refine lv_iload_n hx hb dX1_candidatesByTables_17 rfl (lv_at hl 2 rfl) ?_
      refine nv_icmp_ge (tgt := 61) hx hb dX1_candidatesByTables_18 (by decide) (by omega) (by omega) (fun c_18 => ?_) (fun c_18 => ?_)
      · skip
        have e_ : ksm C = d := Eq.symm (by omega)
        subst e_
        refine lv_iload_n hx hb dX1_candidatesByTables_61 rfl (lv_at hl 3 rfl) ?_
        subst hQQ
        exact xe_i (v := nI ((clK C (ksm C)).length)) (t_, n_) hx hb hr hlocks hK hP hD hS (rfl) dX1_candidatesByTables_62
      · skip
        refine lv_iconst (v := nI 0) hx hb dX1_candidatesByTables_21 (by decide) ?_
        refine lv_istore (lv' := [(5, .int (nI 0)), (4, .int (nI d)), (3, .int (nI (fa C + 1))), (2, .int (nI (ksm C))), (1, .int (nI ((clK C d).length))), (0, .ref (xq 0))]) hx hb dX1_candidatesByTables_22 hl (by decide) rfl (fun ls hl => ?_)
        have lp_24 : ∀ (fu_24 : Nat) (f : Nat) (u_ : Nat → Int64) (v_ : Nat → Int32), fa C + 1 - f < fu_24 → (f ≤ fa C + 1) → ∀ (H : Heap) (locs : List Loc), va_P D vwCl (WT ca cq xq (kdC C) (fsC C) (snC C) ak (nI (C 0)) (nI (C 37)) (nI (C 38)) (fI (C 39)) (nI (C 40)) (lN (C 66)) (nI (C 41)) u_ va fy cn v_ sw sb sv) H → va_D A (WT ca cq xq (kdC C) (fsC C) (snC C) ak (nI (C 0)) (nI (C 37)) (nI (C 38)) (fI (C 39)) (nI (C 40)) (lN (C 66)) (nI (C 41)) u_ va fy cn v_ sw sb sv) → va_S A s.heap H locs → ∀ (ls : Array Slot), lv_has ls 6 [(5, .int (nI f)), (4, .int (nI d)), (3, .int (nI (fa C + 1))), (2, .int (nI (ksm C))), (1, .int (nI ((clK C d).length + (clF C (d + 1) f).length))), (0, .ref (xq 0))] → W p l e ({ frames := 4, cells := 0, slots := 0, locals := 94 } : Room) s m ([.ref (xq 0)] : List Value).toArray below meth c H locs 0 0 QQ (F0 m 24 ls []) := by
          intro fu_24
          induction fu_24 with
          | zero => intro f u_ v_ hfu; exact absurd hfu (Nat.not_lt_zero _)
          | succ fu_24 ih_24 =>
            intro f u_ v_ hfu hf H locs hP hD hS ls hl
            refine lv_iload hx hb dX1_candidatesByTables_24 (lv_at hl 0 rfl) ?_
            refine lv_iload_n hx hb dX1_candidatesByTables_26 rfl (lv_at hl 2 rfl) ?_
            refine nv_icmp_ge (tgt := 55) hx hb dX1_candidatesByTables_27 (by decide) (by omega) (by omega) (fun c_27 => ?_) (fun c_27 => ?_)
            · skip
              have e_ : fa C + 1 = f := Eq.symm (by omega)
              subst e_
              refine lv_iinc (v := nI (d + 1)) (lv' := [(4, .int (nI (d + 1))), (5, .int (nI (fa C + 1))), (3, .int (nI (fa C + 1))), (2, .int (nI (ksm C))), (1, .int (nI ((clK C d).length + (clF C (d + 1) (fa C + 1)).length))), (0, .ref (xq 0))]) hx hb dX1_candidatesByTables_55 hl (k := 1) rfl (nI_add d 1) (by decide) rfl (fun ls hl => ?_)
              refine lv_goto (tgt := 15) hx hb dX1_candidatesByTables_58 (by decide) ?_
              have hl : lv_has ls 6 [(4, .int (nI (d + 1))), (5, .int (nI (fa C + 1))), (3, .int (nI (fa C + 1))), (2, .int (nI (ksm C))), (1, .int (nI ((clK C (d + 1)).length))), (0, .ref (xq 0))] := (congrArg (fun x_ => lv_has ls 6 [(4, .int (nI (d + 1))), (5, .int (nI (fa C + 1))), (3, .int (nI (fa C + 1))), (2, .int (nI (ksm C))), (1, .int x_), (0, .ref (xq 0))]) (show nI ((clK C d).length + (clF C (d + 1) (fa C + 1)).length) = nI ((clK C (d + 1)).length) from congrArg nI (List.length_append).symm)).mp hl
              exact ih_15  (d + 1) u_ v_ (by omega) (by omega) _ _ hP hD hS ls (lv_sub hl [0, 2, 3, 4, 5] rfl)
            · skip
              refine lv_iload_n hx hb dX1_candidatesByTables_30 rfl (lv_at hl 4 rfl) ?_
              refine lv_aload_n hx hb dX1_candidatesByTables_31 rfl (lv_at hl 5 rfl) ?_
              refine lv_iload hx hb dX1_candidatesByTables_32 (lv_at hl 1 rfl) ?_
              refine lv_topi (nm_r (e' := fI (d + 1)) (fI_S d) ?_)
              refine lv_iload hx hb dX1_candidatesByTables_34 (lv_at hl 0 rfl) ?_
              refine xc_i (xr_V (b := xq 0) (ci := 0) (q0 := 5) (As := [.int (fI (d + 1)), .int (nI f)]) (rest := [.int (nI ((clK C d).length + (clF C (d + 1) f).length))]) (mt_X1_isCandidate l D ca cq xq ak u_ va fy cn v_ sw sb sv C (d + 1) f (by first | assumption | omega | (simp only [updN, forgetC, changedC]; (repeat' split) <;> omega)) (by first | assumption | omega | (simp only [updN, forgetC, changedC]; (repeat' split) <;> omega)) (by first | assumption | omega | (simp only [updN, forgetC, changedC]; (repeat' split) <;> omega)) (by first | assumption | omega | (simp only [updN, forgetC, changedC]; (repeat' split) <;> omega)) (by first | assumption | omega | (simp only [updN, forgetC, changedC]; (repeat' split) <;> omega)) (by first | assumption | omega | (simp only [updN, forgetC, changedC]; (repeat' split) <;> omega)) (by first | assumption | omega | (simp only [updN, forgetC, changedC]; (repeat' split) <;> omega)) (by first | assumption | omega | (simp only [updN, forgetC, changedC]; (repeat' split) <;> omega)) (by first | assumption | omega | (simp only [updN, forgetC, changedC]; (repeat' split) <;> omega)) (by first | assumption | omega | (simp only [updN, forgetC, changedC]; (repeat' split) <;> omega)) (by first | assumption | omega | (simp only [updN, forgetC, changedC]; (repeat' split) <;> omega)) (by first | assumption | omega | (simp only [updN, forgetC, changedC]; (repeat' split) <;> omega)) H.size) ⟨hx, hb, hml, hown, hts⟩ (cwV 2 hts (lw_V q1107 q1109 qs27 q79 q1110) rfl rfl rfl (by decide +kernel) ⟨Nat.le_of_ble_eq_true rfl, Nat.le_of_ble_eq_true rfl⟩) EvX_ok hE hK hS (Cut.all hP hD hS hA) rfl rfl rfl hl.1 rfl (Nat.le_of_ble_eq_true rfl) dX1_candidatesByTables_36 ⟨Nat.le_of_ble_eq_true rfl, Nat.le_of_ble_eq_true rfl⟩) hS (Cut.all hP hD hS hA) (fun r_7 u_8 H locs hq_36 hP hD hS => ?_)
              obtain ⟨tb1_9, an1_10⟩ := u_8
              have hP : va_P D vwCl (WT ca cq xq (kdC C) (fsC C) (snC C) ak (nI (C 0)) (nI (C 37)) (nI (C 38)) (fI (C 39)) (nI (C 40)) (lN (C 66)) (nI (C 41)) tb1_9 va fy cn an1_10 sw sb sv) H := hP
              have hD : va_D A (WT ca cq xq (kdC C) (fsC C) (snC C) ak (nI (C 0)) (nI (C 37)) (nI (C 38)) (fI (C 39)) (nI (C 40)) (lN (C 66)) (nI (C 41)) tb1_9 va fy cn an1_10 sw sb sv) := hD
              have hp_36 : r_7 = bI (candB C (d + 1) f) ∧ (∀ t, t < 64 → an1_10 t = nI (anC C (d + 1) f t)) := hq_36
              clear hq_36
              obtain ⟨rfl, hp_36⟩ := hp_36
              refine nv_ifb_eq (tgt := 46) hx hb dX1_candidatesByTables_39 (by decide) (fun c_39 => ?_) (fun c_39 => ?_)
              · skip
                refine lv_iconst (v := nI 0) hx hb dX1_candidatesByTables_46 (by decide) ?_
                refine nv_iadd hx hb dX1_candidatesByTables_47 ?_
                refine lv_istore_n (lv' := [(1, .int (nI (((clK C d).length + (clF C (d + 1) f).length) + 0))), (5, .int (nI f)), (4, .int (nI d)), (3, .int (nI (fa C + 1))), (2, .int (nI (ksm C))), (0, .ref (xq 0))]) hx hb dX1_candidatesByTables_48 rfl hl (by decide) rfl (fun ls hl => ?_)
                refine lv_iinc (v := nI (f + 1)) (lv' := [(5, .int (nI (f + 1))), (1, .int (nI (((clK C d).length + (clF C (d + 1) f).length) + 0))), (4, .int (nI d)), (3, .int (nI (fa C + 1))), (2, .int (nI (ksm C))), (0, .ref (xq 0))]) hx hb dX1_candidatesByTables_49 hl (k := 1) rfl (nI_add f 1) (by decide) rfl (fun ls hl => ?_)
                refine lv_goto (tgt := 24) hx hb dX1_candidatesByTables_52 (by decide) ?_
                have hl : lv_has ls 6 [(5, .int (nI (f + 1))), (1, .int (nI ((clK C d).length + (clF C (d + 1) (f + 1)).length))), (4, .int (nI d)), (3, .int (nI (fa C + 1))), (2, .int (nI (ksm C))), (0, .ref (xq 0))] := (congrArg (fun x_ => lv_has ls 6 [(5, .int (nI (f + 1))), (1, .int x_), (4, .int (nI d)), (3, .int (nI (fa C + 1))), (2, .int (nI (ksm C))), (0, .ref (xq 0))]) (show nI (((clK C d).length + (clF C (d + 1) f).length) + 0) = nI ((clK C d).length + (clF C (d + 1) (f + 1)).length) from congrArg nI (by simp only [clF]; rw [c_39]; simp [Nat.add_assoc]))).mp hl
                exact ih_24  (f + 1) tb1_9 an1_10 (by omega) (by omega) _ _ hP hD hS ls (lv_sub hl [0, 2, 3, 4, 1, 5] rfl)
              · skip
                refine lv_iconst (v := nI 1) hx hb dX1_candidatesByTables_42 (by decide) ?_
                refine lv_goto (tgt := 47) hx hb dX1_candidatesByTables_43 (by decide) ?_
                refine nv_iadd hx hb dX1_candidatesByTables_47 ?_
                refine lv_istore_n (lv' := [(1, .int (nI (((clK C d).length + (clF C (d + 1) f).length) + 1))), (5, .int (nI f)), (4, .int (nI d)), (3, .int (nI (fa C + 1))), (2, .int (nI (ksm C))), (0, .ref (xq 0))]) hx hb dX1_candidatesByTables_48 rfl hl (by decide) rfl (fun ls hl => ?_)
                refine lv_iinc (v := nI (f + 1)) (lv' := [(5, .int (nI (f + 1))), (1, .int (nI (((clK C d).length + (clF C (d + 1) f).length) + 1))), (4, .int (nI d)), (3, .int (nI (fa C + 1))), (2, .int (nI (ksm C))), (0, .ref (xq 0))]) hx hb dX1_candidatesByTables_49 hl (k := 1) rfl (nI_add f 1) (by decide) rfl (fun ls hl => ?_)
                refine lv_goto (tgt := 24) hx hb dX1_candidatesByTables_52 (by decide) ?_
                have hl : lv_has ls 6 [(5, .int (nI (f + 1))), (1, .int (nI ((clK C d).length + (clF C (d + 1) (f + 1)).length))), (4, .int (nI d)), (3, .int (nI (fa C + 1))), (2, .int (nI (ksm C))), (0, .ref (xq 0))] := (congrArg (fun x_ => lv_has ls 6 [(5, .int (nI (f + 1))), (1, .int x_), (4, .int (nI d)), (3, .int (nI (fa C + 1))), (2, .int (nI (ksm C))), (0, .ref (xq 0))]) (show nI (((clK C d).length + (clF C (d + 1) f).length) + 1) = nI ((clK C d).length + (clF C (d + 1) (f + 1)).length) from congrArg nI (by simp only [clF]; rw [c_39]; simp [Nat.add_assoc]))).mp hl
                exact ih_24  (f + 1) tb1_9 an1_10 (by omega) (by omega) _ _ hP hD hS ls (lv_sub hl [0, 2, 3, 4, 1, 5] rfl)
        have hl : lv_has ls 6 [(5, .int (nI 0)), (4, .int (nI d)), (3, .int (nI (fa C + 1))), (2, .int (nI (ksm C))), (1, .int (nI ((clK C d).length + (clF C (d + 1) 0).length))), (0, .ref (xq 0))] := (congrArg (fun x_ => lv_has ls 6 [(5, .int (nI 0)), (4, .int (nI d)), (3, .int (nI (fa C + 1))), (2, .int (nI (ksm C))), (1, .int x_), (0, .ref (xq 0))]) (show nI ((clK C d).length) = nI ((clK C d).length + (clF C (d + 1) 0).length) from rfl)).mp hl
        exact lp_24 (fa C + 1 - 0 + 1) 0 t_ n_ (Nat.lt_succ_self _) (by omega) _ _ hP hD hS ls (lv_sub hl [0, 1, 2, 3, 4, 5] rfl)
  have hl : lv_has ls 6 [(4, .int (nI 0)), (3, .int (nI (fa C + 1))), (2, .int (nI (ksm C))), (1, .int (nI ((clK C 0).length))), (0, .ref (xq 0))] := (congrArg (fun x_ => lv_has ls 6 [(4, .int (nI 0)), (3, .int (nI (fa C + 1))), (2, .int (nI (ksm C))), (1, .int x_), (0, .ref (xq 0))]) (show nI 0 = nI ((clK C 0).length) from rfl)).mp hl
  exact lp_15 (ksm C - 0 + 1) 0 tb_ an (Nat.lt_succ_self _) (by omega) _ _ hP hD hS ls (lv_sub hl [0, 1, 2, 3, 4] rfl)
