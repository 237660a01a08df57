/-! the component: the greedy choice; can so many tests show all -/
set_option maxRecDepth 100000
set_option maxHeartbeats 4000000 in
set_option maxRecDepth 100000 in
theorem mt_X1_chooseAll (l : Launch) (D : va_G) (ca : Nat → ClassId) (cq : Nat → Nat) (xq : Nat → Nat) (ak : Nat → Int32) (tb_ : Nat → Int64) (va : Nat → Int32) (fy : Nat → Int64) (cn : Nat → Int32) (an : Nat → Int32) (sw : Nat → Int64) (sb : Nat → Int64) (sv : Value) (C : Nat → Nat) (h0 : C 0 ≤ 12) (hkd0 : ∀ k, k < 12 → C (1 + k) < 8) (hse : ∀ k, k < 12 → C (13 + k) < 6 + k ∧ C (25 + k) < 6 + k) (ho : C 37 < 2 ^ 18) (hbx : C 38 < 2 ^ 18) (hno : popc 18 (C 37) ≤ 4) (nn : Nat) : Met l yX1_chooseAll (ws_ yX1_chooseAll cX1_chooseAll 6 (Option.some Jvm.ClassFile.FieldType.long)) ({ frames := 5, cells := 0, slots := 0, locals := 119 } : Room) (va_Pc [.ref (xq 0)] (PreW EvX D vwCl (TY ca) (WT ca cq xq (kdC C) (fsC C) (snC C) ak (nI (C 0)) (nI (C 37)) (nI (C 38)) (fI (C 39)) (nI (C 40)) (lN (C 66)) (nI (C 41)) tb_ va fy cn an sw sb sv) nn)) (va_Ql (fun (r_ : Int64) (u_ : (Nat → Int64) × (Nat → Int64) × (Nat → Int64) × (Nat → Int64)) => r_ = lN (msk (chs C))) (PostW D vwCl (TY ca) (fun (u_ : (Nat → Int64) × (Nat → Int64) × (Nat → Int64) × (Nat → Int64)) => (WT ca cq xq (kdC C) (fsC C) (snC C) ak (nI (C 0)) (nI (C 37)) (nI (C 38)) (fI (C 39)) (nI (C 40)) (lN (C 66)) (nI (C 41)) u_.1 va u_.2.1 cn an u_.2.2.1 u_.2.2.2 sv)) (va_A (WT ca cq xq (kdC C) (fsC C) (snC C) ak (nI (C 0)) (nI (C 37)) (nI (C 38)) (fI (C 39)) (nI (C 40)) (lN (C 66)) (nI (C 41)) tb_ va fy cn an sw sb sv) nn)) (va_A (WT ca cq xq (kdC C) (fsC C) (snC C) ak (nI (C 0)) (nI (C 37)) (nI (C 38)) (fI (C 39)) (nI (C 40)) (lN (C 66)) (nI (C 41)) tb_ va fy cn an sw sb sv) nn)) 0 0 (va_A (WT ca cq xq (kdC C) (fsC C) (snC C) ak (nI (C 0)) (nI (C 37)) (nI (C 38)) (fI (C 39)) (nI (C 40)) (lN (C 66)) (nI (C 41)) tb_ va fy cn an sw sb sv) nn) := by
  refine met_go (QA := fun A => va_Ql (fun (r_ : Int64) (u_ : (Nat → Int64) × (Nat → Int64) × (Nat → Int64) × (Nat → Int64)) => r_ = lN (msk (chs C))) (PostW D vwCl (TY ca) (fun (u_ : (Nat → Int64) × (Nat → Int64) × (Nat → Int64) × (Nat → Int64)) => (WT ca cq xq (kdC C) (fsC C) (snC C) ak (nI (C 0)) (nI (C 37)) (nI (C 38)) (fI (C 39)) (nI (C 40)) (lN (C 66)) (nI (C 41)) u_.1 va u_.2.1 cn an u_.2.2.1 u_.2.2.2 sv)) A) A) (by decide) (Nat.le_of_ble_eq_true rfl) (fun p e s m below meth c A ls QQ hQQ hx hb hr hts hown hlocks hml hA hP hK hD hE hl => ?_)
  have hown : s.vm.findClass RX1 = some m.cls := hown
  have hS : va_S A s.heap s.heap [] := va_S.rf
  have hl : lv_has ls 6 [(0, .ref (xq 0))] := hl
  generalize hHe : s.heap = H at hP ⊢
  have hS : va_S A s.heap H [] := hHe ▸ hS
  generalize ([] : List Loc) = locs at hS ⊢
  refine lv_aload_n hx hb dX1_chooseAll_0 rfl (lv_at hl 0 rfl) ?_
  refine xc_l (xr_V (b := xq 0) (ci := 0) (q0 := 5) (As := []) (rest := []) (mt_X1_layShown l D ca cq xq ak tb_ va fy cn an sw sb sv C (by first | assumption | omega | (simp only [updN, forgetC, changedC]; (repeat' split) <;> omega)) (by first | assumption | omega | (simp only [updN, forgetC, changedC]; (repeat' split) <;> omega)) (by first | assumption | omega | (simp only [updN, forgetC, changedC]; (repeat' split) <;> omega)) (by first | assumption | omega | (simp only [updN, forgetC, changedC]; (repeat' split) <;> omega)) (by first | assumption | omega | (simp only [updN, forgetC, changedC]; (repeat' split) <;> omega)) (by first | assumption | omega | (simp only [updN, forgetC, changedC]; (repeat' split) <;> omega)) H.size) ⟨hx, hb, hml, hown, hts⟩ (cwV 0 hts (lw_V q435 q437 qs6 q79 q438) rfl rfl rfl (by decide +kernel) ⟨Nat.le_of_ble_eq_true rfl, Nat.le_of_ble_eq_true rfl⟩) EvX_ok hE hK hS (Cut.all hP hD hS hA) rfl rfl rfl hl.1 rfl (Nat.le_of_ble_eq_true rfl) dX1_chooseAll_1 ⟨Nat.le_of_ble_eq_true rfl, Nat.le_of_ble_eq_true rfl⟩) hS (Cut.all hP hD hS hA) (fun r_1 u_2 H locs hq_1 hP hD hS => ?_)
  obtain ⟨tb1_3, fy1_4, sb1_5⟩ := u_2
  have hP : va_P D vwCl (WT ca cq xq (kdC C) (fsC C) (snC C) ak (nI (C 0)) (nI (C 37)) (nI (C 38)) (fI (C 39)) (nI (C 40)) (lN (C 66)) (nI (C 41)) tb1_3 va fy1_4 cn an (fillL (2 * (6 + C 0)) (fun f => apC C (f + 1) 0) sw) sb1_5 sv) H := hP
  have hD : va_D A (WT ca cq xq (kdC C) (fsC C) (snC C) ak (nI (C 0)) (nI (C 37)) (nI (C 38)) (fI (C 39)) (nI (C 40)) (lN (C 66)) (nI (C 41)) tb1_3 va fy1_4 cn an (fillL (2 * (6 + C 0)) (fun f => apC C (f + 1) 0) sw) sb1_5 sv) := hD
  have hp_1 : r_1 = lN (opn C (2 * (6 + C 0))) ∧ ((∀ t, t < 64 → sb1_5 t = lN (shN C (2 * (6 + C 0)) t))) := hq_1
  clear hq_1
  obtain ⟨rfl, hp_1⟩ := hp_1
  refine lv_lstore_n (lv' := [(1, .long (lN (opn C (2 * (6 + C 0))))), (0, .ref (xq 0))]) hx hb dX1_chooseAll_4 rfl hl (by decide) rfl (fun ls hl => ?_)
  refine lv_lconst (v := lN 0) hx hb dX1_chooseAll_5 (by decide) ?_
  refine lv_lstore_n (lv' := [(3, .long (lN 0)), (1, .long (lN (opn C (2 * (6 + C 0))))), (0, .ref (xq 0))]) hx hb dX1_chooseAll_6 rfl hl (by decide) rfl (fun ls hl => ?_)
  have lp_7 : ∀ (fu_7 : Nat) (k : Nat) (o : Nat) (w_ : Nat), o < fu_7 → (o ≤ k) → (o < 2 ^ 36) → (AllSh (shN C (2 * (6 + C 0))) o) → (w_ ||| msk (grd (shN C (2 * (6 + C 0))) k o) = msk (chs C)) → ∀ (H : Heap) (locs : List Loc), va_P D vwCl (WT ca cq xq (kdC C) (fsC C) (snC C) ak (nI (C 0)) (nI (C 37)) (nI (C 38)) (fI (C 39)) (nI (C 40)) (lN (C 66)) (nI (C 41)) tb1_3 va fy1_4 cn an (fillL (2 * (6 + C 0)) (fun f => apC C (f + 1) 0) sw) sb1_5 sv) H → va_D A (WT ca cq xq (kdC C) (fsC C) (snC C) ak (nI (C 0)) (nI (C 37)) (nI (C 38)) (fI (C 39)) (nI (C 40)) (lN (C 66)) (nI (C 41)) tb1_3 va fy1_4 cn an (fillL (2 * (6 + C 0)) (fun f => apC C (f + 1) 0) sw) sb1_5 sv) → va_S A s.heap H locs → ∀ (ls : Array Slot), lv_has ls 6 [(3, .long (lN w_)), (1, .long (lN o)), (0, .ref (xq 0))] → W p l e ({ frames := 5, cells := 0, slots := 0, locals := 119 } : Room) s m ([.ref (xq 0)] : List Value).toArray below meth c H locs 0 0 QQ (F0 m 7 ls []) := by
    intro fu_7
    induction fu_7 with
    | zero => intro k o w_ hfu; exact absurd hfu (Nat.not_lt_zero _)
    | succ fu_7 ih_7 =>
      intro k o w_ hfu hok ho36 hal hw_ H locs hP hD hS ls hl
      refine lv_lload_n hx hb dX1_chooseAll_7 rfl (lv_at hl 1 rfl) ?_
      refine lv_lconst (v := lN 0) hx hb dX1_chooseAll_8 (by decide) ?_
      refine nv_lcmp_eq (tgt := 44) hx hb dX1_chooseAll_9 dX1_chooseAll_10 (by decide) (fun c_9 => ?_) (fun c_9 => ?_)
      · skip
        have hk0 : grd (shN C (2 * (6 + C 0))) k o = [] := by rw [(lN_eq0 (by omega)).mp c_9]; exact grd_e
        have hmk : w_ = msk (chs C) := by rw [← hw_, hk0]; exact (Nat.or_zero _).symm
        refine lv_lload_n hx hb dX1_chooseAll_44 rfl (lv_at hl 0 rfl) ?_
        subst hQQ
        exact xe_l (v := lN w_) (tb1_3, fy1_4, fillL (2 * (6 + C 0)) (fun f => apC C (f + 1) 0) sw, sb1_5) hx hb hr hlocks hK hP hD hS (congrArg lN hmk) dX1_chooseAll_45
      · skip
        have h0o : o ≠ 0 := fun z => c_9 (by rw [z])
        have hlt : adN o (shN C (2 * (6 + C 0)) (stg (shN C (2 * (6 + C 0))) o)) < o := adN_lt (stg_hit hal h0o (by omega))
        have hgr : grd (shN C (2 * (6 + C 0))) k o = stg (shN C (2 * (6 + C 0))) o :: grd (shN C (2 * (6 + C 0))) (k - 1) (adN o (shN C (2 * (6 + C 0)) (stg (shN C (2 * (6 + C 0))) o))) := by obtain ⟨k2, rfl⟩ := Nat.exists_eq_succ_of_ne_zero (show k ≠ 0 by omega); exact grd_s h0o
        refine lv_aload_n hx hb dX1_chooseAll_13 rfl (lv_at hl 2 rfl) ?_
        refine lv_lload_n hx hb dX1_chooseAll_14 rfl (lv_at hl 1 rfl) ?_
        refine xc_i (xr_V (b := xq 0) (ci := 0) (q0 := 5) (As := [.long (lN o)]) (rest := []) (mt_X1_strongest l D ca cq xq (kdC C) (fsC C) (snC C) ak (nI (C 0)) (nI (C 37)) (nI (C 38)) (fI (C 39)) (nI (C 40)) (lN (C 66)) (nI (C 41)) tb1_3 va fy1_4 cn an (fillL (2 * (6 + C 0)) (fun f => apC C (f + 1) 0) sw) sb1_5 sv (shN C (2 * (6 + C 0))) o hp_1 H.size) ⟨hx, hb, hml, hown, hts⟩ (cwV 1 hts (lw_V q481 q483 qs10 q79 q484) rfl rfl rfl (by decide +kernel) ⟨Nat.le_of_ble_eq_true rfl, Nat.le_of_ble_eq_true rfl⟩) EvX_ok hE hK hS (Cut.all hP hD hS hA) rfl rfl rfl hl.1 rfl (Nat.le_of_ble_eq_true rfl) dX1_chooseAll_15 ⟨Nat.le_of_ble_eq_true rfl, Nat.le_of_ble_eq_true rfl⟩) hS (Cut.all hP hD hS hA) (fun r_7 u_8 H locs hq_15 hP hD hS => ?_)
        have hP : va_P D vwCl (WT ca cq xq (kdC C) (fsC C) (snC C) ak (nI (C 0)) (nI (C 37)) (nI (C 38)) (fI (C 39)) (nI (C 40)) (lN (C 66)) (nI (C 41)) tb1_3 va fy1_4 cn an (fillL (2 * (6 + C 0)) (fun f => apC C (f + 1) 0) sw) sb1_5 sv) H := hP
        have hD : va_D A (WT ca cq xq (kdC C) (fsC C) (snC C) ak (nI (C 0)) (nI (C 37)) (nI (C 38)) (fI (C 39)) (nI (C 40)) (lN (C 66)) (nI (C 41)) tb1_3 va fy1_4 cn an (fillL (2 * (6 + C 0)) (fun f => apC C (f + 1) 0) sw) sb1_5 sv) := hD
        have hp_15 : r_7 = nI (stg (shN C (2 * (6 + C 0))) o) := hq_15
        clear hq_15
        obtain rfl := hp_15
        refine lv_istore (lv' := [(5, .int (nI (stg (shN C (2 * (6 + C 0))) o))), (3, .long (lN w_)), (1, .long (lN o)), (0, .ref (xq 0))]) hx hb dX1_chooseAll_18 hl (by decide) rfl (fun ls hl => ?_)
        refine lv_lload_n hx hb dX1_chooseAll_20 rfl (lv_at hl 1 rfl) ?_
        refine lv_lconst (v := lN 1) hx hb dX1_chooseAll_21 (by decide) ?_
        refine lv_iload hx hb dX1_chooseAll_22 (lv_at hl 0 rfl) ?_
        refine lv_lshl (v := shl64 (lN 1) (stg (shN C (2 * (6 + C 0))) o)) hx hb dX1_chooseAll_24 rfl ?_
        refine lv_lor hx hb dX1_chooseAll_25 ?_
        refine lv_topl (nm_r (e' := lN (w_ ||| (1 <<< stg (shN C (2 * (6 + C 0))) o))) (by rw [shl_lN (stg_lt _ _), lN_or]) ?_)
        refine lv_lstore_n (lv' := [(3, .long (lN (w_ ||| (1 <<< stg (shN C (2 * (6 + C 0))) o)))), (5, .int (nI (stg (shN C (2 * (6 + C 0))) o))), (1, .long (lN o)), (0, .ref (xq 0))]) hx hb dX1_chooseAll_26 rfl hl (by decide) rfl (fun ls hl => ?_)
        refine lv_lload_n hx hb dX1_chooseAll_27 rfl (lv_at hl 2 rfl) ?_
        refine lv_aload_n hx hb dX1_chooseAll_28 rfl (lv_at hl 3 rfl) ?_
        refine gWT_5_shownBy_X1 hx hb hts hown hK hP dX1_chooseAll_29 ?_
        refine lv_iload hx hb dX1_chooseAll_32 (lv_at hl 1 rfl) ?_
        refine ldWT_12 hx hb hK hP (stg_lt _ _) dX1_chooseAll_34 ?_
        refine lv_topl (nm_r (e' := lN (shN C (2 * (6 + C 0)) (stg (shN C (2 * (6 + C 0))) o))) (hp_1 _ (stg_lt _ _)) ?_)
        refine lv_ldc2 (v := (-1)) hx hb hown (hts _ q476) dX1_chooseAll_35 ?_
        refine lv_lxor hx hb dX1_chooseAll_38 ?_
        refine lv_land hx hb dX1_chooseAll_39 ?_
        refine lv_topl (nm_r (e' := lN (adN o (shN C (2 * (6 + C 0)) (stg (shN C (2 * (6 + C 0))) o)))) (lN_adn) ?_)
        refine lv_lstore_n (lv' := [(1, .long (lN (adN o (shN C (2 * (6 + C 0)) (stg (shN C (2 * (6 + C 0))) o))))), (3, .long (lN (w_ ||| (1 <<< stg (shN C (2 * (6 + C 0))) o)))), (5, .int (nI (stg (shN C (2 * (6 + C 0))) o))), (0, .ref (xq 0))]) hx hb dX1_chooseAll_40 rfl hl (by decide) rfl (fun ls hl => ?_)
        refine lv_goto (tgt := 7) hx hb dX1_chooseAll_41 (by decide) ?_
        exact ih_7  (k - 1) (adN o (shN C (2 * (6 + C 0)) (stg (shN C (2 * (6 + C 0))) o))) (w_ ||| (1 <<< stg (shN C (2 * (6 + C 0))) o)) (by have := hlt; omega) (by omega) (by omega) (AllSh_ad hal) (by rw [← hw_, hgr]; exact Nat.or_assoc _ _ _) _ _ hP hD hS ls (lv_sub hl [1, 0, 3] rfl)
  exact lp_7 ((opn C (2 * (6 + C 0))) + 1) (opn C (2 * (6 + C 0))) (opn C (2 * (6 + C 0))) 0 (Nat.lt_succ_self _) (Nat.le_refl _) (Nat.lt_of_lt_of_le (opn_lt _) (Nat.pow_le_pow_right (by decide) (by omega))) AllSh_open (Nat.zero_or _) _ _ hP hD hS ls (lv_sub hl [0, 1, 2] rfl)
theorem hd_y {Y : Nat → Int64} {o n : Nat} (hb : bit64 (lN o) n = true) (hn : n < 64) (h : hdN Y o n = 0 ∨ popl 64 (Y n) < popl 64 (Y (hdN Y o n - 1))) : hdN Y o (n + 1) = n + 1 := by
  rw [bit_lN _ _ hn] at hb
  simp only [hdN]; rw [if_pos ⟨hb, h⟩]
theorem hd_n1 {Y : Nat → Int64} {o n : Nat} (hb : bit64 (lN o) n = false) (hn : n < 64) : hdN Y o (n + 1) = hdN Y o n := by
  rw [bit_lN _ _ hn] at hb
  simp only [hdN]; rw [if_neg (fun q => by rw [hb] at q; exact absurd q.1 (by decide))]
theorem hd_n2 {Y : Nat → Int64} {o n : Nat} (h0 : ¬ hdN Y o n = 0) (h : popl 64 (Y (hdN Y o n - 1)) ≤ popl 64 (Y n)) : hdN Y o (n + 1) = hdN Y o n := by
  simp only [hdN]; rw [if_neg (fun q => q.2.elim (fun z => h0 z) (fun z => by omega))]
theorem cs_s {X : Nat → Nat} {k o w t : Nat} (h : csN X k o w t) (hn : ¬ ((X t).testBit w = true ∧ wkN X o t 64 = false ∧ Cv X k (adN o (X t)))) : csN X k o w (t + 1) := by
  intro u hu
  by_cases e : u = t
  · subst e; exact hn
  · exact h u (by omega)
theorem cs_hit {X : Nat → Nat} {m o w t : Nat} (ho : o < 2 ^ 36) (hw : o.testBit w = true) (hm : ¬ m = 0) (ht : t < 64) (h1 : (X t).testBit w = true) (h2 : wkN X o t 64 = false) (h3 : cvB X (m - 1) (adN o (X t)) = true) : true = cvB X m o := by
  obtain ⟨k, rfl⟩ := Nat.exists_eq_succ_of_ne_zero hm
  exact (cvB_t ((Cv_wk ho hw).mpr ⟨t, ht, h1, h2, cvB_iff.mp h3⟩)).symm
theorem cs_end {X : Nat → Nat} {m o w : Nat} (ho : o < 2 ^ 36) (hw : o.testBit w = true) (hm : ¬ m = 0) (h : csN X (m - 1) o w 64) : false = cvB X m o := by
  obtain ⟨k, rfl⟩ := Nat.exists_eq_succ_of_ne_zero hm
  refine (cvB_f (fun hc => ?_)).symm
  obtain ⟨t, a, b, c, d⟩ := (Cv_wk ho hw).mp hc
  exact h t a ⟨b, c, d⟩
set_option maxHeartbeats 4000000 in
set_option maxRecDepth 100000 in
theorem mt_X1_canShow_d0 (l : Launch) (D : va_G) (ca : Nat → ClassId) (cq : Nat → Nat) (xq : Nat → Nat) (ak : Nat → Int32) (tb_ : Nat → Int64) (va : Nat → Int32) (fy : Nat → Int64) (cn : Nat → Int32) (an : Nat → Int32) (sw : Nat → Int64) (sb : Nat → Int64) (sv : Value) (C : Nat → Nat) (X_ : Nat → Nat) (Y_ : Nat → Int64) (o_ : Nat) (m_ : Nat) (h0 : C 0 ≤ 12) (hsb : ∀ t, t < 64 → sb t = lN (X_ t)) (hsw : ∀ f, f < 2 * (6 + C 0) → sw f = Y_ f) (hXY : ∀ t f, t < 64 → f < 2 * (6 + C 0) → bit64 (Y_ f) t = (X_ t).testBit f) (hoN : o_ < 2 ^ (2 * (6 + C 0))) (hm : m_ ≤ 0) (nn : Nat) : Met l yX1_canShow (ws_ yX1_canShow cX1_canShow 7 (Option.some Jvm.ClassFile.FieldType.boolean)) ({ frames := 0, cells := 0, slots := 0, locals := 0 } : Room) (va_Pc [.ref (xq 0), .long (lN o_), .int (nI m_)] (PreW EvX D vwCl (TY ca) (WT ca cq xq (kdC C) (fsC C) (snC C) ak (nI (C 0)) (nI (C 37)) (nI (C 38)) (fI (C 39)) (nI (C 40)) (lN (C 66)) (nI (C 41)) tb_ va fy cn an sw sb sv) nn)) (va_Qi (fun (r_ : Int32) (_ : Unit) => r_ = bI (cvB X_ m_ o_)) (PostW D vwCl (TY ca) (fun (_ : Unit) => (WT ca cq xq (kdC C) (fsC C) (snC C) ak (nI (C 0)) (nI (C 37)) (nI (C 38)) (fI (C 39)) (nI (C 40)) (lN (C 66)) (nI (C 41)) tb_ va fy cn an sw sb sv)) (va_A (WT ca cq xq (kdC C) (fsC C) (snC C) ak (nI (C 0)) (nI (C 37)) (nI (C 38)) (fI (C 39)) (nI (C 40)) (lN (C 66)) (nI (C 41)) tb_ va fy cn an sw sb sv) nn)) (va_A (WT ca cq xq (kdC C) (fsC C) (snC C) ak (nI (C 0)) (nI (C 37)) (nI (C 38)) (fI (C 39)) (nI (C 40)) (lN (C 66)) (nI (C 41)) tb_ va fy cn an sw sb sv) nn)) 0 0 (va_A (WT ca cq xq (kdC C) (fsC C) (snC C) ak (nI (C 0)) (nI (C 37)) (nI (C 38)) (fI (C 39)) (nI (C 40)) (lN (C 66)) (nI (C 41)) tb_ va fy cn an sw sb sv) nn) := by
  refine met_go (QA := fun A => va_Qi (fun (r_ : Int32) (_ : Unit) => r_ = bI (cvB X_ m_ o_)) (PostW D vwCl (TY ca) (fun (_ : Unit) => (WT ca cq xq (kdC C) (fsC C) (snC C) ak (nI (C 0)) (nI (C 37)) (nI (C 38)) (fI (C 39)) (nI (C 40)) (lN (C 66)) (nI (C 41)) tb_ va fy cn an sw sb sv)) A) A) (by decide) (Nat.le_of_ble_eq_true rfl) (fun p e s m below meth c A ls QQ hQQ hx hb hr hts hown hlocks hml hA hP hK hD hE hl => ?_)
  have hown : s.vm.findClass RX1 = some m.cls := hown
  have hS : va_S A s.heap s.heap [] := va_S.rf
  have hl : lv_has ls 7 [(0, .ref (xq 0)), (1, .long (lN o_)), (3, .int (nI m_))] := hl
  generalize hHe : s.heap = H at hP ⊢
  have hS : va_S A s.heap H [] := hHe ▸ hS
  generalize ([] : List Loc) = locs at hS ⊢
  have ho36 : o_ < 2 ^ 36 := Nat.lt_of_lt_of_le hoN (Nat.pow_le_pow_right (by decide) (by omega))
  refine lv_lload_n hx hb dX1_canShow_0 rfl (lv_at hl 1 rfl) ?_
  refine lv_lconst (v := lN 0) hx hb dX1_canShow_1 (by decide) ?_
  refine nv_lcmp_ne (tgt := 8) hx hb dX1_canShow_2 dX1_canShow_3 (by decide) (fun c_2 => ?_) (fun c_2 => ?_)
  · skip
    refine lv_iload_n hx hb dX1_canShow_8 rfl (lv_at hl 2 rfl) ?_
    refine nv_if_eq (tgt := 36) hx hb dX1_canShow_9 (by decide) (by omega) (fun c_9 => ?_) (fun c_9 => absurd (show m_ = 0 by omega) c_9)
    refine lv_iconst (v := nI 0) hx hb dX1_canShow_36 (by decide) ?_
    subst hQQ
    refine (xe_z (b := false) () hx hb hr hlocks hK hP hD hS (congrArg bI (by first | exact (cvB_f (Cv_few c_33)).symm | exact (cvB_f (fun h_ => c_2 (by subst c_9; exact congrArg lN h_))).symm)) dX1_canShow_37)
  · skip
    refine lv_iconst (v := nI 1) hx hb dX1_canShow_6 (by decide) ?_
    subst hQQ
    refine (xe_z (b := true) () hx hb hr hlocks hK hP hD hS (congrArg bI (cvB_t (by rw [(lN_eq0 (by omega)).mp c_2]; exact Cv_0 _ _)).symm) dX1_canShow_7)
set_option maxHeartbeats 4000000 in
set_option maxRecDepth 100000 in
theorem mt_X1_canShow_d1 (l : Launch) (D : va_G) (ca : Nat → ClassId) (cq : Nat → Nat) (xq : Nat → Nat) (ak : Nat → Int32) (tb_ : Nat → Int64) (va : Nat → Int32) (fy : Nat → Int64) (cn : Nat → Int32) (an : Nat → Int32) (sw : Nat → Int64) (sb : Nat → Int64) (sv : Value) (C : Nat → Nat) (X_ : Nat → Nat) (Y_ : Nat → Int64) (o_ : Nat) (m_ : Nat) (h0 : C 0 ≤ 12) (hsb : ∀ t, t < 64 → sb t = lN (X_ t)) (hsw : ∀ f, f < 2 * (6 + C 0) → sw f = Y_ f) (hXY : ∀ t f, t < 64 → f < 2 * (6 + C 0) → bit64 (Y_ f) t = (X_ t).testBit f) (hoN : o_ < 2 ^ (2 * (6 + C 0))) (hm : m_ ≤ 1) (nn : Nat) : Met l yX1_canShow (ws_ yX1_canShow cX1_canShow 7 (Option.some Jvm.ClassFile.FieldType.boolean)) ({ frames := 2, cells := 0, slots := 0, locals := 45 } : Room) (va_Pc [.ref (xq 0), .long (lN o_), .int (nI m_)] (PreW EvX D vwCl (TY ca) (WT ca cq xq (kdC C) (fsC C) (snC C) ak (nI (C 0)) (nI (C 37)) (nI (C 38)) (fI (C 39)) (nI (C 40)) (lN (C 66)) (nI (C 41)) tb_ va fy cn an sw sb sv) nn)) (va_Qi (fun (r_ : Int32) (_ : Unit) => r_ = bI (cvB X_ m_ o_)) (PostW D vwCl (TY ca) (fun (_ : Unit) => (WT ca cq xq (kdC C) (fsC C) (snC C) ak (nI (C 0)) (nI (C 37)) (nI (C 38)) (fI (C 39)) (nI (C 40)) (lN (C 66)) (nI (C 41)) tb_ va fy cn an sw sb sv)) (va_A (WT ca cq xq (kdC C) (fsC C) (snC C) ak (nI (C 0)) (nI (C 37)) (nI (C 38)) (fI (C 39)) (nI (C 40)) (lN (C 66)) (nI (C 41)) tb_ va fy cn an sw sb sv) nn)) (va_A (WT ca cq xq (kdC C) (fsC C) (snC C) ak (nI (C 0)) (nI (C 37)) (nI (C 38)) (fI (C 39)) (nI (C 40)) (lN (C 66)) (nI (C 41)) tb_ va fy cn an sw sb sv) nn)) 0 0 (va_A (WT ca cq xq (kdC C) (fsC C) (snC C) ak (nI (C 0)) (nI (C 37)) (nI (C 38)) (fI (C 39)) (nI (C 40)) (lN (C 66)) (nI (C 41)) tb_ va fy cn an sw sb sv) nn) := by
  refine met_go (QA := fun A => va_Qi (fun (r_ : Int32) (_ : Unit) => r_ = bI (cvB X_ m_ o_)) (PostW D vwCl (TY ca) (fun (_ : Unit) => (WT ca cq xq (kdC C) (fsC C) (snC C) ak (nI (C 0)) (nI (C 37)) (nI (C 38)) (fI (C 39)) (nI (C 40)) (lN (C 66)) (nI (C 41)) tb_ va fy cn an sw sb sv)) A) A) (by decide) (Nat.le_of_ble_eq_true rfl) (fun p e s m below meth c A ls QQ hQQ hx hb hr hts hown hlocks hml hA hP hK hD hE hl => ?_)
  have hown : s.vm.findClass RX1 = some m.cls := hown
  have hS : va_S A s.heap s.heap [] := va_S.rf
  have hl : lv_has ls 7 [(0, .ref (xq 0)), (1, .long (lN o_)), (3, .int (nI m_))] := hl
  generalize hHe : s.heap = H at hP ⊢
  have hS : va_S A s.heap H [] := hHe ▸ hS
  generalize ([] : List Loc) = locs at hS ⊢
  have ho36 : o_ < 2 ^ 36 := Nat.lt_of_lt_of_le hoN (Nat.pow_le_pow_right (by decide) (by omega))
  refine lv_lload_n hx hb dX1_canShow_0 rfl (lv_at hl 1 rfl) ?_
  refine lv_lconst (v := lN 0) hx hb dX1_canShow_1 (by decide) ?_
  refine nv_lcmp_ne (tgt := 8) hx hb dX1_canShow_2 dX1_canShow_3 (by decide) (fun c_2 => ?_) (fun c_2 => ?_)
  · skip
    refine lv_iload_n hx hb dX1_canShow_8 rfl (lv_at hl 2 rfl) ?_
    refine nv_if_eq (tgt := 36) hx hb dX1_canShow_9 (by decide) (by omega) (fun c_9 => ?_) (fun c_9 => ?_)
    · skip
      refine lv_iconst (v := nI 0) hx hb dX1_canShow_36 (by decide) ?_
      subst hQQ
      refine (xe_z (b := false) () hx hb hr hlocks hK hP hD hS (congrArg bI (by first | exact (cvB_f (Cv_few c_33)).symm | exact (cvB_f (fun h_ => c_2 (by subst c_9; exact congrArg lN h_))).symm)) dX1_canShow_37)
    · skip
      refine lv_iload_n hx hb dX1_canShow_12 rfl (lv_at hl 2 rfl) ?_
      refine lv_aload_n hx hb dX1_canShow_13 rfl (lv_at hl 0 rfl) ?_
      refine gWT_5_shownBy_X1 hx hb hts hown hK hP dX1_canShow_14 ?_
      refine lv_aload_n hx hb dX1_canShow_17 rfl (lv_at hl 0 rfl) ?_
      refine lv_lload_n hx hb dX1_canShow_18 rfl (lv_at hl 1 rfl) ?_
      refine xc_i (xr_V (b := xq 0) (ci := 0) (q0 := 5) (As := [.long (lN o_)]) (rest := [.ref (xq 7), .int (nI m_)]) (mt_X1_strongest l D ca cq xq (kdC C) (fsC C) (snC C) ak (nI (C 0)) (nI (C 37)) (nI (C 38)) (fI (C 39)) (nI (C 40)) (lN (C 66)) (nI (C 41)) tb_ va fy cn an sw sb sv X_ o_ hsb H.size) ⟨hx, hb, hml, hown, hts⟩ (cwV 1 hts (lw_V q481 q483 qs10 q79 q484) rfl rfl rfl (by decide +kernel) ⟨Nat.le_of_ble_eq_true rfl, Nat.le_of_ble_eq_true rfl⟩) EvX_ok hE hK hS (Cut.all hP hD hS hA) rfl rfl rfl hl.1 rfl (Nat.le_of_ble_eq_true rfl) dX1_canShow_19 ⟨Nat.le_of_ble_eq_true rfl, Nat.le_of_ble_eq_true rfl⟩) hS (Cut.all hP hD hS hA) (fun r_3 u_4 H locs hq_19 hP hD hS => ?_)
      have hP : va_P D vwCl (WT ca cq xq (kdC C) (fsC C) (snC C) ak (nI (C 0)) (nI (C 37)) (nI (C 38)) (fI (C 39)) (nI (C 40)) (lN (C 66)) (nI (C 41)) tb_ va fy cn an sw sb sv) H := hP
      have hD : va_D A (WT ca cq xq (kdC C) (fsC C) (snC C) ak (nI (C 0)) (nI (C 37)) (nI (C 38)) (fI (C 39)) (nI (C 40)) (lN (C 66)) (nI (C 41)) tb_ va fy cn an sw sb sv) := hD
      have hp_19 : r_3 = nI (stg X_ o_) := hq_19
      clear hq_19
      obtain rfl := hp_19
      refine ldWT_12 hx hb hK hP (stg_lt _ _) dX1_canShow_22 ?_
      refine lv_topl (nm_r (e' := lN (X_ (stg X_ o_))) (hsb _ (stg_lt _ _)) ?_)
      refine lv_lload_n hx hb dX1_canShow_23 rfl (lv_at hl 1 rfl) ?_
      refine lv_land hx hb dX1_canShow_24 (lv_topl (nm_r (e' := lN ((X_ (stg X_ o_)) &&& o_)) (klN_and (X_ (stg X_ o_)) o_) ?_))
      refine xc_i (xr_S (As := [.long (lN ((X_ (stg X_ o_)) &&& o_))]) (rest := [.int (nI m_)]) (mt_J16_bitCount_r l D ca (lN ((X_ (stg X_ o_)) &&& o_))  H.size) ⟨hx, hb, hml, hown, hts⟩ (va_cwS 1 hts (lw_S q485 q486 q100 q487) rfl rfl rfl (by decide +kernel) ⟨Nat.le_of_ble_eq_true rfl, Nat.le_of_ble_eq_true rfl⟩) Ev0_ok trivial hK hS (Cut.app (wc := []) (wr := (WT ca cq xq (kdC C) (fsC C) (snC C) ak (nI (C 0)) (nI (C 37)) (nI (C 38)) (fI (C 39)) (nI (C 40)) (lN (C 66)) (nI (C 41)) tb_ va fy cn an sw sb sv)) hP hD hS hA) rfl hl.1 rfl (Nat.le_of_ble_eq_true rfl) dX1_canShow_25 ⟨Nat.le_of_ble_eq_true rfl, Nat.le_of_ble_eq_true rfl⟩) hS (Cut.app (wc := []) (wr := (WT ca cq xq (kdC C) (fsC C) (snC C) ak (nI (C 0)) (nI (C 37)) (nI (C 38)) (fI (C 39)) (nI (C 40)) (lN (C 66)) (nI (C 41)) tb_ va fy cn an sw sb sv)) hP hD hS hA) (fun r_5 u_6 H locs hq_25 hP hD hS => ?_)
      have hP : va_P D vwCl (WT ca cq xq (kdC C) (fsC C) (snC C) ak (nI (C 0)) (nI (C 37)) (nI (C 38)) (fI (C 39)) (nI (C 40)) (lN (C 66)) (nI (C 41)) tb_ va fy cn an sw sb sv) H := hP
      have hD : va_D A (WT ca cq xq (kdC C) (fsC C) (snC C) ak (nI (C 0)) (nI (C 37)) (nI (C 38)) (fI (C 39)) (nI (C 40)) (lN (C 66)) (nI (C 41)) tb_ va fy cn an sw sb sv) := hD
      have hp_25 : r_5 = nI (popl 64 (lN ((X_ (stg X_ o_)) &&& o_))) := hq_25
      clear hq_25
      obtain rfl := hp_25
      refine nv_imul hx hb dX1_canShow_28 ?_
      refine lv_lload_n hx hb dX1_canShow_29 rfl (lv_at hl 1 rfl) ?_
      refine xc_i (xr_S (As := [.long (lN o_)]) (rest := [.int (nI (m_ * (popl 64 (lN ((X_ (stg X_ o_)) &&& o_)))))]) (mt_J16_bitCount_r l D ca (lN o_)  H.size) ⟨hx, hb, hml, hown, hts⟩ (va_cwS 1 hts (lw_S q485 q486 q100 q487) rfl rfl rfl (by decide +kernel) ⟨Nat.le_of_ble_eq_true rfl, Nat.le_of_ble_eq_true rfl⟩) Ev0_ok trivial hK hS (Cut.app (wc := []) (wr := (WT ca cq xq (kdC C) (fsC C) (snC C) ak (nI (C 0)) (nI (C 37)) (nI (C 38)) (fI (C 39)) (nI (C 40)) (lN (C 66)) (nI (C 41)) tb_ va fy cn an sw sb sv)) hP hD hS hA) rfl hl.1 rfl (Nat.le_of_ble_eq_true rfl) dX1_canShow_30 ⟨Nat.le_of_ble_eq_true rfl, Nat.le_of_ble_eq_true rfl⟩) hS (Cut.app (wc := []) (wr := (WT ca cq xq (kdC C) (fsC C) (snC C) ak (nI (C 0)) (nI (C 37)) (nI (C 38)) (fI (C 39)) (nI (C 40)) (lN (C 66)) (nI (C 41)) tb_ va fy cn an sw sb sv)) hP hD hS hA) (fun r_7 u_8 H locs hq_30 hP hD hS => ?_)
      have hP : va_P D vwCl (WT ca cq xq (kdC C) (fsC C) (snC C) ak (nI (C 0)) (nI (C 37)) (nI (C 38)) (fI (C 39)) (nI (C 40)) (lN (C 66)) (nI (C 41)) tb_ va fy cn an sw sb sv) H := hP
      have hD : va_D A (WT ca cq xq (kdC C) (fsC C) (snC C) ak (nI (C 0)) (nI (C 37)) (nI (C 38)) (fI (C 39)) (nI (C 40)) (lN (C 66)) (nI (C 41)) tb_ va fy cn an sw sb sv) := hD
      have hp_30 : r_7 = nI (popl 64 (lN o_)) := hq_30
      clear hq_30
      obtain rfl := hp_30
      refine nv_icmp_ge (tgt := 38) hx hb dX1_canShow_33 (by decide) (by have h1_ := popl_le 64 (lN (X_ (stg X_ o_) &&& o_)); have := Nat.mul_le_mul hm h1_; omega) (by have := popl_le 64 (lN o_); omega) (fun c_33 => ?_) (fun c_33 => ?_)
      · skip
        refine lv_iconst (v := fI 0) hx hb dX1_canShow_38 (by decide) ?_
        refine lv_istore (lv' := [(4, .int (fI 0)), (0, .ref (xq 0)), (1, .long (lN o_)), (3, .int (nI m_))]) hx hb dX1_canShow_39 hl (by decide) rfl (fun ls hl => ?_)
        refine lv_iconst (v := nI 0) hx hb dX1_canShow_41 (by decide) ?_
        refine lv_istore (lv' := [(5, .int (nI 0)), (4, .int (fI 0)), (0, .ref (xq 0)), (1, .long (lN o_)), (3, .int (nI m_))]) hx hb dX1_canShow_42 hl (by decide) rfl (fun ls hl => ?_)
        have lp_44 : ∀ (fu_44 : Nat) (n : Nat), 2 * (6 + C 0) - n < fu_44 → (n ≤ 2 * (6 + C 0)) → ∀ (H : Heap) (locs : List Loc), va_P D vwCl (WT ca cq xq (kdC C) (fsC C) (snC C) ak (nI (C 0)) (nI (C 37)) (nI (C 38)) (fI (C 39)) (nI (C 40)) (lN (C 66)) (nI (C 41)) tb_ va fy cn an sw sb sv) H → va_D A (WT ca cq xq (kdC C) (fsC C) (snC C) ak (nI (C 0)) (nI (C 37)) (nI (C 38)) (fI (C 39)) (nI (C 40)) (lN (C 66)) (nI (C 41)) tb_ va fy cn an sw sb sv) → va_S A s.heap H locs → ∀ (ls : Array Slot), lv_has ls 7 [(5, .int (nI n)), (4, .int (fI (hdN Y_ o_ n))), (0, .ref (xq 0)), (1, .long (lN o_)), (3, .int (nI m_))] → W p l e ({ frames := 2, cells := 0, slots := 0, locals := 45 } : Room) s m ([.ref (xq 0), .long (lN o_), .int (nI m_)] : List Value).toArray below meth c H locs 0 0 QQ (F0 m 44 ls []) := by
          intro fu_44
          induction fu_44 with
          | zero => intro n hfu; exact absurd hfu (Nat.not_lt_zero _)
          | succ fu_44 ih_44 =>
            intro n hfu hn H locs hP hD hS ls hl
            refine lv_iload hx hb dX1_canShow_44 (lv_at hl 0 rfl) ?_
            refine lv_aload_n hx hb dX1_canShow_46 rfl (lv_at hl 2 rfl) ?_
            refine gWT_5_circuit_X1 hx hb hts hown hK hP dX1_canShow_47 ?_
            refine xc_i (xr_V (b := cq 0) (ci := 1) (q0 := 0) (As := []) (rest := [.int (nI n)]) (mt_X2_faults l D ca cq (kdC C) (fsC C) (snC C) ak (nI (C 37)) (nI (C 38)) (fI (C 39)) (nI (C 40)) (lN (C 66)) (nI (C 41)) (C 0)  H.size) ⟨hx, hb, hml, hown, hts⟩ (cwV 0 hts (lw_V q439 q440 q441 q80 q442) rfl rfl rfl (by decide +kernel) ⟨Nat.le_of_ble_eq_true rfl, Nat.le_of_ble_eq_true rfl⟩) EvX_ok hE hK hS (Cut.app (wc := (WC ca cq (kdC C) (fsC C) (snC C) ak (nI (C 0)) (nI (C 37)) (nI (C 38)) (fI (C 39)) (nI (C 40)) (lN (C 66)) (nI (C 41)))) (wr := (WTr ca cq xq tb_ va fy cn an sw sb sv)) hP hD hS hA) rfl rfl rfl hl.1 rfl (Nat.le_of_ble_eq_true rfl) dX1_canShow_50 ⟨Nat.le_of_ble_eq_true rfl, Nat.le_of_ble_eq_true rfl⟩) hS (Cut.app (wc := (WC ca cq (kdC C) (fsC C) (snC C) ak (nI (C 0)) (nI (C 37)) (nI (C 38)) (fI (C 39)) (nI (C 40)) (lN (C 66)) (nI (C 41)))) (wr := (WTr ca cq xq tb_ va fy cn an sw sb sv)) hP hD hS hA) (fun r_10 u_11 H locs hq_50 hP hD hS => ?_)
            have hP : va_P D vwCl (WT ca cq xq (kdC C) (fsC C) (snC C) ak (nI (C 0)) (nI (C 37)) (nI (C 38)) (fI (C 39)) (nI (C 40)) (lN (C 66)) (nI (C 41)) tb_ va fy cn an sw sb sv) H := hP
            have hD : va_D A (WT ca cq xq (kdC C) (fsC C) (snC C) ak (nI (C 0)) (nI (C 37)) (nI (C 38)) (fI (C 39)) (nI (C 40)) (lN (C 66)) (nI (C 41)) tb_ va fy cn an sw sb sv) := hD
            have hp_50 : r_10 = nI (2 * (6 + (C 0))) := hq_50
            clear hq_50
            obtain rfl := hp_50
            refine nv_icmp_ge (tgt := 121) hx hb dX1_canShow_53 (by decide) (by omega) (by omega) (fun c_53 => ?_) (fun c_53 => ?_)
            · skip
              have e_ : 2 * (6 + C 0) = n := Eq.symm (by omega)
              subst e_
              obtain ⟨hW0, hWl, hWb⟩ := hdN_hit (Y := Y_) hoN (fun z => c_2 (by rw [z]))
              have hl : lv_has ls 7 [(5, .int (nI (2 * (6 + C 0)))), (4, .int (nI (hdN Y_ o_ (2 * (6 + C 0)) - 1))), (0, .ref (xq 0)), (1, .long (lN o_)), (3, .int (nI m_))] := (congrArg (fun x_ => lv_has ls 7 [(5, .int (nI (2 * (6 + C 0)))), (4, .int x_), (0, .ref (xq 0)), (1, .long (lN o_)), (3, .int (nI m_))]) (show fI (hdN Y_ o_ (2 * (6 + C 0))) = nI (hdN Y_ o_ (2 * (6 + C 0)) - 1) from fI_pos hW0)).mp hl
              refine lv_iconst (v := nI 0) hx hb dX1_canShow_121 (by decide) ?_
              refine lv_istore (lv' := [(5, .int (nI 0)), (4, .int (nI (hdN Y_ o_ (2 * (6 + C 0)) - 1))), (0, .ref (xq 0)), (1, .long (lN o_)), (3, .int (nI m_))]) hx hb dX1_canShow_122 hl (by decide) rfl (fun ls hl => ?_)
              have lp_124 : ∀ (fu_124 : Nat) (t : Nat), 64 - t < fu_124 → (t ≤ 64) → (csN X_ (m_ - 1) o_ (hdN Y_ o_ (2 * (6 + C 0)) - 1) t) → ∀ (H : Heap) (locs : List Loc), va_P D vwCl (WT ca cq xq (kdC C) (fsC C) (snC C) ak (nI (C 0)) (nI (C 37)) (nI (C 38)) (fI (C 39)) (nI (C 40)) (lN (C 66)) (nI (C 41)) tb_ va fy cn an sw sb sv) H → va_D A (WT ca cq xq (kdC C) (fsC C) (snC C) ak (nI (C 0)) (nI (C 37)) (nI (C 38)) (fI (C 39)) (nI (C 40)) (lN (C 66)) (nI (C 41)) tb_ va fy cn an sw sb sv) → va_S A s.heap H locs → ∀ (ls : Array Slot), lv_has ls 7 [(5, .int (nI t)), (4, .int (nI (hdN Y_ o_ (2 * (6 + C 0)) - 1))), (0, .ref (xq 0)), (1, .long (lN o_)), (3, .int (nI m_))] → W p l e ({ frames := 2, cells := 0, slots := 0, locals := 45 } : Room) s m ([.ref (xq 0), .long (lN o_), .int (nI m_)] : List Value).toArray below meth c H locs 0 0 QQ (F0 m 124 ls []) := by
                intro fu_124
                induction fu_124 with
                | zero => intro t hfu; exact absurd hfu (Nat.not_lt_zero _)
                | succ fu_124 ih_124 =>
                  intro t hfu ht_ hcs H locs hP hD hS ls hl
                  refine lv_iload hx hb dX1_canShow_124 (lv_at hl 0 rfl) ?_
                  refine lv_bipush (v := nI 64) hx hb dX1_canShow_126 (by decide) ?_
                  refine nv_icmp_ge (tgt := 187) hx hb dX1_canShow_128 (by decide) (by omega) (by omega) (fun c_128 => ?_) (fun c_128 => ?_)
                  · skip
                    have e_ : 64 = t := Eq.symm (by omega)
                    subst e_
                    refine lv_iconst (v := nI 0) hx hb dX1_canShow_187 (by decide) ?_
                    subst hQQ
                    refine (xe_z (b := false) () hx hb hr hlocks hK hP hD hS (congrArg bI (cs_end ho36 hWb c_9 hcs)) dX1_canShow_188)
                  · skip
                    refine lv_aload_n hx hb dX1_canShow_131 rfl (lv_at hl 2 rfl) ?_
                    refine gWT_5_shown_X1 hx hb hts hown hK hP dX1_canShow_132 ?_
                    refine lv_iload hx hb dX1_canShow_135 (lv_at hl 1 rfl) ?_
                    refine ldWT_11 hx hb hK hP (by omega) dX1_canShow_137 ?_
                    refine lv_topl (nm_r (e' := Y_ (hdN Y_ o_ (2 * (6 + C 0)) - 1)) (hsw _ (by omega)) ?_)
                    refine lv_iload hx hb dX1_canShow_138 (lv_at hl 0 rfl) ?_
                    refine xc_i (xr_S (As := [.long (Y_ (hdN Y_ o_ (2 * (6 + C 0)) - 1)), .int (nI t)]) (rest := []) (mt_X1_isIn_2 l D ca (Y_ (hdN Y_ o_ (2 * (6 + C 0)) - 1)) t (by first | assumption | omega | (simp only [updN, forgetC, changedC]; (repeat' split) <;> omega)) H.size) ⟨hx, hb, hml, hown, hts⟩ (va_cwS 2 hts (lw_S q478 q479 q79 q480) rfl rfl rfl (by decide +kernel) ⟨Nat.le_of_ble_eq_true rfl, Nat.le_of_ble_eq_true rfl⟩) Ev0_ok trivial hK hS (Cut.app (wc := []) (wr := (WT ca cq xq (kdC C) (fsC C) (snC C) ak (nI (C 0)) (nI (C 37)) (nI (C 38)) (fI (C 39)) (nI (C 40)) (lN (C 66)) (nI (C 41)) tb_ va fy cn an sw sb sv)) hP hD hS hA) rfl hl.1 rfl (Nat.le_of_ble_eq_true rfl) dX1_canShow_140 ⟨Nat.le_of_ble_eq_true rfl, Nat.le_of_ble_eq_true rfl⟩) hS (Cut.app (wc := []) (wr := (WT ca cq xq (kdC C) (fsC C) (snC C) ak (nI (C 0)) (nI (C 37)) (nI (C 38)) (fI (C 39)) (nI (C 40)) (lN (C 66)) (nI (C 41)) tb_ va fy cn an sw sb sv)) hP hD hS hA) (fun r_14 u_15 H locs hq_140 hP hD hS => ?_)
                    have hP : va_P D vwCl (WT ca cq xq (kdC C) (fsC C) (snC C) ak (nI (C 0)) (nI (C 37)) (nI (C 38)) (fI (C 39)) (nI (C 40)) (lN (C 66)) (nI (C 41)) tb_ va fy cn an sw sb sv) H := hP
                    have hD : va_D A (WT ca cq xq (kdC C) (fsC C) (snC C) ak (nI (C 0)) (nI (C 37)) (nI (C 38)) (fI (C 39)) (nI (C 40)) (lN (C 66)) (nI (C 41)) tb_ va fy cn an sw sb sv) := hD
                    have hp_140 : r_14 = bI (bit64 (Y_ (hdN Y_ o_ (2 * (6 + C 0)) - 1)) t) := hq_140
                    clear hq_140
                    obtain rfl := hp_140
                    refine nv_ifb_eq (tgt := 181) hx hb dX1_canShow_143 (by decide) (fun c_143 => ?_) (fun c_143 => ?_)
                    · skip
                      refine lv_iinc (v := nI (t + 1)) (lv' := [(5, .int (nI (t + 1))), (4, .int (nI (hdN Y_ o_ (2 * (6 + C 0)) - 1))), (0, .ref (xq 0)), (1, .long (lN o_)), (3, .int (nI m_))]) hx hb dX1_canShow_181 hl (k := 0) rfl (nI_add t 1) (by decide) rfl (fun ls hl => ?_)
                      refine lv_goto (tgt := 124) hx hb dX1_canShow_184 (by decide) ?_
                      exact ih_124  (t + 1) (by omega) (by omega) (cs_s hcs (fun q_ => by first | exact absurd ((cvB_iff.mpr q_.2.2).symm.trans c_176) (by decide) | exact absurd (c_153.symm.trans q_.2.1) (by decide) | exact absurd (((hXY t _ (by omega) (by omega)).symm.trans c_143).symm.trans q_.1) (by decide))) _ _ hP hD hS ls (lv_sub hl [0, 1, 2, 3, 4] rfl)
                    · skip
                      refine lv_aload_n hx hb dX1_canShow_146 rfl (lv_at hl 2 rfl) ?_
                      refine lv_iload hx hb dX1_canShow_147 (lv_at hl 0 rfl) ?_
                      refine lv_lload_n hx hb dX1_canShow_149 rfl (lv_at hl 3 rfl) ?_
                      refine xc_i (xr_V (b := xq 0) (ci := 0) (q0 := 5) (As := [.int (nI t), .long (lN o_)]) (rest := []) (mt_X1_isWeaker l D ca cq xq (kdC C) (fsC C) (snC C) ak (nI (C 0)) (nI (C 37)) (nI (C 38)) (fI (C 39)) (nI (C 40)) (lN (C 66)) (nI (C 41)) tb_ va fy cn an sw sb sv X_ t o_ hsb (by omega) ho36 H.size) ⟨hx, hb, hml, hown, hts⟩ (cwV 2 hts (lw_V q1067 q1069 qs23 q79 q1070) rfl rfl rfl (by decide +kernel) ⟨Nat.le_of_ble_eq_true rfl, Nat.le_of_ble_eq_true rfl⟩) EvX_ok hE hK hS (Cut.all hP hD hS hA) rfl rfl rfl hl.1 rfl (Nat.le_of_ble_eq_true rfl) dX1_canShow_150 ⟨Nat.le_of_ble_eq_true rfl, Nat.le_of_ble_eq_true rfl⟩) hS (Cut.all hP hD hS hA) (fun r_17 u_18 H locs hq_150 hP hD hS => ?_)
                      have hP : va_P D vwCl (WT ca cq xq (kdC C) (fsC C) (snC C) ak (nI (C 0)) (nI (C 37)) (nI (C 38)) (fI (C 39)) (nI (C 40)) (lN (C 66)) (nI (C 41)) tb_ va fy cn an sw sb sv) H := hP
                      have hD : va_D A (WT ca cq xq (kdC C) (fsC C) (snC C) ak (nI (C 0)) (nI (C 37)) (nI (C 38)) (fI (C 39)) (nI (C 40)) (lN (C 66)) (nI (C 41)) tb_ va fy cn an sw sb sv) := hD
                      have hp_150 : r_17 = bI (wkN X_ o_ t 64) := hq_150
                      clear hq_150
                      obtain rfl := hp_150
                      refine nv_ifb_ne (tgt := 181) hx hb dX1_canShow_153 (by decide) (fun c_153 => ?_) (fun c_153 => ?_)
                      · skip
                        refine lv_iinc (v := nI (t + 1)) (lv' := [(5, .int (nI (t + 1))), (4, .int (nI (hdN Y_ o_ (2 * (6 + C 0)) - 1))), (0, .ref (xq 0)), (1, .long (lN o_)), (3, .int (nI m_))]) hx hb dX1_canShow_181 hl (k := 0) rfl (nI_add t 1) (by decide) rfl (fun ls hl => ?_)
                        refine lv_goto (tgt := 124) hx hb dX1_canShow_184 (by decide) ?_
                        exact ih_124  (t + 1) (by omega) (by omega) (cs_s hcs (fun q_ => by first | exact absurd ((cvB_iff.mpr q_.2.2).symm.trans c_176) (by decide) | exact absurd (c_153.symm.trans q_.2.1) (by decide) | exact absurd (((hXY t _ (by omega) (by omega)).symm.trans c_143).symm.trans q_.1) (by decide))) _ _ hP hD hS ls (lv_sub hl [0, 1, 2, 3, 4] rfl)
                      · skip
                        refine lv_aload_n hx hb dX1_canShow_156 rfl (lv_at hl 2 rfl) ?_
                        refine lv_lload_n hx hb dX1_canShow_157 rfl (lv_at hl 3 rfl) ?_
                        refine lv_aload_n hx hb dX1_canShow_158 rfl (lv_at hl 2 rfl) ?_
                        refine gWT_5_shownBy_X1 hx hb hts hown hK hP dX1_canShow_159 ?_
                        refine lv_iload hx hb dX1_canShow_162 (lv_at hl 0 rfl) ?_
                        refine ldWT_12 hx hb hK hP (by omega) dX1_canShow_164 ?_
                        refine lv_topl (nm_r (e' := lN (X_ t)) (hsb t (by omega)) ?_)
                        refine lv_ldc2 (v := (-1)) hx hb hown (hts _ q476) dX1_canShow_165 ?_
                        refine lv_lxor hx hb dX1_canShow_168 ?_
                        refine lv_land hx hb dX1_canShow_169 ?_
                        refine lv_topl (nm_r (e' := lN (adN o_ (X_ t))) (lN_adn) ?_)
                        refine lv_iload_n hx hb dX1_canShow_170 rfl (lv_at hl 4 rfl) ?_
                        refine lv_iconst (v := nI 1) hx hb dX1_canShow_171 (by decide) ?_
                        refine nv_isub hx hb dX1_canShow_172 (by omega) ?_
                        refine xc_i (xr_V (b := xq 0) (ci := 0) (q0 := 5) (As := [.long (lN (adN o_ (X_ t))), .int (nI (m_ - 1))]) (rest := []) (mt_X1_canShow_d0 l D ca cq xq ak tb_ va fy cn an sw sb sv C X_ Y_ (adN o_ (X_ t)) (m_ - 1) h0 hsb hsw hXY (adN_le2 hoN) (by omega) H.size) ⟨hx, hb, hml, hown, hts⟩ (cwV 2 hts (lw_V q1063 q1065 qs22 q79 q1066) rfl rfl rfl (by decide +kernel) ⟨Nat.le_of_ble_eq_true rfl, Nat.le_of_ble_eq_true rfl⟩) EvX_ok hE hK hS (Cut.all hP hD hS hA) rfl rfl rfl hl.1 rfl (Nat.le_of_ble_eq_true rfl) dX1_canShow_173 ⟨Nat.le_of_ble_eq_true rfl, Nat.le_of_ble_eq_true rfl⟩) hS (Cut.all hP hD hS hA) (fun r_20 u_21 H locs hq_173 hP hD hS => ?_)
                        have hP : va_P D vwCl (WT ca cq xq (kdC C) (fsC C) (snC C) ak (nI (C 0)) (nI (C 37)) (nI (C 38)) (fI (C 39)) (nI (C 40)) (lN (C 66)) (nI (C 41)) tb_ va fy cn an sw sb sv) H := hP
                        have hD : va_D A (WT ca cq xq (kdC C) (fsC C) (snC C) ak (nI (C 0)) (nI (C 37)) (nI (C 38)) (fI (C 39)) (nI (C 40)) (lN (C 66)) (nI (C 41)) tb_ va fy cn an sw sb sv) := hD
                        have hp_173 : r_20 = bI (cvB X_ (m_ - 1) (adN o_ (X_ t))) := hq_173
                        clear hq_173
                        obtain rfl := hp_173
                        refine nv_ifb_eq (tgt := 181) hx hb dX1_canShow_176 (by decide) (fun c_176 => ?_) (fun c_176 => ?_)
                        · skip
                          refine lv_iinc (v := nI (t + 1)) (lv' := [(5, .int (nI (t + 1))), (4, .int (nI (hdN Y_ o_ (2 * (6 + C 0)) - 1))), (0, .ref (xq 0)), (1, .long (lN o_)), (3, .int (nI m_))]) hx hb dX1_canShow_181 hl (k := 0) rfl (nI_add t 1) (by decide) rfl (fun ls hl => ?_)
                          refine lv_goto (tgt := 124) hx hb dX1_canShow_184 (by decide) ?_
                          exact ih_124  (t + 1) (by omega) (by omega) (cs_s hcs (fun q_ => by first | exact absurd ((cvB_iff.mpr q_.2.2).symm.trans c_176) (by decide) | exact absurd (c_153.symm.trans q_.2.1) (by decide) | exact absurd (((hXY t _ (by omega) (by omega)).symm.trans c_143).symm.trans q_.1) (by decide))) _ _ hP hD hS ls (lv_sub hl [0, 1, 2, 3, 4] rfl)
                        · skip
                          refine lv_iconst (v := nI 1) hx hb dX1_canShow_179 (by decide) ?_
                          subst hQQ
                          refine (xe_z (b := true) () hx hb hr hlocks hK hP hD hS (congrArg bI (cs_hit ho36 hWb c_9 (by omega) (by rw [← hXY t _ (by omega) (by omega)]; exact c_143) c_153 c_176)) dX1_canShow_180)
              exact lp_124 (64 - 0 + 1) 0 (Nat.lt_succ_self _) (by omega) (fun t_ h_ => absurd h_ (Nat.not_lt_zero t_)) _ _ hP hD hS ls (lv_sub hl [0, 1, 2, 3, 4] rfl)
            · skip
              refine lv_lload_n hx hb dX1_canShow_56 rfl (lv_at hl 3 rfl) ?_
              refine lv_iload hx hb dX1_canShow_57 (lv_at hl 0 rfl) ?_
              refine xc_i (xr_S (As := [.long (lN o_), .int (nI n)]) (rest := []) (mt_X1_isIn_2 l D ca (lN o_) n (by first | assumption | omega | (simp only [updN, forgetC, changedC]; (repeat' split) <;> omega)) H.size) ⟨hx, hb, hml, hown, hts⟩ (va_cwS 2 hts (lw_S q478 q479 q79 q480) rfl rfl rfl (by decide +kernel) ⟨Nat.le_of_ble_eq_true rfl, Nat.le_of_ble_eq_true rfl⟩) Ev0_ok trivial hK hS (Cut.app (wc := []) (wr := (WT ca cq xq (kdC C) (fsC C) (snC C) ak (nI (C 0)) (nI (C 37)) (nI (C 38)) (fI (C 39)) (nI (C 40)) (lN (C 66)) (nI (C 41)) tb_ va fy cn an sw sb sv)) hP hD hS hA) rfl hl.1 rfl (Nat.le_of_ble_eq_true rfl) dX1_canShow_59 ⟨Nat.le_of_ble_eq_true rfl, Nat.le_of_ble_eq_true rfl⟩) hS (Cut.app (wc := []) (wr := (WT ca cq xq (kdC C) (fsC C) (snC C) ak (nI (C 0)) (nI (C 37)) (nI (C 38)) (fI (C 39)) (nI (C 40)) (lN (C 66)) (nI (C 41)) tb_ va fy cn an sw sb sv)) hP hD hS hA) (fun r_23 u_24 H locs hq_59 hP hD hS => ?_)
              have hP : va_P D vwCl (WT ca cq xq (kdC C) (fsC C) (snC C) ak (nI (C 0)) (nI (C 37)) (nI (C 38)) (fI (C 39)) (nI (C 40)) (lN (C 66)) (nI (C 41)) tb_ va fy cn an sw sb sv) H := hP
              have hD : va_D A (WT ca cq xq (kdC C) (fsC C) (snC C) ak (nI (C 0)) (nI (C 37)) (nI (C 38)) (fI (C 39)) (nI (C 40)) (lN (C 66)) (nI (C 41)) tb_ va fy cn an sw sb sv) := hD
              have hp_59 : r_23 = bI (bit64 (lN o_) n) := hq_59
              clear hq_59
              obtain rfl := hp_59
              refine nv_ifb_eq (tgt := 98) hx hb dX1_canShow_62 (by decide) (fun c_62 => ?_) (fun c_62 => ?_)
              · skip
                refine lv_iconst (v := nI 0) hx hb dX1_canShow_98 (by decide) ?_
                refine lv_istore (lv' := [(6, .int (nI 0)), (5, .int (nI n)), (4, .int (fI (hdN Y_ o_ n))), (0, .ref (xq 0)), (1, .long (lN o_)), (3, .int (nI m_))]) hx hb dX1_canShow_99 hl (by decide) rfl (fun ls hl => ?_)
                refine lv_iload hx hb dX1_canShow_101 (lv_at hl 0 rfl) ?_
                refine nv_if_eq (tgt := 111) hx hb dX1_canShow_103 (by decide) (by omega) (fun c_103 => ?_) (fun c_103 => absurd c_103 (by decide))
                refine lv_iload hx hb dX1_canShow_111 (lv_at hl 2 rfl) ?_
                refine lv_istore (lv' := [(4, .int (fI (hdN Y_ o_ n))), (6, .int (nI 0)), (5, .int (nI n)), (0, .ref (xq 0)), (1, .long (lN o_)), (3, .int (nI m_))]) hx hb dX1_canShow_113 hl (by decide) rfl (fun ls hl => ?_)
                refine lv_iinc (v := nI (n + 1)) (lv' := [(5, .int (nI (n + 1))), (4, .int (fI (hdN Y_ o_ n))), (6, .int (nI 0)), (0, .ref (xq 0)), (1, .long (lN o_)), (3, .int (nI m_))]) hx hb dX1_canShow_115 hl (k := 2) rfl (nI_add n 1) (by decide) rfl (fun ls hl => ?_)
                refine lv_goto (tgt := 44) hx hb dX1_canShow_118 (by decide) ?_
                have hl : lv_has ls 7 [(5, .int (nI (n + 1))), (4, .int (fI (hdN Y_ o_ (n + 1)))), (6, .int (nI 0)), (0, .ref (xq 0)), (1, .long (lN o_)), (3, .int (nI m_))] := (congrArg (fun x_ => lv_has ls 7 [(5, .int (nI (n + 1))), (4, .int x_), (6, .int (nI 0)), (0, .ref (xq 0)), (1, .long (lN o_)), (3, .int (nI m_))]) (show fI (hdN Y_ o_ n) = fI (hdN Y_ o_ (n + 1)) from congrArg fI (by first | exact (hd_n1 c_62 (by omega)).symm | exact (hd_n2 c_68 c_91).symm))).mp hl
                exact ih_44  (n + 1) (by omega) (by omega) _ _ hP hD hS ls (lv_sub hl [0, 1, 3, 4, 5] rfl)
              · skip
                refine lv_iload hx hb dX1_canShow_65 (lv_at hl 1 rfl) ?_
                refine lv_iconst (v := fI 0) hx hb dX1_canShow_67 (by decide) ?_
                refine nv_icmp_eqf (tgt := 94) hx hb dX1_canShow_68 (by decide) (by have := @hdN_le Y_ o_ n; omega) (fun c_68 => ?_) (fun c_68 => ?_)
                · skip
                  refine lv_iconst (v := nI 1) hx hb dX1_canShow_94 (by decide) ?_
                  refine lv_goto (tgt := 99) hx hb dX1_canShow_95 (by decide) ?_
                  refine lv_istore (lv' := [(6, .int (nI 1)), (5, .int (nI n)), (4, .int (fI (hdN Y_ o_ n))), (0, .ref (xq 0)), (1, .long (lN o_)), (3, .int (nI m_))]) hx hb dX1_canShow_99 hl (by decide) rfl (fun ls hl => ?_)
                  refine lv_iload hx hb dX1_canShow_101 (lv_at hl 0 rfl) ?_
                  refine nv_if_eq (tgt := 111) hx hb dX1_canShow_103 (by decide) (by omega) (fun c_103 => absurd c_103 (by decide)) (fun c_103 => ?_)
                  refine lv_iload hx hb dX1_canShow_106 (lv_at hl 1 rfl) ?_
                  refine lv_goto (tgt := 113) hx hb dX1_canShow_108 (by decide) ?_
                  refine lv_istore (lv' := [(4, .int (nI n)), (6, .int (nI 1)), (5, .int (nI n)), (0, .ref (xq 0)), (1, .long (lN o_)), (3, .int (nI m_))]) hx hb dX1_canShow_113 hl (by decide) rfl (fun ls hl => ?_)
                  refine lv_iinc (v := nI (n + 1)) (lv' := [(5, .int (nI (n + 1))), (4, .int (nI n)), (6, .int (nI 1)), (0, .ref (xq 0)), (1, .long (lN o_)), (3, .int (nI m_))]) hx hb dX1_canShow_115 hl (k := 2) rfl (nI_add n 1) (by decide) rfl (fun ls hl => ?_)
                  refine lv_goto (tgt := 44) hx hb dX1_canShow_118 (by decide) ?_
                  have hl : lv_has ls 7 [(5, .int (nI (n + 1))), (4, .int (fI (hdN Y_ o_ (n + 1)))), (6, .int (nI 1)), (0, .ref (xq 0)), (1, .long (lN o_)), (3, .int (nI m_))] := (congrArg (fun x_ => lv_has ls 7 [(5, .int (nI (n + 1))), (4, .int x_), (6, .int (nI 1)), (0, .ref (xq 0)), (1, .long (lN o_)), (3, .int (nI m_))]) (show nI n = fI (hdN Y_ o_ (n + 1)) from (fI_S n).trans (congrArg fI (hd_y c_62 (by omega) (by first | exact Or.inl c_68 | exact Or.inr c_91)).symm))).mp hl
                  exact ih_44  (n + 1) (by omega) (by omega) _ _ hP hD hS ls (lv_sub hl [0, 1, 3, 4, 5] rfl)
                · skip
                  refine lv_aload_n hx hb dX1_canShow_71 rfl (lv_at hl 2 rfl) ?_
                  refine gWT_5_shown_X1 hx hb hts hown hK hP dX1_canShow_72 ?_
                  refine lv_iload hx hb dX1_canShow_75 (lv_at hl 0 rfl) ?_
                  refine ldWT_11 hx hb hK hP (by omega) dX1_canShow_77 ?_
                  refine lv_topl (nm_r (e' := Y_ n) (hsw n (by omega)) ?_)
                  refine xc_i (xr_S (As := [.long (Y_ n)]) (rest := []) (mt_J16_bitCount_r l D ca (Y_ n)  H.size) ⟨hx, hb, hml, hown, hts⟩ (va_cwS 1 hts (lw_S q485 q486 q100 q487) rfl rfl rfl (by decide +kernel) ⟨Nat.le_of_ble_eq_true rfl, Nat.le_of_ble_eq_true rfl⟩) Ev0_ok trivial hK hS (Cut.app (wc := []) (wr := (WT ca cq xq (kdC C) (fsC C) (snC C) ak (nI (C 0)) (nI (C 37)) (nI (C 38)) (fI (C 39)) (nI (C 40)) (lN (C 66)) (nI (C 41)) tb_ va fy cn an sw sb sv)) hP hD hS hA) rfl hl.1 rfl (Nat.le_of_ble_eq_true rfl) dX1_canShow_78 ⟨Nat.le_of_ble_eq_true rfl, Nat.le_of_ble_eq_true rfl⟩) hS (Cut.app (wc := []) (wr := (WT ca cq xq (kdC C) (fsC C) (snC C) ak (nI (C 0)) (nI (C 37)) (nI (C 38)) (fI (C 39)) (nI (C 40)) (lN (C 66)) (nI (C 41)) tb_ va fy cn an sw sb sv)) hP hD hS hA) (fun r_27 u_28 H locs hq_78 hP hD hS => ?_)
                  have hP : va_P D vwCl (WT ca cq xq (kdC C) (fsC C) (snC C) ak (nI (C 0)) (nI (C 37)) (nI (C 38)) (fI (C 39)) (nI (C 40)) (lN (C 66)) (nI (C 41)) tb_ va fy cn an sw sb sv) H := hP
                  have hD : va_D A (WT ca cq xq (kdC C) (fsC C) (snC C) ak (nI (C 0)) (nI (C 37)) (nI (C 38)) (fI (C 39)) (nI (C 40)) (lN (C 66)) (nI (C 41)) tb_ va fy cn an sw sb sv) := hD
                  have hp_78 : r_27 = nI (popl 64 (Y_ n)) := hq_78
                  clear hq_78
                  obtain rfl := hp_78
                  refine lv_aload_n hx hb dX1_canShow_81 rfl (lv_at hl 2 rfl) ?_
                  refine gWT_5_shown_X1 hx hb hts hown hK hP dX1_canShow_82 ?_
                  refine lv_iload hx hb dX1_canShow_85 (lv_at hl 1 rfl) ?_
                  refine lv_topi (nm_r (e' := nI (hdN Y_ o_ n - 1)) (fI_pos c_68) ?_)
                  refine ldWT_11 hx hb hK hP (by have := @hdN_le Y_ o_ n; omega) dX1_canShow_87 ?_
                  refine lv_topl (nm_r (e' := Y_ (hdN Y_ o_ n - 1)) (hsw _ (by have := @hdN_le Y_ o_ n; omega)) ?_)
                  refine xc_i (xr_S (As := [.long (Y_ (hdN Y_ o_ n - 1))]) (rest := [.int (nI (popl 64 (Y_ n)))]) (mt_J16_bitCount_r l D ca (Y_ (hdN Y_ o_ n - 1))  H.size) ⟨hx, hb, hml, hown, hts⟩ (va_cwS 1 hts (lw_S q485 q486 q100 q487) rfl rfl rfl (by decide +kernel) ⟨Nat.le_of_ble_eq_true rfl, Nat.le_of_ble_eq_true rfl⟩) Ev0_ok trivial hK hS (Cut.app (wc := []) (wr := (WT ca cq xq (kdC C) (fsC C) (snC C) ak (nI (C 0)) (nI (C 37)) (nI (C 38)) (fI (C 39)) (nI (C 40)) (lN (C 66)) (nI (C 41)) tb_ va fy cn an sw sb sv)) hP hD hS hA) rfl hl.1 rfl (Nat.le_of_ble_eq_true rfl) dX1_canShow_88 ⟨Nat.le_of_ble_eq_true rfl, Nat.le_of_ble_eq_true rfl⟩) hS (Cut.app (wc := []) (wr := (WT ca cq xq (kdC C) (fsC C) (snC C) ak (nI (C 0)) (nI (C 37)) (nI (C 38)) (fI (C 39)) (nI (C 40)) (lN (C 66)) (nI (C 41)) tb_ va fy cn an sw sb sv)) hP hD hS hA) (fun r_29 u_30 H locs hq_88 hP hD hS => ?_)
                  have hP : va_P D vwCl (WT ca cq xq (kdC C) (fsC C) (snC C) ak (nI (C 0)) (nI (C 37)) (nI (C 38)) (fI (C 39)) (nI (C 40)) (lN (C 66)) (nI (C 41)) tb_ va fy cn an sw sb sv) H := hP
                  have hD : va_D A (WT ca cq xq (kdC C) (fsC C) (snC C) ak (nI (C 0)) (nI (C 37)) (nI (C 38)) (fI (C 39)) (nI (C 40)) (lN (C 66)) (nI (C 41)) tb_ va fy cn an sw sb sv) := hD
                  have hp_88 : r_29 = nI (popl 64 (Y_ (hdN Y_ o_ n - 1))) := hq_88
                  clear hq_88
                  obtain rfl := hp_88
                  refine nv_icmp_ge (tgt := 98) hx hb dX1_canShow_91 (by decide) (by have := popl_le 64 (Y_ n); omega) (by have := popl_le 64 (Y_ (hdN Y_ o_ n - 1)); omega) (fun c_91 => ?_) (fun c_91 => ?_)
                  · skip
                    refine lv_iconst (v := nI 0) hx hb dX1_canShow_98 (by decide) ?_
                    refine lv_istore (lv' := [(6, .int (nI 0)), (5, .int (nI n)), (4, .int (fI (hdN Y_ o_ n))), (0, .ref (xq 0)), (1, .long (lN o_)), (3, .int (nI m_))]) hx hb dX1_canShow_99 hl (by decide) rfl (fun ls hl => ?_)
                    refine lv_iload hx hb dX1_canShow_101 (lv_at hl 0 rfl) ?_
                    refine nv_if_eq (tgt := 111) hx hb dX1_canShow_103 (by decide) (by omega) (fun c_103 => ?_) (fun c_103 => absurd c_103 (by decide))
                    refine lv_iload hx hb dX1_canShow_111 (lv_at hl 2 rfl) ?_
                    refine lv_istore (lv' := [(4, .int (fI (hdN Y_ o_ n))), (6, .int (nI 0)), (5, .int (nI n)), (0, .ref (xq 0)), (1, .long (lN o_)), (3, .int (nI m_))]) hx hb dX1_canShow_113 hl (by decide) rfl (fun ls hl => ?_)
                    refine lv_iinc (v := nI (n + 1)) (lv' := [(5, .int (nI (n + 1))), (4, .int (fI (hdN Y_ o_ n))), (6, .int (nI 0)), (0, .ref (xq 0)), (1, .long (lN o_)), (3, .int (nI m_))]) hx hb dX1_canShow_115 hl (k := 2) rfl (nI_add n 1) (by decide) rfl (fun ls hl => ?_)
                    refine lv_goto (tgt := 44) hx hb dX1_canShow_118 (by decide) ?_
                    have hl : lv_has ls 7 [(5, .int (nI (n + 1))), (4, .int (fI (hdN Y_ o_ (n + 1)))), (6, .int (nI 0)), (0, .ref (xq 0)), (1, .long (lN o_)), (3, .int (nI m_))] := (congrArg (fun x_ => lv_has ls 7 [(5, .int (nI (n + 1))), (4, .int x_), (6, .int (nI 0)), (0, .ref (xq 0)), (1, .long (lN o_)), (3, .int (nI m_))]) (show fI (hdN Y_ o_ n) = fI (hdN Y_ o_ (n + 1)) from congrArg fI (by first | exact (hd_n1 c_62 (by omega)).symm | exact (hd_n2 c_68 c_91).symm))).mp hl
                    exact ih_44  (n + 1) (by omega) (by omega) _ _ hP hD hS ls (lv_sub hl [0, 1, 3, 4, 5] rfl)
                  · skip
                    refine lv_iconst (v := nI 1) hx hb dX1_canShow_94 (by decide) ?_
                    refine lv_goto (tgt := 99) hx hb dX1_canShow_95 (by decide) ?_
                    refine lv_istore (lv' := [(6, .int (nI 1)), (5, .int (nI n)), (4, .int (fI (hdN Y_ o_ n))), (0, .ref (xq 0)), (1, .long (lN o_)), (3, .int (nI m_))]) hx hb dX1_canShow_99 hl (by decide) rfl (fun ls hl => ?_)
                    refine lv_iload hx hb dX1_canShow_101 (lv_at hl 0 rfl) ?_
                    refine nv_if_eq (tgt := 111) hx hb dX1_canShow_103 (by decide) (by omega) (fun c_103 => absurd c_103 (by decide)) (fun c_103 => ?_)
                    refine lv_iload hx hb dX1_canShow_106 (lv_at hl 1 rfl) ?_
                    refine lv_goto (tgt := 113) hx hb dX1_canShow_108 (by decide) ?_
                    refine lv_istore (lv' := [(4, .int (nI n)), (6, .int (nI 1)), (5, .int (nI n)), (0, .ref (xq 0)), (1, .long (lN o_)), (3, .int (nI m_))]) hx hb dX1_canShow_113 hl (by decide) rfl (fun ls hl => ?_)
                    refine lv_iinc (v := nI (n + 1)) (lv' := [(5, .int (nI (n + 1))), (4, .int (nI n)), (6, .int (nI 1)), (0, .ref (xq 0)), (1, .long (lN o_)), (3, .int (nI m_))]) hx hb dX1_canShow_115 hl (k := 2) rfl (nI_add n 1) (by decide) rfl (fun ls hl => ?_)
                    refine lv_goto (tgt := 44) hx hb dX1_canShow_118 (by decide) ?_
                    have hl : lv_has ls 7 [(5, .int (nI (n + 1))), (4, .int (fI (hdN Y_ o_ (n + 1)))), (6, .int (nI 1)), (0, .ref (xq 0)), (1, .long (lN o_)), (3, .int (nI m_))] := (congrArg (fun x_ => lv_has ls 7 [(5, .int (nI (n + 1))), (4, .int x_), (6, .int (nI 1)), (0, .ref (xq 0)), (1, .long (lN o_)), (3, .int (nI m_))]) (show nI n = fI (hdN Y_ o_ (n + 1)) from (fI_S n).trans (congrArg fI (hd_y c_62 (by omega) (by first | exact Or.inl c_68 | exact Or.inr c_91)).symm))).mp hl
                    exact ih_44  (n + 1) (by omega) (by omega) _ _ hP hD hS ls (lv_sub hl [0, 1, 3, 4, 5] rfl)
        have hl : lv_has ls 7 [(5, .int (nI 0)), (4, .int (fI (hdN Y_ o_ 0))), (0, .ref (xq 0)), (1, .long (lN o_)), (3, .int (nI m_))] := (congrArg (fun x_ => lv_has ls 7 [(5, .int (nI 0)), (4, .int x_), (0, .ref (xq 0)), (1, .long (lN o_)), (3, .int (nI m_))]) (show fI 0 = fI (hdN Y_ o_ 0) from rfl)).mp hl
        exact lp_44 (2 * (6 + C 0) - 0 + 1) 0 (Nat.lt_succ_self _) (by omega) _ _ hP hD hS ls (lv_sub hl [0, 1, 2, 3, 4] rfl)
      · skip
        refine lv_iconst (v := nI 0) hx hb dX1_canShow_36 (by decide) ?_
        subst hQQ
        refine (xe_z (b := false) () hx hb hr hlocks hK hP hD hS (congrArg bI (by first | exact (cvB_f (Cv_few c_33)).symm | exact (cvB_f (fun h_ => c_2 (by subst c_9; exact congrArg lN h_))).symm)) dX1_canShow_37)
  · skip
    refine lv_iconst (v := nI 1) hx hb dX1_canShow_6 (by decide) ?_
    subst hQQ
    refine (xe_z (b := true) () hx hb hr hlocks hK hP hD hS (congrArg bI (cvB_t (by rw [(lN_eq0 (by omega)).mp c_2]; exact Cv_0 _ _)).symm) dX1_canShow_7)
set_option maxHeartbeats 4000000 in
set_option maxRecDepth 100000 in
theorem mt_X1_canShow_d2 (l : Launch) (D : va_G) (ca : Nat → ClassId) (cq : Nat → Nat) (xq : Nat → Nat) (ak : Nat → Int32) (tb_ : Nat → Int64) (va : Nat → Int32) (fy : Nat → Int64) (cn : Nat → Int32) (an : Nat → Int32) (sw : Nat → Int64) (sb : Nat → Int64) (sv : Value) (C : Nat → Nat) (X_ : Nat → Nat) (Y_ : Nat → Int64) (o_ : Nat) (m_ : Nat) (h0 : C 0 ≤ 12) (hsb : ∀ t, t < 64 → sb t = lN (X_ t)) (hsw : ∀ f, f < 2 * (6 + C 0) → sw f = Y_ f) (hXY : ∀ t f, t < 64 → f < 2 * (6 + C 0) → bit64 (Y_ f) t = (X_ t).testBit f) (hoN : o_ < 2 ^ (2 * (6 + C 0))) (hm : m_ ≤ 2) (nn : Nat) : Met l yX1_canShow (ws_ yX1_canShow cX1_canShow 7 (Option.some Jvm.ClassFile.FieldType.boolean)) ({ frames := 3, cells := 0, slots := 0, locals := 71 } : Room) (va_Pc [.ref (xq 0), .long (lN o_), .int (nI m_)] (PreW EvX D vwCl (TY ca) (WT ca cq xq (kdC C) (fsC C) (snC C) ak (nI (C 0)) (nI (C 37)) (nI (C 38)) (fI (C 39)) (nI (C 40)) (lN (C 66)) (nI (C 41)) tb_ va fy cn an sw sb sv) nn)) (va_Qi (fun (r_ : Int32) (_ : Unit) => r_ = bI (cvB X_ m_ o_)) (PostW D vwCl (TY ca) (fun (_ : Unit) => (WT ca cq xq (kdC C) (fsC C) (snC C) ak (nI (C 0)) (nI (C 37)) (nI (C 38)) (fI (C 39)) (nI (C 40)) (lN (C 66)) (nI (C 41)) tb_ va fy cn an sw sb sv)) (va_A (WT ca cq xq (kdC C) (fsC C) (snC C) ak (nI (C 0)) (nI (C 37)) (nI (C 38)) (fI (C 39)) (nI (C 40)) (lN (C 66)) (nI (C 41)) tb_ va fy cn an sw sb sv) nn)) (va_A (WT ca cq xq (kdC C) (fsC C) (snC C) ak (nI (C 0)) (nI (C 37)) (nI (C 38)) (fI (C 39)) (nI (C 40)) (lN (C 66)) (nI (C 41)) tb_ va fy cn an sw sb sv) nn)) 0 0 (va_A (WT ca cq xq (kdC C) (fsC C) (snC C) ak (nI (C 0)) (nI (C 37)) (nI (C 38)) (fI (C 39)) (nI (C 40)) (lN (C 66)) (nI (C 41)) tb_ va fy cn an sw sb sv) nn) := by
  refine met_go (QA := fun A => va_Qi (fun (r_ : Int32) (_ : Unit) => r_ = bI (cvB X_ m_ o_)) (PostW D vwCl (TY ca) (fun (_ : Unit) => (WT ca cq xq (kdC C) (fsC C) (snC C) ak (nI (C 0)) (nI (C 37)) (nI (C 38)) (fI (C 39)) (nI (C 40)) (lN (C 66)) (nI (C 41)) tb_ va fy cn an sw sb sv)) A) A) (by decide) (Nat.le_of_ble_eq_true rfl) (fun p e s m below meth c A ls QQ hQQ hx hb hr hts hown hlocks hml hA hP hK hD hE hl => ?_)
  have hown : s.vm.findClass RX1 = some m.cls := hown
  have hS : va_S A s.heap s.heap [] := va_S.rf
  have hl : lv_has ls 7 [(0, .ref (xq 0)), (1, .long (lN o_)), (3, .int (nI m_))] := hl
  generalize hHe : s.heap = H at hP ⊢
  have hS : va_S A s.heap H [] := hHe ▸ hS
  generalize ([] : List Loc) = locs at hS ⊢
  have ho36 : o_ < 2 ^ 36 := Nat.lt_of_lt_of_le hoN (Nat.pow_le_pow_right (by decide) (by omega))
  refine lv_lload_n hx hb dX1_canShow_0 rfl (lv_at hl 1 rfl) ?_
  refine lv_lconst (v := lN 0) hx hb dX1_canShow_1 (by decide) ?_
  refine nv_lcmp_ne (tgt := 8) hx hb dX1_canShow_2 dX1_canShow_3 (by decide) (fun c_2 => ?_) (fun c_2 => ?_)
  · skip
    refine lv_iload_n hx hb dX1_canShow_8 rfl (lv_at hl 2 rfl) ?_
    refine nv_if_eq (tgt := 36) hx hb dX1_canShow_9 (by decide) (by omega) (fun c_9 => ?_) (fun c_9 => ?_)
    · skip
      refine lv_iconst (v := nI 0) hx hb dX1_canShow_36 (by decide) ?_
      subst hQQ
      refine (xe_z (b := false) () hx hb hr hlocks hK hP hD hS (congrArg bI (by first | exact (cvB_f (Cv_few c_33)).symm | exact (cvB_f (fun h_ => c_2 (by subst c_9; exact congrArg lN h_))).symm)) dX1_canShow_37)
    · skip
      refine lv_iload_n hx hb dX1_canShow_12 rfl (lv_at hl 2 rfl) ?_
      refine lv_aload_n hx hb dX1_canShow_13 rfl (lv_at hl 0 rfl) ?_
      refine gWT_5_shownBy_X1 hx hb hts hown hK hP dX1_canShow_14 ?_
      refine lv_aload_n hx hb dX1_canShow_17 rfl (lv_at hl 0 rfl) ?_
      refine lv_lload_n hx hb dX1_canShow_18 rfl (lv_at hl 1 rfl) ?_
      refine xc_i (xr_V (b := xq 0) (ci := 0) (q0 := 5) (As := [.long (lN o_)]) (rest := [.ref (xq 7), .int (nI m_)]) (mt_X1_strongest l D ca cq xq (kdC C) (fsC C) (snC C) ak (nI (C 0)) (nI (C 37)) (nI (C 38)) (fI (C 39)) (nI (C 40)) (lN (C 66)) (nI (C 41)) tb_ va fy cn an sw sb sv X_ o_ hsb H.size) ⟨hx, hb, hml, hown, hts⟩ (cwV 1 hts (lw_V q481 q483 qs10 q79 q484) rfl rfl rfl (by decide +kernel) ⟨Nat.le_of_ble_eq_true rfl, Nat.le_of_ble_eq_true rfl⟩) EvX_ok hE hK hS (Cut.all hP hD hS hA) rfl rfl rfl hl.1 rfl (Nat.le_of_ble_eq_true rfl) dX1_canShow_19 ⟨Nat.le_of_ble_eq_true rfl, Nat.le_of_ble_eq_true rfl⟩) hS (Cut.all hP hD hS hA) (fun r_3 u_4 H locs hq_19 hP hD hS => ?_)
      have hP : va_P D vwCl (WT ca cq xq (kdC C) (fsC C) (snC C) ak (nI (C 0)) (nI (C 37)) (nI (C 38)) (fI (C 39)) (nI (C 40)) (lN (C 66)) (nI (C 41)) tb_ va fy cn an sw sb sv) H := hP
      have hD : va_D A (WT ca cq xq (kdC C) (fsC C) (snC C) ak (nI (C 0)) (nI (C 37)) (nI (C 38)) (fI (C 39)) (nI (C 40)) (lN (C 66)) (nI (C 41)) tb_ va fy cn an sw sb sv) := hD
      have hp_19 : r_3 = nI (stg X_ o_) := hq_19
      clear hq_19
      obtain rfl := hp_19
      refine ldWT_12 hx hb hK hP (stg_lt _ _) dX1_canShow_22 ?_
      refine lv_topl (nm_r (e' := lN (X_ (stg X_ o_))) (hsb _ (stg_lt _ _)) ?_)
      refine lv_lload_n hx hb dX1_canShow_23 rfl (lv_at hl 1 rfl) ?_
      refine lv_land hx hb dX1_canShow_24 (lv_topl (nm_r (e' := lN ((X_ (stg X_ o_)) &&& o_)) (klN_and (X_ (stg X_ o_)) o_) ?_))
      refine xc_i (xr_S (As := [.long (lN ((X_ (stg X_ o_)) &&& o_))]) (rest := [.int (nI m_)]) (mt_J16_bitCount_r l D ca (lN ((X_ (stg X_ o_)) &&& o_))  H.size) ⟨hx, hb, hml, hown, hts⟩ (va_cwS 1 hts (lw_S q485 q486 q100 q487) rfl rfl rfl (by decide +kernel) ⟨Nat.le_of_ble_eq_true rfl, Nat.le_of_ble_eq_true rfl⟩) Ev0_ok trivial hK hS (Cut.app (wc := []) (wr := (WT ca cq xq (kdC C) (fsC C) (snC C) ak (nI (C 0)) (nI (C 37)) (nI (C 38)) (fI (C 39)) (nI (C 40)) (lN (C 66)) (nI (C 41)) tb_ va fy cn an sw sb sv)) hP hD hS hA) rfl hl.1 rfl (Nat.le_of_ble_eq_true rfl) dX1_canShow_25 ⟨Nat.le_of_ble_eq_true rfl, Nat.le_of_ble_eq_true rfl⟩) hS (Cut.app (wc := []) (wr := (WT ca cq xq (kdC C) (fsC C) (snC C) ak (nI (C 0)) (nI (C 37)) (nI (C 38)) (fI (C 39)) (nI (C 40)) (lN (C 66)) (nI (C 41)) tb_ va fy cn an sw sb sv)) hP hD hS hA) (fun r_5 u_6 H locs hq_25 hP hD hS => ?_)
      have hP : va_P D vwCl (WT ca cq xq (kdC C) (fsC C) (snC C) ak (nI (C 0)) (nI (C 37)) (nI (C 38)) (fI (C 39)) (nI (C 40)) (lN (C 66)) (nI (C 41)) tb_ va fy cn an sw sb sv) H := hP
      have hD : va_D A (WT ca cq xq (kdC C) (fsC C) (snC C) ak (nI (C 0)) (nI (C 37)) (nI (C 38)) (fI (C 39)) (nI (C 40)) (lN (C 66)) (nI (C 41)) tb_ va fy cn an sw sb sv) := hD
      have hp_25 : r_5 = nI (popl 64 (lN ((X_ (stg X_ o_)) &&& o_))) := hq_25
      clear hq_25
      obtain rfl := hp_25
      refine nv_imul hx hb dX1_canShow_28 ?_
      refine lv_lload_n hx hb dX1_canShow_29 rfl (lv_at hl 1 rfl) ?_
      refine xc_i (xr_S (As := [.long (lN o_)]) (rest := [.int (nI (m_ * (popl 64 (lN ((X_ (stg X_ o_)) &&& o_)))))]) (mt_J16_bitCount_r l D ca (lN o_)  H.size) ⟨hx, hb, hml, hown, hts⟩ (va_cwS 1 hts (lw_S q485 q486 q100 q487) rfl rfl rfl (by decide +kernel) ⟨Nat.le_of_ble_eq_true rfl, Nat.le_of_ble_eq_true rfl⟩) Ev0_ok trivial hK hS (Cut.app (wc := []) (wr := (WT ca cq xq (kdC C) (fsC C) (snC C) ak (nI (C 0)) (nI (C 37)) (nI (C 38)) (fI (C 39)) (nI (C 40)) (lN (C 66)) (nI (C 41)) tb_ va fy cn an sw sb sv)) hP hD hS hA) rfl hl.1 rfl (Nat.le_of_ble_eq_true rfl) dX1_canShow_30 ⟨Nat.le_of_ble_eq_true rfl, Nat.le_of_ble_eq_true rfl⟩) hS (Cut.app (wc := []) (wr := (WT ca cq xq (kdC C) (fsC C) (snC C) ak (nI (C 0)) (nI (C 37)) (nI (C 38)) (fI (C 39)) (nI (C 40)) (lN (C 66)) (nI (C 41)) tb_ va fy cn an sw sb sv)) hP hD hS hA) (fun r_7 u_8 H locs hq_30 hP hD hS => ?_)
      have hP : va_P D vwCl (WT ca cq xq (kdC C) (fsC C) (snC C) ak (nI (C 0)) (nI (C 37)) (nI (C 38)) (fI (C 39)) (nI (C 40)) (lN (C 66)) (nI (C 41)) tb_ va fy cn an sw sb sv) H := hP
      have hD : va_D A (WT ca cq xq (kdC C) (fsC C) (snC C) ak (nI (C 0)) (nI (C 37)) (nI (C 38)) (fI (C 39)) (nI (C 40)) (lN (C 66)) (nI (C 41)) tb_ va fy cn an sw sb sv) := hD
      have hp_30 : r_7 = nI (popl 64 (lN o_)) := hq_30
      clear hq_30
      obtain rfl := hp_30
      refine nv_icmp_ge (tgt := 38) hx hb dX1_canShow_33 (by decide) (by have h1_ := popl_le 64 (lN (X_ (stg X_ o_) &&& o_)); have := Nat.mul_le_mul hm h1_; omega) (by have := popl_le 64 (lN o_); omega) (fun c_33 => ?_) (fun c_33 => ?_)
      · skip
        refine lv_iconst (v := fI 0) hx hb dX1_canShow_38 (by decide) ?_
        refine lv_istore (lv' := [(4, .int (fI 0)), (0, .ref (xq 0)), (1, .long (lN o_)), (3, .int (nI m_))]) hx hb dX1_canShow_39 hl (by decide) rfl (fun ls hl => ?_)
        refine lv_iconst (v := nI 0) hx hb dX1_canShow_41 (by decide) ?_
        refine lv_istore (lv' := [(5, .int (nI 0)), (4, .int (fI 0)), (0, .ref (xq 0)), (1, .long (lN o_)), (3, .int (nI m_))]) hx hb dX1_canShow_42 hl (by decide) rfl (fun ls hl => ?_)
        have lp_44 : ∀ (fu_44 : Nat) (n : Nat), 2 * (6 + C 0) - n < fu_44 → (n ≤ 2 * (6 + C 0)) → ∀ (H : Heap) (locs : List Loc), va_P D vwCl (WT ca cq xq (kdC C) (fsC C) (snC C) ak (nI (C 0)) (nI (C 37)) (nI (C 38)) (fI (C 39)) (nI (C 40)) (lN (C 66)) (nI (C 41)) tb_ va fy cn an sw sb sv) H → va_D A (WT ca cq xq (kdC C) (fsC C) (snC C) ak (nI (C 0)) (nI (C 37)) (nI (C 38)) (fI (C 39)) (nI (C 40)) (lN (C 66)) (nI (C 41)) tb_ va fy cn an sw sb sv) → va_S A s.heap H locs → ∀ (ls : Array Slot), lv_has ls 7 [(5, .int (nI n)), (4, .int (fI (hdN Y_ o_ n))), (0, .ref (xq 0)), (1, .long (lN o_)), (3, .int (nI m_))] → W p l e ({ frames := 3, cells := 0, slots := 0, locals := 71 } : Room) s m ([.ref (xq 0), .long (lN o_), .int (nI m_)] : List Value).toArray below meth c H locs 0 0 QQ (F0 m 44 ls []) := by
          intro fu_44
          induction fu_44 with
          | zero => intro n hfu; exact absurd hfu (Nat.not_lt_zero _)
          | succ fu_44 ih_44 =>
            intro n hfu hn H locs hP hD hS ls hl
            refine lv_iload hx hb dX1_canShow_44 (lv_at hl 0 rfl) ?_
            refine lv_aload_n hx hb dX1_canShow_46 rfl (lv_at hl 2 rfl) ?_
            refine gWT_5_circuit_X1 hx hb hts hown hK hP dX1_canShow_47 ?_
            refine xc_i (xr_V (b := cq 0) (ci := 1) (q0 := 0) (As := []) (rest := [.int (nI n)]) (mt_X2_faults l D ca cq (kdC C) (fsC C) (snC C) ak (nI (C 37)) (nI (C 38)) (fI (C 39)) (nI (C 40)) (lN (C 66)) (nI (C 41)) (C 0)  H.size) ⟨hx, hb, hml, hown, hts⟩ (cwV 0 hts (lw_V q439 q440 q441 q80 q442) rfl rfl rfl (by decide +kernel) ⟨Nat.le_of_ble_eq_true rfl, Nat.le_of_ble_eq_true rfl⟩) EvX_ok hE hK hS (Cut.app (wc := (WC ca cq (kdC C) (fsC C) (snC C) ak (nI (C 0)) (nI (C 37)) (nI (C 38)) (fI (C 39)) (nI (C 40)) (lN (C 66)) (nI (C 41)))) (wr := (WTr ca cq xq tb_ va fy cn an sw sb sv)) hP hD hS hA) rfl rfl rfl hl.1 rfl (Nat.le_of_ble_eq_true rfl) dX1_canShow_50 ⟨Nat.le_of_ble_eq_true rfl, Nat.le_of_ble_eq_true rfl⟩) hS (Cut.app (wc := (WC ca cq (kdC C) (fsC C) (snC C) ak (nI (C 0)) (nI (C 37)) (nI (C 38)) (fI (C 39)) (nI (C 40)) (lN (C 66)) (nI (C 41)))) (wr := (WTr ca cq xq tb_ va fy cn an sw sb sv)) hP hD hS hA) (fun r_10 u_11 H locs hq_50 hP hD hS => ?_)
            have hP : va_P D vwCl (WT ca cq xq (kdC C) (fsC C) (snC C) ak (nI (C 0)) (nI (C 37)) (nI (C 38)) (fI (C 39)) (nI (C 40)) (lN (C 66)) (nI (C 41)) tb_ va fy cn an sw sb sv) H := hP
            have hD : va_D A (WT ca cq xq (kdC C) (fsC C) (snC C) ak (nI (C 0)) (nI (C 37)) (nI (C 38)) (fI (C 39)) (nI (C 40)) (lN (C 66)) (nI (C 41)) tb_ va fy cn an sw sb sv) := hD
            have hp_50 : r_10 = nI (2 * (6 + (C 0))) := hq_50
            clear hq_50
            obtain rfl := hp_50
            refine nv_icmp_ge (tgt := 121) hx hb dX1_canShow_53 (by decide) (by omega) (by omega) (fun c_53 => ?_) (fun c_53 => ?_)
            · skip
              have e_ : 2 * (6 + C 0) = n := Eq.symm (by omega)
              subst e_
              obtain ⟨hW0, hWl, hWb⟩ := hdN_hit (Y := Y_) hoN (fun z => c_2 (by rw [z]))
              have hl : lv_has ls 7 [(5, .int (nI (2 * (6 + C 0)))), (4, .int (nI (hdN Y_ o_ (2 * (6 + C 0)) - 1))), (0, .ref (xq 0)), (1, .long (lN o_)), (3, .int (nI m_))] := (congrArg (fun x_ => lv_has ls 7 [(5, .int (nI (2 * (6 + C 0)))), (4, .int x_), (0, .ref (xq 0)), (1, .long (lN o_)), (3, .int (nI m_))]) (show fI (hdN Y_ o_ (2 * (6 + C 0))) = nI (hdN Y_ o_ (2 * (6 + C 0)) - 1) from fI_pos hW0)).mp hl
              refine lv_iconst (v := nI 0) hx hb dX1_canShow_121 (by decide) ?_
              refine lv_istore (lv' := [(5, .int (nI 0)), (4, .int (nI (hdN Y_ o_ (2 * (6 + C 0)) - 1))), (0, .ref (xq 0)), (1, .long (lN o_)), (3, .int (nI m_))]) hx hb dX1_canShow_122 hl (by decide) rfl (fun ls hl => ?_)
              have lp_124 : ∀ (fu_124 : Nat) (t : Nat), 64 - t < fu_124 → (t ≤ 64) → (csN X_ (m_ - 1) o_ (hdN Y_ o_ (2 * (6 + C 0)) - 1) t) → ∀ (H : Heap) (locs : List Loc), va_P D vwCl (WT ca cq xq (kdC C) (fsC C) (snC C) ak (nI (C 0)) (nI (C 37)) (nI (C 38)) (fI (C 39)) (nI (C 40)) (lN (C 66)) (nI (C 41)) tb_ va fy cn an sw sb sv) H → va_D A (WT ca cq xq (kdC C) (fsC C) (snC C) ak (nI (C 0)) (nI (C 37)) (nI (C 38)) (fI (C 39)) (nI (C 40)) (lN (C 66)) (nI (C 41)) tb_ va fy cn an sw sb sv) → va_S A s.heap H locs → ∀ (ls : Array Slot), lv_has ls 7 [(5, .int (nI t)), (4, .int (nI (hdN Y_ o_ (2 * (6 + C 0)) - 1))), (0, .ref (xq 0)), (1, .long (lN o_)), (3, .int (nI m_))] → W p l e ({ frames := 3, cells := 0, slots := 0, locals := 71 } : Room) s m ([.ref (xq 0), .long (lN o_), .int (nI m_)] : List Value).toArray below meth c H locs 0 0 QQ (F0 m 124 ls []) := by
                intro fu_124
                induction fu_124 with
                | zero => intro t hfu; exact absurd hfu (Nat.not_lt_zero _)
                | succ fu_124 ih_124 =>
                  intro t hfu ht_ hcs H locs hP hD hS ls hl
                  refine lv_iload hx hb dX1_canShow_124 (lv_at hl 0 rfl) ?_
                  refine lv_bipush (v := nI 64) hx hb dX1_canShow_126 (by decide) ?_
                  refine nv_icmp_ge (tgt := 187) hx hb dX1_canShow_128 (by decide) (by omega) (by omega) (fun c_128 => ?_) (fun c_128 => ?_)
                  · skip
                    have e_ : 64 = t := Eq.symm (by omega)
                    subst e_
                    refine lv_iconst (v := nI 0) hx hb dX1_canShow_187 (by decide) ?_
                    subst hQQ
                    refine (xe_z (b := false) () hx hb hr hlocks hK hP hD hS (congrArg bI (cs_end ho36 hWb c_9 hcs)) dX1_canShow_188)
                  · skip
                    refine lv_aload_n hx hb dX1_canShow_131 rfl (lv_at hl 2 rfl) ?_
                    refine gWT_5_shown_X1 hx hb hts hown hK hP dX1_canShow_132 ?_
                    refine lv_iload hx hb dX1_canShow_135 (lv_at hl 1 rfl) ?_
                    refine ldWT_11 hx hb hK hP (by omega) dX1_canShow_137 ?_
                    refine lv_topl (nm_r (e' := Y_ (hdN Y_ o_ (2 * (6 + C 0)) - 1)) (hsw _ (by omega)) ?_)
                    refine lv_iload hx hb dX1_canShow_138 (lv_at hl 0 rfl) ?_
                    refine xc_i (xr_S (As := [.long (Y_ (hdN Y_ o_ (2 * (6 + C 0)) - 1)), .int (nI t)]) (rest := []) (mt_X1_isIn_2 l D ca (Y_ (hdN Y_ o_ (2 * (6 + C 0)) - 1)) t (by first | assumption | omega | (simp only [updN, forgetC, changedC]; (repeat' split) <;> omega)) H.size) ⟨hx, hb, hml, hown, hts⟩ (va_cwS 2 hts (lw_S q478 q479 q79 q480) rfl rfl rfl (by decide +kernel) ⟨Nat.le_of_ble_eq_true rfl, Nat.le_of_ble_eq_true rfl⟩) Ev0_ok trivial hK hS (Cut.app (wc := []) (wr := (WT ca cq xq (kdC C) (fsC C) (snC C) ak (nI (C 0)) (nI (C 37)) (nI (C 38)) (fI (C 39)) (nI (C 40)) (lN (C 66)) (nI (C 41)) tb_ va fy cn an sw sb sv)) hP hD hS hA) rfl hl.1 rfl (Nat.le_of_ble_eq_true rfl) dX1_canShow_140 ⟨Nat.le_of_ble_eq_true rfl, Nat.le_of_ble_eq_true rfl⟩) hS (Cut.app (wc := []) (wr := (WT ca cq xq (kdC C) (fsC C) (snC C) ak (nI (C 0)) (nI (C 37)) (nI (C 38)) (fI (C 39)) (nI (C 40)) (lN (C 66)) (nI (C 41)) tb_ va fy cn an sw sb sv)) hP hD hS hA) (fun r_14 u_15 H locs hq_140 hP hD hS => ?_)
                    have hP : va_P D vwCl (WT ca cq xq (kdC C) (fsC C) (snC C) ak (nI (C 0)) (nI (C 37)) (nI (C 38)) (fI (C 39)) (nI (C 40)) (lN (C 66)) (nI (C 41)) tb_ va fy cn an sw sb sv) H := hP
                    have hD : va_D A (WT ca cq xq (kdC C) (fsC C) (snC C) ak (nI (C 0)) (nI (C 37)) (nI (C 38)) (fI (C 39)) (nI (C 40)) (lN (C 66)) (nI (C 41)) tb_ va fy cn an sw sb sv) := hD
                    have hp_140 : r_14 = bI (bit64 (Y_ (hdN Y_ o_ (2 * (6 + C 0)) - 1)) t) := hq_140
                    clear hq_140
                    obtain rfl := hp_140
                    refine nv_ifb_eq (tgt := 181) hx hb dX1_canShow_143 (by decide) (fun c_143 => ?_) (fun c_143 => ?_)
                    · skip
                      refine lv_iinc (v := nI (t + 1)) (lv' := [(5, .int (nI (t + 1))), (4, .int (nI (hdN Y_ o_ (2 * (6 + C 0)) - 1))), (0, .ref (xq 0)), (1, .long (lN o_)), (3, .int (nI m_))]) hx hb dX1_canShow_181 hl (k := 0) rfl (nI_add t 1) (by decide) rfl (fun ls hl => ?_)
                      refine lv_goto (tgt := 124) hx hb dX1_canShow_184 (by decide) ?_
                      exact ih_124  (t + 1) (by omega) (by omega) (cs_s hcs (fun q_ => by first | exact absurd ((cvB_iff.mpr q_.2.2).symm.trans c_176) (by decide) | exact absurd (c_153.symm.trans q_.2.1) (by decide) | exact absurd (((hXY t _ (by omega) (by omega)).symm.trans c_143).symm.trans q_.1) (by decide))) _ _ hP hD hS ls (lv_sub hl [0, 1, 2, 3, 4] rfl)
                    · skip
                      refine lv_aload_n hx hb dX1_canShow_146 rfl (lv_at hl 2 rfl) ?_
                      refine lv_iload hx hb dX1_canShow_147 (lv_at hl 0 rfl) ?_
                      refine lv_lload_n hx hb dX1_canShow_149 rfl (lv_at hl 3 rfl) ?_
                      refine xc_i (xr_V (b := xq 0) (ci := 0) (q0 := 5) (As := [.int (nI t), .long (lN o_)]) (rest := []) (mt_X1_isWeaker l D ca cq xq (kdC C) (fsC C) (snC C) ak (nI (C 0)) (nI (C 37)) (nI (C 38)) (fI (C 39)) (nI (C 40)) (lN (C 66)) (nI (C 41)) tb_ va fy cn an sw sb sv X_ t o_ hsb (by omega) ho36 H.size) ⟨hx, hb, hml, hown, hts⟩ (cwV 2 hts (lw_V q1067 q1069 qs23 q79 q1070) rfl rfl rfl (by decide +kernel) ⟨Nat.le_of_ble_eq_true rfl, Nat.le_of_ble_eq_true rfl⟩) EvX_ok hE hK hS (Cut.all hP hD hS hA) rfl rfl rfl hl.1 rfl (Nat.le_of_ble_eq_true rfl) dX1_canShow_150 ⟨Nat.le_of_ble_eq_true rfl, Nat.le_of_ble_eq_true rfl⟩) hS (Cut.all hP hD hS hA) (fun r_17 u_18 H locs hq_150 hP hD hS => ?_)
                      have hP : va_P D vwCl (WT ca cq xq (kdC C) (fsC C) (snC C) ak (nI (C 0)) (nI (C 37)) (nI (C 38)) (fI (C 39)) (nI (C 40)) (lN (C 66)) (nI (C 41)) tb_ va fy cn an sw sb sv) H := hP
                      have hD : va_D A (WT ca cq xq (kdC C) (fsC C) (snC C) ak (nI (C 0)) (nI (C 37)) (nI (C 38)) (fI (C 39)) (nI (C 40)) (lN (C 66)) (nI (C 41)) tb_ va fy cn an sw sb sv) := hD
                      have hp_150 : r_17 = bI (wkN X_ o_ t 64) := hq_150
                      clear hq_150
                      obtain rfl := hp_150
                      refine nv_ifb_ne (tgt := 181) hx hb dX1_canShow_153 (by decide) (fun c_153 => ?_) (fun c_153 => ?_)
                      · skip
                        refine lv_iinc (v := nI (t + 1)) (lv' := [(5, .int (nI (t + 1))), (4, .int (nI (hdN Y_ o_ (2 * (6 + C 0)) - 1))), (0, .ref (xq 0)), (1, .long (lN o_)), (3, .int (nI m_))]) hx hb dX1_canShow_181 hl (k := 0) rfl (nI_add t 1) (by decide) rfl (fun ls hl => ?_)
                        refine lv_goto (tgt := 124) hx hb dX1_canShow_184 (by decide) ?_
                        exact ih_124  (t + 1) (by omega) (by omega) (cs_s hcs (fun q_ => by first | exact absurd ((cvB_iff.mpr q_.2.2).symm.trans c_176) (by decide) | exact absurd (c_153.symm.trans q_.2.1) (by decide) | exact absurd (((hXY t _ (by omega) (by omega)).symm.trans c_143).symm.trans q_.1) (by decide))) _ _ hP hD hS ls (lv_sub hl [0, 1, 2, 3, 4] rfl)
                      · skip
                        refine lv_aload_n hx hb dX1_canShow_156 rfl (lv_at hl 2 rfl) ?_
                        refine lv_lload_n hx hb dX1_canShow_157 rfl (lv_at hl 3 rfl) ?_
                        refine lv_aload_n hx hb dX1_canShow_158 rfl (lv_at hl 2 rfl) ?_
                        refine gWT_5_shownBy_X1 hx hb hts hown hK hP dX1_canShow_159 ?_
                        refine lv_iload hx hb dX1_canShow_162 (lv_at hl 0 rfl) ?_
                        refine ldWT_12 hx hb hK hP (by omega) dX1_canShow_164 ?_
                        refine lv_topl (nm_r (e' := lN (X_ t)) (hsb t (by omega)) ?_)
                        refine lv_ldc2 (v := (-1)) hx hb hown (hts _ q476) dX1_canShow_165 ?_
                        refine lv_lxor hx hb dX1_canShow_168 ?_
                        refine lv_land hx hb dX1_canShow_169 ?_
                        refine lv_topl (nm_r (e' := lN (adN o_ (X_ t))) (lN_adn) ?_)
                        refine lv_iload_n hx hb dX1_canShow_170 rfl (lv_at hl 4 rfl) ?_
                        refine lv_iconst (v := nI 1) hx hb dX1_canShow_171 (by decide) ?_
                        refine nv_isub hx hb dX1_canShow_172 (by omega) ?_
                        refine xc_i (xr_V (b := xq 0) (ci := 0) (q0 := 5) (As := [.long (lN (adN o_ (X_ t))), .int (nI (m_ - 1))]) (rest := []) (mt_X1_canShow_d1 l D ca cq xq ak tb_ va fy cn an sw sb sv C X_ Y_ (adN o_ (X_ t)) (m_ - 1) h0 hsb hsw hXY (adN_le2 hoN) (by omega) H.size) ⟨hx, hb, hml, hown, hts⟩ (cwV 2 hts (lw_V q1063 q1065 qs22 q79 q1066) rfl rfl rfl (by decide +kernel) ⟨Nat.le_of_ble_eq_true rfl, Nat.le_of_ble_eq_true rfl⟩) EvX_ok hE hK hS (Cut.all hP hD hS hA) rfl rfl rfl hl.1 rfl (Nat.le_of_ble_eq_true rfl) dX1_canShow_173 ⟨Nat.le_of_ble_eq_true rfl, Nat.le_of_ble_eq_true rfl⟩) hS (Cut.all hP hD hS hA) (fun r_20 u_21 H locs hq_173 hP hD hS => ?_)
                        have hP : va_P D vwCl (WT ca cq xq (kdC C) (fsC C) (snC C) ak (nI (C 0)) (nI (C 37)) (nI (C 38)) (fI (C 39)) (nI (C 40)) (lN (C 66)) (nI (C 41)) tb_ va fy cn an sw sb sv) H := hP
                        have hD : va_D A (WT ca cq xq (kdC C) (fsC C) (snC C) ak (nI (C 0)) (nI (C 37)) (nI (C 38)) (fI (C 39)) (nI (C 40)) (lN (C 66)) (nI (C 41)) tb_ va fy cn an sw sb sv) := hD
                        have hp_173 : r_20 = bI (cvB X_ (m_ - 1) (adN o_ (X_ t))) := hq_173
                        clear hq_173
                        obtain rfl := hp_173
                        refine nv_ifb_eq (tgt := 181) hx hb dX1_canShow_176 (by decide) (fun c_176 => ?_) (fun c_176 => ?_)
                        · skip
                          refine lv_iinc (v := nI (t + 1)) (lv' := [(5, .int (nI (t + 1))), (4, .int (nI (hdN Y_ o_ (2 * (6 + C 0)) - 1))), (0, .ref (xq 0)), (1, .long (lN o_)), (3, .int (nI m_))]) hx hb dX1_canShow_181 hl (k := 0) rfl (nI_add t 1) (by decide) rfl (fun ls hl => ?_)
                          refine lv_goto (tgt := 124) hx hb dX1_canShow_184 (by decide) ?_
                          exact ih_124  (t + 1) (by omega) (by omega) (cs_s hcs (fun q_ => by first | exact absurd ((cvB_iff.mpr q_.2.2).symm.trans c_176) (by decide) | exact absurd (c_153.symm.trans q_.2.1) (by decide) | exact absurd (((hXY t _ (by omega) (by omega)).symm.trans c_143).symm.trans q_.1) (by decide))) _ _ hP hD hS ls (lv_sub hl [0, 1, 2, 3, 4] rfl)
                        · skip
                          refine lv_iconst (v := nI 1) hx hb dX1_canShow_179 (by decide) ?_
                          subst hQQ
                          refine (xe_z (b := true) () hx hb hr hlocks hK hP hD hS (congrArg bI (cs_hit ho36 hWb c_9 (by omega) (by rw [← hXY t _ (by omega) (by omega)]; exact c_143) c_153 c_176)) dX1_canShow_180)
              exact lp_124 (64 - 0 + 1) 0 (Nat.lt_succ_self _) (by omega) (fun t_ h_ => absurd h_ (Nat.not_lt_zero t_)) _ _ hP hD hS ls (lv_sub hl [0, 1, 2, 3, 4] rfl)
            · skip
              refine lv_lload_n hx hb dX1_canShow_56 rfl (lv_at hl 3 rfl) ?_
              refine lv_iload hx hb dX1_canShow_57 (lv_at hl 0 rfl) ?_
              refine xc_i (xr_S (As := [.long (lN o_), .int (nI n)]) (rest := []) (mt_X1_isIn_2 l D ca (lN o_) n (by first | assumption | omega | (simp only [updN, forgetC, changedC]; (repeat' split) <;> omega)) H.size) ⟨hx, hb, hml, hown, hts⟩ (va_cwS 2 hts (lw_S q478 q479 q79 q480) rfl rfl rfl (by decide +kernel) ⟨Nat.le_of_ble_eq_true rfl, Nat.le_of_ble_eq_true rfl⟩) Ev0_ok trivial hK hS (Cut.app (wc := []) (wr := (WT ca cq xq (kdC C) (fsC C) (snC C) ak (nI (C 0)) (nI (C 37)) (nI (C 38)) (fI (C 39)) (nI (C 40)) (lN (C 66)) (nI (C 41)) tb_ va fy cn an sw sb sv)) hP hD hS hA) rfl hl.1 rfl (Nat.le_of_ble_eq_true rfl) dX1_canShow_59 ⟨Nat.le_of_ble_eq_true rfl, Nat.le_of_ble_eq_true rfl⟩) hS (Cut.app (wc := []) (wr := (WT ca cq xq (kdC C) (fsC C) (snC C) ak (nI (C 0)) (nI (C 37)) (nI (C 38)) (fI (C 39)) (nI (C 40)) (lN (C 66)) (nI (C 41)) tb_ va fy cn an sw sb sv)) hP hD hS hA) (fun r_23 u_24 H locs hq_59 hP hD hS => ?_)
              have hP : va_P D vwCl (WT ca cq xq (kdC C) (fsC C) (snC C) ak (nI (C 0)) (nI (C 37)) (nI (C 38)) (fI (C 39)) (nI (C 40)) (lN (C 66)) (nI (C 41)) tb_ va fy cn an sw sb sv) H := hP
              have hD : va_D A (WT ca cq xq (kdC C) (fsC C) (snC C) ak (nI (C 0)) (nI (C 37)) (nI (C 38)) (fI (C 39)) (nI (C 40)) (lN (C 66)) (nI (C 41)) tb_ va fy cn an sw sb sv) := hD
              have hp_59 : r_23 = bI (bit64 (lN o_) n) := hq_59
              clear hq_59
              obtain rfl := hp_59
              refine nv_ifb_eq (tgt := 98) hx hb dX1_canShow_62 (by decide) (fun c_62 => ?_) (fun c_62 => ?_)
              · skip
                refine lv_iconst (v := nI 0) hx hb dX1_canShow_98 (by decide) ?_
                refine lv_istore (lv' := [(6, .int (nI 0)), (5, .int (nI n)), (4, .int (fI (hdN Y_ o_ n))), (0, .ref (xq 0)), (1, .long (lN o_)), (3, .int (nI m_))]) hx hb dX1_canShow_99 hl (by decide) rfl (fun ls hl => ?_)
                refine lv_iload hx hb dX1_canShow_101 (lv_at hl 0 rfl) ?_
                refine nv_if_eq (tgt := 111) hx hb dX1_canShow_103 (by decide) (by omega) (fun c_103 => ?_) (fun c_103 => absurd c_103 (by decide))
                refine lv_iload hx hb dX1_canShow_111 (lv_at hl 2 rfl) ?_
                refine lv_istore (lv' := [(4, .int (fI (hdN Y_ o_ n))), (6, .int (nI 0)), (5, .int (nI n)), (0, .ref (xq 0)), (1, .long (lN o_)), (3, .int (nI m_))]) hx hb dX1_canShow_113 hl (by decide) rfl (fun ls hl => ?_)
                refine lv_iinc (v := nI (n + 1)) (lv' := [(5, .int (nI (n + 1))), (4, .int (fI (hdN Y_ o_ n))), (6, .int (nI 0)), (0, .ref (xq 0)), (1, .long (lN o_)), (3, .int (nI m_))]) hx hb dX1_canShow_115 hl (k := 2) rfl (nI_add n 1) (by decide) rfl (fun ls hl => ?_)
                refine lv_goto (tgt := 44) hx hb dX1_canShow_118 (by decide) ?_
                have hl : lv_has ls 7 [(5, .int (nI (n + 1))), (4, .int (fI (hdN Y_ o_ (n + 1)))), (6, .int (nI 0)), (0, .ref (xq 0)), (1, .long (lN o_)), (3, .int (nI m_))] := (congrArg (fun x_ => lv_has ls 7 [(5, .int (nI (n + 1))), (4, .int x_), (6, .int (nI 0)), (0, .ref (xq 0)), (1, .long (lN o_)), (3, .int (nI m_))]) (show fI (hdN Y_ o_ n) = fI (hdN Y_ o_ (n + 1)) from congrArg fI (by first | exact (hd_n1 c_62 (by omega)).symm | exact (hd_n2 c_68 c_91).symm))).mp hl
                exact ih_44  (n + 1) (by omega) (by omega) _ _ hP hD hS ls (lv_sub hl [0, 1, 3, 4, 5] rfl)
              · skip
                refine lv_iload hx hb dX1_canShow_65 (lv_at hl 1 rfl) ?_
                refine lv_iconst (v := fI 0) hx hb dX1_canShow_67 (by decide) ?_
                refine nv_icmp_eqf (tgt := 94) hx hb dX1_canShow_68 (by decide) (by have := @hdN_le Y_ o_ n; omega) (fun c_68 => ?_) (fun c_68 => ?_)
                · skip
                  refine lv_iconst (v := nI 1) hx hb dX1_canShow_94 (by decide) ?_
                  refine lv_goto (tgt := 99) hx hb dX1_canShow_95 (by decide) ?_
                  refine lv_istore (lv' := [(6, .int (nI 1)), (5, .int (nI n)), (4, .int (fI (hdN Y_ o_ n))), (0, .ref (xq 0)), (1, .long (lN o_)), (3, .int (nI m_))]) hx hb dX1_canShow_99 hl (by decide) rfl (fun ls hl => ?_)
                  refine lv_iload hx hb dX1_canShow_101 (lv_at hl 0 rfl) ?_
                  refine nv_if_eq (tgt := 111) hx hb dX1_canShow_103 (by decide) (by omega) (fun c_103 => absurd c_103 (by decide)) (fun c_103 => ?_)
                  refine lv_iload hx hb dX1_canShow_106 (lv_at hl 1 rfl) ?_
                  refine lv_goto (tgt := 113) hx hb dX1_canShow_108 (by decide) ?_
                  refine lv_istore (lv' := [(4, .int (nI n)), (6, .int (nI 1)), (5, .int (nI n)), (0, .ref (xq 0)), (1, .long (lN o_)), (3, .int (nI m_))]) hx hb dX1_canShow_113 hl (by decide) rfl (fun ls hl => ?_)
                  refine lv_iinc (v := nI (n + 1)) (lv' := [(5, .int (nI (n + 1))), (4, .int (nI n)), (6, .int (nI 1)), (0, .ref (xq 0)), (1, .long (lN o_)), (3, .int (nI m_))]) hx hb dX1_canShow_115 hl (k := 2) rfl (nI_add n 1) (by decide) rfl (fun ls hl => ?_)
                  refine lv_goto (tgt := 44) hx hb dX1_canShow_118 (by decide) ?_
                  have hl : lv_has ls 7 [(5, .int (nI (n + 1))), (4, .int (fI (hdN Y_ o_ (n + 1)))), (6, .int (nI 1)), (0, .ref (xq 0)), (1, .long (lN o_)), (3, .int (nI m_))] := (congrArg (fun x_ => lv_has ls 7 [(5, .int (nI (n + 1))), (4, .int x_), (6, .int (nI 1)), (0, .ref (xq 0)), (1, .long (lN o_)), (3, .int (nI m_))]) (show nI n = fI (hdN Y_ o_ (n + 1)) from (fI_S n).trans (congrArg fI (hd_y c_62 (by omega) (by first | exact Or.inl c_68 | exact Or.inr c_91)).symm))).mp hl
                  exact ih_44  (n + 1) (by omega) (by omega) _ _ hP hD hS ls (lv_sub hl [0, 1, 3, 4, 5] rfl)
                · skip
                  refine lv_aload_n hx hb dX1_canShow_71 rfl (lv_at hl 2 rfl) ?_
                  refine gWT_5_shown_X1 hx hb hts hown hK hP dX1_canShow_72 ?_
                  refine lv_iload hx hb dX1_canShow_75 (lv_at hl 0 rfl) ?_
                  refine ldWT_11 hx hb hK hP (by omega) dX1_canShow_77 ?_
                  refine lv_topl (nm_r (e' := Y_ n) (hsw n (by omega)) ?_)
                  refine xc_i (xr_S (As := [.long (Y_ n)]) (rest := []) (mt_J16_bitCount_r l D ca (Y_ n)  H.size) ⟨hx, hb, hml, hown, hts⟩ (va_cwS 1 hts (lw_S q485 q486 q100 q487) rfl rfl rfl (by decide +kernel) ⟨Nat.le_of_ble_eq_true rfl, Nat.le_of_ble_eq_true rfl⟩) Ev0_ok trivial hK hS (Cut.app (wc := []) (wr := (WT ca cq xq (kdC C) (fsC C) (snC C) ak (nI (C 0)) (nI (C 37)) (nI (C 38)) (fI (C 39)) (nI (C 40)) (lN (C 66)) (nI (C 41)) tb_ va fy cn an sw sb sv)) hP hD hS hA) rfl hl.1 rfl (Nat.le_of_ble_eq_true rfl) dX1_canShow_78 ⟨Nat.le_of_ble_eq_true rfl, Nat.le_of_ble_eq_true rfl⟩) hS (Cut.app (wc := []) (wr := (WT ca cq xq (kdC C) (fsC C) (snC C) ak (nI (C 0)) (nI (C 37)) (nI (C 38)) (fI (C 39)) (nI (C 40)) (lN (C 66)) (nI (C 41)) tb_ va fy cn an sw sb sv)) hP hD hS hA) (fun r_27 u_28 H locs hq_78 hP hD hS => ?_)
                  have hP : va_P D vwCl (WT ca cq xq (kdC C) (fsC C) (snC C) ak (nI (C 0)) (nI (C 37)) (nI (C 38)) (fI (C 39)) (nI (C 40)) (lN (C 66)) (nI (C 41)) tb_ va fy cn an sw sb sv) H := hP
                  have hD : va_D A (WT ca cq xq (kdC C) (fsC C) (snC C) ak (nI (C 0)) (nI (C 37)) (nI (C 38)) (fI (C 39)) (nI (C 40)) (lN (C 66)) (nI (C 41)) tb_ va fy cn an sw sb sv) := hD
                  have hp_78 : r_27 = nI (popl 64 (Y_ n)) := hq_78
                  clear hq_78
                  obtain rfl := hp_78
                  refine lv_aload_n hx hb dX1_canShow_81 rfl (lv_at hl 2 rfl) ?_
                  refine gWT_5_shown_X1 hx hb hts hown hK hP dX1_canShow_82 ?_
                  refine lv_iload hx hb dX1_canShow_85 (lv_at hl 1 rfl) ?_
                  refine lv_topi (nm_r (e' := nI (hdN Y_ o_ n - 1)) (fI_pos c_68) ?_)
                  refine ldWT_11 hx hb hK hP (by have := @hdN_le Y_ o_ n; omega) dX1_canShow_87 ?_
                  refine lv_topl (nm_r (e' := Y_ (hdN Y_ o_ n - 1)) (hsw _ (by have := @hdN_le Y_ o_ n; omega)) ?_)
                  refine xc_i (xr_S (As := [.long (Y_ (hdN Y_ o_ n - 1))]) (rest := [.int (nI (popl 64 (Y_ n)))]) (mt_J16_bitCount_r l D ca (Y_ (hdN Y_ o_ n - 1))  H.size) ⟨hx, hb, hml, hown, hts⟩ (va_cwS 1 hts (lw_S q485 q486 q100 q487) rfl rfl rfl (by decide +kernel) ⟨Nat.le_of_ble_eq_true rfl, Nat.le_of_ble_eq_true rfl⟩) Ev0_ok trivial hK hS (Cut.app (wc := []) (wr := (WT ca cq xq (kdC C) (fsC C) (snC C) ak (nI (C 0)) (nI (C 37)) (nI (C 38)) (fI (C 39)) (nI (C 40)) (lN (C 66)) (nI (C 41)) tb_ va fy cn an sw sb sv)) hP hD hS hA) rfl hl.1 rfl (Nat.le_of_ble_eq_true rfl) dX1_canShow_88 ⟨Nat.le_of_ble_eq_true rfl, Nat.le_of_ble_eq_true rfl⟩) hS (Cut.app (wc := []) (wr := (WT ca cq xq (kdC C) (fsC C) (snC C) ak (nI (C 0)) (nI (C 37)) (nI (C 38)) (fI (C 39)) (nI (C 40)) (lN (C 66)) (nI (C 41)) tb_ va fy cn an sw sb sv)) hP hD hS hA) (fun r_29 u_30 H locs hq_88 hP hD hS => ?_)
                  have hP : va_P D vwCl (WT ca cq xq (kdC C) (fsC C) (snC C) ak (nI (C 0)) (nI (C 37)) (nI (C 38)) (fI (C 39)) (nI (C 40)) (lN (C 66)) (nI (C 41)) tb_ va fy cn an sw sb sv) H := hP
                  have hD : va_D A (WT ca cq xq (kdC C) (fsC C) (snC C) ak (nI (C 0)) (nI (C 37)) (nI (C 38)) (fI (C 39)) (nI (C 40)) (lN (C 66)) (nI (C 41)) tb_ va fy cn an sw sb sv) := hD
                  have hp_88 : r_29 = nI (popl 64 (Y_ (hdN Y_ o_ n - 1))) := hq_88
                  clear hq_88
                  obtain rfl := hp_88
                  refine nv_icmp_ge (tgt := 98) hx hb dX1_canShow_91 (by decide) (by have := popl_le 64 (Y_ n); omega) (by have := popl_le 64 (Y_ (hdN Y_ o_ n - 1)); omega) (fun c_91 => ?_) (fun c_91 => ?_)
                  · skip
                    refine lv_iconst (v := nI 0) hx hb dX1_canShow_98 (by decide) ?_
                    refine lv_istore (lv' := [(6, .int (nI 0)), (5, .int (nI n)), (4, .int (fI (hdN Y_ o_ n))), (0, .ref (xq 0)), (1, .long (lN o_)), (3, .int (nI m_))]) hx hb dX1_canShow_99 hl (by decide) rfl (fun ls hl => ?_)
                    refine lv_iload hx hb dX1_canShow_101 (lv_at hl 0 rfl) ?_
                    refine nv_if_eq (tgt := 111) hx hb dX1_canShow_103 (by decide) (by omega) (fun c_103 => ?_) (fun c_103 => absurd c_103 (by decide))
                    refine lv_iload hx hb dX1_canShow_111 (lv_at hl 2 rfl) ?_
                    refine lv_istore (lv' := [(4, .int (fI (hdN Y_ o_ n))), (6, .int (nI 0)), (5, .int (nI n)), (0, .ref (xq 0)), (1, .long (lN o_)), (3, .int (nI m_))]) hx hb dX1_canShow_113 hl (by decide) rfl (fun ls hl => ?_)
                    refine lv_iinc (v := nI (n + 1)) (lv' := [(5, .int (nI (n + 1))), (4, .int (fI (hdN Y_ o_ n))), (6, .int (nI 0)), (0, .ref (xq 0)), (1, .long (lN o_)), (3, .int (nI m_))]) hx hb dX1_canShow_115 hl (k := 2) rfl (nI_add n 1) (by decide) rfl (fun ls hl => ?_)
                    refine lv_goto (tgt := 44) hx hb dX1_canShow_118 (by decide) ?_
                    have hl : lv_has ls 7 [(5, .int (nI (n + 1))), (4, .int (fI (hdN Y_ o_ (n + 1)))), (6, .int (nI 0)), (0, .ref (xq 0)), (1, .long (lN o_)), (3, .int (nI m_))] := (congrArg (fun x_ => lv_has ls 7 [(5, .int (nI (n + 1))), (4, .int x_), (6, .int (nI 0)), (0, .ref (xq 0)), (1, .long (lN o_)), (3, .int (nI m_))]) (show fI (hdN Y_ o_ n) = fI (hdN Y_ o_ (n + 1)) from congrArg fI (by first | exact (hd_n1 c_62 (by omega)).symm | exact (hd_n2 c_68 c_91).symm))).mp hl
                    exact ih_44  (n + 1) (by omega) (by omega) _ _ hP hD hS ls (lv_sub hl [0, 1, 3, 4, 5] rfl)
                  · skip
                    refine lv_iconst (v := nI 1) hx hb dX1_canShow_94 (by decide) ?_
                    refine lv_goto (tgt := 99) hx hb dX1_canShow_95 (by decide) ?_
                    refine lv_istore (lv' := [(6, .int (nI 1)), (5, .int (nI n)), (4, .int (fI (hdN Y_ o_ n))), (0, .ref (xq 0)), (1, .long (lN o_)), (3, .int (nI m_))]) hx hb dX1_canShow_99 hl (by decide) rfl (fun ls hl => ?_)
                    refine lv_iload hx hb dX1_canShow_101 (lv_at hl 0 rfl) ?_
                    refine nv_if_eq (tgt := 111) hx hb dX1_canShow_103 (by decide) (by omega) (fun c_103 => absurd c_103 (by decide)) (fun c_103 => ?_)
                    refine lv_iload hx hb dX1_canShow_106 (lv_at hl 1 rfl) ?_
                    refine lv_goto (tgt := 113) hx hb dX1_canShow_108 (by decide) ?_
                    refine lv_istore (lv' := [(4, .int (nI n)), (6, .int (nI 1)), (5, .int (nI n)), (0, .ref (xq 0)), (1, .long (lN o_)), (3, .int (nI m_))]) hx hb dX1_canShow_113 hl (by decide) rfl (fun ls hl => ?_)
                    refine lv_iinc (v := nI (n + 1)) (lv' := [(5, .int (nI (n + 1))), (4, .int (nI n)), (6, .int (nI 1)), (0, .ref (xq 0)), (1, .long (lN o_)), (3, .int (nI m_))]) hx hb dX1_canShow_115 hl (k := 2) rfl (nI_add n 1) (by decide) rfl (fun ls hl => ?_)
                    refine lv_goto (tgt := 44) hx hb dX1_canShow_118 (by decide) ?_
                    have hl : lv_has ls 7 [(5, .int (nI (n + 1))), (4, .int (fI (hdN Y_ o_ (n + 1)))), (6, .int (nI 1)), (0, .ref (xq 0)), (1, .long (lN o_)), (3, .int (nI m_))] := (congrArg (fun x_ => lv_has ls 7 [(5, .int (nI (n + 1))), (4, .int x_), (6, .int (nI 1)), (0, .ref (xq 0)), (1, .long (lN o_)), (3, .int (nI m_))]) (show nI n = fI (hdN Y_ o_ (n + 1)) from (fI_S n).trans (congrArg fI (hd_y c_62 (by omega) (by first | exact Or.inl c_68 | exact Or.inr c_91)).symm))).mp hl
                    exact ih_44  (n + 1) (by omega) (by omega) _ _ hP hD hS ls (lv_sub hl [0, 1, 3, 4, 5] rfl)
        have hl : lv_has ls 7 [(5, .int (nI 0)), (4, .int (fI (hdN Y_ o_ 0))), (0, .ref (xq 0)), (1, .long (lN o_)), (3, .int (nI m_))] := (congrArg (fun x_ => lv_has ls 7 [(5, .int (nI 0)), (4, .int x_), (0, .ref (xq 0)), (1, .long (lN o_)), (3, .int (nI m_))]) (show fI 0 = fI (hdN Y_ o_ 0) from rfl)).mp hl
        exact lp_44 (2 * (6 + C 0) - 0 + 1) 0 (Nat.lt_succ_self _) (by omega) _ _ hP hD hS ls (lv_sub hl [0, 1, 2, 3, 4] rfl)
      · skip
        refine lv_iconst (v := nI 0) hx hb dX1_canShow_36 (by decide) ?_
        subst hQQ
        refine (xe_z (b := false) () hx hb hr hlocks hK hP hD hS (congrArg bI (by first | exact (cvB_f (Cv_few c_33)).symm | exact (cvB_f (fun h_ => c_2 (by subst c_9; exact congrArg lN h_))).symm)) dX1_canShow_37)
  · skip
    refine lv_iconst (v := nI 1) hx hb dX1_canShow_6 (by decide) ?_
    subst hQQ
    refine (xe_z (b := true) () hx hb hr hlocks hK hP hD hS (congrArg bI (cvB_t (by rw [(lN_eq0 (by omega)).mp c_2]; exact Cv_0 _ _)).symm) dX1_canShow_7)
set_option maxHeartbeats 4000000 in
set_option maxRecDepth 100000 in
theorem mt_X1_canShow_d3 (l : Launch) (D : va_G) (ca : Nat → ClassId) (cq : Nat → Nat) (xq : Nat → Nat) (ak : Nat → Int32) (tb_ : Nat → Int64) (va : Nat → Int32) (fy : Nat → Int64) (cn : Nat → Int32) (an : Nat → Int32) (sw : Nat → Int64) (sb : Nat → Int64) (sv : Value) (C : Nat → Nat) (X_ : Nat → Nat) (Y_ : Nat → Int64) (o_ : Nat) (m_ : Nat) (h0 : C 0 ≤ 12) (hsb : ∀ t, t < 64 → sb t = lN (X_ t)) (hsw : ∀ f, f < 2 * (6 + C 0) → sw f = Y_ f) (hXY : ∀ t f, t < 64 → f < 2 * (6 + C 0) → bit64 (Y_ f) t = (X_ t).testBit f) (hoN : o_ < 2 ^ (2 * (6 + C 0))) (hm : m_ ≤ 3) (nn : Nat) : Met l yX1_canShow (ws_ yX1_canShow cX1_canShow 7 (Option.some Jvm.ClassFile.FieldType.boolean)) ({ frames := 4, cells := 0, slots := 0, locals := 97 } : Room) (va_Pc [.ref (xq 0), .long (lN o_), .int (nI m_)] (PreW EvX D vwCl (TY ca) (WT ca cq xq (kdC C) (fsC C) (snC C) ak (nI (C 0)) (nI (C 37)) (nI (C 38)) (fI (C 39)) (nI (C 40)) (lN (C 66)) (nI (C 41)) tb_ va fy cn an sw sb sv) nn)) (va_Qi (fun (r_ : Int32) (_ : Unit) => r_ = bI (cvB X_ m_ o_)) (PostW D vwCl (TY ca) (fun (_ : Unit) => (WT ca cq xq (kdC C) (fsC C) (snC C) ak (nI (C 0)) (nI (C 37)) (nI (C 38)) (fI (C 39)) (nI (C 40)) (lN (C 66)) (nI (C 41)) tb_ va fy cn an sw sb sv)) (va_A (WT ca cq xq (kdC C) (fsC C) (snC C) ak (nI (C 0)) (nI (C 37)) (nI (C 38)) (fI (C 39)) (nI (C 40)) (lN (C 66)) (nI (C 41)) tb_ va fy cn an sw sb sv) nn)) (va_A (WT ca cq xq (kdC C) (fsC C) (snC C) ak (nI (C 0)) (nI (C 37)) (nI (C 38)) (fI (C 39)) (nI (C 40)) (lN (C 66)) (nI (C 41)) tb_ va fy cn an sw sb sv) nn)) 0 0 (va_A (WT ca cq xq (kdC C) (fsC C) (snC C) ak (nI (C 0)) (nI (C 37)) (nI (C 38)) (fI (C 39)) (nI (C 40)) (lN (C 66)) (nI (C 41)) tb_ va fy cn an sw sb sv) nn) := by
  refine met_go (QA := fun A => va_Qi (fun (r_ : Int32) (_ : Unit) => r_ = bI (cvB X_ m_ o_)) (PostW D vwCl (TY ca) (fun (_ : Unit) => (WT ca cq xq (kdC C) (fsC C) (snC C) ak (nI (C 0)) (nI (C 37)) (nI (C 38)) (fI (C 39)) (nI (C 40)) (lN (C 66)) (nI (C 41)) tb_ va fy cn an sw sb sv)) A) A) (by decide) (Nat.le_of_ble_eq_true rfl) (fun p e s m below meth c A ls QQ hQQ hx hb hr hts hown hlocks hml hA hP hK hD hE hl => ?_)
  have hown : s.vm.findClass RX1 = some m.cls := hown
  have hS : va_S A s.heap s.heap [] := va_S.rf
  have hl : lv_has ls 7 [(0, .ref (xq 0)), (1, .long (lN o_)), (3, .int (nI m_))] := hl
  generalize hHe : s.heap = H at hP ⊢
  have hS : va_S A s.heap H [] := hHe ▸ hS
  generalize ([] : List Loc) = locs at hS ⊢
  have ho36 : o_ < 2 ^ 36 := Nat.lt_of_lt_of_le hoN (Nat.pow_le_pow_right (by decide) (by omega))
  refine lv_lload_n hx hb dX1_canShow_0 rfl (lv_at hl 1 rfl) ?_
  refine lv_lconst (v := lN 0) hx hb dX1_canShow_1 (by decide) ?_
  refine nv_lcmp_ne (tgt := 8) hx hb dX1_canShow_2 dX1_canShow_3 (by decide) (fun c_2 => ?_) (fun c_2 => ?_)
  · skip
    refine lv_iload_n hx hb dX1_canShow_8 rfl (lv_at hl 2 rfl) ?_
    refine nv_if_eq (tgt := 36) hx hb dX1_canShow_9 (by decide) (by omega) (fun c_9 => ?_) (fun c_9 => ?_)
    · skip
      refine lv_iconst (v := nI 0) hx hb dX1_canShow_36 (by decide) ?_
      subst hQQ
      refine (xe_z (b := false) () hx hb hr hlocks hK hP hD hS (congrArg bI (by first | exact (cvB_f (Cv_few c_33)).symm | exact (cvB_f (fun h_ => c_2 (by subst c_9; exact congrArg lN h_))).symm)) dX1_canShow_37)
    · skip
      refine lv_iload_n hx hb dX1_canShow_12 rfl (lv_at hl 2 rfl) ?_
      refine lv_aload_n hx hb dX1_canShow_13 rfl (lv_at hl 0 rfl) ?_
      refine gWT_5_shownBy_X1 hx hb hts hown hK hP dX1_canShow_14 ?_
      refine lv_aload_n hx hb dX1_canShow_17 rfl (lv_at hl 0 rfl) ?_
      refine lv_lload_n hx hb dX1_canShow_18 rfl (lv_at hl 1 rfl) ?_
      refine xc_i (xr_V (b := xq 0) (ci := 0) (q0 := 5) (As := [.long (lN o_)]) (rest := [.ref (xq 7), .int (nI m_)]) (mt_X1_strongest l D ca cq xq (kdC C) (fsC C) (snC C) ak (nI (C 0)) (nI (C 37)) (nI (C 38)) (fI (C 39)) (nI (C 40)) (lN (C 66)) (nI (C 41)) tb_ va fy cn an sw sb sv X_ o_ hsb H.size) ⟨hx, hb, hml, hown, hts⟩ (cwV 1 hts (lw_V q481 q483 qs10 q79 q484) rfl rfl rfl (by decide +kernel) ⟨Nat.le_of_ble_eq_true rfl, Nat.le_of_ble_eq_true rfl⟩) EvX_ok hE hK hS (Cut.all hP hD hS hA) rfl rfl rfl hl.1 rfl (Nat.le_of_ble_eq_true rfl) dX1_canShow_19 ⟨Nat.le_of_ble_eq_true rfl, Nat.le_of_ble_eq_true rfl⟩) hS (Cut.all hP hD hS hA) (fun r_3 u_4 H locs hq_19 hP hD hS => ?_)
      have hP : va_P D vwCl (WT ca cq xq (kdC C) (fsC C) (snC C) ak (nI (C 0)) (nI (C 37)) (nI (C 38)) (fI (C 39)) (nI (C 40)) (lN (C 66)) (nI (C 41)) tb_ va fy cn an sw sb sv) H := hP
      have hD : va_D A (WT ca cq xq (kdC C) (fsC C) (snC C) ak (nI (C 0)) (nI (C 37)) (nI (C 38)) (fI (C 39)) (nI (C 40)) (lN (C 66)) (nI (C 41)) tb_ va fy cn an sw sb sv) := hD
      have hp_19 : r_3 = nI (stg X_ o_) := hq_19
      clear hq_19
      obtain rfl := hp_19
      refine ldWT_12 hx hb hK hP (stg_lt _ _) dX1_canShow_22 ?_
      refine lv_topl (nm_r (e' := lN (X_ (stg X_ o_))) (hsb _ (stg_lt _ _)) ?_)
      refine lv_lload_n hx hb dX1_canShow_23 rfl (lv_at hl 1 rfl) ?_
      refine lv_land hx hb dX1_canShow_24 (lv_topl (nm_r (e' := lN ((X_ (stg X_ o_)) &&& o_)) (klN_and (X_ (stg X_ o_)) o_) ?_))
      refine xc_i (xr_S (As := [.long (lN ((X_ (stg X_ o_)) &&& o_))]) (rest := [.int (nI m_)]) (mt_J16_bitCount_r l D ca (lN ((X_ (stg X_ o_)) &&& o_))  H.size) ⟨hx, hb, hml, hown, hts⟩ (va_cwS 1 hts (lw_S q485 q486 q100 q487) rfl rfl rfl (by decide +kernel) ⟨Nat.le_of_ble_eq_true rfl, Nat.le_of_ble_eq_true rfl⟩) Ev0_ok trivial hK hS (Cut.app (wc := []) (wr := (WT ca cq xq (kdC C) (fsC C) (snC C) ak (nI (C 0)) (nI (C 37)) (nI (C 38)) (fI (C 39)) (nI (C 40)) (lN (C 66)) (nI (C 41)) tb_ va fy cn an sw sb sv)) hP hD hS hA) rfl hl.1 rfl (Nat.le_of_ble_eq_true rfl) dX1_canShow_25 ⟨Nat.le_of_ble_eq_true rfl, Nat.le_of_ble_eq_true rfl⟩) hS (Cut.app (wc := []) (wr := (WT ca cq xq (kdC C) (fsC C) (snC C) ak (nI (C 0)) (nI (C 37)) (nI (C 38)) (fI (C 39)) (nI (C 40)) (lN (C 66)) (nI (C 41)) tb_ va fy cn an sw sb sv)) hP hD hS hA) (fun r_5 u_6 H locs hq_25 hP hD hS => ?_)
      have hP : va_P D vwCl (WT ca cq xq (kdC C) (fsC C) (snC C) ak (nI (C 0)) (nI (C 37)) (nI (C 38)) (fI (C 39)) (nI (C 40)) (lN (C 66)) (nI (C 41)) tb_ va fy cn an sw sb sv) H := hP
      have hD : va_D A (WT ca cq xq (kdC C) (fsC C) (snC C) ak (nI (C 0)) (nI (C 37)) (nI (C 38)) (fI (C 39)) (nI (C 40)) (lN (C 66)) (nI (C 41)) tb_ va fy cn an sw sb sv) := hD
      have hp_25 : r_5 = nI (popl 64 (lN ((X_ (stg X_ o_)) &&& o_))) := hq_25
      clear hq_25
      obtain rfl := hp_25
      refine nv_imul hx hb dX1_canShow_28 ?_
      refine lv_lload_n hx hb dX1_canShow_29 rfl (lv_at hl 1 rfl) ?_
      refine xc_i (xr_S (As := [.long (lN o_)]) (rest := [.int (nI (m_ * (popl 64 (lN ((X_ (stg X_ o_)) &&& o_)))))]) (mt_J16_bitCount_r l D ca (lN o_)  H.size) ⟨hx, hb, hml, hown, hts⟩ (va_cwS 1 hts (lw_S q485 q486 q100 q487) rfl rfl rfl (by decide +kernel) ⟨Nat.le_of_ble_eq_true rfl, Nat.le_of_ble_eq_true rfl⟩) Ev0_ok trivial hK hS (Cut.app (wc := []) (wr := (WT ca cq xq (kdC C) (fsC C) (snC C) ak (nI (C 0)) (nI (C 37)) (nI (C 38)) (fI (C 39)) (nI (C 40)) (lN (C 66)) (nI (C 41)) tb_ va fy cn an sw sb sv)) hP hD hS hA) rfl hl.1 rfl (Nat.le_of_ble_eq_true rfl) dX1_canShow_30 ⟨Nat.le_of_ble_eq_true rfl, Nat.le_of_ble_eq_true rfl⟩) hS (Cut.app (wc := []) (wr := (WT ca cq xq (kdC C) (fsC C) (snC C) ak (nI (C 0)) (nI (C 37)) (nI (C 38)) (fI (C 39)) (nI (C 40)) (lN (C 66)) (nI (C 41)) tb_ va fy cn an sw sb sv)) hP hD hS hA) (fun r_7 u_8 H locs hq_30 hP hD hS => ?_)
      have hP : va_P D vwCl (WT ca cq xq (kdC C) (fsC C) (snC C) ak (nI (C 0)) (nI (C 37)) (nI (C 38)) (fI (C 39)) (nI (C 40)) (lN (C 66)) (nI (C 41)) tb_ va fy cn an sw sb sv) H := hP
      have hD : va_D A (WT ca cq xq (kdC C) (fsC C) (snC C) ak (nI (C 0)) (nI (C 37)) (nI (C 38)) (fI (C 39)) (nI (C 40)) (lN (C 66)) (nI (C 41)) tb_ va fy cn an sw sb sv) := hD
      have hp_30 : r_7 = nI (popl 64 (lN o_)) := hq_30
      clear hq_30
      obtain rfl := hp_30
      refine nv_icmp_ge (tgt := 38) hx hb dX1_canShow_33 (by decide) (by have h1_ := popl_le 64 (lN (X_ (stg X_ o_) &&& o_)); have := Nat.mul_le_mul hm h1_; omega) (by have := popl_le 64 (lN o_); omega) (fun c_33 => ?_) (fun c_33 => ?_)
      · skip
        refine lv_iconst (v := fI 0) hx hb dX1_canShow_38 (by decide) ?_
        refine lv_istore (lv' := [(4, .int (fI 0)), (0, .ref (xq 0)), (1, .long (lN o_)), (3, .int (nI m_))]) hx hb dX1_canShow_39 hl (by decide) rfl (fun ls hl => ?_)
        refine lv_iconst (v := nI 0) hx hb dX1_canShow_41 (by decide) ?_
        refine lv_istore (lv' := [(5, .int (nI 0)), (4, .int (fI 0)), (0, .ref (xq 0)), (1, .long (lN o_)), (3, .int (nI m_))]) hx hb dX1_canShow_42 hl (by decide) rfl (fun ls hl => ?_)
        have lp_44 : ∀ (fu_44 : Nat) (n : Nat), 2 * (6 + C 0) - n < fu_44 → (n ≤ 2 * (6 + C 0)) → ∀ (H : Heap) (locs : List Loc), va_P D vwCl (WT ca cq xq (kdC C) (fsC C) (snC C) ak (nI (C 0)) (nI (C 37)) (nI (C 38)) (fI (C 39)) (nI (C 40)) (lN (C 66)) (nI (C 41)) tb_ va fy cn an sw sb sv) H → va_D A (WT ca cq xq (kdC C) (fsC C) (snC C) ak (nI (C 0)) (nI (C 37)) (nI (C 38)) (fI (C 39)) (nI (C 40)) (lN (C 66)) (nI (C 41)) tb_ va fy cn an sw sb sv) → va_S A s.heap H locs → ∀ (ls : Array Slot), lv_has ls 7 [(5, .int (nI n)), (4, .int (fI (hdN Y_ o_ n))), (0, .ref (xq 0)), (1, .long (lN o_)), (3, .int (nI m_))] → W p l e ({ frames := 4, cells := 0, slots := 0, locals := 97 } : Room) s m ([.ref (xq 0), .long (lN o_), .int (nI m_)] : List Value).toArray below meth c H locs 0 0 QQ (F0 m 44 ls []) := by
          intro fu_44
          induction fu_44 with
          | zero => intro n hfu; exact absurd hfu (Nat.not_lt_zero _)
          | succ fu_44 ih_44 =>
            intro n hfu hn H locs hP hD hS ls hl
            refine lv_iload hx hb dX1_canShow_44 (lv_at hl 0 rfl) ?_
            refine lv_aload_n hx hb dX1_canShow_46 rfl (lv_at hl 2 rfl) ?_
            refine gWT_5_circuit_X1 hx hb hts hown hK hP dX1_canShow_47 ?_
            refine xc_i (xr_V (b := cq 0) (ci := 1) (q0 := 0) (As := []) (rest := [.int (nI n)]) (mt_X2_faults l D ca cq (kdC C) (fsC C) (snC C) ak (nI (C 37)) (nI (C 38)) (fI (C 39)) (nI (C 40)) (lN (C 66)) (nI (C 41)) (C 0)  H.size) ⟨hx, hb, hml, hown, hts⟩ (cwV 0 hts (lw_V q439 q440 q441 q80 q442) rfl rfl rfl (by decide +kernel) ⟨Nat.le_of_ble_eq_true rfl, Nat.le_of_ble_eq_true rfl⟩) EvX_ok hE hK hS (Cut.app (wc := (WC ca cq (kdC C) (fsC C) (snC C) ak (nI (C 0)) (nI (C 37)) (nI (C 38)) (fI (C 39)) (nI (C 40)) (lN (C 66)) (nI (C 41)))) (wr := (WTr ca cq xq tb_ va fy cn an sw sb sv)) hP hD hS hA) rfl rfl rfl hl.1 rfl (Nat.le_of_ble_eq_true rfl) dX1_canShow_50 ⟨Nat.le_of_ble_eq_true rfl, Nat.le_of_ble_eq_true rfl⟩) hS (Cut.app (wc := (WC ca cq (kdC C) (fsC C) (snC C) ak (nI (C 0)) (nI (C 37)) (nI (C 38)) (fI (C 39)) (nI (C 40)) (lN (C 66)) (nI (C 41)))) (wr := (WTr ca cq xq tb_ va fy cn an sw sb sv)) hP hD hS hA) (fun r_10 u_11 H locs hq_50 hP hD hS => ?_)
            have hP : va_P D vwCl (WT ca cq xq (kdC C) (fsC C) (snC C) ak (nI (C 0)) (nI (C 37)) (nI (C 38)) (fI (C 39)) (nI (C 40)) (lN (C 66)) (nI (C 41)) tb_ va fy cn an sw sb sv) H := hP
            have hD : va_D A (WT ca cq xq (kdC C) (fsC C) (snC C) ak (nI (C 0)) (nI (C 37)) (nI (C 38)) (fI (C 39)) (nI (C 40)) (lN (C 66)) (nI (C 41)) tb_ va fy cn an sw sb sv) := hD
            have hp_50 : r_10 = nI (2 * (6 + (C 0))) := hq_50
            clear hq_50
            obtain rfl := hp_50
            refine nv_icmp_ge (tgt := 121) hx hb dX1_canShow_53 (by decide) (by omega) (by omega) (fun c_53 => ?_) (fun c_53 => ?_)
            · skip
              have e_ : 2 * (6 + C 0) = n := Eq.symm (by omega)
              subst e_
              obtain ⟨hW0, hWl, hWb⟩ := hdN_hit (Y := Y_) hoN (fun z => c_2 (by rw [z]))
              have hl : lv_has ls 7 [(5, .int (nI (2 * (6 + C 0)))), (4, .int (nI (hdN Y_ o_ (2 * (6 + C 0)) - 1))), (0, .ref (xq 0)), (1, .long (lN o_)), (3, .int (nI m_))] := (congrArg (fun x_ => lv_has ls 7 [(5, .int (nI (2 * (6 + C 0)))), (4, .int x_), (0, .ref (xq 0)), (1, .long (lN o_)), (3, .int (nI m_))]) (show fI (hdN Y_ o_ (2 * (6 + C 0))) = nI (hdN Y_ o_ (2 * (6 + C 0)) - 1) from fI_pos hW0)).mp hl
              refine lv_iconst (v := nI 0) hx hb dX1_canShow_121 (by decide) ?_
              refine lv_istore (lv' := [(5, .int (nI 0)), (4, .int (nI (hdN Y_ o_ (2 * (6 + C 0)) - 1))), (0, .ref (xq 0)), (1, .long (lN o_)), (3, .int (nI m_))]) hx hb dX1_canShow_122 hl (by decide) rfl (fun ls hl => ?_)
              have lp_124 : ∀ (fu_124 : Nat) (t : Nat), 64 - t < fu_124 → (t ≤ 64) → (csN X_ (m_ - 1) o_ (hdN Y_ o_ (2 * (6 + C 0)) - 1) t) → ∀ (H : Heap) (locs : List Loc), va_P D vwCl (WT ca cq xq (kdC C) (fsC C) (snC C) ak (nI (C 0)) (nI (C 37)) (nI (C 38)) (fI (C 39)) (nI (C 40)) (lN (C 66)) (nI (C 41)) tb_ va fy cn an sw sb sv) H → va_D A (WT ca cq xq (kdC C) (fsC C) (snC C) ak (nI (C 0)) (nI (C 37)) (nI (C 38)) (fI (C 39)) (nI (C 40)) (lN (C 66)) (nI (C 41)) tb_ va fy cn an sw sb sv) → va_S A s.heap H locs → ∀ (ls : Array Slot), lv_has ls 7 [(5, .int (nI t)), (4, .int (nI (hdN Y_ o_ (2 * (6 + C 0)) - 1))), (0, .ref (xq 0)), (1, .long (lN o_)), (3, .int (nI m_))] → W p l e ({ frames := 4, cells := 0, slots := 0, locals := 97 } : Room) s m ([.ref (xq 0), .long (lN o_), .int (nI m_)] : List Value).toArray below meth c H locs 0 0 QQ (F0 m 124 ls []) := by
                intro fu_124
                induction fu_124 with
                | zero => intro t hfu; exact absurd hfu (Nat.not_lt_zero _)
                | succ fu_124 ih_124 =>
                  intro t hfu ht_ hcs H locs hP hD hS ls hl
                  refine lv_iload hx hb dX1_canShow_124 (lv_at hl 0 rfl) ?_
                  refine lv_bipush (v := nI 64) hx hb dX1_canShow_126 (by decide) ?_
                  refine nv_icmp_ge (tgt := 187) hx hb dX1_canShow_128 (by decide) (by omega) (by omega) (fun c_128 => ?_) (fun c_128 => ?_)
                  · skip
                    have e_ : 64 = t := Eq.symm (by omega)
                    subst e_
                    refine lv_iconst (v := nI 0) hx hb dX1_canShow_187 (by decide) ?_
                    subst hQQ
                    refine (xe_z (b := false) () hx hb hr hlocks hK hP hD hS (congrArg bI (cs_end ho36 hWb c_9 hcs)) dX1_canShow_188)
                  · skip
                    refine lv_aload_n hx hb dX1_canShow_131 rfl (lv_at hl 2 rfl) ?_
                    refine gWT_5_shown_X1 hx hb hts hown hK hP dX1_canShow_132 ?_
                    refine lv_iload hx hb dX1_canShow_135 (lv_at hl 1 rfl) ?_
                    refine ldWT_11 hx hb hK hP (by omega) dX1_canShow_137 ?_
                    refine lv_topl (nm_r (e' := Y_ (hdN Y_ o_ (2 * (6 + C 0)) - 1)) (hsw _ (by omega)) ?_)
                    refine lv_iload hx hb dX1_canShow_138 (lv_at hl 0 rfl) ?_
                    refine xc_i (xr_S (As := [.long (Y_ (hdN Y_ o_ (2 * (6 + C 0)) - 1)), .int (nI t)]) (rest := []) (mt_X1_isIn_2 l D ca (Y_ (hdN Y_ o_ (2 * (6 + C 0)) - 1)) t (by first | assumption | omega | (simp only [updN, forgetC, changedC]; (repeat' split) <;> omega)) H.size) ⟨hx, hb, hml, hown, hts⟩ (va_cwS 2 hts (lw_S q478 q479 q79 q480) rfl rfl rfl (by decide +kernel) ⟨Nat.le_of_ble_eq_true rfl, Nat.le_of_ble_eq_true rfl⟩) Ev0_ok trivial hK hS (Cut.app (wc := []) (wr := (WT ca cq xq (kdC C) (fsC C) (snC C) ak (nI (C 0)) (nI (C 37)) (nI (C 38)) (fI (C 39)) (nI (C 40)) (lN (C 66)) (nI (C 41)) tb_ va fy cn an sw sb sv)) hP hD hS hA) rfl hl.1 rfl (Nat.le_of_ble_eq_true rfl) dX1_canShow_140 ⟨Nat.le_of_ble_eq_true rfl, Nat.le_of_ble_eq_true rfl⟩) hS (Cut.app (wc := []) (wr := (WT ca cq xq (kdC C) (fsC C) (snC C) ak (nI (C 0)) (nI (C 37)) (nI (C 38)) (fI (C 39)) (nI (C 40)) (lN (C 66)) (nI (C 41)) tb_ va fy cn an sw sb sv)) hP hD hS hA) (fun r_14 u_15 H locs hq_140 hP hD hS => ?_)
                    have hP : va_P D vwCl (WT ca cq xq (kdC C) (fsC C) (snC C) ak (nI (C 0)) (nI (C 37)) (nI (C 38)) (fI (C 39)) (nI (C 40)) (lN (C 66)) (nI (C 41)) tb_ va fy cn an sw sb sv) H := hP
                    have hD : va_D A (WT ca cq xq (kdC C) (fsC C) (snC C) ak (nI (C 0)) (nI (C 37)) (nI (C 38)) (fI (C 39)) (nI (C 40)) (lN (C 66)) (nI (C 41)) tb_ va fy cn an sw sb sv) := hD
                    have hp_140 : r_14 = bI (bit64 (Y_ (hdN Y_ o_ (2 * (6 + C 0)) - 1)) t) := hq_140
                    clear hq_140
                    obtain rfl := hp_140
                    refine nv_ifb_eq (tgt := 181) hx hb dX1_canShow_143 (by decide) (fun c_143 => ?_) (fun c_143 => ?_)
                    · skip
                      refine lv_iinc (v := nI (t + 1)) (lv' := [(5, .int (nI (t + 1))), (4, .int (nI (hdN Y_ o_ (2 * (6 + C 0)) - 1))), (0, .ref (xq 0)), (1, .long (lN o_)), (3, .int (nI m_))]) hx hb dX1_canShow_181 hl (k := 0) rfl (nI_add t 1) (by decide) rfl (fun ls hl => ?_)
                      refine lv_goto (tgt := 124) hx hb dX1_canShow_184 (by decide) ?_
                      exact ih_124  (t + 1) (by omega) (by omega) (cs_s hcs (fun q_ => by first | exact absurd ((cvB_iff.mpr q_.2.2).symm.trans c_176) (by decide) | exact absurd (c_153.symm.trans q_.2.1) (by decide) | exact absurd (((hXY t _ (by omega) (by omega)).symm.trans c_143).symm.trans q_.1) (by decide))) _ _ hP hD hS ls (lv_sub hl [0, 1, 2, 3, 4] rfl)
                    · skip
                      refine lv_aload_n hx hb dX1_canShow_146 rfl (lv_at hl 2 rfl) ?_
                      refine lv_iload hx hb dX1_canShow_147 (lv_at hl 0 rfl) ?_
                      refine lv_lload_n hx hb dX1_canShow_149 rfl (lv_at hl 3 rfl) ?_
                      refine xc_i (xr_V (b := xq 0) (ci := 0) (q0 := 5) (As := [.int (nI t), .long (lN o_)]) (rest := []) (mt_X1_isWeaker l D ca cq xq (kdC C) (fsC C) (snC C) ak (nI (C 0)) (nI (C 37)) (nI (C 38)) (fI (C 39)) (nI (C 40)) (lN (C 66)) (nI (C 41)) tb_ va fy cn an sw sb sv X_ t o_ hsb (by omega) ho36 H.size) ⟨hx, hb, hml, hown, hts⟩ (cwV 2 hts (lw_V q1067 q1069 qs23 q79 q1070) rfl rfl rfl (by decide +kernel) ⟨Nat.le_of_ble_eq_true rfl, Nat.le_of_ble_eq_true rfl⟩) EvX_ok hE hK hS (Cut.all hP hD hS hA) rfl rfl rfl hl.1 rfl (Nat.le_of_ble_eq_true rfl) dX1_canShow_150 ⟨Nat.le_of_ble_eq_true rfl, Nat.le_of_ble_eq_true rfl⟩) hS (Cut.all hP hD hS hA) (fun r_17 u_18 H locs hq_150 hP hD hS => ?_)
                      have hP : va_P D vwCl (WT ca cq xq (kdC C) (fsC C) (snC C) ak (nI (C 0)) (nI (C 37)) (nI (C 38)) (fI (C 39)) (nI (C 40)) (lN (C 66)) (nI (C 41)) tb_ va fy cn an sw sb sv) H := hP
                      have hD : va_D A (WT ca cq xq (kdC C) (fsC C) (snC C) ak (nI (C 0)) (nI (C 37)) (nI (C 38)) (fI (C 39)) (nI (C 40)) (lN (C 66)) (nI (C 41)) tb_ va fy cn an sw sb sv) := hD
                      have hp_150 : r_17 = bI (wkN X_ o_ t 64) := hq_150
                      clear hq_150
                      obtain rfl := hp_150
                      refine nv_ifb_ne (tgt := 181) hx hb dX1_canShow_153 (by decide) (fun c_153 => ?_) (fun c_153 => ?_)
                      · skip
                        refine lv_iinc (v := nI (t + 1)) (lv' := [(5, .int (nI (t + 1))), (4, .int (nI (hdN Y_ o_ (2 * (6 + C 0)) - 1))), (0, .ref (xq 0)), (1, .long (lN o_)), (3, .int (nI m_))]) hx hb dX1_canShow_181 hl (k := 0) rfl (nI_add t 1) (by decide) rfl (fun ls hl => ?_)
                        refine lv_goto (tgt := 124) hx hb dX1_canShow_184 (by decide) ?_
                        exact ih_124  (t + 1) (by omega) (by omega) (cs_s hcs (fun q_ => by first | exact absurd ((cvB_iff.mpr q_.2.2).symm.trans c_176) (by decide) | exact absurd (c_153.symm.trans q_.2.1) (by decide) | exact absurd (((hXY t _ (by omega) (by omega)).symm.trans c_143).symm.trans q_.1) (by decide))) _ _ hP hD hS ls (lv_sub hl [0, 1, 2, 3, 4] rfl)
                      · skip
                        refine lv_aload_n hx hb dX1_canShow_156 rfl (lv_at hl 2 rfl) ?_
                        refine lv_lload_n hx hb dX1_canShow_157 rfl (lv_at hl 3 rfl) ?_
                        refine lv_aload_n hx hb dX1_canShow_158 rfl (lv_at hl 2 rfl) ?_
                        refine gWT_5_shownBy_X1 hx hb hts hown hK hP dX1_canShow_159 ?_
                        refine lv_iload hx hb dX1_canShow_162 (lv_at hl 0 rfl) ?_
                        refine ldWT_12 hx hb hK hP (by omega) dX1_canShow_164 ?_
                        refine lv_topl (nm_r (e' := lN (X_ t)) (hsb t (by omega)) ?_)
                        refine lv_ldc2 (v := (-1)) hx hb hown (hts _ q476) dX1_canShow_165 ?_
                        refine lv_lxor hx hb dX1_canShow_168 ?_
                        refine lv_land hx hb dX1_canShow_169 ?_
                        refine lv_topl (nm_r (e' := lN (adN o_ (X_ t))) (lN_adn) ?_)
                        refine lv_iload_n hx hb dX1_canShow_170 rfl (lv_at hl 4 rfl) ?_
                        refine lv_iconst (v := nI 1) hx hb dX1_canShow_171 (by decide) ?_
                        refine nv_isub hx hb dX1_canShow_172 (by omega) ?_
                        refine xc_i (xr_V (b := xq 0) (ci := 0) (q0 := 5) (As := [.long (lN (adN o_ (X_ t))), .int (nI (m_ - 1))]) (rest := []) (mt_X1_canShow_d2 l D ca cq xq ak tb_ va fy cn an sw sb sv C X_ Y_ (adN o_ (X_ t)) (m_ - 1) h0 hsb hsw hXY (adN_le2 hoN) (by omega) H.size) ⟨hx, hb, hml, hown, hts⟩ (cwV 2 hts (lw_V q1063 q1065 qs22 q79 q1066) rfl rfl rfl (by decide +kernel) ⟨Nat.le_of_ble_eq_true rfl, Nat.le_of_ble_eq_true rfl⟩) EvX_ok hE hK hS (Cut.all hP hD hS hA) rfl rfl rfl hl.1 rfl (Nat.le_of_ble_eq_true rfl) dX1_canShow_173 ⟨Nat.le_of_ble_eq_true rfl, Nat.le_of_ble_eq_true rfl⟩) hS (Cut.all hP hD hS hA) (fun r_20 u_21 H locs hq_173 hP hD hS => ?_)
                        have hP : va_P D vwCl (WT ca cq xq (kdC C) (fsC C) (snC C) ak (nI (C 0)) (nI (C 37)) (nI (C 38)) (fI (C 39)) (nI (C 40)) (lN (C 66)) (nI (C 41)) tb_ va fy cn an sw sb sv) H := hP
                        have hD : va_D A (WT ca cq xq (kdC C) (fsC C) (snC C) ak (nI (C 0)) (nI (C 37)) (nI (C 38)) (fI (C 39)) (nI (C 40)) (lN (C 66)) (nI (C 41)) tb_ va fy cn an sw sb sv) := hD
                        have hp_173 : r_20 = bI (cvB X_ (m_ - 1) (adN o_ (X_ t))) := hq_173
                        clear hq_173
                        obtain rfl := hp_173
                        refine nv_ifb_eq (tgt := 181) hx hb dX1_canShow_176 (by decide) (fun c_176 => ?_) (fun c_176 => ?_)
                        · skip
                          refine lv_iinc (v := nI (t + 1)) (lv' := [(5, .int (nI (t + 1))), (4, .int (nI (hdN Y_ o_ (2 * (6 + C 0)) - 1))), (0, .ref (xq 0)), (1, .long (lN o_)), (3, .int (nI m_))]) hx hb dX1_canShow_181 hl (k := 0) rfl (nI_add t 1) (by decide) rfl (fun ls hl => ?_)
                          refine lv_goto (tgt := 124) hx hb dX1_canShow_184 (by decide) ?_
                          exact ih_124  (t + 1) (by omega) (by omega) (cs_s hcs (fun q_ => by first | exact absurd ((cvB_iff.mpr q_.2.2).symm.trans c_176) (by decide) | exact absurd (c_153.symm.trans q_.2.1) (by decide) | exact absurd (((hXY t _ (by omega) (by omega)).symm.trans c_143).symm.trans q_.1) (by decide))) _ _ hP hD hS ls (lv_sub hl [0, 1, 2, 3, 4] rfl)
                        · skip
                          refine lv_iconst (v := nI 1) hx hb dX1_canShow_179 (by decide) ?_
                          subst hQQ
                          refine (xe_z (b := true) () hx hb hr hlocks hK hP hD hS (congrArg bI (cs_hit ho36 hWb c_9 (by omega) (by rw [← hXY t _ (by omega) (by omega)]; exact c_143) c_153 c_176)) dX1_canShow_180)
              exact lp_124 (64 - 0 + 1) 0 (Nat.lt_succ_self _) (by omega) (fun t_ h_ => absurd h_ (Nat.not_lt_zero t_)) _ _ hP hD hS ls (lv_sub hl [0, 1, 2, 3, 4] rfl)
            · skip
              refine lv_lload_n hx hb dX1_canShow_56 rfl (lv_at hl 3 rfl) ?_
              refine lv_iload hx hb dX1_canShow_57 (lv_at hl 0 rfl) ?_
              refine xc_i (xr_S (As := [.long (lN o_), .int (nI n)]) (rest := []) (mt_X1_isIn_2 l D ca (lN o_) n (by first | assumption | omega | (simp only [updN, forgetC, changedC]; (repeat' split) <;> omega)) H.size) ⟨hx, hb, hml, hown, hts⟩ (va_cwS 2 hts (lw_S q478 q479 q79 q480) rfl rfl rfl (by decide +kernel) ⟨Nat.le_of_ble_eq_true rfl, Nat.le_of_ble_eq_true rfl⟩) Ev0_ok trivial hK hS (Cut.app (wc := []) (wr := (WT ca cq xq (kdC C) (fsC C) (snC C) ak (nI (C 0)) (nI (C 37)) (nI (C 38)) (fI (C 39)) (nI (C 40)) (lN (C 66)) (nI (C 41)) tb_ va fy cn an sw sb sv)) hP hD hS hA) rfl hl.1 rfl (Nat.le_of_ble_eq_true rfl) dX1_canShow_59 ⟨Nat.le_of_ble_eq_true rfl, Nat.le_of_ble_eq_true rfl⟩) hS (Cut.app (wc := []) (wr := (WT ca cq xq (kdC C) (fsC C) (snC C) ak (nI (C 0)) (nI (C 37)) (nI (C 38)) (fI (C 39)) (nI (C 40)) (lN (C 66)) (nI (C 41)) tb_ va fy cn an sw sb sv)) hP hD hS hA) (fun r_23 u_24 H locs hq_59 hP hD hS => ?_)
              have hP : va_P D vwCl (WT ca cq xq (kdC C) (fsC C) (snC C) ak (nI (C 0)) (nI (C 37)) (nI (C 38)) (fI (C 39)) (nI (C 40)) (lN (C 66)) (nI (C 41)) tb_ va fy cn an sw sb sv) H := hP
              have hD : va_D A (WT ca cq xq (kdC C) (fsC C) (snC C) ak (nI (C 0)) (nI (C 37)) (nI (C 38)) (fI (C 39)) (nI (C 40)) (lN (C 66)) (nI (C 41)) tb_ va fy cn an sw sb sv) := hD
              have hp_59 : r_23 = bI (bit64 (lN o_) n) := hq_59
              clear hq_59
              obtain rfl := hp_59
              refine nv_ifb_eq (tgt := 98) hx hb dX1_canShow_62 (by decide) (fun c_62 => ?_) (fun c_62 => ?_)
              · skip
                refine lv_iconst (v := nI 0) hx hb dX1_canShow_98 (by decide) ?_
                refine lv_istore (lv' := [(6, .int (nI 0)), (5, .int (nI n)), (4, .int (fI (hdN Y_ o_ n))), (0, .ref (xq 0)), (1, .long (lN o_)), (3, .int (nI m_))]) hx hb dX1_canShow_99 hl (by decide) rfl (fun ls hl => ?_)
                refine lv_iload hx hb dX1_canShow_101 (lv_at hl 0 rfl) ?_
                refine nv_if_eq (tgt := 111) hx hb dX1_canShow_103 (by decide) (by omega) (fun c_103 => ?_) (fun c_103 => absurd c_103 (by decide))
                refine lv_iload hx hb dX1_canShow_111 (lv_at hl 2 rfl) ?_
                refine lv_istore (lv' := [(4, .int (fI (hdN Y_ o_ n))), (6, .int (nI 0)), (5, .int (nI n)), (0, .ref (xq 0)), (1, .long (lN o_)), (3, .int (nI m_))]) hx hb dX1_canShow_113 hl (by decide) rfl (fun ls hl => ?_)
                refine lv_iinc (v := nI (n + 1)) (lv' := [(5, .int (nI (n + 1))), (4, .int (fI (hdN Y_ o_ n))), (6, .int (nI 0)), (0, .ref (xq 0)), (1, .long (lN o_)), (3, .int (nI m_))]) hx hb dX1_canShow_115 hl (k := 2) rfl (nI_add n 1) (by decide) rfl (fun ls hl => ?_)
                refine lv_goto (tgt := 44) hx hb dX1_canShow_118 (by decide) ?_
                have hl : lv_has ls 7 [(5, .int (nI (n + 1))), (4, .int (fI (hdN Y_ o_ (n + 1)))), (6, .int (nI 0)), (0, .ref (xq 0)), (1, .long (lN o_)), (3, .int (nI m_))] := (congrArg (fun x_ => lv_has ls 7 [(5, .int (nI (n + 1))), (4, .int x_), (6, .int (nI 0)), (0, .ref (xq 0)), (1, .long (lN o_)), (3, .int (nI m_))]) (show fI (hdN Y_ o_ n) = fI (hdN Y_ o_ (n + 1)) from congrArg fI (by first | exact (hd_n1 c_62 (by omega)).symm | exact (hd_n2 c_68 c_91).symm))).mp hl
                exact ih_44  (n + 1) (by omega) (by omega) _ _ hP hD hS ls (lv_sub hl [0, 1, 3, 4, 5] rfl)
              · skip
                refine lv_iload hx hb dX1_canShow_65 (lv_at hl 1 rfl) ?_
                refine lv_iconst (v := fI 0) hx hb dX1_canShow_67 (by decide) ?_
                refine nv_icmp_eqf (tgt := 94) hx hb dX1_canShow_68 (by decide) (by have := @hdN_le Y_ o_ n; omega) (fun c_68 => ?_) (fun c_68 => ?_)
                · skip
                  refine lv_iconst (v := nI 1) hx hb dX1_canShow_94 (by decide) ?_
                  refine lv_goto (tgt := 99) hx hb dX1_canShow_95 (by decide) ?_
                  refine lv_istore (lv' := [(6, .int (nI 1)), (5, .int (nI n)), (4, .int (fI (hdN Y_ o_ n))), (0, .ref (xq 0)), (1, .long (lN o_)), (3, .int (nI m_))]) hx hb dX1_canShow_99 hl (by decide) rfl (fun ls hl => ?_)
                  refine lv_iload hx hb dX1_canShow_101 (lv_at hl 0 rfl) ?_
                  refine nv_if_eq (tgt := 111) hx hb dX1_canShow_103 (by decide) (by omega) (fun c_103 => absurd c_103 (by decide)) (fun c_103 => ?_)
                  refine lv_iload hx hb dX1_canShow_106 (lv_at hl 1 rfl) ?_
                  refine lv_goto (tgt := 113) hx hb dX1_canShow_108 (by decide) ?_
                  refine lv_istore (lv' := [(4, .int (nI n)), (6, .int (nI 1)), (5, .int (nI n)), (0, .ref (xq 0)), (1, .long (lN o_)), (3, .int (nI m_))]) hx hb dX1_canShow_113 hl (by decide) rfl (fun ls hl => ?_)
                  refine lv_iinc (v := nI (n + 1)) (lv' := [(5, .int (nI (n + 1))), (4, .int (nI n)), (6, .int (nI 1)), (0, .ref (xq 0)), (1, .long (lN o_)), (3, .int (nI m_))]) hx hb dX1_canShow_115 hl (k := 2) rfl (nI_add n 1) (by decide) rfl (fun ls hl => ?_)
                  refine lv_goto (tgt := 44) hx hb dX1_canShow_118 (by decide) ?_
                  have hl : lv_has ls 7 [(5, .int (nI (n + 1))), (4, .int (fI (hdN Y_ o_ (n + 1)))), (6, .int (nI 1)), (0, .ref (xq 0)), (1, .long (lN o_)), (3, .int (nI m_))] := (congrArg (fun x_ => lv_has ls 7 [(5, .int (nI (n + 1))), (4, .int x_), (6, .int (nI 1)), (0, .ref (xq 0)), (1, .long (lN o_)), (3, .int (nI m_))]) (show nI n = fI (hdN Y_ o_ (n + 1)) from (fI_S n).trans (congrArg fI (hd_y c_62 (by omega) (by first | exact Or.inl c_68 | exact Or.inr c_91)).symm))).mp hl
                  exact ih_44  (n + 1) (by omega) (by omega) _ _ hP hD hS ls (lv_sub hl [0, 1, 3, 4, 5] rfl)
                · skip
                  refine lv_aload_n hx hb dX1_canShow_71 rfl (lv_at hl 2 rfl) ?_
                  refine gWT_5_shown_X1 hx hb hts hown hK hP dX1_canShow_72 ?_
                  refine lv_iload hx hb dX1_canShow_75 (lv_at hl 0 rfl) ?_
                  refine ldWT_11 hx hb hK hP (by omega) dX1_canShow_77 ?_
                  refine lv_topl (nm_r (e' := Y_ n) (hsw n (by omega)) ?_)
                  refine xc_i (xr_S (As := [.long (Y_ n)]) (rest := []) (mt_J16_bitCount_r l D ca (Y_ n)  H.size) ⟨hx, hb, hml, hown, hts⟩ (va_cwS 1 hts (lw_S q485 q486 q100 q487) rfl rfl rfl (by decide +kernel) ⟨Nat.le_of_ble_eq_true rfl, Nat.le_of_ble_eq_true rfl⟩) Ev0_ok trivial hK hS (Cut.app (wc := []) (wr := (WT ca cq xq (kdC C) (fsC C) (snC C) ak (nI (C 0)) (nI (C 37)) (nI (C 38)) (fI (C 39)) (nI (C 40)) (lN (C 66)) (nI (C 41)) tb_ va fy cn an sw sb sv)) hP hD hS hA) rfl hl.1 rfl (Nat.le_of_ble_eq_true rfl) dX1_canShow_78 ⟨Nat.le_of_ble_eq_true rfl, Nat.le_of_ble_eq_true rfl⟩) hS (Cut.app (wc := []) (wr := (WT ca cq xq (kdC C) (fsC C) (snC C) ak (nI (C 0)) (nI (C 37)) (nI (C 38)) (fI (C 39)) (nI (C 40)) (lN (C 66)) (nI (C 41)) tb_ va fy cn an sw sb sv)) hP hD hS hA) (fun r_27 u_28 H locs hq_78 hP hD hS => ?_)
                  have hP : va_P D vwCl (WT ca cq xq (kdC C) (fsC C) (snC C) ak (nI (C 0)) (nI (C 37)) (nI (C 38)) (fI (C 39)) (nI (C 40)) (lN (C 66)) (nI (C 41)) tb_ va fy cn an sw sb sv) H := hP
                  have hD : va_D A (WT ca cq xq (kdC C) (fsC C) (snC C) ak (nI (C 0)) (nI (C 37)) (nI (C 38)) (fI (C 39)) (nI (C 40)) (lN (C 66)) (nI (C 41)) tb_ va fy cn an sw sb sv) := hD
                  have hp_78 : r_27 = nI (popl 64 (Y_ n)) := hq_78
                  clear hq_78
                  obtain rfl := hp_78
                  refine lv_aload_n hx hb dX1_canShow_81 rfl (lv_at hl 2 rfl) ?_
                  refine gWT_5_shown_X1 hx hb hts hown hK hP dX1_canShow_82 ?_
                  refine lv_iload hx hb dX1_canShow_85 (lv_at hl 1 rfl) ?_
                  refine lv_topi (nm_r (e' := nI (hdN Y_ o_ n - 1)) (fI_pos c_68) ?_)
                  refine ldWT_11 hx hb hK hP (by have := @hdN_le Y_ o_ n; omega) dX1_canShow_87 ?_
                  refine lv_topl (nm_r (e' := Y_ (hdN Y_ o_ n - 1)) (hsw _ (by have := @hdN_le Y_ o_ n; omega)) ?_)
                  refine xc_i (xr_S (As := [.long (Y_ (hdN Y_ o_ n - 1))]) (rest := [.int (nI (popl 64 (Y_ n)))]) (mt_J16_bitCount_r l D ca (Y_ (hdN Y_ o_ n - 1))  H.size) ⟨hx, hb, hml, hown, hts⟩ (va_cwS 1 hts (lw_S q485 q486 q100 q487) rfl rfl rfl (by decide +kernel) ⟨Nat.le_of_ble_eq_true rfl, Nat.le_of_ble_eq_true rfl⟩) Ev0_ok trivial hK hS (Cut.app (wc := []) (wr := (WT ca cq xq (kdC C) (fsC C) (snC C) ak (nI (C 0)) (nI (C 37)) (nI (C 38)) (fI (C 39)) (nI (C 40)) (lN (C 66)) (nI (C 41)) tb_ va fy cn an sw sb sv)) hP hD hS hA) rfl hl.1 rfl (Nat.le_of_ble_eq_true rfl) dX1_canShow_88 ⟨Nat.le_of_ble_eq_true rfl, Nat.le_of_ble_eq_true rfl⟩) hS (Cut.app (wc := []) (wr := (WT ca cq xq (kdC C) (fsC C) (snC C) ak (nI (C 0)) (nI (C 37)) (nI (C 38)) (fI (C 39)) (nI (C 40)) (lN (C 66)) (nI (C 41)) tb_ va fy cn an sw sb sv)) hP hD hS hA) (fun r_29 u_30 H locs hq_88 hP hD hS => ?_)
                  have hP : va_P D vwCl (WT ca cq xq (kdC C) (fsC C) (snC C) ak (nI (C 0)) (nI (C 37)) (nI (C 38)) (fI (C 39)) (nI (C 40)) (lN (C 66)) (nI (C 41)) tb_ va fy cn an sw sb sv) H := hP
                  have hD : va_D A (WT ca cq xq (kdC C) (fsC C) (snC C) ak (nI (C 0)) (nI (C 37)) (nI (C 38)) (fI (C 39)) (nI (C 40)) (lN (C 66)) (nI (C 41)) tb_ va fy cn an sw sb sv) := hD
                  have hp_88 : r_29 = nI (popl 64 (Y_ (hdN Y_ o_ n - 1))) := hq_88
                  clear hq_88
                  obtain rfl := hp_88
                  refine nv_icmp_ge (tgt := 98) hx hb dX1_canShow_91 (by decide) (by have := popl_le 64 (Y_ n); omega) (by have := popl_le 64 (Y_ (hdN Y_ o_ n - 1)); omega) (fun c_91 => ?_) (fun c_91 => ?_)
                  · skip
                    refine lv_iconst (v := nI 0) hx hb dX1_canShow_98 (by decide) ?_
                    refine lv_istore (lv' := [(6, .int (nI 0)), (5, .int (nI n)), (4, .int (fI (hdN Y_ o_ n))), (0, .ref (xq 0)), (1, .long (lN o_)), (3, .int (nI m_))]) hx hb dX1_canShow_99 hl (by decide) rfl (fun ls hl => ?_)
                    refine lv_iload hx hb dX1_canShow_101 (lv_at hl 0 rfl) ?_
                    refine nv_if_eq (tgt := 111) hx hb dX1_canShow_103 (by decide) (by omega) (fun c_103 => ?_) (fun c_103 => absurd c_103 (by decide))
                    refine lv_iload hx hb dX1_canShow_111 (lv_at hl 2 rfl) ?_
                    refine lv_istore (lv' := [(4, .int (fI (hdN Y_ o_ n))), (6, .int (nI 0)), (5, .int (nI n)), (0, .ref (xq 0)), (1, .long (lN o_)), (3, .int (nI m_))]) hx hb dX1_canShow_113 hl (by decide) rfl (fun ls hl => ?_)
                    refine lv_iinc (v := nI (n + 1)) (lv' := [(5, .int (nI (n + 1))), (4, .int (fI (hdN Y_ o_ n))), (6, .int (nI 0)), (0, .ref (xq 0)), (1, .long (lN o_)), (3, .int (nI m_))]) hx hb dX1_canShow_115 hl (k := 2) rfl (nI_add n 1) (by decide) rfl (fun ls hl => ?_)
                    refine lv_goto (tgt := 44) hx hb dX1_canShow_118 (by decide) ?_
                    have hl : lv_has ls 7 [(5, .int (nI (n + 1))), (4, .int (fI (hdN Y_ o_ (n + 1)))), (6, .int (nI 0)), (0, .ref (xq 0)), (1, .long (lN o_)), (3, .int (nI m_))] := (congrArg (fun x_ => lv_has ls 7 [(5, .int (nI (n + 1))), (4, .int x_), (6, .int (nI 0)), (0, .ref (xq 0)), (1, .long (lN o_)), (3, .int (nI m_))]) (show fI (hdN Y_ o_ n) = fI (hdN Y_ o_ (n + 1)) from congrArg fI (by first | exact (hd_n1 c_62 (by omega)).symm | exact (hd_n2 c_68 c_91).symm))).mp hl
                    exact ih_44  (n + 1) (by omega) (by omega) _ _ hP hD hS ls (lv_sub hl [0, 1, 3, 4, 5] rfl)
                  · skip
                    refine lv_iconst (v := nI 1) hx hb dX1_canShow_94 (by decide) ?_
                    refine lv_goto (tgt := 99) hx hb dX1_canShow_95 (by decide) ?_
                    refine lv_istore (lv' := [(6, .int (nI 1)), (5, .int (nI n)), (4, .int (fI (hdN Y_ o_ n))), (0, .ref (xq 0)), (1, .long (lN o_)), (3, .int (nI m_))]) hx hb dX1_canShow_99 hl (by decide) rfl (fun ls hl => ?_)
                    refine lv_iload hx hb dX1_canShow_101 (lv_at hl 0 rfl) ?_
                    refine nv_if_eq (tgt := 111) hx hb dX1_canShow_103 (by decide) (by omega) (fun c_103 => absurd c_103 (by decide)) (fun c_103 => ?_)
                    refine lv_iload hx hb dX1_canShow_106 (lv_at hl 1 rfl) ?_
                    refine lv_goto (tgt := 113) hx hb dX1_canShow_108 (by decide) ?_
                    refine lv_istore (lv' := [(4, .int (nI n)), (6, .int (nI 1)), (5, .int (nI n)), (0, .ref (xq 0)), (1, .long (lN o_)), (3, .int (nI m_))]) hx hb dX1_canShow_113 hl (by decide) rfl (fun ls hl => ?_)
                    refine lv_iinc (v := nI (n + 1)) (lv' := [(5, .int (nI (n + 1))), (4, .int (nI n)), (6, .int (nI 1)), (0, .ref (xq 0)), (1, .long (lN o_)), (3, .int (nI m_))]) hx hb dX1_canShow_115 hl (k := 2) rfl (nI_add n 1) (by decide) rfl (fun ls hl => ?_)
                    refine lv_goto (tgt := 44) hx hb dX1_canShow_118 (by decide) ?_
                    have hl : lv_has ls 7 [(5, .int (nI (n + 1))), (4, .int (fI (hdN Y_ o_ (n + 1)))), (6, .int (nI 1)), (0, .ref (xq 0)), (1, .long (lN o_)), (3, .int (nI m_))] := (congrArg (fun x_ => lv_has ls 7 [(5, .int (nI (n + 1))), (4, .int x_), (6, .int (nI 1)), (0, .ref (xq 0)), (1, .long (lN o_)), (3, .int (nI m_))]) (show nI n = fI (hdN Y_ o_ (n + 1)) from (fI_S n).trans (congrArg fI (hd_y c_62 (by omega) (by first | exact Or.inl c_68 | exact Or.inr c_91)).symm))).mp hl
                    exact ih_44  (n + 1) (by omega) (by omega) _ _ hP hD hS ls (lv_sub hl [0, 1, 3, 4, 5] rfl)
        have hl : lv_has ls 7 [(5, .int (nI 0)), (4, .int (fI (hdN Y_ o_ 0))), (0, .ref (xq 0)), (1, .long (lN o_)), (3, .int (nI m_))] := (congrArg (fun x_ => lv_has ls 7 [(5, .int (nI 0)), (4, .int x_), (0, .ref (xq 0)), (1, .long (lN o_)), (3, .int (nI m_))]) (show fI 0 = fI (hdN Y_ o_ 0) from rfl)).mp hl
        exact lp_44 (2 * (6 + C 0) - 0 + 1) 0 (Nat.lt_succ_self _) (by omega) _ _ hP hD hS ls (lv_sub hl [0, 1, 2, 3, 4] rfl)
      · skip
        refine lv_iconst (v := nI 0) hx hb dX1_canShow_36 (by decide) ?_
        subst hQQ
        refine (xe_z (b := false) () hx hb hr hlocks hK hP hD hS (congrArg bI (by first | exact (cvB_f (Cv_few c_33)).symm | exact (cvB_f (fun h_ => c_2 (by subst c_9; exact congrArg lN h_))).symm)) dX1_canShow_37)
  · skip
    refine lv_iconst (v := nI 1) hx hb dX1_canShow_6 (by decide) ?_
    subst hQQ
    refine (xe_z (b := true) () hx hb hr hlocks hK hP hD hS (congrArg bI (cvB_t (by rw [(lN_eq0 (by omega)).mp c_2]; exact Cv_0 _ _)).symm) dX1_canShow_7)
set_option maxHeartbeats 4000000 in
set_option maxRecDepth 100000 in
theorem mt_X1_canShow_d4 (l : Launch) (D : va_G) (ca : Nat → ClassId) (cq : Nat → Nat) (xq : Nat → Nat) (ak : Nat → Int32) (tb_ : Nat → Int64) (va : Nat → Int32) (fy : Nat → Int64) (cn : Nat → Int32) (an : Nat → Int32) (sw : Nat → Int64) (sb : Nat → Int64) (sv : Value) (C : Nat → Nat) (X_ : Nat → Nat) (Y_ : Nat → Int64) (o_ : Nat) (m_ : Nat) (h0 : C 0 ≤ 12) (hsb : ∀ t, t < 64 → sb t = lN (X_ t)) (hsw : ∀ f, f < 2 * (6 + C 0) → sw f = Y_ f) (hXY : ∀ t f, t < 64 → f < 2 * (6 + C 0) → bit64 (Y_ f) t = (X_ t).testBit f) (hoN : o_ < 2 ^ (2 * (6 + C 0))) (hm : m_ ≤ 4) (nn : Nat) : Met l yX1_canShow (ws_ yX1_canShow cX1_canShow 7 (Option.some Jvm.ClassFile.FieldType.boolean)) ({ frames := 5, cells := 0, slots := 0, locals := 123 } : Room) (va_Pc [.ref (xq 0), .long (lN o_), .int (nI m_)] (PreW EvX D vwCl (TY ca) (WT ca cq xq (kdC C) (fsC C) (snC C) ak (nI (C 0)) (nI (C 37)) (nI (C 38)) (fI (C 39)) (nI (C 40)) (lN (C 66)) (nI (C 41)) tb_ va fy cn an sw sb sv) nn)) (va_Qi (fun (r_ : Int32) (_ : Unit) => r_ = bI (cvB X_ m_ o_)) (PostW D vwCl (TY ca) (fun (_ : Unit) => (WT ca cq xq (kdC C) (fsC C) (snC C) ak (nI (C 0)) (nI (C 37)) (nI (C 38)) (fI (C 39)) (nI (C 40)) (lN (C 66)) (nI (C 41)) tb_ va fy cn an sw sb sv)) (va_A (WT ca cq xq (kdC C) (fsC C) (snC C) ak (nI (C 0)) (nI (C 37)) (nI (C 38)) (fI (C 39)) (nI (C 40)) (lN (C 66)) (nI (C 41)) tb_ va fy cn an sw sb sv) nn)) (va_A (WT ca cq xq (kdC C) (fsC C) (snC C) ak (nI (C 0)) (nI (C 37)) (nI (C 38)) (fI (C 39)) (nI (C 40)) (lN (C 66)) (nI (C 41)) tb_ va fy cn an sw sb sv) nn)) 0 0 (va_A (WT ca cq xq (kdC C) (fsC C) (snC C) ak (nI (C 0)) (nI (C 37)) (nI (C 38)) (fI (C 39)) (nI (C 40)) (lN (C 66)) (nI (C 41)) tb_ va fy cn an sw sb sv) nn) := by
  refine met_go (QA := fun A => va_Qi (fun (r_ : Int32) (_ : Unit) => r_ = bI (cvB X_ m_ o_)) (PostW D vwCl (TY ca) (fun (_ : Unit) => (WT ca cq xq (kdC C) (fsC C) (snC C) ak (nI (C 0)) (nI (C 37)) (nI (C 38)) (fI (C 39)) (nI (C 40)) (lN (C 66)) (nI (C 41)) tb_ va fy cn an sw sb sv)) A) A) (by decide) (Nat.le_of_ble_eq_true rfl) (fun p e s m below meth c A ls QQ hQQ hx hb hr hts hown hlocks hml hA hP hK hD hE hl => ?_)
  have hown : s.vm.findClass RX1 = some m.cls := hown
  have hS : va_S A s.heap s.heap [] := va_S.rf
  have hl : lv_has ls 7 [(0, .ref (xq 0)), (1, .long (lN o_)), (3, .int (nI m_))] := hl
  generalize hHe : s.heap = H at hP ⊢
  have hS : va_S A s.heap H [] := hHe ▸ hS
  generalize ([] : List Loc) = locs at hS ⊢
  have ho36 : o_ < 2 ^ 36 := Nat.lt_of_lt_of_le hoN (Nat.pow_le_pow_right (by decide) (by omega))
  refine lv_lload_n hx hb dX1_canShow_0 rfl (lv_at hl 1 rfl) ?_
  refine lv_lconst (v := lN 0) hx hb dX1_canShow_1 (by decide) ?_
  refine nv_lcmp_ne (tgt := 8) hx hb dX1_canShow_2 dX1_canShow_3 (by decide) (fun c_2 => ?_) (fun c_2 => ?_)
  · skip
    refine lv_iload_n hx hb dX1_canShow_8 rfl (lv_at hl 2 rfl) ?_
    refine nv_if_eq (tgt := 36) hx hb dX1_canShow_9 (by decide) (by omega) (fun c_9 => ?_) (fun c_9 => ?_)
    · skip
      refine lv_iconst (v := nI 0) hx hb dX1_canShow_36 (by decide) ?_
      subst hQQ
      refine (xe_z (b := false) () hx hb hr hlocks hK hP hD hS (congrArg bI (by first | exact (cvB_f (Cv_few c_33)).symm | exact (cvB_f (fun h_ => c_2 (by subst c_9; exact congrArg lN h_))).symm)) dX1_canShow_37)
    · skip
      refine lv_iload_n hx hb dX1_canShow_12 rfl (lv_at hl 2 rfl) ?_
      refine lv_aload_n hx hb dX1_canShow_13 rfl (lv_at hl 0 rfl) ?_
      refine gWT_5_shownBy_X1 hx hb hts hown hK hP dX1_canShow_14 ?_
      refine lv_aload_n hx hb dX1_canShow_17 rfl (lv_at hl 0 rfl) ?_
      refine lv_lload_n hx hb dX1_canShow_18 rfl (lv_at hl 1 rfl) ?_
      refine xc_i (xr_V (b := xq 0) (ci := 0) (q0 := 5) (As := [.long (lN o_)]) (rest := [.ref (xq 7), .int (nI m_)]) (mt_X1_strongest l D ca cq xq (kdC C) (fsC C) (snC C) ak (nI (C 0)) (nI (C 37)) (nI (C 38)) (fI (C 39)) (nI (C 40)) (lN (C 66)) (nI (C 41)) tb_ va fy cn an sw sb sv X_ o_ hsb H.size) ⟨hx, hb, hml, hown, hts⟩ (cwV 1 hts (lw_V q481 q483 qs10 q79 q484) rfl rfl rfl (by decide +kernel) ⟨Nat.le_of_ble_eq_true rfl, Nat.le_of_ble_eq_true rfl⟩) EvX_ok hE hK hS (Cut.all hP hD hS hA) rfl rfl rfl hl.1 rfl (Nat.le_of_ble_eq_true rfl) dX1_canShow_19 ⟨Nat.le_of_ble_eq_true rfl, Nat.le_of_ble_eq_true rfl⟩) hS (Cut.all hP hD hS hA) (fun r_3 u_4 H locs hq_19 hP hD hS => ?_)
      have hP : va_P D vwCl (WT ca cq xq (kdC C) (fsC C) (snC C) ak (nI (C 0)) (nI (C 37)) (nI (C 38)) (fI (C 39)) (nI (C 40)) (lN (C 66)) (nI (C 41)) tb_ va fy cn an sw sb sv) H := hP
      have hD : va_D A (WT ca cq xq (kdC C) (fsC C) (snC C) ak (nI (C 0)) (nI (C 37)) (nI (C 38)) (fI (C 39)) (nI (C 40)) (lN (C 66)) (nI (C 41)) tb_ va fy cn an sw sb sv) := hD
      have hp_19 : r_3 = nI (stg X_ o_) := hq_19
      clear hq_19
      obtain rfl := hp_19
      refine ldWT_12 hx hb hK hP (stg_lt _ _) dX1_canShow_22 ?_
      refine lv_topl (nm_r (e' := lN (X_ (stg X_ o_))) (hsb _ (stg_lt _ _)) ?_)
      refine lv_lload_n hx hb dX1_canShow_23 rfl (lv_at hl 1 rfl) ?_
      refine lv_land hx hb dX1_canShow_24 (lv_topl (nm_r (e' := lN ((X_ (stg X_ o_)) &&& o_)) (klN_and (X_ (stg X_ o_)) o_) ?_))
      refine xc_i (xr_S (As := [.long (lN ((X_ (stg X_ o_)) &&& o_))]) (rest := [.int (nI m_)]) (mt_J16_bitCount_r l D ca (lN ((X_ (stg X_ o_)) &&& o_))  H.size) ⟨hx, hb, hml, hown, hts⟩ (va_cwS 1 hts (lw_S q485 q486 q100 q487) rfl rfl rfl (by decide +kernel) ⟨Nat.le_of_ble_eq_true rfl, Nat.le_of_ble_eq_true rfl⟩) Ev0_ok trivial hK hS (Cut.app (wc := []) (wr := (WT ca cq xq (kdC C) (fsC C) (snC C) ak (nI (C 0)) (nI (C 37)) (nI (C 38)) (fI (C 39)) (nI (C 40)) (lN (C 66)) (nI (C 41)) tb_ va fy cn an sw sb sv)) hP hD hS hA) rfl hl.1 rfl (Nat.le_of_ble_eq_true rfl) dX1_canShow_25 ⟨Nat.le_of_ble_eq_true rfl, Nat.le_of_ble_eq_true rfl⟩) hS (Cut.app (wc := []) (wr := (WT ca cq xq (kdC C) (fsC C) (snC C) ak (nI (C 0)) (nI (C 37)) (nI (C 38)) (fI (C 39)) (nI (C 40)) (lN (C 66)) (nI (C 41)) tb_ va fy cn an sw sb sv)) hP hD hS hA) (fun r_5 u_6 H locs hq_25 hP hD hS => ?_)
      have hP : va_P D vwCl (WT ca cq xq (kdC C) (fsC C) (snC C) ak (nI (C 0)) (nI (C 37)) (nI (C 38)) (fI (C 39)) (nI (C 40)) (lN (C 66)) (nI (C 41)) tb_ va fy cn an sw sb sv) H := hP
      have hD : va_D A (WT ca cq xq (kdC C) (fsC C) (snC C) ak (nI (C 0)) (nI (C 37)) (nI (C 38)) (fI (C 39)) (nI (C 40)) (lN (C 66)) (nI (C 41)) tb_ va fy cn an sw sb sv) := hD
      have hp_25 : r_5 = nI (popl 64 (lN ((X_ (stg X_ o_)) &&& o_))) := hq_25
      clear hq_25
      obtain rfl := hp_25
      refine nv_imul hx hb dX1_canShow_28 ?_
      refine lv_lload_n hx hb dX1_canShow_29 rfl (lv_at hl 1 rfl) ?_
      refine xc_i (xr_S (As := [.long (lN o_)]) (rest := [.int (nI (m_ * (popl 64 (lN ((X_ (stg X_ o_)) &&& o_)))))]) (mt_J16_bitCount_r l D ca (lN o_)  H.size) ⟨hx, hb, hml, hown, hts⟩ (va_cwS 1 hts (lw_S q485 q486 q100 q487) rfl rfl rfl (by decide +kernel) ⟨Nat.le_of_ble_eq_true rfl, Nat.le_of_ble_eq_true rfl⟩) Ev0_ok trivial hK hS (Cut.app (wc := []) (wr := (WT ca cq xq (kdC C) (fsC C) (snC C) ak (nI (C 0)) (nI (C 37)) (nI (C 38)) (fI (C 39)) (nI (C 40)) (lN (C 66)) (nI (C 41)) tb_ va fy cn an sw sb sv)) hP hD hS hA) rfl hl.1 rfl (Nat.le_of_ble_eq_true rfl) dX1_canShow_30 ⟨Nat.le_of_ble_eq_true rfl, Nat.le_of_ble_eq_true rfl⟩) hS (Cut.app (wc := []) (wr := (WT ca cq xq (kdC C) (fsC C) (snC C) ak (nI (C 0)) (nI (C 37)) (nI (C 38)) (fI (C 39)) (nI (C 40)) (lN (C 66)) (nI (C 41)) tb_ va fy cn an sw sb sv)) hP hD hS hA) (fun r_7 u_8 H locs hq_30 hP hD hS => ?_)
      have hP : va_P D vwCl (WT ca cq xq (kdC C) (fsC C) (snC C) ak (nI (C 0)) (nI (C 37)) (nI (C 38)) (fI (C 39)) (nI (C 40)) (lN (C 66)) (nI (C 41)) tb_ va fy cn an sw sb sv) H := hP
      have hD : va_D A (WT ca cq xq (kdC C) (fsC C) (snC C) ak (nI (C 0)) (nI (C 37)) (nI (C 38)) (fI (C 39)) (nI (C 40)) (lN (C 66)) (nI (C 41)) tb_ va fy cn an sw sb sv) := hD
      have hp_30 : r_7 = nI (popl 64 (lN o_)) := hq_30
      clear hq_30
      obtain rfl := hp_30
      refine nv_icmp_ge (tgt := 38) hx hb dX1_canShow_33 (by decide) (by have h1_ := popl_le 64 (lN (X_ (stg X_ o_) &&& o_)); have := Nat.mul_le_mul hm h1_; omega) (by have := popl_le 64 (lN o_); omega) (fun c_33 => ?_) (fun c_33 => ?_)
      · skip
        refine lv_iconst (v := fI 0) hx hb dX1_canShow_38 (by decide) ?_
        refine lv_istore (lv' := [(4, .int (fI 0)), (0, .ref (xq 0)), (1, .long (lN o_)), (3, .int (nI m_))]) hx hb dX1_canShow_39 hl (by decide) rfl (fun ls hl => ?_)
        refine lv_iconst (v := nI 0) hx hb dX1_canShow_41 (by decide) ?_
        refine lv_istore (lv' := [(5, .int (nI 0)), (4, .int (fI 0)), (0, .ref (xq 0)), (1, .long (lN o_)), (3, .int (nI m_))]) hx hb dX1_canShow_42 hl (by decide) rfl (fun ls hl => ?_)
        have lp_44 : ∀ (fu_44 : Nat) (n : Nat), 2 * (6 + C 0) - n < fu_44 → (n ≤ 2 * (6 + C 0)) → ∀ (H : Heap) (locs : List Loc), va_P D vwCl (WT ca cq xq (kdC C) (fsC C) (snC C) ak (nI (C 0)) (nI (C 37)) (nI (C 38)) (fI (C 39)) (nI (C 40)) (lN (C 66)) (nI (C 41)) tb_ va fy cn an sw sb sv) H → va_D A (WT ca cq xq (kdC C) (fsC C) (snC C) ak (nI (C 0)) (nI (C 37)) (nI (C 38)) (fI (C 39)) (nI (C 40)) (lN (C 66)) (nI (C 41)) tb_ va fy cn an sw sb sv) → va_S A s.heap H locs → ∀ (ls : Array Slot), lv_has ls 7 [(5, .int (nI n)), (4, .int (fI (hdN Y_ o_ n))), (0, .ref (xq 0)), (1, .long (lN o_)), (3, .int (nI m_))] → W p l e ({ frames := 5, cells := 0, slots := 0, locals := 123 } : Room) s m ([.ref (xq 0), .long (lN o_), .int (nI m_)] : List Value).toArray below meth c H locs 0 0 QQ (F0 m 44 ls []) := by
          intro fu_44
          induction fu_44 with
          | zero => intro n hfu; exact absurd hfu (Nat.not_lt_zero _)
          | succ fu_44 ih_44 =>
            intro n hfu hn H locs hP hD hS ls hl
            refine lv_iload hx hb dX1_canShow_44 (lv_at hl 0 rfl) ?_
            refine lv_aload_n hx hb dX1_canShow_46 rfl (lv_at hl 2 rfl) ?_
            refine gWT_5_circuit_X1 hx hb hts hown hK hP dX1_canShow_47 ?_
            refine xc_i (xr_V (b := cq 0) (ci := 1) (q0 := 0) (As := []) (rest := [.int (nI n)]) (mt_X2_faults l D ca cq (kdC C) (fsC C) (snC C) ak (nI (C 37)) (nI (C 38)) (fI (C 39)) (nI (C 40)) (lN (C 66)) (nI (C 41)) (C 0)  H.size) ⟨hx, hb, hml, hown, hts⟩ (cwV 0 hts (lw_V q439 q440 q441 q80 q442) rfl rfl rfl (by decide +kernel) ⟨Nat.le_of_ble_eq_true rfl, Nat.le_of_ble_eq_true rfl⟩) EvX_ok hE hK hS (Cut.app (wc := (WC ca cq (kdC C) (fsC C) (snC C) ak (nI (C 0)) (nI (C 37)) (nI (C 38)) (fI (C 39)) (nI (C 40)) (lN (C 66)) (nI (C 41)))) (wr := (WTr ca cq xq tb_ va fy cn an sw sb sv)) hP hD hS hA) rfl rfl rfl hl.1 rfl (Nat.le_of_ble_eq_true rfl) dX1_canShow_50 ⟨Nat.le_of_ble_eq_true rfl, Nat.le_of_ble_eq_true rfl⟩) hS (Cut.app (wc := (WC ca cq (kdC C) (fsC C) (snC C) ak (nI (C 0)) (nI (C 37)) (nI (C 38)) (fI (C 39)) (nI (C 40)) (lN (C 66)) (nI (C 41)))) (wr := (WTr ca cq xq tb_ va fy cn an sw sb sv)) hP hD hS hA) (fun r_10 u_11 H locs hq_50 hP hD hS => ?_)
            have hP : va_P D vwCl (WT ca cq xq (kdC C) (fsC C) (snC C) ak (nI (C 0)) (nI (C 37)) (nI (C 38)) (fI (C 39)) (nI (C 40)) (lN (C 66)) (nI (C 41)) tb_ va fy cn an sw sb sv) H := hP
            have hD : va_D A (WT ca cq xq (kdC C) (fsC C) (snC C) ak (nI (C 0)) (nI (C 37)) (nI (C 38)) (fI (C 39)) (nI (C 40)) (lN (C 66)) (nI (C 41)) tb_ va fy cn an sw sb sv) := hD
            have hp_50 : r_10 = nI (2 * (6 + (C 0))) := hq_50
            clear hq_50
            obtain rfl := hp_50
            refine nv_icmp_ge (tgt := 121) hx hb dX1_canShow_53 (by decide) (by omega) (by omega) (fun c_53 => ?_) (fun c_53 => ?_)
            · skip
              have e_ : 2 * (6 + C 0) = n := Eq.symm (by omega)
              subst e_
              obtain ⟨hW0, hWl, hWb⟩ := hdN_hit (Y := Y_) hoN (fun z => c_2 (by rw [z]))
              have hl : lv_has ls 7 [(5, .int (nI (2 * (6 + C 0)))), (4, .int (nI (hdN Y_ o_ (2 * (6 + C 0)) - 1))), (0, .ref (xq 0)), (1, .long (lN o_)), (3, .int (nI m_))] := (congrArg (fun x_ => lv_has ls 7 [(5, .int (nI (2 * (6 + C 0)))), (4, .int x_), (0, .ref (xq 0)), (1, .long (lN o_)), (3, .int (nI m_))]) (show fI (hdN Y_ o_ (2 * (6 + C 0))) = nI (hdN Y_ o_ (2 * (6 + C 0)) - 1) from fI_pos hW0)).mp hl
              refine lv_iconst (v := nI 0) hx hb dX1_canShow_121 (by decide) ?_
              refine lv_istore (lv' := [(5, .int (nI 0)), (4, .int (nI (hdN Y_ o_ (2 * (6 + C 0)) - 1))), (0, .ref (xq 0)), (1, .long (lN o_)), (3, .int (nI m_))]) hx hb dX1_canShow_122 hl (by decide) rfl (fun ls hl => ?_)
              have lp_124 : ∀ (fu_124 : Nat) (t : Nat), 64 - t < fu_124 → (t ≤ 64) → (csN X_ (m_ - 1) o_ (hdN Y_ o_ (2 * (6 + C 0)) - 1) t) → ∀ (H : Heap) (locs : List Loc), va_P D vwCl (WT ca cq xq (kdC C) (fsC C) (snC C) ak (nI (C 0)) (nI (C 37)) (nI (C 38)) (fI (C 39)) (nI (C 40)) (lN (C 66)) (nI (C 41)) tb_ va fy cn an sw sb sv) H → va_D A (WT ca cq xq (kdC C) (fsC C) (snC C) ak (nI (C 0)) (nI (C 37)) (nI (C 38)) (fI (C 39)) (nI (C 40)) (lN (C 66)) (nI (C 41)) tb_ va fy cn an sw sb sv) → va_S A s.heap H locs → ∀ (ls : Array Slot), lv_has ls 7 [(5, .int (nI t)), (4, .int (nI (hdN Y_ o_ (2 * (6 + C 0)) - 1))), (0, .ref (xq 0)), (1, .long (lN o_)), (3, .int (nI m_))] → W p l e ({ frames := 5, cells := 0, slots := 0, locals := 123 } : Room) s m ([.ref (xq 0), .long (lN o_), .int (nI m_)] : List Value).toArray below meth c H locs 0 0 QQ (F0 m 124 ls []) := by
                intro fu_124
                induction fu_124 with
                | zero => intro t hfu; exact absurd hfu (Nat.not_lt_zero _)
                | succ fu_124 ih_124 =>
                  intro t hfu ht_ hcs H locs hP hD hS ls hl
                  refine lv_iload hx hb dX1_canShow_124 (lv_at hl 0 rfl) ?_
                  refine lv_bipush (v := nI 64) hx hb dX1_canShow_126 (by decide) ?_
                  refine nv_icmp_ge (tgt := 187) hx hb dX1_canShow_128 (by decide) (by omega) (by omega) (fun c_128 => ?_) (fun c_128 => ?_)
                  · skip
                    have e_ : 64 = t := Eq.symm (by omega)
                    subst e_
                    refine lv_iconst (v := nI 0) hx hb dX1_canShow_187 (by decide) ?_
                    subst hQQ
                    refine (xe_z (b := false) () hx hb hr hlocks hK hP hD hS (congrArg bI (cs_end ho36 hWb c_9 hcs)) dX1_canShow_188)
                  · skip
                    refine lv_aload_n hx hb dX1_canShow_131 rfl (lv_at hl 2 rfl) ?_
                    refine gWT_5_shown_X1 hx hb hts hown hK hP dX1_canShow_132 ?_
                    refine lv_iload hx hb dX1_canShow_135 (lv_at hl 1 rfl) ?_
                    refine ldWT_11 hx hb hK hP (by omega) dX1_canShow_137 ?_
                    refine lv_topl (nm_r (e' := Y_ (hdN Y_ o_ (2 * (6 + C 0)) - 1)) (hsw _ (by omega)) ?_)
                    refine lv_iload hx hb dX1_canShow_138 (lv_at hl 0 rfl) ?_
                    refine xc_i (xr_S (As := [.long (Y_ (hdN Y_ o_ (2 * (6 + C 0)) - 1)), .int (nI t)]) (rest := []) (mt_X1_isIn_2 l D ca (Y_ (hdN Y_ o_ (2 * (6 + C 0)) - 1)) t (by first | assumption | omega | (simp only [updN, forgetC, changedC]; (repeat' split) <;> omega)) H.size) ⟨hx, hb, hml, hown, hts⟩ (va_cwS 2 hts (lw_S q478 q479 q79 q480) rfl rfl rfl (by decide +kernel) ⟨Nat.le_of_ble_eq_true rfl, Nat.le_of_ble_eq_true rfl⟩) Ev0_ok trivial hK hS (Cut.app (wc := []) (wr := (WT ca cq xq (kdC C) (fsC C) (snC C) ak (nI (C 0)) (nI (C 37)) (nI (C 38)) (fI (C 39)) (nI (C 40)) (lN (C 66)) (nI (C 41)) tb_ va fy cn an sw sb sv)) hP hD hS hA) rfl hl.1 rfl (Nat.le_of_ble_eq_true rfl) dX1_canShow_140 ⟨Nat.le_of_ble_eq_true rfl, Nat.le_of_ble_eq_true rfl⟩) hS (Cut.app (wc := []) (wr := (WT ca cq xq (kdC C) (fsC C) (snC C) ak (nI (C 0)) (nI (C 37)) (nI (C 38)) (fI (C 39)) (nI (C 40)) (lN (C 66)) (nI (C 41)) tb_ va fy cn an sw sb sv)) hP hD hS hA) (fun r_14 u_15 H locs hq_140 hP hD hS => ?_)
                    have hP : va_P D vwCl (WT ca cq xq (kdC C) (fsC C) (snC C) ak (nI (C 0)) (nI (C 37)) (nI (C 38)) (fI (C 39)) (nI (C 40)) (lN (C 66)) (nI (C 41)) tb_ va fy cn an sw sb sv) H := hP
                    have hD : va_D A (WT ca cq xq (kdC C) (fsC C) (snC C) ak (nI (C 0)) (nI (C 37)) (nI (C 38)) (fI (C 39)) (nI (C 40)) (lN (C 66)) (nI (C 41)) tb_ va fy cn an sw sb sv) := hD
                    have hp_140 : r_14 = bI (bit64 (Y_ (hdN Y_ o_ (2 * (6 + C 0)) - 1)) t) := hq_140
                    clear hq_140
                    obtain rfl := hp_140
                    refine nv_ifb_eq (tgt := 181) hx hb dX1_canShow_143 (by decide) (fun c_143 => ?_) (fun c_143 => ?_)
                    · skip
                      refine lv_iinc (v := nI (t + 1)) (lv' := [(5, .int (nI (t + 1))), (4, .int (nI (hdN Y_ o_ (2 * (6 + C 0)) - 1))), (0, .ref (xq 0)), (1, .long (lN o_)), (3, .int (nI m_))]) hx hb dX1_canShow_181 hl (k := 0) rfl (nI_add t 1) (by decide) rfl (fun ls hl => ?_)
                      refine lv_goto (tgt := 124) hx hb dX1_canShow_184 (by decide) ?_
                      exact ih_124  (t + 1) (by omega) (by omega) (cs_s hcs (fun q_ => by first | exact absurd ((cvB_iff.mpr q_.2.2).symm.trans c_176) (by decide) | exact absurd (c_153.symm.trans q_.2.1) (by decide) | exact absurd (((hXY t _ (by omega) (by omega)).symm.trans c_143).symm.trans q_.1) (by decide))) _ _ hP hD hS ls (lv_sub hl [0, 1, 2, 3, 4] rfl)
                    · skip
                      refine lv_aload_n hx hb dX1_canShow_146 rfl (lv_at hl 2 rfl) ?_
                      refine lv_iload hx hb dX1_canShow_147 (lv_at hl 0 rfl) ?_
                      refine lv_lload_n hx hb dX1_canShow_149 rfl (lv_at hl 3 rfl) ?_
                      refine xc_i (xr_V (b := xq 0) (ci := 0) (q0 := 5) (As := [.int (nI t), .long (lN o_)]) (rest := []) (mt_X1_isWeaker l D ca cq xq (kdC C) (fsC C) (snC C) ak (nI (C 0)) (nI (C 37)) (nI (C 38)) (fI (C 39)) (nI (C 40)) (lN (C 66)) (nI (C 41)) tb_ va fy cn an sw sb sv X_ t o_ hsb (by omega) ho36 H.size) ⟨hx, hb, hml, hown, hts⟩ (cwV 2 hts (lw_V q1067 q1069 qs23 q79 q1070) rfl rfl rfl (by decide +kernel) ⟨Nat.le_of_ble_eq_true rfl, Nat.le_of_ble_eq_true rfl⟩) EvX_ok hE hK hS (Cut.all hP hD hS hA) rfl rfl rfl hl.1 rfl (Nat.le_of_ble_eq_true rfl) dX1_canShow_150 ⟨Nat.le_of_ble_eq_true rfl, Nat.le_of_ble_eq_true rfl⟩) hS (Cut.all hP hD hS hA) (fun r_17 u_18 H locs hq_150 hP hD hS => ?_)
                      have hP : va_P D vwCl (WT ca cq xq (kdC C) (fsC C) (snC C) ak (nI (C 0)) (nI (C 37)) (nI (C 38)) (fI (C 39)) (nI (C 40)) (lN (C 66)) (nI (C 41)) tb_ va fy cn an sw sb sv) H := hP
                      have hD : va_D A (WT ca cq xq (kdC C) (fsC C) (snC C) ak (nI (C 0)) (nI (C 37)) (nI (C 38)) (fI (C 39)) (nI (C 40)) (lN (C 66)) (nI (C 41)) tb_ va fy cn an sw sb sv) := hD
                      have hp_150 : r_17 = bI (wkN X_ o_ t 64) := hq_150
                      clear hq_150
                      obtain rfl := hp_150
                      refine nv_ifb_ne (tgt := 181) hx hb dX1_canShow_153 (by decide) (fun c_153 => ?_) (fun c_153 => ?_)
                      · skip
                        refine lv_iinc (v := nI (t + 1)) (lv' := [(5, .int (nI (t + 1))), (4, .int (nI (hdN Y_ o_ (2 * (6 + C 0)) - 1))), (0, .ref (xq 0)), (1, .long (lN o_)), (3, .int (nI m_))]) hx hb dX1_canShow_181 hl (k := 0) rfl (nI_add t 1) (by decide) rfl (fun ls hl => ?_)
                        refine lv_goto (tgt := 124) hx hb dX1_canShow_184 (by decide) ?_
                        exact ih_124  (t + 1) (by omega) (by omega) (cs_s hcs (fun q_ => by first | exact absurd ((cvB_iff.mpr q_.2.2).symm.trans c_176) (by decide) | exact absurd (c_153.symm.trans q_.2.1) (by decide) | exact absurd (((hXY t _ (by omega) (by omega)).symm.trans c_143).symm.trans q_.1) (by decide))) _ _ hP hD hS ls (lv_sub hl [0, 1, 2, 3, 4] rfl)
                      · skip
                        refine lv_aload_n hx hb dX1_canShow_156 rfl (lv_at hl 2 rfl) ?_
                        refine lv_lload_n hx hb dX1_canShow_157 rfl (lv_at hl 3 rfl) ?_
                        refine lv_aload_n hx hb dX1_canShow_158 rfl (lv_at hl 2 rfl) ?_
                        refine gWT_5_shownBy_X1 hx hb hts hown hK hP dX1_canShow_159 ?_
                        refine lv_iload hx hb dX1_canShow_162 (lv_at hl 0 rfl) ?_
                        refine ldWT_12 hx hb hK hP (by omega) dX1_canShow_164 ?_
                        refine lv_topl (nm_r (e' := lN (X_ t)) (hsb t (by omega)) ?_)
                        refine lv_ldc2 (v := (-1)) hx hb hown (hts _ q476) dX1_canShow_165 ?_
                        refine lv_lxor hx hb dX1_canShow_168 ?_
                        refine lv_land hx hb dX1_canShow_169 ?_
                        refine lv_topl (nm_r (e' := lN (adN o_ (X_ t))) (lN_adn) ?_)
                        refine lv_iload_n hx hb dX1_canShow_170 rfl (lv_at hl 4 rfl) ?_
                        refine lv_iconst (v := nI 1) hx hb dX1_canShow_171 (by decide) ?_
                        refine nv_isub hx hb dX1_canShow_172 (by omega) ?_
                        refine xc_i (xr_V (b := xq 0) (ci := 0) (q0 := 5) (As := [.long (lN (adN o_ (X_ t))), .int (nI (m_ - 1))]) (rest := []) (mt_X1_canShow_d3 l D ca cq xq ak tb_ va fy cn an sw sb sv C X_ Y_ (adN o_ (X_ t)) (m_ - 1) h0 hsb hsw hXY (adN_le2 hoN) (by omega) H.size) ⟨hx, hb, hml, hown, hts⟩ (cwV 2 hts (lw_V q1063 q1065 qs22 q79 q1066) rfl rfl rfl (by decide +kernel) ⟨Nat.le_of_ble_eq_true rfl, Nat.le_of_ble_eq_true rfl⟩) EvX_ok hE hK hS (Cut.all hP hD hS hA) rfl rfl rfl hl.1 rfl (Nat.le_of_ble_eq_true rfl) dX1_canShow_173 ⟨Nat.le_of_ble_eq_true rfl, Nat.le_of_ble_eq_true rfl⟩) hS (Cut.all hP hD hS hA) (fun r_20 u_21 H locs hq_173 hP hD hS => ?_)
                        have hP : va_P D vwCl (WT ca cq xq (kdC C) (fsC C) (snC C) ak (nI (C 0)) (nI (C 37)) (nI (C 38)) (fI (C 39)) (nI (C 40)) (lN (C 66)) (nI (C 41)) tb_ va fy cn an sw sb sv) H := hP
                        have hD : va_D A (WT ca cq xq (kdC C) (fsC C) (snC C) ak (nI (C 0)) (nI (C 37)) (nI (C 38)) (fI (C 39)) (nI (C 40)) (lN (C 66)) (nI (C 41)) tb_ va fy cn an sw sb sv) := hD
                        have hp_173 : r_20 = bI (cvB X_ (m_ - 1) (adN o_ (X_ t))) := hq_173
                        clear hq_173
                        obtain rfl := hp_173
                        refine nv_ifb_eq (tgt := 181) hx hb dX1_canShow_176 (by decide) (fun c_176 => ?_) (fun c_176 => ?_)
                        · skip
                          refine lv_iinc (v := nI (t + 1)) (lv' := [(5, .int (nI (t + 1))), (4, .int (nI (hdN Y_ o_ (2 * (6 + C 0)) - 1))), (0, .ref (xq 0)), (1, .long (lN o_)), (3, .int (nI m_))]) hx hb dX1_canShow_181 hl (k := 0) rfl (nI_add t 1) (by decide) rfl (fun ls hl => ?_)
                          refine lv_goto (tgt := 124) hx hb dX1_canShow_184 (by decide) ?_
                          exact ih_124  (t + 1) (by omega) (by omega) (cs_s hcs (fun q_ => by first | exact absurd ((cvB_iff.mpr q_.2.2).symm.trans c_176) (by decide) | exact absurd (c_153.symm.trans q_.2.1) (by decide) | exact absurd (((hXY t _ (by omega) (by omega)).symm.trans c_143).symm.trans q_.1) (by decide))) _ _ hP hD hS ls (lv_sub hl [0, 1, 2, 3, 4] rfl)
                        · skip
                          refine lv_iconst (v := nI 1) hx hb dX1_canShow_179 (by decide) ?_
                          subst hQQ
                          refine (xe_z (b := true) () hx hb hr hlocks hK hP hD hS (congrArg bI (cs_hit ho36 hWb c_9 (by omega) (by rw [← hXY t _ (by omega) (by omega)]; exact c_143) c_153 c_176)) dX1_canShow_180)
              exact lp_124 (64 - 0 + 1) 0 (Nat.lt_succ_self _) (by omega) (fun t_ h_ => absurd h_ (Nat.not_lt_zero t_)) _ _ hP hD hS ls (lv_sub hl [0, 1, 2, 3, 4] rfl)
            · skip
              refine lv_lload_n hx hb dX1_canShow_56 rfl (lv_at hl 3 rfl) ?_
              refine lv_iload hx hb dX1_canShow_57 (lv_at hl 0 rfl) ?_
              refine xc_i (xr_S (As := [.long (lN o_), .int (nI n)]) (rest := []) (mt_X1_isIn_2 l D ca (lN o_) n (by first | assumption | omega | (simp only [updN, forgetC, changedC]; (repeat' split) <;> omega)) H.size) ⟨hx, hb, hml, hown, hts⟩ (va_cwS 2 hts (lw_S q478 q479 q79 q480) rfl rfl rfl (by decide +kernel) ⟨Nat.le_of_ble_eq_true rfl, Nat.le_of_ble_eq_true rfl⟩) Ev0_ok trivial hK hS (Cut.app (wc := []) (wr := (WT ca cq xq (kdC C) (fsC C) (snC C) ak (nI (C 0)) (nI (C 37)) (nI (C 38)) (fI (C 39)) (nI (C 40)) (lN (C 66)) (nI (C 41)) tb_ va fy cn an sw sb sv)) hP hD hS hA) rfl hl.1 rfl (Nat.le_of_ble_eq_true rfl) dX1_canShow_59 ⟨Nat.le_of_ble_eq_true rfl, Nat.le_of_ble_eq_true rfl⟩) hS (Cut.app (wc := []) (wr := (WT ca cq xq (kdC C) (fsC C) (snC C) ak (nI (C 0)) (nI (C 37)) (nI (C 38)) (fI (C 39)) (nI (C 40)) (lN (C 66)) (nI (C 41)) tb_ va fy cn an sw sb sv)) hP hD hS hA) (fun r_23 u_24 H locs hq_59 hP hD hS => ?_)
              have hP : va_P D vwCl (WT ca cq xq (kdC C) (fsC C) (snC C) ak (nI (C 0)) (nI (C 37)) (nI (C 38)) (fI (C 39)) (nI (C 40)) (lN (C 66)) (nI (C 41)) tb_ va fy cn an sw sb sv) H := hP
              have hD : va_D A (WT ca cq xq (kdC C) (fsC C) (snC C) ak (nI (C 0)) (nI (C 37)) (nI (C 38)) (fI (C 39)) (nI (C 40)) (lN (C 66)) (nI (C 41)) tb_ va fy cn an sw sb sv) := hD
              have hp_59 : r_23 = bI (bit64 (lN o_) n) := hq_59
              clear hq_59
              obtain rfl := hp_59
              refine nv_ifb_eq (tgt := 98) hx hb dX1_canShow_62 (by decide) (fun c_62 => ?_) (fun c_62 => ?_)
              · skip
                refine lv_iconst (v := nI 0) hx hb dX1_canShow_98 (by decide) ?_
                refine lv_istore (lv' := [(6, .int (nI 0)), (5, .int (nI n)), (4, .int (fI (hdN Y_ o_ n))), (0, .ref (xq 0)), (1, .long (lN o_)), (3, .int (nI m_))]) hx hb dX1_canShow_99 hl (by decide) rfl (fun ls hl => ?_)
                refine lv_iload hx hb dX1_canShow_101 (lv_at hl 0 rfl) ?_
                refine nv_if_eq (tgt := 111) hx hb dX1_canShow_103 (by decide) (by omega) (fun c_103 => ?_) (fun c_103 => absurd c_103 (by decide))
                refine lv_iload hx hb dX1_canShow_111 (lv_at hl 2 rfl) ?_
                refine lv_istore (lv' := [(4, .int (fI (hdN Y_ o_ n))), (6, .int (nI 0)), (5, .int (nI n)), (0, .ref (xq 0)), (1, .long (lN o_)), (3, .int (nI m_))]) hx hb dX1_canShow_113 hl (by decide) rfl (fun ls hl => ?_)
                refine lv_iinc (v := nI (n + 1)) (lv' := [(5, .int (nI (n + 1))), (4, .int (fI (hdN Y_ o_ n))), (6, .int (nI 0)), (0, .ref (xq 0)), (1, .long (lN o_)), (3, .int (nI m_))]) hx hb dX1_canShow_115 hl (k := 2) rfl (nI_add n 1) (by decide) rfl (fun ls hl => ?_)
                refine lv_goto (tgt := 44) hx hb dX1_canShow_118 (by decide) ?_
                have hl : lv_has ls 7 [(5, .int (nI (n + 1))), (4, .int (fI (hdN Y_ o_ (n + 1)))), (6, .int (nI 0)), (0, .ref (xq 0)), (1, .long (lN o_)), (3, .int (nI m_))] := (congrArg (fun x_ => lv_has ls 7 [(5, .int (nI (n + 1))), (4, .int x_), (6, .int (nI 0)), (0, .ref (xq 0)), (1, .long (lN o_)), (3, .int (nI m_))]) (show fI (hdN Y_ o_ n) = fI (hdN Y_ o_ (n + 1)) from congrArg fI (by first | exact (hd_n1 c_62 (by omega)).symm | exact (hd_n2 c_68 c_91).symm))).mp hl
                exact ih_44  (n + 1) (by omega) (by omega) _ _ hP hD hS ls (lv_sub hl [0, 1, 3, 4, 5] rfl)
              · skip
                refine lv_iload hx hb dX1_canShow_65 (lv_at hl 1 rfl) ?_
                refine lv_iconst (v := fI 0) hx hb dX1_canShow_67 (by decide) ?_
                refine nv_icmp_eqf (tgt := 94) hx hb dX1_canShow_68 (by decide) (by have := @hdN_le Y_ o_ n; omega) (fun c_68 => ?_) (fun c_68 => ?_)
                · skip
                  refine lv_iconst (v := nI 1) hx hb dX1_canShow_94 (by decide) ?_
                  refine lv_goto (tgt := 99) hx hb dX1_canShow_95 (by decide) ?_
                  refine lv_istore (lv' := [(6, .int (nI 1)), (5, .int (nI n)), (4, .int (fI (hdN Y_ o_ n))), (0, .ref (xq 0)), (1, .long (lN o_)), (3, .int (nI m_))]) hx hb dX1_canShow_99 hl (by decide) rfl (fun ls hl => ?_)
                  refine lv_iload hx hb dX1_canShow_101 (lv_at hl 0 rfl) ?_
                  refine nv_if_eq (tgt := 111) hx hb dX1_canShow_103 (by decide) (by omega) (fun c_103 => absurd c_103 (by decide)) (fun c_103 => ?_)
                  refine lv_iload hx hb dX1_canShow_106 (lv_at hl 1 rfl) ?_
                  refine lv_goto (tgt := 113) hx hb dX1_canShow_108 (by decide) ?_
                  refine lv_istore (lv' := [(4, .int (nI n)), (6, .int (nI 1)), (5, .int (nI n)), (0, .ref (xq 0)), (1, .long (lN o_)), (3, .int (nI m_))]) hx hb dX1_canShow_113 hl (by decide) rfl (fun ls hl => ?_)
                  refine lv_iinc (v := nI (n + 1)) (lv' := [(5, .int (nI (n + 1))), (4, .int (nI n)), (6, .int (nI 1)), (0, .ref (xq 0)), (1, .long (lN o_)), (3, .int (nI m_))]) hx hb dX1_canShow_115 hl (k := 2) rfl (nI_add n 1) (by decide) rfl (fun ls hl => ?_)
                  refine lv_goto (tgt := 44) hx hb dX1_canShow_118 (by decide) ?_
                  have hl : lv_has ls 7 [(5, .int (nI (n + 1))), (4, .int (fI (hdN Y_ o_ (n + 1)))), (6, .int (nI 1)), (0, .ref (xq 0)), (1, .long (lN o_)), (3, .int (nI m_))] := (congrArg (fun x_ => lv_has ls 7 [(5, .int (nI (n + 1))), (4, .int x_), (6, .int (nI 1)), (0, .ref (xq 0)), (1, .long (lN o_)), (3, .int (nI m_))]) (show nI n = fI (hdN Y_ o_ (n + 1)) from (fI_S n).trans (congrArg fI (hd_y c_62 (by omega) (by first | exact Or.inl c_68 | exact Or.inr c_91)).symm))).mp hl
                  exact ih_44  (n + 1) (by omega) (by omega) _ _ hP hD hS ls (lv_sub hl [0, 1, 3, 4, 5] rfl)
                · skip
                  refine lv_aload_n hx hb dX1_canShow_71 rfl (lv_at hl 2 rfl) ?_
                  refine gWT_5_shown_X1 hx hb hts hown hK hP dX1_canShow_72 ?_
                  refine lv_iload hx hb dX1_canShow_75 (lv_at hl 0 rfl) ?_
                  refine ldWT_11 hx hb hK hP (by omega) dX1_canShow_77 ?_
                  refine lv_topl (nm_r (e' := Y_ n) (hsw n (by omega)) ?_)
                  refine xc_i (xr_S (As := [.long (Y_ n)]) (rest := []) (mt_J16_bitCount_r l D ca (Y_ n)  H.size) ⟨hx, hb, hml, hown, hts⟩ (va_cwS 1 hts (lw_S q485 q486 q100 q487) rfl rfl rfl (by decide +kernel) ⟨Nat.le_of_ble_eq_true rfl, Nat.le_of_ble_eq_true rfl⟩) Ev0_ok trivial hK hS (Cut.app (wc := []) (wr := (WT ca cq xq (kdC C) (fsC C) (snC C) ak (nI (C 0)) (nI (C 37)) (nI (C 38)) (fI (C 39)) (nI (C 40)) (lN (C 66)) (nI (C 41)) tb_ va fy cn an sw sb sv)) hP hD hS hA) rfl hl.1 rfl (Nat.le_of_ble_eq_true rfl) dX1_canShow_78 ⟨Nat.le_of_ble_eq_true rfl, Nat.le_of_ble_eq_true rfl⟩) hS (Cut.app (wc := []) (wr := (WT ca cq xq (kdC C) (fsC C) (snC C) ak (nI (C 0)) (nI (C 37)) (nI (C 38)) (fI (C 39)) (nI (C 40)) (lN (C 66)) (nI (C 41)) tb_ va fy cn an sw sb sv)) hP hD hS hA) (fun r_27 u_28 H locs hq_78 hP hD hS => ?_)
                  have hP : va_P D vwCl (WT ca cq xq (kdC C) (fsC C) (snC C) ak (nI (C 0)) (nI (C 37)) (nI (C 38)) (fI (C 39)) (nI (C 40)) (lN (C 66)) (nI (C 41)) tb_ va fy cn an sw sb sv) H := hP
                  have hD : va_D A (WT ca cq xq (kdC C) (fsC C) (snC C) ak (nI (C 0)) (nI (C 37)) (nI (C 38)) (fI (C 39)) (nI (C 40)) (lN (C 66)) (nI (C 41)) tb_ va fy cn an sw sb sv) := hD
                  have hp_78 : r_27 = nI (popl 64 (Y_ n)) := hq_78
                  clear hq_78
                  obtain rfl := hp_78
                  refine lv_aload_n hx hb dX1_canShow_81 rfl (lv_at hl 2 rfl) ?_
                  refine gWT_5_shown_X1 hx hb hts hown hK hP dX1_canShow_82 ?_
                  refine lv_iload hx hb dX1_canShow_85 (lv_at hl 1 rfl) ?_
                  refine lv_topi (nm_r (e' := nI (hdN Y_ o_ n - 1)) (fI_pos c_68) ?_)
                  refine ldWT_11 hx hb hK hP (by have := @hdN_le Y_ o_ n; omega) dX1_canShow_87 ?_
                  refine lv_topl (nm_r (e' := Y_ (hdN Y_ o_ n - 1)) (hsw _ (by have := @hdN_le Y_ o_ n; omega)) ?_)
                  refine xc_i (xr_S (As := [.long (Y_ (hdN Y_ o_ n - 1))]) (rest := [.int (nI (popl 64 (Y_ n)))]) (mt_J16_bitCount_r l D ca (Y_ (hdN Y_ o_ n - 1))  H.size) ⟨hx, hb, hml, hown, hts⟩ (va_cwS 1 hts (lw_S q485 q486 q100 q487) rfl rfl rfl (by decide +kernel) ⟨Nat.le_of_ble_eq_true rfl, Nat.le_of_ble_eq_true rfl⟩) Ev0_ok trivial hK hS (Cut.app (wc := []) (wr := (WT ca cq xq (kdC C) (fsC C) (snC C) ak (nI (C 0)) (nI (C 37)) (nI (C 38)) (fI (C 39)) (nI (C 40)) (lN (C 66)) (nI (C 41)) tb_ va fy cn an sw sb sv)) hP hD hS hA) rfl hl.1 rfl (Nat.le_of_ble_eq_true rfl) dX1_canShow_88 ⟨Nat.le_of_ble_eq_true rfl, Nat.le_of_ble_eq_true rfl⟩) hS (Cut.app (wc := []) (wr := (WT ca cq xq (kdC C) (fsC C) (snC C) ak (nI (C 0)) (nI (C 37)) (nI (C 38)) (fI (C 39)) (nI (C 40)) (lN (C 66)) (nI (C 41)) tb_ va fy cn an sw sb sv)) hP hD hS hA) (fun r_29 u_30 H locs hq_88 hP hD hS => ?_)
                  have hP : va_P D vwCl (WT ca cq xq (kdC C) (fsC C) (snC C) ak (nI (C 0)) (nI (C 37)) (nI (C 38)) (fI (C 39)) (nI (C 40)) (lN (C 66)) (nI (C 41)) tb_ va fy cn an sw sb sv) H := hP
                  have hD : va_D A (WT ca cq xq (kdC C) (fsC C) (snC C) ak (nI (C 0)) (nI (C 37)) (nI (C 38)) (fI (C 39)) (nI (C 40)) (lN (C 66)) (nI (C 41)) tb_ va fy cn an sw sb sv) := hD
                  have hp_88 : r_29 = nI (popl 64 (Y_ (hdN Y_ o_ n - 1))) := hq_88
                  clear hq_88
                  obtain rfl := hp_88
                  refine nv_icmp_ge (tgt := 98) hx hb dX1_canShow_91 (by decide) (by have := popl_le 64 (Y_ n); omega) (by have := popl_le 64 (Y_ (hdN Y_ o_ n - 1)); omega) (fun c_91 => ?_) (fun c_91 => ?_)
                  · skip
                    refine lv_iconst (v := nI 0) hx hb dX1_canShow_98 (by decide) ?_
                    refine lv_istore (lv' := [(6, .int (nI 0)), (5, .int (nI n)), (4, .int (fI (hdN Y_ o_ n))), (0, .ref (xq 0)), (1, .long (lN o_)), (3, .int (nI m_))]) hx hb dX1_canShow_99 hl (by decide) rfl (fun ls hl => ?_)
                    refine lv_iload hx hb dX1_canShow_101 (lv_at hl 0 rfl) ?_
                    refine nv_if_eq (tgt := 111) hx hb dX1_canShow_103 (by decide) (by omega) (fun c_103 => ?_) (fun c_103 => absurd c_103 (by decide))
                    refine lv_iload hx hb dX1_canShow_111 (lv_at hl 2 rfl) ?_
                    refine lv_istore (lv' := [(4, .int (fI (hdN Y_ o_ n))), (6, .int (nI 0)), (5, .int (nI n)), (0, .ref (xq 0)), (1, .long (lN o_)), (3, .int (nI m_))]) hx hb dX1_canShow_113 hl (by decide) rfl (fun ls hl => ?_)
                    refine lv_iinc (v := nI (n + 1)) (lv' := [(5, .int (nI (n + 1))), (4, .int (fI (hdN Y_ o_ n))), (6, .int (nI 0)), (0, .ref (xq 0)), (1, .long (lN o_)), (3, .int (nI m_))]) hx hb dX1_canShow_115 hl (k := 2) rfl (nI_add n 1) (by decide) rfl (fun ls hl => ?_)
                    refine lv_goto (tgt := 44) hx hb dX1_canShow_118 (by decide) ?_
                    have hl : lv_has ls 7 [(5, .int (nI (n + 1))), (4, .int (fI (hdN Y_ o_ (n + 1)))), (6, .int (nI 0)), (0, .ref (xq 0)), (1, .long (lN o_)), (3, .int (nI m_))] := (congrArg (fun x_ => lv_has ls 7 [(5, .int (nI (n + 1))), (4, .int x_), (6, .int (nI 0)), (0, .ref (xq 0)), (1, .long (lN o_)), (3, .int (nI m_))]) (show fI (hdN Y_ o_ n) = fI (hdN Y_ o_ (n + 1)) from congrArg fI (by first | exact (hd_n1 c_62 (by omega)).symm | exact (hd_n2 c_68 c_91).symm))).mp hl
                    exact ih_44  (n + 1) (by omega) (by omega) _ _ hP hD hS ls (lv_sub hl [0, 1, 3, 4, 5] rfl)
                  · skip
                    refine lv_iconst (v := nI 1) hx hb dX1_canShow_94 (by decide) ?_
                    refine lv_goto (tgt := 99) hx hb dX1_canShow_95 (by decide) ?_
                    refine lv_istore (lv' := [(6, .int (nI 1)), (5, .int (nI n)), (4, .int (fI (hdN Y_ o_ n))), (0, .ref (xq 0)), (1, .long (lN o_)), (3, .int (nI m_))]) hx hb dX1_canShow_99 hl (by decide) rfl (fun ls hl => ?_)
                    refine lv_iload hx hb dX1_canShow_101 (lv_at hl 0 rfl) ?_
                    refine nv_if_eq (tgt := 111) hx hb dX1_canShow_103 (by decide) (by omega) (fun c_103 => absurd c_103 (by decide)) (fun c_103 => ?_)
                    refine lv_iload hx hb dX1_canShow_106 (lv_at hl 1 rfl) ?_
                    refine lv_goto (tgt := 113) hx hb dX1_canShow_108 (by decide) ?_
                    refine lv_istore (lv' := [(4, .int (nI n)), (6, .int (nI 1)), (5, .int (nI n)), (0, .ref (xq 0)), (1, .long (lN o_)), (3, .int (nI m_))]) hx hb dX1_canShow_113 hl (by decide) rfl (fun ls hl => ?_)
                    refine lv_iinc (v := nI (n + 1)) (lv' := [(5, .int (nI (n + 1))), (4, .int (nI n)), (6, .int (nI 1)), (0, .ref (xq 0)), (1, .long (lN o_)), (3, .int (nI m_))]) hx hb dX1_canShow_115 hl (k := 2) rfl (nI_add n 1) (by decide) rfl (fun ls hl => ?_)
                    refine lv_goto (tgt := 44) hx hb dX1_canShow_118 (by decide) ?_
                    have hl : lv_has ls 7 [(5, .int (nI (n + 1))), (4, .int (fI (hdN Y_ o_ (n + 1)))), (6, .int (nI 1)), (0, .ref (xq 0)), (1, .long (lN o_)), (3, .int (nI m_))] := (congrArg (fun x_ => lv_has ls 7 [(5, .int (nI (n + 1))), (4, .int x_), (6, .int (nI 1)), (0, .ref (xq 0)), (1, .long (lN o_)), (3, .int (nI m_))]) (show nI n = fI (hdN Y_ o_ (n + 1)) from (fI_S n).trans (congrArg fI (hd_y c_62 (by omega) (by first | exact Or.inl c_68 | exact Or.inr c_91)).symm))).mp hl
                    exact ih_44  (n + 1) (by omega) (by omega) _ _ hP hD hS ls (lv_sub hl [0, 1, 3, 4, 5] rfl)
        have hl : lv_has ls 7 [(5, .int (nI 0)), (4, .int (fI (hdN Y_ o_ 0))), (0, .ref (xq 0)), (1, .long (lN o_)), (3, .int (nI m_))] := (congrArg (fun x_ => lv_has ls 7 [(5, .int (nI 0)), (4, .int x_), (0, .ref (xq 0)), (1, .long (lN o_)), (3, .int (nI m_))]) (show fI 0 = fI (hdN Y_ o_ 0) from rfl)).mp hl
        exact lp_44 (2 * (6 + C 0) - 0 + 1) 0 (Nat.lt_succ_self _) (by omega) _ _ hP hD hS ls (lv_sub hl [0, 1, 2, 3, 4] rfl)
      · skip
        refine lv_iconst (v := nI 0) hx hb dX1_canShow_36 (by decide) ?_
        subst hQQ
        refine (xe_z (b := false) () hx hb hr hlocks hK hP hD hS (congrArg bI (by first | exact (cvB_f (Cv_few c_33)).symm | exact (cvB_f (fun h_ => c_2 (by subst c_9; exact congrArg lN h_))).symm)) dX1_canShow_37)
  · skip
    refine lv_iconst (v := nI 1) hx hb dX1_canShow_6 (by decide) ?_
    subst hQQ
    refine (xe_z (b := true) () hx hb hr hlocks hK hP hD hS (congrArg bI (cvB_t (by rw [(lN_eq0 (by omega)).mp c_2]; exact Cv_0 _ _)).symm) dX1_canShow_7)
set_option maxHeartbeats 4000000 in
set_option maxRecDepth 100000 in
theorem mt_X1_canShow_d5 (l : Launch) (D : va_G) (ca : Nat → ClassId) (cq : Nat → Nat) (xq : Nat → Nat) (ak : Nat → Int32) (tb_ : Nat → Int64) (va : Nat → Int32) (fy : Nat → Int64) (cn : Nat → Int32) (an : Nat → Int32) (sw : Nat → Int64) (sb : Nat → Int64) (sv : Value) (C : Nat → Nat) (X_ : Nat → Nat) (Y_ : Nat → Int64) (o_ : Nat) (m_ : Nat) (h0 : C 0 ≤ 12) (hsb : ∀ t, t < 64 → sb t = lN (X_ t)) (hsw : ∀ f, f < 2 * (6 + C 0) → sw f = Y_ f) (hXY : ∀ t f, t < 64 → f < 2 * (6 + C 0) → bit64 (Y_ f) t = (X_ t).testBit f) (hoN : o_ < 2 ^ (2 * (6 + C 0))) (hm : m_ ≤ 5) (nn : Nat) : Met l yX1_canShow (ws_ yX1_canShow cX1_canShow 7 (Option.some Jvm.ClassFile.FieldType.boolean)) ({ frames := 6, cells := 0, slots := 0, locals := 149 } : Room) (va_Pc [.ref (xq 0), .long (lN o_), .int (nI m_)] (PreW EvX D vwCl (TY ca) (WT ca cq xq (kdC C) (fsC C) (snC C) ak (nI (C 0)) (nI (C 37)) (nI (C 38)) (fI (C 39)) (nI (C 40)) (lN (C 66)) (nI (C 41)) tb_ va fy cn an sw sb sv) nn)) (va_Qi (fun (r_ : Int32) (_ : Unit) => r_ = bI (cvB X_ m_ o_)) (PostW D vwCl (TY ca) (fun (_ : Unit) => (WT ca cq xq (kdC C) (fsC C) (snC C) ak (nI (C 0)) (nI (C 37)) (nI (C 38)) (fI (C 39)) (nI (C 40)) (lN (C 66)) (nI (C 41)) tb_ va fy cn an sw sb sv)) (va_A (WT ca cq xq (kdC C) (fsC C) (snC C) ak (nI (C 0)) (nI (C 37)) (nI (C 38)) (fI (C 39)) (nI (C 40)) (lN (C 66)) (nI (C 41)) tb_ va fy cn an sw sb sv) nn)) (va_A (WT ca cq xq (kdC C) (fsC C) (snC C) ak (nI (C 0)) (nI (C 37)) (nI (C 38)) (fI (C 39)) (nI (C 40)) (lN (C 66)) (nI (C 41)) tb_ va fy cn an sw sb sv) nn)) 0 0 (va_A (WT ca cq xq (kdC C) (fsC C) (snC C) ak (nI (C 0)) (nI (C 37)) (nI (C 38)) (fI (C 39)) (nI (C 40)) (lN (C 66)) (nI (C 41)) tb_ va fy cn an sw sb sv) nn) := by
  refine met_go (QA := fun A => va_Qi (fun (r_ : Int32) (_ : Unit) => r_ = bI (cvB X_ m_ o_)) (PostW D vwCl (TY ca) (fun (_ : Unit) => (WT ca cq xq (kdC C) (fsC C) (snC C) ak (nI (C 0)) (nI (C 37)) (nI (C 38)) (fI (C 39)) (nI (C 40)) (lN (C 66)) (nI (C 41)) tb_ va fy cn an sw sb sv)) A) A) (by decide) (Nat.le_of_ble_eq_true rfl) (fun p e s m below meth c A ls QQ hQQ hx hb hr hts hown hlocks hml hA hP hK hD hE hl => ?_)
  have hown : s.vm.findClass RX1 = some m.cls := hown
  have hS : va_S A s.heap s.heap [] := va_S.rf
  have hl : lv_has ls 7 [(0, .ref (xq 0)), (1, .long (lN o_)), (3, .int (nI m_))] := hl
  generalize hHe : s.heap = H at hP ⊢
  have hS : va_S A s.heap H [] := hHe ▸ hS
  generalize ([] : List Loc) = locs at hS ⊢
  have ho36 : o_ < 2 ^ 36 := Nat.lt_of_lt_of_le hoN (Nat.pow_le_pow_right (by decide) (by omega))
  refine lv_lload_n hx hb dX1_canShow_0 rfl (lv_at hl 1 rfl) ?_
  refine lv_lconst (v := lN 0) hx hb dX1_canShow_1 (by decide) ?_
  refine nv_lcmp_ne (tgt := 8) hx hb dX1_canShow_2 dX1_canShow_3 (by decide) (fun c_2 => ?_) (fun c_2 => ?_)
  · skip
    refine lv_iload_n hx hb dX1_canShow_8 rfl (lv_at hl 2 rfl) ?_
    refine nv_if_eq (tgt := 36) hx hb dX1_canShow_9 (by decide) (by omega) (fun c_9 => ?_) (fun c_9 => ?_)
    · skip
      refine lv_iconst (v := nI 0) hx hb dX1_canShow_36 (by decide) ?_
      subst hQQ
      refine (xe_z (b := false) () hx hb hr hlocks hK hP hD hS (congrArg bI (by first | exact (cvB_f (Cv_few c_33)).symm | exact (cvB_f (fun h_ => c_2 (by subst c_9; exact congrArg lN h_))).symm)) dX1_canShow_37)
    · skip
      refine lv_iload_n hx hb dX1_canShow_12 rfl (lv_at hl 2 rfl) ?_
      refine lv_aload_n hx hb dX1_canShow_13 rfl (lv_at hl 0 rfl) ?_
      refine gWT_5_shownBy_X1 hx hb hts hown hK hP dX1_canShow_14 ?_
      refine lv_aload_n hx hb dX1_canShow_17 rfl (lv_at hl 0 rfl) ?_
      refine lv_lload_n hx hb dX1_canShow_18 rfl (lv_at hl 1 rfl) ?_
      refine xc_i (xr_V (b := xq 0) (ci := 0) (q0 := 5) (As := [.long (lN o_)]) (rest := [.ref (xq 7), .int (nI m_)]) (mt_X1_strongest l D ca cq xq (kdC C) (fsC C) (snC C) ak (nI (C 0)) (nI (C 37)) (nI (C 38)) (fI (C 39)) (nI (C 40)) (lN (C 66)) (nI (C 41)) tb_ va fy cn an sw sb sv X_ o_ hsb H.size) ⟨hx, hb, hml, hown, hts⟩ (cwV 1 hts (lw_V q481 q483 qs10 q79 q484) rfl rfl rfl (by decide +kernel) ⟨Nat.le_of_ble_eq_true rfl, Nat.le_of_ble_eq_true rfl⟩) EvX_ok hE hK hS (Cut.all hP hD hS hA) rfl rfl rfl hl.1 rfl (Nat.le_of_ble_eq_true rfl) dX1_canShow_19 ⟨Nat.le_of_ble_eq_true rfl, Nat.le_of_ble_eq_true rfl⟩) hS (Cut.all hP hD hS hA) (fun r_3 u_4 H locs hq_19 hP hD hS => ?_)
      have hP : va_P D vwCl (WT ca cq xq (kdC C) (fsC C) (snC C) ak (nI (C 0)) (nI (C 37)) (nI (C 38)) (fI (C 39)) (nI (C 40)) (lN (C 66)) (nI (C 41)) tb_ va fy cn an sw sb sv) H := hP
      have hD : va_D A (WT ca cq xq (kdC C) (fsC C) (snC C) ak (nI (C 0)) (nI (C 37)) (nI (C 38)) (fI (C 39)) (nI (C 40)) (lN (C 66)) (nI (C 41)) tb_ va fy cn an sw sb sv) := hD
      have hp_19 : r_3 = nI (stg X_ o_) := hq_19
      clear hq_19
      obtain rfl := hp_19
      refine ldWT_12 hx hb hK hP (stg_lt _ _) dX1_canShow_22 ?_
      refine lv_topl (nm_r (e' := lN (X_ (stg X_ o_))) (hsb _ (stg_lt _ _)) ?_)
      refine lv_lload_n hx hb dX1_canShow_23 rfl (lv_at hl 1 rfl) ?_
      refine lv_land hx hb dX1_canShow_24 (lv_topl (nm_r (e' := lN ((X_ (stg X_ o_)) &&& o_)) (klN_and (X_ (stg X_ o_)) o_) ?_))
      refine xc_i (xr_S (As := [.long (lN ((X_ (stg X_ o_)) &&& o_))]) (rest := [.int (nI m_)]) (mt_J16_bitCount_r l D ca (lN ((X_ (stg X_ o_)) &&& o_))  H.size) ⟨hx, hb, hml, hown, hts⟩ (va_cwS 1 hts (lw_S q485 q486 q100 q487) rfl rfl rfl (by decide +kernel) ⟨Nat.le_of_ble_eq_true rfl, Nat.le_of_ble_eq_true rfl⟩) Ev0_ok trivial hK hS (Cut.app (wc := []) (wr := (WT ca cq xq (kdC C) (fsC C) (snC C) ak (nI (C 0)) (nI (C 37)) (nI (C 38)) (fI (C 39)) (nI (C 40)) (lN (C 66)) (nI (C 41)) tb_ va fy cn an sw sb sv)) hP hD hS hA) rfl hl.1 rfl (Nat.le_of_ble_eq_true rfl) dX1_canShow_25 ⟨Nat.le_of_ble_eq_true rfl, Nat.le_of_ble_eq_true rfl⟩) hS (Cut.app (wc := []) (wr := (WT ca cq xq (kdC C) (fsC C) (snC C) ak (nI (C 0)) (nI (C 37)) (nI (C 38)) (fI (C 39)) (nI (C 40)) (lN (C 66)) (nI (C 41)) tb_ va fy cn an sw sb sv)) hP hD hS hA) (fun r_5 u_6 H locs hq_25 hP hD hS => ?_)
      have hP : va_P D vwCl (WT ca cq xq (kdC C) (fsC C) (snC C) ak (nI (C 0)) (nI (C 37)) (nI (C 38)) (fI (C 39)) (nI (C 40)) (lN (C 66)) (nI (C 41)) tb_ va fy cn an sw sb sv) H := hP
      have hD : va_D A (WT ca cq xq (kdC C) (fsC C) (snC C) ak (nI (C 0)) (nI (C 37)) (nI (C 38)) (fI (C 39)) (nI (C 40)) (lN (C 66)) (nI (C 41)) tb_ va fy cn an sw sb sv) := hD
      have hp_25 : r_5 = nI (popl 64 (lN ((X_ (stg X_ o_)) &&& o_))) := hq_25
      clear hq_25
      obtain rfl := hp_25
      refine nv_imul hx hb dX1_canShow_28 ?_
      refine lv_lload_n hx hb dX1_canShow_29 rfl (lv_at hl 1 rfl) ?_
      refine xc_i (xr_S (As := [.long (lN o_)]) (rest := [.int (nI (m_ * (popl 64 (lN ((X_ (stg X_ o_)) &&& o_)))))]) (mt_J16_bitCount_r l D ca (lN o_)  H.size) ⟨hx, hb, hml, hown, hts⟩ (va_cwS 1 hts (lw_S q485 q486 q100 q487) rfl rfl rfl (by decide +kernel) ⟨Nat.le_of_ble_eq_true rfl, Nat.le_of_ble_eq_true rfl⟩) Ev0_ok trivial hK hS (Cut.app (wc := []) (wr := (WT ca cq xq (kdC C) (fsC C) (snC C) ak (nI (C 0)) (nI (C 37)) (nI (C 38)) (fI (C 39)) (nI (C 40)) (lN (C 66)) (nI (C 41)) tb_ va fy cn an sw sb sv)) hP hD hS hA) rfl hl.1 rfl (Nat.le_of_ble_eq_true rfl) dX1_canShow_30 ⟨Nat.le_of_ble_eq_true rfl, Nat.le_of_ble_eq_true rfl⟩) hS (Cut.app (wc := []) (wr := (WT ca cq xq (kdC C) (fsC C) (snC C) ak (nI (C 0)) (nI (C 37)) (nI (C 38)) (fI (C 39)) (nI (C 40)) (lN (C 66)) (nI (C 41)) tb_ va fy cn an sw sb sv)) hP hD hS hA) (fun r_7 u_8 H locs hq_30 hP hD hS => ?_)
      have hP : va_P D vwCl (WT ca cq xq (kdC C) (fsC C) (snC C) ak (nI (C 0)) (nI (C 37)) (nI (C 38)) (fI (C 39)) (nI (C 40)) (lN (C 66)) (nI (C 41)) tb_ va fy cn an sw sb sv) H := hP
      have hD : va_D A (WT ca cq xq (kdC C) (fsC C) (snC C) ak (nI (C 0)) (nI (C 37)) (nI (C 38)) (fI (C 39)) (nI (C 40)) (lN (C 66)) (nI (C 41)) tb_ va fy cn an sw sb sv) := hD
      have hp_30 : r_7 = nI (popl 64 (lN o_)) := hq_30
      clear hq_30
      obtain rfl := hp_30
      refine nv_icmp_ge (tgt := 38) hx hb dX1_canShow_33 (by decide) (by have h1_ := popl_le 64 (lN (X_ (stg X_ o_) &&& o_)); have := Nat.mul_le_mul hm h1_; omega) (by have := popl_le 64 (lN o_); omega) (fun c_33 => ?_) (fun c_33 => ?_)
      · skip
        refine lv_iconst (v := fI 0) hx hb dX1_canShow_38 (by decide) ?_
        refine lv_istore (lv' := [(4, .int (fI 0)), (0, .ref (xq 0)), (1, .long (lN o_)), (3, .int (nI m_))]) hx hb dX1_canShow_39 hl (by decide) rfl (fun ls hl => ?_)
        refine lv_iconst (v := nI 0) hx hb dX1_canShow_41 (by decide) ?_
        refine lv_istore (lv' := [(5, .int (nI 0)), (4, .int (fI 0)), (0, .ref (xq 0)), (1, .long (lN o_)), (3, .int (nI m_))]) hx hb dX1_canShow_42 hl (by decide) rfl (fun ls hl => ?_)
        have lp_44 : ∀ (fu_44 : Nat) (n : Nat), 2 * (6 + C 0) - n < fu_44 → (n ≤ 2 * (6 + C 0)) → ∀ (H : Heap) (locs : List Loc), va_P D vwCl (WT ca cq xq (kdC C) (fsC C) (snC C) ak (nI (C 0)) (nI (C 37)) (nI (C 38)) (fI (C 39)) (nI (C 40)) (lN (C 66)) (nI (C 41)) tb_ va fy cn an sw sb sv) H → va_D A (WT ca cq xq (kdC C) (fsC C) (snC C) ak (nI (C 0)) (nI (C 37)) (nI (C 38)) (fI (C 39)) (nI (C 40)) (lN (C 66)) (nI (C 41)) tb_ va fy cn an sw sb sv) → va_S A s.heap H locs → ∀ (ls : Array Slot), lv_has ls 7 [(5, .int (nI n)), (4, .int (fI (hdN Y_ o_ n))), (0, .ref (xq 0)), (1, .long (lN o_)), (3, .int (nI m_))] → W p l e ({ frames := 6, cells := 0, slots := 0, locals := 149 } : Room) s m ([.ref (xq 0), .long (lN o_), .int (nI m_)] : List Value).toArray below meth c H locs 0 0 QQ (F0 m 44 ls []) := by
          intro fu_44
          induction fu_44 with
          | zero => intro n hfu; exact absurd hfu (Nat.not_lt_zero _)
          | succ fu_44 ih_44 =>
            intro n hfu hn H locs hP hD hS ls hl
            refine lv_iload hx hb dX1_canShow_44 (lv_at hl 0 rfl) ?_
            refine lv_aload_n hx hb dX1_canShow_46 rfl (lv_at hl 2 rfl) ?_
            refine gWT_5_circuit_X1 hx hb hts hown hK hP dX1_canShow_47 ?_
            refine xc_i (xr_V (b := cq 0) (ci := 1) (q0 := 0) (As := []) (rest := [.int (nI n)]) (mt_X2_faults l D ca cq (kdC C) (fsC C) (snC C) ak (nI (C 37)) (nI (C 38)) (fI (C 39)) (nI (C 40)) (lN (C 66)) (nI (C 41)) (C 0)  H.size) ⟨hx, hb, hml, hown, hts⟩ (cwV 0 hts (lw_V q439 q440 q441 q80 q442) rfl rfl rfl (by decide +kernel) ⟨Nat.le_of_ble_eq_true rfl, Nat.le_of_ble_eq_true rfl⟩) EvX_ok hE hK hS (Cut.app (wc := (WC ca cq (kdC C) (fsC C) (snC C) ak (nI (C 0)) (nI (C 37)) (nI (C 38)) (fI (C 39)) (nI (C 40)) (lN (C 66)) (nI (C 41)))) (wr := (WTr ca cq xq tb_ va fy cn an sw sb sv)) hP hD hS hA) rfl rfl rfl hl.1 rfl (Nat.le_of_ble_eq_true rfl) dX1_canShow_50 ⟨Nat.le_of_ble_eq_true rfl, Nat.le_of_ble_eq_true rfl⟩) hS (Cut.app (wc := (WC ca cq (kdC C) (fsC C) (snC C) ak (nI (C 0)) (nI (C 37)) (nI (C 38)) (fI (C 39)) (nI (C 40)) (lN (C 66)) (nI (C 41)))) (wr := (WTr ca cq xq tb_ va fy cn an sw sb sv)) hP hD hS hA) (fun r_10 u_11 H locs hq_50 hP hD hS => ?_)
            have hP : va_P D vwCl (WT ca cq xq (kdC C) (fsC C) (snC C) ak (nI (C 0)) (nI (C 37)) (nI (C 38)) (fI (C 39)) (nI (C 40)) (lN (C 66)) (nI (C 41)) tb_ va fy cn an sw sb sv) H := hP
            have hD : va_D A (WT ca cq xq (kdC C) (fsC C) (snC C) ak (nI (C 0)) (nI (C 37)) (nI (C 38)) (fI (C 39)) (nI (C 40)) (lN (C 66)) (nI (C 41)) tb_ va fy cn an sw sb sv) := hD
            have hp_50 : r_10 = nI (2 * (6 + (C 0))) := hq_50
            clear hq_50
            obtain rfl := hp_50
            refine nv_icmp_ge (tgt := 121) hx hb dX1_canShow_53 (by decide) (by omega) (by omega) (fun c_53 => ?_) (fun c_53 => ?_)
            · skip
              have e_ : 2 * (6 + C 0) = n := Eq.symm (by omega)
              subst e_
              obtain ⟨hW0, hWl, hWb⟩ := hdN_hit (Y := Y_) hoN (fun z => c_2 (by rw [z]))
              have hl : lv_has ls 7 [(5, .int (nI (2 * (6 + C 0)))), (4, .int (nI (hdN Y_ o_ (2 * (6 + C 0)) - 1))), (0, .ref (xq 0)), (1, .long (lN o_)), (3, .int (nI m_))] := (congrArg (fun x_ => lv_has ls 7 [(5, .int (nI (2 * (6 + C 0)))), (4, .int x_), (0, .ref (xq 0)), (1, .long (lN o_)), (3, .int (nI m_))]) (show fI (hdN Y_ o_ (2 * (6 + C 0))) = nI (hdN Y_ o_ (2 * (6 + C 0)) - 1) from fI_pos hW0)).mp hl
              refine lv_iconst (v := nI 0) hx hb dX1_canShow_121 (by decide) ?_
              refine lv_istore (lv' := [(5, .int (nI 0)), (4, .int (nI (hdN Y_ o_ (2 * (6 + C 0)) - 1))), (0, .ref (xq 0)), (1, .long (lN o_)), (3, .int (nI m_))]) hx hb dX1_canShow_122 hl (by decide) rfl (fun ls hl => ?_)
              have lp_124 : ∀ (fu_124 : Nat) (t : Nat), 64 - t < fu_124 → (t ≤ 64) → (csN X_ (m_ - 1) o_ (hdN Y_ o_ (2 * (6 + C 0)) - 1) t) → ∀ (H : Heap) (locs : List Loc), va_P D vwCl (WT ca cq xq (kdC C) (fsC C) (snC C) ak (nI (C 0)) (nI (C 37)) (nI (C 38)) (fI (C 39)) (nI (C 40)) (lN (C 66)) (nI (C 41)) tb_ va fy cn an sw sb sv) H → va_D A (WT ca cq xq (kdC C) (fsC C) (snC C) ak (nI (C 0)) (nI (C 37)) (nI (C 38)) (fI (C 39)) (nI (C 40)) (lN (C 66)) (nI (C 41)) tb_ va fy cn an sw sb sv) → va_S A s.heap H locs → ∀ (ls : Array Slot), lv_has ls 7 [(5, .int (nI t)), (4, .int (nI (hdN Y_ o_ (2 * (6 + C 0)) - 1))), (0, .ref (xq 0)), (1, .long (lN o_)), (3, .int (nI m_))] → W p l e ({ frames := 6, cells := 0, slots := 0, locals := 149 } : Room) s m ([.ref (xq 0), .long (lN o_), .int (nI m_)] : List Value).toArray below meth c H locs 0 0 QQ (F0 m 124 ls []) := by
                intro fu_124
                induction fu_124 with
                | zero => intro t hfu; exact absurd hfu (Nat.not_lt_zero _)
                | succ fu_124 ih_124 =>
                  intro t hfu ht_ hcs H locs hP hD hS ls hl
                  refine lv_iload hx hb dX1_canShow_124 (lv_at hl 0 rfl) ?_
                  refine lv_bipush (v := nI 64) hx hb dX1_canShow_126 (by decide) ?_
                  refine nv_icmp_ge (tgt := 187) hx hb dX1_canShow_128 (by decide) (by omega) (by omega) (fun c_128 => ?_) (fun c_128 => ?_)
                  · skip
                    have e_ : 64 = t := Eq.symm (by omega)
                    subst e_
                    refine lv_iconst (v := nI 0) hx hb dX1_canShow_187 (by decide) ?_
                    subst hQQ
                    refine (xe_z (b := false) () hx hb hr hlocks hK hP hD hS (congrArg bI (cs_end ho36 hWb c_9 hcs)) dX1_canShow_188)
                  · skip
                    refine lv_aload_n hx hb dX1_canShow_131 rfl (lv_at hl 2 rfl) ?_
                    refine gWT_5_shown_X1 hx hb hts hown hK hP dX1_canShow_132 ?_
                    refine lv_iload hx hb dX1_canShow_135 (lv_at hl 1 rfl) ?_
                    refine ldWT_11 hx hb hK hP (by omega) dX1_canShow_137 ?_
                    refine lv_topl (nm_r (e' := Y_ (hdN Y_ o_ (2 * (6 + C 0)) - 1)) (hsw _ (by omega)) ?_)
                    refine lv_iload hx hb dX1_canShow_138 (lv_at hl 0 rfl) ?_
                    refine xc_i (xr_S (As := [.long (Y_ (hdN Y_ o_ (2 * (6 + C 0)) - 1)), .int (nI t)]) (rest := []) (mt_X1_isIn_2 l D ca (Y_ (hdN Y_ o_ (2 * (6 + C 0)) - 1)) t (by first | assumption | omega | (simp only [updN, forgetC, changedC]; (repeat' split) <;> omega)) H.size) ⟨hx, hb, hml, hown, hts⟩ (va_cwS 2 hts (lw_S q478 q479 q79 q480) rfl rfl rfl (by decide +kernel) ⟨Nat.le_of_ble_eq_true rfl, Nat.le_of_ble_eq_true rfl⟩) Ev0_ok trivial hK hS (Cut.app (wc := []) (wr := (WT ca cq xq (kdC C) (fsC C) (snC C) ak (nI (C 0)) (nI (C 37)) (nI (C 38)) (fI (C 39)) (nI (C 40)) (lN (C 66)) (nI (C 41)) tb_ va fy cn an sw sb sv)) hP hD hS hA) rfl hl.1 rfl (Nat.le_of_ble_eq_true rfl) dX1_canShow_140 ⟨Nat.le_of_ble_eq_true rfl, Nat.le_of_ble_eq_true rfl⟩) hS (Cut.app (wc := []) (wr := (WT ca cq xq (kdC C) (fsC C) (snC C) ak (nI (C 0)) (nI (C 37)) (nI (C 38)) (fI (C 39)) (nI (C 40)) (lN (C 66)) (nI (C 41)) tb_ va fy cn an sw sb sv)) hP hD hS hA) (fun r_14 u_15 H locs hq_140 hP hD hS => ?_)
                    have hP : va_P D vwCl (WT ca cq xq (kdC C) (fsC C) (snC C) ak (nI (C 0)) (nI (C 37)) (nI (C 38)) (fI (C 39)) (nI (C 40)) (lN (C 66)) (nI (C 41)) tb_ va fy cn an sw sb sv) H := hP
                    have hD : va_D A (WT ca cq xq (kdC C) (fsC C) (snC C) ak (nI (C 0)) (nI (C 37)) (nI (C 38)) (fI (C 39)) (nI (C 40)) (lN (C 66)) (nI (C 41)) tb_ va fy cn an sw sb sv) := hD
                    have hp_140 : r_14 = bI (bit64 (Y_ (hdN Y_ o_ (2 * (6 + C 0)) - 1)) t) := hq_140
                    clear hq_140
                    obtain rfl := hp_140
                    refine nv_ifb_eq (tgt := 181) hx hb dX1_canShow_143 (by decide) (fun c_143 => ?_) (fun c_143 => ?_)
                    · skip
                      refine lv_iinc (v := nI (t + 1)) (lv' := [(5, .int (nI (t + 1))), (4, .int (nI (hdN Y_ o_ (2 * (6 + C 0)) - 1))), (0, .ref (xq 0)), (1, .long (lN o_)), (3, .int (nI m_))]) hx hb dX1_canShow_181 hl (k := 0) rfl (nI_add t 1) (by decide) rfl (fun ls hl => ?_)
                      refine lv_goto (tgt := 124) hx hb dX1_canShow_184 (by decide) ?_
                      exact ih_124  (t + 1) (by omega) (by omega) (cs_s hcs (fun q_ => by first | exact absurd ((cvB_iff.mpr q_.2.2).symm.trans c_176) (by decide) | exact absurd (c_153.symm.trans q_.2.1) (by decide) | exact absurd (((hXY t _ (by omega) (by omega)).symm.trans c_143).symm.trans q_.1) (by decide))) _ _ hP hD hS ls (lv_sub hl [0, 1, 2, 3, 4] rfl)
                    · skip
                      refine lv_aload_n hx hb dX1_canShow_146 rfl (lv_at hl 2 rfl) ?_
                      refine lv_iload hx hb dX1_canShow_147 (lv_at hl 0 rfl) ?_
                      refine lv_lload_n hx hb dX1_canShow_149 rfl (lv_at hl 3 rfl) ?_
                      refine xc_i (xr_V (b := xq 0) (ci := 0) (q0 := 5) (As := [.int (nI t), .long (lN o_)]) (rest := []) (mt_X1_isWeaker l D ca cq xq (kdC C) (fsC C) (snC C) ak (nI (C 0)) (nI (C 37)) (nI (C 38)) (fI (C 39)) (nI (C 40)) (lN (C 66)) (nI (C 41)) tb_ va fy cn an sw sb sv X_ t o_ hsb (by omega) ho36 H.size) ⟨hx, hb, hml, hown, hts⟩ (cwV 2 hts (lw_V q1067 q1069 qs23 q79 q1070) rfl rfl rfl (by decide +kernel) ⟨Nat.le_of_ble_eq_true rfl, Nat.le_of_ble_eq_true rfl⟩) EvX_ok hE hK hS (Cut.all hP hD hS hA) rfl rfl rfl hl.1 rfl (Nat.le_of_ble_eq_true rfl) dX1_canShow_150 ⟨Nat.le_of_ble_eq_true rfl, Nat.le_of_ble_eq_true rfl⟩) hS (Cut.all hP hD hS hA) (fun r_17 u_18 H locs hq_150 hP hD hS => ?_)
                      have hP : va_P D vwCl (WT ca cq xq (kdC C) (fsC C) (snC C) ak (nI (C 0)) (nI (C 37)) (nI (C 38)) (fI (C 39)) (nI (C 40)) (lN (C 66)) (nI (C 41)) tb_ va fy cn an sw sb sv) H := hP
                      have hD : va_D A (WT ca cq xq (kdC C) (fsC C) (snC C) ak (nI (C 0)) (nI (C 37)) (nI (C 38)) (fI (C 39)) (nI (C 40)) (lN (C 66)) (nI (C 41)) tb_ va fy cn an sw sb sv) := hD
                      have hp_150 : r_17 = bI (wkN X_ o_ t 64) := hq_150
                      clear hq_150
                      obtain rfl := hp_150
                      refine nv_ifb_ne (tgt := 181) hx hb dX1_canShow_153 (by decide) (fun c_153 => ?_) (fun c_153 => ?_)
                      · skip
                        refine lv_iinc (v := nI (t + 1)) (lv' := [(5, .int (nI (t + 1))), (4, .int (nI (hdN Y_ o_ (2 * (6 + C 0)) - 1))), (0, .ref (xq 0)), (1, .long (lN o_)), (3, .int (nI m_))]) hx hb dX1_canShow_181 hl (k := 0) rfl (nI_add t 1) (by decide) rfl (fun ls hl => ?_)
                        refine lv_goto (tgt := 124) hx hb dX1_canShow_184 (by decide) ?_
                        exact ih_124  (t + 1) (by omega) (by omega) (cs_s hcs (fun q_ => by first | exact absurd ((cvB_iff.mpr q_.2.2).symm.trans c_176) (by decide) | exact absurd (c_153.symm.trans q_.2.1) (by decide) | exact absurd (((hXY t _ (by omega) (by omega)).symm.trans c_143).symm.trans q_.1) (by decide))) _ _ hP hD hS ls (lv_sub hl [0, 1, 2, 3, 4] rfl)
                      · skip
                        refine lv_aload_n hx hb dX1_canShow_156 rfl (lv_at hl 2 rfl) ?_
                        refine lv_lload_n hx hb dX1_canShow_157 rfl (lv_at hl 3 rfl) ?_
                        refine lv_aload_n hx hb dX1_canShow_158 rfl (lv_at hl 2 rfl) ?_
                        refine gWT_5_shownBy_X1 hx hb hts hown hK hP dX1_canShow_159 ?_
                        refine lv_iload hx hb dX1_canShow_162 (lv_at hl 0 rfl) ?_
                        refine ldWT_12 hx hb hK hP (by omega) dX1_canShow_164 ?_
                        refine lv_topl (nm_r (e' := lN (X_ t)) (hsb t (by omega)) ?_)
                        refine lv_ldc2 (v := (-1)) hx hb hown (hts _ q476) dX1_canShow_165 ?_
                        refine lv_lxor hx hb dX1_canShow_168 ?_
                        refine lv_land hx hb dX1_canShow_169 ?_
                        refine lv_topl (nm_r (e' := lN (adN o_ (X_ t))) (lN_adn) ?_)
                        refine lv_iload_n hx hb dX1_canShow_170 rfl (lv_at hl 4 rfl) ?_
                        refine lv_iconst (v := nI 1) hx hb dX1_canShow_171 (by decide) ?_
                        refine nv_isub hx hb dX1_canShow_172 (by omega) ?_
                        refine xc_i (xr_V (b := xq 0) (ci := 0) (q0 := 5) (As := [.long (lN (adN o_ (X_ t))), .int (nI (m_ - 1))]) (rest := []) (mt_X1_canShow_d4 l D ca cq xq ak tb_ va fy cn an sw sb sv C X_ Y_ (adN o_ (X_ t)) (m_ - 1) h0 hsb hsw hXY (adN_le2 hoN) (by omega) H.size) ⟨hx, hb, hml, hown, hts⟩ (cwV 2 hts (lw_V q1063 q1065 qs22 q79 q1066) rfl rfl rfl (by decide +kernel) ⟨Nat.le_of_ble_eq_true rfl, Nat.le_of_ble_eq_true rfl⟩) EvX_ok hE hK hS (Cut.all hP hD hS hA) rfl rfl rfl hl.1 rfl (Nat.le_of_ble_eq_true rfl) dX1_canShow_173 ⟨Nat.le_of_ble_eq_true rfl, Nat.le_of_ble_eq_true rfl⟩) hS (Cut.all hP hD hS hA) (fun r_20 u_21 H locs hq_173 hP hD hS => ?_)
                        have hP : va_P D vwCl (WT ca cq xq (kdC C) (fsC C) (snC C) ak (nI (C 0)) (nI (C 37)) (nI (C 38)) (fI (C 39)) (nI (C 40)) (lN (C 66)) (nI (C 41)) tb_ va fy cn an sw sb sv) H := hP
                        have hD : va_D A (WT ca cq xq (kdC C) (fsC C) (snC C) ak (nI (C 0)) (nI (C 37)) (nI (C 38)) (fI (C 39)) (nI (C 40)) (lN (C 66)) (nI (C 41)) tb_ va fy cn an sw sb sv) := hD
                        have hp_173 : r_20 = bI (cvB X_ (m_ - 1) (adN o_ (X_ t))) := hq_173
                        clear hq_173
                        obtain rfl := hp_173
                        refine nv_ifb_eq (tgt := 181) hx hb dX1_canShow_176 (by decide) (fun c_176 => ?_) (fun c_176 => ?_)
                        · skip
                          refine lv_iinc (v := nI (t + 1)) (lv' := [(5, .int (nI (t + 1))), (4, .int (nI (hdN Y_ o_ (2 * (6 + C 0)) - 1))), (0, .ref (xq 0)), (1, .long (lN o_)), (3, .int (nI m_))]) hx hb dX1_canShow_181 hl (k := 0) rfl (nI_add t 1) (by decide) rfl (fun ls hl => ?_)
                          refine lv_goto (tgt := 124) hx hb dX1_canShow_184 (by decide) ?_
                          exact ih_124  (t + 1) (by omega) (by omega) (cs_s hcs (fun q_ => by first | exact absurd ((cvB_iff.mpr q_.2.2).symm.trans c_176) (by decide) | exact absurd (c_153.symm.trans q_.2.1) (by decide) | exact absurd (((hXY t _ (by omega) (by omega)).symm.trans c_143).symm.trans q_.1) (by decide))) _ _ hP hD hS ls (lv_sub hl [0, 1, 2, 3, 4] rfl)
                        · skip
                          refine lv_iconst (v := nI 1) hx hb dX1_canShow_179 (by decide) ?_
                          subst hQQ
                          refine (xe_z (b := true) () hx hb hr hlocks hK hP hD hS (congrArg bI (cs_hit ho36 hWb c_9 (by omega) (by rw [← hXY t _ (by omega) (by omega)]; exact c_143) c_153 c_176)) dX1_canShow_180)
              exact lp_124 (64 - 0 + 1) 0 (Nat.lt_succ_self _) (by omega) (fun t_ h_ => absurd h_ (Nat.not_lt_zero t_)) _ _ hP hD hS ls (lv_sub hl [0, 1, 2, 3, 4] rfl)
            · skip
              refine lv_lload_n hx hb dX1_canShow_56 rfl (lv_at hl 3 rfl) ?_
              refine lv_iload hx hb dX1_canShow_57 (lv_at hl 0 rfl) ?_
              refine xc_i (xr_S (As := [.long (lN o_), .int (nI n)]) (rest := []) (mt_X1_isIn_2 l D ca (lN o_) n (by first | assumption | omega | (simp only [updN, forgetC, changedC]; (repeat' split) <;> omega)) H.size) ⟨hx, hb, hml, hown, hts⟩ (va_cwS 2 hts (lw_S q478 q479 q79 q480) rfl rfl rfl (by decide +kernel) ⟨Nat.le_of_ble_eq_true rfl, Nat.le_of_ble_eq_true rfl⟩) Ev0_ok trivial hK hS (Cut.app (wc := []) (wr := (WT ca cq xq (kdC C) (fsC C) (snC C) ak (nI (C 0)) (nI (C 37)) (nI (C 38)) (fI (C 39)) (nI (C 40)) (lN (C 66)) (nI (C 41)) tb_ va fy cn an sw sb sv)) hP hD hS hA) rfl hl.1 rfl (Nat.le_of_ble_eq_true rfl) dX1_canShow_59 ⟨Nat.le_of_ble_eq_true rfl, Nat.le_of_ble_eq_true rfl⟩) hS (Cut.app (wc := []) (wr := (WT ca cq xq (kdC C) (fsC C) (snC C) ak (nI (C 0)) (nI (C 37)) (nI (C 38)) (fI (C 39)) (nI (C 40)) (lN (C 66)) (nI (C 41)) tb_ va fy cn an sw sb sv)) hP hD hS hA) (fun r_23 u_24 H locs hq_59 hP hD hS => ?_)
              have hP : va_P D vwCl (WT ca cq xq (kdC C) (fsC C) (snC C) ak (nI (C 0)) (nI (C 37)) (nI (C 38)) (fI (C 39)) (nI (C 40)) (lN (C 66)) (nI (C 41)) tb_ va fy cn an sw sb sv) H := hP
              have hD : va_D A (WT ca cq xq (kdC C) (fsC C) (snC C) ak (nI (C 0)) (nI (C 37)) (nI (C 38)) (fI (C 39)) (nI (C 40)) (lN (C 66)) (nI (C 41)) tb_ va fy cn an sw sb sv) := hD
              have hp_59 : r_23 = bI (bit64 (lN o_) n) := hq_59
              clear hq_59
              obtain rfl := hp_59
              refine nv_ifb_eq (tgt := 98) hx hb dX1_canShow_62 (by decide) (fun c_62 => ?_) (fun c_62 => ?_)
              · skip
                refine lv_iconst (v := nI 0) hx hb dX1_canShow_98 (by decide) ?_
                refine lv_istore (lv' := [(6, .int (nI 0)), (5, .int (nI n)), (4, .int (fI (hdN Y_ o_ n))), (0, .ref (xq 0)), (1, .long (lN o_)), (3, .int (nI m_))]) hx hb dX1_canShow_99 hl (by decide) rfl (fun ls hl => ?_)
                refine lv_iload hx hb dX1_canShow_101 (lv_at hl 0 rfl) ?_
                refine nv_if_eq (tgt := 111) hx hb dX1_canShow_103 (by decide) (by omega) (fun c_103 => ?_) (fun c_103 => absurd c_103 (by decide))
                refine lv_iload hx hb dX1_canShow_111 (lv_at hl 2 rfl) ?_
                refine lv_istore (lv' := [(4, .int (fI (hdN Y_ o_ n))), (6, .int (nI 0)), (5, .int (nI n)), (0, .ref (xq 0)), (1, .long (lN o_)), (3, .int (nI m_))]) hx hb dX1_canShow_113 hl (by decide) rfl (fun ls hl => ?_)
                refine lv_iinc (v := nI (n + 1)) (lv' := [(5, .int (nI (n + 1))), (4, .int (fI (hdN Y_ o_ n))), (6, .int (nI 0)), (0, .ref (xq 0)), (1, .long (lN o_)), (3, .int (nI m_))]) hx hb dX1_canShow_115 hl (k := 2) rfl (nI_add n 1) (by decide) rfl (fun ls hl => ?_)
                refine lv_goto (tgt := 44) hx hb dX1_canShow_118 (by decide) ?_
                have hl : lv_has ls 7 [(5, .int (nI (n + 1))), (4, .int (fI (hdN Y_ o_ (n + 1)))), (6, .int (nI 0)), (0, .ref (xq 0)), (1, .long (lN o_)), (3, .int (nI m_))] := (congrArg (fun x_ => lv_has ls 7 [(5, .int (nI (n + 1))), (4, .int x_), (6, .int (nI 0)), (0, .ref (xq 0)), (1, .long (lN o_)), (3, .int (nI m_))]) (show fI (hdN Y_ o_ n) = fI (hdN Y_ o_ (n + 1)) from congrArg fI (by first | exact (hd_n1 c_62 (by omega)).symm | exact (hd_n2 c_68 c_91).symm))).mp hl
                exact ih_44  (n + 1) (by omega) (by omega) _ _ hP hD hS ls (lv_sub hl [0, 1, 3, 4, 5] rfl)
              · skip
                refine lv_iload hx hb dX1_canShow_65 (lv_at hl 1 rfl) ?_
                refine lv_iconst (v := fI 0) hx hb dX1_canShow_67 (by decide) ?_
                refine nv_icmp_eqf (tgt := 94) hx hb dX1_canShow_68 (by decide) (by have := @hdN_le Y_ o_ n; omega) (fun c_68 => ?_) (fun c_68 => ?_)
                · skip
                  refine lv_iconst (v := nI 1) hx hb dX1_canShow_94 (by decide) ?_
                  refine lv_goto (tgt := 99) hx hb dX1_canShow_95 (by decide) ?_
                  refine lv_istore (lv' := [(6, .int (nI 1)), (5, .int (nI n)), (4, .int (fI (hdN Y_ o_ n))), (0, .ref (xq 0)), (1, .long (lN o_)), (3, .int (nI m_))]) hx hb dX1_canShow_99 hl (by decide) rfl (fun ls hl => ?_)
                  refine lv_iload hx hb dX1_canShow_101 (lv_at hl 0 rfl) ?_
                  refine nv_if_eq (tgt := 111) hx hb dX1_canShow_103 (by decide) (by omega) (fun c_103 => absurd c_103 (by decide)) (fun c_103 => ?_)
                  refine lv_iload hx hb dX1_canShow_106 (lv_at hl 1 rfl) ?_
                  refine lv_goto (tgt := 113) hx hb dX1_canShow_108 (by decide) ?_
                  refine lv_istore (lv' := [(4, .int (nI n)), (6, .int (nI 1)), (5, .int (nI n)), (0, .ref (xq 0)), (1, .long (lN o_)), (3, .int (nI m_))]) hx hb dX1_canShow_113 hl (by decide) rfl (fun ls hl => ?_)
                  refine lv_iinc (v := nI (n + 1)) (lv' := [(5, .int (nI (n + 1))), (4, .int (nI n)), (6, .int (nI 1)), (0, .ref (xq 0)), (1, .long (lN o_)), (3, .int (nI m_))]) hx hb dX1_canShow_115 hl (k := 2) rfl (nI_add n 1) (by decide) rfl (fun ls hl => ?_)
                  refine lv_goto (tgt := 44) hx hb dX1_canShow_118 (by decide) ?_
                  have hl : lv_has ls 7 [(5, .int (nI (n + 1))), (4, .int (fI (hdN Y_ o_ (n + 1)))), (6, .int (nI 1)), (0, .ref (xq 0)), (1, .long (lN o_)), (3, .int (nI m_))] := (congrArg (fun x_ => lv_has ls 7 [(5, .int (nI (n + 1))), (4, .int x_), (6, .int (nI 1)), (0, .ref (xq 0)), (1, .long (lN o_)), (3, .int (nI m_))]) (show nI n = fI (hdN Y_ o_ (n + 1)) from (fI_S n).trans (congrArg fI (hd_y c_62 (by omega) (by first | exact Or.inl c_68 | exact Or.inr c_91)).symm))).mp hl
                  exact ih_44  (n + 1) (by omega) (by omega) _ _ hP hD hS ls (lv_sub hl [0, 1, 3, 4, 5] rfl)
                · skip
                  refine lv_aload_n hx hb dX1_canShow_71 rfl (lv_at hl 2 rfl) ?_
                  refine gWT_5_shown_X1 hx hb hts hown hK hP dX1_canShow_72 ?_
                  refine lv_iload hx hb dX1_canShow_75 (lv_at hl 0 rfl) ?_
                  refine ldWT_11 hx hb hK hP (by omega) dX1_canShow_77 ?_
                  refine lv_topl (nm_r (e' := Y_ n) (hsw n (by omega)) ?_)
                  refine xc_i (xr_S (As := [.long (Y_ n)]) (rest := []) (mt_J16_bitCount_r l D ca (Y_ n)  H.size) ⟨hx, hb, hml, hown, hts⟩ (va_cwS 1 hts (lw_S q485 q486 q100 q487) rfl rfl rfl (by decide +kernel) ⟨Nat.le_of_ble_eq_true rfl, Nat.le_of_ble_eq_true rfl⟩) Ev0_ok trivial hK hS (Cut.app (wc := []) (wr := (WT ca cq xq (kdC C) (fsC C) (snC C) ak (nI (C 0)) (nI (C 37)) (nI (C 38)) (fI (C 39)) (nI (C 40)) (lN (C 66)) (nI (C 41)) tb_ va fy cn an sw sb sv)) hP hD hS hA) rfl hl.1 rfl (Nat.le_of_ble_eq_true rfl) dX1_canShow_78 ⟨Nat.le_of_ble_eq_true rfl, Nat.le_of_ble_eq_true rfl⟩) hS (Cut.app (wc := []) (wr := (WT ca cq xq (kdC C) (fsC C) (snC C) ak (nI (C 0)) (nI (C 37)) (nI (C 38)) (fI (C 39)) (nI (C 40)) (lN (C 66)) (nI (C 41)) tb_ va fy cn an sw sb sv)) hP hD hS hA) (fun r_27 u_28 H locs hq_78 hP hD hS => ?_)
                  have hP : va_P D vwCl (WT ca cq xq (kdC C) (fsC C) (snC C) ak (nI (C 0)) (nI (C 37)) (nI (C 38)) (fI (C 39)) (nI (C 40)) (lN (C 66)) (nI (C 41)) tb_ va fy cn an sw sb sv) H := hP
                  have hD : va_D A (WT ca cq xq (kdC C) (fsC C) (snC C) ak (nI (C 0)) (nI (C 37)) (nI (C 38)) (fI (C 39)) (nI (C 40)) (lN (C 66)) (nI (C 41)) tb_ va fy cn an sw sb sv) := hD
                  have hp_78 : r_27 = nI (popl 64 (Y_ n)) := hq_78
                  clear hq_78
                  obtain rfl := hp_78
                  refine lv_aload_n hx hb dX1_canShow_81 rfl (lv_at hl 2 rfl) ?_
                  refine gWT_5_shown_X1 hx hb hts hown hK hP dX1_canShow_82 ?_
                  refine lv_iload hx hb dX1_canShow_85 (lv_at hl 1 rfl) ?_
                  refine lv_topi (nm_r (e' := nI (hdN Y_ o_ n - 1)) (fI_pos c_68) ?_)
                  refine ldWT_11 hx hb hK hP (by have := @hdN_le Y_ o_ n; omega) dX1_canShow_87 ?_
                  refine lv_topl (nm_r (e' := Y_ (hdN Y_ o_ n - 1)) (hsw _ (by have := @hdN_le Y_ o_ n; omega)) ?_)
                  refine xc_i (xr_S (As := [.long (Y_ (hdN Y_ o_ n - 1))]) (rest := [.int (nI (popl 64 (Y_ n)))]) (mt_J16_bitCount_r l D ca (Y_ (hdN Y_ o_ n - 1))  H.size) ⟨hx, hb, hml, hown, hts⟩ (va_cwS 1 hts (lw_S q485 q486 q100 q487) rfl rfl rfl (by decide +kernel) ⟨Nat.le_of_ble_eq_true rfl, Nat.le_of_ble_eq_true rfl⟩) Ev0_ok trivial hK hS (Cut.app (wc := []) (wr := (WT ca cq xq (kdC C) (fsC C) (snC C) ak (nI (C 0)) (nI (C 37)) (nI (C 38)) (fI (C 39)) (nI (C 40)) (lN (C 66)) (nI (C 41)) tb_ va fy cn an sw sb sv)) hP hD hS hA) rfl hl.1 rfl (Nat.le_of_ble_eq_true rfl) dX1_canShow_88 ⟨Nat.le_of_ble_eq_true rfl, Nat.le_of_ble_eq_true rfl⟩) hS (Cut.app (wc := []) (wr := (WT ca cq xq (kdC C) (fsC C) (snC C) ak (nI (C 0)) (nI (C 37)) (nI (C 38)) (fI (C 39)) (nI (C 40)) (lN (C 66)) (nI (C 41)) tb_ va fy cn an sw sb sv)) hP hD hS hA) (fun r_29 u_30 H locs hq_88 hP hD hS => ?_)
                  have hP : va_P D vwCl (WT ca cq xq (kdC C) (fsC C) (snC C) ak (nI (C 0)) (nI (C 37)) (nI (C 38)) (fI (C 39)) (nI (C 40)) (lN (C 66)) (nI (C 41)) tb_ va fy cn an sw sb sv) H := hP
                  have hD : va_D A (WT ca cq xq (kdC C) (fsC C) (snC C) ak (nI (C 0)) (nI (C 37)) (nI (C 38)) (fI (C 39)) (nI (C 40)) (lN (C 66)) (nI (C 41)) tb_ va fy cn an sw sb sv) := hD
                  have hp_88 : r_29 = nI (popl 64 (Y_ (hdN Y_ o_ n - 1))) := hq_88
                  clear hq_88
                  obtain rfl := hp_88
                  refine nv_icmp_ge (tgt := 98) hx hb dX1_canShow_91 (by decide) (by have := popl_le 64 (Y_ n); omega) (by have := popl_le 64 (Y_ (hdN Y_ o_ n - 1)); omega) (fun c_91 => ?_) (fun c_91 => ?_)
                  · skip
                    refine lv_iconst (v := nI 0) hx hb dX1_canShow_98 (by decide) ?_
                    refine lv_istore (lv' := [(6, .int (nI 0)), (5, .int (nI n)), (4, .int (fI (hdN Y_ o_ n))), (0, .ref (xq 0)), (1, .long (lN o_)), (3, .int (nI m_))]) hx hb dX1_canShow_99 hl (by decide) rfl (fun ls hl => ?_)
                    refine lv_iload hx hb dX1_canShow_101 (lv_at hl 0 rfl) ?_
                    refine nv_if_eq (tgt := 111) hx hb dX1_canShow_103 (by decide) (by omega) (fun c_103 => ?_) (fun c_103 => absurd c_103 (by decide))
                    refine lv_iload hx hb dX1_canShow_111 (lv_at hl 2 rfl) ?_
                    refine lv_istore (lv' := [(4, .int (fI (hdN Y_ o_ n))), (6, .int (nI 0)), (5, .int (nI n)), (0, .ref (xq 0)), (1, .long (lN o_)), (3, .int (nI m_))]) hx hb dX1_canShow_113 hl (by decide) rfl (fun ls hl => ?_)
                    refine lv_iinc (v := nI (n + 1)) (lv' := [(5, .int (nI (n + 1))), (4, .int (fI (hdN Y_ o_ n))), (6, .int (nI 0)), (0, .ref (xq 0)), (1, .long (lN o_)), (3, .int (nI m_))]) hx hb dX1_canShow_115 hl (k := 2) rfl (nI_add n 1) (by decide) rfl (fun ls hl => ?_)
                    refine lv_goto (tgt := 44) hx hb dX1_canShow_118 (by decide) ?_
                    have hl : lv_has ls 7 [(5, .int (nI (n + 1))), (4, .int (fI (hdN Y_ o_ (n + 1)))), (6, .int (nI 0)), (0, .ref (xq 0)), (1, .long (lN o_)), (3, .int (nI m_))] := (congrArg (fun x_ => lv_has ls 7 [(5, .int (nI (n + 1))), (4, .int x_), (6, .int (nI 0)), (0, .ref (xq 0)), (1, .long (lN o_)), (3, .int (nI m_))]) (show fI (hdN Y_ o_ n) = fI (hdN Y_ o_ (n + 1)) from congrArg fI (by first | exact (hd_n1 c_62 (by omega)).symm | exact (hd_n2 c_68 c_91).symm))).mp hl
                    exact ih_44  (n + 1) (by omega) (by omega) _ _ hP hD hS ls (lv_sub hl [0, 1, 3, 4, 5] rfl)
                  · skip
                    refine lv_iconst (v := nI 1) hx hb dX1_canShow_94 (by decide) ?_
                    refine lv_goto (tgt := 99) hx hb dX1_canShow_95 (by decide) ?_
                    refine lv_istore (lv' := [(6, .int (nI 1)), (5, .int (nI n)), (4, .int (fI (hdN Y_ o_ n))), (0, .ref (xq 0)), (1, .long (lN o_)), (3, .int (nI m_))]) hx hb dX1_canShow_99 hl (by decide) rfl (fun ls hl => ?_)
                    refine lv_iload hx hb dX1_canShow_101 (lv_at hl 0 rfl) ?_
                    refine nv_if_eq (tgt := 111) hx hb dX1_canShow_103 (by decide) (by omega) (fun c_103 => absurd c_103 (by decide)) (fun c_103 => ?_)
                    refine lv_iload hx hb dX1_canShow_106 (lv_at hl 1 rfl) ?_
                    refine lv_goto (tgt := 113) hx hb dX1_canShow_108 (by decide) ?_
                    refine lv_istore (lv' := [(4, .int (nI n)), (6, .int (nI 1)), (5, .int (nI n)), (0, .ref (xq 0)), (1, .long (lN o_)), (3, .int (nI m_))]) hx hb dX1_canShow_113 hl (by decide) rfl (fun ls hl => ?_)
                    refine lv_iinc (v := nI (n + 1)) (lv' := [(5, .int (nI (n + 1))), (4, .int (nI n)), (6, .int (nI 1)), (0, .ref (xq 0)), (1, .long (lN o_)), (3, .int (nI m_))]) hx hb dX1_canShow_115 hl (k := 2) rfl (nI_add n 1) (by decide) rfl (fun ls hl => ?_)
                    refine lv_goto (tgt := 44) hx hb dX1_canShow_118 (by decide) ?_
                    have hl : lv_has ls 7 [(5, .int (nI (n + 1))), (4, .int (fI (hdN Y_ o_ (n + 1)))), (6, .int (nI 1)), (0, .ref (xq 0)), (1, .long (lN o_)), (3, .int (nI m_))] := (congrArg (fun x_ => lv_has ls 7 [(5, .int (nI (n + 1))), (4, .int x_), (6, .int (nI 1)), (0, .ref (xq 0)), (1, .long (lN o_)), (3, .int (nI m_))]) (show nI n = fI (hdN Y_ o_ (n + 1)) from (fI_S n).trans (congrArg fI (hd_y c_62 (by omega) (by first | exact Or.inl c_68 | exact Or.inr c_91)).symm))).mp hl
                    exact ih_44  (n + 1) (by omega) (by omega) _ _ hP hD hS ls (lv_sub hl [0, 1, 3, 4, 5] rfl)
        have hl : lv_has ls 7 [(5, .int (nI 0)), (4, .int (fI (hdN Y_ o_ 0))), (0, .ref (xq 0)), (1, .long (lN o_)), (3, .int (nI m_))] := (congrArg (fun x_ => lv_has ls 7 [(5, .int (nI 0)), (4, .int x_), (0, .ref (xq 0)), (1, .long (lN o_)), (3, .int (nI m_))]) (show fI 0 = fI (hdN Y_ o_ 0) from rfl)).mp hl
        exact lp_44 (2 * (6 + C 0) - 0 + 1) 0 (Nat.lt_succ_self _) (by omega) _ _ hP hD hS ls (lv_sub hl [0, 1, 2, 3, 4] rfl)
      · skip
        refine lv_iconst (v := nI 0) hx hb dX1_canShow_36 (by decide) ?_
        subst hQQ
        refine (xe_z (b := false) () hx hb hr hlocks hK hP hD hS (congrArg bI (by first | exact (cvB_f (Cv_few c_33)).symm | exact (cvB_f (fun h_ => c_2 (by subst c_9; exact congrArg lN h_))).symm)) dX1_canShow_37)
  · skip
    refine lv_iconst (v := nI 1) hx hb dX1_canShow_6 (by decide) ?_
    subst hQQ
    refine (xe_z (b := true) () hx hb hr hlocks hK hP hD hS (congrArg bI (cvB_t (by rw [(lN_eq0 (by omega)).mp c_2]; exact Cv_0 _ _)).symm) dX1_canShow_7)
set_option maxHeartbeats 4000000 in
set_option maxRecDepth 100000 in
theorem mt_X1_canShow_d6 (l : Launch) (D : va_G) (ca : Nat → ClassId) (cq : Nat → Nat) (xq : Nat → Nat) (ak : Nat → Int32) (tb_ : Nat → Int64) (va : Nat → Int32) (fy : Nat → Int64) (cn : Nat → Int32) (an : Nat → Int32) (sw : Nat → Int64) (sb : Nat → Int64) (sv : Value) (C : Nat → Nat) (X_ : Nat → Nat) (Y_ : Nat → Int64) (o_ : Nat) (m_ : Nat) (h0 : C 0 ≤ 12) (hsb : ∀ t, t < 64 → sb t = lN (X_ t)) (hsw : ∀ f, f < 2 * (6 + C 0) → sw f = Y_ f) (hXY : ∀ t f, t < 64 → f < 2 * (6 + C 0) → bit64 (Y_ f) t = (X_ t).testBit f) (hoN : o_ < 2 ^ (2 * (6 + C 0))) (hm : m_ ≤ 6) (nn : Nat) : Met l yX1_canShow (ws_ yX1_canShow cX1_canShow 7 (Option.some Jvm.ClassFile.FieldType.boolean)) ({ frames := 7, cells := 0, slots := 0, locals := 175 } : Room) (va_Pc [.ref (xq 0), .long (lN o_), .int (nI m_)] (PreW EvX D vwCl (TY ca) (WT ca cq xq (kdC C) (fsC C) (snC C) ak (nI (C 0)) (nI (C 37)) (nI (C 38)) (fI (C 39)) (nI (C 40)) (lN (C 66)) (nI (C 41)) tb_ va fy cn an sw sb sv) nn)) (va_Qi (fun (r_ : Int32) (_ : Unit) => r_ = bI (cvB X_ m_ o_)) (PostW D vwCl (TY ca) (fun (_ : Unit) => (WT ca cq xq (kdC C) (fsC C) (snC C) ak (nI (C 0)) (nI (C 37)) (nI (C 38)) (fI (C 39)) (nI (C 40)) (lN (C 66)) (nI (C 41)) tb_ va fy cn an sw sb sv)) (va_A (WT ca cq xq (kdC C) (fsC C) (snC C) ak (nI (C 0)) (nI (C 37)) (nI (C 38)) (fI (C 39)) (nI (C 40)) (lN (C 66)) (nI (C 41)) tb_ va fy cn an sw sb sv) nn)) (va_A (WT ca cq xq (kdC C) (fsC C) (snC C) ak (nI (C 0)) (nI (C 37)) (nI (C 38)) (fI (C 39)) (nI (C 40)) (lN (C 66)) (nI (C 41)) tb_ va fy cn an sw sb sv) nn)) 0 0 (va_A (WT ca cq xq (kdC C) (fsC C) (snC C) ak (nI (C 0)) (nI (C 37)) (nI (C 38)) (fI (C 39)) (nI (C 40)) (lN (C 66)) (nI (C 41)) tb_ va fy cn an sw sb sv) nn) := by
  refine met_go (QA := fun A => va_Qi (fun (r_ : Int32) (_ : Unit) => r_ = bI (cvB X_ m_ o_)) (PostW D vwCl (TY ca) (fun (_ : Unit) => (WT ca cq xq (kdC C) (fsC C) (snC C) ak (nI (C 0)) (nI (C 37)) (nI (C 38)) (fI (C 39)) (nI (C 40)) (lN (C 66)) (nI (C 41)) tb_ va fy cn an sw sb sv)) A) A) (by decide) (Nat.le_of_ble_eq_true rfl) (fun p e s m below meth c A ls QQ hQQ hx hb hr hts hown hlocks hml hA hP hK hD hE hl => ?_)
  have hown : s.vm.findClass RX1 = some m.cls := hown
  have hS : va_S A s.heap s.heap [] := va_S.rf
  have hl : lv_has ls 7 [(0, .ref (xq 0)), (1, .long (lN o_)), (3, .int (nI m_))] := hl
  generalize hHe : s.heap = H at hP ⊢
  have hS : va_S A s.heap H [] := hHe ▸ hS
  generalize ([] : List Loc) = locs at hS ⊢
  have ho36 : o_ < 2 ^ 36 := Nat.lt_of_lt_of_le hoN (Nat.pow_le_pow_right (by decide) (by omega))
  refine lv_lload_n hx hb dX1_canShow_0 rfl (lv_at hl 1 rfl) ?_
  refine lv_lconst (v := lN 0) hx hb dX1_canShow_1 (by decide) ?_
  refine nv_lcmp_ne (tgt := 8) hx hb dX1_canShow_2 dX1_canShow_3 (by decide) (fun c_2 => ?_) (fun c_2 => ?_)
  · skip
    refine lv_iload_n hx hb dX1_canShow_8 rfl (lv_at hl 2 rfl) ?_
    refine nv_if_eq (tgt := 36) hx hb dX1_canShow_9 (by decide) (by omega) (fun c_9 => ?_) (fun c_9 => ?_)
    · skip
      refine lv_iconst (v := nI 0) hx hb dX1_canShow_36 (by decide) ?_
      subst hQQ
      refine (xe_z (b := false) () hx hb hr hlocks hK hP hD hS (congrArg bI (by first | exact (cvB_f (Cv_few c_33)).symm | exact (cvB_f (fun h_ => c_2 (by subst c_9; exact congrArg lN h_))).symm)) dX1_canShow_37)
    · skip
      refine lv_iload_n hx hb dX1_canShow_12 rfl (lv_at hl 2 rfl) ?_
      refine lv_aload_n hx hb dX1_canShow_13 rfl (lv_at hl 0 rfl) ?_
      refine gWT_5_shownBy_X1 hx hb hts hown hK hP dX1_canShow_14 ?_
      refine lv_aload_n hx hb dX1_canShow_17 rfl (lv_at hl 0 rfl) ?_
      refine lv_lload_n hx hb dX1_canShow_18 rfl (lv_at hl 1 rfl) ?_
      refine xc_i (xr_V (b := xq 0) (ci := 0) (q0 := 5) (As := [.long (lN o_)]) (rest := [.ref (xq 7), .int (nI m_)]) (mt_X1_strongest l D ca cq xq (kdC C) (fsC C) (snC C) ak (nI (C 0)) (nI (C 37)) (nI (C 38)) (fI (C 39)) (nI (C 40)) (lN (C 66)) (nI (C 41)) tb_ va fy cn an sw sb sv X_ o_ hsb H.size) ⟨hx, hb, hml, hown, hts⟩ (cwV 1 hts (lw_V q481 q483 qs10 q79 q484) rfl rfl rfl (by decide +kernel) ⟨Nat.le_of_ble_eq_true rfl, Nat.le_of_ble_eq_true rfl⟩) EvX_ok hE hK hS (Cut.all hP hD hS hA) rfl rfl rfl hl.1 rfl (Nat.le_of_ble_eq_true rfl) dX1_canShow_19 ⟨Nat.le_of_ble_eq_true rfl, Nat.le_of_ble_eq_true rfl⟩) hS (Cut.all hP hD hS hA) (fun r_3 u_4 H locs hq_19 hP hD hS => ?_)
      have hP : va_P D vwCl (WT ca cq xq (kdC C) (fsC C) (snC C) ak (nI (C 0)) (nI (C 37)) (nI (C 38)) (fI (C 39)) (nI (C 40)) (lN (C 66)) (nI (C 41)) tb_ va fy cn an sw sb sv) H := hP
      have hD : va_D A (WT ca cq xq (kdC C) (fsC C) (snC C) ak (nI (C 0)) (nI (C 37)) (nI (C 38)) (fI (C 39)) (nI (C 40)) (lN (C 66)) (nI (C 41)) tb_ va fy cn an sw sb sv) := hD
      have hp_19 : r_3 = nI (stg X_ o_) := hq_19
      clear hq_19
      obtain rfl := hp_19
      refine ldWT_12 hx hb hK hP (stg_lt _ _) dX1_canShow_22 ?_
      refine lv_topl (nm_r (e' := lN (X_ (stg X_ o_))) (hsb _ (stg_lt _ _)) ?_)
      refine lv_lload_n hx hb dX1_canShow_23 rfl (lv_at hl 1 rfl) ?_
      refine lv_land hx hb dX1_canShow_24 (lv_topl (nm_r (e' := lN ((X_ (stg X_ o_)) &&& o_)) (klN_and (X_ (stg X_ o_)) o_) ?_))
      refine xc_i (xr_S (As := [.long (lN ((X_ (stg X_ o_)) &&& o_))]) (rest := [.int (nI m_)]) (mt_J16_bitCount_r l D ca (lN ((X_ (stg X_ o_)) &&& o_))  H.size) ⟨hx, hb, hml, hown, hts⟩ (va_cwS 1 hts (lw_S q485 q486 q100 q487) rfl rfl rfl (by decide +kernel) ⟨Nat.le_of_ble_eq_true rfl, Nat.le_of_ble_eq_true rfl⟩) Ev0_ok trivial hK hS (Cut.app (wc := []) (wr := (WT ca cq xq (kdC C) (fsC C) (snC C) ak (nI (C 0)) (nI (C 37)) (nI (C 38)) (fI (C 39)) (nI (C 40)) (lN (C 66)) (nI (C 41)) tb_ va fy cn an sw sb sv)) hP hD hS hA) rfl hl.1 rfl (Nat.le_of_ble_eq_true rfl) dX1_canShow_25 ⟨Nat.le_of_ble_eq_true rfl, Nat.le_of_ble_eq_true rfl⟩) hS (Cut.app (wc := []) (wr := (WT ca cq xq (kdC C) (fsC C) (snC C) ak (nI (C 0)) (nI (C 37)) (nI (C 38)) (fI (C 39)) (nI (C 40)) (lN (C 66)) (nI (C 41)) tb_ va fy cn an sw sb sv)) hP hD hS hA) (fun r_5 u_6 H locs hq_25 hP hD hS => ?_)
      have hP : va_P D vwCl (WT ca cq xq (kdC C) (fsC C) (snC C) ak (nI (C 0)) (nI (C 37)) (nI (C 38)) (fI (C 39)) (nI (C 40)) (lN (C 66)) (nI (C 41)) tb_ va fy cn an sw sb sv) H := hP
      have hD : va_D A (WT ca cq xq (kdC C) (fsC C) (snC C) ak (nI (C 0)) (nI (C 37)) (nI (C 38)) (fI (C 39)) (nI (C 40)) (lN (C 66)) (nI (C 41)) tb_ va fy cn an sw sb sv) := hD
      have hp_25 : r_5 = nI (popl 64 (lN ((X_ (stg X_ o_)) &&& o_))) := hq_25
      clear hq_25
      obtain rfl := hp_25
      refine nv_imul hx hb dX1_canShow_28 ?_
      refine lv_lload_n hx hb dX1_canShow_29 rfl (lv_at hl 1 rfl) ?_
      refine xc_i (xr_S (As := [.long (lN o_)]) (rest := [.int (nI (m_ * (popl 64 (lN ((X_ (stg X_ o_)) &&& o_)))))]) (mt_J16_bitCount_r l D ca (lN o_)  H.size) ⟨hx, hb, hml, hown, hts⟩ (va_cwS 1 hts (lw_S q485 q486 q100 q487) rfl rfl rfl (by decide +kernel) ⟨Nat.le_of_ble_eq_true rfl, Nat.le_of_ble_eq_true rfl⟩) Ev0_ok trivial hK hS (Cut.app (wc := []) (wr := (WT ca cq xq (kdC C) (fsC C) (snC C) ak (nI (C 0)) (nI (C 37)) (nI (C 38)) (fI (C 39)) (nI (C 40)) (lN (C 66)) (nI (C 41)) tb_ va fy cn an sw sb sv)) hP hD hS hA) rfl hl.1 rfl (Nat.le_of_ble_eq_true rfl) dX1_canShow_30 ⟨Nat.le_of_ble_eq_true rfl, Nat.le_of_ble_eq_true rfl⟩) hS (Cut.app (wc := []) (wr := (WT ca cq xq (kdC C) (fsC C) (snC C) ak (nI (C 0)) (nI (C 37)) (nI (C 38)) (fI (C 39)) (nI (C 40)) (lN (C 66)) (nI (C 41)) tb_ va fy cn an sw sb sv)) hP hD hS hA) (fun r_7 u_8 H locs hq_30 hP hD hS => ?_)
      have hP : va_P D vwCl (WT ca cq xq (kdC C) (fsC C) (snC C) ak (nI (C 0)) (nI (C 37)) (nI (C 38)) (fI (C 39)) (nI (C 40)) (lN (C 66)) (nI (C 41)) tb_ va fy cn an sw sb sv) H := hP
      have hD : va_D A (WT ca cq xq (kdC C) (fsC C) (snC C) ak (nI (C 0)) (nI (C 37)) (nI (C 38)) (fI (C 39)) (nI (C 40)) (lN (C 66)) (nI (C 41)) tb_ va fy cn an sw sb sv) := hD
      have hp_30 : r_7 = nI (popl 64 (lN o_)) := hq_30
      clear hq_30
      obtain rfl := hp_30
      refine nv_icmp_ge (tgt := 38) hx hb dX1_canShow_33 (by decide) (by have h1_ := popl_le 64 (lN (X_ (stg X_ o_) &&& o_)); have := Nat.mul_le_mul hm h1_; omega) (by have := popl_le 64 (lN o_); omega) (fun c_33 => ?_) (fun c_33 => ?_)
      · skip
        refine lv_iconst (v := fI 0) hx hb dX1_canShow_38 (by decide) ?_
        refine lv_istore (lv' := [(4, .int (fI 0)), (0, .ref (xq 0)), (1, .long (lN o_)), (3, .int (nI m_))]) hx hb dX1_canShow_39 hl (by decide) rfl (fun ls hl => ?_)
        refine lv_iconst (v := nI 0) hx hb dX1_canShow_41 (by decide) ?_
        refine lv_istore (lv' := [(5, .int (nI 0)), (4, .int (fI 0)), (0, .ref (xq 0)), (1, .long (lN o_)), (3, .int (nI m_))]) hx hb dX1_canShow_42 hl (by decide) rfl (fun ls hl => ?_)
        have lp_44 : ∀ (fu_44 : Nat) (n : Nat), 2 * (6 + C 0) - n < fu_44 → (n ≤ 2 * (6 + C 0)) → ∀ (H : Heap) (locs : List Loc), va_P D vwCl (WT ca cq xq (kdC C) (fsC C) (snC C) ak (nI (C 0)) (nI (C 37)) (nI (C 38)) (fI (C 39)) (nI (C 40)) (lN (C 66)) (nI (C 41)) tb_ va fy cn an sw sb sv) H → va_D A (WT ca cq xq (kdC C) (fsC C) (snC C) ak (nI (C 0)) (nI (C 37)) (nI (C 38)) (fI (C 39)) (nI (C 40)) (lN (C 66)) (nI (C 41)) tb_ va fy cn an sw sb sv) → va_S A s.heap H locs → ∀ (ls : Array Slot), lv_has ls 7 [(5, .int (nI n)), (4, .int (fI (hdN Y_ o_ n))), (0, .ref (xq 0)), (1, .long (lN o_)), (3, .int (nI m_))] → W p l e ({ frames := 7, cells := 0, slots := 0, locals := 175 } : Room) s m ([.ref (xq 0), .long (lN o_), .int (nI m_)] : List Value).toArray below meth c H locs 0 0 QQ (F0 m 44 ls []) := by
          intro fu_44
          induction fu_44 with
          | zero => intro n hfu; exact absurd hfu (Nat.not_lt_zero _)
          | succ fu_44 ih_44 =>
            intro n hfu hn H locs hP hD hS ls hl
            refine lv_iload hx hb dX1_canShow_44 (lv_at hl 0 rfl) ?_
            refine lv_aload_n hx hb dX1_canShow_46 rfl (lv_at hl 2 rfl) ?_
            refine gWT_5_circuit_X1 hx hb hts hown hK hP dX1_canShow_47 ?_
            refine xc_i (xr_V (b := cq 0) (ci := 1) (q0 := 0) (As := []) (rest := [.int (nI n)]) (mt_X2_faults l D ca cq (kdC C) (fsC C) (snC C) ak (nI (C 37)) (nI (C 38)) (fI (C 39)) (nI (C 40)) (lN (C 66)) (nI (C 41)) (C 0)  H.size) ⟨hx, hb, hml, hown, hts⟩ (cwV 0 hts (lw_V q439 q440 q441 q80 q442) rfl rfl rfl (by decide +kernel) ⟨Nat.le_of_ble_eq_true rfl, Nat.le_of_ble_eq_true rfl⟩) EvX_ok hE hK hS (Cut.app (wc := (WC ca cq (kdC C) (fsC C) (snC C) ak (nI (C 0)) (nI (C 37)) (nI (C 38)) (fI (C 39)) (nI (C 40)) (lN (C 66)) (nI (C 41)))) (wr := (WTr ca cq xq tb_ va fy cn an sw sb sv)) hP hD hS hA) rfl rfl rfl hl.1 rfl (Nat.le_of_ble_eq_true rfl) dX1_canShow_50 ⟨Nat.le_of_ble_eq_true rfl, Nat.le_of_ble_eq_true rfl⟩) hS (Cut.app (wc := (WC ca cq (kdC C) (fsC C) (snC C) ak (nI (C 0)) (nI (C 37)) (nI (C 38)) (fI (C 39)) (nI (C 40)) (lN (C 66)) (nI (C 41)))) (wr := (WTr ca cq xq tb_ va fy cn an sw sb sv)) hP hD hS hA) (fun r_10 u_11 H locs hq_50 hP hD hS => ?_)
            have hP : va_P D vwCl (WT ca cq xq (kdC C) (fsC C) (snC C) ak (nI (C 0)) (nI (C 37)) (nI (C 38)) (fI (C 39)) (nI (C 40)) (lN (C 66)) (nI (C 41)) tb_ va fy cn an sw sb sv) H := hP
            have hD : va_D A (WT ca cq xq (kdC C) (fsC C) (snC C) ak (nI (C 0)) (nI (C 37)) (nI (C 38)) (fI (C 39)) (nI (C 40)) (lN (C 66)) (nI (C 41)) tb_ va fy cn an sw sb sv) := hD
            have hp_50 : r_10 = nI (2 * (6 + (C 0))) := hq_50
            clear hq_50
            obtain rfl := hp_50
            refine nv_icmp_ge (tgt := 121) hx hb dX1_canShow_53 (by decide) (by omega) (by omega) (fun c_53 => ?_) (fun c_53 => ?_)
            · skip
              have e_ : 2 * (6 + C 0) = n := Eq.symm (by omega)
              subst e_
              obtain ⟨hW0, hWl, hWb⟩ := hdN_hit (Y := Y_) hoN (fun z => c_2 (by rw [z]))
              have hl : lv_has ls 7 [(5, .int (nI (2 * (6 + C 0)))), (4, .int (nI (hdN Y_ o_ (2 * (6 + C 0)) - 1))), (0, .ref (xq 0)), (1, .long (lN o_)), (3, .int (nI m_))] := (congrArg (fun x_ => lv_has ls 7 [(5, .int (nI (2 * (6 + C 0)))), (4, .int x_), (0, .ref (xq 0)), (1, .long (lN o_)), (3, .int (nI m_))]) (show fI (hdN Y_ o_ (2 * (6 + C 0))) = nI (hdN Y_ o_ (2 * (6 + C 0)) - 1) from fI_pos hW0)).mp hl
              refine lv_iconst (v := nI 0) hx hb dX1_canShow_121 (by decide) ?_
              refine lv_istore (lv' := [(5, .int (nI 0)), (4, .int (nI (hdN Y_ o_ (2 * (6 + C 0)) - 1))), (0, .ref (xq 0)), (1, .long (lN o_)), (3, .int (nI m_))]) hx hb dX1_canShow_122 hl (by decide) rfl (fun ls hl => ?_)
              have lp_124 : ∀ (fu_124 : Nat) (t : Nat), 64 - t < fu_124 → (t ≤ 64) → (csN X_ (m_ - 1) o_ (hdN Y_ o_ (2 * (6 + C 0)) - 1) t) → ∀ (H : Heap) (locs : List Loc), va_P D vwCl (WT ca cq xq (kdC C) (fsC C) (snC C) ak (nI (C 0)) (nI (C 37)) (nI (C 38)) (fI (C 39)) (nI (C 40)) (lN (C 66)) (nI (C 41)) tb_ va fy cn an sw sb sv) H → va_D A (WT ca cq xq (kdC C) (fsC C) (snC C) ak (nI (C 0)) (nI (C 37)) (nI (C 38)) (fI (C 39)) (nI (C 40)) (lN (C 66)) (nI (C 41)) tb_ va fy cn an sw sb sv) → va_S A s.heap H locs → ∀ (ls : Array Slot), lv_has ls 7 [(5, .int (nI t)), (4, .int (nI (hdN Y_ o_ (2 * (6 + C 0)) - 1))), (0, .ref (xq 0)), (1, .long (lN o_)), (3, .int (nI m_))] → W p l e ({ frames := 7, cells := 0, slots := 0, locals := 175 } : Room) s m ([.ref (xq 0), .long (lN o_), .int (nI m_)] : List Value).toArray below meth c H locs 0 0 QQ (F0 m 124 ls []) := by
                intro fu_124
                induction fu_124 with
                | zero => intro t hfu; exact absurd hfu (Nat.not_lt_zero _)
                | succ fu_124 ih_124 =>
                  intro t hfu ht_ hcs H locs hP hD hS ls hl
                  refine lv_iload hx hb dX1_canShow_124 (lv_at hl 0 rfl) ?_
                  refine lv_bipush (v := nI 64) hx hb dX1_canShow_126 (by decide) ?_
                  refine nv_icmp_ge (tgt := 187) hx hb dX1_canShow_128 (by decide) (by omega) (by omega) (fun c_128 => ?_) (fun c_128 => ?_)
                  · skip
                    have e_ : 64 = t := Eq.symm (by omega)
                    subst e_
                    refine lv_iconst (v := nI 0) hx hb dX1_canShow_187 (by decide) ?_
                    subst hQQ
                    refine (xe_z (b := false) () hx hb hr hlocks hK hP hD hS (congrArg bI (cs_end ho36 hWb c_9 hcs)) dX1_canShow_188)
                  · skip
                    refine lv_aload_n hx hb dX1_canShow_131 rfl (lv_at hl 2 rfl) ?_
                    refine gWT_5_shown_X1 hx hb hts hown hK hP dX1_canShow_132 ?_
                    refine lv_iload hx hb dX1_canShow_135 (lv_at hl 1 rfl) ?_
                    refine ldWT_11 hx hb hK hP (by omega) dX1_canShow_137 ?_
                    refine lv_topl (nm_r (e' := Y_ (hdN Y_ o_ (2 * (6 + C 0)) - 1)) (hsw _ (by omega)) ?_)
                    refine lv_iload hx hb dX1_canShow_138 (lv_at hl 0 rfl) ?_
                    refine xc_i (xr_S (As := [.long (Y_ (hdN Y_ o_ (2 * (6 + C 0)) - 1)), .int (nI t)]) (rest := []) (mt_X1_isIn_2 l D ca (Y_ (hdN Y_ o_ (2 * (6 + C 0)) - 1)) t (by first | assumption | omega | (simp only [updN, forgetC, changedC]; (repeat' split) <;> omega)) H.size) ⟨hx, hb, hml, hown, hts⟩ (va_cwS 2 hts (lw_S q478 q479 q79 q480) rfl rfl rfl (by decide +kernel) ⟨Nat.le_of_ble_eq_true rfl, Nat.le_of_ble_eq_true rfl⟩) Ev0_ok trivial hK hS (Cut.app (wc := []) (wr := (WT ca cq xq (kdC C) (fsC C) (snC C) ak (nI (C 0)) (nI (C 37)) (nI (C 38)) (fI (C 39)) (nI (C 40)) (lN (C 66)) (nI (C 41)) tb_ va fy cn an sw sb sv)) hP hD hS hA) rfl hl.1 rfl (Nat.le_of_ble_eq_true rfl) dX1_canShow_140 ⟨Nat.le_of_ble_eq_true rfl, Nat.le_of_ble_eq_true rfl⟩) hS (Cut.app (wc := []) (wr := (WT ca cq xq (kdC C) (fsC C) (snC C) ak (nI (C 0)) (nI (C 37)) (nI (C 38)) (fI (C 39)) (nI (C 40)) (lN (C 66)) (nI (C 41)) tb_ va fy cn an sw sb sv)) hP hD hS hA) (fun r_14 u_15 H locs hq_140 hP hD hS => ?_)
                    have hP : va_P D vwCl (WT ca cq xq (kdC C) (fsC C) (snC C) ak (nI (C 0)) (nI (C 37)) (nI (C 38)) (fI (C 39)) (nI (C 40)) (lN (C 66)) (nI (C 41)) tb_ va fy cn an sw sb sv) H := hP
                    have hD : va_D A (WT ca cq xq (kdC C) (fsC C) (snC C) ak (nI (C 0)) (nI (C 37)) (nI (C 38)) (fI (C 39)) (nI (C 40)) (lN (C 66)) (nI (C 41)) tb_ va fy cn an sw sb sv) := hD
                    have hp_140 : r_14 = bI (bit64 (Y_ (hdN Y_ o_ (2 * (6 + C 0)) - 1)) t) := hq_140
                    clear hq_140
                    obtain rfl := hp_140
                    refine nv_ifb_eq (tgt := 181) hx hb dX1_canShow_143 (by decide) (fun c_143 => ?_) (fun c_143 => ?_)
                    · skip
                      refine lv_iinc (v := nI (t + 1)) (lv' := [(5, .int (nI (t + 1))), (4, .int (nI (hdN Y_ o_ (2 * (6 + C 0)) - 1))), (0, .ref (xq 0)), (1, .long (lN o_)), (3, .int (nI m_))]) hx hb dX1_canShow_181 hl (k := 0) rfl (nI_add t 1) (by decide) rfl (fun ls hl => ?_)
                      refine lv_goto (tgt := 124) hx hb dX1_canShow_184 (by decide) ?_
                      exact ih_124  (t + 1) (by omega) (by omega) (cs_s hcs (fun q_ => by first | exact absurd ((cvB_iff.mpr q_.2.2).symm.trans c_176) (by decide) | exact absurd (c_153.symm.trans q_.2.1) (by decide) | exact absurd (((hXY t _ (by omega) (by omega)).symm.trans c_143).symm.trans q_.1) (by decide))) _ _ hP hD hS ls (lv_sub hl [0, 1, 2, 3, 4] rfl)
                    · skip
                      refine lv_aload_n hx hb dX1_canShow_146 rfl (lv_at hl 2 rfl) ?_
                      refine lv_iload hx hb dX1_canShow_147 (lv_at hl 0 rfl) ?_
                      refine lv_lload_n hx hb dX1_canShow_149 rfl (lv_at hl 3 rfl) ?_
                      refine xc_i (xr_V (b := xq 0) (ci := 0) (q0 := 5) (As := [.int (nI t), .long (lN o_)]) (rest := []) (mt_X1_isWeaker l D ca cq xq (kdC C) (fsC C) (snC C) ak (nI (C 0)) (nI (C 37)) (nI (C 38)) (fI (C 39)) (nI (C 40)) (lN (C 66)) (nI (C 41)) tb_ va fy cn an sw sb sv X_ t o_ hsb (by omega) ho36 H.size) ⟨hx, hb, hml, hown, hts⟩ (cwV 2 hts (lw_V q1067 q1069 qs23 q79 q1070) rfl rfl rfl (by decide +kernel) ⟨Nat.le_of_ble_eq_true rfl, Nat.le_of_ble_eq_true rfl⟩) EvX_ok hE hK hS (Cut.all hP hD hS hA) rfl rfl rfl hl.1 rfl (Nat.le_of_ble_eq_true rfl) dX1_canShow_150 ⟨Nat.le_of_ble_eq_true rfl, Nat.le_of_ble_eq_true rfl⟩) hS (Cut.all hP hD hS hA) (fun r_17 u_18 H locs hq_150 hP hD hS => ?_)
                      have hP : va_P D vwCl (WT ca cq xq (kdC C) (fsC C) (snC C) ak (nI (C 0)) (nI (C 37)) (nI (C 38)) (fI (C 39)) (nI (C 40)) (lN (C 66)) (nI (C 41)) tb_ va fy cn an sw sb sv) H := hP
                      have hD : va_D A (WT ca cq xq (kdC C) (fsC C) (snC C) ak (nI (C 0)) (nI (C 37)) (nI (C 38)) (fI (C 39)) (nI (C 40)) (lN (C 66)) (nI (C 41)) tb_ va fy cn an sw sb sv) := hD
                      have hp_150 : r_17 = bI (wkN X_ o_ t 64) := hq_150
                      clear hq_150
                      obtain rfl := hp_150
                      refine nv_ifb_ne (tgt := 181) hx hb dX1_canShow_153 (by decide) (fun c_153 => ?_) (fun c_153 => ?_)
                      · skip
                        refine lv_iinc (v := nI (t + 1)) (lv' := [(5, .int (nI (t + 1))), (4, .int (nI (hdN Y_ o_ (2 * (6 + C 0)) - 1))), (0, .ref (xq 0)), (1, .long (lN o_)), (3, .int (nI m_))]) hx hb dX1_canShow_181 hl (k := 0) rfl (nI_add t 1) (by decide) rfl (fun ls hl => ?_)
                        refine lv_goto (tgt := 124) hx hb dX1_canShow_184 (by decide) ?_
                        exact ih_124  (t + 1) (by omega) (by omega) (cs_s hcs (fun q_ => by first | exact absurd ((cvB_iff.mpr q_.2.2).symm.trans c_176) (by decide) | exact absurd (c_153.symm.trans q_.2.1) (by decide) | exact absurd (((hXY t _ (by omega) (by omega)).symm.trans c_143).symm.trans q_.1) (by decide))) _ _ hP hD hS ls (lv_sub hl [0, 1, 2, 3, 4] rfl)
                      · skip
                        refine lv_aload_n hx hb dX1_canShow_156 rfl (lv_at hl 2 rfl) ?_
                        refine lv_lload_n hx hb dX1_canShow_157 rfl (lv_at hl 3 rfl) ?_
                        refine lv_aload_n hx hb dX1_canShow_158 rfl (lv_at hl 2 rfl) ?_
                        refine gWT_5_shownBy_X1 hx hb hts hown hK hP dX1_canShow_159 ?_
                        refine lv_iload hx hb dX1_canShow_162 (lv_at hl 0 rfl) ?_
                        refine ldWT_12 hx hb hK hP (by omega) dX1_canShow_164 ?_
                        refine lv_topl (nm_r (e' := lN (X_ t)) (hsb t (by omega)) ?_)
                        refine lv_ldc2 (v := (-1)) hx hb hown (hts _ q476) dX1_canShow_165 ?_
                        refine lv_lxor hx hb dX1_canShow_168 ?_
                        refine lv_land hx hb dX1_canShow_169 ?_
                        refine lv_topl (nm_r (e' := lN (adN o_ (X_ t))) (lN_adn) ?_)
                        refine lv_iload_n hx hb dX1_canShow_170 rfl (lv_at hl 4 rfl) ?_
                        refine lv_iconst (v := nI 1) hx hb dX1_canShow_171 (by decide) ?_
                        refine nv_isub hx hb dX1_canShow_172 (by omega) ?_
                        refine xc_i (xr_V (b := xq 0) (ci := 0) (q0 := 5) (As := [.long (lN (adN o_ (X_ t))), .int (nI (m_ - 1))]) (rest := []) (mt_X1_canShow_d5 l D ca cq xq ak tb_ va fy cn an sw sb sv C X_ Y_ (adN o_ (X_ t)) (m_ - 1) h0 hsb hsw hXY (adN_le2 hoN) (by omega) H.size) ⟨hx, hb, hml, hown, hts⟩ (cwV 2 hts (lw_V q1063 q1065 qs22 q79 q1066) rfl rfl rfl (by decide +kernel) ⟨Nat.le_of_ble_eq_true rfl, Nat.le_of_ble_eq_true rfl⟩) EvX_ok hE hK hS (Cut.all hP hD hS hA) rfl rfl rfl hl.1 rfl (Nat.le_of_ble_eq_true rfl) dX1_canShow_173 ⟨Nat.le_of_ble_eq_true rfl, Nat.le_of_ble_eq_true rfl⟩) hS (Cut.all hP hD hS hA) (fun r_20 u_21 H locs hq_173 hP hD hS => ?_)
                        have hP : va_P D vwCl (WT ca cq xq (kdC C) (fsC C) (snC C) ak (nI (C 0)) (nI (C 37)) (nI (C 38)) (fI (C 39)) (nI (C 40)) (lN (C 66)) (nI (C 41)) tb_ va fy cn an sw sb sv) H := hP
                        have hD : va_D A (WT ca cq xq (kdC C) (fsC C) (snC C) ak (nI (C 0)) (nI (C 37)) (nI (C 38)) (fI (C 39)) (nI (C 40)) (lN (C 66)) (nI (C 41)) tb_ va fy cn an sw sb sv) := hD
                        have hp_173 : r_20 = bI (cvB X_ (m_ - 1) (adN o_ (X_ t))) := hq_173
                        clear hq_173
                        obtain rfl := hp_173
                        refine nv_ifb_eq (tgt := 181) hx hb dX1_canShow_176 (by decide) (fun c_176 => ?_) (fun c_176 => ?_)
                        · skip
                          refine lv_iinc (v := nI (t + 1)) (lv' := [(5, .int (nI (t + 1))), (4, .int (nI (hdN Y_ o_ (2 * (6 + C 0)) - 1))), (0, .ref (xq 0)), (1, .long (lN o_)), (3, .int (nI m_))]) hx hb dX1_canShow_181 hl (k := 0) rfl (nI_add t 1) (by decide) rfl (fun ls hl => ?_)
                          refine lv_goto (tgt := 124) hx hb dX1_canShow_184 (by decide) ?_
                          exact ih_124  (t + 1) (by omega) (by omega) (cs_s hcs (fun q_ => by first | exact absurd ((cvB_iff.mpr q_.2.2).symm.trans c_176) (by decide) | exact absurd (c_153.symm.trans q_.2.1) (by decide) | exact absurd (((hXY t _ (by omega) (by omega)).symm.trans c_143).symm.trans q_.1) (by decide))) _ _ hP hD hS ls (lv_sub hl [0, 1, 2, 3, 4] rfl)
                        · skip
                          refine lv_iconst (v := nI 1) hx hb dX1_canShow_179 (by decide) ?_
                          subst hQQ
                          refine (xe_z (b := true) () hx hb hr hlocks hK hP hD hS (congrArg bI (cs_hit ho36 hWb c_9 (by omega) (by rw [← hXY t _ (by omega) (by omega)]; exact c_143) c_153 c_176)) dX1_canShow_180)
              exact lp_124 (64 - 0 + 1) 0 (Nat.lt_succ_self _) (by omega) (fun t_ h_ => absurd h_ (Nat.not_lt_zero t_)) _ _ hP hD hS ls (lv_sub hl [0, 1, 2, 3, 4] rfl)
            · skip
              refine lv_lload_n hx hb dX1_canShow_56 rfl (lv_at hl 3 rfl) ?_
              refine lv_iload hx hb dX1_canShow_57 (lv_at hl 0 rfl) ?_
              refine xc_i (xr_S (As := [.long (lN o_), .int (nI n)]) (rest := []) (mt_X1_isIn_2 l D ca (lN o_) n (by first | assumption | omega | (simp only [updN, forgetC, changedC]; (repeat' split) <;> omega)) H.size) ⟨hx, hb, hml, hown, hts⟩ (va_cwS 2 hts (lw_S q478 q479 q79 q480) rfl rfl rfl (by decide +kernel) ⟨Nat.le_of_ble_eq_true rfl, Nat.le_of_ble_eq_true rfl⟩) Ev0_ok trivial hK hS (Cut.app (wc := []) (wr := (WT ca cq xq (kdC C) (fsC C) (snC C) ak (nI (C 0)) (nI (C 37)) (nI (C 38)) (fI (C 39)) (nI (C 40)) (lN (C 66)) (nI (C 41)) tb_ va fy cn an sw sb sv)) hP hD hS hA) rfl hl.1 rfl (Nat.le_of_ble_eq_true rfl) dX1_canShow_59 ⟨Nat.le_of_ble_eq_true rfl, Nat.le_of_ble_eq_true rfl⟩) hS (Cut.app (wc := []) (wr := (WT ca cq xq (kdC C) (fsC C) (snC C) ak (nI (C 0)) (nI (C 37)) (nI (C 38)) (fI (C 39)) (nI (C 40)) (lN (C 66)) (nI (C 41)) tb_ va fy cn an sw sb sv)) hP hD hS hA) (fun r_23 u_24 H locs hq_59 hP hD hS => ?_)
              have hP : va_P D vwCl (WT ca cq xq (kdC C) (fsC C) (snC C) ak (nI (C 0)) (nI (C 37)) (nI (C 38)) (fI (C 39)) (nI (C 40)) (lN (C 66)) (nI (C 41)) tb_ va fy cn an sw sb sv) H := hP
              have hD : va_D A (WT ca cq xq (kdC C) (fsC C) (snC C) ak (nI (C 0)) (nI (C 37)) (nI (C 38)) (fI (C 39)) (nI (C 40)) (lN (C 66)) (nI (C 41)) tb_ va fy cn an sw sb sv) := hD
              have hp_59 : r_23 = bI (bit64 (lN o_) n) := hq_59
              clear hq_59
              obtain rfl := hp_59
              refine nv_ifb_eq (tgt := 98) hx hb dX1_canShow_62 (by decide) (fun c_62 => ?_) (fun c_62 => ?_)
              · skip
                refine lv_iconst (v := nI 0) hx hb dX1_canShow_98 (by decide) ?_
                refine lv_istore (lv' := [(6, .int (nI 0)), (5, .int (nI n)), (4, .int (fI (hdN Y_ o_ n))), (0, .ref (xq 0)), (1, .long (lN o_)), (3, .int (nI m_))]) hx hb dX1_canShow_99 hl (by decide) rfl (fun ls hl => ?_)
                refine lv_iload hx hb dX1_canShow_101 (lv_at hl 0 rfl) ?_
                refine nv_if_eq (tgt := 111) hx hb dX1_canShow_103 (by decide) (by omega) (fun c_103 => ?_) (fun c_103 => absurd c_103 (by decide))
                refine lv_iload hx hb dX1_canShow_111 (lv_at hl 2 rfl) ?_
                refine lv_istore (lv' := [(4, .int (fI (hdN Y_ o_ n))), (6, .int (nI 0)), (5, .int (nI n)), (0, .ref (xq 0)), (1, .long (lN o_)), (3, .int (nI m_))]) hx hb dX1_canShow_113 hl (by decide) rfl (fun ls hl => ?_)
                refine lv_iinc (v := nI (n + 1)) (lv' := [(5, .int (nI (n + 1))), (4, .int (fI (hdN Y_ o_ n))), (6, .int (nI 0)), (0, .ref (xq 0)), (1, .long (lN o_)), (3, .int (nI m_))]) hx hb dX1_canShow_115 hl (k := 2) rfl (nI_add n 1) (by decide) rfl (fun ls hl => ?_)
                refine lv_goto (tgt := 44) hx hb dX1_canShow_118 (by decide) ?_
                have hl : lv_has ls 7 [(5, .int (nI (n + 1))), (4, .int (fI (hdN Y_ o_ (n + 1)))), (6, .int (nI 0)), (0, .ref (xq 0)), (1, .long (lN o_)), (3, .int (nI m_))] := (congrArg (fun x_ => lv_has ls 7 [(5, .int (nI (n + 1))), (4, .int x_), (6, .int (nI 0)), (0, .ref (xq 0)), (1, .long (lN o_)), (3, .int (nI m_))]) (show fI (hdN Y_ o_ n) = fI (hdN Y_ o_ (n + 1)) from congrArg fI (by first | exact (hd_n1 c_62 (by omega)).symm | exact (hd_n2 c_68 c_91).symm))).mp hl
                exact ih_44  (n + 1) (by omega) (by omega) _ _ hP hD hS ls (lv_sub hl [0, 1, 3, 4, 5] rfl)
              · skip
                refine lv_iload hx hb dX1_canShow_65 (lv_at hl 1 rfl) ?_
                refine lv_iconst (v := fI 0) hx hb dX1_canShow_67 (by decide) ?_
                refine nv_icmp_eqf (tgt := 94) hx hb dX1_canShow_68 (by decide) (by have := @hdN_le Y_ o_ n; omega) (fun c_68 => ?_) (fun c_68 => ?_)
                · skip
                  refine lv_iconst (v := nI 1) hx hb dX1_canShow_94 (by decide) ?_
                  refine lv_goto (tgt := 99) hx hb dX1_canShow_95 (by decide) ?_
                  refine lv_istore (lv' := [(6, .int (nI 1)), (5, .int (nI n)), (4, .int (fI (hdN Y_ o_ n))), (0, .ref (xq 0)), (1, .long (lN o_)), (3, .int (nI m_))]) hx hb dX1_canShow_99 hl (by decide) rfl (fun ls hl => ?_)
                  refine lv_iload hx hb dX1_canShow_101 (lv_at hl 0 rfl) ?_
                  refine nv_if_eq (tgt := 111) hx hb dX1_canShow_103 (by decide) (by omega) (fun c_103 => absurd c_103 (by decide)) (fun c_103 => ?_)
                  refine lv_iload hx hb dX1_canShow_106 (lv_at hl 1 rfl) ?_
                  refine lv_goto (tgt := 113) hx hb dX1_canShow_108 (by decide) ?_
                  refine lv_istore (lv' := [(4, .int (nI n)), (6, .int (nI 1)), (5, .int (nI n)), (0, .ref (xq 0)), (1, .long (lN o_)), (3, .int (nI m_))]) hx hb dX1_canShow_113 hl (by decide) rfl (fun ls hl => ?_)
                  refine lv_iinc (v := nI (n + 1)) (lv' := [(5, .int (nI (n + 1))), (4, .int (nI n)), (6, .int (nI 1)), (0, .ref (xq 0)), (1, .long (lN o_)), (3, .int (nI m_))]) hx hb dX1_canShow_115 hl (k := 2) rfl (nI_add n 1) (by decide) rfl (fun ls hl => ?_)
                  refine lv_goto (tgt := 44) hx hb dX1_canShow_118 (by decide) ?_
                  have hl : lv_has ls 7 [(5, .int (nI (n + 1))), (4, .int (fI (hdN Y_ o_ (n + 1)))), (6, .int (nI 1)), (0, .ref (xq 0)), (1, .long (lN o_)), (3, .int (nI m_))] := (congrArg (fun x_ => lv_has ls 7 [(5, .int (nI (n + 1))), (4, .int x_), (6, .int (nI 1)), (0, .ref (xq 0)), (1, .long (lN o_)), (3, .int (nI m_))]) (show nI n = fI (hdN Y_ o_ (n + 1)) from (fI_S n).trans (congrArg fI (hd_y c_62 (by omega) (by first | exact Or.inl c_68 | exact Or.inr c_91)).symm))).mp hl
                  exact ih_44  (n + 1) (by omega) (by omega) _ _ hP hD hS ls (lv_sub hl [0, 1, 3, 4, 5] rfl)
                · skip
                  refine lv_aload_n hx hb dX1_canShow_71 rfl (lv_at hl 2 rfl) ?_
                  refine gWT_5_shown_X1 hx hb hts hown hK hP dX1_canShow_72 ?_
                  refine lv_iload hx hb dX1_canShow_75 (lv_at hl 0 rfl) ?_
                  refine ldWT_11 hx hb hK hP (by omega) dX1_canShow_77 ?_
                  refine lv_topl (nm_r (e' := Y_ n) (hsw n (by omega)) ?_)
                  refine xc_i (xr_S (As := [.long (Y_ n)]) (rest := []) (mt_J16_bitCount_r l D ca (Y_ n)  H.size) ⟨hx, hb, hml, hown, hts⟩ (va_cwS 1 hts (lw_S q485 q486 q100 q487) rfl rfl rfl (by decide +kernel) ⟨Nat.le_of_ble_eq_true rfl, Nat.le_of_ble_eq_true rfl⟩) Ev0_ok trivial hK hS (Cut.app (wc := []) (wr := (WT ca cq xq (kdC C) (fsC C) (snC C) ak (nI (C 0)) (nI (C 37)) (nI (C 38)) (fI (C 39)) (nI (C 40)) (lN (C 66)) (nI (C 41)) tb_ va fy cn an sw sb sv)) hP hD hS hA) rfl hl.1 rfl (Nat.le_of_ble_eq_true rfl) dX1_canShow_78 ⟨Nat.le_of_ble_eq_true rfl, Nat.le_of_ble_eq_true rfl⟩) hS (Cut.app (wc := []) (wr := (WT ca cq xq (kdC C) (fsC C) (snC C) ak (nI (C 0)) (nI (C 37)) (nI (C 38)) (fI (C 39)) (nI (C 40)) (lN (C 66)) (nI (C 41)) tb_ va fy cn an sw sb sv)) hP hD hS hA) (fun r_27 u_28 H locs hq_78 hP hD hS => ?_)
                  have hP : va_P D vwCl (WT ca cq xq (kdC C) (fsC C) (snC C) ak (nI (C 0)) (nI (C 37)) (nI (C 38)) (fI (C 39)) (nI (C 40)) (lN (C 66)) (nI (C 41)) tb_ va fy cn an sw sb sv) H := hP
                  have hD : va_D A (WT ca cq xq (kdC C) (fsC C) (snC C) ak (nI (C 0)) (nI (C 37)) (nI (C 38)) (fI (C 39)) (nI (C 40)) (lN (C 66)) (nI (C 41)) tb_ va fy cn an sw sb sv) := hD
                  have hp_78 : r_27 = nI (popl 64 (Y_ n)) := hq_78
                  clear hq_78
                  obtain rfl := hp_78
                  refine lv_aload_n hx hb dX1_canShow_81 rfl (lv_at hl 2 rfl) ?_
                  refine gWT_5_shown_X1 hx hb hts hown hK hP dX1_canShow_82 ?_
                  refine lv_iload hx hb dX1_canShow_85 (lv_at hl 1 rfl) ?_
                  refine lv_topi (nm_r (e' := nI (hdN Y_ o_ n - 1)) (fI_pos c_68) ?_)
                  refine ldWT_11 hx hb hK hP (by have := @hdN_le Y_ o_ n; omega) dX1_canShow_87 ?_
                  refine lv_topl (nm_r (e' := Y_ (hdN Y_ o_ n - 1)) (hsw _ (by have := @hdN_le Y_ o_ n; omega)) ?_)
                  refine xc_i (xr_S (As := [.long (Y_ (hdN Y_ o_ n - 1))]) (rest := [.int (nI (popl 64 (Y_ n)))]) (mt_J16_bitCount_r l D ca (Y_ (hdN Y_ o_ n - 1))  H.size) ⟨hx, hb, hml, hown, hts⟩ (va_cwS 1 hts (lw_S q485 q486 q100 q487) rfl rfl rfl (by decide +kernel) ⟨Nat.le_of_ble_eq_true rfl, Nat.le_of_ble_eq_true rfl⟩) Ev0_ok trivial hK hS (Cut.app (wc := []) (wr := (WT ca cq xq (kdC C) (fsC C) (snC C) ak (nI (C 0)) (nI (C 37)) (nI (C 38)) (fI (C 39)) (nI (C 40)) (lN (C 66)) (nI (C 41)) tb_ va fy cn an sw sb sv)) hP hD hS hA) rfl hl.1 rfl (Nat.le_of_ble_eq_true rfl) dX1_canShow_88 ⟨Nat.le_of_ble_eq_true rfl, Nat.le_of_ble_eq_true rfl⟩) hS (Cut.app (wc := []) (wr := (WT ca cq xq (kdC C) (fsC C) (snC C) ak (nI (C 0)) (nI (C 37)) (nI (C 38)) (fI (C 39)) (nI (C 40)) (lN (C 66)) (nI (C 41)) tb_ va fy cn an sw sb sv)) hP hD hS hA) (fun r_29 u_30 H locs hq_88 hP hD hS => ?_)
                  have hP : va_P D vwCl (WT ca cq xq (kdC C) (fsC C) (snC C) ak (nI (C 0)) (nI (C 37)) (nI (C 38)) (fI (C 39)) (nI (C 40)) (lN (C 66)) (nI (C 41)) tb_ va fy cn an sw sb sv) H := hP
                  have hD : va_D A (WT ca cq xq (kdC C) (fsC C) (snC C) ak (nI (C 0)) (nI (C 37)) (nI (C 38)) (fI (C 39)) (nI (C 40)) (lN (C 66)) (nI (C 41)) tb_ va fy cn an sw sb sv) := hD
                  have hp_88 : r_29 = nI (popl 64 (Y_ (hdN Y_ o_ n - 1))) := hq_88
                  clear hq_88
                  obtain rfl := hp_88
                  refine nv_icmp_ge (tgt := 98) hx hb dX1_canShow_91 (by decide) (by have := popl_le 64 (Y_ n); omega) (by have := popl_le 64 (Y_ (hdN Y_ o_ n - 1)); omega) (fun c_91 => ?_) (fun c_91 => ?_)
                  · skip
                    refine lv_iconst (v := nI 0) hx hb dX1_canShow_98 (by decide) ?_
                    refine lv_istore (lv' := [(6, .int (nI 0)), (5, .int (nI n)), (4, .int (fI (hdN Y_ o_ n))), (0, .ref (xq 0)), (1, .long (lN o_)), (3, .int (nI m_))]) hx hb dX1_canShow_99 hl (by decide) rfl (fun ls hl => ?_)
                    refine lv_iload hx hb dX1_canShow_101 (lv_at hl 0 rfl) ?_
                    refine nv_if_eq (tgt := 111) hx hb dX1_canShow_103 (by decide) (by omega) (fun c_103 => ?_) (fun c_103 => absurd c_103 (by decide))
                    refine lv_iload hx hb dX1_canShow_111 (lv_at hl 2 rfl) ?_
                    refine lv_istore (lv' := [(4, .int (fI (hdN Y_ o_ n))), (6, .int (nI 0)), (5, .int (nI n)), (0, .ref (xq 0)), (1, .long (lN o_)), (3, .int (nI m_))]) hx hb dX1_canShow_113 hl (by decide) rfl (fun ls hl => ?_)
                    refine lv_iinc (v := nI (n + 1)) (lv' := [(5, .int (nI (n + 1))), (4, .int (fI (hdN Y_ o_ n))), (6, .int (nI 0)), (0, .ref (xq 0)), (1, .long (lN o_)), (3, .int (nI m_))]) hx hb dX1_canShow_115 hl (k := 2) rfl (nI_add n 1) (by decide) rfl (fun ls hl => ?_)
                    refine lv_goto (tgt := 44) hx hb dX1_canShow_118 (by decide) ?_
                    have hl : lv_has ls 7 [(5, .int (nI (n + 1))), (4, .int (fI (hdN Y_ o_ (n + 1)))), (6, .int (nI 0)), (0, .ref (xq 0)), (1, .long (lN o_)), (3, .int (nI m_))] := (congrArg (fun x_ => lv_has ls 7 [(5, .int (nI (n + 1))), (4, .int x_), (6, .int (nI 0)), (0, .ref (xq 0)), (1, .long (lN o_)), (3, .int (nI m_))]) (show fI (hdN Y_ o_ n) = fI (hdN Y_ o_ (n + 1)) from congrArg fI (by first | exact (hd_n1 c_62 (by omega)).symm | exact (hd_n2 c_68 c_91).symm))).mp hl
                    exact ih_44  (n + 1) (by omega) (by omega) _ _ hP hD hS ls (lv_sub hl [0, 1, 3, 4, 5] rfl)
                  · skip
                    refine lv_iconst (v := nI 1) hx hb dX1_canShow_94 (by decide) ?_
                    refine lv_goto (tgt := 99) hx hb dX1_canShow_95 (by decide) ?_
                    refine lv_istore (lv' := [(6, .int (nI 1)), (5, .int (nI n)), (4, .int (fI (hdN Y_ o_ n))), (0, .ref (xq 0)), (1, .long (lN o_)), (3, .int (nI m_))]) hx hb dX1_canShow_99 hl (by decide) rfl (fun ls hl => ?_)
                    refine lv_iload hx hb dX1_canShow_101 (lv_at hl 0 rfl) ?_
                    refine nv_if_eq (tgt := 111) hx hb dX1_canShow_103 (by decide) (by omega) (fun c_103 => absurd c_103 (by decide)) (fun c_103 => ?_)
                    refine lv_iload hx hb dX1_canShow_106 (lv_at hl 1 rfl) ?_
                    refine lv_goto (tgt := 113) hx hb dX1_canShow_108 (by decide) ?_
                    refine lv_istore (lv' := [(4, .int (nI n)), (6, .int (nI 1)), (5, .int (nI n)), (0, .ref (xq 0)), (1, .long (lN o_)), (3, .int (nI m_))]) hx hb dX1_canShow_113 hl (by decide) rfl (fun ls hl => ?_)
                    refine lv_iinc (v := nI (n + 1)) (lv' := [(5, .int (nI (n + 1))), (4, .int (nI n)), (6, .int (nI 1)), (0, .ref (xq 0)), (1, .long (lN o_)), (3, .int (nI m_))]) hx hb dX1_canShow_115 hl (k := 2) rfl (nI_add n 1) (by decide) rfl (fun ls hl => ?_)
                    refine lv_goto (tgt := 44) hx hb dX1_canShow_118 (by decide) ?_
                    have hl : lv_has ls 7 [(5, .int (nI (n + 1))), (4, .int (fI (hdN Y_ o_ (n + 1)))), (6, .int (nI 1)), (0, .ref (xq 0)), (1, .long (lN o_)), (3, .int (nI m_))] := (congrArg (fun x_ => lv_has ls 7 [(5, .int (nI (n + 1))), (4, .int x_), (6, .int (nI 1)), (0, .ref (xq 0)), (1, .long (lN o_)), (3, .int (nI m_))]) (show nI n = fI (hdN Y_ o_ (n + 1)) from (fI_S n).trans (congrArg fI (hd_y c_62 (by omega) (by first | exact Or.inl c_68 | exact Or.inr c_91)).symm))).mp hl
                    exact ih_44  (n + 1) (by omega) (by omega) _ _ hP hD hS ls (lv_sub hl [0, 1, 3, 4, 5] rfl)
        have hl : lv_has ls 7 [(5, .int (nI 0)), (4, .int (fI (hdN Y_ o_ 0))), (0, .ref (xq 0)), (1, .long (lN o_)), (3, .int (nI m_))] := (congrArg (fun x_ => lv_has ls 7 [(5, .int (nI 0)), (4, .int x_), (0, .ref (xq 0)), (1, .long (lN o_)), (3, .int (nI m_))]) (show fI 0 = fI (hdN Y_ o_ 0) from rfl)).mp hl
        exact lp_44 (2 * (6 + C 0) - 0 + 1) 0 (Nat.lt_succ_self _) (by omega) _ _ hP hD hS ls (lv_sub hl [0, 1, 2, 3, 4] rfl)
      · skip
        refine lv_iconst (v := nI 0) hx hb dX1_canShow_36 (by decide) ?_
        subst hQQ
        refine (xe_z (b := false) () hx hb hr hlocks hK hP hD hS (congrArg bI (by first | exact (cvB_f (Cv_few c_33)).symm | exact (cvB_f (fun h_ => c_2 (by subst c_9; exact congrArg lN h_))).symm)) dX1_canShow_37)
  · skip
    refine lv_iconst (v := nI 1) hx hb dX1_canShow_6 (by decide) ?_
    subst hQQ
    refine (xe_z (b := true) () hx hb hr hlocks hK hP hD hS (congrArg bI (cvB_t (by rw [(lN_eq0 (by omega)).mp c_2]; exact Cv_0 _ _)).symm) dX1_canShow_7)
set_option maxHeartbeats 4000000 in
set_option maxRecDepth 100000 in
theorem mt_X1_fewestTests (l : Launch) (D : va_G) (ca : Nat → ClassId) (cq : Nat → Nat) (xq : Nat → Nat) (ak : Nat → Int32) (tb_ : Nat → Int64) (va : Nat → Int32) (fy : Nat → Int64) (cn : Nat → Int32) (an : Nat → Int32) (sw : Nat → Int64) (sb : Nat → Int64) (sv : Value) (C : Nat → Nat) (h0 : C 0 ≤ 12) (hkd0 : ∀ k, k < 12 → C (1 + k) < 8) (hse : ∀ k, k < 12 → C (13 + k) < 6 + k ∧ C (25 + k) < 6 + k) (ho : C 37 < 2 ^ 18) (hbx : C 38 < 2 ^ 18) (hno : popc 18 (C 37) ≤ 4) (nn : Nat) : Met l yX1_fewestTests (ws_ yX1_fewestTests cX1_fewestTests 4 (Option.some Jvm.ClassFile.FieldType.int)) ({ frames := 8, cells := 0, slots := 0, locals := 201 } : Room) (va_Pc [.ref (xq 0)] (PreW EvX D vwCl (TY ca) (WT ca cq xq (kdC C) (fsC C) (snC C) ak (nI (C 0)) (nI (C 37)) (nI (C 38)) (fI (C 39)) (nI (C 40)) (lN (C 66)) (nI (C 41)) tb_ va fy cn an sw sb sv) nn)) (va_Qi (fun (r_ : Int32) (u_ : (Nat → Int64) × (Nat → Int64) × (Nat → Int64) × (Nat → Int64)) => r_ = nI (fws C)) (PostW D vwCl (TY ca) (fun (u_ : (Nat → Int64) × (Nat → Int64) × (Nat → Int64) × (Nat → Int64)) => (WT ca cq xq (kdC C) (fsC C) (snC C) ak (nI (C 0)) (nI (C 37)) (nI (C 38)) (fI (C 39)) (nI (C 40)) (lN (C 66)) (nI (C 41)) u_.1 va u_.2.1 cn an u_.2.2.1 u_.2.2.2 sv)) (va_A (WT ca cq xq (kdC C) (fsC C) (snC C) ak (nI (C 0)) (nI (C 37)) (nI (C 38)) (fI (C 39)) (nI (C 40)) (lN (C 66)) (nI (C 41)) tb_ va fy cn an sw sb sv) nn)) (va_A (WT ca cq xq (kdC C) (fsC C) (snC C) ak (nI (C 0)) (nI (C 37)) (nI (C 38)) (fI (C 39)) (nI (C 40)) (lN (C 66)) (nI (C 41)) tb_ va fy cn an sw sb sv) nn)) 0 0 (va_A (WT ca cq xq (kdC C) (fsC C) (snC C) ak (nI (C 0)) (nI (C 37)) (nI (C 38)) (fI (C 39)) (nI (C 40)) (lN (C 66)) (nI (C 41)) tb_ va fy cn an sw sb sv) nn) := by
  refine met_go (QA := fun A => va_Qi (fun (r_ : Int32) (u_ : (Nat → Int64) × (Nat → Int64) × (Nat → Int64) × (Nat → Int64)) => r_ = nI (fws C)) (PostW D vwCl (TY ca) (fun (u_ : (Nat → Int64) × (Nat → Int64) × (Nat → Int64) × (Nat → Int64)) => (WT ca cq xq (kdC C) (fsC C) (snC C) ak (nI (C 0)) (nI (C 37)) (nI (C 38)) (fI (C 39)) (nI (C 40)) (lN (C 66)) (nI (C 41)) u_.1 va u_.2.1 cn an u_.2.2.1 u_.2.2.2 sv)) A) A) (by decide) (Nat.le_of_ble_eq_true rfl) (fun p e s m below meth c A ls QQ hQQ hx hb hr hts hown hlocks hml hA hP hK hD hE hl => ?_)
  have hown : s.vm.findClass RX1 = some m.cls := hown
  have hS : va_S A s.heap s.heap [] := va_S.rf
  have hl : lv_has ls 4 [(0, .ref (xq 0))] := hl
  generalize hHe : s.heap = H at hP ⊢
  have hS : va_S A s.heap H [] := hHe ▸ hS
  generalize ([] : List Loc) = locs at hS ⊢
  refine lv_aload_n hx hb dX1_fewestTests_0 rfl (lv_at hl 0 rfl) ?_
  refine xc_l (xr_V (b := xq 0) (ci := 0) (q0 := 5) (As := []) (rest := []) (mt_X1_layShown l D ca cq xq ak tb_ va fy cn an sw sb sv C (by first | assumption | omega | (simp only [updN, forgetC, changedC]; (repeat' split) <;> omega)) (by first | assumption | omega | (simp only [updN, forgetC, changedC]; (repeat' split) <;> omega)) (by first | assumption | omega | (simp only [updN, forgetC, changedC]; (repeat' split) <;> omega)) (by first | assumption | omega | (simp only [updN, forgetC, changedC]; (repeat' split) <;> omega)) (by first | assumption | omega | (simp only [updN, forgetC, changedC]; (repeat' split) <;> omega)) (by first | assumption | omega | (simp only [updN, forgetC, changedC]; (repeat' split) <;> omega)) H.size) ⟨hx, hb, hml, hown, hts⟩ (cwV 0 hts (lw_V q435 q437 qs6 q79 q438) rfl rfl rfl (by decide +kernel) ⟨Nat.le_of_ble_eq_true rfl, Nat.le_of_ble_eq_true rfl⟩) EvX_ok hE hK hS (Cut.all hP hD hS hA) rfl rfl rfl hl.1 rfl (Nat.le_of_ble_eq_true rfl) dX1_fewestTests_1 ⟨Nat.le_of_ble_eq_true rfl, Nat.le_of_ble_eq_true rfl⟩) hS (Cut.all hP hD hS hA) (fun r_1 u_2 H locs hq_1 hP hD hS => ?_)
  obtain ⟨tb1_3, fy1_4, sb1_5⟩ := u_2
  have hP : va_P D vwCl (WT ca cq xq (kdC C) (fsC C) (snC C) ak (nI (C 0)) (nI (C 37)) (nI (C 38)) (fI (C 39)) (nI (C 40)) (lN (C 66)) (nI (C 41)) tb1_3 va fy1_4 cn an (fillL (2 * (6 + C 0)) (fun f => apC C (f + 1) 0) sw) sb1_5 sv) H := hP
  have hD : va_D A (WT ca cq xq (kdC C) (fsC C) (snC C) ak (nI (C 0)) (nI (C 37)) (nI (C 38)) (fI (C 39)) (nI (C 40)) (lN (C 66)) (nI (C 41)) tb1_3 va fy1_4 cn an (fillL (2 * (6 + C 0)) (fun f => apC C (f + 1) 0) sw) sb1_5 sv) := hD
  have hp_1 : r_1 = lN (opn C (2 * (6 + C 0))) ∧ ((∀ t, t < 64 → sb1_5 t = lN (shN C (2 * (6 + C 0)) t))) := hq_1
  clear hq_1
  obtain ⟨rfl, hp_1⟩ := hp_1
  refine lv_lstore_n (lv' := [(1, .long (lN (opn C (2 * (6 + C 0))))), (0, .ref (xq 0))]) hx hb dX1_fewestTests_4 rfl hl (by decide) rfl (fun ls hl => ?_)
  refine lv_iconst (v := nI 0) hx hb dX1_fewestTests_5 (by decide) ?_
  refine lv_istore_n (lv' := [(3, .int (nI 0)), (1, .long (lN (opn C (2 * (6 + C 0))))), (0, .ref (xq 0))]) hx hb dX1_fewestTests_6 rfl hl (by decide) rfl (fun ls hl => ?_)
  have lp_7 : ∀ (fu_7 : Nat) (n : Nat), 7 - n < fu_7 → (n ≤ 7) → (fwF (shN C (2 * (6 + C 0))) (opn C (2 * (6 + C 0))) (7 - n) n = fws C) → ∀ (H : Heap) (locs : List Loc), va_P D vwCl (WT ca cq xq (kdC C) (fsC C) (snC C) ak (nI (C 0)) (nI (C 37)) (nI (C 38)) (fI (C 39)) (nI (C 40)) (lN (C 66)) (nI (C 41)) tb1_3 va fy1_4 cn an (fillL (2 * (6 + C 0)) (fun f => apC C (f + 1) 0) sw) sb1_5 sv) H → va_D A (WT ca cq xq (kdC C) (fsC C) (snC C) ak (nI (C 0)) (nI (C 37)) (nI (C 38)) (fI (C 39)) (nI (C 40)) (lN (C 66)) (nI (C 41)) tb1_3 va fy1_4 cn an (fillL (2 * (6 + C 0)) (fun f => apC C (f + 1) 0) sw) sb1_5 sv) → va_S A s.heap H locs → ∀ (ls : Array Slot), lv_has ls 4 [(3, .int (nI n)), (1, .long (lN (opn C (2 * (6 + C 0))))), (0, .ref (xq 0))] → W p l e ({ frames := 8, cells := 0, slots := 0, locals := 201 } : Room) s m ([.ref (xq 0)] : List Value).toArray below meth c H locs 0 0 QQ (F0 m 7 ls []) := by
    intro fu_7
    induction fu_7 with
    | zero => intro n hfu; exact absurd hfu (Nat.not_lt_zero _)
    | succ fu_7 ih_7 =>
      intro n hfu hn hfw H locs hP hD hS ls hl
      refine lv_iload_n hx hb dX1_fewestTests_7 rfl (lv_at hl 0 rfl) ?_
      refine lv_bipush (v := nI 6) hx hb dX1_fewestTests_8 (by decide) ?_
      refine nv_icmp_gt (tgt := 28) hx hb dX1_fewestTests_10 (by decide) (by omega) (by omega) (fun c_10 => ?_) (fun c_10 => ?_)
      · skip
        have hres : n = fws C := by rw [← hfw, show 7 - n = 0 by omega]; rfl
        refine lv_iload_n hx hb dX1_fewestTests_28 rfl (lv_at hl 0 rfl) ?_
        subst hQQ
        exact xe_i (v := nI n) (tb1_3, fy1_4, fillL (2 * (6 + C 0)) (fun f => apC C (f + 1) 0) sw, sb1_5) hx hb hr hlocks hK hP hD hS (congrArg nI hres) dX1_fewestTests_29
      · skip
        refine lv_aload_n hx hb dX1_fewestTests_13 rfl (lv_at hl 2 rfl) ?_
        refine lv_lload_n hx hb dX1_fewestTests_14 rfl (lv_at hl 1 rfl) ?_
        refine lv_iload_n hx hb dX1_fewestTests_15 rfl (lv_at hl 0 rfl) ?_
        refine xc_i (xr_V (b := xq 0) (ci := 0) (q0 := 5) (As := [.long (lN (opn C (2 * (6 + C 0)))), .int (nI n)]) (rest := []) (mt_X1_canShow_d6 l D ca cq xq ak tb1_3 va fy1_4 cn an (fillL (2 * (6 + C 0)) (fun f => apC C (f + 1) 0) sw) sb1_5 sv C (shN C (2 * (6 + C 0))) (fun f => apC C (f + 1) 0) (opn C (2 * (6 + C 0))) n h0 hp_1 (fun f hf => fillL_at hf) (fun t f ht hf => by rw [shN_bit, decide_eq_true hf, Bool.true_and]) (opn_lt _) (by omega) H.size) ⟨hx, hb, hml, hown, hts⟩ (cwV 2 hts (lw_V q1063 q1065 qs22 q79 q1066) rfl rfl rfl (by decide +kernel) ⟨Nat.le_of_ble_eq_true rfl, Nat.le_of_ble_eq_true rfl⟩) EvX_ok hE hK hS (Cut.all hP hD hS hA) rfl rfl rfl hl.1 rfl (Nat.le_of_ble_eq_true rfl) dX1_fewestTests_16 ⟨Nat.le_of_ble_eq_true rfl, Nat.le_of_ble_eq_true rfl⟩) hS (Cut.all hP hD hS hA) (fun r_7 u_8 H locs hq_16 hP hD hS => ?_)
        have hP : va_P D vwCl (WT ca cq xq (kdC C) (fsC C) (snC C) ak (nI (C 0)) (nI (C 37)) (nI (C 38)) (fI (C 39)) (nI (C 40)) (lN (C 66)) (nI (C 41)) tb1_3 va fy1_4 cn an (fillL (2 * (6 + C 0)) (fun f => apC C (f + 1) 0) sw) sb1_5 sv) H := hP
        have hD : va_D A (WT ca cq xq (kdC C) (fsC C) (snC C) ak (nI (C 0)) (nI (C 37)) (nI (C 38)) (fI (C 39)) (nI (C 40)) (lN (C 66)) (nI (C 41)) tb1_3 va fy1_4 cn an (fillL (2 * (6 + C 0)) (fun f => apC C (f + 1) 0) sw) sb1_5 sv) := hD
        have hp_16 : r_7 = bI (cvB (shN C (2 * (6 + C 0))) n (opn C (2 * (6 + C 0)))) := hq_16
        clear hq_16
        obtain rfl := hp_16
        refine nv_ifb_ne (tgt := 28) hx hb dX1_fewestTests_19 (by decide) (fun c_19 => ?_) (fun c_19 => ?_)
        · skip
          have hres : n = fws C := by rw [← hfw, fwF_y c_19]
          refine lv_iload_n hx hb dX1_fewestTests_28 rfl (lv_at hl 0 rfl) ?_
          subst hQQ
          exact xe_i (v := nI n) (tb1_3, fy1_4, fillL (2 * (6 + C 0)) (fun f => apC C (f + 1) 0) sw, sb1_5) hx hb hr hlocks hK hP hD hS (congrArg nI hres) dX1_fewestTests_29
        · skip
          refine lv_iinc (v := nI (n + 1)) (lv' := [(3, .int (nI (n + 1))), (1, .long (lN (opn C (2 * (6 + C 0))))), (0, .ref (xq 0))]) hx hb dX1_fewestTests_22 hl (k := 0) rfl (nI_add n 1) (by decide) rfl (fun ls hl => ?_)
          refine lv_goto (tgt := 7) hx hb dX1_fewestTests_25 (by decide) ?_
          exact ih_7  (n + 1) (by omega) (by omega) (by have h_ : 7 - n = (7 - (n + 1)) + 1 := (by omega); rw [← hfw, h_, fwF_n c_19]) _ _ hP hD hS ls (lv_sub hl [0, 1, 2] rfl)
  exact lp_7 (7 - 0 + 1) 0 (Nat.lt_succ_self _) (by omega) rfl _ _ hP hD hS ls (lv_sub hl [0, 1, 2] rfl)
