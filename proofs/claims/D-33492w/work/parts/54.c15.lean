/-! the component: the candidate in a place; hidden faults; alike; mean -/
set_option maxRecDepth 100000
theorem clF_pre {C : Nat → Nat} {K n : Nat} : ∀ m, n ≤ m → ∃ R, clF C K m = clF C K n ++ R := by
  intro m; induction m with
  | zero => intro h; rw [Nat.le_zero.mp h]; exact ⟨[], (List.append_nil _).symm⟩
  | succ m ih =>
    intro h
    by_cases e : n = m + 1
    · rw [e]; exact ⟨[], (List.append_nil _).symm⟩
    · obtain ⟨R, hR⟩ := ih (by omega)
      simp only [clF]
      rw [hR]
      exact ⟨R ++ _, List.append_assoc _ _ _⟩
theorem clK_pre {C : Nat → Nat} {n : Nat} : ∀ m, n ≤ m → ∃ R, clK C m = clK C n ++ R := by
  intro m; induction m with
  | zero => intro h; rw [Nat.le_zero.mp h]; exact ⟨[], (List.append_nil _).symm⟩
  | succ m ih =>
    intro h
    by_cases e : n = m + 1
    · rw [e]; exact ⟨[], (List.append_nil _).symm⟩
    · obtain ⟨R, hR⟩ := ih (by omega)
      show ∃ R, clK C m ++ clF C (m + 1) (fa C + 1) = _
      rw [hR]
      exact ⟨R ++ _, List.append_assoc _ _ _⟩
theorem nu_hit {C : Nat → Nat} {n d f : Nat} (hd : d < ksm C) (hf : f < fa C + 1) (hc : candB C (d + 1) f = true) (hl : (clK C d ++ clF C (d + 1) f).length = n) : nI (37 * d + f) = nuI (n + 1) (cnds C) := by
  obtain ⟨R1, h1⟩ := clK_pre (C := C) (n := d + 1) (ksm C) (by omega)
  obtain ⟨R2, h2⟩ := clF_pre (C := C) (K := d + 1) (n := f + 1) (fa C + 1) (by omega)
  have e : cnds C = (clK C d ++ clF C (d + 1) f) ++ ((d + 1, f) :: (R2 ++ R1)) := by
    unfold cnds
    rw [h1]
    show (clK C d ++ clF C (d + 1) (fa C + 1)) ++ R1 = _
    rw [h2, ← List.append_assoc, ← clF_y hc]
    simp
  unfold nuI
  rw [if_neg (by omega), e, show n + 1 - 1 = n by omega, List.getElem?_append_right (by omega), hl, Nat.sub_self]
  rfl
theorem clL_y {C : Nat → Nat} {kk n : Nat} (h : candB C (kk + 1) n = true) : (clK C kk ++ clF C (kk + 1) (n + 1)).length = (clK C kk ++ clF C (kk + 1) n).length + 1 := by
  rw [← clF_y h, List.length_append, List.length_singleton]
theorem nu_none {C : Nat → Nat} {n : Nat} (h : (cnds C).length ≤ n) : fI 0 = nuI (n + 1) (cnds C) := by
  unfold nuI
  rw [if_neg (by omega), show n + 1 - 1 = n by omega, List.getElem?_eq_none h]
theorem hid_bit {C : Nat → Nat} : ∀ n i, (hid C n).testBit i = (decide (i < n) && decide (apC C (i + 1) 0 = lN 0)) := by
  intro n; induction n with
  | zero => intro i; simp [hid]
  | succ n ih =>
    intro i
    simp only [hid]
    rw [Nat.testBit_or, ih]
    by_cases e : i = n
    · subst e
      by_cases h : apC C (i + 1) 0 = lN 0
      · rw [if_pos h, tb_sh]; simp [h]
      · rw [if_neg h, Nat.zero_testBit]; simp [h]
    · have h2 : decide (i < n + 1) = decide (i < n) := decide_eq_decide.mpr (by omega)
      rw [h2]
      split
      · rw [tb_sh, decide_eq_false (show ¬ n = i from fun q => e q.symm), Bool.or_false]
      · rw [Nat.zero_testBit, Bool.or_false]
theorem hid_ad {C : Nat → Nat} {n : Nat} : adN (1 <<< n - 1) (opn C n) = hid C n := by
  apply Nat.eq_of_testBit_eq; intro i
  rw [adN_bit, hid_bit, opn_bit, Nat.one_shiftLeft, Nat.testBit_two_pow_sub_one]
  cases decide (i < n) <;> cases decide (apC C (i + 1) 0 = lN 0) <;> rfl
/-- all tests below n leave so many in the worst case -/
def wsB (X : Nat → Nat) (m : Nat) : Nat → Bool
  | 0 => true
  | t + 1 => wsB X m t && decide (wst X t = m)
theorem wsB_iff {X : Nat → Nat} {m : Nat} : ∀ n, wsB X m n = true ↔ ∀ t, t < n → wst X t = m := by
  intro n; induction n with
  | zero => exact ⟨fun _ t h => absurd h (Nat.not_lt_zero t), fun _ => rfl⟩
  | succ n ih =>
    simp only [wsB, Bool.and_eq_true, decide_eq_true_eq]
    rw [ih]
    constructor
    · rintro ⟨h1, h2⟩ t ht
      by_cases e : t = n
      · subst e; exact h2
      · exact h1 t (by omega)
    · intro h; exact ⟨fun t ht => h t (by omega), h n (by omega)⟩
theorem wsB_al {C : Nat → Nat} (hno : no C ≤ 4) : wsB (tmN C (cnds C)) (cnds C).length 64 = alB C (cnds C) := by
  rw [Bool.eq_iff_iff, wsB_iff, al_wst hno]
theorem klN_mul (a b : Nat) : lN a * lN b = lN (a * b) := by
  apply Int64.toBitVec_inj.mp
  show BitVec.ofNat 64 a * BitVec.ofNat 64 b = BitVec.ofNat 64 (a * b)
  rw [BitVec.ofNat_mul]
set_option maxHeartbeats 4000000 in
set_option maxRecDepth 100000 in
theorem mt_X1_candidateAt_ok (l : Launch) (D : va_G) (ca : Nat → ClassId) (cq : Nat → Nat) (xq : Nat → Nat) (ak : Nat → Int32) (tb_ : Nat → Int64) (va : Nat → Int32) (fy : Nat → Int64) (cn : Nat → Int32) (an : Nat → Int32) (sw : Nat → Int64) (sb : Nat → Int64) (sv : Value) (C : Nat → Nat) (n_ : Nat) (h0 : C 0 ≤ 12) (hkd0 : ∀ k, k < 12 → C (1 + k) < 8) (hse : ∀ k, k < 12 → C (13 + k) < 6 + k ∧ C (25 + k) < 6 + k) (ho : C 37 < 2 ^ 18) (hbx : C 38 < 2 ^ 18) (hno : popc 18 (C 37) ≤ 4) (hnb : popc 18 (C 38) ≤ 3) (hbsz : C 38 < 2 ^ C 0) (h40 : C 40 ≤ 1) (hak : C 41 ≤ 12) (hAk : AkOk C ak) (ha16 : ∀ k, k < 12 → C (54 + k) < 16) (ht64 : ∀ k, k < 12 → C (42 + k) < 64) (hn : n_ < 2 ^ 31) (nn : Nat) : Met l yX1_candidateAt (ws_ yX1_candidateAt cX1_candidateAt 7 (Option.some Jvm.ClassFile.FieldType.int)) ({ frames := 5, cells := 0, slots := 0, locals := 121 } : Room) (va_Pc [.ref (xq 0), .int (nI n_)] (PreW EvX D vwCl (TY ca) (WT ca cq xq (kdC C) (fsC C) (snC C) ak (nI (C 0)) (nI (C 37)) (nI (C 38)) (fI (C 39)) (nI (C 40)) (lN (C 66)) (nI (C 41)) tb_ va fy cn an sw sb sv) nn)) (va_Qi (fun (r_ : Int32) (u_ : (Nat → Int32)) => r_ = nuI (n_ + 1) (cnds C)) (PostW D vwCl (TY ca) (fun (u_ : (Nat → Int32)) => (WT ca cq xq (kdC C) (fsC C) (snC C) ak (nI (C 0)) (nI (C 37)) (nI (C 38)) (fI (C 39)) (nI (C 40)) (lN (C 66)) (nI (C 41)) tb_ u_ fy cn an sw sb sv)) (va_A (WT ca cq xq (kdC C) (fsC C) (snC C) ak (nI (C 0)) (nI (C 37)) (nI (C 38)) (fI (C 39)) (nI (C 40)) (lN (C 66)) (nI (C 41)) tb_ va fy cn an sw sb sv) nn)) (va_A (WT ca cq xq (kdC C) (fsC C) (snC C) ak (nI (C 0)) (nI (C 37)) (nI (C 38)) (fI (C 39)) (nI (C 40)) (lN (C 66)) (nI (C 41)) tb_ va fy cn an sw sb sv) nn)) 0 0 (va_A (WT ca cq xq (kdC C) (fsC C) (snC C) ak (nI (C 0)) (nI (C 37)) (nI (C 38)) (fI (C 39)) (nI (C 40)) (lN (C 66)) (nI (C 41)) tb_ va fy cn an sw sb sv) nn) := by
  refine met_go (QA := fun A => va_Qi (fun (r_ : Int32) (u_ : (Nat → Int32)) => r_ = nuI (n_ + 1) (cnds C)) (PostW D vwCl (TY ca) (fun (u_ : (Nat → Int32)) => (WT ca cq xq (kdC C) (fsC C) (snC C) ak (nI (C 0)) (nI (C 37)) (nI (C 38)) (fI (C 39)) (nI (C 40)) (lN (C 66)) (nI (C 41)) tb_ u_ fy cn an sw sb sv)) A) A) (by decide) (Nat.le_of_ble_eq_true rfl) (fun p e s m below meth c A ls QQ hQQ hx hb hr hts hown hlocks hml hA hP hK hD hE hl => ?_)
  have hown : s.vm.findClass RX1 = some m.cls := hown
  have hS : va_S A s.heap s.heap [] := va_S.rf
  have hl : lv_has ls 7 [(0, .ref (xq 0)), (1, .int (nI n_))] := hl
  generalize hHe : s.heap = H at hP ⊢
  have hS : va_S A s.heap H [] := hHe ▸ hS
  generalize ([] : List Loc) = locs at hS ⊢
  have hks := ksm_le h0 hnb
  have hfa := fa_le h0
  refine lv_iload_n hx hb dX1_candidateAt_0 rfl (lv_at hl 1 rfl) ?_
  refine nv_if_lt hx hb dX1_candidateAt_1 (tgt := 8) (by decide) (by omega) ?_
  refine lv_iconst (v := nI 1) hx hb dX1_candidateAt_4 (by decide) ?_
  refine lv_goto (tgt := 9) hx hb dX1_candidateAt_5 (by decide) ?_
  refine xc_v (xr_S (As := [.int (nI 1)]) (rest := []) (mt_X1_needArgument_ok l D ca true rfl H.size) ⟨hx, hb, hml, hown, hts⟩ (va_cwS 1 hts (lw_S q1045 q1046 q79 q1047) rfl rfl rfl (by decide +kernel) ⟨Nat.le_of_ble_eq_true rfl, Nat.le_of_ble_eq_true rfl⟩) Ev0_ok trivial hK hS (Cut.app (wc := []) (wr := (WT ca cq xq (kdC C) (fsC C) (snC C) ak (nI (C 0)) (nI (C 37)) (nI (C 38)) (fI (C 39)) (nI (C 40)) (lN (C 66)) (nI (C 41)) tb_ va fy cn an sw sb sv)) hP hD hS hA) rfl hl.1 rfl (Nat.le_of_ble_eq_true rfl) dX1_candidateAt_9 ⟨Nat.le_of_ble_eq_true rfl, Nat.le_of_ble_eq_true rfl⟩) hS (Cut.app (wc := []) (wr := (WT ca cq xq (kdC C) (fsC C) (snC C) ak (nI (C 0)) (nI (C 37)) (nI (C 38)) (fI (C 39)) (nI (C 40)) (lN (C 66)) (nI (C 41)) tb_ va fy cn an sw sb sv)) hP hD hS hA) (fun u_2 H locs hq_9 hP hD hS => ?_)
  have hP : va_P D vwCl (WT ca cq xq (kdC C) (fsC C) (snC C) ak (nI (C 0)) (nI (C 37)) (nI (C 38)) (fI (C 39)) (nI (C 40)) (lN (C 66)) (nI (C 41)) tb_ va fy cn an sw sb sv) H := hP
  have hD : va_D A (WT ca cq xq (kdC C) (fsC C) (snC C) ak (nI (C 0)) (nI (C 37)) (nI (C 38)) (fI (C 39)) (nI (C 40)) (lN (C 66)) (nI (C 41)) tb_ va fy cn an sw sb sv) := hD
  refine lv_iload_n hx hb dX1_candidateAt_12 rfl (lv_at hl 1 rfl) ?_
  refine lv_istore_n (lv' := [(2, .int (nI n_)), (0, .ref (xq 0)), (1, .int (nI n_))]) hx hb dX1_candidateAt_13 rfl hl (by decide) rfl (fun ls hl => ?_)
  refine lv_aload_n hx hb dX1_candidateAt_14 rfl (lv_at hl 1 rfl) ?_
  refine xc_i (xr_V (b := xq 0) (ci := 0) (q0 := 5) (As := []) (rest := []) (mt_X1_assignments l D ca cq xq ak tb_ va fy cn an sw sb sv C (by first | assumption | omega | (simp only [updN, forgetC, changedC]; (repeat' split) <;> omega)) (by first | assumption | omega | (simp only [updN, forgetC, changedC]; (repeat' split) <;> omega)) (by first | assumption | omega | (simp only [updN, forgetC, changedC]; (repeat' split) <;> omega)) (by first | assumption | omega | (simp only [updN, forgetC, changedC]; (repeat' split) <;> omega)) H.size) ⟨hx, hb, hml, hown, hts⟩ (cwV 0 hts (lw_V q1091 q1093 qs24 q79 q1094) rfl rfl rfl (by decide +kernel) ⟨Nat.le_of_ble_eq_true rfl, Nat.le_of_ble_eq_true rfl⟩) EvX_ok hE hK hS (Cut.all hP hD hS hA) rfl rfl rfl hl.1 rfl (Nat.le_of_ble_eq_true rfl) dX1_candidateAt_15 ⟨Nat.le_of_ble_eq_true rfl, Nat.le_of_ble_eq_true rfl⟩) hS (Cut.all hP hD hS hA) (fun r_3 u_4 H locs hq_15 hP hD hS => ?_)
  have hP : va_P D vwCl (WT ca cq xq (kdC C) (fsC C) (snC C) ak (nI (C 0)) (nI (C 37)) (nI (C 38)) (fI (C 39)) (nI (C 40)) (lN (C 66)) (nI (C 41)) tb_ va fy cn an sw sb sv) H := hP
  have hD : va_D A (WT ca cq xq (kdC C) (fsC C) (snC C) ak (nI (C 0)) (nI (C 37)) (nI (C 38)) (fI (C 39)) (nI (C 40)) (lN (C 66)) (nI (C 41)) tb_ va fy cn an sw sb sv) := hD
  have hp_15 : r_3 = nI (ksm C) := hq_15
  clear hq_15
  obtain rfl := hp_15
  refine lv_istore_n (lv' := [(3, .int (nI (ksm C))), (2, .int (nI n_)), (0, .ref (xq 0)), (1, .int (nI n_))]) hx hb dX1_candidateAt_18 rfl hl (by decide) rfl (fun ls hl => ?_)
  refine lv_aload_n hx hb dX1_candidateAt_19 rfl (lv_at hl 2 rfl) ?_
  refine xc_i (xr_V (b := xq 0) (ci := 0) (q0 := 5) (As := []) (rest := []) (mt_X1_faultsTold l D ca cq xq ak tb_ va fy cn an sw sb sv C (by first | assumption | omega | (simp only [updN, forgetC, changedC]; (repeat' split) <;> omega)) (by first | assumption | omega | (simp only [updN, forgetC, changedC]; (repeat' split) <;> omega)) H.size) ⟨hx, hb, hml, hown, hts⟩ (cwV 0 hts (lw_V q1095 q1097 qs25 q79 q1098) rfl rfl rfl (by decide +kernel) ⟨Nat.le_of_ble_eq_true rfl, Nat.le_of_ble_eq_true rfl⟩) EvX_ok hE hK hS (Cut.all hP hD hS hA) rfl rfl rfl hl.1 rfl (Nat.le_of_ble_eq_true rfl) dX1_candidateAt_20 ⟨Nat.le_of_ble_eq_true rfl, Nat.le_of_ble_eq_true rfl⟩) hS (Cut.all hP hD hS hA) (fun r_5 u_6 H locs hq_20 hP hD hS => ?_)
  have hP : va_P D vwCl (WT ca cq xq (kdC C) (fsC C) (snC C) ak (nI (C 0)) (nI (C 37)) (nI (C 38)) (fI (C 39)) (nI (C 40)) (lN (C 66)) (nI (C 41)) tb_ va fy cn an sw sb sv) H := hP
  have hD : va_D A (WT ca cq xq (kdC C) (fsC C) (snC C) ak (nI (C 0)) (nI (C 37)) (nI (C 38)) (fI (C 39)) (nI (C 40)) (lN (C 66)) (nI (C 41)) tb_ va fy cn an sw sb sv) := hD
  have hp_20 : r_5 = nI (fa C + 1) := hq_20
  clear hq_20
  obtain rfl := hp_20
  refine lv_istore (lv' := [(4, .int (nI (fa C + 1))), (3, .int (nI (ksm C))), (2, .int (nI n_)), (0, .ref (xq 0)), (1, .int (nI n_))]) hx hb dX1_candidateAt_23 hl (by decide) rfl (fun ls hl => ?_)
  refine lv_iconst (v := nI 0) hx hb dX1_candidateAt_25 (by decide) ?_
  refine lv_istore (lv' := [(5, .int (nI 0)), (4, .int (nI (fa C + 1))), (3, .int (nI (ksm C))), (2, .int (nI n_)), (0, .ref (xq 0)), (1, .int (nI n_))]) hx hb dX1_candidateAt_26 hl (by decide) rfl (fun ls hl => ?_)
  have lp_28 : ∀ (fu_28 : Nat) (d : Nat) (v_ : Nat → Int32), ksm C - d < fu_28 → (d ≤ ksm C) → ((clK C d).length ≤ n_) → ∀ (H : Heap) (locs : List Loc), va_P D vwCl (WT ca cq xq (kdC C) (fsC C) (snC C) ak (nI (C 0)) (nI (C 37)) (nI (C 38)) (fI (C 39)) (nI (C 40)) (lN (C 66)) (nI (C 41)) tb_ v_ fy cn an sw sb sv) H → va_D A (WT ca cq xq (kdC C) (fsC C) (snC C) ak (nI (C 0)) (nI (C 37)) (nI (C 38)) (fI (C 39)) (nI (C 40)) (lN (C 66)) (nI (C 41)) tb_ v_ fy cn an sw sb sv) → va_S A s.heap H locs → ∀ (ls : Array Slot), lv_has ls 7 [(5, .int (nI d)), (4, .int (nI (fa C + 1))), (3, .int (nI (ksm C))), (2, .int (nI (n_ - (clK C d).length))), (0, .ref (xq 0)), (1, .int (nI n_))] → W p l e ({ frames := 5, cells := 0, slots := 0, locals := 121 } : Room) s m ([.ref (xq 0), .int (nI n_)] : List Value).toArray below meth c H locs 0 0 QQ (F0 m 28 ls []) := by
    intro fu_28
    induction fu_28 with
    | zero => intro d v_ hfu; exact absurd hfu (Nat.not_lt_zero _)
    | succ fu_28 ih_28 =>
      intro d v_ hfu hd hL_ H locs hP hD hS ls hl
      refine lv_iload hx hb dX1_candidateAt_28 (lv_at hl 0 rfl) ?_
      refine lv_iload_n hx hb dX1_candidateAt_30 rfl (lv_at hl 2 rfl) ?_
      refine nv_icmp_ge (tgt := 83) hx hb dX1_candidateAt_31 (by decide) (by omega) (by omega) (fun c_31 => ?_) (fun c_31 => ?_)
      · skip
        have e_ : ksm C = d := Eq.symm (by omega)
        subst e_
        refine lv_iconst (v := fI 0) hx hb dX1_candidateAt_83 (by decide) ?_
        subst hQQ
        exact xe_i (v := fI 0) v_ hx hb hr hlocks hK hP hD hS (nu_none hL_) dX1_candidateAt_84
      · skip
        refine lv_iconst (v := nI 0) hx hb dX1_candidateAt_34 (by decide) ?_
        refine lv_istore (lv' := [(6, .int (nI 0)), (5, .int (nI d)), (4, .int (nI (fa C + 1))), (3, .int (nI (ksm C))), (2, .int (nI (n_ - (clK C d).length))), (0, .ref (xq 0)), (1, .int (nI n_))]) hx hb dX1_candidateAt_35 hl (by decide) rfl (fun ls hl => ?_)
        have lp_37 : ∀ (fu_37 : Nat) (f : Nat) (u_ : Nat → Int32), fa C + 1 - f < fu_37 → (f ≤ fa C + 1) → ((clK C d ++ clF C (d + 1) f).length ≤ n_) → ∀ (H : Heap) (locs : List Loc), va_P D vwCl (WT ca cq xq (kdC C) (fsC C) (snC C) ak (nI (C 0)) (nI (C 37)) (nI (C 38)) (fI (C 39)) (nI (C 40)) (lN (C 66)) (nI (C 41)) tb_ u_ fy cn an sw sb sv) H → va_D A (WT ca cq xq (kdC C) (fsC C) (snC C) ak (nI (C 0)) (nI (C 37)) (nI (C 38)) (fI (C 39)) (nI (C 40)) (lN (C 66)) (nI (C 41)) tb_ u_ fy cn an sw sb sv) → va_S A s.heap H locs → ∀ (ls : Array Slot), lv_has ls 7 [(6, .int (nI f)), (5, .int (nI d)), (4, .int (nI (fa C + 1))), (3, .int (nI (ksm C))), (2, .int (nI (n_ - (clK C d ++ clF C (d + 1) f).length))), (0, .ref (xq 0)), (1, .int (nI n_))] → W p l e ({ frames := 5, cells := 0, slots := 0, locals := 121 } : Room) s m ([.ref (xq 0), .int (nI n_)] : List Value).toArray below meth c H locs 0 0 QQ (F0 m 37 ls []) := by
          intro fu_37
          induction fu_37 with
          | zero => intro f u_ hfu; exact absurd hfu (Nat.not_lt_zero _)
          | succ fu_37 ih_37 =>
            intro f u_ hfu hf hL2 H locs hP hD hS ls hl
            refine lv_iload hx hb dX1_candidateAt_37 (lv_at hl 0 rfl) ?_
            refine lv_iload hx hb dX1_candidateAt_39 (lv_at hl 2 rfl) ?_
            refine nv_icmp_ge (tgt := 77) hx hb dX1_candidateAt_41 (by decide) (by omega) (by omega) (fun c_41 => ?_) (fun c_41 => ?_)
            · skip
              have e_ : fa C + 1 = f := Eq.symm (by omega)
              subst e_
              refine lv_iinc (v := nI (d + 1)) (lv' := [(5, .int (nI (d + 1))), (6, .int (nI (fa C + 1))), (4, .int (nI (fa C + 1))), (3, .int (nI (ksm C))), (2, .int (nI (n_ - (clK C d ++ clF C (d + 1) (fa C + 1)).length))), (0, .ref (xq 0)), (1, .int (nI n_))]) hx hb dX1_candidateAt_77 hl (k := 1) rfl (nI_add d 1) (by decide) rfl (fun ls hl => ?_)
              refine lv_goto (tgt := 28) hx hb dX1_candidateAt_80 (by decide) ?_
              have hl : lv_has ls 7 [(5, .int (nI (d + 1))), (6, .int (nI (fa C + 1))), (4, .int (nI (fa C + 1))), (3, .int (nI (ksm C))), (2, .int (nI (n_ - (clK C (d + 1)).length))), (0, .ref (xq 0)), (1, .int (nI n_))] := (congrArg (fun x_ => lv_has ls 7 [(5, .int (nI (d + 1))), (6, .int (nI (fa C + 1))), (4, .int (nI (fa C + 1))), (3, .int (nI (ksm C))), (2, .int x_), (0, .ref (xq 0)), (1, .int (nI n_))]) (show nI (n_ - (clK C d ++ clF C (d + 1) (fa C + 1)).length) = nI (n_ - (clK C (d + 1)).length) from rfl)).mp hl
              exact ih_28  (d + 1) u_ (by omega) (by omega) hL2 _ _ hP hD hS ls (lv_sub hl [0, 2, 3, 4, 5, 6] rfl)
            · skip
              refine lv_aload_n hx hb dX1_candidateAt_44 rfl (lv_at hl 5 rfl) ?_
              refine lv_iload hx hb dX1_candidateAt_45 (lv_at hl 1 rfl) ?_
              refine lv_topi (nm_r (e' := fI (d + 1)) (fI_S d) ?_)
              refine lv_iload hx hb dX1_candidateAt_47 (lv_at hl 0 rfl) ?_
              refine xc_i (xr_V (b := xq 0) (ci := 0) (q0 := 5) (As := [.int (fI (d + 1)), .int (nI f)]) (rest := []) (mt_X1_isLeft l D ca cq xq ak tb_ u_ fy cn an sw sb sv C (d + 1) f (by first | assumption | omega | (simp only [updN, forgetC, changedC]; (repeat' split) <;> omega)) (by first | assumption | omega | (simp only [updN, forgetC, changedC]; (repeat' split) <;> omega)) (by first | assumption | omega | (simp only [updN, forgetC, changedC]; (repeat' split) <;> omega)) (by first | assumption | omega | (simp only [updN, forgetC, changedC]; (repeat' split) <;> omega)) (by first | assumption | omega | (simp only [updN, forgetC, changedC]; (repeat' split) <;> omega)) (by first | assumption | omega | (simp only [updN, forgetC, changedC]; (repeat' split) <;> omega)) (by first | assumption | omega | (simp only [updN, forgetC, changedC]; (repeat' split) <;> omega)) (by first | assumption | omega | (simp only [updN, forgetC, changedC]; (repeat' split) <;> omega)) (by first | assumption | omega | (simp only [updN, forgetC, changedC]; (repeat' split) <;> omega)) (by first | assumption | omega | (simp only [updN, forgetC, changedC]; (repeat' split) <;> omega)) (by first | assumption | omega | (simp only [updN, forgetC, changedC]; (repeat' split) <;> omega)) (by first | assumption | omega | (simp only [updN, forgetC, changedC]; (repeat' split) <;> omega)) H.size) ⟨hx, hb, hml, hown, hts⟩ (cwV 2 hts (lw_V q1119 q1121 qs30 q79 q1122) rfl rfl rfl (by decide +kernel) ⟨Nat.le_of_ble_eq_true rfl, Nat.le_of_ble_eq_true rfl⟩) EvX_ok hE hK hS (Cut.all hP hD hS hA) rfl rfl rfl hl.1 rfl (Nat.le_of_ble_eq_true rfl) dX1_candidateAt_49 ⟨Nat.le_of_ble_eq_true rfl, Nat.le_of_ble_eq_true rfl⟩) hS (Cut.all hP hD hS hA) (fun r_9 u_10 H locs hq_49 hP hD hS => ?_)
              obtain ⟨va1_11, rfl⟩ : ∃ z_, z_ = u_10 := ⟨_, rfl⟩
              have hP : va_P D vwCl (WT ca cq xq (kdC C) (fsC C) (snC C) ak (nI (C 0)) (nI (C 37)) (nI (C 38)) (fI (C 39)) (nI (C 40)) (lN (C 66)) (nI (C 41)) tb_ va1_11 fy cn an sw sb sv) H := hP
              have hD : va_D A (WT ca cq xq (kdC C) (fsC C) (snC C) ak (nI (C 0)) (nI (C 37)) (nI (C 38)) (fI (C 39)) (nI (C 40)) (lN (C 66)) (nI (C 41)) tb_ va1_11 fy cn an sw sb sv) := hD
              have hp_49 : r_9 = bI (candB C (d + 1) f) := hq_49
              clear hq_49
              obtain rfl := hp_49
              refine nv_ifb_eq (tgt := 71) hx hb dX1_candidateAt_52 (by decide) (fun c_52 => ?_) (fun c_52 => ?_)
              · skip
                refine lv_iinc (v := nI (f + 1)) (lv' := [(6, .int (nI (f + 1))), (5, .int (nI d)), (4, .int (nI (fa C + 1))), (3, .int (nI (ksm C))), (2, .int (nI (n_ - (clK C d ++ clF C (d + 1) f).length))), (0, .ref (xq 0)), (1, .int (nI n_))]) hx hb dX1_candidateAt_71 hl (k := 0) rfl (nI_add f 1) (by decide) rfl (fun ls hl => ?_)
                refine lv_goto (tgt := 37) hx hb dX1_candidateAt_74 (by decide) ?_
                have hl : lv_has ls 7 [(6, .int (nI (f + 1))), (5, .int (nI d)), (4, .int (nI (fa C + 1))), (3, .int (nI (ksm C))), (2, .int (nI (n_ - (clK C d ++ clF C (d + 1) (f + 1)).length))), (0, .ref (xq 0)), (1, .int (nI n_))] := (congrArg (fun x_ => lv_has ls 7 [(6, .int (nI (f + 1))), (5, .int (nI d)), (4, .int (nI (fa C + 1))), (3, .int (nI (ksm C))), (2, .int x_), (0, .ref (xq 0)), (1, .int (nI n_))]) (show nI (n_ - (clK C d ++ clF C (d + 1) f).length) = nI (n_ - (clK C d ++ clF C (d + 1) (f + 1)).length) from congrArg nI (by rw [clF_n c_52]))).mp hl
                exact ih_37  (f + 1) va1_11 (by omega) (by omega) (by rw [← clF_n c_52]; exact hL2) _ _ hP hD hS ls (lv_sub hl [0, 1, 2, 3, 4, 5, 6] rfl)
              · skip
                refine lv_iload_n hx hb dX1_candidateAt_55 rfl (lv_at hl 4 rfl) ?_
                refine nv_if_ne (tgt := 68) hx hb dX1_candidateAt_56 (by decide) (by omega) (fun c_56 => ?_) (fun c_56 => ?_)
                · skip
                  refine lv_iinc (v := nI (n_ - (clK C d ++ clF C (d + 1) f).length - 1)) (lv' := [(2, .int (nI (n_ - (clK C d ++ clF C (d + 1) f).length - 1))), (6, .int (nI f)), (5, .int (nI d)), (4, .int (nI (fa C + 1))), (3, .int (nI (ksm C))), (0, .ref (xq 0)), (1, .int (nI n_))]) hx hb dX1_candidateAt_68 hl (k := 4) rfl (by have h_ := (by omega : 0 < n_ - (clK C d ++ clF C (d + 1) f).length); exact sb_m1 h_) (by decide) rfl (fun ls hl => ?_)
                  refine lv_iinc (v := nI (f + 1)) (lv' := [(6, .int (nI (f + 1))), (2, .int (nI (n_ - (clK C d ++ clF C (d + 1) f).length - 1))), (5, .int (nI d)), (4, .int (nI (fa C + 1))), (3, .int (nI (ksm C))), (0, .ref (xq 0)), (1, .int (nI n_))]) hx hb dX1_candidateAt_71 hl (k := 1) rfl (nI_add f 1) (by decide) rfl (fun ls hl => ?_)
                  refine lv_goto (tgt := 37) hx hb dX1_candidateAt_74 (by decide) ?_
                  have hl : lv_has ls 7 [(6, .int (nI (f + 1))), (2, .int (nI (n_ - (clK C d ++ clF C (d + 1) (f + 1)).length))), (5, .int (nI d)), (4, .int (nI (fa C + 1))), (3, .int (nI (ksm C))), (0, .ref (xq 0)), (1, .int (nI n_))] := (congrArg (fun x_ => lv_has ls 7 [(6, .int (nI (f + 1))), (2, .int x_), (5, .int (nI d)), (4, .int (nI (fa C + 1))), (3, .int (nI (ksm C))), (0, .ref (xq 0)), (1, .int (nI n_))]) (show nI (n_ - (clK C d ++ clF C (d + 1) f).length - 1) = nI (n_ - (clK C d ++ clF C (d + 1) (f + 1)).length) from congrArg nI (by rw [clL_y c_52]; omega))).mp hl
                  exact ih_37  (f + 1) va1_11 (by omega) (by omega) (by rw [clL_y c_52]; omega) _ _ hP hD hS ls (lv_sub hl [0, 2, 3, 4, 1, 5, 6] rfl)
                · skip
                  refine lv_bipush (v := nI 37) hx hb dX1_candidateAt_59 (by decide) ?_
                  refine lv_iload hx hb dX1_candidateAt_61 (lv_at hl 1 rfl) ?_
                  refine nv_imul hx hb dX1_candidateAt_63 ?_
                  refine lv_iload hx hb dX1_candidateAt_64 (lv_at hl 0 rfl) ?_
                  refine nv_iadd hx hb dX1_candidateAt_66 ?_
                  subst hQQ
                  exact xe_i (v := nI ((37 * d) + f)) va1_11 hx hb hr hlocks hK hP hD hS (nu_hit (by omega) (by omega) c_52 (by omega)) dX1_candidateAt_67
        have hl : lv_has ls 7 [(6, .int (nI 0)), (5, .int (nI d)), (4, .int (nI (fa C + 1))), (3, .int (nI (ksm C))), (2, .int (nI (n_ - (clK C d ++ clF C (d + 1) 0).length))), (0, .ref (xq 0)), (1, .int (nI n_))] := (congrArg (fun x_ => lv_has ls 7 [(6, .int (nI 0)), (5, .int (nI d)), (4, .int (nI (fa C + 1))), (3, .int (nI (ksm C))), (2, .int x_), (0, .ref (xq 0)), (1, .int (nI n_))]) (show nI (n_ - (clK C d).length) = nI (n_ - (clK C d ++ clF C (d + 1) 0).length) from congrArg nI (by simp [clF]))).mp hl
        exact lp_37 (fa C + 1 - 0 + 1) 0 v_ (Nat.lt_succ_self _) (by omega) (by simpa [clF] using hL_) _ _ hP hD hS ls (lv_sub hl [0, 1, 2, 3, 4, 5, 6] rfl)
  have hl : lv_has ls 7 [(5, .int (nI 0)), (4, .int (nI (fa C + 1))), (3, .int (nI (ksm C))), (2, .int (nI (n_ - (clK C 0).length))), (0, .ref (xq 0)), (1, .int (nI n_))] := (congrArg (fun x_ => lv_has ls 7 [(5, .int (nI 0)), (4, .int (nI (fa C + 1))), (3, .int (nI (ksm C))), (2, .int x_), (0, .ref (xq 0)), (1, .int (nI n_))]) (show nI n_ = nI (n_ - (clK C 0).length) from rfl)).mp hl
  exact lp_28 (ksm C - 0 + 1) 0 va (Nat.lt_succ_self _) (by omega) (Nat.zero_le _) _ _ hP hD hS ls (lv_sub hl [0, 1, 2, 3, 4, 5] rfl)
set_option maxHeartbeats 4000000 in
set_option maxRecDepth 100000 in
theorem mt_X1_hiddenFaults (l : Launch) (D : va_G) (ca : Nat → ClassId) (cq : Nat → Nat) (xq : Nat → Nat) (ak : Nat → Int32) (tb_ : Nat → Int64) (va : Nat → Int32) (fy : Nat → Int64) (cn : Nat → Int32) (an : Nat → Int32) (sw : Nat → Int64) (sb : Nat → Int64) (sv : Value) (C : Nat → Nat) (h0 : C 0 ≤ 12) (hkd0 : ∀ k, k < 12 → C (1 + k) < 8) (hse : ∀ k, k < 12 → C (13 + k) < 6 + k ∧ C (25 + k) < 6 + k) (ho : C 37 < 2 ^ 18) (hbx : C 38 < 2 ^ 18) (hno : popc 18 (C 37) ≤ 4) (nn : Nat) : Met l yX1_hiddenFaults (ws_ yX1_hiddenFaults cX1_hiddenFaults 1 (Option.some Jvm.ClassFile.FieldType.long)) ({ frames := 5, cells := 0, slots := 0, locals := 119 } : Room) (va_Pc [.ref (xq 0)] (PreW EvX D vwCl (TY ca) (WT ca cq xq (kdC C) (fsC C) (snC C) ak (nI (C 0)) (nI (C 37)) (nI (C 38)) (fI (C 39)) (nI (C 40)) (lN (C 66)) (nI (C 41)) tb_ va fy cn an sw sb sv) nn)) (va_Ql (fun (r_ : Int64) (u_ : (Nat → Int64) × (Nat → Int64) × (Nat → Int64) × (Nat → Int64)) => r_ = lN (hid C (2 * (6 + C 0)))) (PostW D vwCl (TY ca) (fun (u_ : (Nat → Int64) × (Nat → Int64) × (Nat → Int64) × (Nat → Int64)) => (WT ca cq xq (kdC C) (fsC C) (snC C) ak (nI (C 0)) (nI (C 37)) (nI (C 38)) (fI (C 39)) (nI (C 40)) (lN (C 66)) (nI (C 41)) u_.1 va u_.2.1 cn an u_.2.2.2 u_.2.2.1 sv)) (va_A (WT ca cq xq (kdC C) (fsC C) (snC C) ak (nI (C 0)) (nI (C 37)) (nI (C 38)) (fI (C 39)) (nI (C 40)) (lN (C 66)) (nI (C 41)) tb_ va fy cn an sw sb sv) nn)) (va_A (WT ca cq xq (kdC C) (fsC C) (snC C) ak (nI (C 0)) (nI (C 37)) (nI (C 38)) (fI (C 39)) (nI (C 40)) (lN (C 66)) (nI (C 41)) tb_ va fy cn an sw sb sv) nn)) 0 0 (va_A (WT ca cq xq (kdC C) (fsC C) (snC C) ak (nI (C 0)) (nI (C 37)) (nI (C 38)) (fI (C 39)) (nI (C 40)) (lN (C 66)) (nI (C 41)) tb_ va fy cn an sw sb sv) nn) := by
  refine met_go (QA := fun A => va_Ql (fun (r_ : Int64) (u_ : (Nat → Int64) × (Nat → Int64) × (Nat → Int64) × (Nat → Int64)) => r_ = lN (hid C (2 * (6 + C 0)))) (PostW D vwCl (TY ca) (fun (u_ : (Nat → Int64) × (Nat → Int64) × (Nat → Int64) × (Nat → Int64)) => (WT ca cq xq (kdC C) (fsC C) (snC C) ak (nI (C 0)) (nI (C 37)) (nI (C 38)) (fI (C 39)) (nI (C 40)) (lN (C 66)) (nI (C 41)) u_.1 va u_.2.1 cn an u_.2.2.2 u_.2.2.1 sv)) A) A) (by decide) (Nat.le_of_ble_eq_true rfl) (fun p e s m below meth c A ls QQ hQQ hx hb hr hts hown hlocks hml hA hP hK hD hE hl => ?_)
  have hown : s.vm.findClass RX1 = some m.cls := hown
  have hS : va_S A s.heap s.heap [] := va_S.rf
  have hl : lv_has ls 1 [(0, .ref (xq 0))] := hl
  generalize hHe : s.heap = H at hP ⊢
  have hS : va_S A s.heap H [] := hHe ▸ hS
  generalize ([] : List Loc) = locs at hS ⊢
  refine lv_lconst (v := lN 1) hx hb dX1_hiddenFaults_0 (by decide) ?_
  refine lv_aload_n hx hb dX1_hiddenFaults_1 rfl (lv_at hl 0 rfl) ?_
  refine gWT_5_circuit_X1 hx hb hts hown hK hP dX1_hiddenFaults_2 ?_
  refine xc_i (xr_V (b := cq 0) (ci := 1) (q0 := 0) (As := []) (rest := [.long (lN 1)]) (mt_X2_faults l D ca cq (kdC C) (fsC C) (snC C) ak (nI (C 37)) (nI (C 38)) (fI (C 39)) (nI (C 40)) (lN (C 66)) (nI (C 41)) (C 0)  H.size) ⟨hx, hb, hml, hown, hts⟩ (cwV 0 hts (lw_V q439 q440 q441 q80 q442) rfl rfl rfl (by decide +kernel) ⟨Nat.le_of_ble_eq_true rfl, Nat.le_of_ble_eq_true rfl⟩) EvX_ok hE hK hS (Cut.app (wc := (WC ca cq (kdC C) (fsC C) (snC C) ak (nI (C 0)) (nI (C 37)) (nI (C 38)) (fI (C 39)) (nI (C 40)) (lN (C 66)) (nI (C 41)))) (wr := (WTr ca cq xq tb_ va fy cn an sw sb sv)) hP hD hS hA) rfl rfl rfl hl.1 rfl (Nat.le_of_ble_eq_true rfl) dX1_hiddenFaults_5 ⟨Nat.le_of_ble_eq_true rfl, Nat.le_of_ble_eq_true rfl⟩) hS (Cut.app (wc := (WC ca cq (kdC C) (fsC C) (snC C) ak (nI (C 0)) (nI (C 37)) (nI (C 38)) (fI (C 39)) (nI (C 40)) (lN (C 66)) (nI (C 41)))) (wr := (WTr ca cq xq tb_ va fy cn an sw sb sv)) hP hD hS hA) (fun r_1 u_2 H locs hq_5 hP hD hS => ?_)
  have hP : va_P D vwCl (WT ca cq xq (kdC C) (fsC C) (snC C) ak (nI (C 0)) (nI (C 37)) (nI (C 38)) (fI (C 39)) (nI (C 40)) (lN (C 66)) (nI (C 41)) tb_ va fy cn an sw sb sv) H := hP
  have hD : va_D A (WT ca cq xq (kdC C) (fsC C) (snC C) ak (nI (C 0)) (nI (C 37)) (nI (C 38)) (fI (C 39)) (nI (C 40)) (lN (C 66)) (nI (C 41)) tb_ va fy cn an sw sb sv) := hD
  have hp_5 : r_1 = nI (2 * (6 + (C 0))) := hq_5
  clear hq_5
  obtain rfl := hp_5
  refine lv_lshl (v := shl64 (lN 1) (2 * (6 + (C 0)))) hx hb dX1_hiddenFaults_8 rfl ?_
  refine lv_topl (nm_r (e' := lN (1 <<< (2 * (6 + C 0)))) (shl_lN (by omega)) ?_)
  refine lv_lconst (v := lN 1) hx hb dX1_hiddenFaults_9 (by decide) ?_
  refine lv_lsub hx hb dX1_hiddenFaults_10 (lv_topl (nm_r (e' := lN ((1 <<< (2 * (6 + C 0))) - 1)) (klN_sub (by rw [Nat.one_shiftLeft]; exact Nat.two_pow_pos _)) ?_))
  refine lv_aload_n hx hb dX1_hiddenFaults_11 rfl (lv_at hl 0 rfl) ?_
  refine xc_l (xr_V (b := xq 0) (ci := 0) (q0 := 5) (As := []) (rest := [.long (lN ((1 <<< (2 * (6 + C 0))) - 1))]) (mt_X1_layShown l D ca cq xq ak tb_ va fy cn an sw sb sv C (by first | assumption | omega | (simp only [updN, forgetC, changedC]; (repeat' split) <;> omega)) (by first | assumption | omega | (simp only [updN, forgetC, changedC]; (repeat' split) <;> omega)) (by first | assumption | omega | (simp only [updN, forgetC, changedC]; (repeat' split) <;> omega)) (by first | assumption | omega | (simp only [updN, forgetC, changedC]; (repeat' split) <;> omega)) (by first | assumption | omega | (simp only [updN, forgetC, changedC]; (repeat' split) <;> omega)) (by first | assumption | omega | (simp only [updN, forgetC, changedC]; (repeat' split) <;> omega)) H.size) ⟨hx, hb, hml, hown, hts⟩ (cwV 0 hts (lw_V q435 q437 qs6 q79 q438) rfl rfl rfl (by decide +kernel) ⟨Nat.le_of_ble_eq_true rfl, Nat.le_of_ble_eq_true rfl⟩) EvX_ok hE hK hS (Cut.all hP hD hS hA) rfl rfl rfl hl.1 rfl (Nat.le_of_ble_eq_true rfl) dX1_hiddenFaults_12 ⟨Nat.le_of_ble_eq_true rfl, Nat.le_of_ble_eq_true rfl⟩) hS (Cut.all hP hD hS hA) (fun r_3 u_4 H locs hq_12 hP hD hS => ?_)
  obtain ⟨tb1_5, fy1_6, sb1_7⟩ := u_4
  have hP : va_P D vwCl (WT ca cq xq (kdC C) (fsC C) (snC C) ak (nI (C 0)) (nI (C 37)) (nI (C 38)) (fI (C 39)) (nI (C 40)) (lN (C 66)) (nI (C 41)) tb1_5 va fy1_6 cn an (fillL (2 * (6 + C 0)) (fun f => apC C (f + 1) 0) sw) sb1_7 sv) H := hP
  have hD : va_D A (WT ca cq xq (kdC C) (fsC C) (snC C) ak (nI (C 0)) (nI (C 37)) (nI (C 38)) (fI (C 39)) (nI (C 40)) (lN (C 66)) (nI (C 41)) tb1_5 va fy1_6 cn an (fillL (2 * (6 + C 0)) (fun f => apC C (f + 1) 0) sw) sb1_7 sv) := hD
  have hp_12 : r_3 = lN (opn C (2 * (6 + C 0))) ∧ ((∀ t, t < 64 → sb1_7 t = lN (shN C (2 * (6 + C 0)) t))) := hq_12
  clear hq_12
  obtain ⟨rfl, hp_12⟩ := hp_12
  refine lv_ldc2 (v := (-1)) hx hb hown (hts _ q476) dX1_hiddenFaults_15 ?_
  refine lv_lxor hx hb dX1_hiddenFaults_18 ?_
  refine lv_land hx hb dX1_hiddenFaults_19 ?_
  refine lv_topl (nm_r (e' := lN (hid C (2 * (6 + C 0)))) (lN_adn.trans (congrArg lN hid_ad)) ?_)
  subst hQQ
  exact xe_l (v := lN (hid C (2 * (6 + C 0)))) (tb1_5, fy1_6, sb1_7, fillL (2 * (6 + C 0)) (fun f => apC C (f + 1) 0) sw) hx hb hr hlocks hK hP hD hS (rfl) dX1_hiddenFaults_20
set_option maxHeartbeats 4000000 in
set_option maxRecDepth 100000 in
theorem mt_X1_areAlike (l : Launch) (D : va_G) (ca : Nat → ClassId) (cq : Nat → Nat) (xq : Nat → Nat) (ak : Nat → Int32) (tb_ : Nat → Int64) (va : Nat → Int32) (fy : Nat → Int64) (cn : Nat → Int32) (an : Nat → Int32) (sw : Nat → Int64) (sb : Nat → Int64) (sv : Value) (C : Nat → Nat) (h0 : C 0 ≤ 12) (hkd0 : ∀ k, k < 12 → C (1 + k) < 8) (hse : ∀ k, k < 12 → C (13 + k) < 6 + k ∧ C (25 + k) < 6 + k) (ho : C 37 < 2 ^ 18) (hbx : C 38 < 2 ^ 18) (hno : popc 18 (C 37) ≤ 4) (hnb : popc 18 (C 38) ≤ 3) (hbsz : C 38 < 2 ^ C 0) (h40 : C 40 ≤ 1) (hak : C 41 ≤ 12) (hAk : AkOk C ak) (ha16 : ∀ k, k < 12 → C (54 + k) < 16) (ht64 : ∀ k, k < 12 → C (42 + k) < 64) (nn : Nat) : Met l yX1_areAlike (ws_ yX1_areAlike cX1_areAlike 4 (Option.some Jvm.ClassFile.FieldType.boolean)) ({ frames := 5, cells := 0, slots := 0, locals := 120 } : Room) (va_Pc [.ref (xq 0)] (PreW EvX D vwCl (TY ca) (WT ca cq xq (kdC C) (fsC C) (snC C) ak (nI (C 0)) (nI (C 37)) (nI (C 38)) (fI (C 39)) (nI (C 40)) (lN (C 66)) (nI (C 41)) tb_ va fy cn an sw sb sv) nn)) (va_Qi (fun (r_ : Int32) (u_ : (Nat → Int64) × (Nat → Int32)) => r_ = bI (alB C (cnds C))) (PostW D vwCl (TY ca) (fun (u_ : (Nat → Int64) × (Nat → Int32)) => (WT ca cq xq (kdC C) (fsC C) (snC C) ak (nI (C 0)) (nI (C 37)) (nI (C 38)) (fI (C 39)) (nI (C 40)) (lN (C 66)) (nI (C 41)) u_.1 va fy (nIf (tmN C (cnds C))) u_.2 sw sb sv)) (va_A (WT ca cq xq (kdC C) (fsC C) (snC C) ak (nI (C 0)) (nI (C 37)) (nI (C 38)) (fI (C 39)) (nI (C 40)) (lN (C 66)) (nI (C 41)) tb_ va fy cn an sw sb sv) nn)) (va_A (WT ca cq xq (kdC C) (fsC C) (snC C) ak (nI (C 0)) (nI (C 37)) (nI (C 38)) (fI (C 39)) (nI (C 40)) (lN (C 66)) (nI (C 41)) tb_ va fy cn an sw sb sv) nn)) 0 0 (va_A (WT ca cq xq (kdC C) (fsC C) (snC C) ak (nI (C 0)) (nI (C 37)) (nI (C 38)) (fI (C 39)) (nI (C 40)) (lN (C 66)) (nI (C 41)) tb_ va fy cn an sw sb sv) nn) := by
  refine met_go (QA := fun A => va_Qi (fun (r_ : Int32) (u_ : (Nat → Int64) × (Nat → Int32)) => r_ = bI (alB C (cnds C))) (PostW D vwCl (TY ca) (fun (u_ : (Nat → Int64) × (Nat → Int32)) => (WT ca cq xq (kdC C) (fsC C) (snC C) ak (nI (C 0)) (nI (C 37)) (nI (C 38)) (fI (C 39)) (nI (C 40)) (lN (C 66)) (nI (C 41)) u_.1 va fy (nIf (tmN C (cnds C))) u_.2 sw sb sv)) A) A) (by decide) (Nat.le_of_ble_eq_true rfl) (fun p e s m below meth c A ls QQ hQQ hx hb hr hts hown hlocks hml hA hP hK hD hE hl => ?_)
  have hown : s.vm.findClass RX1 = some m.cls := hown
  have hS : va_S A s.heap s.heap [] := va_S.rf
  have hl : lv_has ls 4 [(0, .ref (xq 0))] := hl
  generalize hHe : s.heap = H at hP ⊢
  have hS : va_S A s.heap H [] := hHe ▸ hS
  generalize ([] : List Loc) = locs at hS ⊢
  have hll := tm_lim h0 hnb
  have hnc : no C ≤ 4 := Nat.le_trans (popc_mono (by omega)) hno
  have hcl : (cnds C).length ≤ 7992 := Nat.le_trans (clK_len h0 _) (by have := ksm_le h0 hnb; omega)
  refine lv_aload_n hx hb dX1_areAlike_0 rfl (lv_at hl 0 rfl) ?_
  refine xc_i (xr_V (b := xq 0) (ci := 0) (q0 := 5) (As := []) (rest := []) (mt_X1_layCounts l D ca cq xq ak tb_ va fy cn an sw sb sv C (by first | assumption | omega | (simp only [updN, forgetC, changedC]; (repeat' split) <;> omega)) (by first | assumption | omega | (simp only [updN, forgetC, changedC]; (repeat' split) <;> omega)) (by first | assumption | omega | (simp only [updN, forgetC, changedC]; (repeat' split) <;> omega)) (by first | assumption | omega | (simp only [updN, forgetC, changedC]; (repeat' split) <;> omega)) (by first | assumption | omega | (simp only [updN, forgetC, changedC]; (repeat' split) <;> omega)) (by first | assumption | omega | (simp only [updN, forgetC, changedC]; (repeat' split) <;> omega)) (by first | assumption | omega | (simp only [updN, forgetC, changedC]; (repeat' split) <;> omega)) (by first | assumption | omega | (simp only [updN, forgetC, changedC]; (repeat' split) <;> omega)) (by first | assumption | omega | (simp only [updN, forgetC, changedC]; (repeat' split) <;> omega)) (by first | assumption | omega | (simp only [updN, forgetC, changedC]; (repeat' split) <;> omega)) (by first | assumption | omega | (simp only [updN, forgetC, changedC]; (repeat' split) <;> omega)) (by first | assumption | omega | (simp only [updN, forgetC, changedC]; (repeat' split) <;> omega)) (by first | assumption | omega | (simp only [updN, forgetC, changedC]; (repeat' split) <;> omega)) H.size) ⟨hx, hb, hml, hown, hts⟩ (cwV 0 hts (lw_V q1138 q1140 qs33 q79 q1141) rfl rfl rfl (by decide +kernel) ⟨Nat.le_of_ble_eq_true rfl, Nat.le_of_ble_eq_true rfl⟩) EvX_ok hE hK hS (Cut.all hP hD hS hA) rfl rfl rfl hl.1 rfl (Nat.le_of_ble_eq_true rfl) dX1_areAlike_1 ⟨Nat.le_of_ble_eq_true rfl, Nat.le_of_ble_eq_true rfl⟩) hS (Cut.all hP hD hS hA) (fun r_1 u_2 H locs hq_1 hP hD hS => ?_)
  obtain ⟨tb1_3, an1_4⟩ := u_2
  have hP : va_P D vwCl (WT ca cq xq (kdC C) (fsC C) (snC C) ak (nI (C 0)) (nI (C 37)) (nI (C 38)) (fI (C 39)) (nI (C 40)) (lN (C 66)) (nI (C 41)) tb1_3 va fy (nIf (tmN C (cnds C))) an1_4 sw sb sv) H := hP
  have hD : va_D A (WT ca cq xq (kdC C) (fsC C) (snC C) ak (nI (C 0)) (nI (C 37)) (nI (C 38)) (fI (C 39)) (nI (C 40)) (lN (C 66)) (nI (C 41)) tb1_3 va fy (nIf (tmN C (cnds C))) an1_4 sw sb sv) := hD
  have hp_1 : r_1 = nI ((cnds C).length) := hq_1
  clear hq_1
  obtain rfl := hp_1
  refine lv_istore_n (lv' := [(1, .int (nI ((cnds C).length))), (0, .ref (xq 0))]) hx hb dX1_areAlike_4 rfl hl (by decide) rfl (fun ls hl => ?_)
  refine lv_iconst (v := nI 1) hx hb dX1_areAlike_5 (by decide) ?_
  refine lv_istore_n (lv' := [(2, .int (nI 1)), (1, .int (nI ((cnds C).length))), (0, .ref (xq 0))]) hx hb dX1_areAlike_6 rfl hl (by decide) rfl (fun ls hl => ?_)
  refine lv_iconst (v := nI 0) hx hb dX1_areAlike_7 (by decide) ?_
  refine lv_istore_n (lv' := [(3, .int (nI 0)), (2, .int (nI 1)), (1, .int (nI ((cnds C).length))), (0, .ref (xq 0))]) hx hb dX1_areAlike_8 rfl hl (by decide) rfl (fun ls hl => ?_)
  have lp_9 : ∀ (fu_9 : Nat) (t : Nat), 64 - t < fu_9 → (t ≤ 64) → ∀ (H : Heap) (locs : List Loc), va_P D vwCl (WT ca cq xq (kdC C) (fsC C) (snC C) ak (nI (C 0)) (nI (C 37)) (nI (C 38)) (fI (C 39)) (nI (C 40)) (lN (C 66)) (nI (C 41)) tb1_3 va fy (nIf (tmN C (cnds C))) an1_4 sw sb sv) H → va_D A (WT ca cq xq (kdC C) (fsC C) (snC C) ak (nI (C 0)) (nI (C 37)) (nI (C 38)) (fI (C 39)) (nI (C 40)) (lN (C 66)) (nI (C 41)) tb1_3 va fy (nIf (tmN C (cnds C))) an1_4 sw sb sv) → va_S A s.heap H locs → ∀ (ls : Array Slot), lv_has ls 4 [(3, .int (nI t)), (2, .int (bI (wsB (tmN C (cnds C)) (cnds C).length t))), (1, .int (nI ((cnds C).length))), (0, .ref (xq 0))] → W p l e ({ frames := 5, cells := 0, slots := 0, locals := 120 } : Room) s m ([.ref (xq 0)] : List Value).toArray below meth c H locs 0 0 QQ (F0 m 9 ls []) := by
    intro fu_9
    induction fu_9 with
    | zero => intro t hfu; exact absurd hfu (Nat.not_lt_zero _)
    | succ fu_9 ih_9 =>
      intro t hfu ht_ H locs hP hD hS ls hl
      refine lv_iload_n hx hb dX1_areAlike_9 rfl (lv_at hl 0 rfl) ?_
      refine lv_bipush (v := nI 64) hx hb dX1_areAlike_10 (by decide) ?_
      refine nv_icmp_ge (tgt := 40) hx hb dX1_areAlike_12 (by decide) (by omega) (by omega) (fun c_12 => ?_) (fun c_12 => ?_)
      · skip
        have e_ : 64 = t := Eq.symm (by omega)
        subst e_
        refine lv_iload_n hx hb dX1_areAlike_40 rfl (lv_at hl 1 rfl) ?_
        subst hQQ
        refine (xe_z (b := wsB (tmN C (cnds C)) (cnds C).length 64) (tb1_3, an1_4) hx hb hr hlocks hK hP hD hS (congrArg bI (wsB_al hnc)) dX1_areAlike_41)
      · skip
        refine lv_iload_n hx hb dX1_areAlike_15 rfl (lv_at hl 1 rfl) ?_
        refine nv_ifb_eq (tgt := 32) hx hb dX1_areAlike_16 (by decide) (fun c_16 => ?_) (fun c_16 => ?_)
        · skip
          refine lv_iconst (v := nI 0) hx hb dX1_areAlike_32 (by decide) ?_
          refine lv_istore_n (lv' := [(2, .int (nI 0)), (3, .int (nI t)), (1, .int (nI ((cnds C).length))), (0, .ref (xq 0))]) hx hb dX1_areAlike_33 rfl hl (by decide) rfl (fun ls hl => ?_)
          refine lv_iinc (v := nI (t + 1)) (lv' := [(3, .int (nI (t + 1))), (2, .int (nI 0)), (1, .int (nI ((cnds C).length))), (0, .ref (xq 0))]) hx hb dX1_areAlike_34 hl (k := 1) rfl (nI_add t 1) (by decide) rfl (fun ls hl => ?_)
          refine lv_goto (tgt := 9) hx hb dX1_areAlike_37 (by decide) ?_
          have hl : lv_has ls 4 [(3, .int (nI (t + 1))), (2, .int (bI (wsB (tmN C (cnds C)) (cnds C).length (t + 1)))), (1, .int (nI ((cnds C).length))), (0, .ref (xq 0))] := (congrArg (fun x_ => lv_has ls 4 [(3, .int (nI (t + 1))), (2, .int x_), (1, .int (nI ((cnds C).length))), (0, .ref (xq 0))]) (show nI 0 = bI (wsB (tmN C (cnds C)) (cnds C).length (t + 1)) from show bI false = _ from congrArg bI (by simp only [wsB]; simp [*]))).mp hl
          exact ih_9  (t + 1) (by omega) (by omega) _ _ hP hD hS ls (lv_sub hl [0, 1, 2, 3] rfl)
        · skip
          refine lv_aload_n hx hb dX1_areAlike_19 rfl (lv_at hl 3 rfl) ?_
          refine lv_iload_n hx hb dX1_areAlike_20 rfl (lv_at hl 0 rfl) ?_
          refine xc_i (xr_V (b := xq 0) (ci := 0) (q0 := 5) (As := [.int (nI t)]) (rest := []) (mt_X1_worst l D ca cq xq (kdC C) (fsC C) (snC C) ak (nI (C 0)) (nI (C 37)) (nI (C 38)) (fI (C 39)) (nI (C 40)) (lN (C 66)) (nI (C 41)) tb1_3 va fy an1_4 sw sb sv (tmN C (cnds C)) t (by omega) hll H.size) ⟨hx, hb, hml, hown, hts⟩ (cwV 1 hts (lw_V q1142 q1144 qs34 q79 q1145) rfl rfl rfl (by decide +kernel) ⟨Nat.le_of_ble_eq_true rfl, Nat.le_of_ble_eq_true rfl⟩) EvX_ok hE hK hS (Cut.all hP hD hS hA) rfl rfl rfl hl.1 rfl (Nat.le_of_ble_eq_true rfl) dX1_areAlike_21 ⟨Nat.le_of_ble_eq_true rfl, Nat.le_of_ble_eq_true rfl⟩) hS (Cut.all hP hD hS hA) (fun r_7 u_8 H locs hq_21 hP hD hS => ?_)
          have hP : va_P D vwCl (WT ca cq xq (kdC C) (fsC C) (snC C) ak (nI (C 0)) (nI (C 37)) (nI (C 38)) (fI (C 39)) (nI (C 40)) (lN (C 66)) (nI (C 41)) tb1_3 va fy (nIf (tmN C (cnds C))) an1_4 sw sb sv) H := hP
          have hD : va_D A (WT ca cq xq (kdC C) (fsC C) (snC C) ak (nI (C 0)) (nI (C 37)) (nI (C 38)) (fI (C 39)) (nI (C 40)) (lN (C 66)) (nI (C 41)) tb1_3 va fy (nIf (tmN C (cnds C))) an1_4 sw sb sv) := hD
          have hp_21 : r_7 = nI (wst (tmN C (cnds C)) t) := hq_21
          clear hq_21
          obtain rfl := hp_21
          refine lv_iload_n hx hb dX1_areAlike_24 rfl (lv_at hl 2 rfl) ?_
          refine nv_icmp_ne (tgt := 32) hx hb dX1_areAlike_25 (by decide) (by have := wsN_lt (t := t) (by decide : 0 < 100000) hll 16; unfold wst; omega) (by omega) (fun c_25 => ?_) (fun c_25 => ?_)
          · skip
            refine lv_iconst (v := nI 0) hx hb dX1_areAlike_32 (by decide) ?_
            refine lv_istore_n (lv' := [(2, .int (nI 0)), (3, .int (nI t)), (1, .int (nI ((cnds C).length))), (0, .ref (xq 0))]) hx hb dX1_areAlike_33 rfl hl (by decide) rfl (fun ls hl => ?_)
            refine lv_iinc (v := nI (t + 1)) (lv' := [(3, .int (nI (t + 1))), (2, .int (nI 0)), (1, .int (nI ((cnds C).length))), (0, .ref (xq 0))]) hx hb dX1_areAlike_34 hl (k := 1) rfl (nI_add t 1) (by decide) rfl (fun ls hl => ?_)
            refine lv_goto (tgt := 9) hx hb dX1_areAlike_37 (by decide) ?_
            have hl : lv_has ls 4 [(3, .int (nI (t + 1))), (2, .int (bI (wsB (tmN C (cnds C)) (cnds C).length (t + 1)))), (1, .int (nI ((cnds C).length))), (0, .ref (xq 0))] := (congrArg (fun x_ => lv_has ls 4 [(3, .int (nI (t + 1))), (2, .int x_), (1, .int (nI ((cnds C).length))), (0, .ref (xq 0))]) (show nI 0 = bI (wsB (tmN C (cnds C)) (cnds C).length (t + 1)) from show bI false = _ from congrArg bI (by simp only [wsB]; simp [*]))).mp hl
            exact ih_9  (t + 1) (by omega) (by omega) _ _ hP hD hS ls (lv_sub hl [0, 1, 2, 3] rfl)
          · skip
            refine lv_iconst (v := nI 1) hx hb dX1_areAlike_28 (by decide) ?_
            refine lv_goto (tgt := 33) hx hb dX1_areAlike_29 (by decide) ?_
            refine lv_istore_n (lv' := [(2, .int (nI 1)), (3, .int (nI t)), (1, .int (nI ((cnds C).length))), (0, .ref (xq 0))]) hx hb dX1_areAlike_33 rfl hl (by decide) rfl (fun ls hl => ?_)
            refine lv_iinc (v := nI (t + 1)) (lv' := [(3, .int (nI (t + 1))), (2, .int (nI 1)), (1, .int (nI ((cnds C).length))), (0, .ref (xq 0))]) hx hb dX1_areAlike_34 hl (k := 1) rfl (nI_add t 1) (by decide) rfl (fun ls hl => ?_)
            refine lv_goto (tgt := 9) hx hb dX1_areAlike_37 (by decide) ?_
            have hl : lv_has ls 4 [(3, .int (nI (t + 1))), (2, .int (bI (wsB (tmN C (cnds C)) (cnds C).length (t + 1)))), (1, .int (nI ((cnds C).length))), (0, .ref (xq 0))] := (congrArg (fun x_ => lv_has ls 4 [(3, .int (nI (t + 1))), (2, .int x_), (1, .int (nI ((cnds C).length))), (0, .ref (xq 0))]) (show nI 1 = bI (wsB (tmN C (cnds C)) (cnds C).length (t + 1)) from show bI true = _ from congrArg bI (by simp only [wsB]; simp [*]))).mp hl
            exact ih_9  (t + 1) (by omega) (by omega) _ _ hP hD hS ls (lv_sub hl [0, 1, 2, 3] rfl)
  have hl : lv_has ls 4 [(3, .int (nI 0)), (2, .int (bI (wsB (tmN C (cnds C)) (cnds C).length 0))), (1, .int (nI ((cnds C).length))), (0, .ref (xq 0))] := (congrArg (fun x_ => lv_has ls 4 [(3, .int (nI 0)), (2, .int x_), (1, .int (nI ((cnds C).length))), (0, .ref (xq 0))]) (show nI 1 = bI (wsB (tmN C (cnds C)) (cnds C).length 0) from rfl)).mp hl
  exact lp_9 (64 - 0 + 1) 0 (Nat.lt_succ_self _) (by omega) _ _ hP hD hS ls (lv_sub hl [0, 1, 2, 3] rfl)
set_option maxHeartbeats 4000000 in
set_option maxRecDepth 100000 in
theorem mt_X1_meanLeft_ok (l : Launch) (D : va_G) (ca : Nat → ClassId) (cq : Nat → Nat) (xq : Nat → Nat) (ak : Nat → Int32) (tb_ : Nat → Int64) (va : Nat → Int32) (fy : Nat → Int64) (cn : Nat → Int32) (an : Nat → Int32) (sw : Nat → Int64) (sb : Nat → Int64) (sv : Value) (C : Nat → Nat) (t_ : Nat) (h0 : C 0 ≤ 12) (hkd0 : ∀ k, k < 12 → C (1 + k) < 8) (hse : ∀ k, k < 12 → C (13 + k) < 6 + k ∧ C (25 + k) < 6 + k) (ho : C 37 < 2 ^ 18) (hbx : C 38 < 2 ^ 18) (hno : popc 18 (C 37) ≤ 4) (hnb : popc 18 (C 38) ≤ 3) (hbsz : C 38 < 2 ^ C 0) (h40 : C 40 ≤ 1) (hak : C 41 ≤ 12) (hAk : AkOk C ak) (ha16 : ∀ k, k < 12 → C (54 + k) < 16) (ht64 : ∀ k, k < 12 → C (42 + k) < 64) (ht : t_ < 64) (nn : Nat) : Met l yX1_meanLeft (ws_ yX1_meanLeft cX1_meanLeft 8 (Option.some Jvm.ClassFile.FieldType.double)) ({ frames := 5, cells := 0, slots := 0, locals := 120 } : Room) (va_Pc [.ref (xq 0), .int (nI t_)] (PreW EvX D vwCl (TY ca) (WT ca cq xq (kdC C) (fsC C) (snC C) ak (nI (C 0)) (nI (C 37)) (nI (C 38)) (fI (C 39)) (nI (C 40)) (lN (C 66)) (nI (C 41)) tb_ va fy cn an sw sb sv) nn)) (va_Qd (fun (r_ : UInt64) (u_ : (Nat → Int64) × (Nat → Int32)) => r_ = mnD C t_) (PostW D vwCl (TY ca) (fun (u_ : (Nat → Int64) × (Nat → Int32)) => (WT ca cq xq (kdC C) (fsC C) (snC C) ak (nI (C 0)) (nI (C 37)) (nI (C 38)) (fI (C 39)) (nI (C 40)) (lN (C 66)) (nI (C 41)) u_.1 va fy (nIf (tmN C (cnds C))) u_.2 sw sb sv)) (va_A (WT ca cq xq (kdC C) (fsC C) (snC C) ak (nI (C 0)) (nI (C 37)) (nI (C 38)) (fI (C 39)) (nI (C 40)) (lN (C 66)) (nI (C 41)) tb_ va fy cn an sw sb sv) nn)) (va_A (WT ca cq xq (kdC C) (fsC C) (snC C) ak (nI (C 0)) (nI (C 37)) (nI (C 38)) (fI (C 39)) (nI (C 40)) (lN (C 66)) (nI (C 41)) tb_ va fy cn an sw sb sv) nn)) 0 0 (va_A (WT ca cq xq (kdC C) (fsC C) (snC C) ak (nI (C 0)) (nI (C 37)) (nI (C 38)) (fI (C 39)) (nI (C 40)) (lN (C 66)) (nI (C 41)) tb_ va fy cn an sw sb sv) nn) := by
  refine met_go (QA := fun A => va_Qd (fun (r_ : UInt64) (u_ : (Nat → Int64) × (Nat → Int32)) => r_ = mnD C t_) (PostW D vwCl (TY ca) (fun (u_ : (Nat → Int64) × (Nat → Int32)) => (WT ca cq xq (kdC C) (fsC C) (snC C) ak (nI (C 0)) (nI (C 37)) (nI (C 38)) (fI (C 39)) (nI (C 40)) (lN (C 66)) (nI (C 41)) u_.1 va fy (nIf (tmN C (cnds C))) u_.2 sw sb sv)) A) A) (by decide) (Nat.le_of_ble_eq_true rfl) (fun p e s m below meth c A ls QQ hQQ hx hb hr hts hown hlocks hml hA hP hK hD hE hl => ?_)
  have hown : s.vm.findClass RX1 = some m.cls := hown
  have hS : va_S A s.heap s.heap [] := va_S.rf
  have hl : lv_has ls 8 [(0, .ref (xq 0)), (1, .int (nI t_))] := hl
  generalize hHe : s.heap = H at hP ⊢
  have hS : va_S A s.heap H [] := hHe ▸ hS
  generalize ([] : List Loc) = locs at hS ⊢
  have hll := tm_lim h0 hnb
  have hcl : (cnds C).length ≤ 7992 := Nat.le_trans (clK_len h0 _) (by have := ksm_le h0 hnb; omega)
  have hsq : sqN (tmN C (cnds C)) t_ 16 < 2 ^ 31 := Nat.lt_of_le_of_lt (sqN_le (B := 7993) (fun k => Nat.lt_of_le_of_lt tmN_le (by omega)) 16) (by decide)
  refine lv_iload_n hx hb dX1_meanLeft_0 rfl (lv_at hl 1 rfl) ?_
  refine xc_v (xr_S (As := [.int (nI t_)]) (rest := []) (mt_X1_needTest_ok l D ca t_ (by first | assumption | omega | (simp only [updN, forgetC, changedC]; (repeat' split) <;> omega)) H.size) ⟨hx, hb, hml, hown, hts⟩ (va_cwS 1 hts (lw_S q1299 q1300 q79 q1301) rfl rfl rfl (by decide +kernel) ⟨Nat.le_of_ble_eq_true rfl, Nat.le_of_ble_eq_true rfl⟩) Ev0_ok trivial hK hS (Cut.app (wc := []) (wr := (WT ca cq xq (kdC C) (fsC C) (snC C) ak (nI (C 0)) (nI (C 37)) (nI (C 38)) (fI (C 39)) (nI (C 40)) (lN (C 66)) (nI (C 41)) tb_ va fy cn an sw sb sv)) hP hD hS hA) rfl hl.1 rfl (Nat.le_of_ble_eq_true rfl) dX1_meanLeft_1 ⟨Nat.le_of_ble_eq_true rfl, Nat.le_of_ble_eq_true rfl⟩) hS (Cut.app (wc := []) (wr := (WT ca cq xq (kdC C) (fsC C) (snC C) ak (nI (C 0)) (nI (C 37)) (nI (C 38)) (fI (C 39)) (nI (C 40)) (lN (C 66)) (nI (C 41)) tb_ va fy cn an sw sb sv)) hP hD hS hA) (fun u_2 H locs hq_1 hP hD hS => ?_)
  have hP : va_P D vwCl (WT ca cq xq (kdC C) (fsC C) (snC C) ak (nI (C 0)) (nI (C 37)) (nI (C 38)) (fI (C 39)) (nI (C 40)) (lN (C 66)) (nI (C 41)) tb_ va fy cn an sw sb sv) H := hP
  have hD : va_D A (WT ca cq xq (kdC C) (fsC C) (snC C) ak (nI (C 0)) (nI (C 37)) (nI (C 38)) (fI (C 39)) (nI (C 40)) (lN (C 66)) (nI (C 41)) tb_ va fy cn an sw sb sv) := hD
  refine lv_aload_n hx hb dX1_meanLeft_4 rfl (lv_at hl 0 rfl) ?_
  refine xc_i (xr_V (b := xq 0) (ci := 0) (q0 := 5) (As := []) (rest := []) (mt_X1_layCounts l D ca cq xq ak tb_ va fy cn an sw sb sv C (by first | assumption | omega | (simp only [updN, forgetC, changedC]; (repeat' split) <;> omega)) (by first | assumption | omega | (simp only [updN, forgetC, changedC]; (repeat' split) <;> omega)) (by first | assumption | omega | (simp only [updN, forgetC, changedC]; (repeat' split) <;> omega)) (by first | assumption | omega | (simp only [updN, forgetC, changedC]; (repeat' split) <;> omega)) (by first | assumption | omega | (simp only [updN, forgetC, changedC]; (repeat' split) <;> omega)) (by first | assumption | omega | (simp only [updN, forgetC, changedC]; (repeat' split) <;> omega)) (by first | assumption | omega | (simp only [updN, forgetC, changedC]; (repeat' split) <;> omega)) (by first | assumption | omega | (simp only [updN, forgetC, changedC]; (repeat' split) <;> omega)) (by first | assumption | omega | (simp only [updN, forgetC, changedC]; (repeat' split) <;> omega)) (by first | assumption | omega | (simp only [updN, forgetC, changedC]; (repeat' split) <;> omega)) (by first | assumption | omega | (simp only [updN, forgetC, changedC]; (repeat' split) <;> omega)) (by first | assumption | omega | (simp only [updN, forgetC, changedC]; (repeat' split) <;> omega)) (by first | assumption | omega | (simp only [updN, forgetC, changedC]; (repeat' split) <;> omega)) H.size) ⟨hx, hb, hml, hown, hts⟩ (cwV 0 hts (lw_V q1138 q1140 qs33 q79 q1141) rfl rfl rfl (by decide +kernel) ⟨Nat.le_of_ble_eq_true rfl, Nat.le_of_ble_eq_true rfl⟩) EvX_ok hE hK hS (Cut.all hP hD hS hA) rfl rfl rfl hl.1 rfl (Nat.le_of_ble_eq_true rfl) dX1_meanLeft_5 ⟨Nat.le_of_ble_eq_true rfl, Nat.le_of_ble_eq_true rfl⟩) hS (Cut.all hP hD hS hA) (fun r_3 u_4 H locs hq_5 hP hD hS => ?_)
  obtain ⟨tb1_5, an1_6⟩ := u_4
  have hP : va_P D vwCl (WT ca cq xq (kdC C) (fsC C) (snC C) ak (nI (C 0)) (nI (C 37)) (nI (C 38)) (fI (C 39)) (nI (C 40)) (lN (C 66)) (nI (C 41)) tb1_5 va fy (nIf (tmN C (cnds C))) an1_6 sw sb sv) H := hP
  have hD : va_D A (WT ca cq xq (kdC C) (fsC C) (snC C) ak (nI (C 0)) (nI (C 37)) (nI (C 38)) (fI (C 39)) (nI (C 40)) (lN (C 66)) (nI (C 41)) tb1_5 va fy (nIf (tmN C (cnds C))) an1_6 sw sb sv) := hD
  have hp_5 : r_3 = nI ((cnds C).length) := hq_5
  clear hq_5
  obtain rfl := hp_5
  refine lv_istore_n (lv' := [(2, .int (nI ((cnds C).length))), (0, .ref (xq 0)), (1, .int (nI t_))]) hx hb dX1_meanLeft_8 rfl hl (by decide) rfl (fun ls hl => ?_)
  refine lv_lconst (v := lN 0) hx hb dX1_meanLeft_9 (by decide) ?_
  refine lv_lstore_n (lv' := [(3, .long (lN 0)), (2, .int (nI ((cnds C).length))), (0, .ref (xq 0)), (1, .int (nI t_))]) hx hb dX1_meanLeft_10 rfl hl (by decide) rfl (fun ls hl => ?_)
  refine lv_iconst (v := nI 0) hx hb dX1_meanLeft_11 (by decide) ?_
  refine lv_istore (lv' := [(5, .int (nI 0)), (3, .long (lN 0)), (2, .int (nI ((cnds C).length))), (0, .ref (xq 0)), (1, .int (nI t_))]) hx hb dX1_meanLeft_12 hl (by decide) rfl (fun ls hl => ?_)
  have lp_14 : ∀ (fu_14 : Nat) (i : Nat), 16 - i < fu_14 → (i ≤ 16) → ∀ (H : Heap) (locs : List Loc), va_P D vwCl (WT ca cq xq (kdC C) (fsC C) (snC C) ak (nI (C 0)) (nI (C 37)) (nI (C 38)) (fI (C 39)) (nI (C 40)) (lN (C 66)) (nI (C 41)) tb1_5 va fy (nIf (tmN C (cnds C))) an1_6 sw sb sv) H → va_D A (WT ca cq xq (kdC C) (fsC C) (snC C) ak (nI (C 0)) (nI (C 37)) (nI (C 38)) (fI (C 39)) (nI (C 40)) (lN (C 66)) (nI (C 41)) tb1_5 va fy (nIf (tmN C (cnds C))) an1_6 sw sb sv) → va_S A s.heap H locs → ∀ (ls : Array Slot), lv_has ls 8 [(5, .int (nI i)), (3, .long (lN (sqN (tmN C (cnds C)) t_ i))), (2, .int (nI ((cnds C).length))), (0, .ref (xq 0)), (1, .int (nI t_))] → W p l e ({ frames := 5, cells := 0, slots := 0, locals := 120 } : Room) s m ([.ref (xq 0), .int (nI t_)] : List Value).toArray below meth c H locs 0 0 QQ (F0 m 14 ls []) := by
    intro fu_14
    induction fu_14 with
    | zero => intro i hfu; exact absurd hfu (Nat.not_lt_zero _)
    | succ fu_14 ih_14 =>
      intro i hfu hi H locs hP hD hS ls hl
      refine lv_iload hx hb dX1_meanLeft_14 (lv_at hl 0 rfl) ?_
      refine lv_bipush (v := nI 16) hx hb dX1_meanLeft_16 (by decide) ?_
      refine nv_icmp_ge (tgt := 50) hx hb dX1_meanLeft_18 (by decide) (by omega) (by omega) (fun c_18 => ?_) (fun c_18 => ?_)
      · skip
        have e_ : 16 = i := Eq.symm (by omega)
        subst e_
        refine lv_iload_n hx hb dX1_meanLeft_50 rfl (lv_at hl 2 rfl) ?_
        refine nv_if_ne (tgt := 58) hx hb dX1_meanLeft_51 (by decide) (by omega) (fun c_51 => ?_) (fun c_51 => ?_)
        · skip
          refine lv_lload_n hx hb dX1_meanLeft_58 rfl (lv_at hl 1 rfl) ?_
          refine lv_l2d hx hb dX1_meanLeft_59 ?_
          refine lv_topd (nm_r (e' := FP.i2d (nI (sqN (tmN C (cnds C)) t_ 16))) (fp_l2d hsq) ?_)
          refine lv_iload_n hx hb dX1_meanLeft_60 rfl (lv_at hl 2 rfl) ?_
          refine lv_i2d hx hb dX1_meanLeft_61 ?_
          refine lv_ddiv hx hb dX1_meanLeft_62 (fp_ddiv hsq (by omega) (by omega)) ?_
          subst hQQ
          exact xe_d (v := FP.ddiv (FP.i2d (nI (sqN (tmN C (cnds C)) t_ 16))) (FP.i2d (nI ((cnds C).length)))) (tb1_5, an1_6) hx hb hr hlocks hK hP hD hS ((if_neg c_51).symm) dX1_meanLeft_63
        · skip
          refine lv_dconst0 hx hb dX1_meanLeft_54 ?_
          refine lv_goto (tgt := 63) hx hb dX1_meanLeft_55 (by decide) ?_
          subst hQQ
          exact xe_d (v := FP.dconst0) (tb1_5, an1_6) hx hb hr hlocks hK hP hD hS ((if_pos c_51).symm) dX1_meanLeft_63
      · skip
        refine lv_aload_n hx hb dX1_meanLeft_21 rfl (lv_at hl 3 rfl) ?_
        refine gWT_5_counts_X1 hx hb hts hown hK hP dX1_meanLeft_22 ?_
        refine lv_bipush (v := nI 16) hx hb dX1_meanLeft_25 (by decide) ?_
        refine lv_iload_n hx hb dX1_meanLeft_27 rfl (lv_at hl 4 rfl) ?_
        refine nv_imul hx hb dX1_meanLeft_28 ?_
        refine lv_iload hx hb dX1_meanLeft_29 (lv_at hl 0 rfl) ?_
        refine nv_iadd hx hb dX1_meanLeft_31 ?_
        refine ldWT_9 hx hb hK hP (by omega) dX1_meanLeft_32 ?_
        refine lv_topi (nm_r (e' := nI (tmN C (cnds C) (16 * t_ + i))) (rfl) ?_)
        refine lv_i2l (v := lN (tmN C (cnds C) (16 * t_ + i))) hx hb dX1_meanLeft_33 (nI_l (by have := hll (16 * t_ + i); omega)) ?_
        refine lv_lstore (lv' := [(6, .long (lN (tmN C (cnds C) (16 * t_ + i)))), (5, .int (nI i)), (3, .long (lN (sqN (tmN C (cnds C)) t_ i))), (2, .int (nI ((cnds C).length))), (0, .ref (xq 0)), (1, .int (nI t_))]) hx hb dX1_meanLeft_34 hl (by decide) rfl (fun ls hl => ?_)
        refine lv_lload_n hx hb dX1_meanLeft_36 rfl (lv_at hl 2 rfl) ?_
        refine lv_lload hx hb dX1_meanLeft_37 (lv_at hl 0 rfl) ?_
        refine lv_lload hx hb dX1_meanLeft_39 (lv_at hl 0 rfl) ?_
        refine lv_lmul hx hb dX1_meanLeft_41 ?_
        refine lv_topl (nm_r (e' := lN (tmN C (cnds C) (16 * t_ + i) * tmN C (cnds C) (16 * t_ + i))) (klN_mul _ _) ?_)
        refine lv_ladd hx hb dX1_meanLeft_42 (lv_topl (nm_r (e' := lN ((sqN (tmN C (cnds C)) t_ i) + (tmN C (cnds C) (16 * t_ + i) * tmN C (cnds C) (16 * t_ + i)))) (klN_add (sqN (tmN C (cnds C)) t_ i) (tmN C (cnds C) (16 * t_ + i) * tmN C (cnds C) (16 * t_ + i))) ?_))
        refine lv_lstore_n (lv' := [(3, .long (lN ((sqN (tmN C (cnds C)) t_ i) + (tmN C (cnds C) (16 * t_ + i) * tmN C (cnds C) (16 * t_ + i))))), (6, .long (lN (tmN C (cnds C) (16 * t_ + i)))), (5, .int (nI i)), (2, .int (nI ((cnds C).length))), (0, .ref (xq 0)), (1, .int (nI t_))]) hx hb dX1_meanLeft_43 rfl hl (by decide) rfl (fun ls hl => ?_)
        refine lv_iinc (v := nI (i + 1)) (lv' := [(5, .int (nI (i + 1))), (3, .long (lN ((sqN (tmN C (cnds C)) t_ i) + (tmN C (cnds C) (16 * t_ + i) * tmN C (cnds C) (16 * t_ + i))))), (6, .long (lN (tmN C (cnds C) (16 * t_ + i)))), (2, .int (nI ((cnds C).length))), (0, .ref (xq 0)), (1, .int (nI t_))]) hx hb dX1_meanLeft_44 hl (k := 2) rfl (nI_add i 1) (by decide) rfl (fun ls hl => ?_)
        refine lv_goto (tgt := 14) hx hb dX1_meanLeft_47 (by decide) ?_
        have hl : lv_has ls 8 [(5, .int (nI (i + 1))), (3, .long (lN (sqN (tmN C (cnds C)) t_ (i + 1)))), (6, .long (lN (tmN C (cnds C) (16 * t_ + i)))), (2, .int (nI ((cnds C).length))), (0, .ref (xq 0)), (1, .int (nI t_))] := (congrArg (fun x_ => lv_has ls 8 [(5, .int (nI (i + 1))), (3, .long x_), (6, .long (lN (tmN C (cnds C) (16 * t_ + i)))), (2, .int (nI ((cnds C).length))), (0, .ref (xq 0)), (1, .int (nI t_))]) (show lN ((sqN (tmN C (cnds C)) t_ i) + (tmN C (cnds C) (16 * t_ + i) * tmN C (cnds C) (16 * t_ + i))) = lN (sqN (tmN C (cnds C)) t_ (i + 1)) from rfl)).mp hl
        exact ih_14  (i + 1) (by omega) (by omega) _ _ hP hD hS ls (lv_sub hl [0, 1, 3, 4, 5] rfl)
  have hl : lv_has ls 8 [(5, .int (nI 0)), (3, .long (lN (sqN (tmN C (cnds C)) t_ 0))), (2, .int (nI ((cnds C).length))), (0, .ref (xq 0)), (1, .int (nI t_))] := (congrArg (fun x_ => lv_has ls 8 [(5, .int (nI 0)), (3, .long x_), (2, .int (nI ((cnds C).length))), (0, .ref (xq 0)), (1, .int (nI t_))]) (show lN 0 = lN (sqN (tmN C (cnds C)) t_ 0) from rfl)).mp hl
  exact lp_14 (16 - 0 + 1) 0 (Nat.lt_succ_self _) (by omega) _ _ hP hD hS ls (lv_sub hl [0, 1, 2, 3, 4] rfl)
