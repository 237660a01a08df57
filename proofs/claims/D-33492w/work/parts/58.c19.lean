/-! the component: depths, inputs, simple tellings, asking -/
set_option maxRecDepth 100000
theorem sb6_lt {i : Nat} (h : i < 2 ^ 30) : nI i - nI 6 < 0 ↔ i < 6 := by
  rw [Int32.lt_iff_toInt_lt, pk_sub_toInt h (by decide)]
  have : (0 : Int32).toInt = 0 := rfl
  omega
theorem dps_hi {C : Nat → Nat} {l n : Nat} (h : l < 6 + n) : ∀ m, n ≤ m → dps C m l = dps C n l := by
  intro m; induction m with
  | zero => intro hm; rw [Nat.le_zero.mp hm]
  | succ m ih =>
    intro hm
    by_cases e : n = m + 1
    · rw [e]
    · simp only [dps]; rw [if_neg (by omega)]; exact ih (by omega)
theorem dp_y {C : Nat → Nat} {l : Nat} (hse : ∀ k, k < 12 → C (13 + k) < 6 + k ∧ C (25 + k) < 6 + k) (h0 : C 0 ≤ 12) (hl : l < 6 + C 0) (h6 : 6 ≤ l) : dps C (C 0) l = 1 + max (dps C (C 0) (C (13 + (l - 6)))) (if C (1 + (l - 6)) < 6 then dps C (C 0) (C (25 + (l - 6))) else 0) := by
  obtain ⟨g, rfl⟩ := Nat.le.dest h6
  have a := hse g (by omega)
  rw [show 6 + g - 6 = g by omega, dps_hi (n := g + 1) (by omega) _ (by omega), dps_hi (l := C (13 + g)) (n := g) a.1 _ (by omega), dps_hi (l := C (25 + g)) (n := g) a.2 _ (by omega)]
  simp only [dps]; rw [if_pos trivial]
theorem dp_1 {C : Nat → Nat} {l a b : Nat} (hse : ∀ k, k < 12 → C (13 + k) < 6 + k ∧ C (25 + k) < 6 + k) (h0 : C 0 ≤ 12) (hl : l < 6 + C 0) (h6 : 6 ≤ l) (ha : a = dps C (C 0) (C (13 + (l - 6)))) (hb : b = if C (1 + (l - 6)) < 6 then dps C (C 0) (C (25 + (l - 6))) else 0) : 1 + (if a < b then b else a) = dps C (C 0) l := by
  rw [dp_y hse h0 hl h6, ← ha, ← hb, Nat.max_def]
  by_cases q : a < b
  · rw [if_pos q, if_pos (by omega)]
  · rw [if_neg q]; split <;> omega
def dpF (C : Nat → Nat) : Nat → Int32 := fun l => nI (dps C (C 0) l)
theorem lk_t {k : Nat} (h : (decide (1 = 0) || decide (k < 6)) = true) : k < 6 := by simpa using h
theorem lk_f {k : Nat} (h : (decide (1 = 0) || decide (k < 6)) = false) : ¬ k < 6 := by simpa using h
set_option maxHeartbeats 4000000 in
set_option maxRecDepth 100000 in
theorem mt_X1_depthOf_ok (l : Launch) (D : va_G) (ca : Nat → ClassId) (cq : Nat → Nat) (xq : Nat → Nat) (ak : Nat → Int32) (tb_ : Nat → Int64) (va : Nat → Int32) (fy : Nat → Int64) (cn : Nat → Int32) (an : Nat → Int32) (sw : Nat → Int64) (sb : Nat → Int64) (sv : Value) (C : Nat → Nat) (l_ : Nat) (h0 : C 0 ≤ 12) (hkd0 : ∀ k, k < 12 → C (1 + k) < 8) (hse : ∀ k, k < 12 → C (13 + k) < 6 + k ∧ C (25 + k) < 6 + k) (hl : l_ < 6 + C 0) (nn : Nat) : Met l yX1_depthOf (ws_ yX1_depthOf cX1_depthOf 5 (Option.some Jvm.ClassFile.FieldType.int)) ({ frames := 2, cells := 0, slots := 0, locals := 43 } : Room) (va_Pc [.ref (xq 0), .int (nI l_)] (PreW EvX D vwCl (TY ca) (WT ca cq xq (kdC C) (fsC C) (snC C) ak (nI (C 0)) (nI (C 37)) (nI (C 38)) (fI (C 39)) (nI (C 40)) (lN (C 66)) (nI (C 41)) tb_ va fy cn an sw sb sv) nn)) (va_Qi (fun (r_ : Int32) (u_ : (Nat → Int32)) => r_ = nI (dps C (C 0) l_)) (PostW D vwCl (TY ca) (fun (u_ : (Nat → Int32)) => (WT ca cq xq (kdC C) (fsC C) (snC C) ak (nI (C 0)) (nI (C 37)) (nI (C 38)) (fI (C 39)) (nI (C 40)) (lN (C 66)) (nI (C 41)) tb_ u_ fy cn an sw sb sv)) (va_A (WT ca cq xq (kdC C) (fsC C) (snC C) ak (nI (C 0)) (nI (C 37)) (nI (C 38)) (fI (C 39)) (nI (C 40)) (lN (C 66)) (nI (C 41)) tb_ va fy cn an sw sb sv) nn)) (va_A (WT ca cq xq (kdC C) (fsC C) (snC C) ak (nI (C 0)) (nI (C 37)) (nI (C 38)) (fI (C 39)) (nI (C 40)) (lN (C 66)) (nI (C 41)) tb_ va fy cn an sw sb sv) nn)) 0 0 (va_A (WT ca cq xq (kdC C) (fsC C) (snC C) ak (nI (C 0)) (nI (C 37)) (nI (C 38)) (fI (C 39)) (nI (C 40)) (lN (C 66)) (nI (C 41)) tb_ va fy cn an sw sb sv) nn) := by
  refine met_go (QA := fun A => va_Qi (fun (r_ : Int32) (u_ : (Nat → Int32)) => r_ = nI (dps C (C 0) l_)) (PostW D vwCl (TY ca) (fun (u_ : (Nat → Int32)) => (WT ca cq xq (kdC C) (fsC C) (snC C) ak (nI (C 0)) (nI (C 37)) (nI (C 38)) (fI (C 39)) (nI (C 40)) (lN (C 66)) (nI (C 41)) tb_ u_ fy cn an sw sb sv)) A) A) (by decide) (Nat.le_of_ble_eq_true rfl) (fun p e s m below meth c A ls QQ hQQ hx hb hr hts hown hlocks hml hA hP hK hD hE hl => ?_)
  have hown : s.vm.findClass RX1 = some m.cls := hown
  have hS : va_S A s.heap s.heap [] := va_S.rf
  have hl : lv_has ls 5 [(0, .ref (xq 0)), (1, .int (nI l_))] := hl
  generalize hHe : s.heap = H at hP ⊢
  have hS : va_S A s.heap H [] := hHe ▸ hS
  generalize ([] : List Loc) = locs at hS ⊢
  refine lv_aload_n hx hb dX1_depthOf_0 rfl (lv_at hl 0 rfl) ?_
  refine gWT_5_circuit_X1 hx hb hts hown hK hP dX1_depthOf_1 ?_
  refine lv_iload_n hx hb dX1_depthOf_4 rfl (lv_at hl 1 rfl) ?_
  refine xc_i (xr_V (b := cq 0) (ci := 1) (q0 := 0) (As := [.int (nI l_)]) (rest := []) (mt_X2_isLine l D ca cq (kdC C) (fsC C) (snC C) ak (nI (C 37)) (nI (C 38)) (fI (C 39)) (nI (C 40)) (lN (C 66)) (nI (C 41)) (C 0) (nI l_) (by first | assumption | omega | (simp only [updN, forgetC, changedC]; (repeat' split) <;> omega)) H.size) ⟨hx, hb, hml, hown, hts⟩ (cwV 1 hts (lw_V q1486 q1174 q1175 q80 q1176) rfl rfl rfl (by decide +kernel) ⟨Nat.le_of_ble_eq_true rfl, Nat.le_of_ble_eq_true rfl⟩) EvX_ok hE hK hS (Cut.app (wc := (WC ca cq (kdC C) (fsC C) (snC C) ak (nI (C 0)) (nI (C 37)) (nI (C 38)) (fI (C 39)) (nI (C 40)) (lN (C 66)) (nI (C 41)))) (wr := (WTr ca cq xq tb_ va fy cn an sw sb sv)) hP hD hS hA) rfl rfl rfl hl.1 rfl (Nat.le_of_ble_eq_true rfl) dX1_depthOf_5 ⟨Nat.le_of_ble_eq_true rfl, Nat.le_of_ble_eq_true rfl⟩) hS (Cut.app (wc := (WC ca cq (kdC C) (fsC C) (snC C) ak (nI (C 0)) (nI (C 37)) (nI (C 38)) (fI (C 39)) (nI (C 40)) (lN (C 66)) (nI (C 41)))) (wr := (WTr ca cq xq tb_ va fy cn an sw sb sv)) hP hD hS hA) (fun r_1 u_2 H locs hq_5 hP hD hS => ?_)
  have hP : va_P D vwCl (WT ca cq xq (kdC C) (fsC C) (snC C) ak (nI (C 0)) (nI (C 37)) (nI (C 38)) (fI (C 39)) (nI (C 40)) (lN (C 66)) (nI (C 41)) tb_ va fy cn an sw sb sv) H := hP
  have hD : va_D A (WT ca cq xq (kdC C) (fsC C) (snC C) ak (nI (C 0)) (nI (C 37)) (nI (C 38)) (fI (C 39)) (nI (C 40)) (lN (C 66)) (nI (C 41)) tb_ va fy cn an sw sb sv) := hD
  have hp_5 : r_1 = bI (inR (6 + (C 0)) (nI l_)) := hq_5
  clear hq_5
  obtain rfl := hp_5
  refine xc_v (xr_S (As := [.int (bI (inR (6 + (C 0)) (nI l_)))]) (rest := []) (mt_X1_needThere_ok l D ca (inR (6 + (C 0)) (nI l_)) (inR_ok (by omega) (by omega)) H.size) ⟨hx, hb, hml, hown, hts⟩ (va_cwS 1 hts (lw_S q1471 q1179 q79 q1180) rfl rfl rfl (by decide +kernel) ⟨Nat.le_of_ble_eq_true rfl, Nat.le_of_ble_eq_true rfl⟩) Ev0_ok trivial hK hS (Cut.app (wc := []) (wr := (WT ca cq xq (kdC C) (fsC C) (snC C) ak (nI (C 0)) (nI (C 37)) (nI (C 38)) (fI (C 39)) (nI (C 40)) (lN (C 66)) (nI (C 41)) tb_ va fy cn an sw sb sv)) hP hD hS hA) rfl hl.1 rfl (Nat.le_of_ble_eq_true rfl) dX1_depthOf_8 ⟨Nat.le_of_ble_eq_true rfl, Nat.le_of_ble_eq_true rfl⟩) hS (Cut.app (wc := []) (wr := (WT ca cq xq (kdC C) (fsC C) (snC C) ak (nI (C 0)) (nI (C 37)) (nI (C 38)) (fI (C 39)) (nI (C 40)) (lN (C 66)) (nI (C 41)) tb_ va fy cn an sw sb sv)) hP hD hS hA) (fun u_4 H locs hq_8 hP hD hS => ?_)
  have hP : va_P D vwCl (WT ca cq xq (kdC C) (fsC C) (snC C) ak (nI (C 0)) (nI (C 37)) (nI (C 38)) (fI (C 39)) (nI (C 40)) (lN (C 66)) (nI (C 41)) tb_ va fy cn an sw sb sv) H := hP
  have hD : va_D A (WT ca cq xq (kdC C) (fsC C) (snC C) ak (nI (C 0)) (nI (C 37)) (nI (C 38)) (fI (C 39)) (nI (C 40)) (lN (C 66)) (nI (C 41)) tb_ va fy cn an sw sb sv) := hD
  refine lv_iconst (v := nI 0) hx hb dX1_depthOf_11 (by decide) ?_
  refine lv_istore_n (lv' := [(2, .int (nI 0)), (0, .ref (xq 0)), (1, .int (nI l_))]) hx hb dX1_depthOf_12 rfl hl (by decide) rfl (fun ls hl => ?_)
  have lp_13 : ∀ (fu_13 : Nat) (i : Nat), l_ + 1 - i < fu_13 → (i ≤ l_ + 1) → ∀ (H : Heap) (locs : List Loc), va_P D vwCl (WT ca cq xq (kdC C) (fsC C) (snC C) ak (nI (C 0)) (nI (C 37)) (nI (C 38)) (fI (C 39)) (nI (C 40)) (lN (C 66)) (nI (C 41)) tb_ (fillF i (dpF C) va) fy cn an sw sb sv) H → va_D A (WT ca cq xq (kdC C) (fsC C) (snC C) ak (nI (C 0)) (nI (C 37)) (nI (C 38)) (fI (C 39)) (nI (C 40)) (lN (C 66)) (nI (C 41)) tb_ (fillF i (dpF C) va) fy cn an sw sb sv) → va_S A s.heap H locs → ∀ (ls : Array Slot), lv_has ls 5 [(2, .int (nI i)), (0, .ref (xq 0)), (1, .int (nI l_))] → W p l e ({ frames := 2, cells := 0, slots := 0, locals := 43 } : Room) s m ([.ref (xq 0), .int (nI l_)] : List Value).toArray below meth c H locs 0 0 QQ (F0 m 13 ls []) := by
    intro fu_13
    induction fu_13 with
    | zero => intro i hfu; exact absurd hfu (Nat.not_lt_zero _)
    | succ fu_13 ih_13 =>
      intro i hfu hi H locs hP hD hS ls hl
      refine lv_iload_n hx hb dX1_depthOf_13 rfl (lv_at hl 0 rfl) ?_
      refine lv_iload_n hx hb dX1_depthOf_14 rfl (lv_at hl 2 rfl) ?_
      refine nv_icmp_gt (tgt := 100) hx hb dX1_depthOf_15 (by decide) (by omega) (by omega) (fun c_15 => ?_) (fun c_15 => ?_)
      · skip
        refine lv_aload_n hx hb dX1_depthOf_100 rfl (lv_at hl 1 rfl) ?_
        refine gWT_5_values_X1 hx hb hts hown hK hP dX1_depthOf_101 ?_
        refine lv_iload_n hx hb dX1_depthOf_104 rfl (lv_at hl 2 rfl) ?_
        refine ldWT_7 hx hb hK hP (by omega) dX1_depthOf_105 ?_
        refine lv_topi (nm_r (e' := nI (dps C (C 0) l_)) ((fillF_at (by omega))) ?_)
        subst hQQ
        exact xe_i (v := nI (dps C (C 0) l_)) (fillF i (dpF C) va) hx hb hr hlocks hK hP hD hS (rfl) dX1_depthOf_106
      · skip
        refine lv_iload_n hx hb dX1_depthOf_18 rfl (lv_at hl 0 rfl) ?_
        refine lv_bipush (v := nI 6) hx hb dX1_depthOf_19 (by decide) ?_
        refine lv_isub hx hb dX1_depthOf_21 ?_
        refine lv_istore_n (lv' := [(3, .int ((nI i) - (nI 6))), (2, .int (nI i)), (0, .ref (xq 0)), (1, .int (nI l_))]) hx hb dX1_depthOf_22 rfl hl (by decide) rfl (fun ls hl => ?_)
        refine lv_iload_n hx hb dX1_depthOf_23 rfl (lv_at hl 0 rfl) ?_
        refine lv_if_lt (tgt := 56) hx hb dX1_depthOf_24 (by decide) (fun c_24 => ?_) (fun c_24 => ?_)
        · skip
          have hi6 : i < 6 := (sb6_lt (by omega)).mp c_24
          refine lv_iconst (v := nI 0) hx hb dX1_depthOf_56 (by decide) ?_
          refine lv_istore (lv' := [(4, .int (nI 0)), (3, .int ((nI i) - (nI 6))), (2, .int (nI i)), (0, .ref (xq 0)), (1, .int (nI l_))]) hx hb dX1_depthOf_57 hl (by decide) rfl (fun ls hl => ?_)
          refine lv_aload_n hx hb dX1_depthOf_59 rfl (lv_at hl 3 rfl) ?_
          refine gWT_5_values_X1 hx hb hts hown hK hP dX1_depthOf_60 ?_
          refine lv_iload_n hx hb dX1_depthOf_63 rfl (lv_at hl 2 rfl) ?_
          refine lv_iload_n hx hb dX1_depthOf_64 rfl (lv_at hl 1 rfl) ?_
          refine lv_if_ge (tgt := 72) hx hb dX1_depthOf_65 (by decide) (fun c_65 => absurd c_65 (fun z => by have q_ := Int32.lt_iff_toInt_lt.mp c_24; have r_ := Int32.le_iff_toInt_le.mp z; omega)) (fun c_65 => ?_)
          refine lv_iconst (v := nI 0) hx hb dX1_depthOf_68 (by decide) ?_
          refine lv_goto (tgt := 93) hx hb dX1_depthOf_69 (by decide) ?_
          refine lv_topi (nm_r (e' := nI (dps C (C 0) i)) (congrArg nI (dps_in (by omega) _).symm) ?_)
          refine stWT_7 hx hb hK hP hD hS (by omega) dX1_depthOf_93 (fun H locs hP hD hS => ?_)
          have ew_ : upd (fillF i (dpF C) va) i (nI (dps C (C 0) i)) = fillF (i + 1) (dpF C) va := fillF_s _ _ _
          have hP : va_P D vwCl (WT ca cq xq (kdC C) (fsC C) (snC C) ak (nI (C 0)) (nI (C 37)) (nI (C 38)) (fI (C 39)) (nI (C 40)) (lN (C 66)) (nI (C 41)) tb_ (fillF (i + 1) (dpF C) va) fy cn an sw sb sv) H := (congrArg (fun x_ => va_P D vwCl (WT ca cq xq (kdC C) (fsC C) (snC C) ak (nI (C 0)) (nI (C 37)) (nI (C 38)) (fI (C 39)) (nI (C 40)) (lN (C 66)) (nI (C 41)) tb_ x_ fy cn an sw sb sv) H) ew_).mp hP
          have hD : va_D A (WT ca cq xq (kdC C) (fsC C) (snC C) ak (nI (C 0)) (nI (C 37)) (nI (C 38)) (fI (C 39)) (nI (C 40)) (lN (C 66)) (nI (C 41)) tb_ (fillF (i + 1) (dpF C) va) fy cn an sw sb sv) := (congrArg (fun x_ => va_D A (WT ca cq xq (kdC C) (fsC C) (snC C) ak (nI (C 0)) (nI (C 37)) (nI (C 38)) (fI (C 39)) (nI (C 40)) (lN (C 66)) (nI (C 41)) tb_ x_ fy cn an sw sb sv)) ew_).mp hD
          clear ew_
          refine lv_iinc (v := nI (i + 1)) (lv' := [(2, .int (nI (i + 1))), (4, .int (nI 0)), (3, .int ((nI i) - (nI 6))), (0, .ref (xq 0)), (1, .int (nI l_))]) hx hb dX1_depthOf_94 hl (k := 2) rfl (nI_add i 1) (by decide) rfl (fun ls hl => ?_)
          refine lv_goto (tgt := 13) hx hb dX1_depthOf_97 (by decide) ?_
          exact ih_13  (i + 1) (by omega) (by omega) _ _ hP hD hS ls (lv_sub hl [0, 3, 4] rfl)
        · skip
          have hi6 : ¬ i < 6 := fun z => c_24 ((sb6_lt (by omega)).mpr z)
          have hl : lv_has ls 5 [(3, .int (nI (i - 6))), (2, .int (nI i)), (0, .ref (xq 0)), (1, .int (nI l_))] := (congrArg (fun x_ => lv_has ls 5 [(3, .int x_), (2, .int (nI i)), (0, .ref (xq 0)), (1, .int (nI l_))]) (show (nI i) - (nI 6) = nI (i - 6) from pk_sub (by omega))).mp hl
          refine lv_aload_n hx hb dX1_depthOf_27 rfl (lv_at hl 2 rfl) ?_
          refine gWT_5_circuit_X1 hx hb hts hown hK hP dX1_depthOf_28 ?_
          refine lv_iload_n hx hb dX1_depthOf_31 rfl (lv_at hl 0 rfl) ?_
          refine lv_iconst (v := nI 1) hx hb dX1_depthOf_32 (by decide) ?_
          refine xc_i (xr_V (b := cq 0) (ci := 1) (q0 := 0) (As := [.int (nI (i - 6)), .int (nI 1)]) (rest := []) (mt_X2_looksAt l D ca cq (fsC C) (snC C) ak (nI (C 0)) (nI (C 37)) (nI (C 38)) (fI (C 39)) (nI (C 40)) (lN (C 66)) (nI (C 41)) C (i - 6) 1 (by omega) (by decide) (hkd0 _ (by omega)) H.size) ⟨hx, hb, hml, hown, hts⟩ (cwV 2 hts (lw_V q1009 q1010 q1011 q80 q1012) rfl rfl rfl (by decide +kernel) ⟨Nat.le_of_ble_eq_true rfl, Nat.le_of_ble_eq_true rfl⟩) EvX_ok hE hK hS (Cut.app (wc := (WC ca cq (kdC C) (fsC C) (snC C) ak (nI (C 0)) (nI (C 37)) (nI (C 38)) (fI (C 39)) (nI (C 40)) (lN (C 66)) (nI (C 41)))) (wr := (WTr ca cq xq tb_ (fillF i (dpF C) va) fy cn an sw sb sv)) hP hD hS hA) rfl rfl rfl hl.1 rfl (Nat.le_of_ble_eq_true rfl) dX1_depthOf_33 ⟨Nat.le_of_ble_eq_true rfl, Nat.le_of_ble_eq_true rfl⟩) hS (Cut.app (wc := (WC ca cq (kdC C) (fsC C) (snC C) ak (nI (C 0)) (nI (C 37)) (nI (C 38)) (fI (C 39)) (nI (C 40)) (lN (C 66)) (nI (C 41)))) (wr := (WTr ca cq xq tb_ (fillF i (dpF C) va) fy cn an sw sb sv)) hP hD hS hA) (fun r_7 u_8 H locs hq_33 hP hD hS => ?_)
          have hP : va_P D vwCl (WT ca cq xq (kdC C) (fsC C) (snC C) ak (nI (C 0)) (nI (C 37)) (nI (C 38)) (fI (C 39)) (nI (C 40)) (lN (C 66)) (nI (C 41)) tb_ (fillF i (dpF C) va) fy cn an sw sb sv) H := hP
          have hD : va_D A (WT ca cq xq (kdC C) (fsC C) (snC C) ak (nI (C 0)) (nI (C 37)) (nI (C 38)) (fI (C 39)) (nI (C 40)) (lN (C 66)) (nI (C 41)) tb_ (fillF i (dpF C) va) fy cn an sw sb sv) := hD
          have hp_33 : r_7 = bI (decide (1 = 0) || decide (C (1 + (i - 6)) < 6)) := hq_33
          clear hq_33
          obtain rfl := hp_33
          refine nv_ifb_eq (tgt := 56) hx hb dX1_depthOf_36 (by decide) (fun c_36 => ?_) (fun c_36 => ?_)
          · skip
            refine lv_iconst (v := nI 0) hx hb dX1_depthOf_56 (by decide) ?_
            refine lv_istore (lv' := [(4, .int (nI 0)), (3, .int (nI (i - 6))), (2, .int (nI i)), (0, .ref (xq 0)), (1, .int (nI l_))]) hx hb dX1_depthOf_57 hl (by decide) rfl (fun ls hl => ?_)
            refine lv_aload_n hx hb dX1_depthOf_59 rfl (lv_at hl 3 rfl) ?_
            refine gWT_5_values_X1 hx hb hts hown hK hP dX1_depthOf_60 ?_
            refine lv_iload_n hx hb dX1_depthOf_63 rfl (lv_at hl 2 rfl) ?_
            refine lv_iload_n hx hb dX1_depthOf_64 rfl (lv_at hl 1 rfl) ?_
            refine nv_if_ge hx hb dX1_depthOf_65 (tgt := 72) (by decide) (by omega) ?_
            refine lv_iconst (v := nI 1) hx hb dX1_depthOf_72 (by decide) ?_
            refine lv_aload_n hx hb dX1_depthOf_73 rfl (lv_at hl 3 rfl) ?_
            refine gWT_5_values_X1 hx hb hts hown hK hP dX1_depthOf_74 ?_
            refine lv_aload_n hx hb dX1_depthOf_77 rfl (lv_at hl 3 rfl) ?_
            refine gWT_5_circuit_X1 hx hb hts hown hK hP dX1_depthOf_78 ?_
            refine gWT_0_firsts_X1 hE hx hb hts hown hK hP dX1_depthOf_81 ?_
            refine lv_iload_n hx hb dX1_depthOf_84 rfl (lv_at hl 1 rfl) ?_
            refine ldWT_2 hx hb hK hP (by omega) dX1_depthOf_85 ?_
            refine lv_topi (nm_r (e' := nI (C (13 + (i - 6)))) (rfl) ?_)
            refine ldWT_7 hx hb hK hP (by have := hse (i - 6) (by omega); omega) dX1_depthOf_86 ?_
            refine lv_topi (nm_r (e' := nI (dps C (C 0) (C (13 + (i - 6))))) ((fillF_at (by have := hse (i - 6) (by omega); omega))) ?_)
            refine lv_iload hx hb dX1_depthOf_87 (lv_at hl 0 rfl) ?_
            refine va_mmax (x := nI (dps C (C 0) (C (13 + (i - 6))))) (y := nI 0) hx hb (hml.trans hl.1.symm) hown (hts _ q1146) (hts _ q540) (hts _ q96) (hts _ q541) (Nat.le_of_ble_eq_true rfl) (Nat.le_of_ble_eq_true rfl) (Nat.zero_le _) (Nat.zero_le _) dX1_depthOf_89 ?_
            refine lv_topi (nm_r (e' := nI (if dps C (C 0) (C (13 + (i - 6))) < 0 then 0 else dps C (C 0) (C (13 + (i - 6))))) (mx_nI (by have := @dps_le C (C 0) (C (13 + (i - 6))); omega) (by first | omega | (have := @dps_le C (C 0) (C (25 + (i - 6))); omega))) ?_)
            refine nv_iadd hx hb dX1_depthOf_92 ?_
            refine lv_topi (nm_r (e' := nI (dps C (C 0) i)) (congrArg nI (dp_1 hse h0 (by omega) (by omega) rfl ((if_neg (lk_f c_36)).symm))) ?_)
            refine stWT_7 hx hb hK hP hD hS (by omega) dX1_depthOf_93 (fun H locs hP hD hS => ?_)
            have ew_ : upd (fillF i (dpF C) va) i (nI (dps C (C 0) i)) = fillF (i + 1) (dpF C) va := fillF_s _ _ _
            have hP : va_P D vwCl (WT ca cq xq (kdC C) (fsC C) (snC C) ak (nI (C 0)) (nI (C 37)) (nI (C 38)) (fI (C 39)) (nI (C 40)) (lN (C 66)) (nI (C 41)) tb_ (fillF (i + 1) (dpF C) va) fy cn an sw sb sv) H := (congrArg (fun x_ => va_P D vwCl (WT ca cq xq (kdC C) (fsC C) (snC C) ak (nI (C 0)) (nI (C 37)) (nI (C 38)) (fI (C 39)) (nI (C 40)) (lN (C 66)) (nI (C 41)) tb_ x_ fy cn an sw sb sv) H) ew_).mp hP
            have hD : va_D A (WT ca cq xq (kdC C) (fsC C) (snC C) ak (nI (C 0)) (nI (C 37)) (nI (C 38)) (fI (C 39)) (nI (C 40)) (lN (C 66)) (nI (C 41)) tb_ (fillF (i + 1) (dpF C) va) fy cn an sw sb sv) := (congrArg (fun x_ => va_D A (WT ca cq xq (kdC C) (fsC C) (snC C) ak (nI (C 0)) (nI (C 37)) (nI (C 38)) (fI (C 39)) (nI (C 40)) (lN (C 66)) (nI (C 41)) tb_ x_ fy cn an sw sb sv)) ew_).mp hD
            clear ew_
            refine lv_iinc (v := nI (i + 1)) (lv' := [(2, .int (nI (i + 1))), (4, .int (nI 0)), (3, .int (nI (i - 6))), (0, .ref (xq 0)), (1, .int (nI l_))]) hx hb dX1_depthOf_94 hl (k := 2) rfl (nI_add i 1) (by decide) rfl (fun ls hl => ?_)
            refine lv_goto (tgt := 13) hx hb dX1_depthOf_97 (by decide) ?_
            exact ih_13  (i + 1) (by omega) (by omega) _ _ hP hD hS ls (lv_sub hl [0, 3, 4] rfl)
          · skip
            refine lv_aload_n hx hb dX1_depthOf_39 rfl (lv_at hl 2 rfl) ?_
            refine gWT_5_values_X1 hx hb hts hown hK hP dX1_depthOf_40 ?_
            refine lv_aload_n hx hb dX1_depthOf_43 rfl (lv_at hl 2 rfl) ?_
            refine gWT_5_circuit_X1 hx hb hts hown hK hP dX1_depthOf_44 ?_
            refine gWT_0_seconds_X1 hE hx hb hts hown hK hP dX1_depthOf_47 ?_
            refine lv_iload_n hx hb dX1_depthOf_50 rfl (lv_at hl 0 rfl) ?_
            refine ldWT_3 hx hb hK hP (by omega) dX1_depthOf_51 ?_
            refine lv_topi (nm_r (e' := nI (C (25 + (i - 6)))) (rfl) ?_)
            refine ldWT_7 hx hb hK hP (by have := hse (i - 6) (by omega); omega) dX1_depthOf_52 ?_
            refine lv_topi (nm_r (e' := nI (dps C (C 0) (C (25 + (i - 6))))) ((fillF_at (by have := hse (i - 6) (by omega); omega))) ?_)
            refine lv_goto (tgt := 57) hx hb dX1_depthOf_53 (by decide) ?_
            refine lv_istore (lv' := [(4, .int (nI (dps C (C 0) (C (25 + (i - 6)))))), (3, .int (nI (i - 6))), (2, .int (nI i)), (0, .ref (xq 0)), (1, .int (nI l_))]) hx hb dX1_depthOf_57 hl (by decide) rfl (fun ls hl => ?_)
            refine lv_aload_n hx hb dX1_depthOf_59 rfl (lv_at hl 3 rfl) ?_
            refine gWT_5_values_X1 hx hb hts hown hK hP dX1_depthOf_60 ?_
            refine lv_iload_n hx hb dX1_depthOf_63 rfl (lv_at hl 2 rfl) ?_
            refine lv_iload_n hx hb dX1_depthOf_64 rfl (lv_at hl 1 rfl) ?_
            refine nv_if_ge hx hb dX1_depthOf_65 (tgt := 72) (by decide) (by omega) ?_
            refine lv_iconst (v := nI 1) hx hb dX1_depthOf_72 (by decide) ?_
            refine lv_aload_n hx hb dX1_depthOf_73 rfl (lv_at hl 3 rfl) ?_
            refine gWT_5_values_X1 hx hb hts hown hK hP dX1_depthOf_74 ?_
            refine lv_aload_n hx hb dX1_depthOf_77 rfl (lv_at hl 3 rfl) ?_
            refine gWT_5_circuit_X1 hx hb hts hown hK hP dX1_depthOf_78 ?_
            refine gWT_0_firsts_X1 hE hx hb hts hown hK hP dX1_depthOf_81 ?_
            refine lv_iload_n hx hb dX1_depthOf_84 rfl (lv_at hl 1 rfl) ?_
            refine ldWT_2 hx hb hK hP (by omega) dX1_depthOf_85 ?_
            refine lv_topi (nm_r (e' := nI (C (13 + (i - 6)))) (rfl) ?_)
            refine ldWT_7 hx hb hK hP (by have := hse (i - 6) (by omega); omega) dX1_depthOf_86 ?_
            refine lv_topi (nm_r (e' := nI (dps C (C 0) (C (13 + (i - 6))))) ((fillF_at (by have := hse (i - 6) (by omega); omega))) ?_)
            refine lv_iload hx hb dX1_depthOf_87 (lv_at hl 0 rfl) ?_
            refine va_mmax (x := nI (dps C (C 0) (C (13 + (i - 6))))) (y := nI (dps C (C 0) (C (25 + (i - 6))))) hx hb (hml.trans hl.1.symm) hown (hts _ q1146) (hts _ q540) (hts _ q96) (hts _ q541) (Nat.le_of_ble_eq_true rfl) (Nat.le_of_ble_eq_true rfl) (Nat.zero_le _) (Nat.zero_le _) dX1_depthOf_89 ?_
            refine lv_topi (nm_r (e' := nI (if dps C (C 0) (C (13 + (i - 6))) < dps C (C 0) (C (25 + (i - 6))) then dps C (C 0) (C (25 + (i - 6))) else dps C (C 0) (C (13 + (i - 6))))) (mx_nI (by have := @dps_le C (C 0) (C (13 + (i - 6))); omega) (by first | omega | (have := @dps_le C (C 0) (C (25 + (i - 6))); omega))) ?_)
            refine nv_iadd hx hb dX1_depthOf_92 ?_
            refine lv_topi (nm_r (e' := nI (dps C (C 0) i)) (congrArg nI (dp_1 hse h0 (by omega) (by omega) rfl ((if_pos (lk_t c_36)).symm))) ?_)
            refine stWT_7 hx hb hK hP hD hS (by omega) dX1_depthOf_93 (fun H locs hP hD hS => ?_)
            have ew_ : upd (fillF i (dpF C) va) i (nI (dps C (C 0) i)) = fillF (i + 1) (dpF C) va := fillF_s _ _ _
            have hP : va_P D vwCl (WT ca cq xq (kdC C) (fsC C) (snC C) ak (nI (C 0)) (nI (C 37)) (nI (C 38)) (fI (C 39)) (nI (C 40)) (lN (C 66)) (nI (C 41)) tb_ (fillF (i + 1) (dpF C) va) fy cn an sw sb sv) H := (congrArg (fun x_ => va_P D vwCl (WT ca cq xq (kdC C) (fsC C) (snC C) ak (nI (C 0)) (nI (C 37)) (nI (C 38)) (fI (C 39)) (nI (C 40)) (lN (C 66)) (nI (C 41)) tb_ x_ fy cn an sw sb sv) H) ew_).mp hP
            have hD : va_D A (WT ca cq xq (kdC C) (fsC C) (snC C) ak (nI (C 0)) (nI (C 37)) (nI (C 38)) (fI (C 39)) (nI (C 40)) (lN (C 66)) (nI (C 41)) tb_ (fillF (i + 1) (dpF C) va) fy cn an sw sb sv) := (congrArg (fun x_ => va_D A (WT ca cq xq (kdC C) (fsC C) (snC C) ak (nI (C 0)) (nI (C 37)) (nI (C 38)) (fI (C 39)) (nI (C 40)) (lN (C 66)) (nI (C 41)) tb_ x_ fy cn an sw sb sv)) ew_).mp hD
            clear ew_
            refine lv_iinc (v := nI (i + 1)) (lv' := [(2, .int (nI (i + 1))), (4, .int (nI (dps C (C 0) (C (25 + (i - 6)))))), (3, .int (nI (i - 6))), (0, .ref (xq 0)), (1, .int (nI l_))]) hx hb dX1_depthOf_94 hl (k := 2) rfl (nI_add i 1) (by decide) rfl (fun ls hl => ?_)
            refine lv_goto (tgt := 13) hx hb dX1_depthOf_97 (by decide) ?_
            exact ih_13  (i + 1) (by omega) (by omega) _ _ hP hD hS ls (lv_sub hl [0, 3, 4] rfl)
  have ew_ : va = fillF 0 (dpF C) va := (fillF_0 _ _).symm
  have hP : va_P D vwCl (WT ca cq xq (kdC C) (fsC C) (snC C) ak (nI (C 0)) (nI (C 37)) (nI (C 38)) (fI (C 39)) (nI (C 40)) (lN (C 66)) (nI (C 41)) tb_ (fillF 0 (dpF C) va) fy cn an sw sb sv) H := (congrArg (fun x_ => va_P D vwCl (WT ca cq xq (kdC C) (fsC C) (snC C) ak (nI (C 0)) (nI (C 37)) (nI (C 38)) (fI (C 39)) (nI (C 40)) (lN (C 66)) (nI (C 41)) tb_ x_ fy cn an sw sb sv) H) ew_).mp hP
  have hD : va_D A (WT ca cq xq (kdC C) (fsC C) (snC C) ak (nI (C 0)) (nI (C 37)) (nI (C 38)) (fI (C 39)) (nI (C 40)) (lN (C 66)) (nI (C 41)) tb_ (fillF 0 (dpF C) va) fy cn an sw sb sv) := (congrArg (fun x_ => va_D A (WT ca cq xq (kdC C) (fsC C) (snC C) ak (nI (C 0)) (nI (C 37)) (nI (C 38)) (fI (C 39)) (nI (C 40)) (lN (C 66)) (nI (C 41)) tb_ x_ fy cn an sw sb sv)) ew_).mp hD
  clear ew_
  exact lp_13 (l_ + 1 - 0 + 1) 0 (Nat.lt_succ_self _) (by omega) _ _ hP hD hS ls (lv_sub hl [0, 1, 2] rfl)
/-- the inputs that the table tells of, below n -/
def pick (T : Int64) (k : Nat) : Int64 := (T ^^^ ush64 T (1 <<< k)) &&& (inT k ^^^ (-1))
def ivW (T : Int64) : Nat → Nat
  | 0 => 0
  | k + 1 => ivW T k ||| (if pick T k = lN 0 then 0 else 1 <<< k)
theorem ivW_bit {T : Int64} : ∀ n i, (ivW T n).testBit i = (decide (i < n) && !decide (pick T i = lN 0)) := by
  intro n; induction n with
  | zero => intro i; simp [ivW]
  | succ n ih =>
    intro i
    simp only [ivW]
    rw [Nat.testBit_or, ih]
    by_cases e : i = n
    · subst e
      by_cases h : pick T i = lN 0
      · rw [if_pos h, Nat.zero_testBit]; simp [h]
      · rw [if_neg h, tb_sh]; simp [h]
    · have h2 : decide (i < n + 1) = decide (i < n) := decide_eq_decide.mpr (by omega)
      rw [h2]
      split
      · rw [Nat.zero_testBit, Bool.or_false]
      · rw [tb_sh, decide_eq_false (show ¬ n = i from fun q => e q.symm), Bool.or_false]
theorem ivK_bit {T : Int64} {t s : Nat} : ∀ n i, (ivK T t s n).testBit i = (s.testBit i || (decide (i < n) && ivs T t i)) := by
  intro n; induction n with
  | zero => intro i; simp [ivK]
  | succ n ih =>
    intro i
    simp only [ivK]
    rw [Nat.testBit_or, ih]
    by_cases e : i = n
    · subst e
      cases h : ivs T t i
      · rw [if_neg (by decide), Nat.zero_testBit]; simp
      · rw [if_pos rfl, tb_sh]; simp
    · have h2 : decide (i < n + 1) = decide (i < n) := decide_eq_decide.mpr (by omega)
      rw [h2]
      split
      · rw [tb_sh, decide_eq_false (show ¬ n = i from fun q => e q.symm), Bool.or_false]
      · rw [Nat.zero_testBit, Bool.or_false]
theorem ivT_bit {T : Int64} : ∀ n i, (ivT T n).testBit i = true ↔ i < 6 ∧ ∃ t, t < n ∧ ivs T t i = true := by
  intro n; induction n with
  | zero => intro i; exact ⟨fun h => by simp [ivT] at h, fun ⟨_, t, h, _⟩ => absurd h (Nat.not_lt_zero t)⟩
  | succ n ih =>
    intro i
    simp only [ivT]
    rw [ivK_bit, Bool.or_eq_true, ih, Bool.and_eq_true, decide_eq_true_eq]
    constructor
    · rintro (⟨a, t, b, c⟩ | ⟨a, b⟩)
      · exact ⟨a, t, by omega, c⟩
      · exact ⟨a, n, by omega, b⟩
    · rintro ⟨a, t, b, c⟩
      by_cases e : t = n
      · subst e; exact Or.inr ⟨a, c⟩
      · exact Or.inl ⟨a, t, by omega, c⟩
theorem x_add : ∀ k, k < 6 → ∀ t, t < 64 → t.testBit k = false → t ^^^ (1 <<< k) = 1 <<< k + t := by decide +kernel
theorem x_bit : ∀ k, k < 6 → ∀ t, t < 64 → (t ^^^ (1 <<< k)).testBit k = !t.testBit k := by decide +kernel
theorem x_x : ∀ k, k < 6 → ∀ t, t < 64 → (t ^^^ (1 <<< k)) ^^^ (1 <<< k) = t := by decide +kernel
theorem sh6 {k : Nat} (h : k < 6) : 1 <<< k < 64 := by rw [Nat.one_shiftLeft]; show 2 ^ k < 2 ^ 6; exact Nat.pow_lt_pow_right (by decide) h
theorem pick_bit {T : Int64} {k t : Nat} (hk : k < 6) (ht : t < 64) : bit64 (pick T k) t = (!t.testBit k && ivs T t k) := by
  unfold pick ivs
  rw [bit_and, bit_xor, bit_xor, bit_m1 t ht, inT_bit ht, bit_ush (sh6 hk) ht]
  cases hb : t.testBit k with
  | true => simp
  | false => rw [← x_add k hk t ht hb]; cases bit64 T t <;> cases bit64 T (t ^^^ 1 <<< k) <;> rfl
theorem pick_iff {T : Int64} {k : Nat} (hk : k < 6) : ¬ pick T k = lN 0 ↔ ∃ t, t < 64 ∧ ivs T t k = true := by
  constructor
  · intro h
    apply Classical.byContradiction; intro hn
    apply h
    apply i64_ext; intro t ht
    rw [pick_bit hk ht, bit_lN _ _ ht, Nat.zero_testBit]
    cases hb : ivs T t k with
    | false => simp
    | true => exact absurd ⟨t, ht, hb⟩ hn
  · rintro ⟨t, ht, h⟩ e
    cases hb : t.testBit k with
    | false =>
      have := pick_bit (T := T) hk ht
      rw [e, bit_lN _ _ ht, Nat.zero_testBit, hb, h] at this; cases this
    | true =>
      have hx := tx_lt ht hk
      have := pick_bit (T := T) hk hx
      rw [e, bit_lN _ _ hx, Nat.zero_testBit, x_bit k hk t ht, hb] at this
      unfold ivs at this h
      rw [x_x k hk t ht] at this
      revert this h
      cases bit64 T t <;> cases bit64 T (t ^^^ 1 <<< k) <;> decide
theorem ivW_all {T : Int64} : ivW T 6 = ivT T 64 := by
  apply Nat.eq_of_testBit_eq; intro i
  rw [Bool.eq_iff_iff, ivT_bit, ivW_bit, Bool.and_eq_true, decide_eq_true_eq, Bool.not_eq_true', decide_eq_false_iff_not]
  constructor
  · rintro ⟨a, b⟩; exact ⟨a, (pick_iff a).mp b⟩
  · rintro ⟨a, b⟩; exact ⟨a, (pick_iff a).mpr b⟩
theorem ivW_lt {T : Int64} : ∀ n, n ≤ 6 → ivW T n < 2 ^ 6 := by
  intro n; induction n with
  | zero => intro _; exact (by decide : (0 : Nat) < 2 ^ 6)
  | succ n ih =>
    intro h
    simp only [ivW]
    apply Nat.or_lt_two_pow (ih (by omega))
    split
    · decide
    · exact sh_lt (by omega)
set_option maxHeartbeats 4000000 in
set_option maxRecDepth 100000 in
theorem mt_X1_inputsOf_ok (l : Launch) (D : va_G) (ca : Nat → ClassId) (cq : Nat → Nat) (xq : Nat → Nat) (ak : Nat → Int32) (tb_ : Nat → Int64) (va : Nat → Int32) (fy : Nat → Int64) (cn : Nat → Int32) (an : Nat → Int32) (sw : Nat → Int64) (sb : Nat → Int64) (sv : Value) (C : Nat → Nat) (l_ : Nat) (b_ : Bool) (h0 : C 0 ≤ 12) (hkd0 : ∀ k, k < 12 → C (1 + k) < 8) (hse : ∀ k, k < 12 → C (13 + k) < 6 + k ∧ C (25 + k) < 6 + k) (ho : C 37 < 2 ^ 18) (hbx : C 38 < 2 ^ 18) (hno : popc 18 (C 37) ≤ 4) (hl : l_ < 6 + C 0) (nn : Nat) : Met l yX1_inputsOf (ws_ yX1_inputsOf cX1_inputsOf 7 (Option.some Jvm.ClassFile.FieldType.int)) ({ frames := 3, cells := 0, slots := 0, locals := 70 } : Room) (va_Pc [.ref (xq 0), .int (nI l_), .int (bI b_)] (PreW EvX D vwCl (TY ca) (WT ca cq xq (kdC C) (fsC C) (snC C) ak (nI (C 0)) (nI (C 37)) (nI (C 38)) (fI (C 39)) (nI (C 40)) (lN (C 66)) (nI (C 41)) tb_ va fy cn an sw sb sv) nn)) (va_Qi (fun (r_ : Int32) (u_ : (Nat → Int64)) => r_ = nI (if b_ = true then ivT (tb C 0 0 l_) 64 else bo C (C 0) (1 <<< l_) &&& 63)) (PostW D vwCl (TY ca) (fun (u_ : (Nat → Int64)) => (WT ca cq xq (kdC C) (fsC C) (snC C) ak (nI (C 0)) (nI (C 37)) (nI (C 38)) (fI (C 39)) (nI (C 40)) (lN (C 66)) (nI (C 41)) u_ va fy cn an sw sb sv)) (va_A (WT ca cq xq (kdC C) (fsC C) (snC C) ak (nI (C 0)) (nI (C 37)) (nI (C 38)) (fI (C 39)) (nI (C 40)) (lN (C 66)) (nI (C 41)) tb_ va fy cn an sw sb sv) nn)) (va_A (WT ca cq xq (kdC C) (fsC C) (snC C) ak (nI (C 0)) (nI (C 37)) (nI (C 38)) (fI (C 39)) (nI (C 40)) (lN (C 66)) (nI (C 41)) tb_ va fy cn an sw sb sv) nn)) 0 0 (va_A (WT ca cq xq (kdC C) (fsC C) (snC C) ak (nI (C 0)) (nI (C 37)) (nI (C 38)) (fI (C 39)) (nI (C 40)) (lN (C 66)) (nI (C 41)) tb_ va fy cn an sw sb sv) nn) := by
  refine met_go (QA := fun A => va_Qi (fun (r_ : Int32) (u_ : (Nat → Int64)) => r_ = nI (if b_ = true then ivT (tb C 0 0 l_) 64 else bo C (C 0) (1 <<< l_) &&& 63)) (PostW D vwCl (TY ca) (fun (u_ : (Nat → Int64)) => (WT ca cq xq (kdC C) (fsC C) (snC C) ak (nI (C 0)) (nI (C 37)) (nI (C 38)) (fI (C 39)) (nI (C 40)) (lN (C 66)) (nI (C 41)) u_ va fy cn an sw sb sv)) A) A) (by decide) (Nat.le_of_ble_eq_true rfl) (fun p e s m below meth c A ls QQ hQQ hx hb hr hts hown hlocks hml hA hP hK hD hE hl => ?_)
  have hown : s.vm.findClass RX1 = some m.cls := hown
  have hS : va_S A s.heap s.heap [] := va_S.rf
  have hl : lv_has ls 7 [(0, .ref (xq 0)), (1, .int (nI l_)), (2, .int (bI b_))] := hl
  generalize hHe : s.heap = H at hP ⊢
  have hS : va_S A s.heap H [] := hHe ▸ hS
  generalize ([] : List Loc) = locs at hS ⊢
  obtain ⟨tSt, hZs, hTs⟩ := hE.2
  refine lv_aload_n hx hb dX1_inputsOf_0 rfl (lv_at hl 0 rfl) ?_
  refine gWT_5_circuit_X1 hx hb hts hown hK hP dX1_inputsOf_1 ?_
  refine lv_iload_n hx hb dX1_inputsOf_4 rfl (lv_at hl 1 rfl) ?_
  refine xc_i (xr_V (b := cq 0) (ci := 1) (q0 := 0) (As := [.int (nI l_)]) (rest := []) (mt_X2_isLine l D ca cq (kdC C) (fsC C) (snC C) ak (nI (C 37)) (nI (C 38)) (fI (C 39)) (nI (C 40)) (lN (C 66)) (nI (C 41)) (C 0) (nI l_) (by first | assumption | omega | (simp only [updN, forgetC, changedC]; (repeat' split) <;> omega)) H.size) ⟨hx, hb, hml, hown, hts⟩ (cwV 1 hts (lw_V q1486 q1174 q1175 q80 q1176) rfl rfl rfl (by decide +kernel) ⟨Nat.le_of_ble_eq_true rfl, Nat.le_of_ble_eq_true rfl⟩) EvX_ok hE hK hS (Cut.app (wc := (WC ca cq (kdC C) (fsC C) (snC C) ak (nI (C 0)) (nI (C 37)) (nI (C 38)) (fI (C 39)) (nI (C 40)) (lN (C 66)) (nI (C 41)))) (wr := (WTr ca cq xq tb_ va fy cn an sw sb sv)) hP hD hS hA) rfl rfl rfl hl.1 rfl (Nat.le_of_ble_eq_true rfl) dX1_inputsOf_5 ⟨Nat.le_of_ble_eq_true rfl, Nat.le_of_ble_eq_true rfl⟩) hS (Cut.app (wc := (WC ca cq (kdC C) (fsC C) (snC C) ak (nI (C 0)) (nI (C 37)) (nI (C 38)) (fI (C 39)) (nI (C 40)) (lN (C 66)) (nI (C 41)))) (wr := (WTr ca cq xq tb_ va fy cn an sw sb sv)) hP hD hS hA) (fun r_1 u_2 H locs hq_5 hP hD hS => ?_)
  have hP : va_P D vwCl (WT ca cq xq (kdC C) (fsC C) (snC C) ak (nI (C 0)) (nI (C 37)) (nI (C 38)) (fI (C 39)) (nI (C 40)) (lN (C 66)) (nI (C 41)) tb_ va fy cn an sw sb sv) H := hP
  have hD : va_D A (WT ca cq xq (kdC C) (fsC C) (snC C) ak (nI (C 0)) (nI (C 37)) (nI (C 38)) (fI (C 39)) (nI (C 40)) (lN (C 66)) (nI (C 41)) tb_ va fy cn an sw sb sv) := hD
  have hp_5 : r_1 = bI (inR (6 + (C 0)) (nI l_)) := hq_5
  clear hq_5
  obtain rfl := hp_5
  refine xc_v (xr_S (As := [.int (bI (inR (6 + (C 0)) (nI l_)))]) (rest := []) (mt_X1_needThere_ok l D ca (inR (6 + (C 0)) (nI l_)) (inR_ok (by omega) (by omega)) H.size) ⟨hx, hb, hml, hown, hts⟩ (va_cwS 1 hts (lw_S q1471 q1179 q79 q1180) rfl rfl rfl (by decide +kernel) ⟨Nat.le_of_ble_eq_true rfl, Nat.le_of_ble_eq_true rfl⟩) Ev0_ok trivial hK hS (Cut.app (wc := []) (wr := (WT ca cq xq (kdC C) (fsC C) (snC C) ak (nI (C 0)) (nI (C 37)) (nI (C 38)) (fI (C 39)) (nI (C 40)) (lN (C 66)) (nI (C 41)) tb_ va fy cn an sw sb sv)) hP hD hS hA) rfl hl.1 rfl (Nat.le_of_ble_eq_true rfl) dX1_inputsOf_8 ⟨Nat.le_of_ble_eq_true rfl, Nat.le_of_ble_eq_true rfl⟩) hS (Cut.app (wc := []) (wr := (WT ca cq xq (kdC C) (fsC C) (snC C) ak (nI (C 0)) (nI (C 37)) (nI (C 38)) (fI (C 39)) (nI (C 40)) (lN (C 66)) (nI (C 41)) tb_ va fy cn an sw sb sv)) hP hD hS hA) (fun u_4 H locs hq_8 hP hD hS => ?_)
  have hP : va_P D vwCl (WT ca cq xq (kdC C) (fsC C) (snC C) ak (nI (C 0)) (nI (C 37)) (nI (C 38)) (fI (C 39)) (nI (C 40)) (lN (C 66)) (nI (C 41)) tb_ va fy cn an sw sb sv) H := hP
  have hD : va_D A (WT ca cq xq (kdC C) (fsC C) (snC C) ak (nI (C 0)) (nI (C 37)) (nI (C 38)) (fI (C 39)) (nI (C 40)) (lN (C 66)) (nI (C 41)) tb_ va fy cn an sw sb sv) := hD
  refine lv_iload_n hx hb dX1_inputsOf_11 rfl (lv_at hl 2 rfl) ?_
  refine nv_ifb_ne (tgt := 24) hx hb dX1_inputsOf_12 (by decide) (fun c_12 => ?_) (fun c_12 => ?_)
  · skip
    refine lv_aload_n hx hb dX1_inputsOf_24 rfl (lv_at hl 0 rfl) ?_
    refine lv_iconst (v := fI 0) hx hb dX1_inputsOf_25 (by decide) ?_
    refine lv_iconst (v := fI 0) hx hb dX1_inputsOf_26 (by decide) ?_
    refine xc_v (xr_V (b := xq 0) (ci := 0) (q0 := 5) (As := [.int (fI 0), .int (fI 0)]) (rest := []) (mt_X1_layTables l D ca cq xq ak tb_ va fy cn an sw sb sv C 0 0 (by first | assumption | omega | (simp only [updN, forgetC, changedC]; (repeat' split) <;> omega)) (by first | assumption | omega | (simp only [updN, forgetC, changedC]; (repeat' split) <;> omega)) (by first | assumption | omega | (simp only [updN, forgetC, changedC]; (repeat' split) <;> omega)) (by first | assumption | omega | (simp only [updN, forgetC, changedC]; (repeat' split) <;> omega)) (by first | assumption | omega | (simp only [updN, forgetC, changedC]; (repeat' split) <;> omega)) (by first | assumption | omega | (simp only [updN, forgetC, changedC]; (repeat' split) <;> omega)) (by first | assumption | omega | (simp only [updN, forgetC, changedC]; (repeat' split) <;> omega)) (by first | assumption | omega | (simp only [updN, forgetC, changedC]; (repeat' split) <;> omega)) H.size) ⟨hx, hb, hml, hown, hts⟩ (cwV 2 hts (lw_V q451 q453 qs8 q79 q454) rfl rfl rfl (by decide +kernel) ⟨Nat.le_of_ble_eq_true rfl, Nat.le_of_ble_eq_true rfl⟩) EvX_ok hE hK hS (Cut.all hP hD hS hA) rfl rfl rfl hl.1 rfl (Nat.le_of_ble_eq_true rfl) dX1_inputsOf_27 ⟨Nat.le_of_ble_eq_true rfl, Nat.le_of_ble_eq_true rfl⟩) hS (Cut.all hP hD hS hA) (fun u_7 H locs hq_27 hP hD hS => ?_)
    have hP : va_P D vwCl (WT ca cq xq (kdC C) (fsC C) (snC C) ak (nI (C 0)) (nI (C 37)) (nI (C 38)) (fI (C 39)) (nI (C 40)) (lN (C 66)) (nI (C 41)) (fillL (6 + C 0) (tb C 0 0) tb_) va fy cn an sw sb sv) H := hP
    have hD : va_D A (WT ca cq xq (kdC C) (fsC C) (snC C) ak (nI (C 0)) (nI (C 37)) (nI (C 38)) (fI (C 39)) (nI (C 40)) (lN (C 66)) (nI (C 41)) (fillL (6 + C 0) (tb C 0 0) tb_) va fy cn an sw sb sv) := hD
    refine lv_iconst (v := nI 0) hx hb dX1_inputsOf_30 (by decide) ?_
    refine lv_istore_n (lv' := [(3, .int (nI 0)), (0, .ref (xq 0)), (1, .int (nI l_)), (2, .int (bI b_))]) hx hb dX1_inputsOf_31 rfl hl (by decide) rfl (fun ls hl => ?_)
    refine lv_iconst (v := nI 0) hx hb dX1_inputsOf_32 (by decide) ?_
    refine lv_istore (lv' := [(4, .int (nI 0)), (3, .int (nI 0)), (0, .ref (xq 0)), (1, .int (nI l_)), (2, .int (bI b_))]) hx hb dX1_inputsOf_33 hl (by decide) rfl (fun ls hl => ?_)
    have lp_35 : ∀ (fu_35 : Nat) (k : Nat), 6 - k < fu_35 → (k ≤ 6) → ∀ (H : Heap) (locs : List Loc), va_P D vwCl (WT ca cq xq (kdC C) (fsC C) (snC C) ak (nI (C 0)) (nI (C 37)) (nI (C 38)) (fI (C 39)) (nI (C 40)) (lN (C 66)) (nI (C 41)) (fillL (6 + C 0) (tb C 0 0) tb_) va fy cn an sw sb sv) H → va_D A (WT ca cq xq (kdC C) (fsC C) (snC C) ak (nI (C 0)) (nI (C 37)) (nI (C 38)) (fI (C 39)) (nI (C 40)) (lN (C 66)) (nI (C 41)) (fillL (6 + C 0) (tb C 0 0) tb_) va fy cn an sw sb sv) → va_S A s.heap H locs → ∀ (ls : Array Slot), lv_has ls 7 [(4, .int (nI k)), (3, .int (nI (ivW (tb C 0 0 l_) k))), (0, .ref (xq 0)), (1, .int (nI l_)), (2, .int (bI b_))] → W p l e ({ frames := 3, cells := 0, slots := 0, locals := 70 } : Room) s m ([.ref (xq 0), .int (nI l_), .int (bI b_)] : List Value).toArray below meth c H locs 0 0 QQ (F0 m 35 ls []) := by
      intro fu_35
      induction fu_35 with
      | zero => intro k hfu; exact absurd hfu (Nat.not_lt_zero _)
      | succ fu_35 ih_35 =>
        intro k hfu hk H locs hP hD hS ls hl
        refine lv_iload hx hb dX1_inputsOf_35 (lv_at hl 0 rfl) ?_
        refine lv_bipush (v := nI 6) hx hb dX1_inputsOf_37 (by decide) ?_
        refine nv_icmp_ge (tgt := 97) hx hb dX1_inputsOf_39 (by decide) (by omega) (by omega) (fun c_39 => ?_) (fun c_39 => ?_)
        · skip
          have e_ : 6 = k := Eq.symm (by omega)
          subst e_
          refine lv_iload_n hx hb dX1_inputsOf_97 rfl (lv_at hl 1 rfl) ?_
          subst hQQ
          exact xe_i (v := nI (ivW (tb C 0 0 l_) 6)) (fillL (6 + C 0) (tb C 0 0) tb_) hx hb hr hlocks hK hP hD hS (congrArg nI (by rw [if_pos c_12]; exact ivW_all)) dX1_inputsOf_98
        · skip
          refine lv_aload_n hx hb dX1_inputsOf_42 rfl (lv_at hl 2 rfl) ?_
          refine gWT_5_tables_X1 hx hb hts hown hK hP dX1_inputsOf_43 ?_
          refine lv_iload_n hx hb dX1_inputsOf_46 rfl (lv_at hl 3 rfl) ?_
          refine ldWT_6 hx hb hK hP (by omega) dX1_inputsOf_47 ?_
          refine lv_topl (nm_r (e' := tb C 0 0 l_) (fillL_at (by omega)) ?_)
          refine lv_iconst (v := nI 1) hx hb dX1_inputsOf_48 (by decide) ?_
          refine lv_iload hx hb dX1_inputsOf_49 (lv_at hl 0 rfl) ?_
          refine nv_ishl hx hb dX1_inputsOf_51 (by omega) (sh1_ok (by omega)) ?_
          refine lv_lushr (v := ush64 (tb C 0 0 l_) (1 <<< k)) hx hb dX1_inputsOf_52 rfl ?_
          refine lv_lstore (lv' := [(5, .long (ush64 (tb C 0 0 l_) (1 <<< k))), (4, .int (nI k)), (3, .int (nI (ivW (tb C 0 0 l_) k))), (0, .ref (xq 0)), (1, .int (nI l_)), (2, .int (bI b_))]) hx hb dX1_inputsOf_53 hl (by decide) rfl (fun ls hl => ?_)
          refine lv_iload_n hx hb dX1_inputsOf_55 rfl (lv_at hl 2 rfl) ?_
          refine lv_aload_n hx hb dX1_inputsOf_56 rfl (lv_at hl 3 rfl) ?_
          refine gWT_5_tables_X1 hx hb hts hown hK hP dX1_inputsOf_57 ?_
          refine lv_iload_n hx hb dX1_inputsOf_60 rfl (lv_at hl 4 rfl) ?_
          refine ldWT_6 hx hb hK hP (by omega) dX1_inputsOf_61 ?_
          refine lv_topl (nm_r (e' := tb C 0 0 l_) (fillL_at (by omega)) ?_)
          refine lv_lload hx hb dX1_inputsOf_62 (lv_at hl 0 rfl) ?_
          refine lv_lxor hx hb dX1_inputsOf_64 ?_
          refine va_gets (v := .ref tSt) hx hb hZs hS hown (hts _ q455) (fun _ h9 => h9) dX1_inputsOf_65 ?_
          refine lv_iload hx hb dX1_inputsOf_68 (lv_at hl 1 rfl) ?_
          refine va_tl hx hb hTs hS (vp_in_nI (by omega) (by decide)) (v := .long (inT k)) (by rw [nI_clamp (by omega)]) dX1_inputsOf_70 ?_
          refine lv_ldc2 (v := (-1)) hx hb hown (hts _ q476) dX1_inputsOf_71 ?_
          refine lv_lxor hx hb dX1_inputsOf_74 ?_
          refine lv_land hx hb dX1_inputsOf_75 ?_
          refine lv_topl (nm_r (e' := pick (tb C 0 0 l_) k) (rfl) ?_)
          refine lv_lconst (v := lN 0) hx hb dX1_inputsOf_76 (by decide) ?_
          refine nv_lcmp_eq (tgt := 88) hx hb dX1_inputsOf_77 dX1_inputsOf_78 (by decide) (fun c_77 => ?_) (fun c_77 => ?_)
          · skip
            refine lv_iconst (v := nI 0) hx hb dX1_inputsOf_88 (by decide) ?_
            refine nv_ior hx hb dX1_inputsOf_89 ?_
            refine lv_istore_n (lv' := [(3, .int (nI ((ivW (tb C 0 0 l_) k) ||| 0))), (5, .long (ush64 (tb C 0 0 l_) (1 <<< k))), (4, .int (nI k)), (0, .ref (xq 0)), (1, .int (nI l_)), (2, .int (bI b_))]) hx hb dX1_inputsOf_90 rfl hl (by decide) rfl (fun ls hl => ?_)
            refine lv_iinc (v := nI (k + 1)) (lv' := [(4, .int (nI (k + 1))), (3, .int (nI ((ivW (tb C 0 0 l_) k) ||| 0))), (5, .long (ush64 (tb C 0 0 l_) (1 <<< k))), (0, .ref (xq 0)), (1, .int (nI l_)), (2, .int (bI b_))]) hx hb dX1_inputsOf_91 hl (k := 2) rfl (nI_add k 1) (by decide) rfl (fun ls hl => ?_)
            refine lv_goto (tgt := 35) hx hb dX1_inputsOf_94 (by decide) ?_
            have hl : lv_has ls 7 [(4, .int (nI (k + 1))), (3, .int (nI (ivW (tb C 0 0 l_) (k + 1)))), (5, .long (ush64 (tb C 0 0 l_) (1 <<< k))), (0, .ref (xq 0)), (1, .int (nI l_)), (2, .int (bI b_))] := (congrArg (fun x_ => lv_has ls 7 [(4, .int (nI (k + 1))), (3, .int x_), (5, .long (ush64 (tb C 0 0 l_) (1 <<< k))), (0, .ref (xq 0)), (1, .int (nI l_)), (2, .int (bI b_))]) (show nI ((ivW (tb C 0 0 l_) k) ||| 0) = nI (ivW (tb C 0 0 l_) (k + 1)) from congrArg nI (by simp only [ivW]; rw [if_pos c_77]))).mp hl
            exact ih_35  (k + 1) (by omega) (by omega) _ _ hP hD hS ls (lv_sub hl [0, 1, 3, 4, 5] rfl)
          · skip
            refine lv_iconst (v := nI 1) hx hb dX1_inputsOf_81 (by decide) ?_
            refine lv_iload hx hb dX1_inputsOf_82 (lv_at hl 1 rfl) ?_
            refine nv_ishl hx hb dX1_inputsOf_84 (by omega) (sh1_ok (by omega)) ?_
            refine lv_goto (tgt := 89) hx hb dX1_inputsOf_85 (by decide) ?_
            refine nv_ior hx hb dX1_inputsOf_89 ?_
            refine lv_istore_n (lv' := [(3, .int (nI ((ivW (tb C 0 0 l_) k) ||| (1 <<< k)))), (5, .long (ush64 (tb C 0 0 l_) (1 <<< k))), (4, .int (nI k)), (0, .ref (xq 0)), (1, .int (nI l_)), (2, .int (bI b_))]) hx hb dX1_inputsOf_90 rfl hl (by decide) rfl (fun ls hl => ?_)
            refine lv_iinc (v := nI (k + 1)) (lv' := [(4, .int (nI (k + 1))), (3, .int (nI ((ivW (tb C 0 0 l_) k) ||| (1 <<< k)))), (5, .long (ush64 (tb C 0 0 l_) (1 <<< k))), (0, .ref (xq 0)), (1, .int (nI l_)), (2, .int (bI b_))]) hx hb dX1_inputsOf_91 hl (k := 2) rfl (nI_add k 1) (by decide) rfl (fun ls hl => ?_)
            refine lv_goto (tgt := 35) hx hb dX1_inputsOf_94 (by decide) ?_
            have hl : lv_has ls 7 [(4, .int (nI (k + 1))), (3, .int (nI (ivW (tb C 0 0 l_) (k + 1)))), (5, .long (ush64 (tb C 0 0 l_) (1 <<< k))), (0, .ref (xq 0)), (1, .int (nI l_)), (2, .int (bI b_))] := (congrArg (fun x_ => lv_has ls 7 [(4, .int (nI (k + 1))), (3, .int x_), (5, .long (ush64 (tb C 0 0 l_) (1 <<< k))), (0, .ref (xq 0)), (1, .int (nI l_)), (2, .int (bI b_))]) (show nI ((ivW (tb C 0 0 l_) k) ||| (1 <<< k)) = nI (ivW (tb C 0 0 l_) (k + 1)) from congrArg nI (by simp only [ivW]; rw [if_neg c_77]))).mp hl
            exact ih_35  (k + 1) (by omega) (by omega) _ _ hP hD hS ls (lv_sub hl [0, 1, 3, 4, 5] rfl)
    have hl : lv_has ls 7 [(4, .int (nI 0)), (3, .int (nI (ivW (tb C 0 0 l_) 0))), (0, .ref (xq 0)), (1, .int (nI l_)), (2, .int (bI b_))] := (congrArg (fun x_ => lv_has ls 7 [(4, .int (nI 0)), (3, .int x_), (0, .ref (xq 0)), (1, .int (nI l_)), (2, .int (bI b_))]) (show nI 0 = nI (ivW (tb C 0 0 l_) 0) from rfl)).mp hl
    exact lp_35 (6 - 0 + 1) 0 (Nat.lt_succ_self _) (by omega) _ _ hP hD hS ls (lv_sub hl [0, 1, 2, 3, 4] rfl)
  · skip
    refine lv_aload_n hx hb dX1_inputsOf_15 rfl (lv_at hl 0 rfl) ?_
    refine lv_iload_n hx hb dX1_inputsOf_16 rfl (lv_at hl 1 rfl) ?_
    refine xc_i (xr_V (b := xq 0) (ci := 0) (q0 := 5) (As := [.int (nI l_)]) (rest := []) (mt_X1_behind l D ca cq xq ak tb_ va fy cn an sw sb sv C l_ (by first | assumption | omega | (simp only [updN, forgetC, changedC]; (repeat' split) <;> omega)) (by first | assumption | omega | (simp only [updN, forgetC, changedC]; (repeat' split) <;> omega)) (by first | assumption | omega | (simp only [updN, forgetC, changedC]; (repeat' split) <;> omega)) (by first | assumption | omega | (simp only [updN, forgetC, changedC]; (repeat' split) <;> omega)) H.size) ⟨hx, hb, hml, hown, hts⟩ (cwV 1 hts (lw_V q1005 q1007 qs18 q79 q1008) rfl rfl rfl (by decide +kernel) ⟨Nat.le_of_ble_eq_true rfl, Nat.le_of_ble_eq_true rfl⟩) EvX_ok hE hK hS (Cut.all hP hD hS hA) rfl rfl rfl hl.1 rfl (Nat.le_of_ble_eq_true rfl) dX1_inputsOf_17 ⟨Nat.le_of_ble_eq_true rfl, Nat.le_of_ble_eq_true rfl⟩) hS (Cut.all hP hD hS hA) (fun r_10 u_11 H locs hq_17 hP hD hS => ?_)
    have hP : va_P D vwCl (WT ca cq xq (kdC C) (fsC C) (snC C) ak (nI (C 0)) (nI (C 37)) (nI (C 38)) (fI (C 39)) (nI (C 40)) (lN (C 66)) (nI (C 41)) tb_ va fy cn an sw sb sv) H := hP
    have hD : va_D A (WT ca cq xq (kdC C) (fsC C) (snC C) ak (nI (C 0)) (nI (C 37)) (nI (C 38)) (fI (C 39)) (nI (C 40)) (lN (C 66)) (nI (C 41)) tb_ va fy cn an sw sb sv) := hD
    have hp_17 : r_10 = nI (bo C (l_ - 5) (1 <<< l_)) := hq_17
    clear hq_17
    obtain rfl := hp_17
    refine lv_bipush (v := nI 63) hx hb dX1_inputsOf_20 (by decide) ?_
    refine nv_iand hx hb dX1_inputsOf_22 ?_
    subst hQQ
    exact xe_i (v := nI ((bo C (l_ - 5) (1 <<< l_)) &&& 63)) tb_ hx hb hr hlocks hK hP hD hS (congrArg nI (by rw [if_neg (by rw [c_12]; decide), bo_hi (n := C 0) (m := l_ - 5) (by omega) (Nat.le_refl _)])) dX1_inputsOf_23
set_option maxHeartbeats 4000000 in
set_option maxRecDepth 100000 in
theorem mt_X1_valueOf_ok (l : Launch) (D : va_G) (ca : Nat → ClassId) (cq : Nat → Nat) (xq : Nat → Nat) (ak : Nat → Int32) (tb_ : Nat → Int64) (va : Nat → Int32) (fy : Nat → Int64) (cn : Nat → Int32) (an : Nat → Int32) (sw : Nat → Int64) (sb : Nat → Int64) (sv : Value) (C : Nat → Nat) (l_ : Nat) (t_ : Nat) (h0 : C 0 ≤ 12) (hkd0 : ∀ k, k < 12 → C (1 + k) < 8) (hse : ∀ k, k < 12 → C (13 + k) < 6 + k ∧ C (25 + k) < 6 + k) (ho : C 37 < 2 ^ 18) (hbx : C 38 < 2 ^ 18) (hno : popc 18 (C 37) ≤ 4) (hl : l_ < 6 + C 0) (ht : t_ < 64) (nn : Nat) : Met l yX1_valueOf (ws_ yX1_valueOf cX1_valueOf 3 (Option.some Jvm.ClassFile.FieldType.int)) ({ frames := 3, cells := 0, slots := 0, locals := 71 } : Room) (va_Pc [.ref (xq 0), .int (nI l_), .int (nI t_)] (PreW EvX D vwCl (TY ca) (WT ca cq xq (kdC C) (fsC C) (snC C) ak (nI (C 0)) (nI (C 37)) (nI (C 38)) (fI (C 39)) (nI (C 40)) (lN (C 66)) (nI (C 41)) tb_ va fy cn an sw sb sv) nn)) (va_Qi (fun (r_ : Int32) (u_ : (Nat → Int32)) => r_ = nI (b2n (bit64 (tb C 0 0 l_) t_))) (PostW D vwCl (TY ca) (fun (u_ : (Nat → Int32)) => (WT ca cq xq (kdC C) (fsC C) (snC C) ak (nI (C 0)) (nI (C 37)) (nI (C 38)) (fI (C 39)) (nI (C 40)) (lN (C 66)) (nI (C 41)) tb_ u_ fy cn an sw sb sv)) (va_A (WT ca cq xq (kdC C) (fsC C) (snC C) ak (nI (C 0)) (nI (C 37)) (nI (C 38)) (fI (C 39)) (nI (C 40)) (lN (C 66)) (nI (C 41)) tb_ va fy cn an sw sb sv) nn)) (va_A (WT ca cq xq (kdC C) (fsC C) (snC C) ak (nI (C 0)) (nI (C 37)) (nI (C 38)) (fI (C 39)) (nI (C 40)) (lN (C 66)) (nI (C 41)) tb_ va fy cn an sw sb sv) nn)) 0 0 (va_A (WT ca cq xq (kdC C) (fsC C) (snC C) ak (nI (C 0)) (nI (C 37)) (nI (C 38)) (fI (C 39)) (nI (C 40)) (lN (C 66)) (nI (C 41)) tb_ va fy cn an sw sb sv) nn) := by
  refine met_go (QA := fun A => va_Qi (fun (r_ : Int32) (u_ : (Nat → Int32)) => r_ = nI (b2n (bit64 (tb C 0 0 l_) t_))) (PostW D vwCl (TY ca) (fun (u_ : (Nat → Int32)) => (WT ca cq xq (kdC C) (fsC C) (snC C) ak (nI (C 0)) (nI (C 37)) (nI (C 38)) (fI (C 39)) (nI (C 40)) (lN (C 66)) (nI (C 41)) tb_ u_ fy cn an sw sb sv)) A) A) (by decide) (Nat.le_of_ble_eq_true rfl) (fun p e s m below meth c A ls QQ hQQ hx hb hr hts hown hlocks hml hA hP hK hD hE hl => ?_)
  have hown : s.vm.findClass RX1 = some m.cls := hown
  have hS : va_S A s.heap s.heap [] := va_S.rf
  have hl : lv_has ls 3 [(0, .ref (xq 0)), (1, .int (nI l_)), (2, .int (nI t_))] := hl
  generalize hHe : s.heap = H at hP ⊢
  have hS : va_S A s.heap H [] := hHe ▸ hS
  generalize ([] : List Loc) = locs at hS ⊢
  refine lv_aload_n hx hb dX1_valueOf_0 rfl (lv_at hl 0 rfl) ?_
  refine gWT_5_circuit_X1 hx hb hts hown hK hP dX1_valueOf_1 ?_
  refine lv_iload_n hx hb dX1_valueOf_4 rfl (lv_at hl 1 rfl) ?_
  refine xc_i (xr_V (b := cq 0) (ci := 1) (q0 := 0) (As := [.int (nI l_)]) (rest := []) (mt_X2_isLine l D ca cq (kdC C) (fsC C) (snC C) ak (nI (C 37)) (nI (C 38)) (fI (C 39)) (nI (C 40)) (lN (C 66)) (nI (C 41)) (C 0) (nI l_) (by first | assumption | omega | (simp only [updN, forgetC, changedC]; (repeat' split) <;> omega)) H.size) ⟨hx, hb, hml, hown, hts⟩ (cwV 1 hts (lw_V q1486 q1174 q1175 q80 q1176) rfl rfl rfl (by decide +kernel) ⟨Nat.le_of_ble_eq_true rfl, Nat.le_of_ble_eq_true rfl⟩) EvX_ok hE hK hS (Cut.app (wc := (WC ca cq (kdC C) (fsC C) (snC C) ak (nI (C 0)) (nI (C 37)) (nI (C 38)) (fI (C 39)) (nI (C 40)) (lN (C 66)) (nI (C 41)))) (wr := (WTr ca cq xq tb_ va fy cn an sw sb sv)) hP hD hS hA) rfl rfl rfl hl.1 rfl (Nat.le_of_ble_eq_true rfl) dX1_valueOf_5 ⟨Nat.le_of_ble_eq_true rfl, Nat.le_of_ble_eq_true rfl⟩) hS (Cut.app (wc := (WC ca cq (kdC C) (fsC C) (snC C) ak (nI (C 0)) (nI (C 37)) (nI (C 38)) (fI (C 39)) (nI (C 40)) (lN (C 66)) (nI (C 41)))) (wr := (WTr ca cq xq tb_ va fy cn an sw sb sv)) hP hD hS hA) (fun r_1 u_2 H locs hq_5 hP hD hS => ?_)
  have hP : va_P D vwCl (WT ca cq xq (kdC C) (fsC C) (snC C) ak (nI (C 0)) (nI (C 37)) (nI (C 38)) (fI (C 39)) (nI (C 40)) (lN (C 66)) (nI (C 41)) tb_ va fy cn an sw sb sv) H := hP
  have hD : va_D A (WT ca cq xq (kdC C) (fsC C) (snC C) ak (nI (C 0)) (nI (C 37)) (nI (C 38)) (fI (C 39)) (nI (C 40)) (lN (C 66)) (nI (C 41)) tb_ va fy cn an sw sb sv) := hD
  have hp_5 : r_1 = bI (inR (6 + (C 0)) (nI l_)) := hq_5
  clear hq_5
  obtain rfl := hp_5
  refine xc_v (xr_S (As := [.int (bI (inR (6 + (C 0)) (nI l_)))]) (rest := []) (mt_X1_needThere_ok l D ca (inR (6 + (C 0)) (nI l_)) (inR_ok (by omega) (by omega)) H.size) ⟨hx, hb, hml, hown, hts⟩ (va_cwS 1 hts (lw_S q1471 q1179 q79 q1180) rfl rfl rfl (by decide +kernel) ⟨Nat.le_of_ble_eq_true rfl, Nat.le_of_ble_eq_true rfl⟩) Ev0_ok trivial hK hS (Cut.app (wc := []) (wr := (WT ca cq xq (kdC C) (fsC C) (snC C) ak (nI (C 0)) (nI (C 37)) (nI (C 38)) (fI (C 39)) (nI (C 40)) (lN (C 66)) (nI (C 41)) tb_ va fy cn an sw sb sv)) hP hD hS hA) rfl hl.1 rfl (Nat.le_of_ble_eq_true rfl) dX1_valueOf_8 ⟨Nat.le_of_ble_eq_true rfl, Nat.le_of_ble_eq_true rfl⟩) hS (Cut.app (wc := []) (wr := (WT ca cq xq (kdC C) (fsC C) (snC C) ak (nI (C 0)) (nI (C 37)) (nI (C 38)) (fI (C 39)) (nI (C 40)) (lN (C 66)) (nI (C 41)) tb_ va fy cn an sw sb sv)) hP hD hS hA) (fun u_4 H locs hq_8 hP hD hS => ?_)
  have hP : va_P D vwCl (WT ca cq xq (kdC C) (fsC C) (snC C) ak (nI (C 0)) (nI (C 37)) (nI (C 38)) (fI (C 39)) (nI (C 40)) (lN (C 66)) (nI (C 41)) tb_ va fy cn an sw sb sv) H := hP
  have hD : va_D A (WT ca cq xq (kdC C) (fsC C) (snC C) ak (nI (C 0)) (nI (C 37)) (nI (C 38)) (fI (C 39)) (nI (C 40)) (lN (C 66)) (nI (C 41)) tb_ va fy cn an sw sb sv) := hD
  refine lv_iload_n hx hb dX1_valueOf_11 rfl (lv_at hl 2 rfl) ?_
  refine xc_v (xr_S (As := [.int (nI t_)]) (rest := []) (mt_X1_needTest_ok l D ca t_ (by first | assumption | omega | (simp only [updN, forgetC, changedC]; (repeat' split) <;> omega)) H.size) ⟨hx, hb, hml, hown, hts⟩ (va_cwS 1 hts (lw_S q1299 q1300 q79 q1301) rfl rfl rfl (by decide +kernel) ⟨Nat.le_of_ble_eq_true rfl, Nat.le_of_ble_eq_true rfl⟩) Ev0_ok trivial hK hS (Cut.app (wc := []) (wr := (WT ca cq xq (kdC C) (fsC C) (snC C) ak (nI (C 0)) (nI (C 37)) (nI (C 38)) (fI (C 39)) (nI (C 40)) (lN (C 66)) (nI (C 41)) tb_ va fy cn an sw sb sv)) hP hD hS hA) rfl hl.1 rfl (Nat.le_of_ble_eq_true rfl) dX1_valueOf_12 ⟨Nat.le_of_ble_eq_true rfl, Nat.le_of_ble_eq_true rfl⟩) hS (Cut.app (wc := []) (wr := (WT ca cq xq (kdC C) (fsC C) (snC C) ak (nI (C 0)) (nI (C 37)) (nI (C 38)) (fI (C 39)) (nI (C 40)) (lN (C 66)) (nI (C 41)) tb_ va fy cn an sw sb sv)) hP hD hS hA) (fun u_6 H locs hq_12 hP hD hS => ?_)
  have hP : va_P D vwCl (WT ca cq xq (kdC C) (fsC C) (snC C) ak (nI (C 0)) (nI (C 37)) (nI (C 38)) (fI (C 39)) (nI (C 40)) (lN (C 66)) (nI (C 41)) tb_ va fy cn an sw sb sv) H := hP
  have hD : va_D A (WT ca cq xq (kdC C) (fsC C) (snC C) ak (nI (C 0)) (nI (C 37)) (nI (C 38)) (fI (C 39)) (nI (C 40)) (lN (C 66)) (nI (C 41)) tb_ va fy cn an sw sb sv) := hD
  refine lv_aload_n hx hb dX1_valueOf_15 rfl (lv_at hl 0 rfl) ?_
  refine lv_iload_n hx hb dX1_valueOf_16 rfl (lv_at hl 2 rfl) ?_
  refine lv_iconst (v := fI 0) hx hb dX1_valueOf_17 (by decide) ?_
  refine lv_iconst (v := fI 0) hx hb dX1_valueOf_18 (by decide) ?_
  refine xc_v (xr_V (b := xq 0) (ci := 0) (q0 := 5) (As := [.int (nI t_), .int (fI 0), .int (fI 0)]) (rest := []) (mt_X1_layValues l D ca cq xq ak tb_ va fy cn an sw sb sv C t_ 0 0 (by first | assumption | omega | (simp only [updN, forgetC, changedC]; (repeat' split) <;> omega)) (by first | assumption | omega | (simp only [updN, forgetC, changedC]; (repeat' split) <;> omega)) (by first | assumption | omega | (simp only [updN, forgetC, changedC]; (repeat' split) <;> omega)) (by first | assumption | omega | (simp only [updN, forgetC, changedC]; (repeat' split) <;> omega)) (by first | assumption | omega | (simp only [updN, forgetC, changedC]; (repeat' split) <;> omega)) (by first | assumption | omega | (simp only [updN, forgetC, changedC]; (repeat' split) <;> omega)) (by first | assumption | omega | (simp only [updN, forgetC, changedC]; (repeat' split) <;> omega)) (by first | assumption | omega | (simp only [updN, forgetC, changedC]; (repeat' split) <;> omega)) (by first | assumption | omega | (simp only [updN, forgetC, changedC]; (repeat' split) <;> omega)) H.size) ⟨hx, hb, hml, hown, hts⟩ (cwV 3 hts (lw_V q1127 q1129 qs32 q79 q1130) rfl rfl rfl (by decide +kernel) ⟨Nat.le_of_ble_eq_true rfl, Nat.le_of_ble_eq_true rfl⟩) EvX_ok hE hK hS (Cut.all hP hD hS hA) rfl rfl rfl hl.1 rfl (Nat.le_of_ble_eq_true rfl) dX1_valueOf_19 ⟨Nat.le_of_ble_eq_true rfl, Nat.le_of_ble_eq_true rfl⟩) hS (Cut.all hP hD hS hA) (fun u_8 H locs hq_19 hP hD hS => ?_)
  have hP : va_P D vwCl (WT ca cq xq (kdC C) (fsC C) (snC C) ak (nI (C 0)) (nI (C 37)) (nI (C 38)) (fI (C 39)) (nI (C 40)) (lN (C 66)) (nI (C 41)) tb_ (fillF (6 + C 0) (vlF C 0 0 t_) va) fy cn an sw sb sv) H := hP
  have hD : va_D A (WT ca cq xq (kdC C) (fsC C) (snC C) ak (nI (C 0)) (nI (C 37)) (nI (C 38)) (fI (C 39)) (nI (C 40)) (lN (C 66)) (nI (C 41)) tb_ (fillF (6 + C 0) (vlF C 0 0 t_) va) fy cn an sw sb sv) := hD
  refine lv_aload_n hx hb dX1_valueOf_22 rfl (lv_at hl 0 rfl) ?_
  refine gWT_5_values_X1 hx hb hts hown hK hP dX1_valueOf_23 ?_
  refine lv_iload_n hx hb dX1_valueOf_26 rfl (lv_at hl 1 rfl) ?_
  refine ldWT_7 hx hb hK hP (by omega) dX1_valueOf_27 ?_
  refine lv_topi (nm_r (e' := nI (b2n (bit64 (tb C 0 0 l_) t_))) ((fillF_at (by omega))) ?_)
  subst hQQ
  exact xe_i (v := nI (b2n (bit64 (tb C 0 0 l_) t_))) (fillF (6 + C 0) (vlF C 0 0 t_) va) hx hb hr hlocks hK hP hD hS (rfl) dX1_valueOf_28
def orV (T : Int64) : Nat → Int64
  | 0 => lN 0
  | n + 1 => orV T n ||| shl64 (lN (b2n (bit64 T n))) n
theorem orV_bit {T : Int64} : ∀ n, n ≤ 64 → ∀ i, i < 64 → bit64 (orV T n) i = (decide (i < n) && bit64 T i) := by
  intro n; induction n with
  | zero => intro _ i hi; show bit64 (lN 0) i = _; rw [bit_lN _ _ hi, Nat.zero_testBit]; rfl
  | succ n ih =>
    intro h i hi
    simp only [orV]
    rw [bit_or, ih (by omega) i hi, shl_lN (by omega), bit_lN _ _ hi, b2n_sh]
    by_cases e : n = i
    · subst e; simp
    · by_cases e2 : i < n
      · simp [e, e2, show i < n + 1 by omega]
      · simp [e, e2, show ¬ i < n + 1 by omega]
theorem orV_all {T : Int64} : orV T 64 = T := by
  apply i64_ext; intro i hi
  rw [orV_bit 64 (Nat.le_refl _) i hi, decide_eq_true hi, Bool.true_and]
theorem apF_bit {t : Nat} (ht : t < 64) {X Y : Nat → Int64} : ∀ n, bit64 (apF n X Y) t = true ↔ ∃ k, k < n ∧ bit64 (X k) t ≠ bit64 (Y k) t := by
  intro n; induction n with
  | zero => constructor
            · intro h; rw [show apF 0 X Y = lN 0 from rfl, bit_lN _ _ ht, Nat.zero_testBit] at h; cases h
            · rintro ⟨k, h, _⟩; exact absurd h (Nat.not_lt_zero k)
  | succ n ih =>
    simp only [apF]
    rw [bit_or, Bool.or_eq_true, ih, bit_xor]
    constructor
    · rintro (⟨k, a, b⟩ | h)
      · exact ⟨k, by omega, b⟩
      · refine ⟨n, by omega, fun e => ?_⟩
        rw [e, Bool.xor_self] at h; cases h
    · rintro ⟨k, a, b⟩
      by_cases e : k = n
      · subst e; right; revert b; cases bit64 (X k) t <;> cases bit64 (Y k) t <;> decide
      · exact Or.inl ⟨k, by omega, b⟩
theorem shows_ap {C : Nat → Nat} {F t : Nat} (ht : t < 64) : bit64 (apC C F 0) t = true ↔ anC C 0 0 t ≠ anC C 0 F t := by
  unfold apC anC
  rw [apF_bit ht]
  constructor
  · rintro ⟨k, hk, h⟩ e
    have := congrArg (fun z => z.testBit k) e
    simp only [anF_bit, decide_eq_true hk, Bool.true_and] at this
    exact h this.symm
  · intro h
    apply Classical.byContradiction; intro hn
    apply h
    apply Nat.eq_of_testBit_eq; intro i
    rw [anF_bit, anF_bit]
    by_cases hi : i < no C
    · rw [decide_eq_true hi, Bool.true_and, Bool.true_and]
      apply Classical.byContradiction; intro q
      exact hn ⟨i, hi, fun e => q e.symm⟩
    · rw [decide_eq_false hi]; rfl
theorem ak_up {C : Nat → Nat} {ak : Nat → Int32} {t a : Nat} (h : AkOk C ak) (h41 : C 41 < 12) : AkOk (askC C t a) (upd ak (C 41) (nI (16 * t + a))) := by
  intro k hk
  have e41 : askC C t a 41 = C 41 + 1 := by simp [askC, updN]
  rw [e41] at hk
  simp only [upd]
  by_cases q : k = C 41
  · subst q
    rw [if_pos rfl]
    congr 1
    simp only [askC, updN]
    (repeat first | rw [if_neg (by omega)] | rw [if_pos (by omega)] | rw [if_pos trivial])
  · rw [if_neg q, h k (by omega)]
    congr 1
    simp only [askC, updN]
    (repeat first | rw [if_neg (by omega)] | rw [if_pos (by omega)] | rw [if_pos trivial])
set_option maxHeartbeats 4000000 in
set_option maxRecDepth 100000 in
theorem mt_X1_tableOf_ok (l : Launch) (D : va_G) (ca : Nat → ClassId) (cq : Nat → Nat) (xq : Nat → Nat) (ak : Nat → Int32) (tb_ : Nat → Int64) (va : Nat → Int32) (fy : Nat → Int64) (cn : Nat → Int32) (an : Nat → Int32) (sw : Nat → Int64) (sb : Nat → Int64) (sv : Value) (C : Nat → Nat) (l_ : Nat) (b_ : Bool) (h0 : C 0 ≤ 12) (hkd0 : ∀ k, k < 12 → C (1 + k) < 8) (hse : ∀ k, k < 12 → C (13 + k) < 6 + k ∧ C (25 + k) < 6 + k) (ho : C 37 < 2 ^ 18) (hbx : C 38 < 2 ^ 18) (hno : popc 18 (C 37) ≤ 4) (hl : l_ < 6 + C 0) (nn : Nat) : Met l yX1_tableOf (ws_ yX1_tableOf cX1_tableOf 6 (Option.some Jvm.ClassFile.FieldType.long)) ({ frames := 3, cells := 0, slots := 0, locals := 71 } : Room) (va_Pc [.ref (xq 0), .int (nI l_), .int (bI b_)] (PreW EvX D vwCl (TY ca) (WT ca cq xq (kdC C) (fsC C) (snC C) ak (nI (C 0)) (nI (C 37)) (nI (C 38)) (fI (C 39)) (nI (C 40)) (lN (C 66)) (nI (C 41)) tb_ va fy cn an sw sb sv) nn)) (va_Ql (fun (r_ : Int64) (u_ : (Nat → Int64) × (Nat → Int32)) => r_ = tb C 0 0 l_) (PostW D vwCl (TY ca) (fun (u_ : (Nat → Int64) × (Nat → Int32)) => (WT ca cq xq (kdC C) (fsC C) (snC C) ak (nI (C 0)) (nI (C 37)) (nI (C 38)) (fI (C 39)) (nI (C 40)) (lN (C 66)) (nI (C 41)) u_.1 u_.2 fy cn an sw sb sv)) (va_A (WT ca cq xq (kdC C) (fsC C) (snC C) ak (nI (C 0)) (nI (C 37)) (nI (C 38)) (fI (C 39)) (nI (C 40)) (lN (C 66)) (nI (C 41)) tb_ va fy cn an sw sb sv) nn)) (va_A (WT ca cq xq (kdC C) (fsC C) (snC C) ak (nI (C 0)) (nI (C 37)) (nI (C 38)) (fI (C 39)) (nI (C 40)) (lN (C 66)) (nI (C 41)) tb_ va fy cn an sw sb sv) nn)) 0 0 (va_A (WT ca cq xq (kdC C) (fsC C) (snC C) ak (nI (C 0)) (nI (C 37)) (nI (C 38)) (fI (C 39)) (nI (C 40)) (lN (C 66)) (nI (C 41)) tb_ va fy cn an sw sb sv) nn) := by
  refine met_go (QA := fun A => va_Ql (fun (r_ : Int64) (u_ : (Nat → Int64) × (Nat → Int32)) => r_ = tb C 0 0 l_) (PostW D vwCl (TY ca) (fun (u_ : (Nat → Int64) × (Nat → Int32)) => (WT ca cq xq (kdC C) (fsC C) (snC C) ak (nI (C 0)) (nI (C 37)) (nI (C 38)) (fI (C 39)) (nI (C 40)) (lN (C 66)) (nI (C 41)) u_.1 u_.2 fy cn an sw sb sv)) A) A) (by decide) (Nat.le_of_ble_eq_true rfl) (fun p e s m below meth c A ls QQ hQQ hx hb hr hts hown hlocks hml hA hP hK hD hE hl => ?_)
  have hown : s.vm.findClass RX1 = some m.cls := hown
  have hS : va_S A s.heap s.heap [] := va_S.rf
  have hl : lv_has ls 6 [(0, .ref (xq 0)), (1, .int (nI l_)), (2, .int (bI b_))] := hl
  generalize hHe : s.heap = H at hP ⊢
  have hS : va_S A s.heap H [] := hHe ▸ hS
  generalize ([] : List Loc) = locs at hS ⊢
  refine lv_aload_n hx hb dX1_tableOf_0 rfl (lv_at hl 0 rfl) ?_
  refine gWT_5_circuit_X1 hx hb hts hown hK hP dX1_tableOf_1 ?_
  refine lv_iload_n hx hb dX1_tableOf_4 rfl (lv_at hl 1 rfl) ?_
  refine xc_i (xr_V (b := cq 0) (ci := 1) (q0 := 0) (As := [.int (nI l_)]) (rest := []) (mt_X2_isLine l D ca cq (kdC C) (fsC C) (snC C) ak (nI (C 37)) (nI (C 38)) (fI (C 39)) (nI (C 40)) (lN (C 66)) (nI (C 41)) (C 0) (nI l_) (by first | assumption | omega | (simp only [updN, forgetC, changedC]; (repeat' split) <;> omega)) H.size) ⟨hx, hb, hml, hown, hts⟩ (cwV 1 hts (lw_V q1486 q1174 q1175 q80 q1176) rfl rfl rfl (by decide +kernel) ⟨Nat.le_of_ble_eq_true rfl, Nat.le_of_ble_eq_true rfl⟩) EvX_ok hE hK hS (Cut.app (wc := (WC ca cq (kdC C) (fsC C) (snC C) ak (nI (C 0)) (nI (C 37)) (nI (C 38)) (fI (C 39)) (nI (C 40)) (lN (C 66)) (nI (C 41)))) (wr := (WTr ca cq xq tb_ va fy cn an sw sb sv)) hP hD hS hA) rfl rfl rfl hl.1 rfl (Nat.le_of_ble_eq_true rfl) dX1_tableOf_5 ⟨Nat.le_of_ble_eq_true rfl, Nat.le_of_ble_eq_true rfl⟩) hS (Cut.app (wc := (WC ca cq (kdC C) (fsC C) (snC C) ak (nI (C 0)) (nI (C 37)) (nI (C 38)) (fI (C 39)) (nI (C 40)) (lN (C 66)) (nI (C 41)))) (wr := (WTr ca cq xq tb_ va fy cn an sw sb sv)) hP hD hS hA) (fun r_1 u_2 H locs hq_5 hP hD hS => ?_)
  have hP : va_P D vwCl (WT ca cq xq (kdC C) (fsC C) (snC C) ak (nI (C 0)) (nI (C 37)) (nI (C 38)) (fI (C 39)) (nI (C 40)) (lN (C 66)) (nI (C 41)) tb_ va fy cn an sw sb sv) H := hP
  have hD : va_D A (WT ca cq xq (kdC C) (fsC C) (snC C) ak (nI (C 0)) (nI (C 37)) (nI (C 38)) (fI (C 39)) (nI (C 40)) (lN (C 66)) (nI (C 41)) tb_ va fy cn an sw sb sv) := hD
  have hp_5 : r_1 = bI (inR (6 + (C 0)) (nI l_)) := hq_5
  clear hq_5
  obtain rfl := hp_5
  refine xc_v (xr_S (As := [.int (bI (inR (6 + (C 0)) (nI l_)))]) (rest := []) (mt_X1_needThere_ok l D ca (inR (6 + (C 0)) (nI l_)) (inR_ok (by omega) (by omega)) H.size) ⟨hx, hb, hml, hown, hts⟩ (va_cwS 1 hts (lw_S q1471 q1179 q79 q1180) rfl rfl rfl (by decide +kernel) ⟨Nat.le_of_ble_eq_true rfl, Nat.le_of_ble_eq_true rfl⟩) Ev0_ok trivial hK hS (Cut.app (wc := []) (wr := (WT ca cq xq (kdC C) (fsC C) (snC C) ak (nI (C 0)) (nI (C 37)) (nI (C 38)) (fI (C 39)) (nI (C 40)) (lN (C 66)) (nI (C 41)) tb_ va fy cn an sw sb sv)) hP hD hS hA) rfl hl.1 rfl (Nat.le_of_ble_eq_true rfl) dX1_tableOf_8 ⟨Nat.le_of_ble_eq_true rfl, Nat.le_of_ble_eq_true rfl⟩) hS (Cut.app (wc := []) (wr := (WT ca cq xq (kdC C) (fsC C) (snC C) ak (nI (C 0)) (nI (C 37)) (nI (C 38)) (fI (C 39)) (nI (C 40)) (lN (C 66)) (nI (C 41)) tb_ va fy cn an sw sb sv)) hP hD hS hA) (fun u_4 H locs hq_8 hP hD hS => ?_)
  have hP : va_P D vwCl (WT ca cq xq (kdC C) (fsC C) (snC C) ak (nI (C 0)) (nI (C 37)) (nI (C 38)) (fI (C 39)) (nI (C 40)) (lN (C 66)) (nI (C 41)) tb_ va fy cn an sw sb sv) H := hP
  have hD : va_D A (WT ca cq xq (kdC C) (fsC C) (snC C) ak (nI (C 0)) (nI (C 37)) (nI (C 38)) (fI (C 39)) (nI (C 40)) (lN (C 66)) (nI (C 41)) tb_ va fy cn an sw sb sv) := hD
  refine lv_iload_n hx hb dX1_tableOf_11 rfl (lv_at hl 2 rfl) ?_
  refine nv_ifb_eq (tgt := 28) hx hb dX1_tableOf_12 (by decide) (fun c_12 => ?_) (fun c_12 => ?_)
  · skip
    refine lv_lconst (v := lN 0) hx hb dX1_tableOf_28 (by decide) ?_
    refine lv_lstore_n (lv' := [(3, .long (lN 0)), (0, .ref (xq 0)), (1, .int (nI l_)), (2, .int (bI b_))]) hx hb dX1_tableOf_29 rfl hl (by decide) rfl (fun ls hl => ?_)
    refine lv_iconst (v := nI 0) hx hb dX1_tableOf_30 (by decide) ?_
    refine lv_istore (lv' := [(5, .int (nI 0)), (3, .long (lN 0)), (0, .ref (xq 0)), (1, .int (nI l_)), (2, .int (bI b_))]) hx hb dX1_tableOf_31 hl (by decide) rfl (fun ls hl => ?_)
    have lp_33 : ∀ (fu_33 : Nat) (n : Nat) (v_ : Nat → Int32), 64 - n < fu_33 → (n ≤ 64) → ∀ (H : Heap) (locs : List Loc), va_P D vwCl (WT ca cq xq (kdC C) (fsC C) (snC C) ak (nI (C 0)) (nI (C 37)) (nI (C 38)) (fI (C 39)) (nI (C 40)) (lN (C 66)) (nI (C 41)) tb_ v_ fy cn an sw sb sv) H → va_D A (WT ca cq xq (kdC C) (fsC C) (snC C) ak (nI (C 0)) (nI (C 37)) (nI (C 38)) (fI (C 39)) (nI (C 40)) (lN (C 66)) (nI (C 41)) tb_ v_ fy cn an sw sb sv) → va_S A s.heap H locs → ∀ (ls : Array Slot), lv_has ls 6 [(5, .int (nI n)), (3, .long (orV (tb C 0 0 l_) n)), (0, .ref (xq 0)), (1, .int (nI l_)), (2, .int (bI b_))] → W p l e ({ frames := 3, cells := 0, slots := 0, locals := 71 } : Room) s m ([.ref (xq 0), .int (nI l_), .int (bI b_)] : List Value).toArray below meth c H locs 0 0 QQ (F0 m 33 ls []) := by
      intro fu_33
      induction fu_33 with
      | zero => intro n v_ hfu; exact absurd hfu (Nat.not_lt_zero _)
      | succ fu_33 ih_33 =>
        intro n v_ hfu hn H locs hP hD hS ls hl
        refine lv_iload hx hb dX1_tableOf_33 (lv_at hl 0 rfl) ?_
        refine lv_bipush (v := nI 64) hx hb dX1_tableOf_35 (by decide) ?_
        refine nv_icmp_ge (tgt := 67) hx hb dX1_tableOf_37 (by decide) (by omega) (by omega) (fun c_37 => ?_) (fun c_37 => ?_)
        · skip
          have e_ : 64 = n := Eq.symm (by omega)
          subst e_
          refine lv_lload_n hx hb dX1_tableOf_67 rfl (lv_at hl 1 rfl) ?_
          subst hQQ
          exact xe_l (v := orV (tb C 0 0 l_) 64) (tb_, v_) hx hb hr hlocks hK hP hD hS (orV_all) dX1_tableOf_68
        · skip
          refine lv_aload_n hx hb dX1_tableOf_40 rfl (lv_at hl 2 rfl) ?_
          refine lv_iload hx hb dX1_tableOf_41 (lv_at hl 0 rfl) ?_
          refine lv_iconst (v := fI 0) hx hb dX1_tableOf_43 (by decide) ?_
          refine lv_iconst (v := fI 0) hx hb dX1_tableOf_44 (by decide) ?_
          refine xc_v (xr_V (b := xq 0) (ci := 0) (q0 := 5) (As := [.int (nI n), .int (fI 0), .int (fI 0)]) (rest := []) (mt_X1_layValues l D ca cq xq ak tb_ v_ fy cn an sw sb sv C n 0 0 (by first | assumption | omega | (simp only [updN, forgetC, changedC]; (repeat' split) <;> omega)) (by first | assumption | omega | (simp only [updN, forgetC, changedC]; (repeat' split) <;> omega)) (by first | assumption | omega | (simp only [updN, forgetC, changedC]; (repeat' split) <;> omega)) (by first | assumption | omega | (simp only [updN, forgetC, changedC]; (repeat' split) <;> omega)) (by first | assumption | omega | (simp only [updN, forgetC, changedC]; (repeat' split) <;> omega)) (by first | assumption | omega | (simp only [updN, forgetC, changedC]; (repeat' split) <;> omega)) (by first | assumption | omega | (simp only [updN, forgetC, changedC]; (repeat' split) <;> omega)) (by first | assumption | omega | (simp only [updN, forgetC, changedC]; (repeat' split) <;> omega)) (by first | assumption | omega | (simp only [updN, forgetC, changedC]; (repeat' split) <;> omega)) H.size) ⟨hx, hb, hml, hown, hts⟩ (cwV 3 hts (lw_V q1127 q1129 qs32 q79 q1130) rfl rfl rfl (by decide +kernel) ⟨Nat.le_of_ble_eq_true rfl, Nat.le_of_ble_eq_true rfl⟩) EvX_ok hE hK hS (Cut.all hP hD hS hA) rfl rfl rfl hl.1 rfl (Nat.le_of_ble_eq_true rfl) dX1_tableOf_45 ⟨Nat.le_of_ble_eq_true rfl, Nat.le_of_ble_eq_true rfl⟩) hS (Cut.all hP hD hS hA) (fun u_8 H locs hq_45 hP hD hS => ?_)
          have hP : va_P D vwCl (WT ca cq xq (kdC C) (fsC C) (snC C) ak (nI (C 0)) (nI (C 37)) (nI (C 38)) (fI (C 39)) (nI (C 40)) (lN (C 66)) (nI (C 41)) tb_ (fillF (6 + C 0) (vlF C 0 0 n) v_) fy cn an sw sb sv) H := hP
          have hD : va_D A (WT ca cq xq (kdC C) (fsC C) (snC C) ak (nI (C 0)) (nI (C 37)) (nI (C 38)) (fI (C 39)) (nI (C 40)) (lN (C 66)) (nI (C 41)) tb_ (fillF (6 + C 0) (vlF C 0 0 n) v_) fy cn an sw sb sv) := hD
          refine lv_lload_n hx hb dX1_tableOf_48 rfl (lv_at hl 1 rfl) ?_
          refine lv_aload_n hx hb dX1_tableOf_49 rfl (lv_at hl 2 rfl) ?_
          refine gWT_5_values_X1 hx hb hts hown hK hP dX1_tableOf_50 ?_
          refine lv_iload_n hx hb dX1_tableOf_53 rfl (lv_at hl 3 rfl) ?_
          refine ldWT_7 hx hb hK hP (by omega) dX1_tableOf_54 ?_
          refine lv_topi (nm_r (e' := nI (b2n (bit64 (tb C 0 0 l_) n))) ((fillF_at (by omega))) ?_)
          refine lv_i2l (v := lN (b2n (bit64 (tb C 0 0 l_) n))) hx hb dX1_tableOf_55 (nI_l (by have := b2n_le (bit64 (tb C 0 0 l_) n); omega)) ?_
          refine lv_iload hx hb dX1_tableOf_56 (lv_at hl 0 rfl) ?_
          refine lv_lshl (v := shl64 (lN (b2n (bit64 (tb C 0 0 l_) n))) n) hx hb dX1_tableOf_58 rfl ?_
          refine lv_lor hx hb dX1_tableOf_59 ?_
          refine lv_lstore_n (lv' := [(3, .long ((orV (tb C 0 0 l_) n) ||| (shl64 (lN (b2n (bit64 (tb C 0 0 l_) n))) n))), (5, .int (nI n)), (0, .ref (xq 0)), (1, .int (nI l_)), (2, .int (bI b_))]) hx hb dX1_tableOf_60 rfl hl (by decide) rfl (fun ls hl => ?_)
          refine lv_iinc (v := nI (n + 1)) (lv' := [(5, .int (nI (n + 1))), (3, .long ((orV (tb C 0 0 l_) n) ||| (shl64 (lN (b2n (bit64 (tb C 0 0 l_) n))) n))), (0, .ref (xq 0)), (1, .int (nI l_)), (2, .int (bI b_))]) hx hb dX1_tableOf_61 hl (k := 1) rfl (nI_add n 1) (by decide) rfl (fun ls hl => ?_)
          refine lv_goto (tgt := 33) hx hb dX1_tableOf_64 (by decide) ?_
          have hl : lv_has ls 6 [(5, .int (nI (n + 1))), (3, .long (orV (tb C 0 0 l_) (n + 1))), (0, .ref (xq 0)), (1, .int (nI l_)), (2, .int (bI b_))] := (congrArg (fun x_ => lv_has ls 6 [(5, .int (nI (n + 1))), (3, .long x_), (0, .ref (xq 0)), (1, .int (nI l_)), (2, .int (bI b_))]) (show (orV (tb C 0 0 l_) n) ||| (shl64 (lN (b2n (bit64 (tb C 0 0 l_) n))) n) = orV (tb C 0 0 l_) (n + 1) from rfl)).mp hl
          exact ih_33  (n + 1) (fillF (6 + C 0) (vlF C 0 0 n) v_) (by omega) (by omega) _ _ hP hD hS ls (lv_sub hl [0, 1, 2, 3, 4] rfl)
    have hl : lv_has ls 6 [(5, .int (nI 0)), (3, .long (orV (tb C 0 0 l_) 0)), (0, .ref (xq 0)), (1, .int (nI l_)), (2, .int (bI b_))] := (congrArg (fun x_ => lv_has ls 6 [(5, .int (nI 0)), (3, .long x_), (0, .ref (xq 0)), (1, .int (nI l_)), (2, .int (bI b_))]) (show lN 0 = orV (tb C 0 0 l_) 0 from rfl)).mp hl
    exact lp_33 (64 - 0 + 1) 0 va (Nat.lt_succ_self _) (by omega) _ _ hP hD hS ls (lv_sub hl [0, 1, 2, 3, 4] rfl)
  · skip
    refine lv_aload_n hx hb dX1_tableOf_15 rfl (lv_at hl 0 rfl) ?_
    refine lv_iconst (v := fI 0) hx hb dX1_tableOf_16 (by decide) ?_
    refine lv_iconst (v := fI 0) hx hb dX1_tableOf_17 (by decide) ?_
    refine xc_v (xr_V (b := xq 0) (ci := 0) (q0 := 5) (As := [.int (fI 0), .int (fI 0)]) (rest := []) (mt_X1_layTables l D ca cq xq ak tb_ va fy cn an sw sb sv C 0 0 (by first | assumption | omega | (simp only [updN, forgetC, changedC]; (repeat' split) <;> omega)) (by first | assumption | omega | (simp only [updN, forgetC, changedC]; (repeat' split) <;> omega)) (by first | assumption | omega | (simp only [updN, forgetC, changedC]; (repeat' split) <;> omega)) (by first | assumption | omega | (simp only [updN, forgetC, changedC]; (repeat' split) <;> omega)) (by first | assumption | omega | (simp only [updN, forgetC, changedC]; (repeat' split) <;> omega)) (by first | assumption | omega | (simp only [updN, forgetC, changedC]; (repeat' split) <;> omega)) (by first | assumption | omega | (simp only [updN, forgetC, changedC]; (repeat' split) <;> omega)) (by first | assumption | omega | (simp only [updN, forgetC, changedC]; (repeat' split) <;> omega)) H.size) ⟨hx, hb, hml, hown, hts⟩ (cwV 2 hts (lw_V q451 q453 qs8 q79 q454) rfl rfl rfl (by decide +kernel) ⟨Nat.le_of_ble_eq_true rfl, Nat.le_of_ble_eq_true rfl⟩) EvX_ok hE hK hS (Cut.all hP hD hS hA) rfl rfl rfl hl.1 rfl (Nat.le_of_ble_eq_true rfl) dX1_tableOf_18 ⟨Nat.le_of_ble_eq_true rfl, Nat.le_of_ble_eq_true rfl⟩) hS (Cut.all hP hD hS hA) (fun u_10 H locs hq_18 hP hD hS => ?_)
    have hP : va_P D vwCl (WT ca cq xq (kdC C) (fsC C) (snC C) ak (nI (C 0)) (nI (C 37)) (nI (C 38)) (fI (C 39)) (nI (C 40)) (lN (C 66)) (nI (C 41)) (fillL (6 + C 0) (tb C 0 0) tb_) va fy cn an sw sb sv) H := hP
    have hD : va_D A (WT ca cq xq (kdC C) (fsC C) (snC C) ak (nI (C 0)) (nI (C 37)) (nI (C 38)) (fI (C 39)) (nI (C 40)) (lN (C 66)) (nI (C 41)) (fillL (6 + C 0) (tb C 0 0) tb_) va fy cn an sw sb sv) := hD
    refine lv_aload_n hx hb dX1_tableOf_21 rfl (lv_at hl 0 rfl) ?_
    refine gWT_5_tables_X1 hx hb hts hown hK hP dX1_tableOf_22 ?_
    refine lv_iload_n hx hb dX1_tableOf_25 rfl (lv_at hl 1 rfl) ?_
    refine ldWT_6 hx hb hK hP (by omega) dX1_tableOf_26 ?_
    refine lv_topl (nm_r (e' := tb C 0 0 l_) (fillL_at (by omega)) ?_)
    subst hQQ
    exact xe_l (v := tb C 0 0 l_) (fillL (6 + C 0) (tb C 0 0) tb_, va) hx hb hr hlocks hK hP hD hS (rfl) dX1_tableOf_27
set_option maxHeartbeats 4000000 in
set_option maxRecDepth 100000 in
theorem mt_X1_answerTo_ok (l : Launch) (D : va_G) (ca : Nat → ClassId) (cq : Nat → Nat) (xq : Nat → Nat) (ak : Nat → Int32) (tb_ : Nat → Int64) (va : Nat → Int32) (fy : Nat → Int64) (cn : Nat → Int32) (an : Nat → Int32) (sw : Nat → Int64) (sb : Nat → Int64) (sv : Value) (C : Nat → Nat) (t_ : Nat) (h0 : C 0 ≤ 12) (hkd0 : ∀ k, k < 12 → C (1 + k) < 8) (hse : ∀ k, k < 12 → C (13 + k) < 6 + k ∧ C (25 + k) < 6 + k) (ho : C 37 < 2 ^ 18) (hbx : C 38 < 2 ^ 18) (hno : popc 18 (C 37) ≤ 4) (ht : t_ < 64) (nn : Nat) : Met l yX1_answerTo (ws_ yX1_answerTo cX1_answerTo 2 (Option.some Jvm.ClassFile.FieldType.int)) ({ frames := 4, cells := 0, slots := 0, locals := 97 } : Room) (va_Pc [.ref (xq 0), .int (nI t_)] (PreW EvX D vwCl (TY ca) (WT ca cq xq (kdC C) (fsC C) (snC C) ak (nI (C 0)) (nI (C 37)) (nI (C 38)) (fI (C 39)) (nI (C 40)) (lN (C 66)) (nI (C 41)) tb_ va fy cn an sw sb sv) nn)) (va_Qi (fun (r_ : Int32) (u_ : (Nat → Int32)) => r_ = nI (anC C 0 0 t_)) (PostW D vwCl (TY ca) (fun (u_ : (Nat → Int32)) => (WT ca cq xq (kdC C) (fsC C) (snC C) ak (nI (C 0)) (nI (C 37)) (nI (C 38)) (fI (C 39)) (nI (C 40)) (lN (C 66)) (nI (C 41)) tb_ u_ fy cn an sw sb sv)) (va_A (WT ca cq xq (kdC C) (fsC C) (snC C) ak (nI (C 0)) (nI (C 37)) (nI (C 38)) (fI (C 39)) (nI (C 40)) (lN (C 66)) (nI (C 41)) tb_ va fy cn an sw sb sv) nn)) (va_A (WT ca cq xq (kdC C) (fsC C) (snC C) ak (nI (C 0)) (nI (C 37)) (nI (C 38)) (fI (C 39)) (nI (C 40)) (lN (C 66)) (nI (C 41)) tb_ va fy cn an sw sb sv) nn)) 0 0 (va_A (WT ca cq xq (kdC C) (fsC C) (snC C) ak (nI (C 0)) (nI (C 37)) (nI (C 38)) (fI (C 39)) (nI (C 40)) (lN (C 66)) (nI (C 41)) tb_ va fy cn an sw sb sv) nn) := by
  refine met_go (QA := fun A => va_Qi (fun (r_ : Int32) (u_ : (Nat → Int32)) => r_ = nI (anC C 0 0 t_)) (PostW D vwCl (TY ca) (fun (u_ : (Nat → Int32)) => (WT ca cq xq (kdC C) (fsC C) (snC C) ak (nI (C 0)) (nI (C 37)) (nI (C 38)) (fI (C 39)) (nI (C 40)) (lN (C 66)) (nI (C 41)) tb_ u_ fy cn an sw sb sv)) A) A) (by decide) (Nat.le_of_ble_eq_true rfl) (fun p e s m below meth c A ls QQ hQQ hx hb hr hts hown hlocks hml hA hP hK hD hE hl => ?_)
  have hown : s.vm.findClass RX1 = some m.cls := hown
  have hS : va_S A s.heap s.heap [] := va_S.rf
  have hl : lv_has ls 2 [(0, .ref (xq 0)), (1, .int (nI t_))] := hl
  generalize hHe : s.heap = H at hP ⊢
  have hS : va_S A s.heap H [] := hHe ▸ hS
  generalize ([] : List Loc) = locs at hS ⊢
  refine lv_iload_n hx hb dX1_answerTo_0 rfl (lv_at hl 1 rfl) ?_
  refine xc_v (xr_S (As := [.int (nI t_)]) (rest := []) (mt_X1_needTest_ok l D ca t_ (by first | assumption | omega | (simp only [updN, forgetC, changedC]; (repeat' split) <;> omega)) H.size) ⟨hx, hb, hml, hown, hts⟩ (va_cwS 1 hts (lw_S q1299 q1300 q79 q1301) rfl rfl rfl (by decide +kernel) ⟨Nat.le_of_ble_eq_true rfl, Nat.le_of_ble_eq_true rfl⟩) Ev0_ok trivial hK hS (Cut.app (wc := []) (wr := (WT ca cq xq (kdC C) (fsC C) (snC C) ak (nI (C 0)) (nI (C 37)) (nI (C 38)) (fI (C 39)) (nI (C 40)) (lN (C 66)) (nI (C 41)) tb_ va fy cn an sw sb sv)) hP hD hS hA) rfl hl.1 rfl (Nat.le_of_ble_eq_true rfl) dX1_answerTo_1 ⟨Nat.le_of_ble_eq_true rfl, Nat.le_of_ble_eq_true rfl⟩) hS (Cut.app (wc := []) (wr := (WT ca cq xq (kdC C) (fsC C) (snC C) ak (nI (C 0)) (nI (C 37)) (nI (C 38)) (fI (C 39)) (nI (C 40)) (lN (C 66)) (nI (C 41)) tb_ va fy cn an sw sb sv)) hP hD hS hA) (fun u_2 H locs hq_1 hP hD hS => ?_)
  have hP : va_P D vwCl (WT ca cq xq (kdC C) (fsC C) (snC C) ak (nI (C 0)) (nI (C 37)) (nI (C 38)) (fI (C 39)) (nI (C 40)) (lN (C 66)) (nI (C 41)) tb_ va fy cn an sw sb sv) H := hP
  have hD : va_D A (WT ca cq xq (kdC C) (fsC C) (snC C) ak (nI (C 0)) (nI (C 37)) (nI (C 38)) (fI (C 39)) (nI (C 40)) (lN (C 66)) (nI (C 41)) tb_ va fy cn an sw sb sv) := hD
  refine lv_aload_n hx hb dX1_answerTo_4 rfl (lv_at hl 0 rfl) ?_
  refine lv_iload_n hx hb dX1_answerTo_5 rfl (lv_at hl 1 rfl) ?_
  refine lv_iconst (v := fI 0) hx hb dX1_answerTo_6 (by decide) ?_
  refine lv_iconst (v := fI 0) hx hb dX1_answerTo_7 (by decide) ?_
  refine xc_i (xr_V (b := xq 0) (ci := 0) (q0 := 5) (As := [.int (nI t_), .int (fI 0), .int (fI 0)]) (rest := []) (mt_X1_answer l D ca cq xq ak tb_ va fy cn an sw sb sv C t_ 0 0 (by first | assumption | omega | (simp only [updN, forgetC, changedC]; (repeat' split) <;> omega)) (by first | assumption | omega | (simp only [updN, forgetC, changedC]; (repeat' split) <;> omega)) (by first | assumption | omega | (simp only [updN, forgetC, changedC]; (repeat' split) <;> omega)) (by first | assumption | omega | (simp only [updN, forgetC, changedC]; (repeat' split) <;> omega)) (by first | assumption | omega | (simp only [updN, forgetC, changedC]; (repeat' split) <;> omega)) (by first | assumption | omega | (simp only [updN, forgetC, changedC]; (repeat' split) <;> omega)) (by first | assumption | omega | (simp only [updN, forgetC, changedC]; (repeat' split) <;> omega)) (by first | assumption | omega | (simp only [updN, forgetC, changedC]; (repeat' split) <;> omega)) (by first | assumption | omega | (simp only [updN, forgetC, changedC]; (repeat' split) <;> omega)) H.size) ⟨hx, hb, hml, hown, hts⟩ (cwV 3 hts (lw_V q1123 q1125 qs31 q79 q1126) rfl rfl rfl (by decide +kernel) ⟨Nat.le_of_ble_eq_true rfl, Nat.le_of_ble_eq_true rfl⟩) EvX_ok hE hK hS (Cut.all hP hD hS hA) rfl rfl rfl hl.1 rfl (Nat.le_of_ble_eq_true rfl) dX1_answerTo_8 ⟨Nat.le_of_ble_eq_true rfl, Nat.le_of_ble_eq_true rfl⟩) hS (Cut.all hP hD hS hA) (fun r_3 u_4 H locs hq_8 hP hD hS => ?_)
  obtain ⟨va1_5, rfl⟩ : ∃ z_, z_ = u_4 := ⟨_, rfl⟩
  have hP : va_P D vwCl (WT ca cq xq (kdC C) (fsC C) (snC C) ak (nI (C 0)) (nI (C 37)) (nI (C 38)) (fI (C 39)) (nI (C 40)) (lN (C 66)) (nI (C 41)) tb_ va1_5 fy cn an sw sb sv) H := hP
  have hD : va_D A (WT ca cq xq (kdC C) (fsC C) (snC C) ak (nI (C 0)) (nI (C 37)) (nI (C 38)) (fI (C 39)) (nI (C 40)) (lN (C 66)) (nI (C 41)) tb_ va1_5 fy cn an sw sb sv) := hD
  have hp_8 : r_3 = nI (anC C 0 0 t_) := hq_8
  clear hq_8
  obtain rfl := hp_8
  subst hQQ
  exact xe_i (v := nI (anC C 0 0 t_)) va1_5 hx hb hr hlocks hK hP hD hS (rfl) dX1_answerTo_11
set_option maxHeartbeats 4000000 in
set_option maxRecDepth 100000 in
theorem mt_X1_shows_ok (l : Launch) (D : va_G) (ca : Nat → ClassId) (cq : Nat → Nat) (xq : Nat → Nat) (ak : Nat → Int32) (tb_ : Nat → Int64) (va : Nat → Int32) (fy : Nat → Int64) (cn : Nat → Int32) (an : Nat → Int32) (sw : Nat → Int64) (sb : Nat → Int64) (sv : Value) (C : Nat → Nat) (t_ : Nat) (F_ : Nat) (h0 : C 0 ≤ 12) (hkd0 : ∀ k, k < 12 → C (1 + k) < 8) (hse : ∀ k, k < 12 → C (13 + k) < 6 + k ∧ C (25 + k) < 6 + k) (ho : C 37 < 2 ^ 18) (hbx : C 38 < 2 ^ 18) (hno : popc 18 (C 37) ≤ 4) (ht : t_ < 64) (hF0 : F_ ≠ 0) (hF : F_ ≤ 2 * (6 + C 0)) (nn : Nat) : Met l yX1_shows (ws_ yX1_shows cX1_shows 3 (Option.some Jvm.ClassFile.FieldType.boolean)) ({ frames := 4, cells := 0, slots := 0, locals := 97 } : Room) (va_Pc [.ref (xq 0), .int (nI t_), .int (fI F_)] (PreW EvX D vwCl (TY ca) (WT ca cq xq (kdC C) (fsC C) (snC C) ak (nI (C 0)) (nI (C 37)) (nI (C 38)) (fI (C 39)) (nI (C 40)) (lN (C 66)) (nI (C 41)) tb_ va fy cn an sw sb sv) nn)) (va_Qi (fun (r_ : Int32) (u_ : (Nat → Int32)) => r_ = bI (bit64 (apC C F_ 0) t_)) (PostW D vwCl (TY ca) (fun (u_ : (Nat → Int32)) => (WT ca cq xq (kdC C) (fsC C) (snC C) ak (nI (C 0)) (nI (C 37)) (nI (C 38)) (fI (C 39)) (nI (C 40)) (lN (C 66)) (nI (C 41)) tb_ u_ fy cn an sw sb sv)) (va_A (WT ca cq xq (kdC C) (fsC C) (snC C) ak (nI (C 0)) (nI (C 37)) (nI (C 38)) (fI (C 39)) (nI (C 40)) (lN (C 66)) (nI (C 41)) tb_ va fy cn an sw sb sv) nn)) (va_A (WT ca cq xq (kdC C) (fsC C) (snC C) ak (nI (C 0)) (nI (C 37)) (nI (C 38)) (fI (C 39)) (nI (C 40)) (lN (C 66)) (nI (C 41)) tb_ va fy cn an sw sb sv) nn)) 0 0 (va_A (WT ca cq xq (kdC C) (fsC C) (snC C) ak (nI (C 0)) (nI (C 37)) (nI (C 38)) (fI (C 39)) (nI (C 40)) (lN (C 66)) (nI (C 41)) tb_ va fy cn an sw sb sv) nn) := by
  refine met_go (QA := fun A => va_Qi (fun (r_ : Int32) (u_ : (Nat → Int32)) => r_ = bI (bit64 (apC C F_ 0) t_)) (PostW D vwCl (TY ca) (fun (u_ : (Nat → Int32)) => (WT ca cq xq (kdC C) (fsC C) (snC C) ak (nI (C 0)) (nI (C 37)) (nI (C 38)) (fI (C 39)) (nI (C 40)) (lN (C 66)) (nI (C 41)) tb_ u_ fy cn an sw sb sv)) A) A) (by decide) (Nat.le_of_ble_eq_true rfl) (fun p e s m below meth c A ls QQ hQQ hx hb hr hts hown hlocks hml hA hP hK hD hE hl => ?_)
  have hown : s.vm.findClass RX1 = some m.cls := hown
  have hS : va_S A s.heap s.heap [] := va_S.rf
  have hl : lv_has ls 3 [(0, .ref (xq 0)), (1, .int (nI t_)), (2, .int (fI F_))] := hl
  generalize hHe : s.heap = H at hP ⊢
  have hS : va_S A s.heap H [] := hHe ▸ hS
  generalize ([] : List Loc) = locs at hS ⊢
  have hnc : no C ≤ 4 := Nat.le_trans (popc_mono (by omega)) hno
  refine lv_aload_n hx hb dX1_shows_0 rfl (lv_at hl 0 rfl) ?_
  refine lv_iload_n hx hb dX1_shows_1 rfl (lv_at hl 2 rfl) ?_
  refine xc_v (xr_V (b := xq 0) (ci := 0) (q0 := 5) (As := [.int (fI F_)]) (rest := []) (mt_X1_needFault_ok l D ca cq xq ak tb_ va fy cn an sw sb sv C F_ (by first | assumption | omega | (simp only [updN, forgetC, changedC]; (repeat' split) <;> omega)) (by first | assumption | omega | (simp only [updN, forgetC, changedC]; (repeat' split) <;> omega)) (by first | assumption | omega | (simp only [updN, forgetC, changedC]; (repeat' split) <;> omega)) H.size) ⟨hx, hb, hml, hown, hts⟩ (cwV 1 hts (lw_V q1040 q1042 qs21 q79 q1043) rfl rfl rfl (by decide +kernel) ⟨Nat.le_of_ble_eq_true rfl, Nat.le_of_ble_eq_true rfl⟩) EvX_ok hE hK hS (Cut.all hP hD hS hA) rfl rfl rfl hl.1 rfl (Nat.le_of_ble_eq_true rfl) dX1_shows_2 ⟨Nat.le_of_ble_eq_true rfl, Nat.le_of_ble_eq_true rfl⟩) hS (Cut.all hP hD hS hA) (fun u_2 H locs hq_2 hP hD hS => ?_)
  have hP : va_P D vwCl (WT ca cq xq (kdC C) (fsC C) (snC C) ak (nI (C 0)) (nI (C 37)) (nI (C 38)) (fI (C 39)) (nI (C 40)) (lN (C 66)) (nI (C 41)) tb_ va fy cn an sw sb sv) H := hP
  have hD : va_D A (WT ca cq xq (kdC C) (fsC C) (snC C) ak (nI (C 0)) (nI (C 37)) (nI (C 38)) (fI (C 39)) (nI (C 40)) (lN (C 66)) (nI (C 41)) tb_ va fy cn an sw sb sv) := hD
  refine lv_iload_n hx hb dX1_shows_5 rfl (lv_at hl 1 rfl) ?_
  refine xc_v (xr_S (As := [.int (nI t_)]) (rest := []) (mt_X1_needTest_ok l D ca t_ (by first | assumption | omega | (simp only [updN, forgetC, changedC]; (repeat' split) <;> omega)) H.size) ⟨hx, hb, hml, hown, hts⟩ (va_cwS 1 hts (lw_S q1299 q1300 q79 q1301) rfl rfl rfl (by decide +kernel) ⟨Nat.le_of_ble_eq_true rfl, Nat.le_of_ble_eq_true rfl⟩) Ev0_ok trivial hK hS (Cut.app (wc := []) (wr := (WT ca cq xq (kdC C) (fsC C) (snC C) ak (nI (C 0)) (nI (C 37)) (nI (C 38)) (fI (C 39)) (nI (C 40)) (lN (C 66)) (nI (C 41)) tb_ va fy cn an sw sb sv)) hP hD hS hA) rfl hl.1 rfl (Nat.le_of_ble_eq_true rfl) dX1_shows_6 ⟨Nat.le_of_ble_eq_true rfl, Nat.le_of_ble_eq_true rfl⟩) hS (Cut.app (wc := []) (wr := (WT ca cq xq (kdC C) (fsC C) (snC C) ak (nI (C 0)) (nI (C 37)) (nI (C 38)) (fI (C 39)) (nI (C 40)) (lN (C 66)) (nI (C 41)) tb_ va fy cn an sw sb sv)) hP hD hS hA) (fun u_4 H locs hq_6 hP hD hS => ?_)
  have hP : va_P D vwCl (WT ca cq xq (kdC C) (fsC C) (snC C) ak (nI (C 0)) (nI (C 37)) (nI (C 38)) (fI (C 39)) (nI (C 40)) (lN (C 66)) (nI (C 41)) tb_ va fy cn an sw sb sv) H := hP
  have hD : va_D A (WT ca cq xq (kdC C) (fsC C) (snC C) ak (nI (C 0)) (nI (C 37)) (nI (C 38)) (fI (C 39)) (nI (C 40)) (lN (C 66)) (nI (C 41)) tb_ va fy cn an sw sb sv) := hD
  refine lv_aload_n hx hb dX1_shows_9 rfl (lv_at hl 0 rfl) ?_
  refine lv_iload_n hx hb dX1_shows_10 rfl (lv_at hl 1 rfl) ?_
  refine lv_iconst (v := fI 0) hx hb dX1_shows_11 (by decide) ?_
  refine lv_iconst (v := fI 0) hx hb dX1_shows_12 (by decide) ?_
  refine xc_i (xr_V (b := xq 0) (ci := 0) (q0 := 5) (As := [.int (nI t_), .int (fI 0), .int (fI 0)]) (rest := []) (mt_X1_answer l D ca cq xq ak tb_ va fy cn an sw sb sv C t_ 0 0 (by first | assumption | omega | (simp only [updN, forgetC, changedC]; (repeat' split) <;> omega)) (by first | assumption | omega | (simp only [updN, forgetC, changedC]; (repeat' split) <;> omega)) (by first | assumption | omega | (simp only [updN, forgetC, changedC]; (repeat' split) <;> omega)) (by first | assumption | omega | (simp only [updN, forgetC, changedC]; (repeat' split) <;> omega)) (by first | assumption | omega | (simp only [updN, forgetC, changedC]; (repeat' split) <;> omega)) (by first | assumption | omega | (simp only [updN, forgetC, changedC]; (repeat' split) <;> omega)) (by first | assumption | omega | (simp only [updN, forgetC, changedC]; (repeat' split) <;> omega)) (by first | assumption | omega | (simp only [updN, forgetC, changedC]; (repeat' split) <;> omega)) (by first | assumption | omega | (simp only [updN, forgetC, changedC]; (repeat' split) <;> omega)) H.size) ⟨hx, hb, hml, hown, hts⟩ (cwV 3 hts (lw_V q1123 q1125 qs31 q79 q1126) rfl rfl rfl (by decide +kernel) ⟨Nat.le_of_ble_eq_true rfl, Nat.le_of_ble_eq_true rfl⟩) EvX_ok hE hK hS (Cut.all hP hD hS hA) rfl rfl rfl hl.1 rfl (Nat.le_of_ble_eq_true rfl) dX1_shows_13 ⟨Nat.le_of_ble_eq_true rfl, Nat.le_of_ble_eq_true rfl⟩) hS (Cut.all hP hD hS hA) (fun r_5 u_6 H locs hq_13 hP hD hS => ?_)
  obtain ⟨va1_7, rfl⟩ : ∃ z_, z_ = u_6 := ⟨_, rfl⟩
  have hP : va_P D vwCl (WT ca cq xq (kdC C) (fsC C) (snC C) ak (nI (C 0)) (nI (C 37)) (nI (C 38)) (fI (C 39)) (nI (C 40)) (lN (C 66)) (nI (C 41)) tb_ va1_7 fy cn an sw sb sv) H := hP
  have hD : va_D A (WT ca cq xq (kdC C) (fsC C) (snC C) ak (nI (C 0)) (nI (C 37)) (nI (C 38)) (fI (C 39)) (nI (C 40)) (lN (C 66)) (nI (C 41)) tb_ va1_7 fy cn an sw sb sv) := hD
  have hp_13 : r_5 = nI (anC C 0 0 t_) := hq_13
  clear hq_13
  obtain rfl := hp_13
  refine lv_aload_n hx hb dX1_shows_16 rfl (lv_at hl 0 rfl) ?_
  refine lv_iload_n hx hb dX1_shows_17 rfl (lv_at hl 1 rfl) ?_
  refine lv_iconst (v := fI 0) hx hb dX1_shows_18 (by decide) ?_
  refine lv_iload_n hx hb dX1_shows_19 rfl (lv_at hl 2 rfl) ?_
  refine xc_i (xr_V (b := xq 0) (ci := 0) (q0 := 5) (As := [.int (nI t_), .int (fI 0), .int (fI F_)]) (rest := [.int (nI (anC C 0 0 t_))]) (mt_X1_answer l D ca cq xq ak tb_ va1_7 fy cn an sw sb sv C t_ 0 F_ (by first | assumption | omega | (simp only [updN, forgetC, changedC]; (repeat' split) <;> omega)) (by first | assumption | omega | (simp only [updN, forgetC, changedC]; (repeat' split) <;> omega)) (by first | assumption | omega | (simp only [updN, forgetC, changedC]; (repeat' split) <;> omega)) (by first | assumption | omega | (simp only [updN, forgetC, changedC]; (repeat' split) <;> omega)) (by first | assumption | omega | (simp only [updN, forgetC, changedC]; (repeat' split) <;> omega)) (by first | assumption | omega | (simp only [updN, forgetC, changedC]; (repeat' split) <;> omega)) (by first | assumption | omega | (simp only [updN, forgetC, changedC]; (repeat' split) <;> omega)) (by first | assumption | omega | (simp only [updN, forgetC, changedC]; (repeat' split) <;> omega)) (by first | assumption | omega | (simp only [updN, forgetC, changedC]; (repeat' split) <;> omega)) H.size) ⟨hx, hb, hml, hown, hts⟩ (cwV 3 hts (lw_V q1123 q1125 qs31 q79 q1126) rfl rfl rfl (by decide +kernel) ⟨Nat.le_of_ble_eq_true rfl, Nat.le_of_ble_eq_true rfl⟩) EvX_ok hE hK hS (Cut.all hP hD hS hA) rfl rfl rfl hl.1 rfl (Nat.le_of_ble_eq_true rfl) dX1_shows_20 ⟨Nat.le_of_ble_eq_true rfl, Nat.le_of_ble_eq_true rfl⟩) hS (Cut.all hP hD hS hA) (fun r_8 u_9 H locs hq_20 hP hD hS => ?_)
  obtain ⟨va1_10, rfl⟩ : ∃ z_, z_ = u_9 := ⟨_, rfl⟩
  have hP : va_P D vwCl (WT ca cq xq (kdC C) (fsC C) (snC C) ak (nI (C 0)) (nI (C 37)) (nI (C 38)) (fI (C 39)) (nI (C 40)) (lN (C 66)) (nI (C 41)) tb_ va1_10 fy cn an sw sb sv) H := hP
  have hD : va_D A (WT ca cq xq (kdC C) (fsC C) (snC C) ak (nI (C 0)) (nI (C 37)) (nI (C 38)) (fI (C 39)) (nI (C 40)) (lN (C 66)) (nI (C 41)) tb_ va1_10 fy cn an sw sb sv) := hD
  have hp_20 : r_8 = nI (anC C 0 F_ t_) := hq_20
  clear hq_20
  obtain rfl := hp_20
  refine nv_icmp_eq (tgt := 30) hx hb dX1_shows_23 (by decide) (by have := anC_lt (C := C) (K := 0) (F := 0) (t := t_) hnc; omega) (by have := anC_lt (C := C) (K := 0) (F := F_) (t := t_) hnc; omega) (fun c_23 => ?_) (fun c_23 => ?_)
  · skip
    refine lv_iconst (v := nI 0) hx hb dX1_shows_30 (by decide) ?_
    refine lv_topi (nm_r (e' := bI false) (rfl) ?_)
    subst hQQ
    refine (xe_z (b := false) va1_10 hx hb hr hlocks hK hP hD hS (congrArg bI (Bool.eq_false_iff.mpr (fun h_ => (shows_ap ht).mp h_ c_23)).symm) dX1_shows_31)
  · skip
    refine lv_iconst (v := nI 1) hx hb dX1_shows_26 (by decide) ?_
    refine lv_goto (tgt := 31) hx hb dX1_shows_27 (by decide) ?_
    refine lv_topi (nm_r (e' := bI true) (rfl) ?_)
    subst hQQ
    refine (xe_z (b := true) va1_10 hx hb hr hlocks hK hP hD hS (congrArg bI ((shows_ap ht).mpr c_23).symm) dX1_shows_31)
set_option maxHeartbeats 4000000 in
set_option maxRecDepth 100000 in
theorem mt_X1_askedAt_ok (l : Launch) (D : va_G) (ca : Nat → ClassId) (cq : Nat → Nat) (xq : Nat → Nat) (ak : Nat → Int32) (tb_ : Nat → Int64) (va : Nat → Int32) (fy : Nat → Int64) (cn : Nat → Int32) (an : Nat → Int32) (sw : Nat → Int64) (sb : Nat → Int64) (sv : Value) (C : Nat → Nat) (n_ : Nat) (hak : C 41 ≤ 12) (hAk : AkOk C ak) (hn : n_ < C 41) (nn : Nat) : Met l yX1_askedAt (ws_ yX1_askedAt cX1_askedAt 2 (Option.some Jvm.ClassFile.FieldType.int)) ({ frames := 1, cells := 0, slots := 0, locals := 22 } : Room) (va_Pc [.ref (xq 0), .int (nI n_)] (PreW EvX D vwCl (TY ca) (WT ca cq xq (kdC C) (fsC C) (snC C) ak (nI (C 0)) (nI (C 37)) (nI (C 38)) (fI (C 39)) (nI (C 40)) (lN (C 66)) (nI (C 41)) tb_ va fy cn an sw sb sv) nn)) (va_Qi (fun (r_ : Int32) (_ : Unit) => r_ = nI (16 * C (42 + n_) + C (54 + n_))) (PostW D vwCl (TY ca) (fun (_ : Unit) => (WT ca cq xq (kdC C) (fsC C) (snC C) ak (nI (C 0)) (nI (C 37)) (nI (C 38)) (fI (C 39)) (nI (C 40)) (lN (C 66)) (nI (C 41)) tb_ va fy cn an sw sb sv)) (va_A (WT ca cq xq (kdC C) (fsC C) (snC C) ak (nI (C 0)) (nI (C 37)) (nI (C 38)) (fI (C 39)) (nI (C 40)) (lN (C 66)) (nI (C 41)) tb_ va fy cn an sw sb sv) nn)) (va_A (WT ca cq xq (kdC C) (fsC C) (snC C) ak (nI (C 0)) (nI (C 37)) (nI (C 38)) (fI (C 39)) (nI (C 40)) (lN (C 66)) (nI (C 41)) tb_ va fy cn an sw sb sv) nn)) 0 0 (va_A (WT ca cq xq (kdC C) (fsC C) (snC C) ak (nI (C 0)) (nI (C 37)) (nI (C 38)) (fI (C 39)) (nI (C 40)) (lN (C 66)) (nI (C 41)) tb_ va fy cn an sw sb sv) nn) := by
  refine met_go (QA := fun A => va_Qi (fun (r_ : Int32) (_ : Unit) => r_ = nI (16 * C (42 + n_) + C (54 + n_))) (PostW D vwCl (TY ca) (fun (_ : Unit) => (WT ca cq xq (kdC C) (fsC C) (snC C) ak (nI (C 0)) (nI (C 37)) (nI (C 38)) (fI (C 39)) (nI (C 40)) (lN (C 66)) (nI (C 41)) tb_ va fy cn an sw sb sv)) A) A) (by decide) (Nat.le_of_ble_eq_true rfl) (fun p e s m below meth c A ls QQ hQQ hx hb hr hts hown hlocks hml hA hP hK hD hE hl => ?_)
  have hown : s.vm.findClass RX1 = some m.cls := hown
  have hS : va_S A s.heap s.heap [] := va_S.rf
  have hl : lv_has ls 2 [(0, .ref (xq 0)), (1, .int (nI n_))] := hl
  generalize hHe : s.heap = H at hP ⊢
  have hS : va_S A s.heap H [] := hHe ▸ hS
  generalize ([] : List Loc) = locs at hS ⊢
  refine lv_iload_n hx hb dX1_askedAt_0 rfl (lv_at hl 1 rfl) ?_
  refine lv_iconst (v := nI 0) hx hb dX1_askedAt_1 (by decide) ?_
  refine lv_aload_n hx hb dX1_askedAt_2 rfl (lv_at hl 0 rfl) ?_
  refine gWT_5_circuit_X1 hx hb hts hown hK hP dX1_askedAt_3 ?_
  refine gWT_0_asked_X1 hE hx hb hts hown hK hP dX1_askedAt_6 ?_
  refine lv_iconst (v := nI 1) hx hb dX1_askedAt_9 (by decide) ?_
  refine lv_isub hx hb dX1_askedAt_10 ?_
  refine xc_i (xr_S (As := [.int (nI n_), .int (nI 0), .int ((nI (C 41)) - (nI 1))]) (rest := []) (mt_X1_isWithin l D ca (nI n_) (nI 0) ((nI (C 41)) - (nI 1))  H.size) ⟨hx, hb, hml, hown, hts⟩ (va_cwS 3 hts (lw_S q1044 q926 q79 q927) rfl rfl rfl (by decide +kernel) ⟨Nat.le_of_ble_eq_true rfl, Nat.le_of_ble_eq_true rfl⟩) Ev0_ok trivial hK hS (Cut.app (wc := []) (wr := (WT ca cq xq (kdC C) (fsC C) (snC C) ak (nI (C 0)) (nI (C 37)) (nI (C 38)) (fI (C 39)) (nI (C 40)) (lN (C 66)) (nI (C 41)) tb_ va fy cn an sw sb sv)) hP hD hS hA) rfl hl.1 rfl (Nat.le_of_ble_eq_true rfl) dX1_askedAt_11 ⟨Nat.le_of_ble_eq_true rfl, Nat.le_of_ble_eq_true rfl⟩) hS (Cut.app (wc := []) (wr := (WT ca cq xq (kdC C) (fsC C) (snC C) ak (nI (C 0)) (nI (C 37)) (nI (C 38)) (fI (C 39)) (nI (C 40)) (lN (C 66)) (nI (C 41)) tb_ va fy cn an sw sb sv)) hP hD hS hA) (fun r_1 u_2 H locs hq_11 hP hD hS => ?_)
  have hP : va_P D vwCl (WT ca cq xq (kdC C) (fsC C) (snC C) ak (nI (C 0)) (nI (C 37)) (nI (C 38)) (fI (C 39)) (nI (C 40)) (lN (C 66)) (nI (C 41)) tb_ va fy cn an sw sb sv) H := hP
  have hD : va_D A (WT ca cq xq (kdC C) (fsC C) (snC C) ak (nI (C 0)) (nI (C 37)) (nI (C 38)) (fI (C 39)) (nI (C 40)) (lN (C 66)) (nI (C 41)) tb_ va fy cn an sw sb sv) := hD
  have hp_11 : r_1 = bI (decide ((nI 0) ≤ (nI n_) ∧ (nI n_) ≤ ((nI (C 41)) - (nI 1)))) := hq_11
  clear hq_11
  obtain rfl := hp_11
  refine xc_v (xr_S (As := [.int (bI (decide ((nI 0) ≤ (nI n_) ∧ (nI n_) ≤ ((nI (C 41)) - (nI 1)))))]) (rest := []) (mt_X1_needThere_ok l D ca (decide ((nI 0) ≤ (nI n_) ∧ (nI n_) ≤ ((nI (C 41)) - (nI 1)))) ((inR_end (by omega)).trans (inR_ok hn (by omega))) H.size) ⟨hx, hb, hml, hown, hts⟩ (va_cwS 1 hts (lw_S q1471 q1179 q79 q1180) rfl rfl rfl (by decide +kernel) ⟨Nat.le_of_ble_eq_true rfl, Nat.le_of_ble_eq_true rfl⟩) Ev0_ok trivial hK hS (Cut.app (wc := []) (wr := (WT ca cq xq (kdC C) (fsC C) (snC C) ak (nI (C 0)) (nI (C 37)) (nI (C 38)) (fI (C 39)) (nI (C 40)) (lN (C 66)) (nI (C 41)) tb_ va fy cn an sw sb sv)) hP hD hS hA) rfl hl.1 rfl (Nat.le_of_ble_eq_true rfl) dX1_askedAt_14 ⟨Nat.le_of_ble_eq_true rfl, Nat.le_of_ble_eq_true rfl⟩) hS (Cut.app (wc := []) (wr := (WT ca cq xq (kdC C) (fsC C) (snC C) ak (nI (C 0)) (nI (C 37)) (nI (C 38)) (fI (C 39)) (nI (C 40)) (lN (C 66)) (nI (C 41)) tb_ va fy cn an sw sb sv)) hP hD hS hA) (fun u_4 H locs hq_14 hP hD hS => ?_)
  have hP : va_P D vwCl (WT ca cq xq (kdC C) (fsC C) (snC C) ak (nI (C 0)) (nI (C 37)) (nI (C 38)) (fI (C 39)) (nI (C 40)) (lN (C 66)) (nI (C 41)) tb_ va fy cn an sw sb sv) H := hP
  have hD : va_D A (WT ca cq xq (kdC C) (fsC C) (snC C) ak (nI (C 0)) (nI (C 37)) (nI (C 38)) (fI (C 39)) (nI (C 40)) (lN (C 66)) (nI (C 41)) tb_ va fy cn an sw sb sv) := hD
  refine lv_aload_n hx hb dX1_askedAt_17 rfl (lv_at hl 0 rfl) ?_
  refine gWT_5_circuit_X1 hx hb hts hown hK hP dX1_askedAt_18 ?_
  refine gWT_0_asks_X1 hE hx hb hts hown hK hP dX1_askedAt_21 ?_
  refine lv_iload_n hx hb dX1_askedAt_24 rfl (lv_at hl 1 rfl) ?_
  refine ldWT_4 hx hb hK hP (by omega) dX1_askedAt_25 ?_
  refine lv_topi (nm_r (e' := nI (16 * C (42 + n_) + C (54 + n_))) (hAk n_ hn) ?_)
  subst hQQ
  exact xe_i (v := nI (16 * C (42 + n_) + C (54 + n_))) () hx hb hr hlocks hK hP hD hS (rfl) dX1_askedAt_26
theorem sus_b {n : Nat} (h : n ≤ 1) : nI n = bI (decide (n = 1)) := by
  rcases (show n = 0 ∨ n = 1 by omega) with e | e <;> subst e <;> rfl
set_option maxHeartbeats 4000000 in
set_option maxRecDepth 100000 in
theorem mt_X1_isSuspecting (l : Launch) (D : va_G) (ca : Nat → ClassId) (cq : Nat → Nat) (xq : Nat → Nat) (ak : Nat → Int32) (tb_ : Nat → Int64) (va : Nat → Int32) (fy : Nat → Int64) (cn : Nat → Int32) (an : Nat → Int32) (sw : Nat → Int64) (sb : Nat → Int64) (sv : Value) (C : Nat → Nat) (h40 : C 40 ≤ 1) (nn : Nat) : Met l yX1_isSuspecting (ws_ yX1_isSuspecting cX1_isSuspecting 1 (Option.some Jvm.ClassFile.FieldType.boolean)) ({ frames := 0, cells := 0, slots := 0, locals := 0 } : Room) (va_Pc [.ref (xq 0)] (PreW EvX D vwCl (TY ca) (WT ca cq xq (kdC C) (fsC C) (snC C) ak (nI (C 0)) (nI (C 37)) (nI (C 38)) (fI (C 39)) (nI (C 40)) (lN (C 66)) (nI (C 41)) tb_ va fy cn an sw sb sv) nn)) (va_Qi (fun (r_ : Int32) (_ : Unit) => r_ = bI (decide (C 40 = 1))) (PostW D vwCl (TY ca) (fun (_ : Unit) => (WT ca cq xq (kdC C) (fsC C) (snC C) ak (nI (C 0)) (nI (C 37)) (nI (C 38)) (fI (C 39)) (nI (C 40)) (lN (C 66)) (nI (C 41)) tb_ va fy cn an sw sb sv)) (va_A (WT ca cq xq (kdC C) (fsC C) (snC C) ak (nI (C 0)) (nI (C 37)) (nI (C 38)) (fI (C 39)) (nI (C 40)) (lN (C 66)) (nI (C 41)) tb_ va fy cn an sw sb sv) nn)) (va_A (WT ca cq xq (kdC C) (fsC C) (snC C) ak (nI (C 0)) (nI (C 37)) (nI (C 38)) (fI (C 39)) (nI (C 40)) (lN (C 66)) (nI (C 41)) tb_ va fy cn an sw sb sv) nn)) 0 0 (va_A (WT ca cq xq (kdC C) (fsC C) (snC C) ak (nI (C 0)) (nI (C 37)) (nI (C 38)) (fI (C 39)) (nI (C 40)) (lN (C 66)) (nI (C 41)) tb_ va fy cn an sw sb sv) nn) := by
  refine met_go (QA := fun A => va_Qi (fun (r_ : Int32) (_ : Unit) => r_ = bI (decide (C 40 = 1))) (PostW D vwCl (TY ca) (fun (_ : Unit) => (WT ca cq xq (kdC C) (fsC C) (snC C) ak (nI (C 0)) (nI (C 37)) (nI (C 38)) (fI (C 39)) (nI (C 40)) (lN (C 66)) (nI (C 41)) tb_ va fy cn an sw sb sv)) A) A) (by decide) (Nat.le_of_ble_eq_true rfl) (fun p e s m below meth c A ls QQ hQQ hx hb hr hts hown hlocks hml hA hP hK hD hE hl => ?_)
  have hown : s.vm.findClass RX1 = some m.cls := hown
  have hS : va_S A s.heap s.heap [] := va_S.rf
  have hl : lv_has ls 1 [(0, .ref (xq 0))] := hl
  generalize hHe : s.heap = H at hP ⊢
  have hS : va_S A s.heap H [] := hHe ▸ hS
  generalize ([] : List Loc) = locs at hS ⊢
  refine lv_aload_n hx hb dX1_isSuspecting_0 rfl (lv_at hl 0 rfl) ?_
  refine gWT_5_circuit_X1 hx hb hts hown hK hP dX1_isSuspecting_1 ?_
  refine gWT_0_isSuspecting_X1 hE hx hb hts hown hK hP dX1_isSuspecting_4 ?_
  refine lv_topi (nm_r (e' := bI (decide (C 40 = 1))) (sus_b h40) ?_)
  subst hQQ
  refine (xe_z (b := decide (C 40 = 1)) () hx hb hr hlocks hK hP hD hS (rfl) dX1_isSuspecting_7)
set_option maxHeartbeats 4000000 in
set_option maxRecDepth 100000 in
theorem mt_X1_doAsk_ok (l : Launch) (D : va_G) (ca : Nat → ClassId) (cq : Nat → Nat) (xq : Nat → Nat) (ak : Nat → Int32) (tb_ : Nat → Int64) (va : Nat → Int32) (fy : Nat → Int64) (cn : Nat → Int32) (an : Nat → Int32) (sw : Nat → Int64) (sb : Nat → Int64) (sv : Value) (C : Nat → Nat) (t_ : Nat) (h0 : C 0 ≤ 12) (hkd0 : ∀ k, k < 12 → C (1 + k) < 8) (hse : ∀ k, k < 12 → C (13 + k) < 6 + k ∧ C (25 + k) < 6 + k) (ho : C 37 < 2 ^ 18) (hbx : C 38 < 2 ^ 18) (hno : popc 18 (C 37) ≤ 4) (h41 : C 41 < 12) (hAk : AkOk C ak) (h39 : C 39 ≤ 64) (ht : t_ < 64) (nn : Nat) : Met l yX1_doAsk (ws_ yX1_doAsk cX1_doAsk 3 (Option.some Jvm.ClassFile.FieldType.int)) ({ frames := 4, cells := 0, slots := 0, locals := 97 } : Room) (va_Pc [.ref (xq 0), .int (nI t_)] (PreW EvX D vwCl (TY ca) (WT ca cq xq (kdC C) (fsC C) (snC C) ak (nI (C 0)) (nI (C 37)) (nI (C 38)) (fI (C 39)) (nI (C 40)) (lN (C 66)) (nI (C 41)) tb_ va fy cn an sw sb sv) nn)) (va_Qi (fun (r_ : Int32) (u_ : (Nat → Int32)) => r_ = nI (anC C 0 (C 39) t_)) (PostW D vwCl (TY ca) (fun (u_ : (Nat → Int32)) => (WT ca cq xq (kdC C) (fsC C) (snC C) (upd ak (C 41) (nI (16 * t_ + anC C 0 (C 39) t_))) (nI (C 0)) (nI (C 37)) (nI (C 38)) (fI (C 39)) (nI (C 40)) (lN (C 66)) (nI (C 41 + 1)) tb_ u_ fy cn an sw sb sv)) (va_A (WT ca cq xq (kdC C) (fsC C) (snC C) ak (nI (C 0)) (nI (C 37)) (nI (C 38)) (fI (C 39)) (nI (C 40)) (lN (C 66)) (nI (C 41)) tb_ va fy cn an sw sb sv) nn)) (va_A (WT ca cq xq (kdC C) (fsC C) (snC C) ak (nI (C 0)) (nI (C 37)) (nI (C 38)) (fI (C 39)) (nI (C 40)) (lN (C 66)) (nI (C 41)) tb_ va fy cn an sw sb sv) nn)) 0 0 (va_A (WT ca cq xq (kdC C) (fsC C) (snC C) ak (nI (C 0)) (nI (C 37)) (nI (C 38)) (fI (C 39)) (nI (C 40)) (lN (C 66)) (nI (C 41)) tb_ va fy cn an sw sb sv) nn) := by
  refine met_go (QA := fun A => va_Qi (fun (r_ : Int32) (u_ : (Nat → Int32)) => r_ = nI (anC C 0 (C 39) t_)) (PostW D vwCl (TY ca) (fun (u_ : (Nat → Int32)) => (WT ca cq xq (kdC C) (fsC C) (snC C) (upd ak (C 41) (nI (16 * t_ + anC C 0 (C 39) t_))) (nI (C 0)) (nI (C 37)) (nI (C 38)) (fI (C 39)) (nI (C 40)) (lN (C 66)) (nI (C 41 + 1)) tb_ u_ fy cn an sw sb sv)) A) A) (by decide) (Nat.le_of_ble_eq_true rfl) (fun p e s m below meth c A ls QQ hQQ hx hb hr hts hown hlocks hml hA hP hK hD hE hl => ?_)
  have hown : s.vm.findClass RX1 = some m.cls := hown
  have hS : va_S A s.heap s.heap [] := va_S.rf
  have hl : lv_has ls 3 [(0, .ref (xq 0)), (1, .int (nI t_))] := hl
  generalize hHe : s.heap = H at hP ⊢
  have hS : va_S A s.heap H [] := hHe ▸ hS
  generalize ([] : List Loc) = locs at hS ⊢
  refine lv_aload_n hx hb dX1_doAsk_0 rfl (lv_at hl 0 rfl) ?_
  refine gWT_5_circuit_X1 hx hb hts hown hK hP dX1_doAsk_1 ?_
  refine gWT_0_asked_X1 hE hx hb hts hown hK hP dX1_doAsk_4 ?_
  refine lv_bipush (v := nI 12) hx hb dX1_doAsk_7 (by decide) ?_
  refine nv_icmp_ge (tgt := 16) hx hb dX1_doAsk_9 (by decide) (by omega) (by omega) (fun c_9 => absurd c_9 (by omega)) (fun c_9 => ?_)
  refine lv_iconst (v := nI 1) hx hb dX1_doAsk_12 (by decide) ?_
  refine lv_goto (tgt := 17) hx hb dX1_doAsk_13 (by decide) ?_
  refine xc_v (xr_S (As := [.int (nI 1)]) (rest := []) (mt_X1_needState_ok l D ca true rfl H.size) ⟨hx, hb, hml, hown, hts⟩ (va_cwS 1 hts (lw_S q1302 q1196 q79 q1197) rfl rfl rfl (by decide +kernel) ⟨Nat.le_of_ble_eq_true rfl, Nat.le_of_ble_eq_true rfl⟩) Ev0_ok trivial hK hS (Cut.app (wc := []) (wr := (WT ca cq xq (kdC C) (fsC C) (snC C) ak (nI (C 0)) (nI (C 37)) (nI (C 38)) (fI (C 39)) (nI (C 40)) (lN (C 66)) (nI (C 41)) tb_ va fy cn an sw sb sv)) hP hD hS hA) rfl hl.1 rfl (Nat.le_of_ble_eq_true rfl) dX1_doAsk_17 ⟨Nat.le_of_ble_eq_true rfl, Nat.le_of_ble_eq_true rfl⟩) hS (Cut.app (wc := []) (wr := (WT ca cq xq (kdC C) (fsC C) (snC C) ak (nI (C 0)) (nI (C 37)) (nI (C 38)) (fI (C 39)) (nI (C 40)) (lN (C 66)) (nI (C 41)) tb_ va fy cn an sw sb sv)) hP hD hS hA) (fun u_2 H locs hq_17 hP hD hS => ?_)
  have hP : va_P D vwCl (WT ca cq xq (kdC C) (fsC C) (snC C) ak (nI (C 0)) (nI (C 37)) (nI (C 38)) (fI (C 39)) (nI (C 40)) (lN (C 66)) (nI (C 41)) tb_ va fy cn an sw sb sv) H := hP
  have hD : va_D A (WT ca cq xq (kdC C) (fsC C) (snC C) ak (nI (C 0)) (nI (C 37)) (nI (C 38)) (fI (C 39)) (nI (C 40)) (lN (C 66)) (nI (C 41)) tb_ va fy cn an sw sb sv) := hD
  refine lv_aload_n hx hb dX1_doAsk_20 rfl (lv_at hl 0 rfl) ?_
  refine lv_iload_n hx hb dX1_doAsk_21 rfl (lv_at hl 1 rfl) ?_
  refine lv_iconst (v := fI 0) hx hb dX1_doAsk_22 (by decide) ?_
  refine lv_aload_n hx hb dX1_doAsk_23 rfl (lv_at hl 0 rfl) ?_
  refine gWT_5_circuit_X1 hx hb hts hown hK hP dX1_doAsk_24 ?_
  refine gWT_0_secret_X1 hE hx hb hts hown hK hP dX1_doAsk_27 ?_
  refine xc_i (xr_V (b := xq 0) (ci := 0) (q0 := 5) (As := [.int (nI t_), .int (fI 0), .int (fI (C 39))]) (rest := []) (mt_X1_answer l D ca cq xq ak tb_ va fy cn an sw sb sv C t_ 0 (C 39) (by first | assumption | omega | (simp only [updN, forgetC, changedC]; (repeat' split) <;> omega)) (by first | assumption | omega | (simp only [updN, forgetC, changedC]; (repeat' split) <;> omega)) (by first | assumption | omega | (simp only [updN, forgetC, changedC]; (repeat' split) <;> omega)) (by first | assumption | omega | (simp only [updN, forgetC, changedC]; (repeat' split) <;> omega)) (by first | assumption | omega | (simp only [updN, forgetC, changedC]; (repeat' split) <;> omega)) (by first | assumption | omega | (simp only [updN, forgetC, changedC]; (repeat' split) <;> omega)) (by first | assumption | omega | (simp only [updN, forgetC, changedC]; (repeat' split) <;> omega)) (by first | assumption | omega | (simp only [updN, forgetC, changedC]; (repeat' split) <;> omega)) (by first | assumption | omega | (simp only [updN, forgetC, changedC]; (repeat' split) <;> omega)) H.size) ⟨hx, hb, hml, hown, hts⟩ (cwV 3 hts (lw_V q1123 q1125 qs31 q79 q1126) rfl rfl rfl (by decide +kernel) ⟨Nat.le_of_ble_eq_true rfl, Nat.le_of_ble_eq_true rfl⟩) EvX_ok hE hK hS (Cut.all hP hD hS hA) rfl rfl rfl hl.1 rfl (Nat.le_of_ble_eq_true rfl) dX1_doAsk_30 ⟨Nat.le_of_ble_eq_true rfl, Nat.le_of_ble_eq_true rfl⟩) hS (Cut.all hP hD hS hA) (fun r_3 u_4 H locs hq_30 hP hD hS => ?_)
  obtain ⟨va1_5, rfl⟩ : ∃ z_, z_ = u_4 := ⟨_, rfl⟩
  have hP : va_P D vwCl (WT ca cq xq (kdC C) (fsC C) (snC C) ak (nI (C 0)) (nI (C 37)) (nI (C 38)) (fI (C 39)) (nI (C 40)) (lN (C 66)) (nI (C 41)) tb_ va1_5 fy cn an sw sb sv) H := hP
  have hD : va_D A (WT ca cq xq (kdC C) (fsC C) (snC C) ak (nI (C 0)) (nI (C 37)) (nI (C 38)) (fI (C 39)) (nI (C 40)) (lN (C 66)) (nI (C 41)) tb_ va1_5 fy cn an sw sb sv) := hD
  have hp_30 : r_3 = nI (anC C 0 (C 39) t_) := hq_30
  clear hq_30
  obtain rfl := hp_30
  refine lv_istore_n (lv' := [(2, .int (nI (anC C 0 (C 39) t_))), (0, .ref (xq 0)), (1, .int (nI t_))]) hx hb dX1_doAsk_33 rfl hl (by decide) rfl (fun ls hl => ?_)
  refine lv_aload_n hx hb dX1_doAsk_34 rfl (lv_at hl 1 rfl) ?_
  refine gWT_5_circuit_X1 hx hb hts hown hK hP dX1_doAsk_35 ?_
  refine gWT_0_asks_X1 hE hx hb hts hown hK hP dX1_doAsk_38 ?_
  refine lv_aload_n hx hb dX1_doAsk_41 rfl (lv_at hl 1 rfl) ?_
  refine gWT_5_circuit_X1 hx hb hts hown hK hP dX1_doAsk_42 ?_
  refine gWT_0_asked_X1 hE hx hb hts hown hK hP dX1_doAsk_45 ?_
  refine lv_bipush (v := nI 16) hx hb dX1_doAsk_48 (by decide) ?_
  refine lv_iload_n hx hb dX1_doAsk_50 rfl (lv_at hl 2 rfl) ?_
  refine nv_imul hx hb dX1_doAsk_51 ?_
  refine lv_iload_n hx hb dX1_doAsk_52 rfl (lv_at hl 0 rfl) ?_
  refine nv_iadd hx hb dX1_doAsk_53 ?_
  refine stWT_4 hx hb hK hP hD hS (by omega) dX1_doAsk_54 (fun H locs hP hD hS => ?_)
  refine lv_aload_n hx hb dX1_doAsk_55 rfl (lv_at hl 1 rfl) ?_
  refine gWT_5_circuit_X1 hx hb hts hown hK hP dX1_doAsk_56 ?_
  refine lv_dup hx hb dX1_doAsk_59 rfl ?_
  refine gWT_0_asked_X1 hE hx hb hts hown hK hP dX1_doAsk_60 ?_
  refine lv_iconst (v := nI 1) hx hb dX1_doAsk_63 (by decide) ?_
  refine nv_iadd hx hb dX1_doAsk_64 ?_
  refine pWT_0_asked_X1 hE hx hb hts hown hK hP hD hS dX1_doAsk_65 (fun H locs hP hD hS => ?_)
  refine lv_iload_n hx hb dX1_doAsk_68 rfl (lv_at hl 0 rfl) ?_
  subst hQQ
  exact xe_i (v := nI (anC C 0 (C 39) t_)) va1_5 hx hb hr hlocks hK hP hD hS (rfl) dX1_doAsk_69
