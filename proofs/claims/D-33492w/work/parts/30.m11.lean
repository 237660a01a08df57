/-! contracts of the model: the fewest tests, the text -/
set_option maxRecDepth 100000
set_option maxHeartbeats 4000000 in
set_option maxRecDepth 100000 in
theorem mt_X3_fewestTests (l : Launch) (D : va_G) (ca : Nat → ClassId) (q : Nat → Nat) (th : Int32) (st : Int32) (ik : Int32) (ln : Int32) (ou : Int32) (pa : Int32) (iw : Int32) (so : Int32) (na : Int32) (nb : Int32) (fo : Int32) (nu : Int32) (al : Int32) (be : Nat → Int32) (ke : Nat → Int32) (te : Nat → Int32) (ti : Nat → Int32) (ne : Nat → Int32) (wa : Nat → Int32) (ta : Nat → Int64) (out : Nat → Int64) (pl : Nat → Int64) (lo : Nat → Int64) (sh : Nat → Int64) (le : Nat → Int64) (C : Nat → Nat) (h0 : C 0 ≤ 12) (hkd0 : ∀ k, k < 12 → C (1 + k) < 8) (hse : ∀ k, k < 12 → C (13 + k) < 6 + k ∧ C (25 + k) < 6 + k) (ho : C 37 < 2 ^ 18) (hbx : C 38 < 2 ^ 18) (hno : popc 18 (C 37) ≤ 4) (nn : Nat) : Met l yX3_fewestTests (ws_ yX3_fewestTests cX3_fewestTests 4 (Option.some Jvm.ClassFile.FieldType.int)) ({ frames := 4, cells := 0, slots := 0, locals := 102 } : Room) (va_Pc [.ref (q 0)] (PreW Ev0 D vwCl (TY ca) (WM ca q th st ik ln ou pa iw so na nb fo nu al (zOf C) be ke te ti ne wa ta out pl lo sh le) nn)) (va_Qi (fun (r_ : Int32) (u_ : (Nat → Int64) × (Nat → Int64) × Int32 × (Nat → Int64) × (Nat → Nat) × (Nat → Int64) × (Nat → Int32) × (Nat → Int32)) => r_ = nI (fws C)) (PostW D vwCl (TY ca) (fun (u_ : (Nat → Int64) × (Nat → Int64) × Int32 × (Nat → Int64) × (Nat → Nat) × (Nat → Int64) × (Nat → Int32) × (Nat → Int32)) => (WM ca q (nI 0) st ik ln u_.2.2.1 pa iw so na nb fo nu al (zOf C) be ke te ti u_.2.2.2.2.2.2.1 u_.2.2.2.2.2.2.2 u_.1 u_.2.1 u_.2.2.2.1 lo (lNf u_.2.2.2.2.1) u_.2.2.2.2.2.1)) (va_A (WM ca q th st ik ln ou pa iw so na nb fo nu al (zOf C) be ke te ti ne wa ta out pl lo sh le) nn)) (va_A (WM ca q th st ik ln ou pa iw so na nb fo nu al (zOf C) be ke te ti ne wa ta out pl lo sh le) nn)) 0 0 (va_A (WM ca q th st ik ln ou pa iw so na nb fo nu al (zOf C) be ke te ti ne wa ta out pl lo sh le) nn) := by
  refine met_go (QA := fun A => va_Qi (fun (r_ : Int32) (u_ : (Nat → Int64) × (Nat → Int64) × Int32 × (Nat → Int64) × (Nat → Nat) × (Nat → Int64) × (Nat → Int32) × (Nat → Int32)) => r_ = nI (fws C)) (PostW D vwCl (TY ca) (fun (u_ : (Nat → Int64) × (Nat → Int64) × Int32 × (Nat → Int64) × (Nat → Nat) × (Nat → Int64) × (Nat → Int32) × (Nat → Int32)) => (WM ca q (nI 0) st ik ln u_.2.2.1 pa iw so na nb fo nu al (zOf C) be ke te ti u_.2.2.2.2.2.2.1 u_.2.2.2.2.2.2.2 u_.1 u_.2.1 u_.2.2.2.1 lo (lNf u_.2.2.2.2.1) u_.2.2.2.2.2.1)) A) A) (by decide) (Nat.le_of_ble_eq_true rfl) (fun p e s m below meth c A ls QQ hQQ hx hb hr hts hown hlocks hml hA hP hK hD hE hl => ?_)
  have hown : s.vm.findClass RX3 = some m.cls := hown
  have hS : va_S A s.heap s.heap [] := va_S.rf
  have hl : lv_has ls 4 [(0, .ref (q 0))] := hl
  generalize hHe : s.heap = H at hP ⊢
  have hS : va_S A s.heap H [] := hHe ▸ hS
  generalize ([] : List Loc) = locs at hS ⊢
  refine lv_aload_n hx hb dX3_fewestTests_0 rfl (lv_at hl 0 rfl) ?_
  refine lv_iconst (v := nI 0) hx hb dX3_fewestTests_1 (by decide) ?_
  refine pWM_0_thrown_X3 hx hb hts hown hK hP hD hS dX3_fewestTests_2 (fun H locs hP hD hS => ?_)
  refine lv_aload_n hx hb dX3_fewestTests_5 rfl (lv_at hl 0 rfl) ?_
  refine xc_l (xr_V (b := q 0) (ci := 2) (q0 := 0) (As := []) (rest := []) (mt_X3_tellShown l D ca q (nI 0) st ik ln ou pa iw so na nb fo nu al be ke te ti ne wa ta out pl lo sh le C (by first | assumption | omega | (simp only [updN, forgetC, changedC]; (repeat' split) <;> omega)) (by first | assumption | omega | (simp only [updN, forgetC, changedC]; (repeat' split) <;> omega)) (by first | assumption | omega | (simp only [updN, forgetC, changedC]; (repeat' split) <;> omega)) (by first | assumption | omega | (simp only [updN, forgetC, changedC]; (repeat' split) <;> omega)) (by first | assumption | omega | (simp only [updN, forgetC, changedC]; (repeat' split) <;> omega)) (by first | assumption | omega | (simp only [updN, forgetC, changedC]; (repeat' split) <;> omega)) H.size) ⟨hx, hb, hml, hown, hts⟩ (cwV 0 hts (lw_V q1832 q1834 qs65 q87 q1835) rfl rfl rfl (by decide +kernel) ⟨Nat.le_of_ble_eq_true rfl, Nat.le_of_ble_eq_true rfl⟩) Ev0_ok hE hK hS (Cut.all hP hD hS hA) rfl rfl rfl hl.1 rfl (Nat.le_of_ble_eq_true rfl) dX3_fewestTests_6 ⟨Nat.le_of_ble_eq_true rfl, Nat.le_of_ble_eq_true rfl⟩) hS (Cut.all hP hD hS hA) (fun r_1 u_2 H locs hq_6 hP hD hS => ?_)
  obtain ⟨ta1_3, out1_4, ou1_5, pl1_6⟩ := u_2
  have hP : va_P D vwCl (WM ca q (nI 0) st ik ln ou1_5 pa iw so na nb fo nu al (zOf C) be ke te ti ne wa ta1_3 out1_4 pl1_6 lo (lNf (shN C (2 * (6 + C 0)))) le) H := hP
  have hD : va_D A (WM ca q (nI 0) st ik ln ou1_5 pa iw so na nb fo nu al (zOf C) be ke te ti ne wa ta1_3 out1_4 pl1_6 lo (lNf (shN C (2 * (6 + C 0)))) le) := hD
  have hp_6 : r_1 = lN (opn C (2 * (6 + C 0))) := hq_6
  clear hq_6
  obtain rfl := hp_6
  refine lv_lstore_n (lv' := [(1, .long (lN (opn C (2 * (6 + C 0))))), (0, .ref (q 0))]) hx hb dX3_fewestTests_9 rfl hl (by decide) rfl (fun ls hl => ?_)
  refine lv_aload_n hx hb dX3_fewestTests_10 rfl (lv_at hl 1 rfl) ?_
  refine xc_v (xr_V (b := q 0) (ci := 2) (q0 := 0) (As := []) (rest := []) (mt_X3_thinOut l D ca q (nI 0) st ik ln ou1_5 pa iw so na nb fo nu al (zOf C) be ke te ti ne wa ta1_3 out1_4 pl1_6 lo le (shN C (2 * (6 + C 0))) (fun t => Nat.lt_of_lt_of_le (shN_lt _) (Nat.pow_le_pow_right (by decide) (by omega))) H.size) ⟨hx, hb, hml, hown, hts⟩ (cwV 0 hts (lw_V q1847 q1849 qs67 q87 q1850) rfl rfl rfl (by decide +kernel) ⟨Nat.le_of_ble_eq_true rfl, Nat.le_of_ble_eq_true rfl⟩) Ev0_ok hE hK hS (Cut.all hP hD hS hA) rfl rfl rfl hl.1 rfl (Nat.le_of_ble_eq_true rfl) dX3_fewestTests_11 ⟨Nat.le_of_ble_eq_true rfl, Nat.le_of_ble_eq_true rfl⟩) hS (Cut.all hP hD hS hA) (fun u_8 H locs hq_11 hP hD hS => ?_)
  obtain ⟨X1_9, rfl⟩ : ∃ z_, z_ = u_8 := ⟨_, rfl⟩
  have hP : va_P D vwCl (WM ca q (nI 0) st ik ln ou1_5 pa iw so na nb fo nu al (zOf C) be ke te ti ne wa ta1_3 out1_4 pl1_6 lo (lNf X1_9) le) H := hP
  have hD : va_D A (WM ca q (nI 0) st ik ln ou1_5 pa iw so na nb fo nu al (zOf C) be ke te ti ne wa ta1_3 out1_4 pl1_6 lo (lNf X1_9) le) := hD
  have hp_11 : Dm (shN C (2 * (6 + C 0))) X1_9 ∧ ∀ t, X1_9 t < 2 ^ 36 := hq_11
  clear hq_11
  refine lv_iconst (v := nI 0) hx hb dX3_fewestTests_14 (by decide) ?_
  refine lv_istore_n (lv' := [(3, .int (nI 0)), (1, .long (lN (opn C (2 * (6 + C 0))))), (0, .ref (q 0))]) hx hb dX3_fewestTests_15 rfl hl (by decide) rfl (fun ls hl => ?_)
  have lp_16 : ∀ (fu_16 : Nat) (n : Nat) (le_ : Nat → Int64) (ne_ : Nat → Int32) (wa_ : Nat → Int32), 7 - n < fu_16 → (n ≤ 7) → (fwF (shN C (2 * (6 + C 0))) (opn C (2 * (6 + C 0))) (7 - n) n = fws C) → ∀ (H : Heap) (locs : List Loc), va_P D vwCl (WM ca q (nI 0) st ik ln ou1_5 pa iw so na nb fo nu al (zOf C) be ke te ti ne_ wa_ ta1_3 out1_4 pl1_6 lo (lNf X1_9) le_) H → va_D A (WM ca q (nI 0) st ik ln ou1_5 pa iw so na nb fo nu al (zOf C) be ke te ti ne_ wa_ ta1_3 out1_4 pl1_6 lo (lNf X1_9) le_) → va_S A s.heap H locs → ∀ (ls : Array Slot), lv_has ls 4 [(3, .int (nI n)), (1, .long (lN (opn C (2 * (6 + C 0))))), (0, .ref (q 0))] → W p l e ({ frames := 4, cells := 0, slots := 0, locals := 102 } : Room) s m ([.ref (q 0)] : List Value).toArray below meth c H locs 0 0 QQ (F0 m 16 ls []) := by
    intro fu_16
    induction fu_16 with
    | zero => intro n le_ ne_ wa_ hfu; exact absurd hfu (Nat.not_lt_zero _)
    | succ fu_16 ih_16 =>
      intro n le_ ne_ wa_ hfu hn hfw H locs hP hD hS ls hl
      refine lv_iload_n hx hb dX3_fewestTests_16 rfl (lv_at hl 0 rfl) ?_
      refine lv_bipush (v := nI 7) hx hb dX3_fewestTests_17 (by decide) ?_
      refine nv_icmp_ge (tgt := 37) hx hb dX3_fewestTests_19 (by decide) (by omega) (by omega) (fun c_19 => ?_) (fun c_19 => ?_)
      · skip
        have hres : n = fws C := by rw [← hfw, show 7 - n = 0 by omega]; rfl
        refine lv_iload_n hx hb dX3_fewestTests_37 rfl (lv_at hl 0 rfl) ?_
        subst hQQ
        exact xe_i (v := nI n) (ta1_3, out1_4, ou1_5, pl1_6, X1_9, le_, ne_, wa_) hx hb hr hlocks hK hP hD hS (congrArg nI hres) dX3_fewestTests_38
      · skip
        refine lv_aload_n hx hb dX3_fewestTests_22 rfl (lv_at hl 2 rfl) ?_
        refine lv_lload_n hx hb dX3_fewestTests_23 rfl (lv_at hl 1 rfl) ?_
        refine lv_iload_n hx hb dX3_fewestTests_24 rfl (lv_at hl 0 rfl) ?_
        refine xc_i (xr_V (b := q 0) (ci := 2) (q0 := 0) (As := [.long (lN (opn C (2 * (6 + C 0)))), .int (nI n)]) (rest := []) (mt_X3_suffice l D ca q (nI 0) st ik ln ou1_5 pa iw so na nb fo nu al (zOf C) be ke te ti ne_ wa_ ta1_3 out1_4 pl1_6 lo le_ X1_9 (opn C (2 * (6 + C 0))) n (Nat.lt_of_lt_of_le (opn_lt _) (Nat.pow_le_pow_right (by decide) (by omega))) (by omega) hp_11.2 H.size) ⟨hx, hb, hml, hown, hts⟩ (cwV 2 hts (lw_V q1851 q1853 qs68 q87 q1854) rfl rfl rfl (by decide +kernel) ⟨Nat.le_of_ble_eq_true rfl, Nat.le_of_ble_eq_true rfl⟩) Ev0_ok hE hK hS (Cut.all hP hD hS hA) rfl rfl rfl hl.1 rfl (Nat.le_of_ble_eq_true rfl) dX3_fewestTests_25 ⟨Nat.le_of_ble_eq_true rfl, Nat.le_of_ble_eq_true rfl⟩) hS (Cut.all hP hD hS hA) (fun r_11 u_12 H locs hq_25 hP hD hS => ?_)
        obtain ⟨le1_13, ne1_14, wa1_15⟩ := u_12
        have hP : va_P D vwCl (WM ca q (nI 0) st ik ln ou1_5 pa iw so na nb fo nu al (zOf C) be ke te ti ne1_14 wa1_15 ta1_3 out1_4 pl1_6 lo (lNf X1_9) le1_13) H := hP
        have hD : va_D A (WM ca q (nI 0) st ik ln ou1_5 pa iw so na nb fo nu al (zOf C) be ke te ti ne1_14 wa1_15 ta1_3 out1_4 pl1_6 lo (lNf X1_9) le1_13) := hD
        have hp_25 : r_11 = bI (cvB X1_9 n (opn C (2 * (6 + C 0)))) := hq_25
        clear hq_25
        obtain rfl := hp_25
        refine nv_ifb_ne (tgt := 37) hx hb dX3_fewestTests_28 (by decide) (fun c_28 => ?_) (fun c_28 => ?_)
        · skip
          have hres : n = fws C := by rw [← hfw, fwF_y (by rw [← cvB_dm hp_11.1]; exact c_28)]
          refine lv_iload_n hx hb dX3_fewestTests_37 rfl (lv_at hl 0 rfl) ?_
          subst hQQ
          exact xe_i (v := nI n) (ta1_3, out1_4, ou1_5, pl1_6, X1_9, le1_13, ne1_14, wa1_15) hx hb hr hlocks hK hP hD hS (congrArg nI hres) dX3_fewestTests_38
        · skip
          refine lv_iinc (v := nI (n + 1)) (lv' := [(3, .int (nI (n + 1))), (1, .long (lN (opn C (2 * (6 + C 0))))), (0, .ref (q 0))]) hx hb dX3_fewestTests_31 hl (k := 0) rfl (nI_add n 1) (by decide) rfl (fun ls hl => ?_)
          refine lv_goto (tgt := 16) hx hb dX3_fewestTests_34 (by decide) ?_
          exact ih_16  (n + 1) le1_13 ne1_14 wa1_15 (by omega) (by omega) (by have h_ : 7 - n = (7 - (n + 1)) + 1 := (by omega); rw [← hfw, h_, fwF_n (by rw [← cvB_dm hp_11.1]; exact c_28)]) _ _ hP hD hS ls (lv_sub hl [0, 1, 2] rfl)
  exact lp_16 (7 - 0 + 1) 0 le ne wa (Nat.lt_succ_self _) (by omega) rfl _ _ hP hD hS ls (lv_sub hl [0, 1, 2] rfl)
set_option maxHeartbeats 4000000 in
set_option maxRecDepth 100000 in
theorem mt_X3_append_ok (l : Launch) (D : va_G) (ca : Nat → ClassId) (q : Nat → Nat) (th : Int32) (st : Int32) (ik : Int32) (ou : Int32) (pa : Int32) (iw : Int32) (so : Int32) (na : Int32) (nb : Int32) (fo : Int32) (nu : Int32) (al : Int32) (z : Nat → Int32) (be : Nat → Int32) (ke : Nat → Int32) (te : Nat → Int32) (ti : Nat → Int32) (ne : Nat → Int32) (wa : Nat → Int32) (ta : Nat → Int64) (out : Nat → Int64) (pl : Nat → Int64) (lo : Nat → Int64) (sh : Nat → Int64) (le : Nat → Int64) (T_ : List Nat) (c_ : Nat) (hTe : TeOk T_ te) (hTl : T_.length < 60) (hc1 : 32 ≤ c_) (hc2 : c_ ≤ 126) (nn : Nat) : Met l yX3_append (ws_ yX3_append cX3_append 2 (Option.some Jvm.ClassFile.FieldType.int)) ({ frames := 1, cells := 0, slots := 0, locals := 22 } : Room) (va_Pc [.ref (q 0), .int (nI c_)] (PreW Ev0 D vwCl (TY ca) (WM ca q th st ik (nI T_.length) ou pa iw so na nb fo nu al z be ke te ti ne wa ta out pl lo sh le) nn)) (va_Qi (fun (r_ : Int32) (u_ : (Nat → Int32)) => r_ = nI (T_.length + 1) ∧ (TeOk (T_ ++ [c_]) u_)) (PostW D vwCl (TY ca) (fun (u_ : (Nat → Int32)) => (WM ca q (nI 0) st ik (nI (T_.length + 1)) ou pa iw so na nb fo nu al z be ke u_ ti ne wa ta out pl lo sh le)) (va_A (WM ca q th st ik (nI T_.length) ou pa iw so na nb fo nu al z be ke te ti ne wa ta out pl lo sh le) nn)) (va_A (WM ca q th st ik (nI T_.length) ou pa iw so na nb fo nu al z be ke te ti ne wa ta out pl lo sh le) nn)) 0 0 (va_A (WM ca q th st ik (nI T_.length) ou pa iw so na nb fo nu al z be ke te ti ne wa ta out pl lo sh le) nn) := by
  refine met_go (QA := fun A => va_Qi (fun (r_ : Int32) (u_ : (Nat → Int32)) => r_ = nI (T_.length + 1) ∧ (TeOk (T_ ++ [c_]) u_)) (PostW D vwCl (TY ca) (fun (u_ : (Nat → Int32)) => (WM ca q (nI 0) st ik (nI (T_.length + 1)) ou pa iw so na nb fo nu al z be ke u_ ti ne wa ta out pl lo sh le)) A) A) (by decide) (Nat.le_of_ble_eq_true rfl) (fun p e s m below meth c A ls QQ hQQ hx hb hr hts hown hlocks hml hA hP hK hD hE hl => ?_)
  have hown : s.vm.findClass RX3 = some m.cls := hown
  have hS : va_S A s.heap s.heap [] := va_S.rf
  have hl : lv_has ls 2 [(0, .ref (q 0)), (1, .int (nI c_))] := hl
  generalize hHe : s.heap = H at hP ⊢
  have hS : va_S A s.heap H [] := hHe ▸ hS
  generalize ([] : List Loc) = locs at hS ⊢
  refine lv_aload_n hx hb dX3_append_0 rfl (lv_at hl 0 rfl) ?_
  refine lv_iload_n hx hb dX3_append_1 rfl (lv_at hl 1 rfl) ?_
  refine lv_bipush (v := nI 32) hx hb dX3_append_2 (by decide) ?_
  refine lv_bipush (v := nI 126) hx hb dX3_append_4 (by decide) ?_
  refine xc_i (xr_S (As := [.int (nI c_), .int (nI 32), .int (nI 126)]) (rest := [.ref (q 0)]) (mt_X3_in l D ca (nI c_) (nI 32) (nI 126)  H.size) ⟨hx, hb, hml, hown, hts⟩ (va_cwS 3 hts (lw_S q1700 q1701 q87 q1702) rfl rfl rfl (by decide +kernel) ⟨Nat.le_of_ble_eq_true rfl, Nat.le_of_ble_eq_true rfl⟩) Ev0_ok hE hK hS (Cut.app (wc := []) (wr := (WM ca q th st ik (nI T_.length) ou pa iw so na nb fo nu al z be ke te ti ne wa ta out pl lo sh le)) hP hD hS hA) rfl hl.1 rfl (Nat.le_of_ble_eq_true rfl) dX3_append_6 ⟨Nat.le_of_ble_eq_true rfl, Nat.le_of_ble_eq_true rfl⟩) hS (Cut.app (wc := []) (wr := (WM ca q th st ik (nI T_.length) ou pa iw so na nb fo nu al z be ke te ti ne wa ta out pl lo sh le)) hP hD hS hA) (fun r_1 u_2 H locs hq_6 hP hD hS => ?_)
  have hP : va_P D vwCl (WM ca q th st ik (nI T_.length) ou pa iw so na nb fo nu al z be ke te ti ne wa ta out pl lo sh le) H := hP
  have hD : va_D A (WM ca q th st ik (nI T_.length) ou pa iw so na nb fo nu al z be ke te ti ne wa ta out pl lo sh le) := hD
  have hp_6 : r_1 = bI (decide ((nI 32) ≤ (nI c_) ∧ (nI c_) ≤ (nI 126))) := hq_6
  clear hq_6
  obtain rfl := hp_6
  refine nv_ifb_ne (tgt := 16) hx hb dX3_append_9 (by decide) (fun c_9 => ?_) (fun c_9 => (absurd c_9 (by rw [in_rng (by decide) (by decide) (by omega), decide_eq_true ⟨hc1, hc2⟩]; decide)))
  refine lv_aload_n hx hb dX3_append_16 rfl (lv_at hl 0 rfl) ?_
  refine gWM_0_length_X3 hx hb hts hown hK hP dX3_append_17 ?_
  refine lv_bipush (v := nI 60) hx hb dX3_append_20 (by decide) ?_
  refine nv_icmp_ne (tgt := 29) hx hb dX3_append_22 (by decide) (by omega) (by omega) (fun c_22 => ?_) (fun c_22 => (absurd c_22 (by omega)))
  refine lv_iconst (v := nI 0) hx hb dX3_append_29 (by decide) ?_
  refine pWM_0_thrown_X3 hx hb hts hown hK hP hD hS dX3_append_30 (fun H locs hP hD hS => ?_)
  refine lv_aload_n hx hb dX3_append_33 rfl (lv_at hl 0 rfl) ?_
  refine gWM_0_thrown_X3 hx hb hts hown hK hP dX3_append_34 ?_
  refine nv_if_le (tgt := 42) hx hb dX3_append_37 (by decide) (by omega) (fun c_37 => ?_) (fun c_37 => absurd c_37 (by decide))
  refine lv_aload_n hx hb dX3_append_42 rfl (lv_at hl 0 rfl) ?_
  refine gWM_0_text_X3 hx hb hts hown hK hP dX3_append_43 ?_
  refine lv_aload_n hx hb dX3_append_46 rfl (lv_at hl 0 rfl) ?_
  refine gWM_0_length_X3 hx hb hts hown hK hP dX3_append_47 ?_
  refine lv_iload_n hx hb dX3_append_50 rfl (lv_at hl 1 rfl) ?_
  refine stWM_4 hx hb hK hP hD hS (by omega) dX3_append_51 (fun H locs hP hD hS => ?_)
  refine lv_aload_n hx hb dX3_append_52 rfl (lv_at hl 0 rfl) ?_
  refine lv_dup hx hb dX3_append_53 rfl ?_
  refine gWM_0_length_X3 hx hb hts hown hK hP dX3_append_54 ?_
  refine lv_iconst (v := nI 1) hx hb dX3_append_57 (by decide) ?_
  refine nv_iadd hx hb dX3_append_58 ?_
  refine pWM_0_length_X3 hx hb hts hown hK hP hD hS dX3_append_59 (fun H locs hP hD hS => ?_)
  refine lv_aload_n hx hb dX3_append_62 rfl (lv_at hl 0 rfl) ?_
  refine gWM_0_length_X3 hx hb hts hown hK hP dX3_append_63 ?_
  subst hQQ
  exact xe_i (v := nI (T_.length + 1)) (upd te T_.length (nI c_)) hx hb hr hlocks hK hP hD hS (⟨rfl, TeOk_add hTe⟩) dX3_append_66
set_option maxHeartbeats 4000000 in
set_option maxRecDepth 100000 in
theorem mt_X3_append_no1 (l : Launch) (D : va_G) (ca : Nat → ClassId) (q : Nat → Nat) (th : Int32) (st : Int32) (ik : Int32) (ln : Int32) (ou : Int32) (pa : Int32) (iw : Int32) (so : Int32) (na : Int32) (nb : Int32) (fo : Int32) (nu : Int32) (al : Int32) (z : Nat → Int32) (be : Nat → Int32) (ke : Nat → Int32) (te : Nat → Int32) (ti : Nat → Int32) (ne : Nat → Int32) (wa : Nat → Int32) (ta : Nat → Int64) (out : Nat → Int64) (pl : Nat → Int64) (lo : Nat → Int64) (sh : Nat → Int64) (le : Nat → Int64) (x_ : Int32) (hc : decide (nI 32 ≤ x_ ∧ x_ ≤ nI 126) = false) (nn : Nat) : Met l yX3_append (ws_ yX3_append cX3_append 2 (Option.some Jvm.ClassFile.FieldType.int)) ({ frames := 1, cells := 0, slots := 0, locals := 22 } : Room) (va_Pc [.ref (q 0), .int x_] (PreW Ev0 D vwCl (TY ca) (WM ca q th st ik ln ou pa iw so na nb fo nu al z be ke te ti ne wa ta out pl lo sh le) nn)) (va_Qi (fun (r_ : Int32) (_ : Unit) => r_ = nI 0) (PostW D vwCl (TY ca) (fun (_ : Unit) => (WM ca q (nI 1) st ik ln ou pa iw so na nb fo nu al z be ke te ti ne wa ta out pl lo sh le)) (va_A (WM ca q th st ik ln ou pa iw so na nb fo nu al z be ke te ti ne wa ta out pl lo sh le) nn)) (va_A (WM ca q th st ik ln ou pa iw so na nb fo nu al z be ke te ti ne wa ta out pl lo sh le) nn)) 0 0 (va_A (WM ca q th st ik ln ou pa iw so na nb fo nu al z be ke te ti ne wa ta out pl lo sh le) nn) := by
  refine met_go (QA := fun A => va_Qi (fun (r_ : Int32) (_ : Unit) => r_ = nI 0) (PostW D vwCl (TY ca) (fun (_ : Unit) => (WM ca q (nI 1) st ik ln ou pa iw so na nb fo nu al z be ke te ti ne wa ta out pl lo sh le)) A) A) (by decide) (Nat.le_of_ble_eq_true rfl) (fun p e s m below meth c A ls QQ hQQ hx hb hr hts hown hlocks hml hA hP hK hD hE hl => ?_)
  have hown : s.vm.findClass RX3 = some m.cls := hown
  have hS : va_S A s.heap s.heap [] := va_S.rf
  have hl : lv_has ls 2 [(0, .ref (q 0)), (1, .int x_)] := hl
  generalize hHe : s.heap = H at hP ⊢
  have hS : va_S A s.heap H [] := hHe ▸ hS
  generalize ([] : List Loc) = locs at hS ⊢
  refine lv_aload_n hx hb dX3_append_0 rfl (lv_at hl 0 rfl) ?_
  refine lv_iload_n hx hb dX3_append_1 rfl (lv_at hl 1 rfl) ?_
  refine lv_bipush (v := nI 32) hx hb dX3_append_2 (by decide) ?_
  refine lv_bipush (v := nI 126) hx hb dX3_append_4 (by decide) ?_
  refine xc_i (xr_S (As := [.int x_, .int (nI 32), .int (nI 126)]) (rest := [.ref (q 0)]) (mt_X3_in l D ca x_ (nI 32) (nI 126)  H.size) ⟨hx, hb, hml, hown, hts⟩ (va_cwS 3 hts (lw_S q1700 q1701 q87 q1702) rfl rfl rfl (by decide +kernel) ⟨Nat.le_of_ble_eq_true rfl, Nat.le_of_ble_eq_true rfl⟩) Ev0_ok hE hK hS (Cut.app (wc := []) (wr := (WM ca q th st ik ln ou pa iw so na nb fo nu al z be ke te ti ne wa ta out pl lo sh le)) hP hD hS hA) rfl hl.1 rfl (Nat.le_of_ble_eq_true rfl) dX3_append_6 ⟨Nat.le_of_ble_eq_true rfl, Nat.le_of_ble_eq_true rfl⟩) hS (Cut.app (wc := []) (wr := (WM ca q th st ik ln ou pa iw so na nb fo nu al z be ke te ti ne wa ta out pl lo sh le)) hP hD hS hA) (fun r_1 u_2 H locs hq_6 hP hD hS => ?_)
  have hP : va_P D vwCl (WM ca q th st ik ln ou pa iw so na nb fo nu al z be ke te ti ne wa ta out pl lo sh le) H := hP
  have hD : va_D A (WM ca q th st ik ln ou pa iw so na nb fo nu al z be ke te ti ne wa ta out pl lo sh le) := hD
  have hp_6 : r_1 = bI (decide ((nI 32) ≤ x_ ∧ x_ ≤ (nI 126))) := hq_6
  clear hq_6
  obtain rfl := hp_6
  refine nv_ifb_ne (tgt := 16) hx hb dX3_append_9 (by decide) (fun c_9 => (absurd c_9 (by rw [hc]; decide))) (fun c_9 => ?_)
  refine lv_iconst (v := nI 1) hx hb dX3_append_12 (by decide) ?_
  refine lv_goto (tgt := 30) hx hb dX3_append_13 (by decide) ?_
  refine pWM_0_thrown_X3 hx hb hts hown hK hP hD hS dX3_append_30 (fun H locs hP hD hS => ?_)
  refine lv_aload_n hx hb dX3_append_33 rfl (lv_at hl 0 rfl) ?_
  refine gWM_0_thrown_X3 hx hb hts hown hK hP dX3_append_34 ?_
  refine nv_if_le (tgt := 42) hx hb dX3_append_37 (by decide) (by omega) (fun c_37 => absurd c_37 (by decide)) (fun c_37 => ?_)
  refine lv_iconst (v := nI 0) hx hb dX3_append_40 (by decide) ?_
  subst hQQ
  exact xe_i (v := nI 0) () hx hb hr hlocks hK hP hD hS (rfl) dX3_append_41
set_option maxHeartbeats 4000000 in
set_option maxRecDepth 100000 in
theorem mt_X3_append_no2 (l : Launch) (D : va_G) (ca : Nat → ClassId) (q : Nat → Nat) (th : Int32) (st : Int32) (ik : Int32) (ou : Int32) (pa : Int32) (iw : Int32) (so : Int32) (na : Int32) (nb : Int32) (fo : Int32) (nu : Int32) (al : Int32) (z : Nat → Int32) (be : Nat → Int32) (ke : Nat → Int32) (te : Nat → Int32) (ti : Nat → Int32) (ne : Nat → Int32) (wa : Nat → Int32) (ta : Nat → Int64) (out : Nat → Int64) (pl : Nat → Int64) (lo : Nat → Int64) (sh : Nat → Int64) (le : Nat → Int64) (x_ : Int32) (hc : decide (nI 32 ≤ x_ ∧ x_ ≤ nI 126) = true) (nn : Nat) : Met l yX3_append (ws_ yX3_append cX3_append 2 (Option.some Jvm.ClassFile.FieldType.int)) ({ frames := 1, cells := 0, slots := 0, locals := 22 } : Room) (va_Pc [.ref (q 0), .int x_] (PreW Ev0 D vwCl (TY ca) (WM ca q th st ik (nI 60) ou pa iw so na nb fo nu al z be ke te ti ne wa ta out pl lo sh le) nn)) (va_Qi (fun (r_ : Int32) (_ : Unit) => r_ = nI 0) (PostW D vwCl (TY ca) (fun (_ : Unit) => (WM ca q (nI 2) st ik (nI 60) ou pa iw so na nb fo nu al z be ke te ti ne wa ta out pl lo sh le)) (va_A (WM ca q th st ik (nI 60) ou pa iw so na nb fo nu al z be ke te ti ne wa ta out pl lo sh le) nn)) (va_A (WM ca q th st ik (nI 60) ou pa iw so na nb fo nu al z be ke te ti ne wa ta out pl lo sh le) nn)) 0 0 (va_A (WM ca q th st ik (nI 60) ou pa iw so na nb fo nu al z be ke te ti ne wa ta out pl lo sh le) nn) := by
  refine met_go (QA := fun A => va_Qi (fun (r_ : Int32) (_ : Unit) => r_ = nI 0) (PostW D vwCl (TY ca) (fun (_ : Unit) => (WM ca q (nI 2) st ik (nI 60) ou pa iw so na nb fo nu al z be ke te ti ne wa ta out pl lo sh le)) A) A) (by decide) (Nat.le_of_ble_eq_true rfl) (fun p e s m below meth c A ls QQ hQQ hx hb hr hts hown hlocks hml hA hP hK hD hE hl => ?_)
  have hown : s.vm.findClass RX3 = some m.cls := hown
  have hS : va_S A s.heap s.heap [] := va_S.rf
  have hl : lv_has ls 2 [(0, .ref (q 0)), (1, .int x_)] := hl
  generalize hHe : s.heap = H at hP ⊢
  have hS : va_S A s.heap H [] := hHe ▸ hS
  generalize ([] : List Loc) = locs at hS ⊢
  refine lv_aload_n hx hb dX3_append_0 rfl (lv_at hl 0 rfl) ?_
  refine lv_iload_n hx hb dX3_append_1 rfl (lv_at hl 1 rfl) ?_
  refine lv_bipush (v := nI 32) hx hb dX3_append_2 (by decide) ?_
  refine lv_bipush (v := nI 126) hx hb dX3_append_4 (by decide) ?_
  refine xc_i (xr_S (As := [.int x_, .int (nI 32), .int (nI 126)]) (rest := [.ref (q 0)]) (mt_X3_in l D ca x_ (nI 32) (nI 126)  H.size) ⟨hx, hb, hml, hown, hts⟩ (va_cwS 3 hts (lw_S q1700 q1701 q87 q1702) rfl rfl rfl (by decide +kernel) ⟨Nat.le_of_ble_eq_true rfl, Nat.le_of_ble_eq_true rfl⟩) Ev0_ok hE hK hS (Cut.app (wc := []) (wr := (WM ca q th st ik (nI 60) ou pa iw so na nb fo nu al z be ke te ti ne wa ta out pl lo sh le)) hP hD hS hA) rfl hl.1 rfl (Nat.le_of_ble_eq_true rfl) dX3_append_6 ⟨Nat.le_of_ble_eq_true rfl, Nat.le_of_ble_eq_true rfl⟩) hS (Cut.app (wc := []) (wr := (WM ca q th st ik (nI 60) ou pa iw so na nb fo nu al z be ke te ti ne wa ta out pl lo sh le)) hP hD hS hA) (fun r_1 u_2 H locs hq_6 hP hD hS => ?_)
  have hP : va_P D vwCl (WM ca q th st ik (nI 60) ou pa iw so na nb fo nu al z be ke te ti ne wa ta out pl lo sh le) H := hP
  have hD : va_D A (WM ca q th st ik (nI 60) ou pa iw so na nb fo nu al z be ke te ti ne wa ta out pl lo sh le) := hD
  have hp_6 : r_1 = bI (decide ((nI 32) ≤ x_ ∧ x_ ≤ (nI 126))) := hq_6
  clear hq_6
  obtain rfl := hp_6
  refine nv_ifb_ne (tgt := 16) hx hb dX3_append_9 (by decide) (fun c_9 => ?_) (fun c_9 => (absurd c_9 (by rw [hc]; decide)))
  refine lv_aload_n hx hb dX3_append_16 rfl (lv_at hl 0 rfl) ?_
  refine gWM_0_length_X3 hx hb hts hown hK hP dX3_append_17 ?_
  refine lv_bipush (v := nI 60) hx hb dX3_append_20 (by decide) ?_
  refine nv_icmp_ne (tgt := 29) hx hb dX3_append_22 (by decide) (by omega) (by omega) (fun c_22 => absurd c_22 (by decide)) (fun c_22 => ?_)
  refine lv_iconst (v := nI 2) hx hb dX3_append_25 (by decide) ?_
  refine lv_goto (tgt := 30) hx hb dX3_append_26 (by decide) ?_
  refine pWM_0_thrown_X3 hx hb hts hown hK hP hD hS dX3_append_30 (fun H locs hP hD hS => ?_)
  refine lv_aload_n hx hb dX3_append_33 rfl (lv_at hl 0 rfl) ?_
  refine gWM_0_thrown_X3 hx hb hts hown hK hP dX3_append_34 ?_
  refine nv_if_le (tgt := 42) hx hb dX3_append_37 (by decide) (by omega) (fun c_37 => absurd c_37 (by decide)) (fun c_37 => ?_)
  refine lv_iconst (v := nI 0) hx hb dX3_append_40 (by decide) ?_
  subst hQQ
  exact xe_i (v := nI 0) () hx hb hr hlocks hK hP hD hS (rfl) dX3_append_41
set_option maxHeartbeats 4000000 in
set_option maxRecDepth 100000 in
theorem mt_X3_clearText (l : Launch) (D : va_G) (ca : Nat → ClassId) (q : Nat → Nat) (th : Int32) (st : Int32) (ik : Int32) (ou : Int32) (pa : Int32) (iw : Int32) (so : Int32) (na : Int32) (nb : Int32) (fo : Int32) (nu : Int32) (al : Int32) (z : Nat → Int32) (be : Nat → Int32) (ke : Nat → Int32) (te : Nat → Int32) (ti : Nat → Int32) (ne : Nat → Int32) (wa : Nat → Int32) (ta : Nat → Int64) (out : Nat → Int64) (pl : Nat → Int64) (lo : Nat → Int64) (sh : Nat → Int64) (le : Nat → Int64) (T_ : List Nat)  (nn : Nat) : Met l yX3_clearText (ws_ yX3_clearText cX3_clearText 2 (Option.some Jvm.ClassFile.FieldType.int)) ({ frames := 0, cells := 0, slots := 0, locals := 0 } : Room) (va_Pc [.ref (q 0)] (PreW Ev0 D vwCl (TY ca) (WM ca q th st ik (nI T_.length) ou pa iw so na nb fo nu al z be ke te ti ne wa ta out pl lo sh le) nn)) (va_Qi (fun (r_ : Int32) (_ : Unit) => r_ = nI T_.length) (PostW D vwCl (TY ca) (fun (_ : Unit) => (WM ca q (nI 0) st ik (nI 0) ou pa iw so na nb fo nu al z be ke te ti ne wa ta out pl lo sh le)) (va_A (WM ca q th st ik (nI T_.length) ou pa iw so na nb fo nu al z be ke te ti ne wa ta out pl lo sh le) nn)) (va_A (WM ca q th st ik (nI T_.length) ou pa iw so na nb fo nu al z be ke te ti ne wa ta out pl lo sh le) nn)) 0 0 (va_A (WM ca q th st ik (nI T_.length) ou pa iw so na nb fo nu al z be ke te ti ne wa ta out pl lo sh le) nn) := by
  refine met_go (QA := fun A => va_Qi (fun (r_ : Int32) (_ : Unit) => r_ = nI T_.length) (PostW D vwCl (TY ca) (fun (_ : Unit) => (WM ca q (nI 0) st ik (nI 0) ou pa iw so na nb fo nu al z be ke te ti ne wa ta out pl lo sh le)) A) A) (by decide) (Nat.le_of_ble_eq_true rfl) (fun p e s m below meth c A ls QQ hQQ hx hb hr hts hown hlocks hml hA hP hK hD hE hl => ?_)
  have hown : s.vm.findClass RX3 = some m.cls := hown
  have hS : va_S A s.heap s.heap [] := va_S.rf
  have hl : lv_has ls 2 [(0, .ref (q 0))] := hl
  generalize hHe : s.heap = H at hP ⊢
  have hS : va_S A s.heap H [] := hHe ▸ hS
  generalize ([] : List Loc) = locs at hS ⊢
  refine lv_aload_n hx hb dX3_clearText_0 rfl (lv_at hl 0 rfl) ?_
  refine lv_iconst (v := nI 0) hx hb dX3_clearText_1 (by decide) ?_
  refine pWM_0_thrown_X3 hx hb hts hown hK hP hD hS dX3_clearText_2 (fun H locs hP hD hS => ?_)
  refine lv_aload_n hx hb dX3_clearText_5 rfl (lv_at hl 0 rfl) ?_
  refine gWM_0_length_X3 hx hb hts hown hK hP dX3_clearText_6 ?_
  refine lv_istore_n (lv' := [(1, .int (nI T_.length)), (0, .ref (q 0))]) hx hb dX3_clearText_9 rfl hl (by decide) rfl (fun ls hl => ?_)
  refine lv_aload_n hx hb dX3_clearText_10 rfl (lv_at hl 1 rfl) ?_
  refine lv_iconst (v := nI 0) hx hb dX3_clearText_11 (by decide) ?_
  refine pWM_0_length_X3 hx hb hts hown hK hP hD hS dX3_clearText_12 (fun H locs hP hD hS => ?_)
  refine lv_iload_n hx hb dX3_clearText_15 rfl (lv_at hl 0 rfl) ?_
  subst hQQ
  exact xe_i (v := nI T_.length) () hx hb hr hlocks hK hP hD hS (rfl) dX3_clearText_16
set_option maxHeartbeats 4000000 in
set_option maxRecDepth 100000 in
theorem mt_X3_here (l : Launch) (D : va_G) (ca : Nat → ClassId) (q : Nat → Nat) (th : Int32) (st : Int32) (ik : Int32) (ou : Int32) (iw : Int32) (so : Int32) (na : Int32) (nb : Int32) (fo : Int32) (nu : Int32) (al : Int32) (z : Nat → Int32) (be : Nat → Int32) (ke : Nat → Int32) (te : Nat → Int32) (ti : Nat → Int32) (ne : Nat → Int32) (wa : Nat → Int32) (ta : Nat → Int64) (out : Nat → Int64) (pl : Nat → Int64) (lo : Nat → Int64) (sh : Nat → Int64) (le : Nat → Int64) (T_ : List Nat) (p_ : Nat) (hTe : TeOk T_ te) (hTx : TxOk T_) (hp_ : p_ < 1000) (nn : Nat) : Met l yX3_here (ws_ yX3_here cX3_here 1 (Option.some Jvm.ClassFile.FieldType.int)) ({ frames := 0, cells := 0, slots := 0, locals := 0 } : Room) (va_Pc [.ref (q 0)] (PreW Ev0 D vwCl (TY ca) (WM ca q th st ik (nI T_.length) ou (nI p_) iw so na nb fo nu al z be ke te ti ne wa ta out pl lo sh le) nn)) (va_Qi (fun (r_ : Int32) (_ : Unit) => r_ = nI (T_.getD p_ 0)) (PostW D vwCl (TY ca) (fun (_ : Unit) => (WM ca q th st ik (nI T_.length) ou (nI p_) iw so na nb fo nu al z be ke te ti ne wa ta out pl lo sh le)) (va_A (WM ca q th st ik (nI T_.length) ou (nI p_) iw so na nb fo nu al z be ke te ti ne wa ta out pl lo sh le) nn)) (va_A (WM ca q th st ik (nI T_.length) ou (nI p_) iw so na nb fo nu al z be ke te ti ne wa ta out pl lo sh le) nn)) 0 0 (va_A (WM ca q th st ik (nI T_.length) ou (nI p_) iw so na nb fo nu al z be ke te ti ne wa ta out pl lo sh le) nn) := by
  refine met_go (QA := fun A => va_Qi (fun (r_ : Int32) (_ : Unit) => r_ = nI (T_.getD p_ 0)) (PostW D vwCl (TY ca) (fun (_ : Unit) => (WM ca q th st ik (nI T_.length) ou (nI p_) iw so na nb fo nu al z be ke te ti ne wa ta out pl lo sh le)) A) A) (by decide) (Nat.le_of_ble_eq_true rfl) (fun p e s m below meth c A ls QQ hQQ hx hb hr hts hown hlocks hml hA hP hK hD hE hl => ?_)
  have hown : s.vm.findClass RX3 = some m.cls := hown
  have hS : va_S A s.heap s.heap [] := va_S.rf
  have hl : lv_has ls 1 [(0, .ref (q 0))] := hl
  generalize hHe : s.heap = H at hP ⊢
  have hS : va_S A s.heap H [] := hHe ▸ hS
  generalize ([] : List Loc) = locs at hS ⊢
  refine lv_aload_n hx hb dX3_here_0 rfl (lv_at hl 0 rfl) ?_
  refine gWM_0_at_X3 hx hb hts hown hK hP dX3_here_1 ?_
  refine lv_aload_n hx hb dX3_here_4 rfl (lv_at hl 0 rfl) ?_
  refine gWM_0_length_X3 hx hb hts hown hK hP dX3_here_5 ?_
  refine nv_icmp_ge (tgt := 23) hx hb dX3_here_8 (by decide) (by omega) (by have := hTx.1; omega) (fun c_8 => ?_) (fun c_8 => ?_)
  · skip
    refine lv_iconst (v := nI 0) hx hb dX3_here_23 (by decide) ?_
    subst hQQ
    exact xe_i (v := nI 0) () hx hb hr hlocks hK hP hD hS (congrArg nI (getD_no c_8).symm) dX3_here_24
  · skip
    refine lv_aload_n hx hb dX3_here_11 rfl (lv_at hl 0 rfl) ?_
    refine gWM_0_text_X3 hx hb hts hown hK hP dX3_here_12 ?_
    refine lv_aload_n hx hb dX3_here_15 rfl (lv_at hl 0 rfl) ?_
    refine gWM_0_at_X3 hx hb hts hown hK hP dX3_here_16 ?_
    refine ldWM_4 hx hb hK hP (by have := hTx.1; omega) dX3_here_19 ?_
    refine lv_topi (nm_r (e' := nI (T_.getD p_ 0)) (hTe p_ c_8) ?_)
    refine lv_goto (tgt := 24) hx hb dX3_here_20 (by decide) ?_
    subst hQQ
    exact xe_i (v := nI (T_.getD p_ 0)) () hx hb hr hlocks hK hP hD hS (rfl) dX3_here_24
set_option maxHeartbeats 4000000 in
set_option maxRecDepth 100000 in
theorem mt_X3_lineHere (l : Launch) (D : va_G) (ca : Nat → ClassId) (q : Nat → Nat) (th : Int32) (st : Int32) (ik : Int32) (ou : Int32) (so : Int32) (na : Int32) (nb : Int32) (fo : Int32) (nu : Int32) (al : Int32) (z : Nat → Int32) (be : Nat → Int32) (ke : Nat → Int32) (te : Nat → Int32) (ti : Nat → Int32) (ne : Nat → Int32) (wa : Nat → Int32) (ta : Nat → Int64) (out : Nat → Int64) (pl : Nat → Int64) (lo : Nat → Int64) (sh : Nat → Int64) (le : Nat → Int64) (T_ : List Nat) (p_ : Nat) (w_ : Bool) (hTe : TeOk T_ te) (hTx : TxOk T_) (hp_ : p_ < 1000) (nn : Nat) : Met l yX3_lineHere (ws_ yX3_lineHere cX3_lineHere 1 (Option.some Jvm.ClassFile.FieldType.int)) ({ frames := 1, cells := 0, slots := 0, locals := 22 } : Room) (va_Pc [.ref (q 0)] (PreW Ev0 D vwCl (TY ca) (WM ca q th st ik (nI T_.length) ou (nI p_) (bI w_) so na nb fo nu al z be ke te ti ne wa ta out pl lo sh le) nn)) (va_Qi (fun (r_ : Int32) (_ : Unit) => r_ = nI (if lnG w_ T_ p_ = true then T_.getD p_ 0 - 97 else 0)) (PostW D vwCl (TY ca) (fun (_ : Unit) => (WM ca q th st ik (nI T_.length) ou (nI (if lnG w_ T_ p_ = true then p_ + 1 else p_)) (bI (!lnG w_ T_ p_)) so na nb fo nu al z be ke te ti ne wa ta out pl lo sh le)) (va_A (WM ca q th st ik (nI T_.length) ou (nI p_) (bI w_) so na nb fo nu al z be ke te ti ne wa ta out pl lo sh le) nn)) (va_A (WM ca q th st ik (nI T_.length) ou (nI p_) (bI w_) so na nb fo nu al z be ke te ti ne wa ta out pl lo sh le) nn)) 0 0 (va_A (WM ca q th st ik (nI T_.length) ou (nI p_) (bI w_) so na nb fo nu al z be ke te ti ne wa ta out pl lo sh le) nn) := by
  refine met_go (QA := fun A => va_Qi (fun (r_ : Int32) (_ : Unit) => r_ = nI (if lnG w_ T_ p_ = true then T_.getD p_ 0 - 97 else 0)) (PostW D vwCl (TY ca) (fun (_ : Unit) => (WM ca q th st ik (nI T_.length) ou (nI (if lnG w_ T_ p_ = true then p_ + 1 else p_)) (bI (!lnG w_ T_ p_)) so na nb fo nu al z be ke te ti ne wa ta out pl lo sh le)) A) A) (by decide) (Nat.le_of_ble_eq_true rfl) (fun p e s m below meth c A ls QQ hQQ hx hb hr hts hown hlocks hml hA hP hK hD hE hl => ?_)
  have hown : s.vm.findClass RX3 = some m.cls := hown
  have hS : va_S A s.heap s.heap [] := va_S.rf
  have hl : lv_has ls 1 [(0, .ref (q 0))] := hl
  generalize hHe : s.heap = H at hP ⊢
  have hS : va_S A s.heap H [] := hHe ▸ hS
  generalize ([] : List Loc) = locs at hS ⊢
  refine lv_aload_n hx hb dX3_lineHere_0 rfl (lv_at hl 0 rfl) ?_
  refine lv_aload_n hx hb dX3_lineHere_1 rfl (lv_at hl 0 rfl) ?_
  refine gWM_0_isWrong_X3 hx hb hts hown hK hP dX3_lineHere_2 ?_
  refine nv_ifb_ne (tgt := 22) hx hb dX3_lineHere_5 (by decide) (fun c_5 => ?_) (fun c_5 => ?_)
  · skip
    have hg : lnG w_ T_ p_ = false := by unfold lnG; rw [c_5]; rfl
    refine lv_iconst (v := nI 1) hx hb dX3_lineHere_22 (by decide) ?_
    refine lv_goto (tgt := 27) hx hb dX3_lineHere_23 (by decide) ?_
    refine pWM_0_isWrong_X3 hx hb hts hown hK hP hD hS rfl rfl dX3_lineHere_27 (fun H locs hP hD hS => ?_)
    refine lv_aload_n hx hb dX3_lineHere_30 rfl (lv_at hl 0 rfl) ?_
    refine gWM_0_isWrong_X3 hx hb hts hown hK hP dX3_lineHere_31 ?_
    refine nv_if_eq (tgt := 39) hx hb dX3_lineHere_34 (by decide) (by omega) (fun c_34 => absurd c_34 (by decide)) (fun c_34 => ?_)
    refine lv_iconst (v := nI 0) hx hb dX3_lineHere_37 (by decide) ?_
    have ew_ : nI p_ = nI (if lnG w_ T_ p_ = true then p_ + 1 else p_) := congrArg nI (by rw [hg]; rfl)
    have hP : va_P D vwCl (WM ca q th st ik (nI T_.length) ou (nI (if lnG w_ T_ p_ = true then p_ + 1 else p_)) (nI 1) so na nb fo nu al z be ke te ti ne wa ta out pl lo sh le) H := (congrArg (fun x_ => va_P D vwCl (WM ca q th st ik (nI T_.length) ou x_ (nI 1) so na nb fo nu al z be ke te ti ne wa ta out pl lo sh le) H) ew_).mp hP
    have hD : va_D A (WM ca q th st ik (nI T_.length) ou (nI (if lnG w_ T_ p_ = true then p_ + 1 else p_)) (nI 1) so na nb fo nu al z be ke te ti ne wa ta out pl lo sh le) := (congrArg (fun x_ => va_D A (WM ca q th st ik (nI T_.length) ou x_ (nI 1) so na nb fo nu al z be ke te ti ne wa ta out pl lo sh le)) ew_).mp hD
    clear ew_
    have ew_ : nI 1 = bI (!lnG w_ T_ p_) := show bI true = _ from congrArg bI (by rw [hg]; rfl)
    have hP : va_P D vwCl (WM ca q th st ik (nI T_.length) ou (nI (if lnG w_ T_ p_ = true then p_ + 1 else p_)) (bI (!lnG w_ T_ p_)) so na nb fo nu al z be ke te ti ne wa ta out pl lo sh le) H := (congrArg (fun x_ => va_P D vwCl (WM ca q th st ik (nI T_.length) ou (nI (if lnG w_ T_ p_ = true then p_ + 1 else p_)) x_ so na nb fo nu al z be ke te ti ne wa ta out pl lo sh le) H) ew_).mp hP
    have hD : va_D A (WM ca q th st ik (nI T_.length) ou (nI (if lnG w_ T_ p_ = true then p_ + 1 else p_)) (bI (!lnG w_ T_ p_)) so na nb fo nu al z be ke te ti ne wa ta out pl lo sh le) := (congrArg (fun x_ => va_D A (WM ca q th st ik (nI T_.length) ou (nI (if lnG w_ T_ p_ = true then p_ + 1 else p_)) x_ so na nb fo nu al z be ke te ti ne wa ta out pl lo sh le)) ew_).mp hD
    clear ew_
    subst hQQ
    exact xe_i (v := nI 0) () hx hb hr hlocks hK hP hD hS (congrArg nI (by rw [hg]; rfl)) dX3_lineHere_38
  · skip
    refine lv_aload_n hx hb dX3_lineHere_8 rfl (lv_at hl 0 rfl) ?_
    refine xc_i (xr_V (b := q 0) (ci := 2) (q0 := 0) (As := []) (rest := [.ref (q 0)]) (mt_X3_here l D ca q th st ik ou (bI w_) so na nb fo nu al z be ke te ti ne wa ta out pl lo sh le T_ p_ (by first | assumption | omega | (simp only [updN, forgetC, changedC]; (repeat' split) <;> omega)) (by first | assumption | omega | (simp only [updN, forgetC, changedC]; (repeat' split) <;> omega)) (by first | assumption | omega | (simp only [updN, forgetC, changedC]; (repeat' split) <;> omega)) H.size) ⟨hx, hb, hml, hown, hts⟩ (cwV 0 hts (lw_V q1883 q1885 qs72 q87 q1886) rfl rfl rfl (by decide +kernel) ⟨Nat.le_of_ble_eq_true rfl, Nat.le_of_ble_eq_true rfl⟩) Ev0_ok hE hK hS (Cut.all hP hD hS hA) rfl rfl rfl hl.1 rfl (Nat.le_of_ble_eq_true rfl) dX3_lineHere_9 ⟨Nat.le_of_ble_eq_true rfl, Nat.le_of_ble_eq_true rfl⟩) hS (Cut.all hP hD hS hA) (fun r_2 u_3 H locs hq_9 hP hD hS => ?_)
    have hP : va_P D vwCl (WM ca q th st ik (nI T_.length) ou (nI p_) (bI w_) so na nb fo nu al z be ke te ti ne wa ta out pl lo sh le) H := hP
    have hD : va_D A (WM ca q th st ik (nI T_.length) ou (nI p_) (bI w_) so na nb fo nu al z be ke te ti ne wa ta out pl lo sh le) := hD
    have hp_9 : r_2 = nI (T_.getD p_ 0) := hq_9
    clear hq_9
    obtain rfl := hp_9
    refine lv_bipush (v := nI 97) hx hb dX3_lineHere_12 (by decide) ?_
    refine lv_bipush (v := nI 114) hx hb dX3_lineHere_14 (by decide) ?_
    refine xc_i (xr_S (As := [.int (nI (T_.getD p_ 0)), .int (nI 97), .int (nI 114)]) (rest := [.ref (q 0)]) (mt_X3_in l D ca (nI (T_.getD p_ 0)) (nI 97) (nI 114)  H.size) ⟨hx, hb, hml, hown, hts⟩ (va_cwS 3 hts (lw_S q1700 q1701 q87 q1702) rfl rfl rfl (by decide +kernel) ⟨Nat.le_of_ble_eq_true rfl, Nat.le_of_ble_eq_true rfl⟩) Ev0_ok hE hK hS (Cut.app (wc := []) (wr := (WM ca q th st ik (nI T_.length) ou (nI p_) (bI w_) so na nb fo nu al z be ke te ti ne wa ta out pl lo sh le)) hP hD hS hA) rfl hl.1 rfl (Nat.le_of_ble_eq_true rfl) dX3_lineHere_16 ⟨Nat.le_of_ble_eq_true rfl, Nat.le_of_ble_eq_true rfl⟩) hS (Cut.app (wc := []) (wr := (WM ca q th st ik (nI T_.length) ou (nI p_) (bI w_) so na nb fo nu al z be ke te ti ne wa ta out pl lo sh le)) hP hD hS hA) (fun r_4 u_5 H locs hq_16 hP hD hS => ?_)
    have hP : va_P D vwCl (WM ca q th st ik (nI T_.length) ou (nI p_) (bI w_) so na nb fo nu al z be ke te ti ne wa ta out pl lo sh le) H := hP
    have hD : va_D A (WM ca q th st ik (nI T_.length) ou (nI p_) (bI w_) so na nb fo nu al z be ke te ti ne wa ta out pl lo sh le) := hD
    have hp_16 : r_4 = bI (decide ((nI 97) ≤ (nI (T_.getD p_ 0)) ∧ (nI (T_.getD p_ 0)) ≤ (nI 114))) := hq_16
    clear hq_16
    obtain rfl := hp_16
    refine nv_ifb_ne (tgt := 26) hx hb dX3_lineHere_19 (by decide) (fun c_19 => ?_) (fun c_19 => ?_)
    · skip
      rw [in_rng (by decide) (by decide) (by have := hTx.2 p_; omega)] at c_19
      have hg : lnG w_ T_ p_ = true := by unfold lnG lnB; rw [c_5, c_19]; rfl
      have hpl : p_ < T_.length := by rcases Nat.lt_or_ge p_ T_.length with q | q; exact q; rw [getD_no q] at c_19; exact absurd c_19 (by decide)
      have hpr := of_decide_eq_true c_19
      refine lv_iconst (v := nI 0) hx hb dX3_lineHere_26 (by decide) ?_
      refine pWM_0_isWrong_X3 hx hb hts hown hK hP hD hS rfl rfl dX3_lineHere_27 (fun H locs hP hD hS => ?_)
      refine lv_aload_n hx hb dX3_lineHere_30 rfl (lv_at hl 0 rfl) ?_
      refine gWM_0_isWrong_X3 hx hb hts hown hK hP dX3_lineHere_31 ?_
      refine nv_if_eq (tgt := 39) hx hb dX3_lineHere_34 (by decide) (by omega) (fun c_34 => ?_) (fun c_34 => absurd c_34 (by decide))
      refine lv_aload_n hx hb dX3_lineHere_39 rfl (lv_at hl 0 rfl) ?_
      refine lv_dup hx hb dX3_lineHere_40 rfl ?_
      refine gWM_0_at_X3 hx hb hts hown hK hP dX3_lineHere_41 ?_
      refine lv_iconst (v := nI 1) hx hb dX3_lineHere_44 (by decide) ?_
      refine nv_iadd hx hb dX3_lineHere_45 ?_
      refine pWM_0_at_X3 hx hb hts hown hK hP hD hS dX3_lineHere_46 (fun H locs hP hD hS => ?_)
      refine lv_aload_n hx hb dX3_lineHere_49 rfl (lv_at hl 0 rfl) ?_
      refine gWM_0_text_X3 hx hb hts hown hK hP dX3_lineHere_50 ?_
      refine lv_aload_n hx hb dX3_lineHere_53 rfl (lv_at hl 0 rfl) ?_
      refine gWM_0_at_X3 hx hb hts hown hK hP dX3_lineHere_54 ?_
      refine lv_iconst (v := nI 1) hx hb dX3_lineHere_57 (by decide) ?_
      refine nv_isub hx hb dX3_lineHere_58 (by omega) ?_
      refine lv_topi (nm_r (e' := nI p_) (rfl) ?_)
      refine ldWM_4 hx hb hK hP (by have := hTx.1; omega) dX3_lineHere_59 ?_
      refine lv_topi (nm_r (e' := nI (T_.getD p_ 0)) (hTe p_ hpl) ?_)
      refine lv_bipush (v := nI 97) hx hb dX3_lineHere_60 (by decide) ?_
      refine nv_isub hx hb dX3_lineHere_62 hpr.1 ?_
      have ew_ : nI (p_ + 1) = nI (if lnG w_ T_ p_ = true then p_ + 1 else p_) := congrArg nI (by rw [hg]; rfl)
      have hP : va_P D vwCl (WM ca q th st ik (nI T_.length) ou (nI (if lnG w_ T_ p_ = true then p_ + 1 else p_)) (nI 0) so na nb fo nu al z be ke te ti ne wa ta out pl lo sh le) H := (congrArg (fun x_ => va_P D vwCl (WM ca q th st ik (nI T_.length) ou x_ (nI 0) so na nb fo nu al z be ke te ti ne wa ta out pl lo sh le) H) ew_).mp hP
      have hD : va_D A (WM ca q th st ik (nI T_.length) ou (nI (if lnG w_ T_ p_ = true then p_ + 1 else p_)) (nI 0) so na nb fo nu al z be ke te ti ne wa ta out pl lo sh le) := (congrArg (fun x_ => va_D A (WM ca q th st ik (nI T_.length) ou x_ (nI 0) so na nb fo nu al z be ke te ti ne wa ta out pl lo sh le)) ew_).mp hD
      clear ew_
      have ew_ : nI 0 = bI (!lnG w_ T_ p_) := show bI false = _ from congrArg bI (by rw [hg]; rfl)
      have hP : va_P D vwCl (WM ca q th st ik (nI T_.length) ou (nI (if lnG w_ T_ p_ = true then p_ + 1 else p_)) (bI (!lnG w_ T_ p_)) so na nb fo nu al z be ke te ti ne wa ta out pl lo sh le) H := (congrArg (fun x_ => va_P D vwCl (WM ca q th st ik (nI T_.length) ou (nI (if lnG w_ T_ p_ = true then p_ + 1 else p_)) x_ so na nb fo nu al z be ke te ti ne wa ta out pl lo sh le) H) ew_).mp hP
      have hD : va_D A (WM ca q th st ik (nI T_.length) ou (nI (if lnG w_ T_ p_ = true then p_ + 1 else p_)) (bI (!lnG w_ T_ p_)) so na nb fo nu al z be ke te ti ne wa ta out pl lo sh le) := (congrArg (fun x_ => va_D A (WM ca q th st ik (nI T_.length) ou (nI (if lnG w_ T_ p_ = true then p_ + 1 else p_)) x_ so na nb fo nu al z be ke te ti ne wa ta out pl lo sh le)) ew_).mp hD
      clear ew_
      subst hQQ
      exact xe_i (v := nI ((T_.getD p_ 0) - 97)) () hx hb hr hlocks hK hP hD hS (congrArg nI (by rw [hg]; rfl)) dX3_lineHere_63
    · skip
      rw [in_rng (by decide) (by decide) (by have := hTx.2 p_; omega)] at c_19
      have hg : lnG w_ T_ p_ = false := by unfold lnG lnB; rw [c_5, c_19]; rfl
      refine lv_iconst (v := nI 1) hx hb dX3_lineHere_22 (by decide) ?_
      refine lv_goto (tgt := 27) hx hb dX3_lineHere_23 (by decide) ?_
      refine pWM_0_isWrong_X3 hx hb hts hown hK hP hD hS rfl rfl dX3_lineHere_27 (fun H locs hP hD hS => ?_)
      refine lv_aload_n hx hb dX3_lineHere_30 rfl (lv_at hl 0 rfl) ?_
      refine gWM_0_isWrong_X3 hx hb hts hown hK hP dX3_lineHere_31 ?_
      refine nv_if_eq (tgt := 39) hx hb dX3_lineHere_34 (by decide) (by omega) (fun c_34 => absurd c_34 (by decide)) (fun c_34 => ?_)
      refine lv_iconst (v := nI 0) hx hb dX3_lineHere_37 (by decide) ?_
      have ew_ : nI p_ = nI (if lnG w_ T_ p_ = true then p_ + 1 else p_) := congrArg nI (by rw [hg]; rfl)
      have hP : va_P D vwCl (WM ca q th st ik (nI T_.length) ou (nI (if lnG w_ T_ p_ = true then p_ + 1 else p_)) (nI 1) so na nb fo nu al z be ke te ti ne wa ta out pl lo sh le) H := (congrArg (fun x_ => va_P D vwCl (WM ca q th st ik (nI T_.length) ou x_ (nI 1) so na nb fo nu al z be ke te ti ne wa ta out pl lo sh le) H) ew_).mp hP
      have hD : va_D A (WM ca q th st ik (nI T_.length) ou (nI (if lnG w_ T_ p_ = true then p_ + 1 else p_)) (nI 1) so na nb fo nu al z be ke te ti ne wa ta out pl lo sh le) := (congrArg (fun x_ => va_D A (WM ca q th st ik (nI T_.length) ou x_ (nI 1) so na nb fo nu al z be ke te ti ne wa ta out pl lo sh le)) ew_).mp hD
      clear ew_
      have ew_ : nI 1 = bI (!lnG w_ T_ p_) := show bI true = _ from congrArg bI (by rw [hg]; rfl)
      have hP : va_P D vwCl (WM ca q th st ik (nI T_.length) ou (nI (if lnG w_ T_ p_ = true then p_ + 1 else p_)) (bI (!lnG w_ T_ p_)) so na nb fo nu al z be ke te ti ne wa ta out pl lo sh le) H := (congrArg (fun x_ => va_P D vwCl (WM ca q th st ik (nI T_.length) ou (nI (if lnG w_ T_ p_ = true then p_ + 1 else p_)) x_ so na nb fo nu al z be ke te ti ne wa ta out pl lo sh le) H) ew_).mp hP
      have hD : va_D A (WM ca q th st ik (nI T_.length) ou (nI (if lnG w_ T_ p_ = true then p_ + 1 else p_)) (bI (!lnG w_ T_ p_)) so na nb fo nu al z be ke te ti ne wa ta out pl lo sh le) := (congrArg (fun x_ => va_D A (WM ca q th st ik (nI T_.length) ou (nI (if lnG w_ T_ p_ = true then p_ + 1 else p_)) x_ so na nb fo nu al z be ke te ti ne wa ta out pl lo sh le)) ew_).mp hD
      clear ew_
      subst hQQ
      exact xe_i (v := nI 0) () hx hb hr hlocks hK hP hD hS (congrArg nI (by rw [hg]; rfl)) dX3_lineHere_38
set_option maxHeartbeats 4000000 in
set_option maxRecDepth 100000 in
theorem mt_X3_testHere (l : Launch) (D : va_G) (ca : Nat → ClassId) (q : Nat → Nat) (th : Int32) (st : Int32) (ik : Int32) (ou : Int32) (so : Int32) (na : Int32) (nb : Int32) (fo : Int32) (nu : Int32) (al : Int32) (z : Nat → Int32) (be : Nat → Int32) (ke : Nat → Int32) (te : Nat → Int32) (ti : Nat → Int32) (ne : Nat → Int32) (wa : Nat → Int32) (ta : Nat → Int64) (out : Nat → Int64) (pl : Nat → Int64) (lo : Nat → Int64) (sh : Nat → Int64) (le : Nat → Int64) (T_ : List Nat) (p_ : Nat) (w_ : Bool) (hTe : TeOk T_ te) (hTx : TxOk T_) (hp_ : p_ < 900) (nn : Nat) : Met l yX3_testHere (ws_ yX3_testHere cX3_testHere 2 (Option.some Jvm.ClassFile.FieldType.int)) ({ frames := 1, cells := 0, slots := 0, locals := 22 } : Room) (va_Pc [.ref (q 0)] (PreW Ev0 D vwCl (TY ca) (WM ca q th st ik (nI T_.length) ou (nI p_) (bI w_) so na nb fo nu al z be ke te ti ne wa ta out pl lo sh le) nn)) (va_Qi (fun (r_ : Int32) (_ : Unit) => r_ = nI (if dgG w_ T_ p_ = true then tsV T_ p_ else 0)) (PostW D vwCl (TY ca) (fun (_ : Unit) => (WM ca q th st ik (nI T_.length) ou (nI (if dgG w_ T_ p_ = true then tsP T_ p_ else p_)) (bI (!dgG w_ T_ p_)) so na nb fo nu al z be ke te ti ne wa ta out pl lo sh le)) (va_A (WM ca q th st ik (nI T_.length) ou (nI p_) (bI w_) so na nb fo nu al z be ke te ti ne wa ta out pl lo sh le) nn)) (va_A (WM ca q th st ik (nI T_.length) ou (nI p_) (bI w_) so na nb fo nu al z be ke te ti ne wa ta out pl lo sh le) nn)) 0 0 (va_A (WM ca q th st ik (nI T_.length) ou (nI p_) (bI w_) so na nb fo nu al z be ke te ti ne wa ta out pl lo sh le) nn) := by
  refine met_go (QA := fun A => va_Qi (fun (r_ : Int32) (_ : Unit) => r_ = nI (if dgG w_ T_ p_ = true then tsV T_ p_ else 0)) (PostW D vwCl (TY ca) (fun (_ : Unit) => (WM ca q th st ik (nI T_.length) ou (nI (if dgG w_ T_ p_ = true then tsP T_ p_ else p_)) (bI (!dgG w_ T_ p_)) so na nb fo nu al z be ke te ti ne wa ta out pl lo sh le)) A) A) (by decide) (Nat.le_of_ble_eq_true rfl) (fun p e s m below meth c A ls QQ hQQ hx hb hr hts hown hlocks hml hA hP hK hD hE hl => ?_)
  have hown : s.vm.findClass RX3 = some m.cls := hown
  have hS : va_S A s.heap s.heap [] := va_S.rf
  have hl : lv_has ls 2 [(0, .ref (q 0))] := hl
  generalize hHe : s.heap = H at hP ⊢
  have hS : va_S A s.heap H [] := hHe ▸ hS
  generalize ([] : List Loc) = locs at hS ⊢
  refine lv_aload_n hx hb dX3_testHere_0 rfl (lv_at hl 0 rfl) ?_
  refine xc_i (xr_V (b := q 0) (ci := 2) (q0 := 0) (As := []) (rest := []) (mt_X3_here l D ca q th st ik ou (bI w_) so na nb fo nu al z be ke te ti ne wa ta out pl lo sh le T_ p_ (by first | assumption | omega | (simp only [updN, forgetC, changedC]; (repeat' split) <;> omega)) (by first | assumption | omega | (simp only [updN, forgetC, changedC]; (repeat' split) <;> omega)) (by first | assumption | omega | (simp only [updN, forgetC, changedC]; (repeat' split) <;> omega)) H.size) ⟨hx, hb, hml, hown, hts⟩ (cwV 0 hts (lw_V q1883 q1885 qs72 q87 q1886) rfl rfl rfl (by decide +kernel) ⟨Nat.le_of_ble_eq_true rfl, Nat.le_of_ble_eq_true rfl⟩) Ev0_ok hE hK hS (Cut.all hP hD hS hA) rfl rfl rfl hl.1 rfl (Nat.le_of_ble_eq_true rfl) dX3_testHere_1 ⟨Nat.le_of_ble_eq_true rfl, Nat.le_of_ble_eq_true rfl⟩) hS (Cut.all hP hD hS hA) (fun r_1 u_2 H locs hq_1 hP hD hS => ?_)
  have hP : va_P D vwCl (WM ca q th st ik (nI T_.length) ou (nI p_) (bI w_) so na nb fo nu al z be ke te ti ne wa ta out pl lo sh le) H := hP
  have hD : va_D A (WM ca q th st ik (nI T_.length) ou (nI p_) (bI w_) so na nb fo nu al z be ke te ti ne wa ta out pl lo sh le) := hD
  have hp_1 : r_1 = nI (T_.getD p_ 0) := hq_1
  clear hq_1
  obtain rfl := hp_1
  refine lv_bipush (v := nI 48) hx hb dX3_testHere_4 (by decide) ?_
  refine lv_isub hx hb dX3_testHere_6 ?_
  refine lv_istore_n (lv' := [(1, .int ((nI (T_.getD p_ 0)) - (nI 48))), (0, .ref (q 0))]) hx hb dX3_testHere_7 rfl hl (by decide) rfl (fun ls hl => ?_)
  refine lv_aload_n hx hb dX3_testHere_8 rfl (lv_at hl 1 rfl) ?_
  refine lv_aload_n hx hb dX3_testHere_9 rfl (lv_at hl 1 rfl) ?_
  refine gWM_0_isWrong_X3 hx hb hts hown hK hP dX3_testHere_10 ?_
  refine nv_ifb_ne (tgt := 26) hx hb dX3_testHere_13 (by decide) (fun c_13 => ?_) (fun c_13 => ?_)
  · skip
    have hg : dgG w_ T_ p_ = false := by unfold dgG; rw [c_13]; rfl
    refine lv_iconst (v := nI 1) hx hb dX3_testHere_26 (by decide) ?_
    refine lv_goto (tgt := 31) hx hb dX3_testHere_27 (by decide) ?_
    refine pWM_0_isWrong_X3 hx hb hts hown hK hP hD hS rfl rfl dX3_testHere_31 (fun H locs hP hD hS => ?_)
    refine lv_aload_n hx hb dX3_testHere_34 rfl (lv_at hl 1 rfl) ?_
    refine gWM_0_isWrong_X3 hx hb hts hown hK hP dX3_testHere_35 ?_
    refine nv_if_eq (tgt := 43) hx hb dX3_testHere_38 (by decide) (by omega) (fun c_38 => absurd c_38 (by decide)) (fun c_38 => ?_)
    refine lv_iconst (v := nI 0) hx hb dX3_testHere_41 (by decide) ?_
    have ew_ : nI p_ = nI (if dgG w_ T_ p_ = true then tsP T_ p_ else p_) := congrArg nI (by rw [hg]; first | rfl | (unfold tsP; rw [htw]; rfl))
    have hP : va_P D vwCl (WM ca q th st ik (nI T_.length) ou (nI (if dgG w_ T_ p_ = true then tsP T_ p_ else p_)) (nI 1) so na nb fo nu al z be ke te ti ne wa ta out pl lo sh le) H := (congrArg (fun x_ => va_P D vwCl (WM ca q th st ik (nI T_.length) ou x_ (nI 1) so na nb fo nu al z be ke te ti ne wa ta out pl lo sh le) H) ew_).mp hP
    have hD : va_D A (WM ca q th st ik (nI T_.length) ou (nI (if dgG w_ T_ p_ = true then tsP T_ p_ else p_)) (nI 1) so na nb fo nu al z be ke te ti ne wa ta out pl lo sh le) := (congrArg (fun x_ => va_D A (WM ca q th st ik (nI T_.length) ou x_ (nI 1) so na nb fo nu al z be ke te ti ne wa ta out pl lo sh le)) ew_).mp hD
    clear ew_
    have ew_ : nI 1 = bI (!dgG w_ T_ p_) := show bI true = _ from congrArg bI (by rw [hg]; rfl)
    have hP : va_P D vwCl (WM ca q th st ik (nI T_.length) ou (nI (if dgG w_ T_ p_ = true then tsP T_ p_ else p_)) (bI (!dgG w_ T_ p_)) so na nb fo nu al z be ke te ti ne wa ta out pl lo sh le) H := (congrArg (fun x_ => va_P D vwCl (WM ca q th st ik (nI T_.length) ou (nI (if dgG w_ T_ p_ = true then tsP T_ p_ else p_)) x_ so na nb fo nu al z be ke te ti ne wa ta out pl lo sh le) H) ew_).mp hP
    have hD : va_D A (WM ca q th st ik (nI T_.length) ou (nI (if dgG w_ T_ p_ = true then tsP T_ p_ else p_)) (bI (!dgG w_ T_ p_)) so na nb fo nu al z be ke te ti ne wa ta out pl lo sh le) := (congrArg (fun x_ => va_D A (WM ca q th st ik (nI T_.length) ou (nI (if dgG w_ T_ p_ = true then tsP T_ p_ else p_)) x_ so na nb fo nu al z be ke te ti ne wa ta out pl lo sh le)) ew_).mp hD
    clear ew_
    subst hQQ
    exact xe_i (v := nI 0) () hx hb hr hlocks hK hP hD hS (congrArg nI (by rw [hg]; first | rfl | (unfold tsV; rw [htw]; rfl))) dX3_testHere_42
  · skip
    refine lv_iload_n hx hb dX3_testHere_16 rfl (lv_at hl 0 rfl) ?_
    refine lv_iconst (v := nI 0) hx hb dX3_testHere_17 (by decide) ?_
    refine lv_bipush (v := nI 9) hx hb dX3_testHere_18 (by decide) ?_
    refine xc_i (xr_S (As := [.int ((nI (T_.getD p_ 0)) - (nI 48)), .int (nI 0), .int (nI 9)]) (rest := [.ref (q 0)]) (mt_X3_in l D ca ((nI (T_.getD p_ 0)) - (nI 48)) (nI 0) (nI 9)  H.size) ⟨hx, hb, hml, hown, hts⟩ (va_cwS 3 hts (lw_S q1700 q1701 q87 q1702) rfl rfl rfl (by decide +kernel) ⟨Nat.le_of_ble_eq_true rfl, Nat.le_of_ble_eq_true rfl⟩) Ev0_ok hE hK hS (Cut.app (wc := []) (wr := (WM ca q th st ik (nI T_.length) ou (nI p_) (bI w_) so na nb fo nu al z be ke te ti ne wa ta out pl lo sh le)) hP hD hS hA) rfl hl.1 rfl (Nat.le_of_ble_eq_true rfl) dX3_testHere_20 ⟨Nat.le_of_ble_eq_true rfl, Nat.le_of_ble_eq_true rfl⟩) hS (Cut.app (wc := []) (wr := (WM ca q th st ik (nI T_.length) ou (nI p_) (bI w_) so na nb fo nu al z be ke te ti ne wa ta out pl lo sh le)) hP hD hS hA) (fun r_4 u_5 H locs hq_20 hP hD hS => ?_)
    have hP : va_P D vwCl (WM ca q th st ik (nI T_.length) ou (nI p_) (bI w_) so na nb fo nu al z be ke te ti ne wa ta out pl lo sh le) H := hP
    have hD : va_D A (WM ca q th st ik (nI T_.length) ou (nI p_) (bI w_) so na nb fo nu al z be ke te ti ne wa ta out pl lo sh le) := hD
    have hp_20 : r_4 = bI (decide ((nI 0) ≤ ((nI (T_.getD p_ 0)) - (nI 48)) ∧ ((nI (T_.getD p_ 0)) - (nI 48)) ≤ (nI 9))) := hq_20
    clear hq_20
    obtain rfl := hp_20
    refine nv_ifb_ne (tgt := 30) hx hb dX3_testHere_23 (by decide) (fun c_23 => ?_) (fun c_23 => ?_)
    · skip
      rw [dg_in (hTx.2 p_)] at c_23
      have hg : dgG w_ T_ p_ = true := by unfold dgG; rw [c_13, c_23]; rfl
      have hpr : 48 ≤ T_.getD p_ 0 ∧ T_.getD p_ 0 ≤ 57 := of_decide_eq_true c_23
      refine lv_iconst (v := nI 0) hx hb dX3_testHere_30 (by decide) ?_
      refine pWM_0_isWrong_X3 hx hb hts hown hK hP hD hS rfl rfl dX3_testHere_31 (fun H locs hP hD hS => ?_)
      refine lv_aload_n hx hb dX3_testHere_34 rfl (lv_at hl 1 rfl) ?_
      refine gWM_0_isWrong_X3 hx hb hts hown hK hP dX3_testHere_35 ?_
      refine nv_if_eq (tgt := 43) hx hb dX3_testHere_38 (by decide) (by omega) (fun c_38 => ?_) (fun c_38 => absurd c_38 (by decide))
      have hl : lv_has ls 2 [(1, .int (nI (T_.getD p_ 0 - 48))), (0, .ref (q 0))] := (congrArg (fun x_ => lv_has ls 2 [(1, .int x_), (0, .ref (q 0))]) (show (nI (T_.getD p_ 0)) - (nI 48) = nI (T_.getD p_ 0 - 48) from pk_sub hpr.1)).mp hl
      refine lv_aload_n hx hb dX3_testHere_43 rfl (lv_at hl 1 rfl) ?_
      refine lv_dup hx hb dX3_testHere_44 rfl ?_
      refine gWM_0_at_X3 hx hb hts hown hK hP dX3_testHere_45 ?_
      refine lv_iconst (v := nI 1) hx hb dX3_testHere_48 (by decide) ?_
      refine nv_iadd hx hb dX3_testHere_49 ?_
      refine pWM_0_at_X3 hx hb hts hown hK hP hD hS dX3_testHere_50 (fun H locs hP hD hS => ?_)
      refine lv_iload_n hx hb dX3_testHere_53 rfl (lv_at hl 0 rfl) ?_
      refine nv_if_le (tgt := 111) hx hb dX3_testHere_54 (by decide) (by omega) (fun c_54 => ?_) (fun c_54 => ?_)
      · skip
        have htw : tw T_ p_ = false := by unfold tw; rw [decide_eq_false (by omega)]; rfl
        refine lv_iload_n hx hb dX3_testHere_111 rfl (lv_at hl 0 rfl) ?_
        have ew_ : nI (p_ + 1) = nI (if dgG w_ T_ p_ = true then tsP T_ p_ else p_) := congrArg nI (by rw [hg]; first | rfl | (unfold tsP; rw [htw]; rfl))
        have hP : va_P D vwCl (WM ca q th st ik (nI T_.length) ou (nI (if dgG w_ T_ p_ = true then tsP T_ p_ else p_)) (nI 0) so na nb fo nu al z be ke te ti ne wa ta out pl lo sh le) H := (congrArg (fun x_ => va_P D vwCl (WM ca q th st ik (nI T_.length) ou x_ (nI 0) so na nb fo nu al z be ke te ti ne wa ta out pl lo sh le) H) ew_).mp hP
        have hD : va_D A (WM ca q th st ik (nI T_.length) ou (nI (if dgG w_ T_ p_ = true then tsP T_ p_ else p_)) (nI 0) so na nb fo nu al z be ke te ti ne wa ta out pl lo sh le) := (congrArg (fun x_ => va_D A (WM ca q th st ik (nI T_.length) ou x_ (nI 0) so na nb fo nu al z be ke te ti ne wa ta out pl lo sh le)) ew_).mp hD
        clear ew_
        have ew_ : nI 0 = bI (!dgG w_ T_ p_) := show bI false = _ from congrArg bI (by rw [hg]; rfl)
        have hP : va_P D vwCl (WM ca q th st ik (nI T_.length) ou (nI (if dgG w_ T_ p_ = true then tsP T_ p_ else p_)) (bI (!dgG w_ T_ p_)) so na nb fo nu al z be ke te ti ne wa ta out pl lo sh le) H := (congrArg (fun x_ => va_P D vwCl (WM ca q th st ik (nI T_.length) ou (nI (if dgG w_ T_ p_ = true then tsP T_ p_ else p_)) x_ so na nb fo nu al z be ke te ti ne wa ta out pl lo sh le) H) ew_).mp hP
        have hD : va_D A (WM ca q th st ik (nI T_.length) ou (nI (if dgG w_ T_ p_ = true then tsP T_ p_ else p_)) (bI (!dgG w_ T_ p_)) so na nb fo nu al z be ke te ti ne wa ta out pl lo sh le) := (congrArg (fun x_ => va_D A (WM ca q th st ik (nI T_.length) ou (nI (if dgG w_ T_ p_ = true then tsP T_ p_ else p_)) x_ so na nb fo nu al z be ke te ti ne wa ta out pl lo sh le)) ew_).mp hD
        clear ew_
        subst hQQ
        exact xe_i (v := nI (T_.getD p_ 0 - 48)) () hx hb hr hlocks hK hP hD hS (congrArg nI (by rw [hg]; first | rfl | (unfold tsV; rw [htw]; rfl))) dX3_testHere_112
      · skip
        refine lv_aload_n hx hb dX3_testHere_57 rfl (lv_at hl 1 rfl) ?_
        refine xc_i (xr_V (b := q 0) (ci := 2) (q0 := 0) (As := []) (rest := []) (mt_X3_here l D ca q th st ik ou (nI 0) so na nb fo nu al z be ke te ti ne wa ta out pl lo sh le T_ (p_ + 1) (by first | assumption | omega | (simp only [updN, forgetC, changedC]; (repeat' split) <;> omega)) (by first | assumption | omega | (simp only [updN, forgetC, changedC]; (repeat' split) <;> omega)) (by first | assumption | omega | (simp only [updN, forgetC, changedC]; (repeat' split) <;> omega)) H.size) ⟨hx, hb, hml, hown, hts⟩ (cwV 0 hts (lw_V q1883 q1885 qs72 q87 q1886) rfl rfl rfl (by decide +kernel) ⟨Nat.le_of_ble_eq_true rfl, Nat.le_of_ble_eq_true rfl⟩) Ev0_ok hE hK hS (Cut.all hP hD hS hA) rfl rfl rfl hl.1 rfl (Nat.le_of_ble_eq_true rfl) dX3_testHere_58 ⟨Nat.le_of_ble_eq_true rfl, Nat.le_of_ble_eq_true rfl⟩) hS (Cut.all hP hD hS hA) (fun r_8 u_9 H locs hq_58 hP hD hS => ?_)
        have hP : va_P D vwCl (WM ca q th st ik (nI T_.length) ou (nI (p_ + 1)) (nI 0) so na nb fo nu al z be ke te ti ne wa ta out pl lo sh le) H := hP
        have hD : va_D A (WM ca q th st ik (nI T_.length) ou (nI (p_ + 1)) (nI 0) so na nb fo nu al z be ke te ti ne wa ta out pl lo sh le) := hD
        have hp_58 : r_8 = nI (T_.getD (p_ + 1) 0) := hq_58
        clear hq_58
        obtain rfl := hp_58
        refine lv_bipush (v := nI 48) hx hb dX3_testHere_61 (by decide) ?_
        refine lv_bipush (v := nI 57) hx hb dX3_testHere_63 (by decide) ?_
        refine xc_i (xr_S (As := [.int (nI (T_.getD (p_ + 1) 0)), .int (nI 48), .int (nI 57)]) (rest := []) (mt_X3_in l D ca (nI (T_.getD (p_ + 1) 0)) (nI 48) (nI 57)  H.size) ⟨hx, hb, hml, hown, hts⟩ (va_cwS 3 hts (lw_S q1700 q1701 q87 q1702) rfl rfl rfl (by decide +kernel) ⟨Nat.le_of_ble_eq_true rfl, Nat.le_of_ble_eq_true rfl⟩) Ev0_ok hE hK hS (Cut.app (wc := []) (wr := (WM ca q th st ik (nI T_.length) ou (nI (p_ + 1)) (nI 0) so na nb fo nu al z be ke te ti ne wa ta out pl lo sh le)) hP hD hS hA) rfl hl.1 rfl (Nat.le_of_ble_eq_true rfl) dX3_testHere_65 ⟨Nat.le_of_ble_eq_true rfl, Nat.le_of_ble_eq_true rfl⟩) hS (Cut.app (wc := []) (wr := (WM ca q th st ik (nI T_.length) ou (nI (p_ + 1)) (nI 0) so na nb fo nu al z be ke te ti ne wa ta out pl lo sh le)) hP hD hS hA) (fun r_10 u_11 H locs hq_65 hP hD hS => ?_)
        have hP : va_P D vwCl (WM ca q th st ik (nI T_.length) ou (nI (p_ + 1)) (nI 0) so na nb fo nu al z be ke te ti ne wa ta out pl lo sh le) H := hP
        have hD : va_D A (WM ca q th st ik (nI T_.length) ou (nI (p_ + 1)) (nI 0) so na nb fo nu al z be ke te ti ne wa ta out pl lo sh le) := hD
        have hp_65 : r_10 = bI (decide ((nI 48) ≤ (nI (T_.getD (p_ + 1) 0)) ∧ (nI (T_.getD (p_ + 1) 0)) ≤ (nI 57))) := hq_65
        clear hq_65
        obtain rfl := hp_65
        refine nv_ifb_eq (tgt := 111) hx hb dX3_testHere_68 (by decide) (fun c_68 => ?_) (fun c_68 => ?_)
        · skip
          rw [in_rng (by decide) (by decide) (by have := hTx.2 (p_ + 1); omega)] at c_68
          have htw : tw T_ p_ = false := by unfold tw dgB; rw [c_68]; simp
          refine lv_iload_n hx hb dX3_testHere_111 rfl (lv_at hl 0 rfl) ?_
          have ew_ : nI (p_ + 1) = nI (if dgG w_ T_ p_ = true then tsP T_ p_ else p_) := congrArg nI (by rw [hg]; first | rfl | (unfold tsP; rw [htw]; rfl))
          have hP : va_P D vwCl (WM ca q th st ik (nI T_.length) ou (nI (if dgG w_ T_ p_ = true then tsP T_ p_ else p_)) (nI 0) so na nb fo nu al z be ke te ti ne wa ta out pl lo sh le) H := (congrArg (fun x_ => va_P D vwCl (WM ca q th st ik (nI T_.length) ou x_ (nI 0) so na nb fo nu al z be ke te ti ne wa ta out pl lo sh le) H) ew_).mp hP
          have hD : va_D A (WM ca q th st ik (nI T_.length) ou (nI (if dgG w_ T_ p_ = true then tsP T_ p_ else p_)) (nI 0) so na nb fo nu al z be ke te ti ne wa ta out pl lo sh le) := (congrArg (fun x_ => va_D A (WM ca q th st ik (nI T_.length) ou x_ (nI 0) so na nb fo nu al z be ke te ti ne wa ta out pl lo sh le)) ew_).mp hD
          clear ew_
          have ew_ : nI 0 = bI (!dgG w_ T_ p_) := show bI false = _ from congrArg bI (by rw [hg]; rfl)
          have hP : va_P D vwCl (WM ca q th st ik (nI T_.length) ou (nI (if dgG w_ T_ p_ = true then tsP T_ p_ else p_)) (bI (!dgG w_ T_ p_)) so na nb fo nu al z be ke te ti ne wa ta out pl lo sh le) H := (congrArg (fun x_ => va_P D vwCl (WM ca q th st ik (nI T_.length) ou (nI (if dgG w_ T_ p_ = true then tsP T_ p_ else p_)) x_ so na nb fo nu al z be ke te ti ne wa ta out pl lo sh le) H) ew_).mp hP
          have hD : va_D A (WM ca q th st ik (nI T_.length) ou (nI (if dgG w_ T_ p_ = true then tsP T_ p_ else p_)) (bI (!dgG w_ T_ p_)) so na nb fo nu al z be ke te ti ne wa ta out pl lo sh le) := (congrArg (fun x_ => va_D A (WM ca q th st ik (nI T_.length) ou (nI (if dgG w_ T_ p_ = true then tsP T_ p_ else p_)) x_ so na nb fo nu al z be ke te ti ne wa ta out pl lo sh le)) ew_).mp hD
          clear ew_
          subst hQQ
          exact xe_i (v := nI (T_.getD p_ 0 - 48)) () hx hb hr hlocks hK hP hD hS (congrArg nI (by rw [hg]; first | rfl | (unfold tsV; rw [htw]; rfl))) dX3_testHere_112
        · skip
          rw [in_rng (by decide) (by decide) (by have := hTx.2 (p_ + 1); omega)] at c_68
          have hpr2 := of_decide_eq_true c_68
          refine lv_bipush (v := nI 10) hx hb dX3_testHere_71 (by decide) ?_
          refine lv_iload_n hx hb dX3_testHere_73 rfl (lv_at hl 0 rfl) ?_
          refine nv_imul hx hb dX3_testHere_74 ?_
          refine lv_aload_n hx hb dX3_testHere_75 rfl (lv_at hl 1 rfl) ?_
          refine xc_i (xr_V (b := q 0) (ci := 2) (q0 := 0) (As := []) (rest := [.int (nI (10 * (T_.getD p_ 0 - 48)))]) (mt_X3_here l D ca q th st ik ou (nI 0) so na nb fo nu al z be ke te ti ne wa ta out pl lo sh le T_ (p_ + 1) (by first | assumption | omega | (simp only [updN, forgetC, changedC]; (repeat' split) <;> omega)) (by first | assumption | omega | (simp only [updN, forgetC, changedC]; (repeat' split) <;> omega)) (by first | assumption | omega | (simp only [updN, forgetC, changedC]; (repeat' split) <;> omega)) H.size) ⟨hx, hb, hml, hown, hts⟩ (cwV 0 hts (lw_V q1883 q1885 qs72 q87 q1886) rfl rfl rfl (by decide +kernel) ⟨Nat.le_of_ble_eq_true rfl, Nat.le_of_ble_eq_true rfl⟩) Ev0_ok hE hK hS (Cut.all hP hD hS hA) rfl rfl rfl hl.1 rfl (Nat.le_of_ble_eq_true rfl) dX3_testHere_76 ⟨Nat.le_of_ble_eq_true rfl, Nat.le_of_ble_eq_true rfl⟩) hS (Cut.all hP hD hS hA) (fun r_13 u_14 H locs hq_76 hP hD hS => ?_)
          have hP : va_P D vwCl (WM ca q th st ik (nI T_.length) ou (nI (p_ + 1)) (nI 0) so na nb fo nu al z be ke te ti ne wa ta out pl lo sh le) H := hP
          have hD : va_D A (WM ca q th st ik (nI T_.length) ou (nI (p_ + 1)) (nI 0) so na nb fo nu al z be ke te ti ne wa ta out pl lo sh le) := hD
          have hp_76 : r_13 = nI (T_.getD (p_ + 1) 0) := hq_76
          clear hq_76
          obtain rfl := hp_76
          refine nv_iadd hx hb dX3_testHere_79 ?_
          refine lv_bipush (v := nI 48) hx hb dX3_testHere_80 (by decide) ?_
          refine nv_isub hx hb dX3_testHere_82 (by have := hpr2.1; omega) ?_
          refine lv_bipush (v := nI 64) hx hb dX3_testHere_83 (by decide) ?_
          refine nv_icmp_ge (tgt := 111) hx hb dX3_testHere_85 (by decide) (by have := hTx.2 (p_ + 1); omega) (by omega) (fun c_85 => ?_) (fun c_85 => ?_)
          · skip
            have htw : tw T_ p_ = false := by unfold tw; rw [decide_eq_false (show ¬ 10 * (T_.getD p_ 0 - 48) + T_.getD (p_ + 1) 0 < 112 by omega)]; simp
            refine lv_iload_n hx hb dX3_testHere_111 rfl (lv_at hl 0 rfl) ?_
            have ew_ : nI (p_ + 1) = nI (if dgG w_ T_ p_ = true then tsP T_ p_ else p_) := congrArg nI (by rw [hg]; first | rfl | (unfold tsP; rw [htw]; rfl))
            have hP : va_P D vwCl (WM ca q th st ik (nI T_.length) ou (nI (if dgG w_ T_ p_ = true then tsP T_ p_ else p_)) (nI 0) so na nb fo nu al z be ke te ti ne wa ta out pl lo sh le) H := (congrArg (fun x_ => va_P D vwCl (WM ca q th st ik (nI T_.length) ou x_ (nI 0) so na nb fo nu al z be ke te ti ne wa ta out pl lo sh le) H) ew_).mp hP
            have hD : va_D A (WM ca q th st ik (nI T_.length) ou (nI (if dgG w_ T_ p_ = true then tsP T_ p_ else p_)) (nI 0) so na nb fo nu al z be ke te ti ne wa ta out pl lo sh le) := (congrArg (fun x_ => va_D A (WM ca q th st ik (nI T_.length) ou x_ (nI 0) so na nb fo nu al z be ke te ti ne wa ta out pl lo sh le)) ew_).mp hD
            clear ew_
            have ew_ : nI 0 = bI (!dgG w_ T_ p_) := show bI false = _ from congrArg bI (by rw [hg]; rfl)
            have hP : va_P D vwCl (WM ca q th st ik (nI T_.length) ou (nI (if dgG w_ T_ p_ = true then tsP T_ p_ else p_)) (bI (!dgG w_ T_ p_)) so na nb fo nu al z be ke te ti ne wa ta out pl lo sh le) H := (congrArg (fun x_ => va_P D vwCl (WM ca q th st ik (nI T_.length) ou (nI (if dgG w_ T_ p_ = true then tsP T_ p_ else p_)) x_ so na nb fo nu al z be ke te ti ne wa ta out pl lo sh le) H) ew_).mp hP
            have hD : va_D A (WM ca q th st ik (nI T_.length) ou (nI (if dgG w_ T_ p_ = true then tsP T_ p_ else p_)) (bI (!dgG w_ T_ p_)) so na nb fo nu al z be ke te ti ne wa ta out pl lo sh le) := (congrArg (fun x_ => va_D A (WM ca q th st ik (nI T_.length) ou (nI (if dgG w_ T_ p_ = true then tsP T_ p_ else p_)) x_ so na nb fo nu al z be ke te ti ne wa ta out pl lo sh le)) ew_).mp hD
            clear ew_
            subst hQQ
            exact xe_i (v := nI (T_.getD p_ 0 - 48)) () hx hb hr hlocks hK hP hD hS (congrArg nI (by rw [hg]; first | rfl | (unfold tsV; rw [htw]; rfl))) dX3_testHere_112
          · skip
            have htw : tw T_ p_ = true := by unfold tw dgB; rw [c_68, decide_eq_true (show 10 * (T_.getD p_ 0 - 48) + T_.getD (p_ + 1) 0 < 112 by omega), decide_eq_true (show 48 < T_.getD p_ 0 by omega)]; rfl
            refine lv_bipush (v := nI 10) hx hb dX3_testHere_88 (by decide) ?_
            refine lv_iload_n hx hb dX3_testHere_90 rfl (lv_at hl 0 rfl) ?_
            refine nv_imul hx hb dX3_testHere_91 ?_
            refine lv_aload_n hx hb dX3_testHere_92 rfl (lv_at hl 1 rfl) ?_
            refine xc_i (xr_V (b := q 0) (ci := 2) (q0 := 0) (As := []) (rest := [.int (nI (10 * (T_.getD p_ 0 - 48)))]) (mt_X3_here l D ca q th st ik ou (nI 0) so na nb fo nu al z be ke te ti ne wa ta out pl lo sh le T_ (p_ + 1) (by first | assumption | omega | (simp only [updN, forgetC, changedC]; (repeat' split) <;> omega)) (by first | assumption | omega | (simp only [updN, forgetC, changedC]; (repeat' split) <;> omega)) (by first | assumption | omega | (simp only [updN, forgetC, changedC]; (repeat' split) <;> omega)) H.size) ⟨hx, hb, hml, hown, hts⟩ (cwV 0 hts (lw_V q1883 q1885 qs72 q87 q1886) rfl rfl rfl (by decide +kernel) ⟨Nat.le_of_ble_eq_true rfl, Nat.le_of_ble_eq_true rfl⟩) Ev0_ok hE hK hS (Cut.all hP hD hS hA) rfl rfl rfl hl.1 rfl (Nat.le_of_ble_eq_true rfl) dX3_testHere_93 ⟨Nat.le_of_ble_eq_true rfl, Nat.le_of_ble_eq_true rfl⟩) hS (Cut.all hP hD hS hA) (fun r_16 u_17 H locs hq_93 hP hD hS => ?_)
            have hP : va_P D vwCl (WM ca q th st ik (nI T_.length) ou (nI (p_ + 1)) (nI 0) so na nb fo nu al z be ke te ti ne wa ta out pl lo sh le) H := hP
            have hD : va_D A (WM ca q th st ik (nI T_.length) ou (nI (p_ + 1)) (nI 0) so na nb fo nu al z be ke te ti ne wa ta out pl lo sh le) := hD
            have hp_93 : r_16 = nI (T_.getD (p_ + 1) 0) := hq_93
            clear hq_93
            obtain rfl := hp_93
            refine nv_iadd hx hb dX3_testHere_96 ?_
            refine lv_bipush (v := nI 48) hx hb dX3_testHere_97 (by decide) ?_
            refine nv_isub hx hb dX3_testHere_99 (by have := hpr2.1; omega) ?_
            refine lv_istore_n (lv' := [(1, .int (nI (((10 * (T_.getD p_ 0 - 48)) + (T_.getD (p_ + 1) 0)) - 48))), (0, .ref (q 0))]) hx hb dX3_testHere_100 rfl hl (by decide) rfl (fun ls hl => ?_)
            refine lv_aload_n hx hb dX3_testHere_101 rfl (lv_at hl 1 rfl) ?_
            refine lv_dup hx hb dX3_testHere_102 rfl ?_
            refine gWM_0_at_X3 hx hb hts hown hK hP dX3_testHere_103 ?_
            refine lv_iconst (v := nI 1) hx hb dX3_testHere_106 (by decide) ?_
            refine nv_iadd hx hb dX3_testHere_107 ?_
            refine pWM_0_at_X3 hx hb hts hown hK hP hD hS dX3_testHere_108 (fun H locs hP hD hS => ?_)
            refine lv_iload_n hx hb dX3_testHere_111 rfl (lv_at hl 0 rfl) ?_
            have ew_ : nI ((p_ + 1) + 1) = nI (if dgG w_ T_ p_ = true then tsP T_ p_ else p_) := congrArg nI (by rw [hg]; first | rfl | (unfold tsP; rw [htw]; rfl))
            have hP : va_P D vwCl (WM ca q th st ik (nI T_.length) ou (nI (if dgG w_ T_ p_ = true then tsP T_ p_ else p_)) (nI 0) so na nb fo nu al z be ke te ti ne wa ta out pl lo sh le) H := (congrArg (fun x_ => va_P D vwCl (WM ca q th st ik (nI T_.length) ou x_ (nI 0) so na nb fo nu al z be ke te ti ne wa ta out pl lo sh le) H) ew_).mp hP
            have hD : va_D A (WM ca q th st ik (nI T_.length) ou (nI (if dgG w_ T_ p_ = true then tsP T_ p_ else p_)) (nI 0) so na nb fo nu al z be ke te ti ne wa ta out pl lo sh le) := (congrArg (fun x_ => va_D A (WM ca q th st ik (nI T_.length) ou x_ (nI 0) so na nb fo nu al z be ke te ti ne wa ta out pl lo sh le)) ew_).mp hD
            clear ew_
            have ew_ : nI 0 = bI (!dgG w_ T_ p_) := show bI false = _ from congrArg bI (by rw [hg]; rfl)
            have hP : va_P D vwCl (WM ca q th st ik (nI T_.length) ou (nI (if dgG w_ T_ p_ = true then tsP T_ p_ else p_)) (bI (!dgG w_ T_ p_)) so na nb fo nu al z be ke te ti ne wa ta out pl lo sh le) H := (congrArg (fun x_ => va_P D vwCl (WM ca q th st ik (nI T_.length) ou (nI (if dgG w_ T_ p_ = true then tsP T_ p_ else p_)) x_ so na nb fo nu al z be ke te ti ne wa ta out pl lo sh le) H) ew_).mp hP
            have hD : va_D A (WM ca q th st ik (nI T_.length) ou (nI (if dgG w_ T_ p_ = true then tsP T_ p_ else p_)) (bI (!dgG w_ T_ p_)) so na nb fo nu al z be ke te ti ne wa ta out pl lo sh le) := (congrArg (fun x_ => va_D A (WM ca q th st ik (nI T_.length) ou (nI (if dgG w_ T_ p_ = true then tsP T_ p_ else p_)) x_ so na nb fo nu al z be ke te ti ne wa ta out pl lo sh le)) ew_).mp hD
            clear ew_
            subst hQQ
            exact xe_i (v := nI (((10 * (T_.getD p_ 0 - 48)) + (T_.getD (p_ + 1) 0)) - 48)) () hx hb hr hlocks hK hP hD hS (congrArg nI (by rw [hg]; first | rfl | (unfold tsV; rw [htw]; rfl))) dX3_testHere_112
    · skip
      rw [dg_in (hTx.2 p_)] at c_23
      have hg : dgG w_ T_ p_ = false := by unfold dgG; rw [c_13, c_23]; rfl
      refine lv_iconst (v := nI 1) hx hb dX3_testHere_26 (by decide) ?_
      refine lv_goto (tgt := 31) hx hb dX3_testHere_27 (by decide) ?_
      refine pWM_0_isWrong_X3 hx hb hts hown hK hP hD hS rfl rfl dX3_testHere_31 (fun H locs hP hD hS => ?_)
      refine lv_aload_n hx hb dX3_testHere_34 rfl (lv_at hl 1 rfl) ?_
      refine gWM_0_isWrong_X3 hx hb hts hown hK hP dX3_testHere_35 ?_
      refine nv_if_eq (tgt := 43) hx hb dX3_testHere_38 (by decide) (by omega) (fun c_38 => absurd c_38 (by decide)) (fun c_38 => ?_)
      refine lv_iconst (v := nI 0) hx hb dX3_testHere_41 (by decide) ?_
      have ew_ : nI p_ = nI (if dgG w_ T_ p_ = true then tsP T_ p_ else p_) := congrArg nI (by rw [hg]; first | rfl | (unfold tsP; rw [htw]; rfl))
      have hP : va_P D vwCl (WM ca q th st ik (nI T_.length) ou (nI (if dgG w_ T_ p_ = true then tsP T_ p_ else p_)) (nI 1) so na nb fo nu al z be ke te ti ne wa ta out pl lo sh le) H := (congrArg (fun x_ => va_P D vwCl (WM ca q th st ik (nI T_.length) ou x_ (nI 1) so na nb fo nu al z be ke te ti ne wa ta out pl lo sh le) H) ew_).mp hP
      have hD : va_D A (WM ca q th st ik (nI T_.length) ou (nI (if dgG w_ T_ p_ = true then tsP T_ p_ else p_)) (nI 1) so na nb fo nu al z be ke te ti ne wa ta out pl lo sh le) := (congrArg (fun x_ => va_D A (WM ca q th st ik (nI T_.length) ou x_ (nI 1) so na nb fo nu al z be ke te ti ne wa ta out pl lo sh le)) ew_).mp hD
      clear ew_
      have ew_ : nI 1 = bI (!dgG w_ T_ p_) := show bI true = _ from congrArg bI (by rw [hg]; rfl)
      have hP : va_P D vwCl (WM ca q th st ik (nI T_.length) ou (nI (if dgG w_ T_ p_ = true then tsP T_ p_ else p_)) (bI (!dgG w_ T_ p_)) so na nb fo nu al z be ke te ti ne wa ta out pl lo sh le) H := (congrArg (fun x_ => va_P D vwCl (WM ca q th st ik (nI T_.length) ou (nI (if dgG w_ T_ p_ = true then tsP T_ p_ else p_)) x_ so na nb fo nu al z be ke te ti ne wa ta out pl lo sh le) H) ew_).mp hP
      have hD : va_D A (WM ca q th st ik (nI T_.length) ou (nI (if dgG w_ T_ p_ = true then tsP T_ p_ else p_)) (bI (!dgG w_ T_ p_)) so na nb fo nu al z be ke te ti ne wa ta out pl lo sh le) := (congrArg (fun x_ => va_D A (WM ca q th st ik (nI T_.length) ou (nI (if dgG w_ T_ p_ = true then tsP T_ p_ else p_)) x_ so na nb fo nu al z be ke te ti ne wa ta out pl lo sh le)) ew_).mp hD
      clear ew_
      subst hQQ
      exact xe_i (v := nI 0) () hx hb hr hlocks hK hP hD hS (congrArg nI (by rw [hg]; first | rfl | (unfold tsV; rw [htw]; rfl))) dX3_testHere_42
set_option maxHeartbeats 4000000 in
set_option maxRecDepth 100000 in
theorem mt_X3_kindFor (l : Launch) (D : va_G) (ca : Nat → ClassId) (c_ : Nat) (hc : c_ ≤ 126) (nn : Nat) : Met l yX3_kindFor (ws_ yX3_kindFor cX3_kindFor 1 (Option.some Jvm.ClassFile.FieldType.int)) ({ frames := 0, cells := 0, slots := 0, locals := 0 } : Room) (va_Pc [.int (nI c_)] (PreW Ev0 D vwCl (TY ca) ([] : va_W) nn)) (va_Qi (fun (r_ : Int32) (_ : Unit) => r_ = fI (kf c_)) (PostW D vwCl (TY ca) (fun (_ : Unit) => ([] : va_W)) (va_A ([] : va_W) nn)) (va_A ([] : va_W) nn)) 0 0 (va_A ([] : va_W) nn) := by
  refine met_go (QA := fun A => va_Qi (fun (r_ : Int32) (_ : Unit) => r_ = fI (kf c_)) (PostW D vwCl (TY ca) (fun (_ : Unit) => ([] : va_W)) A) A) (by decide) (Nat.le_of_ble_eq_true rfl) (fun p e s m below meth c A ls QQ hQQ hx hb hr hts hown hlocks hml hA hP hK hD hE hl => ?_)
  have hown : s.vm.findClass RX3 = some m.cls := hown
  have hS : va_S A s.heap s.heap [] := va_S.rf
  have hl : lv_has ls 1 [(0, .int (nI c_))] := hl
  generalize hHe : s.heap = H at hP ⊢
  have hS : va_S A s.heap H [] := hHe ▸ hS
  generalize ([] : List Loc) = locs at hS ⊢
  refine lv_iload_n hx hb dX3_kindFor_0 rfl (lv_at hl 0 rfl) ?_
  refine lv_bipush (v := nI 65) hx hb dX3_kindFor_1 (by decide) ?_
  refine nv_icmp_ne (tgt := 10) hx hb dX3_kindFor_3 (by decide) (by omega) (by omega) (fun c_3 => ?_) (fun c_3 => ?_)
  · skip
    refine lv_iload_n hx hb dX3_kindFor_10 rfl (lv_at hl 0 rfl) ?_
    refine lv_bipush (v := nI 79) hx hb dX3_kindFor_11 (by decide) ?_
    refine nv_icmp_ne (tgt := 20) hx hb dX3_kindFor_13 (by decide) (by omega) (by omega) (fun c_13 => ?_) (fun c_13 => ?_)
    · skip
      refine lv_iload_n hx hb dX3_kindFor_20 rfl (lv_at hl 0 rfl) ?_
      refine lv_bipush (v := nI 88) hx hb dX3_kindFor_21 (by decide) ?_
      refine nv_icmp_ne (tgt := 30) hx hb dX3_kindFor_23 (by decide) (by omega) (by omega) (fun c_23 => ?_) (fun c_23 => ?_)
      · skip
        refine lv_iload_n hx hb dX3_kindFor_30 rfl (lv_at hl 0 rfl) ?_
        refine lv_bipush (v := nI 78) hx hb dX3_kindFor_31 (by decide) ?_
        refine nv_icmp_ne (tgt := 40) hx hb dX3_kindFor_33 (by decide) (by omega) (by omega) (fun c_33 => ?_) (fun c_33 => ?_)
        · skip
          refine lv_iload_n hx hb dX3_kindFor_40 rfl (lv_at hl 0 rfl) ?_
          refine lv_bipush (v := nI 82) hx hb dX3_kindFor_41 (by decide) ?_
          refine nv_icmp_ne (tgt := 50) hx hb dX3_kindFor_43 (by decide) (by omega) (by omega) (fun c_43 => ?_) (fun c_43 => ?_)
          · skip
            refine lv_iload_n hx hb dX3_kindFor_50 rfl (lv_at hl 0 rfl) ?_
            refine lv_bipush (v := nI 83) hx hb dX3_kindFor_51 (by decide) ?_
            refine nv_icmp_ne (tgt := 60) hx hb dX3_kindFor_53 (by decide) (by omega) (by omega) (fun c_53 => ?_) (fun c_53 => ?_)
            · skip
              refine lv_iload_n hx hb dX3_kindFor_60 rfl (lv_at hl 0 rfl) ?_
              refine lv_bipush (v := nI 73) hx hb dX3_kindFor_61 (by decide) ?_
              refine nv_icmp_ne (tgt := 71) hx hb dX3_kindFor_63 (by decide) (by omega) (by omega) (fun c_63 => ?_) (fun c_63 => ?_)
              · skip
                refine lv_iload_n hx hb dX3_kindFor_71 rfl (lv_at hl 0 rfl) ?_
                refine lv_bipush (v := nI 67) hx hb dX3_kindFor_72 (by decide) ?_
                refine nv_icmp_ne (tgt := 82) hx hb dX3_kindFor_74 (by decide) (by omega) (by omega) (fun c_74 => ?_) (fun c_74 => ?_)
                · skip
                  refine lv_iconst (v := fI 0) hx hb dX3_kindFor_82 (by decide) ?_
                  subst hQQ
                  exact xe_i (v := fI 0) () hx hb hr hlocks hK hP hD hS (by rw [show kf c_ = 0 from by unfold kf; (repeat' split) <;> omega]) dX3_kindFor_83
                · skip
                  refine lv_bipush (v := nI 7) hx hb dX3_kindFor_77 (by decide) ?_
                  refine lv_goto (tgt := 83) hx hb dX3_kindFor_79 (by decide) ?_
                  subst hQQ
                  exact xe_i (v := nI 7) () hx hb hr hlocks hK hP hD hS (by rw [show kf c_ = 8 from by unfold kf; (repeat' split) <;> omega]; rfl) dX3_kindFor_83
              · skip
                refine lv_bipush (v := nI 6) hx hb dX3_kindFor_66 (by decide) ?_
                refine lv_goto (tgt := 83) hx hb dX3_kindFor_68 (by decide) ?_
                subst hQQ
                exact xe_i (v := nI 6) () hx hb hr hlocks hK hP hD hS (by rw [show kf c_ = 7 from by unfold kf; (repeat' split) <;> omega]; rfl) dX3_kindFor_83
            · skip
              refine lv_iconst (v := nI 5) hx hb dX3_kindFor_56 (by decide) ?_
              refine lv_goto (tgt := 83) hx hb dX3_kindFor_57 (by decide) ?_
              subst hQQ
              exact xe_i (v := nI 5) () hx hb hr hlocks hK hP hD hS (by rw [show kf c_ = 6 from by unfold kf; (repeat' split) <;> omega]; rfl) dX3_kindFor_83
          · skip
            refine lv_iconst (v := nI 4) hx hb dX3_kindFor_46 (by decide) ?_
            refine lv_goto (tgt := 83) hx hb dX3_kindFor_47 (by decide) ?_
            subst hQQ
            exact xe_i (v := nI 4) () hx hb hr hlocks hK hP hD hS (by rw [show kf c_ = 5 from by unfold kf; (repeat' split) <;> omega]; rfl) dX3_kindFor_83
        · skip
          refine lv_iconst (v := nI 3) hx hb dX3_kindFor_36 (by decide) ?_
          refine lv_goto (tgt := 83) hx hb dX3_kindFor_37 (by decide) ?_
          subst hQQ
          exact xe_i (v := nI 3) () hx hb hr hlocks hK hP hD hS (by rw [show kf c_ = 4 from by unfold kf; (repeat' split) <;> omega]; rfl) dX3_kindFor_83
      · skip
        refine lv_iconst (v := nI 2) hx hb dX3_kindFor_26 (by decide) ?_
        refine lv_goto (tgt := 83) hx hb dX3_kindFor_27 (by decide) ?_
        subst hQQ
        exact xe_i (v := nI 2) () hx hb hr hlocks hK hP hD hS (by rw [show kf c_ = 3 from by unfold kf; (repeat' split) <;> omega]; rfl) dX3_kindFor_83
    · skip
      refine lv_iconst (v := nI 1) hx hb dX3_kindFor_16 (by decide) ?_
      refine lv_goto (tgt := 83) hx hb dX3_kindFor_17 (by decide) ?_
      subst hQQ
      exact xe_i (v := nI 1) () hx hb hr hlocks hK hP hD hS (by rw [show kf c_ = 2 from by unfold kf; (repeat' split) <;> omega]; rfl) dX3_kindFor_83
  · skip
    refine lv_iconst (v := nI 0) hx hb dX3_kindFor_6 (by decide) ?_
    refine lv_goto (tgt := 83) hx hb dX3_kindFor_7 (by decide) ?_
    subst hQQ
    exact xe_i (v := nI 0) () hx hb hr hlocks hK hP hD hS (by rw [show kf c_ = 1 from by unfold kf; (repeat' split) <;> omega]; rfl) dX3_kindFor_83
