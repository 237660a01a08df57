/-! the circuit's constructors -/
set_option maxRecDepth 100000
set_option maxHeartbeats 400000 in
set_option maxRecDepth 100000 in
theorem mt_X2_init_2 (l : Launch) (D : va_G) (ca : Nat → ClassId) (n_ : Nat) (b_ : Nat) (g_ : Nat → Int32) (hg0 : g_ 0 = nI 12) (hg1 : g_ 1 = nI 12) (nn : Nat) : Met l yX2_init_2 (ws_ yX2_init_2 cX2_init_2 2 (Option.none : Option Jvm.ClassFile.FieldType)) ({ frames := 1, cells := 4, slots := 48, locals := 40 } : Room) (va_Pc [.ref n_, .ref b_] (PreW EvX D vwCl (TY ca) (fl [[(n_, .inr (1, [.null, .null, .null, .null, .int 0, .int 0, .int 0, .int 0, .int 0, .long 0, .int 0]))], [(b_, .inl (ca 0, 2, .inl (g_)))]]) nn)) (va_Qv (fun (u_ : Nat × Nat × Nat × Nat) => True) (PostW D vwCl (TY ca) (fun (u_ : Nat × Nat × Nat × Nat) => (fl [(WC ca (nq5 n_ u_.1 u_.2.1 u_.2.2.1 u_.2.2.2) (fun _ => 0) (fun _ => 0) (fun _ => 0) (fun _ => 0) 0 0 0 (fI 0) 0 (lN 0) 0)])) (va_A (fl [[(n_, .inr (1, [.null, .null, .null, .null, .int 0, .int 0, .int 0, .int 0, .int 0, .long 0, .int 0]))], [(b_, .inl (ca 0, 2, .inl (g_)))]]) nn)) (va_A (fl [[(n_, .inr (1, [.null, .null, .null, .null, .int 0, .int 0, .int 0, .int 0, .int 0, .long 0, .int 0]))], [(b_, .inl (ca 0, 2, .inl (g_)))]]) nn)) 4 48 (va_A (fl [[(n_, .inr (1, [.null, .null, .null, .null, .int 0, .int 0, .int 0, .int 0, .int 0, .long 0, .int 0]))], [(b_, .inl (ca 0, 2, .inl (g_)))]]) nn) := by
  refine met_go2 (QA := fun A => va_Qv (fun (u_ : Nat × Nat × Nat × Nat) => True) (PostW D vwCl (TY ca) (fun (u_ : Nat × Nat × Nat × Nat) => (fl [(WC ca (nq5 n_ u_.1 u_.2.1 u_.2.2.1 u_.2.2.2) (fun _ => 0) (fun _ => 0) (fun _ => 0) (fun _ => 0) 0 0 0 (fI 0) 0 (lN 0) 0)])) A) A) (by decide) (Nat.le_of_ble_eq_true rfl) (fun p e s m below meth c A ls QQ hQQ hmn hnm hx hb hr hts hown hlocks hml hA hP hK hD hE hl => ?_)
  have hown : s.vm.findClass RX2 = some m.cls := hown
  have hS : va_S A s.heap s.heap [] := va_S.rf
  have hl : lv_has ls 2 [(0, .ref n_), (1, .ref b_)] := hl
  generalize hHe : s.heap = H at hP ⊢
  have hS : va_S A s.heap H [] := hHe ▸ hS
  generalize ([] : List Loc) = locs at hS ⊢
  refine lv_aload_n hx hb dX2_init_2_0 rfl (lv_at hl 0 rfl) ?_
  refine W.objInit hx hb hown (hts _ q130) (hts _ q120) (hts _ q121) rfl (by rw [hml]; exact hl.1) rfl dX2_init_2_1 (Nat.le_of_ble_eq_true rfl) (Nat.le_of_ble_eq_true rfl) ?_
  refine lv_aload_n hx hb dX2_init_2_4 rfl (lv_at hl 0 rfl) ?_
  refine lv_iconst (v := fI 0) hx hb dX2_init_2_5 (by decide) ?_
  refine va_put (D := D) (ci := 1) (v := .int (fI 0)) (ty := .int) (C := RX2) (T := TX2) (N := 11) hx hb hts in_X2 tyX2 tyX2_ok nmX2 hown hK hP hD hS 0 rfl rfl 7 (by decide) (hts _ q145) (fun _ h9 => h9) rfl (by decide +kernel) rfl rfl (Nat.le_of_ble_eq_true rfl) dX2_init_2_6 (fun H locs hP hD hS => ?_)
  have hP : va_P D vwCl (fl [[(n_, .inr (1, [.null, .null, .null, .null, .int 0, .int 0, .int 0, .int (fI 0), .int 0, .long 0, .int 0]))], [(b_, .inl (ca 0, 2, .inl (g_)))]]) H := hP
  have hD : va_D A (fl [[(n_, .inr (1, [.null, .null, .null, .null, .int 0, .int 0, .int 0, .int (fI 0), .int 0, .long 0, .int 0]))], [(b_, .inl (ca 0, 2, .inl (g_)))]]) := hD
  refine lv_aload_n hx hb dX2_init_2_9 rfl (lv_at hl 0 rfl) ?_
  refine lv_lconst (v := lN 0) hx hb dX2_init_2_10 (by decide) ?_
  refine va_put (D := D) (ci := 1) (v := .long (lN 0)) (ty := .long) (C := RX2) (T := TX2) (N := 11) hx hb hts in_X2 tyX2 tyX2_ok nmX2 hown hK hP hD hS 0 rfl rfl 9 (by decide) (hts _ q149) (fun _ h9 => h9) rfl (by decide +kernel) rfl rfl (Nat.le_of_ble_eq_true rfl) dX2_init_2_11 (fun H locs hP hD hS => ?_)
  have hP : va_P D vwCl (fl [[(n_, .inr (1, [.null, .null, .null, .null, .int 0, .int 0, .int 0, .int (fI 0), .int 0, .long (lN 0), .int 0]))], [(b_, .inl (ca 0, 2, .inl (g_)))]]) H := hP
  have hD : va_D A (fl [[(n_, .inr (1, [.null, .null, .null, .null, .int 0, .int 0, .int 0, .int (fI 0), .int 0, .long (lN 0), .int 0]))], [(b_, .inl (ca 0, 2, .inl (g_)))]]) := hD
  refine lv_aload_n hx hb dX2_init_2_14 rfl (lv_at hl 0 rfl) ?_
  refine lv_aload_n hx hb dX2_init_2_15 rfl (lv_at hl 1 rfl) ?_
  refine lv_iconst (v := nI 0) hx hb dX2_init_2_16 (by decide) ?_
  refine nv_iald hx hb hK hP 1 0 rfl rfl (by omega) (by decide) dX2_init_2_17 ?_
  refine lv_topi (nm_r (e' := nI 12) (hg0) ?_)
  refine nv_newa hx hb (hts _ q177) rfl hK hP hD hS hA 0 rfl (Or.inl rfl) (atype := .int) (ty := .int) (a0 := (12, .inl ((fun _ => 0)))) (fun _ => rfl) (by decide) (by decide) ⟨Nat.le_of_ble_eq_true rfl, Nat.le_of_ble_eq_true rfl⟩ dX2_init_2_18 (fun q_1 H hP hD hS => ?_)
  have hP : va_P D vwCl (fl [[(n_, .inr (1, [.null, .null, .null, .null, .int 0, .int 0, .int 0, .int (fI 0), .int 0, .long (lN 0), .int 0]))], [(b_, .inl (ca 0, 2, .inl (g_)))], [(q_1, .inl (ca 0, 12, .inl ((fun _ => 0))))]]) H := fl_pushP hP
  have hD : va_D A (fl [[(n_, .inr (1, [.null, .null, .null, .null, .int 0, .int 0, .int 0, .int (fI 0), .int 0, .long (lN 0), .int 0]))], [(b_, .inl (ca 0, 2, .inl (g_)))], [(q_1, .inl (ca 0, 12, .inl ((fun _ => 0))))]]) := fl_pushD hD
  refine va_putF (D := D) (ci := 1) (v := .ref q_1) (ty := (.array .int)) (C := RX2) (T := TX2) (N := 11) hx hb hts in_X2 tyX2 tyX2_ok nmX2 hown hK hP hD hS 0 rfl rfl 0 (by decide) (hts _ q131) (fun _ h9 => h9) rfl hmn rfl (by decide +kernel) rfl rfl (Nat.le_of_ble_eq_true rfl) dX2_init_2_20 (fun H locs hP hD hS => ?_)
  have hP : va_P D vwCl (fl [[(n_, .inr (1, [.ref q_1, .null, .null, .null, .int 0, .int 0, .int 0, .int (fI 0), .int 0, .long (lN 0), .int 0]))], [(b_, .inl (ca 0, 2, .inl (g_)))], [(q_1, .inl (ca 0, 12, .inl ((fun _ => 0))))]]) H := hP
  have hD : va_D A (fl [[(n_, .inr (1, [.ref q_1, .null, .null, .null, .int 0, .int 0, .int 0, .int (fI 0), .int 0, .long (lN 0), .int 0]))], [(b_, .inl (ca 0, 2, .inl (g_)))], [(q_1, .inl (ca 0, 12, .inl ((fun _ => 0))))]]) := hD
  refine lv_aload_n hx hb dX2_init_2_23 rfl (lv_at hl 0 rfl) ?_
  refine lv_aload_n hx hb dX2_init_2_24 rfl (lv_at hl 1 rfl) ?_
  refine lv_iconst (v := nI 0) hx hb dX2_init_2_25 (by decide) ?_
  refine nv_iald hx hb hK hP 1 0 rfl rfl (by omega) (by decide) dX2_init_2_26 ?_
  refine lv_topi (nm_r (e' := nI 12) (hg0) ?_)
  refine nv_newa hx hb (hts _ q177) rfl hK hP hD hS hA 0 rfl (Or.inl rfl) (atype := .int) (ty := .int) (a0 := (12, .inl ((fun _ => 0)))) (fun _ => rfl) (by decide) (by decide) ⟨Nat.le_of_ble_eq_true rfl, Nat.le_of_ble_eq_true rfl⟩ dX2_init_2_27 (fun q_2 H hP hD hS => ?_)
  have hP : va_P D vwCl (fl [[(n_, .inr (1, [.ref q_1, .null, .null, .null, .int 0, .int 0, .int 0, .int (fI 0), .int 0, .long (lN 0), .int 0]))], [(b_, .inl (ca 0, 2, .inl (g_)))], [(q_1, .inl (ca 0, 12, .inl ((fun _ => 0))))], [(q_2, .inl (ca 0, 12, .inl ((fun _ => 0))))]]) H := fl_pushP hP
  have hD : va_D A (fl [[(n_, .inr (1, [.ref q_1, .null, .null, .null, .int 0, .int 0, .int 0, .int (fI 0), .int 0, .long (lN 0), .int 0]))], [(b_, .inl (ca 0, 2, .inl (g_)))], [(q_1, .inl (ca 0, 12, .inl ((fun _ => 0))))], [(q_2, .inl (ca 0, 12, .inl ((fun _ => 0))))]]) := fl_pushD hD
  refine va_putF (D := D) (ci := 1) (v := .ref q_2) (ty := (.array .int)) (C := RX2) (T := TX2) (N := 11) hx hb hts in_X2 tyX2 tyX2_ok nmX2 hown hK hP hD hS 0 rfl rfl 1 (by decide) (hts _ q133) (fun _ h9 => h9) rfl hmn rfl (by decide +kernel) rfl rfl (Nat.le_of_ble_eq_true rfl) dX2_init_2_29 (fun H locs hP hD hS => ?_)
  have hP : va_P D vwCl (fl [[(n_, .inr (1, [.ref q_1, .ref q_2, .null, .null, .int 0, .int 0, .int 0, .int (fI 0), .int 0, .long (lN 0), .int 0]))], [(b_, .inl (ca 0, 2, .inl (g_)))], [(q_1, .inl (ca 0, 12, .inl ((fun _ => 0))))], [(q_2, .inl (ca 0, 12, .inl ((fun _ => 0))))]]) H := hP
  have hD : va_D A (fl [[(n_, .inr (1, [.ref q_1, .ref q_2, .null, .null, .int 0, .int 0, .int 0, .int (fI 0), .int 0, .long (lN 0), .int 0]))], [(b_, .inl (ca 0, 2, .inl (g_)))], [(q_1, .inl (ca 0, 12, .inl ((fun _ => 0))))], [(q_2, .inl (ca 0, 12, .inl ((fun _ => 0))))]]) := hD
  refine lv_aload_n hx hb dX2_init_2_32 rfl (lv_at hl 0 rfl) ?_
  refine lv_aload_n hx hb dX2_init_2_33 rfl (lv_at hl 1 rfl) ?_
  refine lv_iconst (v := nI 0) hx hb dX2_init_2_34 (by decide) ?_
  refine nv_iald hx hb hK hP 1 0 rfl rfl (by omega) (by decide) dX2_init_2_35 ?_
  refine lv_topi (nm_r (e' := nI 12) (hg0) ?_)
  refine nv_newa hx hb (hts _ q177) rfl hK hP hD hS hA 0 rfl (Or.inl rfl) (atype := .int) (ty := .int) (a0 := (12, .inl ((fun _ => 0)))) (fun _ => rfl) (by decide) (by decide) ⟨Nat.le_of_ble_eq_true rfl, Nat.le_of_ble_eq_true rfl⟩ dX2_init_2_36 (fun q_3 H hP hD hS => ?_)
  have hP : va_P D vwCl (fl [[(n_, .inr (1, [.ref q_1, .ref q_2, .null, .null, .int 0, .int 0, .int 0, .int (fI 0), .int 0, .long (lN 0), .int 0]))], [(b_, .inl (ca 0, 2, .inl (g_)))], [(q_1, .inl (ca 0, 12, .inl ((fun _ => 0))))], [(q_2, .inl (ca 0, 12, .inl ((fun _ => 0))))], [(q_3, .inl (ca 0, 12, .inl ((fun _ => 0))))]]) H := fl_pushP hP
  have hD : va_D A (fl [[(n_, .inr (1, [.ref q_1, .ref q_2, .null, .null, .int 0, .int 0, .int 0, .int (fI 0), .int 0, .long (lN 0), .int 0]))], [(b_, .inl (ca 0, 2, .inl (g_)))], [(q_1, .inl (ca 0, 12, .inl ((fun _ => 0))))], [(q_2, .inl (ca 0, 12, .inl ((fun _ => 0))))], [(q_3, .inl (ca 0, 12, .inl ((fun _ => 0))))]]) := fl_pushD hD
  refine va_putF (D := D) (ci := 1) (v := .ref q_3) (ty := (.array .int)) (C := RX2) (T := TX2) (N := 11) hx hb hts in_X2 tyX2 tyX2_ok nmX2 hown hK hP hD hS 0 rfl rfl 2 (by decide) (hts _ q135) (fun _ h9 => h9) rfl hmn rfl (by decide +kernel) rfl rfl (Nat.le_of_ble_eq_true rfl) dX2_init_2_38 (fun H locs hP hD hS => ?_)
  have hP : va_P D vwCl (fl [[(n_, .inr (1, [.ref q_1, .ref q_2, .ref q_3, .null, .int 0, .int 0, .int 0, .int (fI 0), .int 0, .long (lN 0), .int 0]))], [(b_, .inl (ca 0, 2, .inl (g_)))], [(q_1, .inl (ca 0, 12, .inl ((fun _ => 0))))], [(q_2, .inl (ca 0, 12, .inl ((fun _ => 0))))], [(q_3, .inl (ca 0, 12, .inl ((fun _ => 0))))]]) H := hP
  have hD : va_D A (fl [[(n_, .inr (1, [.ref q_1, .ref q_2, .ref q_3, .null, .int 0, .int 0, .int 0, .int (fI 0), .int 0, .long (lN 0), .int 0]))], [(b_, .inl (ca 0, 2, .inl (g_)))], [(q_1, .inl (ca 0, 12, .inl ((fun _ => 0))))], [(q_2, .inl (ca 0, 12, .inl ((fun _ => 0))))], [(q_3, .inl (ca 0, 12, .inl ((fun _ => 0))))]]) := hD
  refine lv_aload_n hx hb dX2_init_2_41 rfl (lv_at hl 0 rfl) ?_
  refine lv_aload_n hx hb dX2_init_2_42 rfl (lv_at hl 1 rfl) ?_
  refine lv_aload_n hx hb dX2_init_2_43 rfl (lv_at hl 1 rfl) ?_
  refine va_alen hx hb hK hP 1 0 rfl rfl rfl dX2_init_2_44 (lv_topi (nm_r (e' := nI 2) rfl ?_))
  refine lv_iconst (v := nI 1) hx hb dX2_init_2_45 (by decide) ?_
  refine lv_isub hx hb dX2_init_2_46 (lv_topi (nm_r (e' := nI 1) (by decide) ?_))
  refine nv_iald hx hb hK hP 1 0 rfl rfl (by omega) (by decide) dX2_init_2_47 ?_
  refine lv_topi (nm_r (e' := nI 12) (hg1) ?_)
  refine nv_newa hx hb (hts _ q177) rfl hK hP hD hS hA 0 rfl (Or.inl rfl) (atype := .int) (ty := .int) (a0 := (12, .inl ((fun _ => 0)))) (fun _ => rfl) (by decide) (by decide) ⟨Nat.le_of_ble_eq_true rfl, Nat.le_of_ble_eq_true rfl⟩ dX2_init_2_48 (fun q_4 H hP hD hS => ?_)
  have hP : va_P D vwCl (fl [[(n_, .inr (1, [.ref q_1, .ref q_2, .ref q_3, .null, .int 0, .int 0, .int 0, .int (fI 0), .int 0, .long (lN 0), .int 0]))], [(b_, .inl (ca 0, 2, .inl (g_)))], [(q_1, .inl (ca 0, 12, .inl ((fun _ => 0))))], [(q_2, .inl (ca 0, 12, .inl ((fun _ => 0))))], [(q_3, .inl (ca 0, 12, .inl ((fun _ => 0))))], [(q_4, .inl (ca 0, 12, .inl ((fun _ => 0))))]]) H := fl_pushP hP
  have hD : va_D A (fl [[(n_, .inr (1, [.ref q_1, .ref q_2, .ref q_3, .null, .int 0, .int 0, .int 0, .int (fI 0), .int 0, .long (lN 0), .int 0]))], [(b_, .inl (ca 0, 2, .inl (g_)))], [(q_1, .inl (ca 0, 12, .inl ((fun _ => 0))))], [(q_2, .inl (ca 0, 12, .inl ((fun _ => 0))))], [(q_3, .inl (ca 0, 12, .inl ((fun _ => 0))))], [(q_4, .inl (ca 0, 12, .inl ((fun _ => 0))))]]) := fl_pushD hD
  refine va_putF (D := D) (ci := 1) (v := .ref q_4) (ty := (.array .int)) (C := RX2) (T := TX2) (N := 11) hx hb hts in_X2 tyX2 tyX2_ok nmX2 hown hK hP hD hS 0 rfl rfl 3 (by decide) (hts _ q137) (fun _ h9 => h9) rfl hmn rfl (by decide +kernel) rfl rfl (Nat.le_of_ble_eq_true rfl) dX2_init_2_50 (fun H locs hP hD hS => ?_)
  have hP : va_P D vwCl (fl [[(n_, .inr (1, [.ref q_1, .ref q_2, .ref q_3, .ref q_4, .int 0, .int 0, .int 0, .int (fI 0), .int 0, .long (lN 0), .int 0]))], [(b_, .inl (ca 0, 2, .inl (g_)))], [(q_1, .inl (ca 0, 12, .inl ((fun _ => 0))))], [(q_2, .inl (ca 0, 12, .inl ((fun _ => 0))))], [(q_3, .inl (ca 0, 12, .inl ((fun _ => 0))))], [(q_4, .inl (ca 0, 12, .inl ((fun _ => 0))))]]) H := hP
  have hD : va_D A (fl [[(n_, .inr (1, [.ref q_1, .ref q_2, .ref q_3, .ref q_4, .int 0, .int 0, .int 0, .int (fI 0), .int 0, .long (lN 0), .int 0]))], [(b_, .inl (ca 0, 2, .inl (g_)))], [(q_1, .inl (ca 0, 12, .inl ((fun _ => 0))))], [(q_2, .inl (ca 0, 12, .inl ((fun _ => 0))))], [(q_3, .inl (ca 0, 12, .inl ((fun _ => 0))))], [(q_4, .inl (ca 0, 12, .inl ((fun _ => 0))))]]) := hD
  have hP : va_P D vwCl (fl [[(n_, .inr (1, [.ref q_1, .ref q_2, .ref q_3, .ref q_4, .int 0, .int 0, .int 0, .int (fI 0), .int 0, .long (lN 0), .int 0]))], [(q_1, .inl (ca 0, 12, .inl ((fun _ => 0))))], [(q_2, .inl (ca 0, 12, .inl ((fun _ => 0))))], [(q_3, .inl (ca 0, 12, .inl ((fun _ => 0))))], [(q_4, .inl (ca 0, 12, .inl ((fun _ => 0))))], [(b_, .inl (ca 0, 2, .inl (g_)))]]) H := mvP hP [0, 2, 3, 4, 5, 1]
  have hD : va_D A (fl [[(n_, .inr (1, [.ref q_1, .ref q_2, .ref q_3, .ref q_4, .int 0, .int 0, .int 0, .int (fI 0), .int 0, .long (lN 0), .int 0]))], [(q_1, .inl (ca 0, 12, .inl ((fun _ => 0))))], [(q_2, .inl (ca 0, 12, .inl ((fun _ => 0))))], [(q_3, .inl (ca 0, 12, .inl ((fun _ => 0))))], [(q_4, .inl (ca 0, 12, .inl ((fun _ => 0))))], [(b_, .inl (ca 0, 2, .inl (g_)))]]) := mvD hD [0, 2, 3, 4, 5, 1] (by decide)
  have hP : va_P D vwCl (fl [(WC ca (nq5 n_ q_1 q_2 q_3 q_4) (fun _ => 0) (fun _ => 0) (fun _ => 0) (fun _ => 0) 0 0 0 (fI 0) 0 (lN 0) 0), [(b_, .inl (ca 0, 2, .inl (g_)))]]) H := hP
  have hD : va_D A (fl [(WC ca (nq5 n_ q_1 q_2 q_3 q_4) (fun _ => 0) (fun _ => 0) (fun _ => 0) (fun _ => 0) 0 0 0 (fI 0) 0 (lN 0) 0), [(b_, .inl (ca 0, 2, .inl (g_)))]]) := hD
  have hP : va_P D vwCl (fl [(WC ca (nq5 n_ q_1 q_2 q_3 q_4) (fun _ => 0) (fun _ => 0) (fun _ => 0) (fun _ => 0) 0 0 0 (fI 0) 0 (lN 0) 0)]) H := mvP hP [0]
  have hD : va_D A (fl [(WC ca (nq5 n_ q_1 q_2 q_3 q_4) (fun _ => 0) (fun _ => 0) (fun _ => 0) (fun _ => 0) 0 0 0 (fI 0) 0 (lN 0) 0)]) := mvD hD [0] (by decide)
  subst hQQ
  exact xe_v (q_1, q_2, q_3, q_4) hx hb hr hlocks hK hP hD hS (trivial) dX2_init_2_53
set_option maxHeartbeats 400000 in
set_option maxRecDepth 100000 in
theorem mt_X2_init (l : Launch) (D : va_G) (ca : Nat → ClassId) (n_ : Nat)  (nn : Nat) : Met l yX2_init (ws_ yX2_init cX2_init 1 (Option.none : Option Jvm.ClassFile.FieldType)) ({ frames := 2, cells := 5, slots := 50, locals := 61 } : Room) (va_Pc [.ref n_] (PreW EvX D vwCl (TY ca) (fl [[(n_, .inr (1, [.null, .null, .null, .null, .int 0, .int 0, .int 0, .int 0, .int 0, .long 0, .int 0]))]]) nn)) (va_Qv (fun (u_ : Nat × Nat × Nat × Nat) => True) (PostW D vwCl (TY ca) (fun (u_ : Nat × Nat × Nat × Nat) => (fl [(WC ca (nq5 n_ u_.1 u_.2.1 u_.2.2.1 u_.2.2.2) (fun _ => 0) (fun _ => 0) (fun _ => 0) (fun _ => 0) 0 0 0 (fI 0) 0 (lN 0) 0)])) (va_A (fl [[(n_, .inr (1, [.null, .null, .null, .null, .int 0, .int 0, .int 0, .int 0, .int 0, .long 0, .int 0]))]]) nn)) (va_A (fl [[(n_, .inr (1, [.null, .null, .null, .null, .int 0, .int 0, .int 0, .int 0, .int 0, .long 0, .int 0]))]]) nn)) 5 50 (va_A (fl [[(n_, .inr (1, [.null, .null, .null, .null, .int 0, .int 0, .int 0, .int 0, .int 0, .long 0, .int 0]))]]) nn) := by
  refine met_go2 (QA := fun A => va_Qv (fun (u_ : Nat × Nat × Nat × Nat) => True) (PostW D vwCl (TY ca) (fun (u_ : Nat × Nat × Nat × Nat) => (fl [(WC ca (nq5 n_ u_.1 u_.2.1 u_.2.2.1 u_.2.2.2) (fun _ => 0) (fun _ => 0) (fun _ => 0) (fun _ => 0) 0 0 0 (fI 0) 0 (lN 0) 0)])) A) A) (by decide) (Nat.le_of_ble_eq_true rfl) (fun p e s m below meth c A ls QQ hQQ hmn hnm hx hb hr hts hown hlocks hml hA hP hK hD hE hl => ?_)
  have hown : s.vm.findClass RX2 = some m.cls := hown
  have hS : va_S A s.heap s.heap [] := va_S.rf
  have hl : lv_has ls 1 [(0, .ref n_)] := hl
  generalize hHe : s.heap = H at hP ⊢
  have hS : va_S A s.heap H [] := hHe ▸ hS
  generalize ([] : List Loc) = locs at hS ⊢
  refine lv_aload_n hx hb dX2_init_0 rfl (lv_at hl 0 rfl) ?_
  refine lv_iconst (v := nI 2) hx hb dX2_init_1 (by decide) ?_
  refine nv_newa hx hb (hts _ q177) rfl hK hP hD hS hA 0 rfl (Or.inl rfl) (atype := .int) (ty := .int) (a0 := (2, .inl ((fun _ => 0)))) (fun _ => rfl) (by decide) (by decide) ⟨Nat.le_of_ble_eq_true rfl, Nat.le_of_ble_eq_true rfl⟩ dX2_init_2 (fun q_1 H hP hD hS => ?_)
  have hP : va_P D vwCl (fl [[(n_, .inr (1, [.null, .null, .null, .null, .int 0, .int 0, .int 0, .int 0, .int 0, .long 0, .int 0]))], [(q_1, .inl (ca 0, 2, .inl ((fun _ => 0))))]]) H := fl_pushP hP
  have hD : va_D A (fl [[(n_, .inr (1, [.null, .null, .null, .null, .int 0, .int 0, .int 0, .int 0, .int 0, .long 0, .int 0]))], [(q_1, .inl (ca 0, 2, .inl ((fun _ => 0))))]]) := fl_pushD hD
  refine lv_dup hx hb dX2_init_4 rfl ?_
  refine lv_iconst (v := nI 0) hx hb dX2_init_5 (by decide) ?_
  refine lv_bipush (v := nI 12) hx hb dX2_init_6 (by decide) ?_
  refine nv_iast hx hb hK hP hD hS 1 0 rfl rfl (by omega) (by decide) dX2_init_8 (fun H locs hP hD hS => ?_)
  have hP : va_P D vwCl (fl [[(n_, .inr (1, [.null, .null, .null, .null, .int 0, .int 0, .int 0, .int 0, .int 0, .long 0, .int 0]))], [(q_1, .inl (ca 0, 2, .inl (upd (fun _ => 0) 0 (nI 12))))]]) H := hP
  have hD : va_D A (fl [[(n_, .inr (1, [.null, .null, .null, .null, .int 0, .int 0, .int 0, .int 0, .int 0, .long 0, .int 0]))], [(q_1, .inl (ca 0, 2, .inl (upd (fun _ => 0) 0 (nI 12))))]]) := hD
  refine lv_dup hx hb dX2_init_9 rfl ?_
  refine lv_iconst (v := nI 1) hx hb dX2_init_10 (by decide) ?_
  refine lv_bipush (v := nI 12) hx hb dX2_init_11 (by decide) ?_
  refine nv_iast hx hb hK hP hD hS 1 0 rfl rfl (by omega) (by decide) dX2_init_13 (fun H locs hP hD hS => ?_)
  have hP : va_P D vwCl (fl [[(n_, .inr (1, [.null, .null, .null, .null, .int 0, .int 0, .int 0, .int 0, .int 0, .long 0, .int 0]))], [(q_1, .inl (ca 0, 2, .inl (upd (upd (fun _ => 0) 0 (nI 12)) 1 (nI 12))))]]) H := hP
  have hD : va_D A (fl [[(n_, .inr (1, [.null, .null, .null, .null, .int 0, .int 0, .int 0, .int 0, .int 0, .long 0, .int 0]))], [(q_1, .inl (ca 0, 2, .inl (upd (upd (fun _ => 0) 0 (nI 12)) 1 (nI 12))))]]) := hD
  refine xc_v (xr_I (b := n_) (As := [.ref q_1]) (rest := []) (mt_X2_init_2 l D ca n_ q_1 (upd (upd (fun _ => 0) 0 (nI 12)) 1 (nI 12)) rfl rfl H.size) ⟨hx, hb, hml, hown, hts⟩ (cwI 1 hts (lw_meth q129) rfl rfl rfl (hts _ q80) (hts _ q127) (hts _ q128) rfl (by decide +kernel) ⟨Nat.le_of_ble_eq_true rfl, Nat.le_of_ble_eq_true rfl⟩) EvX_ok hE hK hS (Cut.ch [[(n_, .inr (1, [.null, .null, .null, .null, .int 0, .int 0, .int 0, .int 0, .int 0, .long 0, .int 0]))], [(q_1, .inl (ca 0, 2, .inl (upd (upd (fun _ => 0) 0 (nI 12)) 1 (nI 12))))]] [] hP hD hS hA) rfl hl.1 rfl (Nat.le_of_ble_eq_true rfl) dX2_init_14 ⟨Nat.le_of_ble_eq_true rfl, Nat.le_of_ble_eq_true rfl⟩) hS (Cut.ch [[(n_, .inr (1, [.null, .null, .null, .null, .int 0, .int 0, .int 0, .int 0, .int 0, .long 0, .int 0]))], [(q_1, .inl (ca 0, 2, .inl (upd (upd (fun _ => 0) 0 (nI 12)) 1 (nI 12))))]] [] hP hD hS hA) (fun u_3 H locs hq_14 hP hD hS => ?_)
  obtain ⟨a1_4, a2_5, a3_6, a4_7⟩ := u_3
  have hP : va_P D vwCl (fl [(WC ca (nq5 n_ a1_4 a2_5 a3_6 a4_7) (fun _ => 0) (fun _ => 0) (fun _ => 0) (fun _ => 0) 0 0 0 (fI 0) 0 (lN 0) 0)]) H := fl_join [(WC ca (nq5 n_ a1_4 a2_5 a3_6 a4_7) (fun _ => 0) (fun _ => 0) (fun _ => 0) (fun _ => 0) 0 0 0 (fI 0) 0 (lN 0) 0)] [] hP
  have hD : va_D A (fl [(WC ca (nq5 n_ a1_4 a2_5 a3_6 a4_7) (fun _ => 0) (fun _ => 0) (fun _ => 0) (fun _ => 0) 0 0 0 (fI 0) 0 (lN 0) 0)]) := fl_joinD [(WC ca (nq5 n_ a1_4 a2_5 a3_6 a4_7) (fun _ => 0) (fun _ => 0) (fun _ => 0) (fun _ => 0) 0 0 0 (fI 0) 0 (lN 0) 0)] [] hD
  subst hQQ
  exact xe_v (a1_4, a2_5, a3_6, a4_7) hx hb hr hlocks hK hP hD hS (trivial) dX2_init_17
theorem su_nar {x : Int32} (h : x = nI 0 ∨ x = nI 1) : narrow .boolean (.int x) = .int x := by rcases h with rfl | rfl <;> rfl
theorem su_fit {x : Int32} (h : x = nI 0 ∨ x = nI 1) : fits .boolean (.int x) = true := by rcases h with rfl | rfl <;> rfl
theorem su_of {n : Nat} (h : n ≤ 1) : nI n = nI 0 ∨ nI n = nI 1 := by
  rcases (show n = 0 ∨ n = 1 by omega) with rfl | rfl
  · exact Or.inl rfl
  · exact Or.inr rfl
set_option maxHeartbeats 800000 in
set_option maxRecDepth 100000 in
theorem mt_X2_init_3 (l : Launch) (D : va_G) (ca : Nat → ClassId) (cq : Nat → Nat) (kd : Nat → Int32) (fs : Nat → Int32) (sn : Nat → Int32) (ak : Nat → Int32) (ga : Int32) (ot : Int32) (bx : Int32) (se : Int32) (su : Int32) (ch : Int64) (ad : Int32) (n_ : Nat) (hsu : su = nI 0 ∨ su = nI 1) (nn : Nat) : Met l yX2_init_3 (ws_ yX2_init_3 cX2_init_3 3 (Option.none : Option Jvm.ClassFile.FieldType)) ({ frames := 2, cells := 5, slots := 50, locals := 61 } : Room) (va_Pc [.ref n_, .ref (cq 0)] (PreW EvX D vwCl (TY ca) (fl [[(n_, .inr (1, [.null, .null, .null, .null, .int 0, .int 0, .int 0, .int 0, .int 0, .long 0, .int 0]))], (WC ca cq kd fs sn ak ga ot bx se su ch ad)]) nn)) (va_Qv (fun (u_ : Nat × Nat × Nat × Nat) => True) (PostW D vwCl (TY ca) (fun (u_ : Nat × Nat × Nat × Nat) => (fl [(WC ca (nq5 n_ u_.1 u_.2.1 u_.2.2.1 u_.2.2.2) kd fs sn ak ga ot bx se su ch ad), (WC ca cq kd fs sn ak ga ot bx se su ch ad)])) (va_A (fl [[(n_, .inr (1, [.null, .null, .null, .null, .int 0, .int 0, .int 0, .int 0, .int 0, .long 0, .int 0]))], (WC ca cq kd fs sn ak ga ot bx se su ch ad)]) nn)) (va_A (fl [[(n_, .inr (1, [.null, .null, .null, .null, .int 0, .int 0, .int 0, .int 0, .int 0, .long 0, .int 0]))], (WC ca cq kd fs sn ak ga ot bx se su ch ad)]) nn)) 5 50 (va_A (fl [[(n_, .inr (1, [.null, .null, .null, .null, .int 0, .int 0, .int 0, .int 0, .int 0, .long 0, .int 0]))], (WC ca cq kd fs sn ak ga ot bx se su ch ad)]) nn) := by
  refine met_go2 (QA := fun A => va_Qv (fun (u_ : Nat × Nat × Nat × Nat) => True) (PostW D vwCl (TY ca) (fun (u_ : Nat × Nat × Nat × Nat) => (fl [(WC ca (nq5 n_ u_.1 u_.2.1 u_.2.2.1 u_.2.2.2) kd fs sn ak ga ot bx se su ch ad), (WC ca cq kd fs sn ak ga ot bx se su ch ad)])) A) A) (by decide) (Nat.le_of_ble_eq_true rfl) (fun p e s m below meth c A ls QQ hQQ hmn hnm hx hb hr hts hown hlocks hml hA hP hK hD hE hl => ?_)
  have hown : s.vm.findClass RX2 = some m.cls := hown
  have hS : va_S A s.heap s.heap [] := va_S.rf
  have hl : lv_has ls 3 [(0, .ref n_), (1, .ref (cq 0))] := hl
  generalize hHe : s.heap = H at hP ⊢
  have hS : va_S A s.heap H [] := hHe ▸ hS
  generalize ([] : List Loc) = locs at hS ⊢
  refine lv_aload_n hx hb dX2_init_3_0 rfl (lv_at hl 0 rfl) ?_
  refine lv_iconst (v := nI 2) hx hb dX2_init_3_1 (by decide) ?_
  refine nv_newa hx hb (hts _ q177) rfl hK hP hD hS hA 0 rfl (Or.inl rfl) (atype := .int) (ty := .int) (a0 := (2, .inl ((fun _ => 0)))) (fun _ => rfl) (by decide) (by decide) ⟨Nat.le_of_ble_eq_true rfl, Nat.le_of_ble_eq_true rfl⟩ dX2_init_3_2 (fun q_1 H hP hD hS => ?_)
  have hP : va_P D vwCl (fl [[(n_, .inr (1, [.null, .null, .null, .null, .int 0, .int 0, .int 0, .int 0, .int 0, .long 0, .int 0]))], (WC ca cq kd fs sn ak ga ot bx se su ch ad), [(q_1, .inl (ca 0, 2, .inl ((fun _ => 0))))]]) H := fl_pushP hP
  have hD : va_D A (fl [[(n_, .inr (1, [.null, .null, .null, .null, .int 0, .int 0, .int 0, .int 0, .int 0, .long 0, .int 0]))], (WC ca cq kd fs sn ak ga ot bx se su ch ad), [(q_1, .inl (ca 0, 2, .inl ((fun _ => 0))))]]) := fl_pushD hD
  refine lv_dup hx hb dX2_init_3_4 rfl ?_
  refine lv_iconst (v := nI 0) hx hb dX2_init_3_5 (by decide) ?_
  refine lv_bipush (v := nI 12) hx hb dX2_init_3_6 (by decide) ?_
  refine nv_iast hx hb hK hP hD hS 6 0 rfl rfl (by omega) (by decide) dX2_init_3_8 (fun H locs hP hD hS => ?_)
  have hP : va_P D vwCl (fl [[(n_, .inr (1, [.null, .null, .null, .null, .int 0, .int 0, .int 0, .int 0, .int 0, .long 0, .int 0]))], (WC ca cq kd fs sn ak ga ot bx se su ch ad), [(q_1, .inl (ca 0, 2, .inl (upd (fun _ => 0) 0 (nI 12))))]]) H := hP
  have hD : va_D A (fl [[(n_, .inr (1, [.null, .null, .null, .null, .int 0, .int 0, .int 0, .int 0, .int 0, .long 0, .int 0]))], (WC ca cq kd fs sn ak ga ot bx se su ch ad), [(q_1, .inl (ca 0, 2, .inl (upd (fun _ => 0) 0 (nI 12))))]]) := hD
  refine lv_dup hx hb dX2_init_3_9 rfl ?_
  refine lv_iconst (v := nI 1) hx hb dX2_init_3_10 (by decide) ?_
  refine lv_bipush (v := nI 12) hx hb dX2_init_3_11 (by decide) ?_
  refine nv_iast hx hb hK hP hD hS 6 0 rfl rfl (by omega) (by decide) dX2_init_3_13 (fun H locs hP hD hS => ?_)
  have hP : va_P D vwCl (fl [[(n_, .inr (1, [.null, .null, .null, .null, .int 0, .int 0, .int 0, .int 0, .int 0, .long 0, .int 0]))], (WC ca cq kd fs sn ak ga ot bx se su ch ad), [(q_1, .inl (ca 0, 2, .inl (upd (upd (fun _ => 0) 0 (nI 12)) 1 (nI 12))))]]) H := hP
  have hD : va_D A (fl [[(n_, .inr (1, [.null, .null, .null, .null, .int 0, .int 0, .int 0, .int 0, .int 0, .long 0, .int 0]))], (WC ca cq kd fs sn ak ga ot bx se su ch ad), [(q_1, .inl (ca 0, 2, .inl (upd (upd (fun _ => 0) 0 (nI 12)) 1 (nI 12))))]]) := hD
  have hP : va_P D vwCl (fl [[(n_, .inr (1, [.null, .null, .null, .null, .int 0, .int 0, .int 0, .int 0, .int 0, .long 0, .int 0]))], [(q_1, .inl (ca 0, 2, .inl (upd (upd (fun _ => 0) 0 (nI 12)) 1 (nI 12))))], (WC ca cq kd fs sn ak ga ot bx se su ch ad)]) H := mvP hP [0, 2, 1]
  have hD : va_D A (fl [[(n_, .inr (1, [.null, .null, .null, .null, .int 0, .int 0, .int 0, .int 0, .int 0, .long 0, .int 0]))], [(q_1, .inl (ca 0, 2, .inl (upd (upd (fun _ => 0) 0 (nI 12)) 1 (nI 12))))], (WC ca cq kd fs sn ak ga ot bx se su ch ad)]) := mvD hD [0, 2, 1] (by decide)
  refine xc_v (xr_I (b := n_) (As := [.ref q_1]) (rest := []) (mt_X2_init_2 l D ca n_ q_1 (upd (upd (fun _ => 0) 0 (nI 12)) 1 (nI 12)) rfl rfl H.size) ⟨hx, hb, hml, hown, hts⟩ (cwI 1 hts (lw_meth q129) rfl rfl rfl (hts _ q80) (hts _ q127) (hts _ q128) rfl (by decide +kernel) ⟨Nat.le_of_ble_eq_true rfl, Nat.le_of_ble_eq_true rfl⟩) EvX_ok hE hK hS (Cut.ch [[(n_, .inr (1, [.null, .null, .null, .null, .int 0, .int 0, .int 0, .int 0, .int 0, .long 0, .int 0]))], [(q_1, .inl (ca 0, 2, .inl (upd (upd (fun _ => 0) 0 (nI 12)) 1 (nI 12))))]] [(WC ca cq kd fs sn ak ga ot bx se su ch ad)] hP hD hS hA) rfl hl.1 rfl (Nat.le_of_ble_eq_true rfl) dX2_init_3_14 ⟨Nat.le_of_ble_eq_true rfl, Nat.le_of_ble_eq_true rfl⟩) hS (Cut.ch [[(n_, .inr (1, [.null, .null, .null, .null, .int 0, .int 0, .int 0, .int 0, .int 0, .long 0, .int 0]))], [(q_1, .inl (ca 0, 2, .inl (upd (upd (fun _ => 0) 0 (nI 12)) 1 (nI 12))))]] [(WC ca cq kd fs sn ak ga ot bx se su ch ad)] hP hD hS hA) (fun u_3 H locs hq_14 hP hD hS => ?_)
  obtain ⟨a1_4, a2_5, a3_6, a4_7⟩ := u_3
  have hP : va_P D vwCl (fl [(WC ca (nq5 n_ a1_4 a2_5 a3_6 a4_7) (fun _ => 0) (fun _ => 0) (fun _ => 0) (fun _ => 0) 0 0 0 (fI 0) 0 (lN 0) 0), (WC ca cq kd fs sn ak ga ot bx se su ch ad)]) H := fl_join [(WC ca (nq5 n_ a1_4 a2_5 a3_6 a4_7) (fun _ => 0) (fun _ => 0) (fun _ => 0) (fun _ => 0) 0 0 0 (fI 0) 0 (lN 0) 0)] [(WC ca cq kd fs sn ak ga ot bx se su ch ad)] hP
  have hD : va_D A (fl [(WC ca (nq5 n_ a1_4 a2_5 a3_6 a4_7) (fun _ => 0) (fun _ => 0) (fun _ => 0) (fun _ => 0) 0 0 0 (fI 0) 0 (lN 0) 0), (WC ca cq kd fs sn ak ga ot bx se su ch ad)]) := fl_joinD [(WC ca (nq5 n_ a1_4 a2_5 a3_6 a4_7) (fun _ => 0) (fun _ => 0) (fun _ => 0) (fun _ => 0) 0 0 0 (fI 0) 0 (lN 0) 0)] [(WC ca cq kd fs sn ak ga ot bx se su ch ad)] hD
  refine lv_iconst (v := nI 0) hx hb dX2_init_3_17 (by decide) ?_
  refine lv_istore_n (lv' := [(2, .int (nI 0)), (0, .ref n_), (1, .ref (cq 0))]) hx hb dX2_init_3_18 rfl hl (by decide) rfl (fun ls hl => ?_)
  have lp_19 : ∀ (fu_19 : Nat) (i : Nat), 12 - i < fu_19 → (i ≤ 12) → ∀ (H : Heap) (locs : List Loc), va_P D vwCl (fl [(WC ca (nq5 n_ a1_4 a2_5 a3_6 a4_7) (fillF i kd (fun _ => 0)) (fillF i fs (fun _ => 0)) (fillF i sn (fun _ => 0)) (fun _ => 0) 0 0 0 (fI 0) 0 (lN 0) 0), (WC ca cq kd fs sn ak ga ot bx se su ch ad)]) H → va_D A (fl [(WC ca (nq5 n_ a1_4 a2_5 a3_6 a4_7) (fillF i kd (fun _ => 0)) (fillF i fs (fun _ => 0)) (fillF i sn (fun _ => 0)) (fun _ => 0) 0 0 0 (fI 0) 0 (lN 0) 0), (WC ca cq kd fs sn ak ga ot bx se su ch ad)]) → va_S A s.heap H locs → ∀ (ls : Array Slot), lv_has ls 3 [(2, .int (nI i)), (0, .ref n_), (1, .ref (cq 0))] → W p l e ({ frames := 2, cells := 5, slots := 50, locals := 61 } : Room) s m ([.ref n_, .ref (cq 0)] : List Value).toArray below meth c H locs 5 50 QQ (F0 m 19 ls []) := by
    intro fu_19
    induction fu_19 with
    | zero => intro i hfu; exact absurd hfu (Nat.not_lt_zero _)
    | succ fu_19 ih_19 =>
      intro i hfu hi H locs hP hD hS ls hl
      refine lv_iload_n hx hb dX2_init_3_19 rfl (lv_at hl 0 rfl) ?_
      refine lv_bipush (v := nI 12) hx hb dX2_init_3_20 (by decide) ?_
      refine nv_icmp_ge (tgt := 67) hx hb dX2_init_3_22 (by decide) (by omega) (by omega) (fun c_22 => ?_) (fun c_22 => ?_)
      · skip
        have e_ : 12 = i := Eq.symm (by omega)
        subst e_
        refine lv_iconst (v := nI 0) hx hb dX2_init_3_67 (by decide) ?_
        refine lv_istore_n (lv' := [(2, .int (nI 0)), (0, .ref n_), (1, .ref (cq 0))]) hx hb dX2_init_3_68 rfl hl (by decide) rfl (fun ls hl => ?_)
        have lp_69 : ∀ (fu_69 : Nat) (i : Nat), 12 - i < fu_69 → (i ≤ 12) → ∀ (H : Heap) (locs : List Loc), va_P D vwCl (fl [(WC ca (nq5 n_ a1_4 a2_5 a3_6 a4_7) (fillF 12 kd (fun _ => 0)) (fillF 12 fs (fun _ => 0)) (fillF 12 sn (fun _ => 0)) (fillF i ak (fun _ => 0)) 0 0 0 (fI 0) 0 (lN 0) 0), (WC ca cq kd fs sn ak ga ot bx se su ch ad)]) H → va_D A (fl [(WC ca (nq5 n_ a1_4 a2_5 a3_6 a4_7) (fillF 12 kd (fun _ => 0)) (fillF 12 fs (fun _ => 0)) (fillF 12 sn (fun _ => 0)) (fillF i ak (fun _ => 0)) 0 0 0 (fI 0) 0 (lN 0) 0), (WC ca cq kd fs sn ak ga ot bx se su ch ad)]) → va_S A s.heap H locs → ∀ (ls : Array Slot), lv_has ls 3 [(2, .int (nI i)), (0, .ref n_), (1, .ref (cq 0))] → W p l e ({ frames := 2, cells := 5, slots := 50, locals := 61 } : Room) s m ([.ref n_, .ref (cq 0)] : List Value).toArray below meth c H locs 5 50 QQ (F0 m 69 ls []) := by
          intro fu_69
          induction fu_69 with
          | zero => intro i hfu; exact absurd hfu (Nat.not_lt_zero _)
          | succ fu_69 ih_69 =>
            intro i hfu hi H locs hP hD hS ls hl
            refine lv_iload_n hx hb dX2_init_3_69 rfl (lv_at hl 0 rfl) ?_
            refine lv_bipush (v := nI 12) hx hb dX2_init_3_70 (by decide) ?_
            refine nv_icmp_ge (tgt := 93) hx hb dX2_init_3_72 (by decide) (by omega) (by omega) (fun c_72 => ?_) (fun c_72 => ?_)
            · skip
              have e_ : 12 = i := Eq.symm (by omega)
              subst e_
              refine lv_aload_n hx hb dX2_init_3_93 rfl (lv_at hl 1 rfl) ?_
              refine lv_aload_n hx hb dX2_init_3_94 rfl (lv_at hl 2 rfl) ?_
              refine va_get (D := D) (ci := 1) (v := .int ga) (C := RX2) (T := TX2) (N := 11) hx hb hts in_X2 hown hK hP 5 rfl rfl 4 (by decide) (hts _ q139) (fun _ h9 => h9) rfl dX2_init_3_95 ?_
              refine va_put (D := D) (ci := 1) (v := .int ga) (ty := .int) (C := RX2) (T := TX2) (N := 11) hx hb hts in_X2 tyX2 tyX2_ok nmX2 hown hK hP hD hS 0 rfl rfl 4 (by decide) (hts _ q139) (fun _ h9 => h9) rfl (by decide +kernel) rfl rfl (Nat.le_of_ble_eq_true rfl) dX2_init_3_98 (fun H locs hP hD hS => ?_)
              have hP : va_P D vwCl (fl [(WC ca (nq5 n_ a1_4 a2_5 a3_6 a4_7) (fillF 12 kd (fun _ => 0)) (fillF 12 fs (fun _ => 0)) (fillF 12 sn (fun _ => 0)) (fillF 12 ak (fun _ => 0)) ga 0 0 (fI 0) 0 (lN 0) 0), (WC ca cq kd fs sn ak ga ot bx se su ch ad)]) H := hP
              have hD : va_D A (fl [(WC ca (nq5 n_ a1_4 a2_5 a3_6 a4_7) (fillF 12 kd (fun _ => 0)) (fillF 12 fs (fun _ => 0)) (fillF 12 sn (fun _ => 0)) (fillF 12 ak (fun _ => 0)) ga 0 0 (fI 0) 0 (lN 0) 0), (WC ca cq kd fs sn ak ga ot bx se su ch ad)]) := hD
              refine lv_aload_n hx hb dX2_init_3_101 rfl (lv_at hl 1 rfl) ?_
              refine lv_aload_n hx hb dX2_init_3_102 rfl (lv_at hl 2 rfl) ?_
              refine va_get (D := D) (ci := 1) (v := .int ot) (C := RX2) (T := TX2) (N := 11) hx hb hts in_X2 hown hK hP 5 rfl rfl 5 (by decide) (hts _ q141) (fun _ h9 => h9) rfl dX2_init_3_103 ?_
              refine va_put (D := D) (ci := 1) (v := .int ot) (ty := .int) (C := RX2) (T := TX2) (N := 11) hx hb hts in_X2 tyX2 tyX2_ok nmX2 hown hK hP hD hS 0 rfl rfl 5 (by decide) (hts _ q141) (fun _ h9 => h9) rfl (by decide +kernel) rfl rfl (Nat.le_of_ble_eq_true rfl) dX2_init_3_106 (fun H locs hP hD hS => ?_)
              have hP : va_P D vwCl (fl [(WC ca (nq5 n_ a1_4 a2_5 a3_6 a4_7) (fillF 12 kd (fun _ => 0)) (fillF 12 fs (fun _ => 0)) (fillF 12 sn (fun _ => 0)) (fillF 12 ak (fun _ => 0)) ga ot 0 (fI 0) 0 (lN 0) 0), (WC ca cq kd fs sn ak ga ot bx se su ch ad)]) H := hP
              have hD : va_D A (fl [(WC ca (nq5 n_ a1_4 a2_5 a3_6 a4_7) (fillF 12 kd (fun _ => 0)) (fillF 12 fs (fun _ => 0)) (fillF 12 sn (fun _ => 0)) (fillF 12 ak (fun _ => 0)) ga ot 0 (fI 0) 0 (lN 0) 0), (WC ca cq kd fs sn ak ga ot bx se su ch ad)]) := hD
              refine lv_aload_n hx hb dX2_init_3_109 rfl (lv_at hl 1 rfl) ?_
              refine lv_aload_n hx hb dX2_init_3_110 rfl (lv_at hl 2 rfl) ?_
              refine va_get (D := D) (ci := 1) (v := .int bx) (C := RX2) (T := TX2) (N := 11) hx hb hts in_X2 hown hK hP 5 rfl rfl 6 (by decide) (hts _ q143) (fun _ h9 => h9) rfl dX2_init_3_111 ?_
              refine va_put (D := D) (ci := 1) (v := .int bx) (ty := .int) (C := RX2) (T := TX2) (N := 11) hx hb hts in_X2 tyX2 tyX2_ok nmX2 hown hK hP hD hS 0 rfl rfl 6 (by decide) (hts _ q143) (fun _ h9 => h9) rfl (by decide +kernel) rfl rfl (Nat.le_of_ble_eq_true rfl) dX2_init_3_114 (fun H locs hP hD hS => ?_)
              have hP : va_P D vwCl (fl [(WC ca (nq5 n_ a1_4 a2_5 a3_6 a4_7) (fillF 12 kd (fun _ => 0)) (fillF 12 fs (fun _ => 0)) (fillF 12 sn (fun _ => 0)) (fillF 12 ak (fun _ => 0)) ga ot bx (fI 0) 0 (lN 0) 0), (WC ca cq kd fs sn ak ga ot bx se su ch ad)]) H := hP
              have hD : va_D A (fl [(WC ca (nq5 n_ a1_4 a2_5 a3_6 a4_7) (fillF 12 kd (fun _ => 0)) (fillF 12 fs (fun _ => 0)) (fillF 12 sn (fun _ => 0)) (fillF 12 ak (fun _ => 0)) ga ot bx (fI 0) 0 (lN 0) 0), (WC ca cq kd fs sn ak ga ot bx se su ch ad)]) := hD
              refine lv_aload_n hx hb dX2_init_3_117 rfl (lv_at hl 1 rfl) ?_
              refine lv_aload_n hx hb dX2_init_3_118 rfl (lv_at hl 2 rfl) ?_
              refine va_get (D := D) (ci := 1) (v := .int se) (C := RX2) (T := TX2) (N := 11) hx hb hts in_X2 hown hK hP 5 rfl rfl 7 (by decide) (hts _ q145) (fun _ h9 => h9) rfl dX2_init_3_119 ?_
              refine va_put (D := D) (ci := 1) (v := .int se) (ty := .int) (C := RX2) (T := TX2) (N := 11) hx hb hts in_X2 tyX2 tyX2_ok nmX2 hown hK hP hD hS 0 rfl rfl 7 (by decide) (hts _ q145) (fun _ h9 => h9) rfl (by decide +kernel) rfl rfl (Nat.le_of_ble_eq_true rfl) dX2_init_3_122 (fun H locs hP hD hS => ?_)
              have hP : va_P D vwCl (fl [(WC ca (nq5 n_ a1_4 a2_5 a3_6 a4_7) (fillF 12 kd (fun _ => 0)) (fillF 12 fs (fun _ => 0)) (fillF 12 sn (fun _ => 0)) (fillF 12 ak (fun _ => 0)) ga ot bx se 0 (lN 0) 0), (WC ca cq kd fs sn ak ga ot bx se su ch ad)]) H := hP
              have hD : va_D A (fl [(WC ca (nq5 n_ a1_4 a2_5 a3_6 a4_7) (fillF 12 kd (fun _ => 0)) (fillF 12 fs (fun _ => 0)) (fillF 12 sn (fun _ => 0)) (fillF 12 ak (fun _ => 0)) ga ot bx se 0 (lN 0) 0), (WC ca cq kd fs sn ak ga ot bx se su ch ad)]) := hD
              refine lv_aload_n hx hb dX2_init_3_125 rfl (lv_at hl 1 rfl) ?_
              refine lv_aload_n hx hb dX2_init_3_126 rfl (lv_at hl 2 rfl) ?_
              refine va_get (D := D) (ci := 1) (v := .int su) (C := RX2) (T := TX2) (N := 11) hx hb hts in_X2 hown hK hP 5 rfl rfl 8 (by decide) (hts _ q147) (fun _ h9 => h9) rfl dX2_init_3_127 ?_
              refine va_put (D := D) (ci := 1) (v := .int su) (ty := .boolean) (C := RX2) (T := TX2) (N := 11) hx hb hts in_X2 tyX2 tyX2_ok nmX2 hown hK hP hD hS 0 rfl rfl 8 (by decide) (hts _ q147) (fun _ h9 => h9) rfl (by decide +kernel) (su_nar hsu) (su_fit hsu) (Nat.le_of_ble_eq_true rfl) dX2_init_3_130 (fun H locs hP hD hS => ?_)
              have hP : va_P D vwCl (fl [(WC ca (nq5 n_ a1_4 a2_5 a3_6 a4_7) (fillF 12 kd (fun _ => 0)) (fillF 12 fs (fun _ => 0)) (fillF 12 sn (fun _ => 0)) (fillF 12 ak (fun _ => 0)) ga ot bx se su (lN 0) 0), (WC ca cq kd fs sn ak ga ot bx se su ch ad)]) H := hP
              have hD : va_D A (fl [(WC ca (nq5 n_ a1_4 a2_5 a3_6 a4_7) (fillF 12 kd (fun _ => 0)) (fillF 12 fs (fun _ => 0)) (fillF 12 sn (fun _ => 0)) (fillF 12 ak (fun _ => 0)) ga ot bx se su (lN 0) 0), (WC ca cq kd fs sn ak ga ot bx se su ch ad)]) := hD
              refine lv_aload_n hx hb dX2_init_3_133 rfl (lv_at hl 1 rfl) ?_
              refine lv_aload_n hx hb dX2_init_3_134 rfl (lv_at hl 2 rfl) ?_
              refine va_get (D := D) (ci := 1) (v := .long ch) (C := RX2) (T := TX2) (N := 11) hx hb hts in_X2 hown hK hP 5 rfl rfl 9 (by decide) (hts _ q149) (fun _ h9 => h9) rfl dX2_init_3_135 ?_
              refine va_put (D := D) (ci := 1) (v := .long ch) (ty := .long) (C := RX2) (T := TX2) (N := 11) hx hb hts in_X2 tyX2 tyX2_ok nmX2 hown hK hP hD hS 0 rfl rfl 9 (by decide) (hts _ q149) (fun _ h9 => h9) rfl (by decide +kernel) rfl rfl (Nat.le_of_ble_eq_true rfl) dX2_init_3_138 (fun H locs hP hD hS => ?_)
              have hP : va_P D vwCl (fl [(WC ca (nq5 n_ a1_4 a2_5 a3_6 a4_7) (fillF 12 kd (fun _ => 0)) (fillF 12 fs (fun _ => 0)) (fillF 12 sn (fun _ => 0)) (fillF 12 ak (fun _ => 0)) ga ot bx se su ch 0), (WC ca cq kd fs sn ak ga ot bx se su ch ad)]) H := hP
              have hD : va_D A (fl [(WC ca (nq5 n_ a1_4 a2_5 a3_6 a4_7) (fillF 12 kd (fun _ => 0)) (fillF 12 fs (fun _ => 0)) (fillF 12 sn (fun _ => 0)) (fillF 12 ak (fun _ => 0)) ga ot bx se su ch 0), (WC ca cq kd fs sn ak ga ot bx se su ch ad)]) := hD
              refine lv_aload_n hx hb dX2_init_3_141 rfl (lv_at hl 1 rfl) ?_
              refine lv_aload_n hx hb dX2_init_3_142 rfl (lv_at hl 2 rfl) ?_
              refine va_get (D := D) (ci := 1) (v := .int ad) (C := RX2) (T := TX2) (N := 11) hx hb hts in_X2 hown hK hP 5 rfl rfl 10 (by decide) (hts _ q151) (fun _ h9 => h9) rfl dX2_init_3_143 ?_
              refine va_put (D := D) (ci := 1) (v := .int ad) (ty := .int) (C := RX2) (T := TX2) (N := 11) hx hb hts in_X2 tyX2 tyX2_ok nmX2 hown hK hP hD hS 0 rfl rfl 10 (by decide) (hts _ q151) (fun _ h9 => h9) rfl (by decide +kernel) rfl rfl (Nat.le_of_ble_eq_true rfl) dX2_init_3_146 (fun H locs hP hD hS => ?_)
              have hP : va_P D vwCl (fl [(WC ca (nq5 n_ a1_4 a2_5 a3_6 a4_7) (fillF 12 kd (fun _ => 0)) (fillF 12 fs (fun _ => 0)) (fillF 12 sn (fun _ => 0)) (fillF 12 ak (fun _ => 0)) ga ot bx se su ch ad), (WC ca cq kd fs sn ak ga ot bx se su ch ad)]) H := hP
              have hD : va_D A (fl [(WC ca (nq5 n_ a1_4 a2_5 a3_6 a4_7) (fillF 12 kd (fun _ => 0)) (fillF 12 fs (fun _ => 0)) (fillF 12 sn (fun _ => 0)) (fillF 12 ak (fun _ => 0)) ga ot bx se su ch ad), (WC ca cq kd fs sn ak ga ot bx se su ch ad)]) := hD
              have hP : va_P D vwCl (fl [(WC ca (nq5 n_ a1_4 a2_5 a3_6 a4_7) kd (fillF 12 fs (fun _ => 0)) (fillF 12 sn (fun _ => 0)) (fillF 12 ak (fun _ => 0)) ga ot bx se su ch ad), (WC ca cq kd fs sn ak ga ot bx se su ch ad)]) H := va_cellP hP 1 rfl (va_ext_i (fun k hk => fillF_at hk))
              have hD : va_D A (fl [(WC ca (nq5 n_ a1_4 a2_5 a3_6 a4_7) kd (fillF 12 fs (fun _ => 0)) (fillF 12 sn (fun _ => 0)) (fillF 12 ak (fun _ => 0)) ga ot bx se su ch ad), (WC ca cq kd fs sn ak ga ot bx se su ch ad)]) := hD.set (p := 1) rfl
              have hP : va_P D vwCl (fl [(WC ca (nq5 n_ a1_4 a2_5 a3_6 a4_7) kd fs (fillF 12 sn (fun _ => 0)) (fillF 12 ak (fun _ => 0)) ga ot bx se su ch ad), (WC ca cq kd fs sn ak ga ot bx se su ch ad)]) H := va_cellP hP 2 rfl (va_ext_i (fun k hk => fillF_at hk))
              have hD : va_D A (fl [(WC ca (nq5 n_ a1_4 a2_5 a3_6 a4_7) kd fs (fillF 12 sn (fun _ => 0)) (fillF 12 ak (fun _ => 0)) ga ot bx se su ch ad), (WC ca cq kd fs sn ak ga ot bx se su ch ad)]) := hD.set (p := 2) rfl
              have hP : va_P D vwCl (fl [(WC ca (nq5 n_ a1_4 a2_5 a3_6 a4_7) kd fs sn (fillF 12 ak (fun _ => 0)) ga ot bx se su ch ad), (WC ca cq kd fs sn ak ga ot bx se su ch ad)]) H := va_cellP hP 3 rfl (va_ext_i (fun k hk => fillF_at hk))
              have hD : va_D A (fl [(WC ca (nq5 n_ a1_4 a2_5 a3_6 a4_7) kd fs sn (fillF 12 ak (fun _ => 0)) ga ot bx se su ch ad), (WC ca cq kd fs sn ak ga ot bx se su ch ad)]) := hD.set (p := 3) rfl
              have hP : va_P D vwCl (fl [(WC ca (nq5 n_ a1_4 a2_5 a3_6 a4_7) kd fs sn ak ga ot bx se su ch ad), (WC ca cq kd fs sn ak ga ot bx se su ch ad)]) H := va_cellP hP 4 rfl (va_ext_i (fun k hk => fillF_at hk))
              have hD : va_D A (fl [(WC ca (nq5 n_ a1_4 a2_5 a3_6 a4_7) kd fs sn ak ga ot bx se su ch ad), (WC ca cq kd fs sn ak ga ot bx se su ch ad)]) := hD.set (p := 4) rfl
              subst hQQ
              exact xe_v (a1_4, a2_5, a3_6, a4_7) hx hb hr hlocks hK hP hD hS (trivial) dX2_init_3_149
            · skip
              refine lv_aload_n hx hb dX2_init_3_75 rfl (lv_at hl 1 rfl) ?_
              refine va_get (D := D) (ci := 1) (v := .ref ((nq5 n_ a1_4 a2_5 a3_6 a4_7) 4)) (C := RX2) (T := TX2) (N := 11) hx hb hts in_X2 hown hK hP 0 rfl rfl 3 (by decide) (hts _ q137) (fun _ h9 => h9) rfl dX2_init_3_76 ?_
              refine lv_iload_n hx hb dX2_init_3_79 rfl (lv_at hl 0 rfl) ?_
              refine lv_aload_n hx hb dX2_init_3_80 rfl (lv_at hl 2 rfl) ?_
              refine va_get (D := D) (ci := 1) (v := .ref (cq 4)) (C := RX2) (T := TX2) (N := 11) hx hb hts in_X2 hown hK hP 5 rfl rfl 3 (by decide) (hts _ q137) (fun _ h9 => h9) rfl dX2_init_3_81 ?_
              refine lv_iload_n hx hb dX2_init_3_84 rfl (lv_at hl 0 rfl) ?_
              refine nv_iald hx hb hK hP 9 0 rfl rfl (by omega) (by decide) dX2_init_3_85 ?_
              refine nv_iast hx hb hK hP hD hS 4 0 rfl rfl (by omega) (by decide) dX2_init_3_86 (fun H locs hP hD hS => ?_)
              have hP : va_P D vwCl (fl [(WC ca (nq5 n_ a1_4 a2_5 a3_6 a4_7) (fillF 12 kd (fun _ => 0)) (fillF 12 fs (fun _ => 0)) (fillF 12 sn (fun _ => 0)) (upd (fillF i ak (fun _ => 0)) i (ak i)) 0 0 0 (fI 0) 0 (lN 0) 0), (WC ca cq kd fs sn ak ga ot bx se su ch ad)]) H := hP
              have hD : va_D A (fl [(WC ca (nq5 n_ a1_4 a2_5 a3_6 a4_7) (fillF 12 kd (fun _ => 0)) (fillF 12 fs (fun _ => 0)) (fillF 12 sn (fun _ => 0)) (upd (fillF i ak (fun _ => 0)) i (ak i)) 0 0 0 (fI 0) 0 (lN 0) 0), (WC ca cq kd fs sn ak ga ot bx se su ch ad)]) := hD
              have ew_ : upd (fillF i ak (fun _ => 0)) i (ak i) = fillF (i + 1) ak (fun _ => 0) := fillF_s _ _ _
              have hP : va_P D vwCl (fl [(WC ca (nq5 n_ a1_4 a2_5 a3_6 a4_7) (fillF 12 kd (fun _ => 0)) (fillF 12 fs (fun _ => 0)) (fillF 12 sn (fun _ => 0)) (fillF (i + 1) ak (fun _ => 0)) 0 0 0 (fI 0) 0 (lN 0) 0), (WC ca cq kd fs sn ak ga ot bx se su ch ad)]) H := (congrArg (fun x_ => va_P D vwCl (fl [(WC ca (nq5 n_ a1_4 a2_5 a3_6 a4_7) (fillF 12 kd (fun _ => 0)) (fillF 12 fs (fun _ => 0)) (fillF 12 sn (fun _ => 0)) x_ 0 0 0 (fI 0) 0 (lN 0) 0), (WC ca cq kd fs sn ak ga ot bx se su ch ad)]) H) ew_).mp hP
              have hD : va_D A (fl [(WC ca (nq5 n_ a1_4 a2_5 a3_6 a4_7) (fillF 12 kd (fun _ => 0)) (fillF 12 fs (fun _ => 0)) (fillF 12 sn (fun _ => 0)) (fillF (i + 1) ak (fun _ => 0)) 0 0 0 (fI 0) 0 (lN 0) 0), (WC ca cq kd fs sn ak ga ot bx se su ch ad)]) := (congrArg (fun x_ => va_D A (fl [(WC ca (nq5 n_ a1_4 a2_5 a3_6 a4_7) (fillF 12 kd (fun _ => 0)) (fillF 12 fs (fun _ => 0)) (fillF 12 sn (fun _ => 0)) x_ 0 0 0 (fI 0) 0 (lN 0) 0), (WC ca cq kd fs sn ak ga ot bx se su ch ad)])) ew_).mp hD
              clear ew_
              refine lv_iinc (v := nI (i + 1)) (lv' := [(2, .int (nI (i + 1))), (0, .ref n_), (1, .ref (cq 0))]) hx hb dX2_init_3_87 hl (k := 0) rfl (nI_add i 1) (by decide) rfl (fun ls hl => ?_)
              refine lv_goto (tgt := 69) hx hb dX2_init_3_90 (by decide) ?_
              exact ih_69  (i + 1) (by omega) (by omega) _ _ hP hD hS ls (lv_sub hl [0, 1, 2] rfl)
        have ew_ : (fun _ => 0) = (fillF 0 ak (fun _ => 0)) := (fillF_0 _ _).symm
        have hP : va_P D vwCl (fl [(WC ca (nq5 n_ a1_4 a2_5 a3_6 a4_7) (fillF 12 kd (fun _ => 0)) (fillF 12 fs (fun _ => 0)) (fillF 12 sn (fun _ => 0)) (fillF 0 ak (fun _ => 0)) 0 0 0 (fI 0) 0 (lN 0) 0), (WC ca cq kd fs sn ak ga ot bx se su ch ad)]) H := (congrArg (fun x_ => va_P D vwCl (fl [(WC ca (nq5 n_ a1_4 a2_5 a3_6 a4_7) (fillF 12 kd (fun _ => 0)) (fillF 12 fs (fun _ => 0)) (fillF 12 sn (fun _ => 0)) x_ 0 0 0 (fI 0) 0 (lN 0) 0), (WC ca cq kd fs sn ak ga ot bx se su ch ad)]) H) ew_).mp hP
        have hD : va_D A (fl [(WC ca (nq5 n_ a1_4 a2_5 a3_6 a4_7) (fillF 12 kd (fun _ => 0)) (fillF 12 fs (fun _ => 0)) (fillF 12 sn (fun _ => 0)) (fillF 0 ak (fun _ => 0)) 0 0 0 (fI 0) 0 (lN 0) 0), (WC ca cq kd fs sn ak ga ot bx se su ch ad)]) := (congrArg (fun x_ => va_D A (fl [(WC ca (nq5 n_ a1_4 a2_5 a3_6 a4_7) (fillF 12 kd (fun _ => 0)) (fillF 12 fs (fun _ => 0)) (fillF 12 sn (fun _ => 0)) x_ 0 0 0 (fI 0) 0 (lN 0) 0), (WC ca cq kd fs sn ak ga ot bx se su ch ad)])) ew_).mp hD
        clear ew_
        exact lp_69 (12 - 0 + 1) 0 (Nat.lt_succ_self _) (by omega) _ _ hP hD hS ls (lv_sub hl [0, 1, 2] rfl)
      · skip
        refine lv_aload_n hx hb dX2_init_3_25 rfl (lv_at hl 1 rfl) ?_
        refine va_get (D := D) (ci := 1) (v := .ref ((nq5 n_ a1_4 a2_5 a3_6 a4_7) 1)) (C := RX2) (T := TX2) (N := 11) hx hb hts in_X2 hown hK hP 0 rfl rfl 0 (by decide) (hts _ q131) (fun _ h9 => h9) rfl dX2_init_3_26 ?_
        refine lv_iload_n hx hb dX2_init_3_29 rfl (lv_at hl 0 rfl) ?_
        refine lv_aload_n hx hb dX2_init_3_30 rfl (lv_at hl 2 rfl) ?_
        refine va_get (D := D) (ci := 1) (v := .ref (cq 1)) (C := RX2) (T := TX2) (N := 11) hx hb hts in_X2 hown hK hP 5 rfl rfl 0 (by decide) (hts _ q131) (fun _ h9 => h9) rfl dX2_init_3_31 ?_
        refine lv_iload_n hx hb dX2_init_3_34 rfl (lv_at hl 0 rfl) ?_
        refine nv_iald hx hb hK hP 6 0 rfl rfl (by omega) (by decide) dX2_init_3_35 ?_
        refine nv_iast hx hb hK hP hD hS 1 0 rfl rfl (by omega) (by decide) dX2_init_3_36 (fun H locs hP hD hS => ?_)
        have hP : va_P D vwCl (fl [(WC ca (nq5 n_ a1_4 a2_5 a3_6 a4_7) (upd (fillF i kd (fun _ => 0)) i (kd i)) (fillF i fs (fun _ => 0)) (fillF i sn (fun _ => 0)) (fun _ => 0) 0 0 0 (fI 0) 0 (lN 0) 0), (WC ca cq kd fs sn ak ga ot bx se su ch ad)]) H := hP
        have hD : va_D A (fl [(WC ca (nq5 n_ a1_4 a2_5 a3_6 a4_7) (upd (fillF i kd (fun _ => 0)) i (kd i)) (fillF i fs (fun _ => 0)) (fillF i sn (fun _ => 0)) (fun _ => 0) 0 0 0 (fI 0) 0 (lN 0) 0), (WC ca cq kd fs sn ak ga ot bx se su ch ad)]) := hD
        have ew_ : upd (fillF i kd (fun _ => 0)) i (kd i) = fillF (i + 1) kd (fun _ => 0) := fillF_s _ _ _
        have hP : va_P D vwCl (fl [(WC ca (nq5 n_ a1_4 a2_5 a3_6 a4_7) (fillF (i + 1) kd (fun _ => 0)) (fillF i fs (fun _ => 0)) (fillF i sn (fun _ => 0)) (fun _ => 0) 0 0 0 (fI 0) 0 (lN 0) 0), (WC ca cq kd fs sn ak ga ot bx se su ch ad)]) H := (congrArg (fun x_ => va_P D vwCl (fl [(WC ca (nq5 n_ a1_4 a2_5 a3_6 a4_7) x_ (fillF i fs (fun _ => 0)) (fillF i sn (fun _ => 0)) (fun _ => 0) 0 0 0 (fI 0) 0 (lN 0) 0), (WC ca cq kd fs sn ak ga ot bx se su ch ad)]) H) ew_).mp hP
        have hD : va_D A (fl [(WC ca (nq5 n_ a1_4 a2_5 a3_6 a4_7) (fillF (i + 1) kd (fun _ => 0)) (fillF i fs (fun _ => 0)) (fillF i sn (fun _ => 0)) (fun _ => 0) 0 0 0 (fI 0) 0 (lN 0) 0), (WC ca cq kd fs sn ak ga ot bx se su ch ad)]) := (congrArg (fun x_ => va_D A (fl [(WC ca (nq5 n_ a1_4 a2_5 a3_6 a4_7) x_ (fillF i fs (fun _ => 0)) (fillF i sn (fun _ => 0)) (fun _ => 0) 0 0 0 (fI 0) 0 (lN 0) 0), (WC ca cq kd fs sn ak ga ot bx se su ch ad)])) ew_).mp hD
        clear ew_
        refine lv_aload_n hx hb dX2_init_3_37 rfl (lv_at hl 1 rfl) ?_
        refine va_get (D := D) (ci := 1) (v := .ref ((nq5 n_ a1_4 a2_5 a3_6 a4_7) 2)) (C := RX2) (T := TX2) (N := 11) hx hb hts in_X2 hown hK hP 0 rfl rfl 1 (by decide) (hts _ q133) (fun _ h9 => h9) rfl dX2_init_3_38 ?_
        refine lv_iload_n hx hb dX2_init_3_41 rfl (lv_at hl 0 rfl) ?_
        refine lv_aload_n hx hb dX2_init_3_42 rfl (lv_at hl 2 rfl) ?_
        refine va_get (D := D) (ci := 1) (v := .ref (cq 2)) (C := RX2) (T := TX2) (N := 11) hx hb hts in_X2 hown hK hP 5 rfl rfl 1 (by decide) (hts _ q133) (fun _ h9 => h9) rfl dX2_init_3_43 ?_
        refine lv_iload_n hx hb dX2_init_3_46 rfl (lv_at hl 0 rfl) ?_
        refine nv_iald hx hb hK hP 7 0 rfl rfl (by omega) (by decide) dX2_init_3_47 ?_
        refine nv_iast hx hb hK hP hD hS 2 0 rfl rfl (by omega) (by decide) dX2_init_3_48 (fun H locs hP hD hS => ?_)
        have hP : va_P D vwCl (fl [(WC ca (nq5 n_ a1_4 a2_5 a3_6 a4_7) (fillF (i + 1) kd (fun _ => 0)) (upd (fillF i fs (fun _ => 0)) i (fs i)) (fillF i sn (fun _ => 0)) (fun _ => 0) 0 0 0 (fI 0) 0 (lN 0) 0), (WC ca cq kd fs sn ak ga ot bx se su ch ad)]) H := hP
        have hD : va_D A (fl [(WC ca (nq5 n_ a1_4 a2_5 a3_6 a4_7) (fillF (i + 1) kd (fun _ => 0)) (upd (fillF i fs (fun _ => 0)) i (fs i)) (fillF i sn (fun _ => 0)) (fun _ => 0) 0 0 0 (fI 0) 0 (lN 0) 0), (WC ca cq kd fs sn ak ga ot bx se su ch ad)]) := hD
        have ew_ : upd (fillF i fs (fun _ => 0)) i (fs i) = fillF (i + 1) fs (fun _ => 0) := fillF_s _ _ _
        have hP : va_P D vwCl (fl [(WC ca (nq5 n_ a1_4 a2_5 a3_6 a4_7) (fillF (i + 1) kd (fun _ => 0)) (fillF (i + 1) fs (fun _ => 0)) (fillF i sn (fun _ => 0)) (fun _ => 0) 0 0 0 (fI 0) 0 (lN 0) 0), (WC ca cq kd fs sn ak ga ot bx se su ch ad)]) H := (congrArg (fun x_ => va_P D vwCl (fl [(WC ca (nq5 n_ a1_4 a2_5 a3_6 a4_7) (fillF (i + 1) kd (fun _ => 0)) x_ (fillF i sn (fun _ => 0)) (fun _ => 0) 0 0 0 (fI 0) 0 (lN 0) 0), (WC ca cq kd fs sn ak ga ot bx se su ch ad)]) H) ew_).mp hP
        have hD : va_D A (fl [(WC ca (nq5 n_ a1_4 a2_5 a3_6 a4_7) (fillF (i + 1) kd (fun _ => 0)) (fillF (i + 1) fs (fun _ => 0)) (fillF i sn (fun _ => 0)) (fun _ => 0) 0 0 0 (fI 0) 0 (lN 0) 0), (WC ca cq kd fs sn ak ga ot bx se su ch ad)]) := (congrArg (fun x_ => va_D A (fl [(WC ca (nq5 n_ a1_4 a2_5 a3_6 a4_7) (fillF (i + 1) kd (fun _ => 0)) x_ (fillF i sn (fun _ => 0)) (fun _ => 0) 0 0 0 (fI 0) 0 (lN 0) 0), (WC ca cq kd fs sn ak ga ot bx se su ch ad)])) ew_).mp hD
        clear ew_
        refine lv_aload_n hx hb dX2_init_3_49 rfl (lv_at hl 1 rfl) ?_
        refine va_get (D := D) (ci := 1) (v := .ref ((nq5 n_ a1_4 a2_5 a3_6 a4_7) 3)) (C := RX2) (T := TX2) (N := 11) hx hb hts in_X2 hown hK hP 0 rfl rfl 2 (by decide) (hts _ q135) (fun _ h9 => h9) rfl dX2_init_3_50 ?_
        refine lv_iload_n hx hb dX2_init_3_53 rfl (lv_at hl 0 rfl) ?_
        refine lv_aload_n hx hb dX2_init_3_54 rfl (lv_at hl 2 rfl) ?_
        refine va_get (D := D) (ci := 1) (v := .ref (cq 3)) (C := RX2) (T := TX2) (N := 11) hx hb hts in_X2 hown hK hP 5 rfl rfl 2 (by decide) (hts _ q135) (fun _ h9 => h9) rfl dX2_init_3_55 ?_
        refine lv_iload_n hx hb dX2_init_3_58 rfl (lv_at hl 0 rfl) ?_
        refine nv_iald hx hb hK hP 8 0 rfl rfl (by omega) (by decide) dX2_init_3_59 ?_
        refine nv_iast hx hb hK hP hD hS 3 0 rfl rfl (by omega) (by decide) dX2_init_3_60 (fun H locs hP hD hS => ?_)
        have hP : va_P D vwCl (fl [(WC ca (nq5 n_ a1_4 a2_5 a3_6 a4_7) (fillF (i + 1) kd (fun _ => 0)) (fillF (i + 1) fs (fun _ => 0)) (upd (fillF i sn (fun _ => 0)) i (sn i)) (fun _ => 0) 0 0 0 (fI 0) 0 (lN 0) 0), (WC ca cq kd fs sn ak ga ot bx se su ch ad)]) H := hP
        have hD : va_D A (fl [(WC ca (nq5 n_ a1_4 a2_5 a3_6 a4_7) (fillF (i + 1) kd (fun _ => 0)) (fillF (i + 1) fs (fun _ => 0)) (upd (fillF i sn (fun _ => 0)) i (sn i)) (fun _ => 0) 0 0 0 (fI 0) 0 (lN 0) 0), (WC ca cq kd fs sn ak ga ot bx se su ch ad)]) := hD
        have ew_ : upd (fillF i sn (fun _ => 0)) i (sn i) = fillF (i + 1) sn (fun _ => 0) := fillF_s _ _ _
        have hP : va_P D vwCl (fl [(WC ca (nq5 n_ a1_4 a2_5 a3_6 a4_7) (fillF (i + 1) kd (fun _ => 0)) (fillF (i + 1) fs (fun _ => 0)) (fillF (i + 1) sn (fun _ => 0)) (fun _ => 0) 0 0 0 (fI 0) 0 (lN 0) 0), (WC ca cq kd fs sn ak ga ot bx se su ch ad)]) H := (congrArg (fun x_ => va_P D vwCl (fl [(WC ca (nq5 n_ a1_4 a2_5 a3_6 a4_7) (fillF (i + 1) kd (fun _ => 0)) (fillF (i + 1) fs (fun _ => 0)) x_ (fun _ => 0) 0 0 0 (fI 0) 0 (lN 0) 0), (WC ca cq kd fs sn ak ga ot bx se su ch ad)]) H) ew_).mp hP
        have hD : va_D A (fl [(WC ca (nq5 n_ a1_4 a2_5 a3_6 a4_7) (fillF (i + 1) kd (fun _ => 0)) (fillF (i + 1) fs (fun _ => 0)) (fillF (i + 1) sn (fun _ => 0)) (fun _ => 0) 0 0 0 (fI 0) 0 (lN 0) 0), (WC ca cq kd fs sn ak ga ot bx se su ch ad)]) := (congrArg (fun x_ => va_D A (fl [(WC ca (nq5 n_ a1_4 a2_5 a3_6 a4_7) (fillF (i + 1) kd (fun _ => 0)) (fillF (i + 1) fs (fun _ => 0)) x_ (fun _ => 0) 0 0 0 (fI 0) 0 (lN 0) 0), (WC ca cq kd fs sn ak ga ot bx se su ch ad)])) ew_).mp hD
        clear ew_
        refine lv_iinc (v := nI (i + 1)) (lv' := [(2, .int (nI (i + 1))), (0, .ref n_), (1, .ref (cq 0))]) hx hb dX2_init_3_61 hl (k := 0) rfl (nI_add i 1) (by decide) rfl (fun ls hl => ?_)
        refine lv_goto (tgt := 19) hx hb dX2_init_3_64 (by decide) ?_
        exact ih_19  (i + 1) (by omega) (by omega) _ _ hP hD hS ls (lv_sub hl [0, 1, 2] rfl)
  have ew_ : (fun _ => 0) = (fillF 0 kd (fun _ => 0)) := (fillF_0 _ _).symm
  have hP : va_P D vwCl (fl [(WC ca (nq5 n_ a1_4 a2_5 a3_6 a4_7) (fillF 0 kd (fun _ => 0)) (fun _ => 0) (fun _ => 0) (fun _ => 0) 0 0 0 (fI 0) 0 (lN 0) 0), (WC ca cq kd fs sn ak ga ot bx se su ch ad)]) H := (congrArg (fun x_ => va_P D vwCl (fl [(WC ca (nq5 n_ a1_4 a2_5 a3_6 a4_7) x_ (fun _ => 0) (fun _ => 0) (fun _ => 0) 0 0 0 (fI 0) 0 (lN 0) 0), (WC ca cq kd fs sn ak ga ot bx se su ch ad)]) H) ew_).mp hP
  have hD : va_D A (fl [(WC ca (nq5 n_ a1_4 a2_5 a3_6 a4_7) (fillF 0 kd (fun _ => 0)) (fun _ => 0) (fun _ => 0) (fun _ => 0) 0 0 0 (fI 0) 0 (lN 0) 0), (WC ca cq kd fs sn ak ga ot bx se su ch ad)]) := (congrArg (fun x_ => va_D A (fl [(WC ca (nq5 n_ a1_4 a2_5 a3_6 a4_7) x_ (fun _ => 0) (fun _ => 0) (fun _ => 0) 0 0 0 (fI 0) 0 (lN 0) 0), (WC ca cq kd fs sn ak ga ot bx se su ch ad)])) ew_).mp hD
  clear ew_
  have ew_ : (fun _ => 0) = (fillF 0 fs (fun _ => 0)) := (fillF_0 _ _).symm
  have hP : va_P D vwCl (fl [(WC ca (nq5 n_ a1_4 a2_5 a3_6 a4_7) (fillF 0 kd (fun _ => 0)) (fillF 0 fs (fun _ => 0)) (fun _ => 0) (fun _ => 0) 0 0 0 (fI 0) 0 (lN 0) 0), (WC ca cq kd fs sn ak ga ot bx se su ch ad)]) H := (congrArg (fun x_ => va_P D vwCl (fl [(WC ca (nq5 n_ a1_4 a2_5 a3_6 a4_7) (fillF 0 kd (fun _ => 0)) x_ (fun _ => 0) (fun _ => 0) 0 0 0 (fI 0) 0 (lN 0) 0), (WC ca cq kd fs sn ak ga ot bx se su ch ad)]) H) ew_).mp hP
  have hD : va_D A (fl [(WC ca (nq5 n_ a1_4 a2_5 a3_6 a4_7) (fillF 0 kd (fun _ => 0)) (fillF 0 fs (fun _ => 0)) (fun _ => 0) (fun _ => 0) 0 0 0 (fI 0) 0 (lN 0) 0), (WC ca cq kd fs sn ak ga ot bx se su ch ad)]) := (congrArg (fun x_ => va_D A (fl [(WC ca (nq5 n_ a1_4 a2_5 a3_6 a4_7) (fillF 0 kd (fun _ => 0)) x_ (fun _ => 0) (fun _ => 0) 0 0 0 (fI 0) 0 (lN 0) 0), (WC ca cq kd fs sn ak ga ot bx se su ch ad)])) ew_).mp hD
  clear ew_
  have ew_ : (fun _ => 0) = (fillF 0 sn (fun _ => 0)) := (fillF_0 _ _).symm
  have hP : va_P D vwCl (fl [(WC ca (nq5 n_ a1_4 a2_5 a3_6 a4_7) (fillF 0 kd (fun _ => 0)) (fillF 0 fs (fun _ => 0)) (fillF 0 sn (fun _ => 0)) (fun _ => 0) 0 0 0 (fI 0) 0 (lN 0) 0), (WC ca cq kd fs sn ak ga ot bx se su ch ad)]) H := (congrArg (fun x_ => va_P D vwCl (fl [(WC ca (nq5 n_ a1_4 a2_5 a3_6 a4_7) (fillF 0 kd (fun _ => 0)) (fillF 0 fs (fun _ => 0)) x_ (fun _ => 0) 0 0 0 (fI 0) 0 (lN 0) 0), (WC ca cq kd fs sn ak ga ot bx se su ch ad)]) H) ew_).mp hP
  have hD : va_D A (fl [(WC ca (nq5 n_ a1_4 a2_5 a3_6 a4_7) (fillF 0 kd (fun _ => 0)) (fillF 0 fs (fun _ => 0)) (fillF 0 sn (fun _ => 0)) (fun _ => 0) 0 0 0 (fI 0) 0 (lN 0) 0), (WC ca cq kd fs sn ak ga ot bx se su ch ad)]) := (congrArg (fun x_ => va_D A (fl [(WC ca (nq5 n_ a1_4 a2_5 a3_6 a4_7) (fillF 0 kd (fun _ => 0)) (fillF 0 fs (fun _ => 0)) x_ (fun _ => 0) 0 0 0 (fI 0) 0 (lN 0) 0), (WC ca cq kd fs sn ak ga ot bx se su ch ad)])) ew_).mp hD
  clear ew_
  exact lp_19 (12 - 0 + 1) 0 (Nat.lt_succ_self _) (by omega) _ _ hP hD hS ls (lv_sub hl [0, 1, 2] rfl)
