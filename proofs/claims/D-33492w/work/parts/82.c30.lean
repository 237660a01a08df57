/-! the reader: letters, tests -/
set_option maxRecDepth 100000
set_option maxHeartbeats 400000 in
set_option maxRecDepth 100000 in
theorem mt_J6_init_3_5 (l : Launch) (D : va_G) (ca : Nat → ClassId) (x_ : Nat)  (nn : Nat) : Met l yJ6_init_3 (ws_ yJ6_init_3 cJ6_init_3 5 (Option.none : Option Jvm.ClassFile.FieldType)) ({ frames := 1, cells := 0, slots := 0, locals := 40 } : Room) (va_Pc [.ref x_, .null, .null, .int (nI 0), .int (nI 0)] (PreW EvY D vwCl (TY ca) (fl [[(x_, .inr (5, [.null, .null, .null, .null, .null, .int 0]))]]) nn)) (va_Qv (fun (_ : Unit) => True) (PostW D vwCl (TY ca) (fun (_ : Unit) => (fl [[(x_, .inr (5, [.null, .null, .null, .null, .null, .int 0]))]])) (va_A (fl [[(x_, .inr (5, [.null, .null, .null, .null, .null, .int 0]))]]) nn)) (va_A (fl [[(x_, .inr (5, [.null, .null, .null, .null, .null, .int 0]))]]) nn)) 0 0 (va_A (fl [[(x_, .inr (5, [.null, .null, .null, .null, .null, .int 0]))]]) nn) := by
  refine met_go2 (QA := fun A => va_Qv (fun (_ : Unit) => True) (PostW D vwCl (TY ca) (fun (_ : Unit) => (fl [[(x_, .inr (5, [.null, .null, .null, .null, .null, .int 0]))]])) A) A) (by decide) (Nat.le_of_ble_eq_true rfl) (fun p e s m below meth c A ls QQ hQQ hmn hnm hx hb hr hts hown hlocks hml hA hP hK hD hE hl => ?_)
  have hown : s.vm.findClass RJ6 = some m.cls := hown
  have hS : va_S A s.heap s.heap [] := va_S.rf
  have hl : lv_has ls 5 [(0, .ref x_), (1, .null), (2, .null), (3, .int (nI 0)), (4, .int (nI 0))] := hl
  generalize hHe : s.heap = H at hP ⊢
  have hS : va_S A s.heap H [] := hHe ▸ hS
  generalize ([] : List Loc) = locs at hS ⊢
  refine lv_aload_n hx hb dJ6_init_3_0 rfl (lv_at hl 0 rfl) ?_
  refine W.objInit hx hb hown (hts _ q338) (hts _ q120) (hts _ q121) rfl (by rw [hml]; exact hl.1) rfl dJ6_init_3_1 (Nat.le_of_ble_eq_true rfl) (Nat.le_of_ble_eq_true rfl) ?_
  show W p l e _ s m _ below meth c _ _ _ _ _ (F0 m 4 ls [])
  refine lv_aload_n hx hb dJ6_init_3_4 rfl (lv_at hl 0 rfl) ?_
  refine lv_aload_n hx hb dJ6_init_3_5 rfl (lv_at hl 0 rfl) ?_
  refine va_put (D := D) (ci := 5) (v := .ref x_) (ty := (.object "java/lang/Throwable")) (C := RX5) (T := TX5) (N := 6) hx hb hts in_X5 tyX5 tyX5_ok nmX5 hown hK hP hD hS 0 rfl rfl 0 (by decide) (hts _ q373) (fun _ h9 => h9) rfl (by decide +kernel) rfl rfl (Nat.le_of_ble_eq_true rfl) dJ6_init_3_6 (fun H locs hP hD hS => ?_)
  have hP : va_P D vwCl (fl [[(x_, .inr (5, [.ref x_, .null, .null, .null, .null, .int 0]))]]) H := hP
  have hD : va_D A (fl [[(x_, .inr (5, [.ref x_, .null, .null, .null, .null, .int 0]))]]) := hD
  refine lv_aload_n hx hb dJ6_init_3_9 rfl (lv_at hl 0 rfl) ?_
  rcases hE.2.2.2.1 with hz_ | ⟨tz_10, hz_⟩
  · skip
    refine va_gets (v := .null) hx hb hz_ hS hown (hts _ q339) (fun _ h9 => h9) dJ6_init_3_10 ?_
    refine va_put (D := D) (ci := 5) (v := .null) (ty := (.array (.object "java/lang/StackTraceElement"))) (C := RX5) (T := TX5) (N := 6) hx hb hts in_X5 tyX5 tyX5_ok nmX5 hown hK hP hD hS 0 rfl rfl 1 (by decide) (hts _ q374) (fun _ h9 => h9) rfl (by decide +kernel) rfl rfl (Nat.le_of_ble_eq_true rfl) dJ6_init_3_13 (fun H locs hP hD hS => ?_)
    have hP : va_P D vwCl (fl [[(x_, .inr (5, [.ref x_, .null, .null, .null, .null, .int 0]))]]) H := hP
    have hD : va_D A (fl [[(x_, .inr (5, [.ref x_, .null, .null, .null, .null, .int 0]))]]) := hD
    refine lv_aload_n hx hb dJ6_init_3_16 rfl (lv_at hl 0 rfl) ?_
    rcases hE.2.2.2.2.1 with hz_ | ⟨tz_17, hz_⟩
    · skip
      refine va_gets (v := .null) hx hb hz_ hS hown (hts _ q341) (fun _ h9 => h9) dJ6_init_3_17 ?_
      refine va_put (D := D) (ci := 5) (v := .null) (ty := (.object "java/util/List")) (C := RX5) (T := TX5) (N := 6) hx hb hts in_X5 tyX5 tyX5_ok nmX5 hown hK hP hD hS 0 rfl rfl 2 (by decide) (hts _ q375) (fun _ h9 => h9) rfl (by decide +kernel) rfl rfl (Nat.le_of_ble_eq_true rfl) dJ6_init_3_20 (fun H locs hP hD hS => ?_)
      have hP : va_P D vwCl (fl [[(x_, .inr (5, [.ref x_, .null, .null, .null, .null, .int 0]))]]) H := hP
      have hD : va_D A (fl [[(x_, .inr (5, [.ref x_, .null, .null, .null, .null, .int 0]))]]) := hD
      refine lv_iload hx hb dJ6_init_3_23 (lv_at hl 4 rfl) ?_
      refine nv_if_eq (tgt := 36) hx hb dJ6_init_3_25 (by decide) (by omega) (fun c_25 => ?_) (fun c_25 => absurd c_25 (by decide))
      refine lv_aload_n hx hb dJ6_init_3_36 rfl (lv_at hl 0 rfl) ?_
      refine lv_null hx hb dJ6_init_3_37 ?_
      refine va_put (D := D) (ci := 5) (v := .null) (ty := (.array (.object "java/lang/StackTraceElement"))) (C := RX5) (T := TX5) (N := 6) hx hb hts in_X5 tyX5 tyX5_ok nmX5 hown hK hP hD hS 0 rfl rfl 1 (by decide) (hts _ q374) (fun _ h9 => h9) rfl (by decide +kernel) rfl rfl (Nat.le_of_ble_eq_true rfl) dJ6_init_3_38 (fun H locs hP hD hS => ?_)
      have hP : va_P D vwCl (fl [[(x_, .inr (5, [.ref x_, .null, .null, .null, .null, .int 0]))]]) H := hP
      have hD : va_D A (fl [[(x_, .inr (5, [.ref x_, .null, .null, .null, .null, .int 0]))]]) := hD
      refine lv_aload_n hx hb dJ6_init_3_41 rfl (lv_at hl 0 rfl) ?_
      refine lv_aload_nN hx hb dJ6_init_3_42 rfl (lv_at hl 1 rfl) ?_
      refine va_put (D := D) (ci := 5) (v := .null) (ty := (.object "java/lang/String")) (C := RX5) (T := TX5) (N := 6) hx hb hts in_X5 tyX5 tyX5_ok nmX5 hown hK hP hD hS 0 rfl rfl 3 (by decide) (hts _ q372) (fun _ h9 => h9) rfl (by decide +kernel) rfl rfl (Nat.le_of_ble_eq_true rfl) dJ6_init_3_43 (fun H locs hP hD hS => ?_)
      have hP : va_P D vwCl (fl [[(x_, .inr (5, [.ref x_, .null, .null, .null, .null, .int 0]))]]) H := hP
      have hD : va_D A (fl [[(x_, .inr (5, [.ref x_, .null, .null, .null, .null, .int 0]))]]) := hD
      refine lv_aload_n hx hb dJ6_init_3_46 rfl (lv_at hl 0 rfl) ?_
      refine lv_aload_nN hx hb dJ6_init_3_47 rfl (lv_at hl 2 rfl) ?_
      refine va_put (D := D) (ci := 5) (v := .null) (ty := (.object "java/lang/Throwable")) (C := RX5) (T := TX5) (N := 6) hx hb hts in_X5 tyX5 tyX5_ok nmX5 hown hK hP hD hS 0 rfl rfl 0 (by decide) (hts _ q373) (fun _ h9 => h9) rfl (by decide +kernel) rfl rfl (Nat.le_of_ble_eq_true rfl) dJ6_init_3_48 (fun H locs hP hD hS => ?_)
      have hP : va_P D vwCl (fl [[(x_, .inr (5, [.null, .null, .null, .null, .null, .int 0]))]]) H := hP
      have hD : va_D A (fl [[(x_, .inr (5, [.null, .null, .null, .null, .null, .int 0]))]]) := hD
      refine lv_iload_n hx hb dJ6_init_3_51 rfl (lv_at hl 3 rfl) ?_
      refine nv_if_ne (tgt := 60) hx hb dJ6_init_3_52 (by decide) (by omega) (fun c_52 => absurd c_52 (by decide)) (fun c_52 => ?_)
      refine lv_aload_n hx hb dJ6_init_3_55 rfl (lv_at hl 0 rfl) ?_
      refine lv_null hx hb dJ6_init_3_56 ?_
      refine va_put (D := D) (ci := 5) (v := .null) (ty := (.object "java/util/List")) (C := RX5) (T := TX5) (N := 6) hx hb hts in_X5 tyX5 tyX5_ok nmX5 hown hK hP hD hS 0 rfl rfl 2 (by decide) (hts _ q375) (fun _ h9 => h9) rfl (by decide +kernel) rfl rfl (Nat.le_of_ble_eq_true rfl) dJ6_init_3_57 (fun H locs hP hD hS => ?_)
      have hP : va_P D vwCl (fl [[(x_, .inr (5, [.null, .null, .null, .null, .null, .int 0]))]]) H := hP
      have hD : va_D A (fl [[(x_, .inr (5, [.null, .null, .null, .null, .null, .int 0]))]]) := hD
      subst hQQ
      exact xe_v () hx hb hr hlocks hK hP hD hS (trivial) dJ6_init_3_60
    · skip
      refine va_gets (v := .ref tz_17) hx hb hz_ hS hown (hts _ q341) (fun _ h9 => h9) dJ6_init_3_17 ?_
      refine va_put (D := D) (ci := 5) (v := .ref tz_17) (ty := (.object "java/util/List")) (C := RX5) (T := TX5) (N := 6) hx hb hts in_X5 tyX5 tyX5_ok nmX5 hown hK hP hD hS 0 rfl rfl 2 (by decide) (hts _ q375) (fun _ h9 => h9) rfl (by decide +kernel) rfl rfl (Nat.le_of_ble_eq_true rfl) dJ6_init_3_20 (fun H locs hP hD hS => ?_)
      have hP : va_P D vwCl (fl [[(x_, .inr (5, [.ref x_, .null, .ref tz_17, .null, .null, .int 0]))]]) H := hP
      have hD : va_D A (fl [[(x_, .inr (5, [.ref x_, .null, .ref tz_17, .null, .null, .int 0]))]]) := hD
      refine lv_iload hx hb dJ6_init_3_23 (lv_at hl 4 rfl) ?_
      refine nv_if_eq (tgt := 36) hx hb dJ6_init_3_25 (by decide) (by omega) (fun c_25 => ?_) (fun c_25 => absurd c_25 (by decide))
      refine lv_aload_n hx hb dJ6_init_3_36 rfl (lv_at hl 0 rfl) ?_
      refine lv_null hx hb dJ6_init_3_37 ?_
      refine va_put (D := D) (ci := 5) (v := .null) (ty := (.array (.object "java/lang/StackTraceElement"))) (C := RX5) (T := TX5) (N := 6) hx hb hts in_X5 tyX5 tyX5_ok nmX5 hown hK hP hD hS 0 rfl rfl 1 (by decide) (hts _ q374) (fun _ h9 => h9) rfl (by decide +kernel) rfl rfl (Nat.le_of_ble_eq_true rfl) dJ6_init_3_38 (fun H locs hP hD hS => ?_)
      have hP : va_P D vwCl (fl [[(x_, .inr (5, [.ref x_, .null, .ref tz_17, .null, .null, .int 0]))]]) H := hP
      have hD : va_D A (fl [[(x_, .inr (5, [.ref x_, .null, .ref tz_17, .null, .null, .int 0]))]]) := hD
      refine lv_aload_n hx hb dJ6_init_3_41 rfl (lv_at hl 0 rfl) ?_
      refine lv_aload_nN hx hb dJ6_init_3_42 rfl (lv_at hl 1 rfl) ?_
      refine va_put (D := D) (ci := 5) (v := .null) (ty := (.object "java/lang/String")) (C := RX5) (T := TX5) (N := 6) hx hb hts in_X5 tyX5 tyX5_ok nmX5 hown hK hP hD hS 0 rfl rfl 3 (by decide) (hts _ q372) (fun _ h9 => h9) rfl (by decide +kernel) rfl rfl (Nat.le_of_ble_eq_true rfl) dJ6_init_3_43 (fun H locs hP hD hS => ?_)
      have hP : va_P D vwCl (fl [[(x_, .inr (5, [.ref x_, .null, .ref tz_17, .null, .null, .int 0]))]]) H := hP
      have hD : va_D A (fl [[(x_, .inr (5, [.ref x_, .null, .ref tz_17, .null, .null, .int 0]))]]) := hD
      refine lv_aload_n hx hb dJ6_init_3_46 rfl (lv_at hl 0 rfl) ?_
      refine lv_aload_nN hx hb dJ6_init_3_47 rfl (lv_at hl 2 rfl) ?_
      refine va_put (D := D) (ci := 5) (v := .null) (ty := (.object "java/lang/Throwable")) (C := RX5) (T := TX5) (N := 6) hx hb hts in_X5 tyX5 tyX5_ok nmX5 hown hK hP hD hS 0 rfl rfl 0 (by decide) (hts _ q373) (fun _ h9 => h9) rfl (by decide +kernel) rfl rfl (Nat.le_of_ble_eq_true rfl) dJ6_init_3_48 (fun H locs hP hD hS => ?_)
      have hP : va_P D vwCl (fl [[(x_, .inr (5, [.null, .null, .ref tz_17, .null, .null, .int 0]))]]) H := hP
      have hD : va_D A (fl [[(x_, .inr (5, [.null, .null, .ref tz_17, .null, .null, .int 0]))]]) := hD
      refine lv_iload_n hx hb dJ6_init_3_51 rfl (lv_at hl 3 rfl) ?_
      refine nv_if_ne (tgt := 60) hx hb dJ6_init_3_52 (by decide) (by omega) (fun c_52 => absurd c_52 (by decide)) (fun c_52 => ?_)
      refine lv_aload_n hx hb dJ6_init_3_55 rfl (lv_at hl 0 rfl) ?_
      refine lv_null hx hb dJ6_init_3_56 ?_
      refine va_put (D := D) (ci := 5) (v := .null) (ty := (.object "java/util/List")) (C := RX5) (T := TX5) (N := 6) hx hb hts in_X5 tyX5 tyX5_ok nmX5 hown hK hP hD hS 0 rfl rfl 2 (by decide) (hts _ q375) (fun _ h9 => h9) rfl (by decide +kernel) rfl rfl (Nat.le_of_ble_eq_true rfl) dJ6_init_3_57 (fun H locs hP hD hS => ?_)
      have hP : va_P D vwCl (fl [[(x_, .inr (5, [.null, .null, .null, .null, .null, .int 0]))]]) H := hP
      have hD : va_D A (fl [[(x_, .inr (5, [.null, .null, .null, .null, .null, .int 0]))]]) := hD
      subst hQQ
      exact xe_v () hx hb hr hlocks hK hP hD hS (trivial) dJ6_init_3_60
  · skip
    refine va_gets (v := .ref tz_10) hx hb hz_ hS hown (hts _ q339) (fun _ h9 => h9) dJ6_init_3_10 ?_
    refine va_put (D := D) (ci := 5) (v := .ref tz_10) (ty := (.array (.object "java/lang/StackTraceElement"))) (C := RX5) (T := TX5) (N := 6) hx hb hts in_X5 tyX5 tyX5_ok nmX5 hown hK hP hD hS 0 rfl rfl 1 (by decide) (hts _ q374) (fun _ h9 => h9) rfl (by decide +kernel) rfl rfl (Nat.le_of_ble_eq_true rfl) dJ6_init_3_13 (fun H locs hP hD hS => ?_)
    have hP : va_P D vwCl (fl [[(x_, .inr (5, [.ref x_, .ref tz_10, .null, .null, .null, .int 0]))]]) H := hP
    have hD : va_D A (fl [[(x_, .inr (5, [.ref x_, .ref tz_10, .null, .null, .null, .int 0]))]]) := hD
    refine lv_aload_n hx hb dJ6_init_3_16 rfl (lv_at hl 0 rfl) ?_
    rcases hE.2.2.2.2.1 with hz_ | ⟨tz_17, hz_⟩
    · skip
      refine va_gets (v := .null) hx hb hz_ hS hown (hts _ q341) (fun _ h9 => h9) dJ6_init_3_17 ?_
      refine va_put (D := D) (ci := 5) (v := .null) (ty := (.object "java/util/List")) (C := RX5) (T := TX5) (N := 6) hx hb hts in_X5 tyX5 tyX5_ok nmX5 hown hK hP hD hS 0 rfl rfl 2 (by decide) (hts _ q375) (fun _ h9 => h9) rfl (by decide +kernel) rfl rfl (Nat.le_of_ble_eq_true rfl) dJ6_init_3_20 (fun H locs hP hD hS => ?_)
      have hP : va_P D vwCl (fl [[(x_, .inr (5, [.ref x_, .ref tz_10, .null, .null, .null, .int 0]))]]) H := hP
      have hD : va_D A (fl [[(x_, .inr (5, [.ref x_, .ref tz_10, .null, .null, .null, .int 0]))]]) := hD
      refine lv_iload hx hb dJ6_init_3_23 (lv_at hl 4 rfl) ?_
      refine nv_if_eq (tgt := 36) hx hb dJ6_init_3_25 (by decide) (by omega) (fun c_25 => ?_) (fun c_25 => absurd c_25 (by decide))
      refine lv_aload_n hx hb dJ6_init_3_36 rfl (lv_at hl 0 rfl) ?_
      refine lv_null hx hb dJ6_init_3_37 ?_
      refine va_put (D := D) (ci := 5) (v := .null) (ty := (.array (.object "java/lang/StackTraceElement"))) (C := RX5) (T := TX5) (N := 6) hx hb hts in_X5 tyX5 tyX5_ok nmX5 hown hK hP hD hS 0 rfl rfl 1 (by decide) (hts _ q374) (fun _ h9 => h9) rfl (by decide +kernel) rfl rfl (Nat.le_of_ble_eq_true rfl) dJ6_init_3_38 (fun H locs hP hD hS => ?_)
      have hP : va_P D vwCl (fl [[(x_, .inr (5, [.ref x_, .null, .null, .null, .null, .int 0]))]]) H := hP
      have hD : va_D A (fl [[(x_, .inr (5, [.ref x_, .null, .null, .null, .null, .int 0]))]]) := hD
      refine lv_aload_n hx hb dJ6_init_3_41 rfl (lv_at hl 0 rfl) ?_
      refine lv_aload_nN hx hb dJ6_init_3_42 rfl (lv_at hl 1 rfl) ?_
      refine va_put (D := D) (ci := 5) (v := .null) (ty := (.object "java/lang/String")) (C := RX5) (T := TX5) (N := 6) hx hb hts in_X5 tyX5 tyX5_ok nmX5 hown hK hP hD hS 0 rfl rfl 3 (by decide) (hts _ q372) (fun _ h9 => h9) rfl (by decide +kernel) rfl rfl (Nat.le_of_ble_eq_true rfl) dJ6_init_3_43 (fun H locs hP hD hS => ?_)
      have hP : va_P D vwCl (fl [[(x_, .inr (5, [.ref x_, .null, .null, .null, .null, .int 0]))]]) H := hP
      have hD : va_D A (fl [[(x_, .inr (5, [.ref x_, .null, .null, .null, .null, .int 0]))]]) := hD
      refine lv_aload_n hx hb dJ6_init_3_46 rfl (lv_at hl 0 rfl) ?_
      refine lv_aload_nN hx hb dJ6_init_3_47 rfl (lv_at hl 2 rfl) ?_
      refine va_put (D := D) (ci := 5) (v := .null) (ty := (.object "java/lang/Throwable")) (C := RX5) (T := TX5) (N := 6) hx hb hts in_X5 tyX5 tyX5_ok nmX5 hown hK hP hD hS 0 rfl rfl 0 (by decide) (hts _ q373) (fun _ h9 => h9) rfl (by decide +kernel) rfl rfl (Nat.le_of_ble_eq_true rfl) dJ6_init_3_48 (fun H locs hP hD hS => ?_)
      have hP : va_P D vwCl (fl [[(x_, .inr (5, [.null, .null, .null, .null, .null, .int 0]))]]) H := hP
      have hD : va_D A (fl [[(x_, .inr (5, [.null, .null, .null, .null, .null, .int 0]))]]) := hD
      refine lv_iload_n hx hb dJ6_init_3_51 rfl (lv_at hl 3 rfl) ?_
      refine nv_if_ne (tgt := 60) hx hb dJ6_init_3_52 (by decide) (by omega) (fun c_52 => absurd c_52 (by decide)) (fun c_52 => ?_)
      refine lv_aload_n hx hb dJ6_init_3_55 rfl (lv_at hl 0 rfl) ?_
      refine lv_null hx hb dJ6_init_3_56 ?_
      refine va_put (D := D) (ci := 5) (v := .null) (ty := (.object "java/util/List")) (C := RX5) (T := TX5) (N := 6) hx hb hts in_X5 tyX5 tyX5_ok nmX5 hown hK hP hD hS 0 rfl rfl 2 (by decide) (hts _ q375) (fun _ h9 => h9) rfl (by decide +kernel) rfl rfl (Nat.le_of_ble_eq_true rfl) dJ6_init_3_57 (fun H locs hP hD hS => ?_)
      have hP : va_P D vwCl (fl [[(x_, .inr (5, [.null, .null, .null, .null, .null, .int 0]))]]) H := hP
      have hD : va_D A (fl [[(x_, .inr (5, [.null, .null, .null, .null, .null, .int 0]))]]) := hD
      subst hQQ
      exact xe_v () hx hb hr hlocks hK hP hD hS (trivial) dJ6_init_3_60
    · skip
      refine va_gets (v := .ref tz_17) hx hb hz_ hS hown (hts _ q341) (fun _ h9 => h9) dJ6_init_3_17 ?_
      refine va_put (D := D) (ci := 5) (v := .ref tz_17) (ty := (.object "java/util/List")) (C := RX5) (T := TX5) (N := 6) hx hb hts in_X5 tyX5 tyX5_ok nmX5 hown hK hP hD hS 0 rfl rfl 2 (by decide) (hts _ q375) (fun _ h9 => h9) rfl (by decide +kernel) rfl rfl (Nat.le_of_ble_eq_true rfl) dJ6_init_3_20 (fun H locs hP hD hS => ?_)
      have hP : va_P D vwCl (fl [[(x_, .inr (5, [.ref x_, .ref tz_10, .ref tz_17, .null, .null, .int 0]))]]) H := hP
      have hD : va_D A (fl [[(x_, .inr (5, [.ref x_, .ref tz_10, .ref tz_17, .null, .null, .int 0]))]]) := hD
      refine lv_iload hx hb dJ6_init_3_23 (lv_at hl 4 rfl) ?_
      refine nv_if_eq (tgt := 36) hx hb dJ6_init_3_25 (by decide) (by omega) (fun c_25 => ?_) (fun c_25 => absurd c_25 (by decide))
      refine lv_aload_n hx hb dJ6_init_3_36 rfl (lv_at hl 0 rfl) ?_
      refine lv_null hx hb dJ6_init_3_37 ?_
      refine va_put (D := D) (ci := 5) (v := .null) (ty := (.array (.object "java/lang/StackTraceElement"))) (C := RX5) (T := TX5) (N := 6) hx hb hts in_X5 tyX5 tyX5_ok nmX5 hown hK hP hD hS 0 rfl rfl 1 (by decide) (hts _ q374) (fun _ h9 => h9) rfl (by decide +kernel) rfl rfl (Nat.le_of_ble_eq_true rfl) dJ6_init_3_38 (fun H locs hP hD hS => ?_)
      have hP : va_P D vwCl (fl [[(x_, .inr (5, [.ref x_, .null, .ref tz_17, .null, .null, .int 0]))]]) H := hP
      have hD : va_D A (fl [[(x_, .inr (5, [.ref x_, .null, .ref tz_17, .null, .null, .int 0]))]]) := hD
      refine lv_aload_n hx hb dJ6_init_3_41 rfl (lv_at hl 0 rfl) ?_
      refine lv_aload_nN hx hb dJ6_init_3_42 rfl (lv_at hl 1 rfl) ?_
      refine va_put (D := D) (ci := 5) (v := .null) (ty := (.object "java/lang/String")) (C := RX5) (T := TX5) (N := 6) hx hb hts in_X5 tyX5 tyX5_ok nmX5 hown hK hP hD hS 0 rfl rfl 3 (by decide) (hts _ q372) (fun _ h9 => h9) rfl (by decide +kernel) rfl rfl (Nat.le_of_ble_eq_true rfl) dJ6_init_3_43 (fun H locs hP hD hS => ?_)
      have hP : va_P D vwCl (fl [[(x_, .inr (5, [.ref x_, .null, .ref tz_17, .null, .null, .int 0]))]]) H := hP
      have hD : va_D A (fl [[(x_, .inr (5, [.ref x_, .null, .ref tz_17, .null, .null, .int 0]))]]) := hD
      refine lv_aload_n hx hb dJ6_init_3_46 rfl (lv_at hl 0 rfl) ?_
      refine lv_aload_nN hx hb dJ6_init_3_47 rfl (lv_at hl 2 rfl) ?_
      refine va_put (D := D) (ci := 5) (v := .null) (ty := (.object "java/lang/Throwable")) (C := RX5) (T := TX5) (N := 6) hx hb hts in_X5 tyX5 tyX5_ok nmX5 hown hK hP hD hS 0 rfl rfl 0 (by decide) (hts _ q373) (fun _ h9 => h9) rfl (by decide +kernel) rfl rfl (Nat.le_of_ble_eq_true rfl) dJ6_init_3_48 (fun H locs hP hD hS => ?_)
      have hP : va_P D vwCl (fl [[(x_, .inr (5, [.null, .null, .ref tz_17, .null, .null, .int 0]))]]) H := hP
      have hD : va_D A (fl [[(x_, .inr (5, [.null, .null, .ref tz_17, .null, .null, .int 0]))]]) := hD
      refine lv_iload_n hx hb dJ6_init_3_51 rfl (lv_at hl 3 rfl) ?_
      refine nv_if_ne (tgt := 60) hx hb dJ6_init_3_52 (by decide) (by omega) (fun c_52 => absurd c_52 (by decide)) (fun c_52 => ?_)
      refine lv_aload_n hx hb dJ6_init_3_55 rfl (lv_at hl 0 rfl) ?_
      refine lv_null hx hb dJ6_init_3_56 ?_
      refine va_put (D := D) (ci := 5) (v := .null) (ty := (.object "java/util/List")) (C := RX5) (T := TX5) (N := 6) hx hb hts in_X5 tyX5 tyX5_ok nmX5 hown hK hP hD hS 0 rfl rfl 2 (by decide) (hts _ q375) (fun _ h9 => h9) rfl (by decide +kernel) rfl rfl (Nat.le_of_ble_eq_true rfl) dJ6_init_3_57 (fun H locs hP hD hS => ?_)
      have hP : va_P D vwCl (fl [[(x_, .inr (5, [.null, .null, .null, .null, .null, .int 0]))]]) H := hP
      have hD : va_D A (fl [[(x_, .inr (5, [.null, .null, .null, .null, .null, .int 0]))]]) := hD
      subst hQQ
      exact xe_v () hx hb hr hlocks hK hP hD hS (trivial) dJ6_init_3_60
set_option maxHeartbeats 400000 in
set_option maxRecDepth 100000 in
theorem mt_J7_init_2_5 (l : Launch) (D : va_G) (ca : Nat → ClassId) (x_ : Nat)  (nn : Nat) : Met l yJ7_init_2 (ws_ yJ7_init_2 cJ7_init_2 5 (Option.none : Option Jvm.ClassFile.FieldType)) ({ frames := 2, cells := 0, slots := 0, locals := 64 } : Room) (va_Pc [.ref x_, .null, .null, .int (nI 0), .int (nI 0)] (PreW EvY D vwCl (TY ca) (fl [[(x_, .inr (5, [.null, .null, .null, .null, .null, .int 0]))]]) nn)) (va_Qv (fun (_ : Unit) => True) (PostW D vwCl (TY ca) (fun (_ : Unit) => (fl [[(x_, .inr (5, [.null, .null, .null, .null, .null, .int 0]))]])) (va_A (fl [[(x_, .inr (5, [.null, .null, .null, .null, .null, .int 0]))]]) nn)) (va_A (fl [[(x_, .inr (5, [.null, .null, .null, .null, .null, .int 0]))]]) nn)) 0 0 (va_A (fl [[(x_, .inr (5, [.null, .null, .null, .null, .null, .int 0]))]]) nn) := by
  refine met_go2 (QA := fun A => va_Qv (fun (_ : Unit) => True) (PostW D vwCl (TY ca) (fun (_ : Unit) => (fl [[(x_, .inr (5, [.null, .null, .null, .null, .null, .int 0]))]])) A) A) (by decide) (Nat.le_of_ble_eq_true rfl) (fun p e s m below meth c A ls QQ hQQ hmn hnm hx hb hr hts hown hlocks hml hA hP hK hD hE hl => ?_)
  have hown : s.vm.findClass RJ7 = some m.cls := hown
  have hS : va_S A s.heap s.heap [] := va_S.rf
  have hl : lv_has ls 5 [(0, .ref x_), (1, .null), (2, .null), (3, .int (nI 0)), (4, .int (nI 0))] := hl
  generalize hHe : s.heap = H at hP ⊢
  have hS : va_S A s.heap H [] := hHe ▸ hS
  generalize ([] : List Loc) = locs at hS ⊢
  refine lv_aload_n hx hb dJ7_init_2_0 rfl (lv_at hl 0 rfl) ?_
  refine lv_aload_nN hx hb dJ7_init_2_1 rfl (lv_at hl 1 rfl) ?_
  refine lv_aload_nN hx hb dJ7_init_2_2 rfl (lv_at hl 2 rfl) ?_
  refine lv_iload_n hx hb dJ7_init_2_3 rfl (lv_at hl 3 rfl) ?_
  refine lv_iload hx hb dJ7_init_2_4 (lv_at hl 4 rfl) ?_
  refine xc_v (xr_I (b := x_) (As := [.null, .null, .int (nI 0), .int (nI 0)]) (rest := []) (mt_J6_init_3_5 l D ca x_  H.size) ⟨hx, hb, hml, hown, hts⟩ (cwI 4 hts (lw_meth q918) rfl rfl rfl (hts _ q88) (hts _ q916) (hts _ q917) rfl (by decide +kernel) ⟨Nat.le_of_ble_eq_true rfl, Nat.le_of_ble_eq_true rfl⟩) EvY_ok hE hK hS (Cut.ch [[(x_, .inr (5, [.null, .null, .null, .null, .null, .int 0]))]] [] hP hD hS hA) rfl hl.1 rfl (Nat.le_of_ble_eq_true rfl) dJ7_init_2_6 ⟨Nat.le_of_ble_eq_true rfl, Nat.le_of_ble_eq_true rfl⟩) hS (Cut.ch [[(x_, .inr (5, [.null, .null, .null, .null, .null, .int 0]))]] [] hP hD hS hA) (fun u_2 H locs hq_6 hP hD hS => ?_)
  have hP : va_P D vwCl (fl [[(x_, .inr (5, [.null, .null, .null, .null, .null, .int 0]))]]) H := fl_join [[(x_, .inr (5, [.null, .null, .null, .null, .null, .int 0]))]] [] hP
  have hD : va_D A (fl [[(x_, .inr (5, [.null, .null, .null, .null, .null, .int 0]))]]) := fl_joinD [[(x_, .inr (5, [.null, .null, .null, .null, .null, .int 0]))]] [] hD
  subst hQQ
  exact xe_v () hx hb hr hlocks hK hP hD hS (trivial) dJ7_init_2_9
set_option maxHeartbeats 400000 in
set_option maxRecDepth 100000 in
theorem mt_X5_init (l : Launch) (D : va_G) (ca : Nat → ClassId) (x_ : Nat)  (nn : Nat) : Met l yX5_init (ws_ yX5_init cX5_init 1 (Option.none : Option Jvm.ClassFile.FieldType)) ({ frames := 3, cells := 0, slots := 0, locals := 88 } : Room) (va_Pc [.ref x_] (PreW EvY D vwCl (TY ca) (fl [[(x_, .inr (5, [.null, .null, .null, .null, .null, .int 0]))]]) nn)) (va_Qv (fun (_ : Unit) => True) (PostW D vwCl (TY ca) (fun (_ : Unit) => (fl [[(x_, .inr (5, [.null, .null, .null, .null, .null, .int 0]))]])) (va_A (fl [[(x_, .inr (5, [.null, .null, .null, .null, .null, .int 0]))]]) nn)) (va_A (fl [[(x_, .inr (5, [.null, .null, .null, .null, .null, .int 0]))]]) nn)) 0 0 (va_A (fl [[(x_, .inr (5, [.null, .null, .null, .null, .null, .int 0]))]]) nn) := by
  refine met_go2 (QA := fun A => va_Qv (fun (_ : Unit) => True) (PostW D vwCl (TY ca) (fun (_ : Unit) => (fl [[(x_, .inr (5, [.null, .null, .null, .null, .null, .int 0]))]])) A) A) (by decide) (Nat.le_of_ble_eq_true rfl) (fun p e s m below meth c A ls QQ hQQ hmn hnm hx hb hr hts hown hlocks hml hA hP hK hD hE hl => ?_)
  have hown : s.vm.findClass RX5 = some m.cls := hown
  have hS : va_S A s.heap s.heap [] := va_S.rf
  have hl : lv_has ls 1 [(0, .ref x_)] := hl
  generalize hHe : s.heap = H at hP ⊢
  have hS : va_S A s.heap H [] := hHe ▸ hS
  generalize ([] : List Loc) = locs at hS ⊢
  refine lv_aload_n hx hb dX5_init_0 rfl (lv_at hl 0 rfl) ?_
  refine lv_null hx hb dX5_init_1 ?_
  refine lv_null hx hb dX5_init_2 ?_
  refine lv_iconst (v := nI 0) hx hb dX5_init_3 (by decide) ?_
  refine lv_iconst (v := nI 0) hx hb dX5_init_4 (by decide) ?_
  refine xc_v (xr_I (b := x_) (As := [.null, .null, .int (nI 0), .int (nI 0)]) (rest := []) (mt_J7_init_2_5 l D ca x_  H.size) ⟨hx, hb, hml, hown, hts⟩ (cwI 4 hts (lw_meth q915) rfl rfl rfl (hts _ q89) (hts _ q913) (hts _ q914) rfl (by decide +kernel) ⟨Nat.le_of_ble_eq_true rfl, Nat.le_of_ble_eq_true rfl⟩) EvY_ok hE hK hS (Cut.ch [[(x_, .inr (5, [.null, .null, .null, .null, .null, .int 0]))]] [] hP hD hS hA) rfl hl.1 rfl (Nat.le_of_ble_eq_true rfl) dX5_init_5 ⟨Nat.le_of_ble_eq_true rfl, Nat.le_of_ble_eq_true rfl⟩) hS (Cut.ch [[(x_, .inr (5, [.null, .null, .null, .null, .null, .int 0]))]] [] hP hD hS hA) (fun u_2 H locs hq_5 hP hD hS => ?_)
  have hP : va_P D vwCl (fl [[(x_, .inr (5, [.null, .null, .null, .null, .null, .int 0]))]]) H := fl_join [[(x_, .inr (5, [.null, .null, .null, .null, .null, .int 0]))]] [] hP
  have hD : va_D A (fl [[(x_, .inr (5, [.null, .null, .null, .null, .null, .int 0]))]]) := fl_joinD [[(x_, .inr (5, [.null, .null, .null, .null, .null, .int 0]))]] [] hD
  subst hQQ
  exact xe_v () hx hb hr hlocks hK hP hD hS (trivial) dX5_init_8
set_option maxHeartbeats 400000 in
set_option maxRecDepth 100000 in
theorem mt_J6_init_3_7 (l : Launch) (D : va_G) (ca : Nat → ClassId) (x_ : Nat) (c_ : Nat)  (nn : Nat) : Met l yJ6_init_3 (ws_ yJ6_init_3 cJ6_init_3 5 (Option.none : Option Jvm.ClassFile.FieldType)) ({ frames := 1, cells := 0, slots := 0, locals := 40 } : Room) (va_Pc [.ref x_, .null, .ref c_, .int (nI 0), .int (nI 0)] (PreW EvY D vwCl (TY ca) (fl [[(x_, .inr (6, [.null, .null, .null, .null, .null, .int 0]))]]) nn)) (va_Qv (fun (_ : Unit) => True) (PostW D vwCl (TY ca) (fun (_ : Unit) => (fl [[(x_, .inr (6, [.ref c_, .null, .null, .null, .null, .int 0]))]])) (va_A (fl [[(x_, .inr (6, [.null, .null, .null, .null, .null, .int 0]))]]) nn)) (va_A (fl [[(x_, .inr (6, [.null, .null, .null, .null, .null, .int 0]))]]) nn)) 0 0 (va_A (fl [[(x_, .inr (6, [.null, .null, .null, .null, .null, .int 0]))]]) nn) := by
  refine met_go2 (QA := fun A => va_Qv (fun (_ : Unit) => True) (PostW D vwCl (TY ca) (fun (_ : Unit) => (fl [[(x_, .inr (6, [.ref c_, .null, .null, .null, .null, .int 0]))]])) A) A) (by decide) (Nat.le_of_ble_eq_true rfl) (fun p e s m below meth c A ls QQ hQQ hmn hnm hx hb hr hts hown hlocks hml hA hP hK hD hE hl => ?_)
  have hown : s.vm.findClass RJ6 = some m.cls := hown
  have hS : va_S A s.heap s.heap [] := va_S.rf
  have hl : lv_has ls 5 [(0, .ref x_), (1, .null), (2, .ref c_), (3, .int (nI 0)), (4, .int (nI 0))] := hl
  generalize hHe : s.heap = H at hP ⊢
  have hS : va_S A s.heap H [] := hHe ▸ hS
  generalize ([] : List Loc) = locs at hS ⊢
  refine lv_aload_n hx hb dJ6_init_3_0 rfl (lv_at hl 0 rfl) ?_
  refine W.objInit hx hb hown (hts _ q338) (hts _ q120) (hts _ q121) rfl (by rw [hml]; exact hl.1) rfl dJ6_init_3_1 (Nat.le_of_ble_eq_true rfl) (Nat.le_of_ble_eq_true rfl) ?_
  show W p l e _ s m _ below meth c _ _ _ _ _ (F0 m 4 ls [])
  refine lv_aload_n hx hb dJ6_init_3_4 rfl (lv_at hl 0 rfl) ?_
  refine lv_aload_n hx hb dJ6_init_3_5 rfl (lv_at hl 0 rfl) ?_
  refine va_put (D := D) (ci := 6) (v := .ref x_) (ty := (.object "java/lang/Throwable")) (C := RX7) (T := TX7) (N := 6) hx hb hts in_X7 tyX7 tyX7_ok nmX7 hown hK hP hD hS 0 rfl rfl 0 (by decide) (hts _ q373) (fun _ h9 => h9) rfl (by decide +kernel) rfl rfl (Nat.le_of_ble_eq_true rfl) dJ6_init_3_6 (fun H locs hP hD hS => ?_)
  have hP : va_P D vwCl (fl [[(x_, .inr (6, [.ref x_, .null, .null, .null, .null, .int 0]))]]) H := hP
  have hD : va_D A (fl [[(x_, .inr (6, [.ref x_, .null, .null, .null, .null, .int 0]))]]) := hD
  refine lv_aload_n hx hb dJ6_init_3_9 rfl (lv_at hl 0 rfl) ?_
  rcases hE.2.2.2.1 with hz_ | ⟨tz_10, hz_⟩
  · skip
    refine va_gets (v := .null) hx hb hz_ hS hown (hts _ q339) (fun _ h9 => h9) dJ6_init_3_10 ?_
    refine va_put (D := D) (ci := 6) (v := .null) (ty := (.array (.object "java/lang/StackTraceElement"))) (C := RX7) (T := TX7) (N := 6) hx hb hts in_X7 tyX7 tyX7_ok nmX7 hown hK hP hD hS 0 rfl rfl 1 (by decide) (hts _ q374) (fun _ h9 => h9) rfl (by decide +kernel) rfl rfl (Nat.le_of_ble_eq_true rfl) dJ6_init_3_13 (fun H locs hP hD hS => ?_)
    have hP : va_P D vwCl (fl [[(x_, .inr (6, [.ref x_, .null, .null, .null, .null, .int 0]))]]) H := hP
    have hD : va_D A (fl [[(x_, .inr (6, [.ref x_, .null, .null, .null, .null, .int 0]))]]) := hD
    refine lv_aload_n hx hb dJ6_init_3_16 rfl (lv_at hl 0 rfl) ?_
    rcases hE.2.2.2.2.1 with hz_ | ⟨tz_17, hz_⟩
    · skip
      refine va_gets (v := .null) hx hb hz_ hS hown (hts _ q341) (fun _ h9 => h9) dJ6_init_3_17 ?_
      refine va_put (D := D) (ci := 6) (v := .null) (ty := (.object "java/util/List")) (C := RX7) (T := TX7) (N := 6) hx hb hts in_X7 tyX7 tyX7_ok nmX7 hown hK hP hD hS 0 rfl rfl 2 (by decide) (hts _ q375) (fun _ h9 => h9) rfl (by decide +kernel) rfl rfl (Nat.le_of_ble_eq_true rfl) dJ6_init_3_20 (fun H locs hP hD hS => ?_)
      have hP : va_P D vwCl (fl [[(x_, .inr (6, [.ref x_, .null, .null, .null, .null, .int 0]))]]) H := hP
      have hD : va_D A (fl [[(x_, .inr (6, [.ref x_, .null, .null, .null, .null, .int 0]))]]) := hD
      refine lv_iload hx hb dJ6_init_3_23 (lv_at hl 4 rfl) ?_
      refine nv_if_eq (tgt := 36) hx hb dJ6_init_3_25 (by decide) (by omega) (fun c_25 => ?_) (fun c_25 => absurd c_25 (by decide))
      refine lv_aload_n hx hb dJ6_init_3_36 rfl (lv_at hl 0 rfl) ?_
      refine lv_null hx hb dJ6_init_3_37 ?_
      refine va_put (D := D) (ci := 6) (v := .null) (ty := (.array (.object "java/lang/StackTraceElement"))) (C := RX7) (T := TX7) (N := 6) hx hb hts in_X7 tyX7 tyX7_ok nmX7 hown hK hP hD hS 0 rfl rfl 1 (by decide) (hts _ q374) (fun _ h9 => h9) rfl (by decide +kernel) rfl rfl (Nat.le_of_ble_eq_true rfl) dJ6_init_3_38 (fun H locs hP hD hS => ?_)
      have hP : va_P D vwCl (fl [[(x_, .inr (6, [.ref x_, .null, .null, .null, .null, .int 0]))]]) H := hP
      have hD : va_D A (fl [[(x_, .inr (6, [.ref x_, .null, .null, .null, .null, .int 0]))]]) := hD
      refine lv_aload_n hx hb dJ6_init_3_41 rfl (lv_at hl 0 rfl) ?_
      refine lv_aload_nN hx hb dJ6_init_3_42 rfl (lv_at hl 1 rfl) ?_
      refine va_put (D := D) (ci := 6) (v := .null) (ty := (.object "java/lang/String")) (C := RX7) (T := TX7) (N := 6) hx hb hts in_X7 tyX7 tyX7_ok nmX7 hown hK hP hD hS 0 rfl rfl 3 (by decide) (hts _ q372) (fun _ h9 => h9) rfl (by decide +kernel) rfl rfl (Nat.le_of_ble_eq_true rfl) dJ6_init_3_43 (fun H locs hP hD hS => ?_)
      have hP : va_P D vwCl (fl [[(x_, .inr (6, [.ref x_, .null, .null, .null, .null, .int 0]))]]) H := hP
      have hD : va_D A (fl [[(x_, .inr (6, [.ref x_, .null, .null, .null, .null, .int 0]))]]) := hD
      refine lv_aload_n hx hb dJ6_init_3_46 rfl (lv_at hl 0 rfl) ?_
      refine lv_aload_n hx hb dJ6_init_3_47 rfl (lv_at hl 2 rfl) ?_
      refine va_put (D := D) (ci := 6) (v := .ref c_) (ty := (.object "java/lang/Throwable")) (C := RX7) (T := TX7) (N := 6) hx hb hts in_X7 tyX7 tyX7_ok nmX7 hown hK hP hD hS 0 rfl rfl 0 (by decide) (hts _ q373) (fun _ h9 => h9) rfl (by decide +kernel) rfl rfl (Nat.le_of_ble_eq_true rfl) dJ6_init_3_48 (fun H locs hP hD hS => ?_)
      have hP : va_P D vwCl (fl [[(x_, .inr (6, [.ref c_, .null, .null, .null, .null, .int 0]))]]) H := hP
      have hD : va_D A (fl [[(x_, .inr (6, [.ref c_, .null, .null, .null, .null, .int 0]))]]) := hD
      refine lv_iload_n hx hb dJ6_init_3_51 rfl (lv_at hl 3 rfl) ?_
      refine nv_if_ne (tgt := 60) hx hb dJ6_init_3_52 (by decide) (by omega) (fun c_52 => absurd c_52 (by decide)) (fun c_52 => ?_)
      refine lv_aload_n hx hb dJ6_init_3_55 rfl (lv_at hl 0 rfl) ?_
      refine lv_null hx hb dJ6_init_3_56 ?_
      refine va_put (D := D) (ci := 6) (v := .null) (ty := (.object "java/util/List")) (C := RX7) (T := TX7) (N := 6) hx hb hts in_X7 tyX7 tyX7_ok nmX7 hown hK hP hD hS 0 rfl rfl 2 (by decide) (hts _ q375) (fun _ h9 => h9) rfl (by decide +kernel) rfl rfl (Nat.le_of_ble_eq_true rfl) dJ6_init_3_57 (fun H locs hP hD hS => ?_)
      have hP : va_P D vwCl (fl [[(x_, .inr (6, [.ref c_, .null, .null, .null, .null, .int 0]))]]) H := hP
      have hD : va_D A (fl [[(x_, .inr (6, [.ref c_, .null, .null, .null, .null, .int 0]))]]) := hD
      subst hQQ
      exact xe_v () hx hb hr hlocks hK hP hD hS (trivial) dJ6_init_3_60
    · skip
      refine va_gets (v := .ref tz_17) hx hb hz_ hS hown (hts _ q341) (fun _ h9 => h9) dJ6_init_3_17 ?_
      refine va_put (D := D) (ci := 6) (v := .ref tz_17) (ty := (.object "java/util/List")) (C := RX7) (T := TX7) (N := 6) hx hb hts in_X7 tyX7 tyX7_ok nmX7 hown hK hP hD hS 0 rfl rfl 2 (by decide) (hts _ q375) (fun _ h9 => h9) rfl (by decide +kernel) rfl rfl (Nat.le_of_ble_eq_true rfl) dJ6_init_3_20 (fun H locs hP hD hS => ?_)
      have hP : va_P D vwCl (fl [[(x_, .inr (6, [.ref x_, .null, .ref tz_17, .null, .null, .int 0]))]]) H := hP
      have hD : va_D A (fl [[(x_, .inr (6, [.ref x_, .null, .ref tz_17, .null, .null, .int 0]))]]) := hD
      refine lv_iload hx hb dJ6_init_3_23 (lv_at hl 4 rfl) ?_
      refine nv_if_eq (tgt := 36) hx hb dJ6_init_3_25 (by decide) (by omega) (fun c_25 => ?_) (fun c_25 => absurd c_25 (by decide))
      refine lv_aload_n hx hb dJ6_init_3_36 rfl (lv_at hl 0 rfl) ?_
      refine lv_null hx hb dJ6_init_3_37 ?_
      refine va_put (D := D) (ci := 6) (v := .null) (ty := (.array (.object "java/lang/StackTraceElement"))) (C := RX7) (T := TX7) (N := 6) hx hb hts in_X7 tyX7 tyX7_ok nmX7 hown hK hP hD hS 0 rfl rfl 1 (by decide) (hts _ q374) (fun _ h9 => h9) rfl (by decide +kernel) rfl rfl (Nat.le_of_ble_eq_true rfl) dJ6_init_3_38 (fun H locs hP hD hS => ?_)
      have hP : va_P D vwCl (fl [[(x_, .inr (6, [.ref x_, .null, .ref tz_17, .null, .null, .int 0]))]]) H := hP
      have hD : va_D A (fl [[(x_, .inr (6, [.ref x_, .null, .ref tz_17, .null, .null, .int 0]))]]) := hD
      refine lv_aload_n hx hb dJ6_init_3_41 rfl (lv_at hl 0 rfl) ?_
      refine lv_aload_nN hx hb dJ6_init_3_42 rfl (lv_at hl 1 rfl) ?_
      refine va_put (D := D) (ci := 6) (v := .null) (ty := (.object "java/lang/String")) (C := RX7) (T := TX7) (N := 6) hx hb hts in_X7 tyX7 tyX7_ok nmX7 hown hK hP hD hS 0 rfl rfl 3 (by decide) (hts _ q372) (fun _ h9 => h9) rfl (by decide +kernel) rfl rfl (Nat.le_of_ble_eq_true rfl) dJ6_init_3_43 (fun H locs hP hD hS => ?_)
      have hP : va_P D vwCl (fl [[(x_, .inr (6, [.ref x_, .null, .ref tz_17, .null, .null, .int 0]))]]) H := hP
      have hD : va_D A (fl [[(x_, .inr (6, [.ref x_, .null, .ref tz_17, .null, .null, .int 0]))]]) := hD
      refine lv_aload_n hx hb dJ6_init_3_46 rfl (lv_at hl 0 rfl) ?_
      refine lv_aload_n hx hb dJ6_init_3_47 rfl (lv_at hl 2 rfl) ?_
      refine va_put (D := D) (ci := 6) (v := .ref c_) (ty := (.object "java/lang/Throwable")) (C := RX7) (T := TX7) (N := 6) hx hb hts in_X7 tyX7 tyX7_ok nmX7 hown hK hP hD hS 0 rfl rfl 0 (by decide) (hts _ q373) (fun _ h9 => h9) rfl (by decide +kernel) rfl rfl (Nat.le_of_ble_eq_true rfl) dJ6_init_3_48 (fun H locs hP hD hS => ?_)
      have hP : va_P D vwCl (fl [[(x_, .inr (6, [.ref c_, .null, .ref tz_17, .null, .null, .int 0]))]]) H := hP
      have hD : va_D A (fl [[(x_, .inr (6, [.ref c_, .null, .ref tz_17, .null, .null, .int 0]))]]) := hD
      refine lv_iload_n hx hb dJ6_init_3_51 rfl (lv_at hl 3 rfl) ?_
      refine nv_if_ne (tgt := 60) hx hb dJ6_init_3_52 (by decide) (by omega) (fun c_52 => absurd c_52 (by decide)) (fun c_52 => ?_)
      refine lv_aload_n hx hb dJ6_init_3_55 rfl (lv_at hl 0 rfl) ?_
      refine lv_null hx hb dJ6_init_3_56 ?_
      refine va_put (D := D) (ci := 6) (v := .null) (ty := (.object "java/util/List")) (C := RX7) (T := TX7) (N := 6) hx hb hts in_X7 tyX7 tyX7_ok nmX7 hown hK hP hD hS 0 rfl rfl 2 (by decide) (hts _ q375) (fun _ h9 => h9) rfl (by decide +kernel) rfl rfl (Nat.le_of_ble_eq_true rfl) dJ6_init_3_57 (fun H locs hP hD hS => ?_)
      have hP : va_P D vwCl (fl [[(x_, .inr (6, [.ref c_, .null, .null, .null, .null, .int 0]))]]) H := hP
      have hD : va_D A (fl [[(x_, .inr (6, [.ref c_, .null, .null, .null, .null, .int 0]))]]) := hD
      subst hQQ
      exact xe_v () hx hb hr hlocks hK hP hD hS (trivial) dJ6_init_3_60
  · skip
    refine va_gets (v := .ref tz_10) hx hb hz_ hS hown (hts _ q339) (fun _ h9 => h9) dJ6_init_3_10 ?_
    refine va_put (D := D) (ci := 6) (v := .ref tz_10) (ty := (.array (.object "java/lang/StackTraceElement"))) (C := RX7) (T := TX7) (N := 6) hx hb hts in_X7 tyX7 tyX7_ok nmX7 hown hK hP hD hS 0 rfl rfl 1 (by decide) (hts _ q374) (fun _ h9 => h9) rfl (by decide +kernel) rfl rfl (Nat.le_of_ble_eq_true rfl) dJ6_init_3_13 (fun H locs hP hD hS => ?_)
    have hP : va_P D vwCl (fl [[(x_, .inr (6, [.ref x_, .ref tz_10, .null, .null, .null, .int 0]))]]) H := hP
    have hD : va_D A (fl [[(x_, .inr (6, [.ref x_, .ref tz_10, .null, .null, .null, .int 0]))]]) := hD
    refine lv_aload_n hx hb dJ6_init_3_16 rfl (lv_at hl 0 rfl) ?_
    rcases hE.2.2.2.2.1 with hz_ | ⟨tz_17, hz_⟩
    · skip
      refine va_gets (v := .null) hx hb hz_ hS hown (hts _ q341) (fun _ h9 => h9) dJ6_init_3_17 ?_
      refine va_put (D := D) (ci := 6) (v := .null) (ty := (.object "java/util/List")) (C := RX7) (T := TX7) (N := 6) hx hb hts in_X7 tyX7 tyX7_ok nmX7 hown hK hP hD hS 0 rfl rfl 2 (by decide) (hts _ q375) (fun _ h9 => h9) rfl (by decide +kernel) rfl rfl (Nat.le_of_ble_eq_true rfl) dJ6_init_3_20 (fun H locs hP hD hS => ?_)
      have hP : va_P D vwCl (fl [[(x_, .inr (6, [.ref x_, .ref tz_10, .null, .null, .null, .int 0]))]]) H := hP
      have hD : va_D A (fl [[(x_, .inr (6, [.ref x_, .ref tz_10, .null, .null, .null, .int 0]))]]) := hD
      refine lv_iload hx hb dJ6_init_3_23 (lv_at hl 4 rfl) ?_
      refine nv_if_eq (tgt := 36) hx hb dJ6_init_3_25 (by decide) (by omega) (fun c_25 => ?_) (fun c_25 => absurd c_25 (by decide))
      refine lv_aload_n hx hb dJ6_init_3_36 rfl (lv_at hl 0 rfl) ?_
      refine lv_null hx hb dJ6_init_3_37 ?_
      refine va_put (D := D) (ci := 6) (v := .null) (ty := (.array (.object "java/lang/StackTraceElement"))) (C := RX7) (T := TX7) (N := 6) hx hb hts in_X7 tyX7 tyX7_ok nmX7 hown hK hP hD hS 0 rfl rfl 1 (by decide) (hts _ q374) (fun _ h9 => h9) rfl (by decide +kernel) rfl rfl (Nat.le_of_ble_eq_true rfl) dJ6_init_3_38 (fun H locs hP hD hS => ?_)
      have hP : va_P D vwCl (fl [[(x_, .inr (6, [.ref x_, .null, .null, .null, .null, .int 0]))]]) H := hP
      have hD : va_D A (fl [[(x_, .inr (6, [.ref x_, .null, .null, .null, .null, .int 0]))]]) := hD
      refine lv_aload_n hx hb dJ6_init_3_41 rfl (lv_at hl 0 rfl) ?_
      refine lv_aload_nN hx hb dJ6_init_3_42 rfl (lv_at hl 1 rfl) ?_
      refine va_put (D := D) (ci := 6) (v := .null) (ty := (.object "java/lang/String")) (C := RX7) (T := TX7) (N := 6) hx hb hts in_X7 tyX7 tyX7_ok nmX7 hown hK hP hD hS 0 rfl rfl 3 (by decide) (hts _ q372) (fun _ h9 => h9) rfl (by decide +kernel) rfl rfl (Nat.le_of_ble_eq_true rfl) dJ6_init_3_43 (fun H locs hP hD hS => ?_)
      have hP : va_P D vwCl (fl [[(x_, .inr (6, [.ref x_, .null, .null, .null, .null, .int 0]))]]) H := hP
      have hD : va_D A (fl [[(x_, .inr (6, [.ref x_, .null, .null, .null, .null, .int 0]))]]) := hD
      refine lv_aload_n hx hb dJ6_init_3_46 rfl (lv_at hl 0 rfl) ?_
      refine lv_aload_n hx hb dJ6_init_3_47 rfl (lv_at hl 2 rfl) ?_
      refine va_put (D := D) (ci := 6) (v := .ref c_) (ty := (.object "java/lang/Throwable")) (C := RX7) (T := TX7) (N := 6) hx hb hts in_X7 tyX7 tyX7_ok nmX7 hown hK hP hD hS 0 rfl rfl 0 (by decide) (hts _ q373) (fun _ h9 => h9) rfl (by decide +kernel) rfl rfl (Nat.le_of_ble_eq_true rfl) dJ6_init_3_48 (fun H locs hP hD hS => ?_)
      have hP : va_P D vwCl (fl [[(x_, .inr (6, [.ref c_, .null, .null, .null, .null, .int 0]))]]) H := hP
      have hD : va_D A (fl [[(x_, .inr (6, [.ref c_, .null, .null, .null, .null, .int 0]))]]) := hD
      refine lv_iload_n hx hb dJ6_init_3_51 rfl (lv_at hl 3 rfl) ?_
      refine nv_if_ne (tgt := 60) hx hb dJ6_init_3_52 (by decide) (by omega) (fun c_52 => absurd c_52 (by decide)) (fun c_52 => ?_)
      refine lv_aload_n hx hb dJ6_init_3_55 rfl (lv_at hl 0 rfl) ?_
      refine lv_null hx hb dJ6_init_3_56 ?_
      refine va_put (D := D) (ci := 6) (v := .null) (ty := (.object "java/util/List")) (C := RX7) (T := TX7) (N := 6) hx hb hts in_X7 tyX7 tyX7_ok nmX7 hown hK hP hD hS 0 rfl rfl 2 (by decide) (hts _ q375) (fun _ h9 => h9) rfl (by decide +kernel) rfl rfl (Nat.le_of_ble_eq_true rfl) dJ6_init_3_57 (fun H locs hP hD hS => ?_)
      have hP : va_P D vwCl (fl [[(x_, .inr (6, [.ref c_, .null, .null, .null, .null, .int 0]))]]) H := hP
      have hD : va_D A (fl [[(x_, .inr (6, [.ref c_, .null, .null, .null, .null, .int 0]))]]) := hD
      subst hQQ
      exact xe_v () hx hb hr hlocks hK hP hD hS (trivial) dJ6_init_3_60
    · skip
      refine va_gets (v := .ref tz_17) hx hb hz_ hS hown (hts _ q341) (fun _ h9 => h9) dJ6_init_3_17 ?_
      refine va_put (D := D) (ci := 6) (v := .ref tz_17) (ty := (.object "java/util/List")) (C := RX7) (T := TX7) (N := 6) hx hb hts in_X7 tyX7 tyX7_ok nmX7 hown hK hP hD hS 0 rfl rfl 2 (by decide) (hts _ q375) (fun _ h9 => h9) rfl (by decide +kernel) rfl rfl (Nat.le_of_ble_eq_true rfl) dJ6_init_3_20 (fun H locs hP hD hS => ?_)
      have hP : va_P D vwCl (fl [[(x_, .inr (6, [.ref x_, .ref tz_10, .ref tz_17, .null, .null, .int 0]))]]) H := hP
      have hD : va_D A (fl [[(x_, .inr (6, [.ref x_, .ref tz_10, .ref tz_17, .null, .null, .int 0]))]]) := hD
      refine lv_iload hx hb dJ6_init_3_23 (lv_at hl 4 rfl) ?_
      refine nv_if_eq (tgt := 36) hx hb dJ6_init_3_25 (by decide) (by omega) (fun c_25 => ?_) (fun c_25 => absurd c_25 (by decide))
      refine lv_aload_n hx hb dJ6_init_3_36 rfl (lv_at hl 0 rfl) ?_
      refine lv_null hx hb dJ6_init_3_37 ?_
      refine va_put (D := D) (ci := 6) (v := .null) (ty := (.array (.object "java/lang/StackTraceElement"))) (C := RX7) (T := TX7) (N := 6) hx hb hts in_X7 tyX7 tyX7_ok nmX7 hown hK hP hD hS 0 rfl rfl 1 (by decide) (hts _ q374) (fun _ h9 => h9) rfl (by decide +kernel) rfl rfl (Nat.le_of_ble_eq_true rfl) dJ6_init_3_38 (fun H locs hP hD hS => ?_)
      have hP : va_P D vwCl (fl [[(x_, .inr (6, [.ref x_, .null, .ref tz_17, .null, .null, .int 0]))]]) H := hP
      have hD : va_D A (fl [[(x_, .inr (6, [.ref x_, .null, .ref tz_17, .null, .null, .int 0]))]]) := hD
      refine lv_aload_n hx hb dJ6_init_3_41 rfl (lv_at hl 0 rfl) ?_
      refine lv_aload_nN hx hb dJ6_init_3_42 rfl (lv_at hl 1 rfl) ?_
      refine va_put (D := D) (ci := 6) (v := .null) (ty := (.object "java/lang/String")) (C := RX7) (T := TX7) (N := 6) hx hb hts in_X7 tyX7 tyX7_ok nmX7 hown hK hP hD hS 0 rfl rfl 3 (by decide) (hts _ q372) (fun _ h9 => h9) rfl (by decide +kernel) rfl rfl (Nat.le_of_ble_eq_true rfl) dJ6_init_3_43 (fun H locs hP hD hS => ?_)
      have hP : va_P D vwCl (fl [[(x_, .inr (6, [.ref x_, .null, .ref tz_17, .null, .null, .int 0]))]]) H := hP
      have hD : va_D A (fl [[(x_, .inr (6, [.ref x_, .null, .ref tz_17, .null, .null, .int 0]))]]) := hD
      refine lv_aload_n hx hb dJ6_init_3_46 rfl (lv_at hl 0 rfl) ?_
      refine lv_aload_n hx hb dJ6_init_3_47 rfl (lv_at hl 2 rfl) ?_
      refine va_put (D := D) (ci := 6) (v := .ref c_) (ty := (.object "java/lang/Throwable")) (C := RX7) (T := TX7) (N := 6) hx hb hts in_X7 tyX7 tyX7_ok nmX7 hown hK hP hD hS 0 rfl rfl 0 (by decide) (hts _ q373) (fun _ h9 => h9) rfl (by decide +kernel) rfl rfl (Nat.le_of_ble_eq_true rfl) dJ6_init_3_48 (fun H locs hP hD hS => ?_)
      have hP : va_P D vwCl (fl [[(x_, .inr (6, [.ref c_, .null, .ref tz_17, .null, .null, .int 0]))]]) H := hP
      have hD : va_D A (fl [[(x_, .inr (6, [.ref c_, .null, .ref tz_17, .null, .null, .int 0]))]]) := hD
      refine lv_iload_n hx hb dJ6_init_3_51 rfl (lv_at hl 3 rfl) ?_
      refine nv_if_ne (tgt := 60) hx hb dJ6_init_3_52 (by decide) (by omega) (fun c_52 => absurd c_52 (by decide)) (fun c_52 => ?_)
      refine lv_aload_n hx hb dJ6_init_3_55 rfl (lv_at hl 0 rfl) ?_
      refine lv_null hx hb dJ6_init_3_56 ?_
      refine va_put (D := D) (ci := 6) (v := .null) (ty := (.object "java/util/List")) (C := RX7) (T := TX7) (N := 6) hx hb hts in_X7 tyX7 tyX7_ok nmX7 hown hK hP hD hS 0 rfl rfl 2 (by decide) (hts _ q375) (fun _ h9 => h9) rfl (by decide +kernel) rfl rfl (Nat.le_of_ble_eq_true rfl) dJ6_init_3_57 (fun H locs hP hD hS => ?_)
      have hP : va_P D vwCl (fl [[(x_, .inr (6, [.ref c_, .null, .null, .null, .null, .int 0]))]]) H := hP
      have hD : va_D A (fl [[(x_, .inr (6, [.ref c_, .null, .null, .null, .null, .int 0]))]]) := hD
      subst hQQ
      exact xe_v () hx hb hr hlocks hK hP hD hS (trivial) dJ6_init_3_60
set_option maxHeartbeats 400000 in
set_option maxRecDepth 100000 in
theorem mt_J7_init_2_7 (l : Launch) (D : va_G) (ca : Nat → ClassId) (x_ : Nat) (c_ : Nat)  (nn : Nat) : Met l yJ7_init_2 (ws_ yJ7_init_2 cJ7_init_2 5 (Option.none : Option Jvm.ClassFile.FieldType)) ({ frames := 2, cells := 0, slots := 0, locals := 64 } : Room) (va_Pc [.ref x_, .null, .ref c_, .int (nI 0), .int (nI 0)] (PreW EvY D vwCl (TY ca) (fl [[(x_, .inr (6, [.null, .null, .null, .null, .null, .int 0]))]]) nn)) (va_Qv (fun (_ : Unit) => True) (PostW D vwCl (TY ca) (fun (_ : Unit) => (fl [[(x_, .inr (6, [.ref c_, .null, .null, .null, .null, .int 0]))]])) (va_A (fl [[(x_, .inr (6, [.null, .null, .null, .null, .null, .int 0]))]]) nn)) (va_A (fl [[(x_, .inr (6, [.null, .null, .null, .null, .null, .int 0]))]]) nn)) 0 0 (va_A (fl [[(x_, .inr (6, [.null, .null, .null, .null, .null, .int 0]))]]) nn) := by
  refine met_go2 (QA := fun A => va_Qv (fun (_ : Unit) => True) (PostW D vwCl (TY ca) (fun (_ : Unit) => (fl [[(x_, .inr (6, [.ref c_, .null, .null, .null, .null, .int 0]))]])) A) A) (by decide) (Nat.le_of_ble_eq_true rfl) (fun p e s m below meth c A ls QQ hQQ hmn hnm hx hb hr hts hown hlocks hml hA hP hK hD hE hl => ?_)
  have hown : s.vm.findClass RJ7 = some m.cls := hown
  have hS : va_S A s.heap s.heap [] := va_S.rf
  have hl : lv_has ls 5 [(0, .ref x_), (1, .null), (2, .ref c_), (3, .int (nI 0)), (4, .int (nI 0))] := hl
  generalize hHe : s.heap = H at hP ⊢
  have hS : va_S A s.heap H [] := hHe ▸ hS
  generalize ([] : List Loc) = locs at hS ⊢
  refine lv_aload_n hx hb dJ7_init_2_0 rfl (lv_at hl 0 rfl) ?_
  refine lv_aload_nN hx hb dJ7_init_2_1 rfl (lv_at hl 1 rfl) ?_
  refine lv_aload_n hx hb dJ7_init_2_2 rfl (lv_at hl 2 rfl) ?_
  refine lv_iload_n hx hb dJ7_init_2_3 rfl (lv_at hl 3 rfl) ?_
  refine lv_iload hx hb dJ7_init_2_4 (lv_at hl 4 rfl) ?_
  refine xc_v (xr_I (b := x_) (As := [.null, .ref c_, .int (nI 0), .int (nI 0)]) (rest := []) (mt_J6_init_3_7 l D ca x_ c_  H.size) ⟨hx, hb, hml, hown, hts⟩ (cwI 4 hts (lw_meth q918) rfl rfl rfl (hts _ q88) (hts _ q916) (hts _ q917) rfl (by decide +kernel) ⟨Nat.le_of_ble_eq_true rfl, Nat.le_of_ble_eq_true rfl⟩) EvY_ok hE hK hS (Cut.ch [[(x_, .inr (6, [.null, .null, .null, .null, .null, .int 0]))]] [] hP hD hS hA) rfl hl.1 rfl (Nat.le_of_ble_eq_true rfl) dJ7_init_2_6 ⟨Nat.le_of_ble_eq_true rfl, Nat.le_of_ble_eq_true rfl⟩) hS (Cut.ch [[(x_, .inr (6, [.null, .null, .null, .null, .null, .int 0]))]] [] hP hD hS hA) (fun u_2 H locs hq_6 hP hD hS => ?_)
  have hP : va_P D vwCl (fl [[(x_, .inr (6, [.ref c_, .null, .null, .null, .null, .int 0]))]]) H := fl_join [[(x_, .inr (6, [.ref c_, .null, .null, .null, .null, .int 0]))]] [] hP
  have hD : va_D A (fl [[(x_, .inr (6, [.ref c_, .null, .null, .null, .null, .int 0]))]]) := fl_joinD [[(x_, .inr (6, [.ref c_, .null, .null, .null, .null, .int 0]))]] [] hD
  subst hQQ
  exact xe_v () hx hb hr hlocks hK hP hD hS (trivial) dJ7_init_2_9
set_option maxHeartbeats 400000 in
set_option maxRecDepth 100000 in
theorem mt_X7_init (l : Launch) (D : va_G) (ca : Nat → ClassId) (x_ : Nat) (c_ : Nat)  (nn : Nat) : Met l yX7_init (ws_ yX7_init cX7_init 2 (Option.none : Option Jvm.ClassFile.FieldType)) ({ frames := 3, cells := 0, slots := 0, locals := 88 } : Room) (va_Pc [.ref x_, .ref c_] (PreW EvY D vwCl (TY ca) (fl [[(x_, .inr (6, [.null, .null, .null, .null, .null, .int 0]))]]) nn)) (va_Qv (fun (_ : Unit) => True) (PostW D vwCl (TY ca) (fun (_ : Unit) => (fl [[(x_, .inr (6, [.ref c_, .null, .null, .null, .null, .int 0]))]])) (va_A (fl [[(x_, .inr (6, [.null, .null, .null, .null, .null, .int 0]))]]) nn)) (va_A (fl [[(x_, .inr (6, [.null, .null, .null, .null, .null, .int 0]))]]) nn)) 0 0 (va_A (fl [[(x_, .inr (6, [.null, .null, .null, .null, .null, .int 0]))]]) nn) := by
  refine met_go2 (QA := fun A => va_Qv (fun (_ : Unit) => True) (PostW D vwCl (TY ca) (fun (_ : Unit) => (fl [[(x_, .inr (6, [.ref c_, .null, .null, .null, .null, .int 0]))]])) A) A) (by decide) (Nat.le_of_ble_eq_true rfl) (fun p e s m below meth c A ls QQ hQQ hmn hnm hx hb hr hts hown hlocks hml hA hP hK hD hE hl => ?_)
  have hown : s.vm.findClass RX7 = some m.cls := hown
  have hS : va_S A s.heap s.heap [] := va_S.rf
  have hl : lv_has ls 2 [(0, .ref x_), (1, .ref c_)] := hl
  generalize hHe : s.heap = H at hP ⊢
  have hS : va_S A s.heap H [] := hHe ▸ hS
  generalize ([] : List Loc) = locs at hS ⊢
  refine lv_aload_n hx hb dX7_init_0 rfl (lv_at hl 0 rfl) ?_
  refine lv_null hx hb dX7_init_1 ?_
  refine lv_aload_n hx hb dX7_init_2 rfl (lv_at hl 1 rfl) ?_
  refine lv_iconst (v := nI 0) hx hb dX7_init_3 (by decide) ?_
  refine lv_iconst (v := nI 0) hx hb dX7_init_4 (by decide) ?_
  refine xc_v (xr_I (b := x_) (As := [.null, .ref c_, .int (nI 0), .int (nI 0)]) (rest := []) (mt_J7_init_2_7 l D ca x_ c_  H.size) ⟨hx, hb, hml, hown, hts⟩ (cwI 4 hts (lw_meth q915) rfl rfl rfl (hts _ q89) (hts _ q1425) (hts _ q914) rfl (by decide +kernel) ⟨Nat.le_of_ble_eq_true rfl, Nat.le_of_ble_eq_true rfl⟩) EvY_ok hE hK hS (Cut.ch [[(x_, .inr (6, [.null, .null, .null, .null, .null, .int 0]))]] [] hP hD hS hA) rfl hl.1 rfl (Nat.le_of_ble_eq_true rfl) dX7_init_5 ⟨Nat.le_of_ble_eq_true rfl, Nat.le_of_ble_eq_true rfl⟩) hS (Cut.ch [[(x_, .inr (6, [.null, .null, .null, .null, .null, .int 0]))]] [] hP hD hS hA) (fun u_2 H locs hq_5 hP hD hS => ?_)
  have hP : va_P D vwCl (fl [[(x_, .inr (6, [.ref c_, .null, .null, .null, .null, .int 0]))]]) H := fl_join [[(x_, .inr (6, [.ref c_, .null, .null, .null, .null, .int 0]))]] [] hP
  have hD : va_D A (fl [[(x_, .inr (6, [.ref c_, .null, .null, .null, .null, .int 0]))]]) := fl_joinD [[(x_, .inr (6, [.ref c_, .null, .null, .null, .null, .int 0]))]] [] hD
  subst hQQ
  exact xe_v () hx hb hr hlocks hK hP hD hS (trivial) dX7_init_8
set_option maxHeartbeats 400000 in
set_option maxRecDepth 100000 in
theorem mt_X4_letter_ok (l : Launch) (D : va_G) (ca : Nat → ClassId) (cq : Nat → Nat) (tb_ : Nat → Int64) (va : Nat → Int32) (fy : Nat → Int64) (cn : Nat → Int32) (an : Nat → Int32) (sw : Nat → Int64) (sb : Nat → Int64) (sv : Value) (ra_ : Nat) (p_ : Nat) (rf_ : Int32) (xq : Nat → Nat) (b_ : Nat) (ml_ : Int32) (bs_ : Nat → Int32) (T_ : List Nat) (cap_ : Nat) (lo_ : Nat) (hi_ : Nat) (hSb : SbOk T_ bs_) (hTx : TxOk T_) (hc : T_.length ≤ cap_) (hcap : cap_ < 2000) (hl8 : lo_ < 128) (hh8 : hi_ < 128) (hp : p_ < T_.length) (hlo : lo_ ≤ T_.getD p_ 0) (hhi : T_.getD p_ 0 ≤ hi_) (nn : Nat) : Met l yX4_letter (ws_ yX4_letter cX4_letter 3 (Option.some Jvm.ClassFile.FieldType.int)) ({ frames := 4, cells := 0, slots := 0, locals := 88 } : Room) (va_Pc [.ref ra_, .int (nI lo_), .int (nI hi_)] (PreW EvZ D vwCl (TY ca) (fl [[(ra_, .inr (3, [.int (nI p_), .int rf_, .ref (xq 0)]))], (WTr ca cq xq tb_ va fy cn an sw sb sv), [(xq 9, .inr (8, [.ref b_, .int 0, .int ml_, .int (nI T_.length)]))], [(b_, .inl (ca 2, cap_, .inl (bs_)))]]) nn)) (va_Qi (fun (r_ : Int32) (_ : Unit) => r_ = nI (T_.getD p_ 0 - lo_)) (PostW D vwCl (TY ca) (fun (_ : Unit) => (fl [[(ra_, .inr (3, [.int (nI (p_ + 1)), .int rf_, .ref (xq 0)]))], (WTr ca cq xq tb_ va fy cn an sw sb sv), [(xq 9, .inr (8, [.ref b_, .int 0, .int ml_, .int (nI T_.length)]))], [(b_, .inl (ca 2, cap_, .inl (bs_)))]])) (va_A (fl [[(ra_, .inr (3, [.int (nI p_), .int rf_, .ref (xq 0)]))], (WTr ca cq xq tb_ va fy cn an sw sb sv), [(xq 9, .inr (8, [.ref b_, .int 0, .int ml_, .int (nI T_.length)]))], [(b_, .inl (ca 2, cap_, .inl (bs_)))]]) nn)) (va_A (fl [[(ra_, .inr (3, [.int (nI p_), .int rf_, .ref (xq 0)]))], (WTr ca cq xq tb_ va fy cn an sw sb sv), [(xq 9, .inr (8, [.ref b_, .int 0, .int ml_, .int (nI T_.length)]))], [(b_, .inl (ca 2, cap_, .inl (bs_)))]]) nn)) 0 0 (va_A (fl [[(ra_, .inr (3, [.int (nI p_), .int rf_, .ref (xq 0)]))], (WTr ca cq xq tb_ va fy cn an sw sb sv), [(xq 9, .inr (8, [.ref b_, .int 0, .int ml_, .int (nI T_.length)]))], [(b_, .inl (ca 2, cap_, .inl (bs_)))]]) nn) := by
  refine met_go2 (QA := fun A => va_Qi (fun (r_ : Int32) (_ : Unit) => r_ = nI (T_.getD p_ 0 - lo_)) (PostW D vwCl (TY ca) (fun (_ : Unit) => (fl [[(ra_, .inr (3, [.int (nI (p_ + 1)), .int rf_, .ref (xq 0)]))], (WTr ca cq xq tb_ va fy cn an sw sb sv), [(xq 9, .inr (8, [.ref b_, .int 0, .int ml_, .int (nI T_.length)]))], [(b_, .inl (ca 2, cap_, .inl (bs_)))]])) A) A) (by decide) (Nat.le_of_ble_eq_true rfl) (fun p e s m below meth c A ls QQ hQQ hmn hnm hx hb hr hts hown hlocks hml hA hP hK hD hE hl => ?_)
  have hown : s.vm.findClass RX4 = some m.cls := hown
  have hS : va_S A s.heap s.heap [] := va_S.rf
  have hl : lv_has ls 3 [(0, .ref ra_), (1, .int (nI lo_)), (2, .int (nI hi_))] := hl
  generalize hHe : s.heap = H at hP ⊢
  have hS : va_S A s.heap H [] := hHe ▸ hS
  generalize ([] : List Loc) = locs at hS ⊢
  have hT60 : T_.length ≤ 60 := hTx.1
  refine lv_aload_n hx hb dX4_letter_0 rfl (lv_at hl 0 rfl) ?_
  refine va_get (D := D) (ci := 3) (v := .int (nI p_)) (C := RX4) (T := TX4) (N := 3) hx hb hts in_X4 hown hK hP 0 rfl rfl 0 (by decide) (hts _ q791) (fun _ h9 => h9) rfl dX4_letter_1 ?_
  refine lv_aload_n hx hb dX4_letter_4 rfl (lv_at hl 0 rfl) ?_
  refine va_get (D := D) (ci := 3) (v := .ref (xq 0)) (C := RX4) (T := TX4) (N := 3) hx hb hts in_X4 hown hK hP 0 rfl rfl 2 (by decide) (hts _ q794) (fun _ h9 => h9) rfl dX4_letter_5 ?_
  refine va_getN (D := D) (ci := 0) (v := .ref (xq 9)) (C := RX1) (T := TX1) (N := 11) hx hb hts in_X1 hown hK hP 1 rfl rfl 10 (by decide) (va_Nw.use rfl (hE.1.1.1 _ q242 rfl)) (fun _ h9 => h9) rfl dX4_letter_8 ?_
  have hP : va_P D vwCl (fl [[(xq 9, .inr (8, [.ref b_, .int 0, .int ml_, .int (nI T_.length)]))], [(b_, .inl (ca 2, cap_, .inl (bs_)))], [(ra_, .inr (3, [.int (nI p_), .int rf_, .ref (xq 0)]))], (WTr ca cq xq tb_ va fy cn an sw sb sv)]) H := mvP hP [2, 3, 0, 1]
  have hD : va_D A (fl [[(xq 9, .inr (8, [.ref b_, .int 0, .int ml_, .int (nI T_.length)]))], [(b_, .inl (ca 2, cap_, .inl (bs_)))], [(ra_, .inr (3, [.int (nI p_), .int rf_, .ref (xq 0)]))], (WTr ca cq xq tb_ va fy cn an sw sb sv)]) := mvD hD [2, 3, 0, 1] (by decide)
  refine xc_i (xr_V (b := xq 9) (ci := 8) (q0 := 0) (As := []) (rest := [.int (nI p_)]) (mt_J3_length l D ca xq b_ ml_ bs_ cap_ T_.length  H.size) ⟨hx, hb, hml, hown, hts⟩ (cwV 0 hts (lw_V q833 q496 q497 q84 q498) rfl rfl rfl (by decide +kernel) ⟨Nat.le_of_ble_eq_true rfl, Nat.le_of_ble_eq_true rfl⟩) Ev0_ok trivial hK hS (Cut.ch [[(xq 9, .inr (8, [.ref b_, .int 0, .int ml_, .int (nI T_.length)]))], [(b_, .inl (ca 2, cap_, .inl (bs_)))]] [[(ra_, .inr (3, [.int (nI p_), .int rf_, .ref (xq 0)]))], (WTr ca cq xq tb_ va fy cn an sw sb sv)] hP hD hS hA) rfl rfl rfl hl.1 rfl (Nat.le_of_ble_eq_true rfl) dX4_letter_11 ⟨Nat.le_of_ble_eq_true rfl, Nat.le_of_ble_eq_true rfl⟩) hS (Cut.ch [[(xq 9, .inr (8, [.ref b_, .int 0, .int ml_, .int (nI T_.length)]))], [(b_, .inl (ca 2, cap_, .inl (bs_)))]] [[(ra_, .inr (3, [.int (nI p_), .int rf_, .ref (xq 0)]))], (WTr ca cq xq tb_ va fy cn an sw sb sv)] hP hD hS hA) (fun r_1 u_2 H locs hq_11 hP hD hS => ?_)
  have hP : va_P D vwCl (fl [[(xq 9, .inr (8, [.ref b_, .int 0, .int ml_, .int (nI T_.length)]))], [(b_, .inl (ca 2, cap_, .inl (bs_)))], [(ra_, .inr (3, [.int (nI p_), .int rf_, .ref (xq 0)]))], (WTr ca cq xq tb_ va fy cn an sw sb sv)]) H := fl_join [[(xq 9, .inr (8, [.ref b_, .int 0, .int ml_, .int (nI T_.length)]))], [(b_, .inl (ca 2, cap_, .inl (bs_)))]] [[(ra_, .inr (3, [.int (nI p_), .int rf_, .ref (xq 0)]))], (WTr ca cq xq tb_ va fy cn an sw sb sv)] hP
  have hD : va_D A (fl [[(xq 9, .inr (8, [.ref b_, .int 0, .int ml_, .int (nI T_.length)]))], [(b_, .inl (ca 2, cap_, .inl (bs_)))], [(ra_, .inr (3, [.int (nI p_), .int rf_, .ref (xq 0)]))], (WTr ca cq xq tb_ va fy cn an sw sb sv)]) := fl_joinD [[(xq 9, .inr (8, [.ref b_, .int 0, .int ml_, .int (nI T_.length)]))], [(b_, .inl (ca 2, cap_, .inl (bs_)))]] [[(ra_, .inr (3, [.int (nI p_), .int rf_, .ref (xq 0)]))], (WTr ca cq xq tb_ va fy cn an sw sb sv)] hD
  have hp_11 : r_1 = nI T_.length := hq_11
  clear hq_11
  obtain rfl := hp_11
  refine nv_icmp_eq (tgt := 39) hx hb dX4_letter_14 (by decide) (by omega) (by omega) (fun c_14 => absurd c_14 (by omega)) (fun c_14 => ?_)
  refine lv_aload_n hx hb dX4_letter_17 rfl (lv_at hl 0 rfl) ?_
  refine va_get (D := D) (ci := 3) (v := .ref (xq 0)) (C := RX4) (T := TX4) (N := 3) hx hb hts in_X4 hown hK hP 2 rfl rfl 2 (by decide) (hts _ q794) (fun _ h9 => h9) rfl dX4_letter_18 ?_
  refine va_getN (D := D) (ci := 0) (v := .ref (xq 9)) (C := RX1) (T := TX1) (N := 11) hx hb hts in_X1 hown hK hP 3 rfl rfl 10 (by decide) (va_Nw.use rfl (hE.1.1.1 _ q242 rfl)) (fun _ h9 => h9) rfl dX4_letter_21 ?_
  refine lv_aload_n hx hb dX4_letter_24 rfl (lv_at hl 0 rfl) ?_
  refine va_get (D := D) (ci := 3) (v := .int (nI p_)) (C := RX4) (T := TX4) (N := 3) hx hb hts in_X4 hown hK hP 2 rfl rfl 0 (by decide) (hts _ q791) (fun _ h9 => h9) rfl dX4_letter_25 ?_
  refine xc_i (xr_V (b := xq 9) (ci := 8) (q0 := 0) (As := [.int (nI p_)]) (rest := []) (mt_J3_charAt l D ca xq b_ ml_ bs_ T_ cap_ p_ hSb hTx hp hc hcap H.size) ⟨hx, hb, hml, hown, hts⟩ (cwV 1 hts (lw_V q834 q835 q836 q84 q837) rfl rfl rfl (by decide +kernel) ⟨Nat.le_of_ble_eq_true rfl, Nat.le_of_ble_eq_true rfl⟩) EvZ_ok hE hK hS (Cut.ch [[(xq 9, .inr (8, [.ref b_, .int 0, .int ml_, .int (nI T_.length)]))], [(b_, .inl (ca 2, cap_, .inl (bs_)))]] [[(ra_, .inr (3, [.int (nI p_), .int rf_, .ref (xq 0)]))], (WTr ca cq xq tb_ va fy cn an sw sb sv)] hP hD hS hA) rfl rfl rfl hl.1 rfl (Nat.le_of_ble_eq_true rfl) dX4_letter_28 ⟨Nat.le_of_ble_eq_true rfl, Nat.le_of_ble_eq_true rfl⟩) hS (Cut.ch [[(xq 9, .inr (8, [.ref b_, .int 0, .int ml_, .int (nI T_.length)]))], [(b_, .inl (ca 2, cap_, .inl (bs_)))]] [[(ra_, .inr (3, [.int (nI p_), .int rf_, .ref (xq 0)]))], (WTr ca cq xq tb_ va fy cn an sw sb sv)] hP hD hS hA) (fun r_3 u_4 H locs hq_28 hP hD hS => ?_)
  have hP : va_P D vwCl (fl [[(xq 9, .inr (8, [.ref b_, .int 0, .int ml_, .int (nI T_.length)]))], [(b_, .inl (ca 2, cap_, .inl (bs_)))], [(ra_, .inr (3, [.int (nI p_), .int rf_, .ref (xq 0)]))], (WTr ca cq xq tb_ va fy cn an sw sb sv)]) H := fl_join [[(xq 9, .inr (8, [.ref b_, .int 0, .int ml_, .int (nI T_.length)]))], [(b_, .inl (ca 2, cap_, .inl (bs_)))]] [[(ra_, .inr (3, [.int (nI p_), .int rf_, .ref (xq 0)]))], (WTr ca cq xq tb_ va fy cn an sw sb sv)] hP
  have hD : va_D A (fl [[(xq 9, .inr (8, [.ref b_, .int 0, .int ml_, .int (nI T_.length)]))], [(b_, .inl (ca 2, cap_, .inl (bs_)))], [(ra_, .inr (3, [.int (nI p_), .int rf_, .ref (xq 0)]))], (WTr ca cq xq tb_ va fy cn an sw sb sv)]) := fl_joinD [[(xq 9, .inr (8, [.ref b_, .int 0, .int ml_, .int (nI T_.length)]))], [(b_, .inl (ca 2, cap_, .inl (bs_)))]] [[(ra_, .inr (3, [.int (nI p_), .int rf_, .ref (xq 0)]))], (WTr ca cq xq tb_ va fy cn an sw sb sv)] hD
  have hp_28 : r_3 = nI (T_.getD p_ 0) := hq_28
  clear hq_28
  obtain rfl := hp_28
  refine lv_iload_n hx hb dX4_letter_31 rfl (lv_at hl 1 rfl) ?_
  refine lv_iload_n hx hb dX4_letter_32 rfl (lv_at hl 2 rfl) ?_
  refine xc_i (xr_SN (As := [.int (nI (T_.getD p_ 0)), .int (nI lo_), .int (nI hi_)]) (rest := []) (mt_X1_isWithin l D ca (nI (T_.getD p_ 0)) (nI lo_) (nI hi_)  H.size) ⟨hx, hb, hml, hown, hts⟩ ⟨va_cnB 3 hts (lw_meth q927) rfl rfl rfl (hE.1.1.1 _ q925 rfl) (hts _ q79) (by decide +kernel) ⟨Nat.le_of_ble_eq_true rfl, Nat.le_of_ble_eq_true rfl⟩, hts _ q926, trivial⟩ Ev0_ok trivial hK hS (Cut.app (wc := []) (wr := (fl [[(xq 9, .inr (8, [.ref b_, .int 0, .int ml_, .int (nI T_.length)]))], [(b_, .inl (ca 2, cap_, .inl (bs_)))], [(ra_, .inr (3, [.int (nI p_), .int rf_, .ref (xq 0)]))], (WTr ca cq xq tb_ va fy cn an sw sb sv)])) hP hD hS hA) rfl hl.1 rfl (Nat.le_of_ble_eq_true rfl) dX4_letter_33 ⟨Nat.le_of_ble_eq_true rfl, Nat.le_of_ble_eq_true rfl⟩) hS (Cut.app (wc := []) (wr := (fl [[(xq 9, .inr (8, [.ref b_, .int 0, .int ml_, .int (nI T_.length)]))], [(b_, .inl (ca 2, cap_, .inl (bs_)))], [(ra_, .inr (3, [.int (nI p_), .int rf_, .ref (xq 0)]))], (WTr ca cq xq tb_ va fy cn an sw sb sv)])) hP hD hS hA) (fun r_5 u_6 H locs hq_33 hP hD hS => ?_)
  have hP : va_P D vwCl (fl [[(xq 9, .inr (8, [.ref b_, .int 0, .int ml_, .int (nI T_.length)]))], [(b_, .inl (ca 2, cap_, .inl (bs_)))], [(ra_, .inr (3, [.int (nI p_), .int rf_, .ref (xq 0)]))], (WTr ca cq xq tb_ va fy cn an sw sb sv)]) H := hP
  have hD : va_D A (fl [[(xq 9, .inr (8, [.ref b_, .int 0, .int ml_, .int (nI T_.length)]))], [(b_, .inl (ca 2, cap_, .inl (bs_)))], [(ra_, .inr (3, [.int (nI p_), .int rf_, .ref (xq 0)]))], (WTr ca cq xq tb_ va fy cn an sw sb sv)]) := hD
  have hp_33 : r_5 = bI (decide ((nI lo_) ≤ (nI (T_.getD p_ 0)) ∧ (nI (T_.getD p_ 0)) ≤ (nI hi_))) := hq_33
  clear hq_33
  obtain rfl := hp_33
  refine nv_ifb_ne (tgt := 47) hx hb dX4_letter_36 (by decide) (fun c_36 => ?_) (fun c_36 => absurd c_36 (by rw [in_rng (by omega) (by omega) (by omega), decide_eq_true ⟨hlo, hhi⟩]; decide))
  refine lv_aload_n hx hb dX4_letter_47 rfl (lv_at hl 0 rfl) ?_
  refine lv_dup hx hb dX4_letter_48 rfl ?_
  refine va_get (D := D) (ci := 3) (v := .int (nI p_)) (C := RX4) (T := TX4) (N := 3) hx hb hts in_X4 hown hK hP 2 rfl rfl 0 (by decide) (hts _ q791) (fun _ h9 => h9) rfl dX4_letter_49 ?_
  refine lv_iconst (v := nI 1) hx hb dX4_letter_52 (by decide) ?_
  refine nv_iadd hx hb dX4_letter_53 ?_
  refine va_put (D := D) (ci := 3) (v := .int (nI (p_ + 1))) (ty := .int) (C := RX4) (T := TX4) (N := 3) hx hb hts in_X4 tyX4 tyX4_ok nmX4 hown hK hP hD hS 2 rfl rfl 0 (by decide) (hts _ q791) (fun _ h9 => h9) rfl (by decide +kernel) rfl rfl (Nat.le_of_ble_eq_true rfl) dX4_letter_54 (fun H locs hP hD hS => ?_)
  have hP : va_P D vwCl (fl [[(xq 9, .inr (8, [.ref b_, .int 0, .int ml_, .int (nI T_.length)]))], [(b_, .inl (ca 2, cap_, .inl (bs_)))], [(ra_, .inr (3, [.int (nI (p_ + 1)), .int rf_, .ref (xq 0)]))], (WTr ca cq xq tb_ va fy cn an sw sb sv)]) H := hP
  have hD : va_D A (fl [[(xq 9, .inr (8, [.ref b_, .int 0, .int ml_, .int (nI T_.length)]))], [(b_, .inl (ca 2, cap_, .inl (bs_)))], [(ra_, .inr (3, [.int (nI (p_ + 1)), .int rf_, .ref (xq 0)]))], (WTr ca cq xq tb_ va fy cn an sw sb sv)]) := hD
  refine lv_aload_n hx hb dX4_letter_57 rfl (lv_at hl 0 rfl) ?_
  refine va_get (D := D) (ci := 3) (v := .ref (xq 0)) (C := RX4) (T := TX4) (N := 3) hx hb hts in_X4 hown hK hP 2 rfl rfl 2 (by decide) (hts _ q794) (fun _ h9 => h9) rfl dX4_letter_58 ?_
  refine va_getN (D := D) (ci := 0) (v := .ref (xq 9)) (C := RX1) (T := TX1) (N := 11) hx hb hts in_X1 hown hK hP 3 rfl rfl 10 (by decide) (va_Nw.use rfl (hE.1.1.1 _ q242 rfl)) (fun _ h9 => h9) rfl dX4_letter_61 ?_
  refine lv_aload_n hx hb dX4_letter_64 rfl (lv_at hl 0 rfl) ?_
  refine va_get (D := D) (ci := 3) (v := .int (nI (p_ + 1))) (C := RX4) (T := TX4) (N := 3) hx hb hts in_X4 hown hK hP 2 rfl rfl 0 (by decide) (hts _ q791) (fun _ h9 => h9) rfl dX4_letter_65 ?_
  refine lv_iconst (v := nI 1) hx hb dX4_letter_68 (by decide) ?_
  refine nv_isub hx hb dX4_letter_69 (by omega) ?_
  refine lv_topi (nm_r (e' := nI p_) (rfl) ?_)
  refine xc_i (xr_V (b := xq 9) (ci := 8) (q0 := 0) (As := [.int (nI p_)]) (rest := []) (mt_J3_charAt l D ca xq b_ ml_ bs_ T_ cap_ p_ hSb hTx hp hc hcap H.size) ⟨hx, hb, hml, hown, hts⟩ (cwV 1 hts (lw_V q834 q835 q836 q84 q837) rfl rfl rfl (by decide +kernel) ⟨Nat.le_of_ble_eq_true rfl, Nat.le_of_ble_eq_true rfl⟩) EvZ_ok hE hK hS (Cut.ch [[(xq 9, .inr (8, [.ref b_, .int 0, .int ml_, .int (nI T_.length)]))], [(b_, .inl (ca 2, cap_, .inl (bs_)))]] [[(ra_, .inr (3, [.int (nI (p_ + 1)), .int rf_, .ref (xq 0)]))], (WTr ca cq xq tb_ va fy cn an sw sb sv)] hP hD hS hA) rfl rfl rfl hl.1 rfl (Nat.le_of_ble_eq_true rfl) dX4_letter_70 ⟨Nat.le_of_ble_eq_true rfl, Nat.le_of_ble_eq_true rfl⟩) hS (Cut.ch [[(xq 9, .inr (8, [.ref b_, .int 0, .int ml_, .int (nI T_.length)]))], [(b_, .inl (ca 2, cap_, .inl (bs_)))]] [[(ra_, .inr (3, [.int (nI (p_ + 1)), .int rf_, .ref (xq 0)]))], (WTr ca cq xq tb_ va fy cn an sw sb sv)] hP hD hS hA) (fun r_7 u_8 H locs hq_70 hP hD hS => ?_)
  have hP : va_P D vwCl (fl [[(xq 9, .inr (8, [.ref b_, .int 0, .int ml_, .int (nI T_.length)]))], [(b_, .inl (ca 2, cap_, .inl (bs_)))], [(ra_, .inr (3, [.int (nI (p_ + 1)), .int rf_, .ref (xq 0)]))], (WTr ca cq xq tb_ va fy cn an sw sb sv)]) H := fl_join [[(xq 9, .inr (8, [.ref b_, .int 0, .int ml_, .int (nI T_.length)]))], [(b_, .inl (ca 2, cap_, .inl (bs_)))]] [[(ra_, .inr (3, [.int (nI (p_ + 1)), .int rf_, .ref (xq 0)]))], (WTr ca cq xq tb_ va fy cn an sw sb sv)] hP
  have hD : va_D A (fl [[(xq 9, .inr (8, [.ref b_, .int 0, .int ml_, .int (nI T_.length)]))], [(b_, .inl (ca 2, cap_, .inl (bs_)))], [(ra_, .inr (3, [.int (nI (p_ + 1)), .int rf_, .ref (xq 0)]))], (WTr ca cq xq tb_ va fy cn an sw sb sv)]) := fl_joinD [[(xq 9, .inr (8, [.ref b_, .int 0, .int ml_, .int (nI T_.length)]))], [(b_, .inl (ca 2, cap_, .inl (bs_)))]] [[(ra_, .inr (3, [.int (nI (p_ + 1)), .int rf_, .ref (xq 0)]))], (WTr ca cq xq tb_ va fy cn an sw sb sv)] hD
  have hp_70 : r_7 = nI (T_.getD p_ 0) := hq_70
  clear hq_70
  obtain rfl := hp_70
  refine lv_iload_n hx hb dX4_letter_73 rfl (lv_at hl 1 rfl) ?_
  refine nv_isub hx hb dX4_letter_74 hlo ?_
  have hP : va_P D vwCl (fl [[(ra_, .inr (3, [.int (nI (p_ + 1)), .int rf_, .ref (xq 0)]))], (WTr ca cq xq tb_ va fy cn an sw sb sv), [(xq 9, .inr (8, [.ref b_, .int 0, .int ml_, .int (nI T_.length)]))], [(b_, .inl (ca 2, cap_, .inl (bs_)))]]) H := mvP hP [2, 3, 0, 1]
  have hD : va_D A (fl [[(ra_, .inr (3, [.int (nI (p_ + 1)), .int rf_, .ref (xq 0)]))], (WTr ca cq xq tb_ va fy cn an sw sb sv), [(xq 9, .inr (8, [.ref b_, .int 0, .int ml_, .int (nI T_.length)]))], [(b_, .inl (ca 2, cap_, .inl (bs_)))]]) := mvD hD [2, 3, 0, 1] (by decide)
  subst hQQ
  exact xe_i (v := nI ((T_.getD p_ 0) - lo_)) () hx hb hr hlocks hK hP hD hS (rfl) dX4_letter_75
set_option maxHeartbeats 400000 in
set_option maxRecDepth 100000 in
theorem mt_X4_letter_thr (l : Launch) (hlf : l.stackTraces = false) (D : va_G) (ca : Nat → ClassId) (cq : Nat → Nat) (tb_ : Nat → Int64) (va : Nat → Int32) (fy : Nat → Int64) (cn : Nat → Int32) (an : Nat → Int32) (sw : Nat → Int64) (sb : Nat → Int64) (sv : Value) (ra_ : Nat) (p_ : Nat) (rf_ : Int32) (xq : Nat → Nat) (b_ : Nat) (ml_ : Int32) (bs_ : Nat → Int32) (T_ : List Nat) (cap_ : Nat) (lo_ : Nat) (hi_ : Nat) (hSb : SbOk T_ bs_) (hTx : TxOk T_) (hc : T_.length ≤ cap_) (hcap : cap_ < 2000) (hl8 : lo_ < 128) (hh8 : hi_ < 128) (hp : p_ ≤ T_.length) (hno : ¬ (p_ < T_.length ∧ lo_ ≤ T_.getD p_ 0 ∧ T_.getD p_ 0 ≤ hi_)) (nn : Nat) : vx_Met l yX4_letter (ws_ yX4_letter cX4_letter 3 (Option.some Jvm.ClassFile.FieldType.int)) ({ frames := 4, cells := 1, slots := 6, locals := 108 } : Room) (va_Pc [.ref ra_, .int (nI lo_), .int (nI hi_)] (PreW EvZ D vwCl (TY ca) (fl [[(ra_, .inr (3, [.int (nI p_), .int rf_, .ref (xq 0)]))], (WTr ca cq xq tb_ va fy cn an sw sb sv), [(xq 9, .inr (8, [.ref b_, .int 0, .int ml_, .int (nI T_.length)]))], [(b_, .inl (ca 2, cap_, .inl (bs_)))]]) nn)) (QN (va_A (fl [[(ra_, .inr (3, [.int (nI p_), .int rf_, .ref (xq 0)]))], (WTr ca cq xq tb_ va fy cn an sw sb sv), [(xq 9, .inr (8, [.ref b_, .int 0, .int ml_, .int (nI T_.length)]))], [(b_, .inl (ca 2, cap_, .inl (bs_)))]]) nn)) (XT "RosehipCircuits$Misspelled" D vwCl (TY ca) (fl [[(ra_, .inr (3, [.int (nI p_), .int rf_, .ref (xq 0)]))], (WTr ca cq xq tb_ va fy cn an sw sb sv), [(xq 9, .inr (8, [.ref b_, .int 0, .int ml_, .int (nI T_.length)]))], [(b_, .inl (ca 2, cap_, .inl (bs_)))]]) (va_A (fl [[(ra_, .inr (3, [.int (nI p_), .int rf_, .ref (xq 0)]))], (WTr ca cq xq tb_ va fy cn an sw sb sv), [(xq 9, .inr (8, [.ref b_, .int 0, .int ml_, .int (nI T_.length)]))], [(b_, .inl (ca 2, cap_, .inl (bs_)))]]) nn)) 1 6 (va_A (fl [[(ra_, .inr (3, [.int (nI p_), .int rf_, .ref (xq 0)]))], (WTr ca cq xq tb_ va fy cn an sw sb sv), [(xq 9, .inr (8, [.ref b_, .int 0, .int ml_, .int (nI T_.length)]))], [(b_, .inl (ca 2, cap_, .inl (bs_)))]]) nn) := by
  refine met_goX (QA := fun A => QN A) (XA := fun A => XT "RosehipCircuits$Misspelled" D vwCl (TY ca) (fl [[(ra_, .inr (3, [.int (nI p_), .int rf_, .ref (xq 0)]))], (WTr ca cq xq tb_ va fy cn an sw sb sv), [(xq 9, .inr (8, [.ref b_, .int 0, .int ml_, .int (nI T_.length)]))], [(b_, .inl (ca 2, cap_, .inl (bs_)))]]) A) (by decide) (Nat.le_of_ble_eq_true rfl) (fun p e s m below meth c A ls QQ hQQ hex hnm hx hb hr hts hown hlocks hml hA hP hK hD hE hl => ?_)
  have hown : s.vm.findClass RX4 = some m.cls := hown
  have hS : va_S A s.heap s.heap [] := va_S.rf
  have hl : lv_has ls 3 [(0, .ref ra_), (1, .int (nI lo_)), (2, .int (nI hi_))] := hl
  generalize hHe : s.heap = H at hP ⊢
  have hS : va_S A s.heap H [] := hHe ▸ hS
  generalize ([] : List Loc) = locs at hS ⊢
  have hT60 : T_.length ≤ 60 := hTx.1
  refine lv_aload_n hx hb dX4_letter_0 rfl (lv_at hl 0 rfl) ?_
  refine va_get (D := D) (ci := 3) (v := .int (nI p_)) (C := RX4) (T := TX4) (N := 3) hx hb hts in_X4 hown hK hP 0 rfl rfl 0 (by decide) (hts _ q791) (fun _ h9 => h9) rfl dX4_letter_1 ?_
  refine lv_aload_n hx hb dX4_letter_4 rfl (lv_at hl 0 rfl) ?_
  refine va_get (D := D) (ci := 3) (v := .ref (xq 0)) (C := RX4) (T := TX4) (N := 3) hx hb hts in_X4 hown hK hP 0 rfl rfl 2 (by decide) (hts _ q794) (fun _ h9 => h9) rfl dX4_letter_5 ?_
  refine va_getN (D := D) (ci := 0) (v := .ref (xq 9)) (C := RX1) (T := TX1) (N := 11) hx hb hts in_X1 hown hK hP 1 rfl rfl 10 (by decide) (va_Nw.use rfl (hE.1.1.1 _ q242 rfl)) (fun _ h9 => h9) rfl dX4_letter_8 ?_
  have hP : va_P D vwCl (fl [[(xq 9, .inr (8, [.ref b_, .int 0, .int ml_, .int (nI T_.length)]))], [(b_, .inl (ca 2, cap_, .inl (bs_)))], [(ra_, .inr (3, [.int (nI p_), .int rf_, .ref (xq 0)]))], (WTr ca cq xq tb_ va fy cn an sw sb sv)]) H := mvP hP [2, 3, 0, 1]
  have hD : va_D A (fl [[(xq 9, .inr (8, [.ref b_, .int 0, .int ml_, .int (nI T_.length)]))], [(b_, .inl (ca 2, cap_, .inl (bs_)))], [(ra_, .inr (3, [.int (nI p_), .int rf_, .ref (xq 0)]))], (WTr ca cq xq tb_ va fy cn an sw sb sv)]) := mvD hD [2, 3, 0, 1] (by decide)
  refine xc_i (xr_V (b := xq 9) (ci := 8) (q0 := 0) (As := []) (rest := [.int (nI p_)]) (mt_J3_length l D ca xq b_ ml_ bs_ cap_ T_.length  H.size) ⟨hx, hb, hml, hown, hts⟩ (cwV 0 hts (lw_V q833 q496 q497 q84 q498) rfl rfl rfl (by decide +kernel) ⟨Nat.le_of_ble_eq_true rfl, Nat.le_of_ble_eq_true rfl⟩) Ev0_ok trivial hK hS (Cut.ch [[(xq 9, .inr (8, [.ref b_, .int 0, .int ml_, .int (nI T_.length)]))], [(b_, .inl (ca 2, cap_, .inl (bs_)))]] [[(ra_, .inr (3, [.int (nI p_), .int rf_, .ref (xq 0)]))], (WTr ca cq xq tb_ va fy cn an sw sb sv)] hP hD hS hA) rfl rfl rfl hl.1 rfl (Nat.le_of_ble_eq_true rfl) dX4_letter_11 ⟨Nat.le_of_ble_eq_true rfl, Nat.le_of_ble_eq_true rfl⟩) hS (Cut.ch [[(xq 9, .inr (8, [.ref b_, .int 0, .int ml_, .int (nI T_.length)]))], [(b_, .inl (ca 2, cap_, .inl (bs_)))]] [[(ra_, .inr (3, [.int (nI p_), .int rf_, .ref (xq 0)]))], (WTr ca cq xq tb_ va fy cn an sw sb sv)] hP hD hS hA) (fun r_1 u_2 H locs hq_11 hP hD hS => ?_)
  have hP : va_P D vwCl (fl [[(xq 9, .inr (8, [.ref b_, .int 0, .int ml_, .int (nI T_.length)]))], [(b_, .inl (ca 2, cap_, .inl (bs_)))], [(ra_, .inr (3, [.int (nI p_), .int rf_, .ref (xq 0)]))], (WTr ca cq xq tb_ va fy cn an sw sb sv)]) H := fl_join [[(xq 9, .inr (8, [.ref b_, .int 0, .int ml_, .int (nI T_.length)]))], [(b_, .inl (ca 2, cap_, .inl (bs_)))]] [[(ra_, .inr (3, [.int (nI p_), .int rf_, .ref (xq 0)]))], (WTr ca cq xq tb_ va fy cn an sw sb sv)] hP
  have hD : va_D A (fl [[(xq 9, .inr (8, [.ref b_, .int 0, .int ml_, .int (nI T_.length)]))], [(b_, .inl (ca 2, cap_, .inl (bs_)))], [(ra_, .inr (3, [.int (nI p_), .int rf_, .ref (xq 0)]))], (WTr ca cq xq tb_ va fy cn an sw sb sv)]) := fl_joinD [[(xq 9, .inr (8, [.ref b_, .int 0, .int ml_, .int (nI T_.length)]))], [(b_, .inl (ca 2, cap_, .inl (bs_)))]] [[(ra_, .inr (3, [.int (nI p_), .int rf_, .ref (xq 0)]))], (WTr ca cq xq tb_ va fy cn an sw sb sv)] hD
  have hp_11 : r_1 = nI T_.length := hq_11
  clear hq_11
  obtain rfl := hp_11
  refine nv_icmp_eq (tgt := 39) hx hb dX4_letter_14 (by decide) (by omega) (by omega) (fun c_14 => ?_) (fun c_14 => ?_)
  · skip
    refine va_new (D := D) (ci := 5) (fs := [.null, .null, .null, .null, .null, .int 0]) (C := RX5) (T := TX5) (N := 6) hx hb hts in_X5 tyX5 tyX5_ok hown (hts _ q901) (hts _ q902) (hts _ q109) hK hP hD hS hA rfl (fun j hj => by rcases (show j = 0 ∨ j = 1 ∨ j = 2 ∨ j = 3 ∨ j = 4 ∨ j = 5 by omega) with rfl | rfl | rfl | rfl | rfl | rfl <;> rfl) (Nat.le_of_ble_eq_true rfl) (Nat.le_of_ble_eq_true rfl) dX4_letter_39 (fun q_4 H hP hD hS => ?_)
    have hP : va_P D vwCl (fl [[(xq 9, .inr (8, [.ref b_, .int 0, .int ml_, .int (nI T_.length)]))], [(b_, .inl (ca 2, cap_, .inl (bs_)))], [(ra_, .inr (3, [.int (nI p_), .int rf_, .ref (xq 0)]))], (WTr ca cq xq tb_ va fy cn an sw sb sv), [(q_4, .inr (5, [.null, .null, .null, .null, .null, .int 0]))]]) H := fl_pushP hP
    have hD : va_D A (fl [[(xq 9, .inr (8, [.ref b_, .int 0, .int ml_, .int (nI T_.length)]))], [(b_, .inl (ca 2, cap_, .inl (bs_)))], [(ra_, .inr (3, [.int (nI p_), .int rf_, .ref (xq 0)]))], (WTr ca cq xq tb_ va fy cn an sw sb sv), [(q_4, .inr (5, [.null, .null, .null, .null, .null, .int 0]))]]) := fl_pushD hD
    refine lv_dup hx hb dX4_letter_42 rfl ?_
    have hP : va_P D vwCl (fl [[(q_4, .inr (5, [.null, .null, .null, .null, .null, .int 0]))], [(xq 9, .inr (8, [.ref b_, .int 0, .int ml_, .int (nI T_.length)]))], [(b_, .inl (ca 2, cap_, .inl (bs_)))], [(ra_, .inr (3, [.int (nI p_), .int rf_, .ref (xq 0)]))], (WTr ca cq xq tb_ va fy cn an sw sb sv)]) H := mvP hP [4, 0, 1, 2, 3]
    have hD : va_D A (fl [[(q_4, .inr (5, [.null, .null, .null, .null, .null, .int 0]))], [(xq 9, .inr (8, [.ref b_, .int 0, .int ml_, .int (nI T_.length)]))], [(b_, .inl (ca 2, cap_, .inl (bs_)))], [(ra_, .inr (3, [.int (nI p_), .int rf_, .ref (xq 0)]))], (WTr ca cq xq tb_ va fy cn an sw sb sv)]) := mvD hD [4, 0, 1, 2, 3] (by decide)
    refine xc_v (xr_I (b := q_4) (As := []) (rest := [.ref q_4]) (mt_X5_init l D ca q_4  H.size) ⟨hx, hb, hml, hown, hts⟩ (cwI 0 hts (lw_meth q912) rfl rfl rfl (hts _ q109) (hts _ q910) (hts _ q911) rfl (by decide +kernel) ⟨Nat.le_of_ble_eq_true rfl, Nat.le_of_ble_eq_true rfl⟩) EvY_ok hE.1 hK hS (Cut.ch [[(q_4, .inr (5, [.null, .null, .null, .null, .null, .int 0]))]] [[(xq 9, .inr (8, [.ref b_, .int 0, .int ml_, .int (nI T_.length)]))], [(b_, .inl (ca 2, cap_, .inl (bs_)))], [(ra_, .inr (3, [.int (nI p_), .int rf_, .ref (xq 0)]))], (WTr ca cq xq tb_ va fy cn an sw sb sv)] hP hD hS hA) rfl hl.1 rfl (Nat.le_of_ble_eq_true rfl) dX4_letter_43 ⟨Nat.le_of_ble_eq_true rfl, Nat.le_of_ble_eq_true rfl⟩) hS (Cut.ch [[(q_4, .inr (5, [.null, .null, .null, .null, .null, .int 0]))]] [[(xq 9, .inr (8, [.ref b_, .int 0, .int ml_, .int (nI T_.length)]))], [(b_, .inl (ca 2, cap_, .inl (bs_)))], [(ra_, .inr (3, [.int (nI p_), .int rf_, .ref (xq 0)]))], (WTr ca cq xq tb_ va fy cn an sw sb sv)] hP hD hS hA) (fun u_6 H locs hq_43 hP hD hS => ?_)
    have hP : va_P D vwCl (fl [[(q_4, .inr (5, [.null, .null, .null, .null, .null, .int 0]))], [(xq 9, .inr (8, [.ref b_, .int 0, .int ml_, .int (nI T_.length)]))], [(b_, .inl (ca 2, cap_, .inl (bs_)))], [(ra_, .inr (3, [.int (nI p_), .int rf_, .ref (xq 0)]))], (WTr ca cq xq tb_ va fy cn an sw sb sv)]) H := fl_join [[(q_4, .inr (5, [.null, .null, .null, .null, .null, .int 0]))]] [[(xq 9, .inr (8, [.ref b_, .int 0, .int ml_, .int (nI T_.length)]))], [(b_, .inl (ca 2, cap_, .inl (bs_)))], [(ra_, .inr (3, [.int (nI p_), .int rf_, .ref (xq 0)]))], (WTr ca cq xq tb_ va fy cn an sw sb sv)] hP
    have hD : va_D A (fl [[(q_4, .inr (5, [.null, .null, .null, .null, .null, .int 0]))], [(xq 9, .inr (8, [.ref b_, .int 0, .int ml_, .int (nI T_.length)]))], [(b_, .inl (ca 2, cap_, .inl (bs_)))], [(ra_, .inr (3, [.int (nI p_), .int rf_, .ref (xq 0)]))], (WTr ca cq xq tb_ va fy cn an sw sb sv)]) := fl_joinD [[(q_4, .inr (5, [.null, .null, .null, .null, .null, .int 0]))]] [[(xq 9, .inr (8, [.ref b_, .int 0, .int ml_, .int (nI T_.length)]))], [(b_, .inl (ca 2, cap_, .inl (bs_)))], [(ra_, .inr (3, [.int (nI p_), .int rf_, .ref (xq 0)]))], (WTr ca cq xq tb_ va fy cn an sw sb sv)] hD
    subst hQQ
    exact xa_throw hx hb dX4_letter_46 hK hP hS (q0 := 0) rfl rfl (mvP hP [3, 4, 1, 2]) (mvD hD [3, 4, 1, 2] (by decide)) (fun x_ h_ => (hex x_ h_).elim) hlocks (by decide) (by decide)
  · skip
    refine lv_aload_n hx hb dX4_letter_17 rfl (lv_at hl 0 rfl) ?_
    refine va_get (D := D) (ci := 3) (v := .ref (xq 0)) (C := RX4) (T := TX4) (N := 3) hx hb hts in_X4 hown hK hP 2 rfl rfl 2 (by decide) (hts _ q794) (fun _ h9 => h9) rfl dX4_letter_18 ?_
    refine va_getN (D := D) (ci := 0) (v := .ref (xq 9)) (C := RX1) (T := TX1) (N := 11) hx hb hts in_X1 hown hK hP 3 rfl rfl 10 (by decide) (va_Nw.use rfl (hE.1.1.1 _ q242 rfl)) (fun _ h9 => h9) rfl dX4_letter_21 ?_
    refine lv_aload_n hx hb dX4_letter_24 rfl (lv_at hl 0 rfl) ?_
    refine va_get (D := D) (ci := 3) (v := .int (nI p_)) (C := RX4) (T := TX4) (N := 3) hx hb hts in_X4 hown hK hP 2 rfl rfl 0 (by decide) (hts _ q791) (fun _ h9 => h9) rfl dX4_letter_25 ?_
    refine xc_i (xr_V (b := xq 9) (ci := 8) (q0 := 0) (As := [.int (nI p_)]) (rest := []) (mt_J3_charAt l D ca xq b_ ml_ bs_ T_ cap_ p_ hSb hTx (by omega) hc hcap H.size) ⟨hx, hb, hml, hown, hts⟩ (cwV 1 hts (lw_V q834 q835 q836 q84 q837) rfl rfl rfl (by decide +kernel) ⟨Nat.le_of_ble_eq_true rfl, Nat.le_of_ble_eq_true rfl⟩) EvZ_ok hE hK hS (Cut.ch [[(xq 9, .inr (8, [.ref b_, .int 0, .int ml_, .int (nI T_.length)]))], [(b_, .inl (ca 2, cap_, .inl (bs_)))]] [[(ra_, .inr (3, [.int (nI p_), .int rf_, .ref (xq 0)]))], (WTr ca cq xq tb_ va fy cn an sw sb sv)] hP hD hS hA) rfl rfl rfl hl.1 rfl (Nat.le_of_ble_eq_true rfl) dX4_letter_28 ⟨Nat.le_of_ble_eq_true rfl, Nat.le_of_ble_eq_true rfl⟩) hS (Cut.ch [[(xq 9, .inr (8, [.ref b_, .int 0, .int ml_, .int (nI T_.length)]))], [(b_, .inl (ca 2, cap_, .inl (bs_)))]] [[(ra_, .inr (3, [.int (nI p_), .int rf_, .ref (xq 0)]))], (WTr ca cq xq tb_ va fy cn an sw sb sv)] hP hD hS hA) (fun r_7 u_8 H locs hq_28 hP hD hS => ?_)
    have hP : va_P D vwCl (fl [[(xq 9, .inr (8, [.ref b_, .int 0, .int ml_, .int (nI T_.length)]))], [(b_, .inl (ca 2, cap_, .inl (bs_)))], [(ra_, .inr (3, [.int (nI p_), .int rf_, .ref (xq 0)]))], (WTr ca cq xq tb_ va fy cn an sw sb sv)]) H := fl_join [[(xq 9, .inr (8, [.ref b_, .int 0, .int ml_, .int (nI T_.length)]))], [(b_, .inl (ca 2, cap_, .inl (bs_)))]] [[(ra_, .inr (3, [.int (nI p_), .int rf_, .ref (xq 0)]))], (WTr ca cq xq tb_ va fy cn an sw sb sv)] hP
    have hD : va_D A (fl [[(xq 9, .inr (8, [.ref b_, .int 0, .int ml_, .int (nI T_.length)]))], [(b_, .inl (ca 2, cap_, .inl (bs_)))], [(ra_, .inr (3, [.int (nI p_), .int rf_, .ref (xq 0)]))], (WTr ca cq xq tb_ va fy cn an sw sb sv)]) := fl_joinD [[(xq 9, .inr (8, [.ref b_, .int 0, .int ml_, .int (nI T_.length)]))], [(b_, .inl (ca 2, cap_, .inl (bs_)))]] [[(ra_, .inr (3, [.int (nI p_), .int rf_, .ref (xq 0)]))], (WTr ca cq xq tb_ va fy cn an sw sb sv)] hD
    have hp_28 : r_7 = nI (T_.getD p_ 0) := hq_28
    clear hq_28
    obtain rfl := hp_28
    refine lv_iload_n hx hb dX4_letter_31 rfl (lv_at hl 1 rfl) ?_
    refine lv_iload_n hx hb dX4_letter_32 rfl (lv_at hl 2 rfl) ?_
    refine xc_i (xr_SN (As := [.int (nI (T_.getD p_ 0)), .int (nI lo_), .int (nI hi_)]) (rest := []) (mt_X1_isWithin l D ca (nI (T_.getD p_ 0)) (nI lo_) (nI hi_)  H.size) ⟨hx, hb, hml, hown, hts⟩ ⟨va_cnB 3 hts (lw_meth q927) rfl rfl rfl (hE.1.1.1 _ q925 rfl) (hts _ q79) (by decide +kernel) ⟨Nat.le_of_ble_eq_true rfl, Nat.le_of_ble_eq_true rfl⟩, hts _ q926, trivial⟩ Ev0_ok trivial hK hS (Cut.app (wc := []) (wr := (fl [[(xq 9, .inr (8, [.ref b_, .int 0, .int ml_, .int (nI T_.length)]))], [(b_, .inl (ca 2, cap_, .inl (bs_)))], [(ra_, .inr (3, [.int (nI p_), .int rf_, .ref (xq 0)]))], (WTr ca cq xq tb_ va fy cn an sw sb sv)])) hP hD hS hA) rfl hl.1 rfl (Nat.le_of_ble_eq_true rfl) dX4_letter_33 ⟨Nat.le_of_ble_eq_true rfl, Nat.le_of_ble_eq_true rfl⟩) hS (Cut.app (wc := []) (wr := (fl [[(xq 9, .inr (8, [.ref b_, .int 0, .int ml_, .int (nI T_.length)]))], [(b_, .inl (ca 2, cap_, .inl (bs_)))], [(ra_, .inr (3, [.int (nI p_), .int rf_, .ref (xq 0)]))], (WTr ca cq xq tb_ va fy cn an sw sb sv)])) hP hD hS hA) (fun r_9 u_10 H locs hq_33 hP hD hS => ?_)
    have hP : va_P D vwCl (fl [[(xq 9, .inr (8, [.ref b_, .int 0, .int ml_, .int (nI T_.length)]))], [(b_, .inl (ca 2, cap_, .inl (bs_)))], [(ra_, .inr (3, [.int (nI p_), .int rf_, .ref (xq 0)]))], (WTr ca cq xq tb_ va fy cn an sw sb sv)]) H := hP
    have hD : va_D A (fl [[(xq 9, .inr (8, [.ref b_, .int 0, .int ml_, .int (nI T_.length)]))], [(b_, .inl (ca 2, cap_, .inl (bs_)))], [(ra_, .inr (3, [.int (nI p_), .int rf_, .ref (xq 0)]))], (WTr ca cq xq tb_ va fy cn an sw sb sv)]) := hD
    have hp_33 : r_9 = bI (decide ((nI lo_) ≤ (nI (T_.getD p_ 0)) ∧ (nI (T_.getD p_ 0)) ≤ (nI hi_))) := hq_33
    clear hq_33
    obtain rfl := hp_33
    refine nv_ifb_ne (tgt := 47) hx hb dX4_letter_36 (by decide) (fun c_36 => absurd c_36 (by have h_ := hTx.2 p_; rw [in_rng (by omega) (by omega) (by omega), decide_eq_false (fun z => hno ⟨by omega, z⟩)]; decide)) (fun c_36 => ?_)
    refine va_new (D := D) (ci := 5) (fs := [.null, .null, .null, .null, .null, .int 0]) (C := RX5) (T := TX5) (N := 6) hx hb hts in_X5 tyX5 tyX5_ok hown (hts _ q901) (hts _ q902) (hts _ q109) hK hP hD hS hA rfl (fun j hj => by rcases (show j = 0 ∨ j = 1 ∨ j = 2 ∨ j = 3 ∨ j = 4 ∨ j = 5 by omega) with rfl | rfl | rfl | rfl | rfl | rfl <;> rfl) (Nat.le_of_ble_eq_true rfl) (Nat.le_of_ble_eq_true rfl) dX4_letter_39 (fun q_11 H hP hD hS => ?_)
    have hP : va_P D vwCl (fl [[(xq 9, .inr (8, [.ref b_, .int 0, .int ml_, .int (nI T_.length)]))], [(b_, .inl (ca 2, cap_, .inl (bs_)))], [(ra_, .inr (3, [.int (nI p_), .int rf_, .ref (xq 0)]))], (WTr ca cq xq tb_ va fy cn an sw sb sv), [(q_11, .inr (5, [.null, .null, .null, .null, .null, .int 0]))]]) H := fl_pushP hP
    have hD : va_D A (fl [[(xq 9, .inr (8, [.ref b_, .int 0, .int ml_, .int (nI T_.length)]))], [(b_, .inl (ca 2, cap_, .inl (bs_)))], [(ra_, .inr (3, [.int (nI p_), .int rf_, .ref (xq 0)]))], (WTr ca cq xq tb_ va fy cn an sw sb sv), [(q_11, .inr (5, [.null, .null, .null, .null, .null, .int 0]))]]) := fl_pushD hD
    refine lv_dup hx hb dX4_letter_42 rfl ?_
    have hP : va_P D vwCl (fl [[(q_11, .inr (5, [.null, .null, .null, .null, .null, .int 0]))], [(xq 9, .inr (8, [.ref b_, .int 0, .int ml_, .int (nI T_.length)]))], [(b_, .inl (ca 2, cap_, .inl (bs_)))], [(ra_, .inr (3, [.int (nI p_), .int rf_, .ref (xq 0)]))], (WTr ca cq xq tb_ va fy cn an sw sb sv)]) H := mvP hP [4, 0, 1, 2, 3]
    have hD : va_D A (fl [[(q_11, .inr (5, [.null, .null, .null, .null, .null, .int 0]))], [(xq 9, .inr (8, [.ref b_, .int 0, .int ml_, .int (nI T_.length)]))], [(b_, .inl (ca 2, cap_, .inl (bs_)))], [(ra_, .inr (3, [.int (nI p_), .int rf_, .ref (xq 0)]))], (WTr ca cq xq tb_ va fy cn an sw sb sv)]) := mvD hD [4, 0, 1, 2, 3] (by decide)
    refine xc_v (xr_I (b := q_11) (As := []) (rest := [.ref q_11]) (mt_X5_init l D ca q_11  H.size) ⟨hx, hb, hml, hown, hts⟩ (cwI 0 hts (lw_meth q912) rfl rfl rfl (hts _ q109) (hts _ q910) (hts _ q911) rfl (by decide +kernel) ⟨Nat.le_of_ble_eq_true rfl, Nat.le_of_ble_eq_true rfl⟩) EvY_ok hE.1 hK hS (Cut.ch [[(q_11, .inr (5, [.null, .null, .null, .null, .null, .int 0]))]] [[(xq 9, .inr (8, [.ref b_, .int 0, .int ml_, .int (nI T_.length)]))], [(b_, .inl (ca 2, cap_, .inl (bs_)))], [(ra_, .inr (3, [.int (nI p_), .int rf_, .ref (xq 0)]))], (WTr ca cq xq tb_ va fy cn an sw sb sv)] hP hD hS hA) rfl hl.1 rfl (Nat.le_of_ble_eq_true rfl) dX4_letter_43 ⟨Nat.le_of_ble_eq_true rfl, Nat.le_of_ble_eq_true rfl⟩) hS (Cut.ch [[(q_11, .inr (5, [.null, .null, .null, .null, .null, .int 0]))]] [[(xq 9, .inr (8, [.ref b_, .int 0, .int ml_, .int (nI T_.length)]))], [(b_, .inl (ca 2, cap_, .inl (bs_)))], [(ra_, .inr (3, [.int (nI p_), .int rf_, .ref (xq 0)]))], (WTr ca cq xq tb_ va fy cn an sw sb sv)] hP hD hS hA) (fun u_13 H locs hq_43 hP hD hS => ?_)
    have hP : va_P D vwCl (fl [[(q_11, .inr (5, [.null, .null, .null, .null, .null, .int 0]))], [(xq 9, .inr (8, [.ref b_, .int 0, .int ml_, .int (nI T_.length)]))], [(b_, .inl (ca 2, cap_, .inl (bs_)))], [(ra_, .inr (3, [.int (nI p_), .int rf_, .ref (xq 0)]))], (WTr ca cq xq tb_ va fy cn an sw sb sv)]) H := fl_join [[(q_11, .inr (5, [.null, .null, .null, .null, .null, .int 0]))]] [[(xq 9, .inr (8, [.ref b_, .int 0, .int ml_, .int (nI T_.length)]))], [(b_, .inl (ca 2, cap_, .inl (bs_)))], [(ra_, .inr (3, [.int (nI p_), .int rf_, .ref (xq 0)]))], (WTr ca cq xq tb_ va fy cn an sw sb sv)] hP
    have hD : va_D A (fl [[(q_11, .inr (5, [.null, .null, .null, .null, .null, .int 0]))], [(xq 9, .inr (8, [.ref b_, .int 0, .int ml_, .int (nI T_.length)]))], [(b_, .inl (ca 2, cap_, .inl (bs_)))], [(ra_, .inr (3, [.int (nI p_), .int rf_, .ref (xq 0)]))], (WTr ca cq xq tb_ va fy cn an sw sb sv)]) := fl_joinD [[(q_11, .inr (5, [.null, .null, .null, .null, .null, .int 0]))]] [[(xq 9, .inr (8, [.ref b_, .int 0, .int ml_, .int (nI T_.length)]))], [(b_, .inl (ca 2, cap_, .inl (bs_)))], [(ra_, .inr (3, [.int (nI p_), .int rf_, .ref (xq 0)]))], (WTr ca cq xq tb_ va fy cn an sw sb sv)] hD
    subst hQQ
    exact xa_throw hx hb dX4_letter_46 hK hP hS (q0 := 0) rfl rfl (mvP hP [3, 4, 1, 2]) (mvD hD [3, 4, 1, 2] (by decide)) (fun x_ h_ => (hex x_ h_).elim) hlocks (by decide) (by decide)
theorem dg_rng {T : List Nat} {k : Nat} (h : T.getD k 0 ≤ 126) : decide (nI 48 ≤ nI (T.getD k 0) ∧ nI (T.getD k 0) ≤ nI 57) = dgB (T.getD k 0) := in_rng (by decide) (by decide) (by omega)
theorem tw_0 {T : List Nat} {p v a : Nat} (hv : (v = T.getD p 0 - 48 ∧ a = p + 1) ∨ (v = tsV T p ∧ a = p + 2 ∧ tw T p = true ∧ 10 ≤ v)) (h1 : a = p + 1 → tw T p = false) : v = tsV T p ∧ a = tsP T p := by
  rcases hv with ⟨e1, e2⟩ | ⟨e1, e2, e3, e4⟩
  · unfold tsV tsP; rw [h1 e2]; exact ⟨e1, e2⟩
  · refine ⟨e1, ?_⟩; unfold tsP; rw [e3]; exact e2
theorem tw_n1 {T : List Nat} {p : Nat} (h : T.getD p 0 - 48 = 0) : tw T p = false := by unfold tw; rw [decide_eq_false (by omega)]; rfl
theorem tw_n2 {T : List Nat} {p : Nat} (h : dgB (T.getD (p + 1) 0) = false) : tw T p = false := by unfold tw; rw [h]; simp
theorem tw_n3 {T : List Nat} {p : Nat} (h : ¬ 10 * (T.getD p 0 - 48) + T.getD (p + 1) 0 < 112) : tw T p = false := by unfold tw; rw [decide_eq_false h]; simp
theorem tw_s {T : List Nat} {p v a : Nat} (hv : (v = T.getD p 0 - 48 ∧ a = p + 1) ∨ (v = tsV T p ∧ a = p + 2 ∧ tw T p = true ∧ 10 ≤ v)) (h0 : 0 < v) (h1 : dgB (T.getD a 0) = true) (h2 : 10 * v + T.getD a 0 - 48 < 64) : (10 * v + (T.getD a 0 - 48) = T.getD p 0 - 48 ∧ a + 1 = p + 1) ∨ (10 * v + (T.getD a 0 - 48) = tsV T p ∧ a + 1 = p + 2 ∧ tw T p = true ∧ 10 ≤ 10 * v + (T.getD a 0 - 48)) := by
  have hr : 48 ≤ T.getD a 0 ∧ T.getD a 0 ≤ 57 := of_decide_eq_true h1
  rcases hv with ⟨e1, e2⟩ | ⟨e1, e2, e3, e4⟩
  · subst e2
    have ht : tw T p = true := by unfold tw; rw [h1, decide_eq_true (show 10 * (T.getD p 0 - 48) + T.getD (p + 1) 0 < 112 by omega), decide_eq_true (show 48 < T.getD p 0 by omega)]; rfl
    refine Or.inr ⟨?_, by omega, ht, by omega⟩
    unfold tsV; rw [ht, if_pos rfl, ← e1]; omega
  · omega
theorem tw_y {T : List Nat} {p : Nat} (h1 : 48 < T.getD p 0) (h2 : dgB (T.getD (p + 1) 0) = true) (h3 : 10 * (T.getD p 0 - 48) + T.getD (p + 1) 0 < 112) : tw T p = true := by unfold tw; rw [h2, decide_eq_true h1, decide_eq_true h3]; rfl
set_option maxHeartbeats 1600000 in
set_option maxRecDepth 100000 in
theorem mt_X4_test_ok (l : Launch) (D : va_G) (ca : Nat → ClassId) (cq : Nat → Nat) (tb_ : Nat → Int64) (va : Nat → Int32) (fy : Nat → Int64) (cn : Nat → Int32) (an : Nat → Int32) (sw : Nat → Int64) (sb : Nat → Int64) (sv : Value) (ra_ : Nat) (p_ : Nat) (rf_ : Int32) (xq : Nat → Nat) (b_ : Nat) (ml_ : Int32) (bs_ : Nat → Int32) (T_ : List Nat) (cap_ : Nat) (hSb : SbOk T_ bs_) (hTx : TxOk T_) (hc : T_.length ≤ cap_) (hcap : cap_ < 2000) (hp : p_ < T_.length) (hd : dgB (T_.getD p_ 0) = true) (nn : Nat) : Met l yX4_test (ws_ yX4_test cX4_test 2 (Option.some Jvm.ClassFile.FieldType.int)) ({ frames := 5, cells := 0, slots := 0, locals := 110 } : Room) (va_Pc [.ref ra_] (PreW EvZ D vwCl (TY ca) (fl [[(ra_, .inr (3, [.int (nI p_), .int rf_, .ref (xq 0)]))], (WTr ca cq xq tb_ va fy cn an sw sb sv), [(xq 9, .inr (8, [.ref b_, .int 0, .int ml_, .int (nI T_.length)]))], [(b_, .inl (ca 2, cap_, .inl (bs_)))]]) nn)) (va_Qi (fun (r_ : Int32) (_ : Unit) => r_ = nI (tsV T_ p_)) (PostW D vwCl (TY ca) (fun (_ : Unit) => (fl [[(ra_, .inr (3, [.int (nI (tsP T_ p_)), .int rf_, .ref (xq 0)]))], (WTr ca cq xq tb_ va fy cn an sw sb sv), [(xq 9, .inr (8, [.ref b_, .int 0, .int ml_, .int (nI T_.length)]))], [(b_, .inl (ca 2, cap_, .inl (bs_)))]])) (va_A (fl [[(ra_, .inr (3, [.int (nI p_), .int rf_, .ref (xq 0)]))], (WTr ca cq xq tb_ va fy cn an sw sb sv), [(xq 9, .inr (8, [.ref b_, .int 0, .int ml_, .int (nI T_.length)]))], [(b_, .inl (ca 2, cap_, .inl (bs_)))]]) nn)) (va_A (fl [[(ra_, .inr (3, [.int (nI p_), .int rf_, .ref (xq 0)]))], (WTr ca cq xq tb_ va fy cn an sw sb sv), [(xq 9, .inr (8, [.ref b_, .int 0, .int ml_, .int (nI T_.length)]))], [(b_, .inl (ca 2, cap_, .inl (bs_)))]]) nn)) 0 0 (va_A (fl [[(ra_, .inr (3, [.int (nI p_), .int rf_, .ref (xq 0)]))], (WTr ca cq xq tb_ va fy cn an sw sb sv), [(xq 9, .inr (8, [.ref b_, .int 0, .int ml_, .int (nI T_.length)]))], [(b_, .inl (ca 2, cap_, .inl (bs_)))]]) nn) := by
  refine met_go2 (QA := fun A => va_Qi (fun (r_ : Int32) (_ : Unit) => r_ = nI (tsV T_ p_)) (PostW D vwCl (TY ca) (fun (_ : Unit) => (fl [[(ra_, .inr (3, [.int (nI (tsP T_ p_)), .int rf_, .ref (xq 0)]))], (WTr ca cq xq tb_ va fy cn an sw sb sv), [(xq 9, .inr (8, [.ref b_, .int 0, .int ml_, .int (nI T_.length)]))], [(b_, .inl (ca 2, cap_, .inl (bs_)))]])) A) A) (by decide) (Nat.le_of_ble_eq_true rfl) (fun p e s m below meth c A ls QQ hQQ hmn hnm hx hb hr hts hown hlocks hml hA hP hK hD hE hl => ?_)
  have hown : s.vm.findClass RX4 = some m.cls := hown
  have hS : va_S A s.heap s.heap [] := va_S.rf
  have hl : lv_has ls 2 [(0, .ref ra_)] := hl
  generalize hHe : s.heap = H at hP ⊢
  have hS : va_S A s.heap H [] := hHe ▸ hS
  generalize ([] : List Loc) = locs at hS ⊢
  have hT60 : T_.length ≤ 60 := hTx.1
  have hpr : 48 ≤ T_.getD p_ 0 ∧ T_.getD p_ 0 ≤ 57 := of_decide_eq_true hd
  refine lv_aload_n hx hb dX4_test_0 rfl (lv_at hl 0 rfl) ?_
  refine lv_bipush (v := nI 48) hx hb dX4_test_1 (by decide) ?_
  refine lv_bipush (v := nI 57) hx hb dX4_test_3 (by decide) ?_
  refine xc_i (xr_V (b := ra_) (ci := 3) (q0 := 0) (As := [.int (nI 48), .int (nI 57)]) (rest := []) (mt_X4_letter_ok l D ca cq tb_ va fy cn an sw sb sv ra_ p_ rf_ xq b_ ml_ bs_ T_ cap_ 48 57 hSb hTx hc hcap (by decide) (by decide) hp hpr.1 hpr.2 H.size) ⟨hx, hb, hml, hown, hts⟩ (cwV 2 hts (lw_V q921 q923 qs12 q105 q924) rfl rfl rfl (by decide +kernel) ⟨Nat.le_of_ble_eq_true rfl, Nat.le_of_ble_eq_true rfl⟩) EvZ_ok hE hK hS (Cut.ch [[(ra_, .inr (3, [.int (nI p_), .int rf_, .ref (xq 0)]))], (WTr ca cq xq tb_ va fy cn an sw sb sv), [(xq 9, .inr (8, [.ref b_, .int 0, .int ml_, .int (nI T_.length)]))], [(b_, .inl (ca 2, cap_, .inl (bs_)))]] [] hP hD hS hA) rfl rfl rfl hl.1 rfl (Nat.le_of_ble_eq_true rfl) dX4_test_5 ⟨Nat.le_of_ble_eq_true rfl, Nat.le_of_ble_eq_true rfl⟩) hS (Cut.ch [[(ra_, .inr (3, [.int (nI p_), .int rf_, .ref (xq 0)]))], (WTr ca cq xq tb_ va fy cn an sw sb sv), [(xq 9, .inr (8, [.ref b_, .int 0, .int ml_, .int (nI T_.length)]))], [(b_, .inl (ca 2, cap_, .inl (bs_)))]] [] hP hD hS hA) (fun r_1 u_2 H locs hq_5 hP hD hS => ?_)
  have hP : va_P D vwCl (fl [[(ra_, .inr (3, [.int (nI (p_ + 1)), .int rf_, .ref (xq 0)]))], (WTr ca cq xq tb_ va fy cn an sw sb sv), [(xq 9, .inr (8, [.ref b_, .int 0, .int ml_, .int (nI T_.length)]))], [(b_, .inl (ca 2, cap_, .inl (bs_)))]]) H := fl_join [[(ra_, .inr (3, [.int (nI (p_ + 1)), .int rf_, .ref (xq 0)]))], (WTr ca cq xq tb_ va fy cn an sw sb sv), [(xq 9, .inr (8, [.ref b_, .int 0, .int ml_, .int (nI T_.length)]))], [(b_, .inl (ca 2, cap_, .inl (bs_)))]] [] hP
  have hD : va_D A (fl [[(ra_, .inr (3, [.int (nI (p_ + 1)), .int rf_, .ref (xq 0)]))], (WTr ca cq xq tb_ va fy cn an sw sb sv), [(xq 9, .inr (8, [.ref b_, .int 0, .int ml_, .int (nI T_.length)]))], [(b_, .inl (ca 2, cap_, .inl (bs_)))]]) := fl_joinD [[(ra_, .inr (3, [.int (nI (p_ + 1)), .int rf_, .ref (xq 0)]))], (WTr ca cq xq tb_ va fy cn an sw sb sv), [(xq 9, .inr (8, [.ref b_, .int 0, .int ml_, .int (nI T_.length)]))], [(b_, .inl (ca 2, cap_, .inl (bs_)))]] [] hD
  have hp_5 : r_1 = nI (T_.getD p_ 0 - 48) := hq_5
  clear hq_5
  obtain rfl := hp_5
  refine lv_istore_n (lv' := [(1, .int (nI (T_.getD p_ 0 - 48))), (0, .ref ra_)]) hx hb dX4_test_8 rfl hl (by decide) rfl (fun ls hl => ?_)
  have lp_9 : ∀ (fu_9 : Nat) (v_ : Nat) (a_ : Nat), p_ + 2 - a_ < fu_9 → (a_ ≤ p_ + 2) → (a_ ≤ T_.length) → (v_ < 100) → ((v_ = T_.getD p_ 0 - 48 ∧ a_ = p_ + 1) ∨ (v_ = tsV T_ p_ ∧ a_ = p_ + 2 ∧ tw T_ p_ = true ∧ 10 ≤ v_)) → ∀ (H : Heap) (locs : List Loc), va_P D vwCl (fl [[(ra_, .inr (3, [.int (nI a_), .int rf_, .ref (xq 0)]))], (WTr ca cq xq tb_ va fy cn an sw sb sv), [(xq 9, .inr (8, [.ref b_, .int 0, .int ml_, .int (nI T_.length)]))], [(b_, .inl (ca 2, cap_, .inl (bs_)))]]) H → va_D A (fl [[(ra_, .inr (3, [.int (nI a_), .int rf_, .ref (xq 0)]))], (WTr ca cq xq tb_ va fy cn an sw sb sv), [(xq 9, .inr (8, [.ref b_, .int 0, .int ml_, .int (nI T_.length)]))], [(b_, .inl (ca 2, cap_, .inl (bs_)))]]) → va_S A s.heap H locs → ∀ (ls : Array Slot), lv_has ls 2 [(1, .int (nI v_)), (0, .ref ra_)] → W p l e ({ frames := 5, cells := 0, slots := 0, locals := 110 } : Room) s m ([.ref ra_] : List Value).toArray below meth c H locs 0 0 QQ (F0 m 9 ls []) := by
    intro fu_9
    induction fu_9 with
    | zero => intro v_ a_ hfu; exact absurd hfu (Nat.not_lt_zero _)
    | succ fu_9 ih_9 =>
      intro v_ a_ hfu ha hal hv9 hv H locs hP hD hS ls hl
      refine lv_iload_n hx hb dX4_test_9 rfl (lv_at hl 0 rfl) ?_
      refine nv_if_le (tgt := 98) hx hb dX4_test_10 (by decide) (by omega) (fun c_10 => ?_) (fun c_10 => ?_)
      · skip
        have hres := tw_0 hv (fun e_ => tw_n1 (by rcases hv with ⟨e1, e2⟩ | ⟨e1, e2, e3, e4⟩ <;> omega))
        refine lv_iload_n hx hb dX4_test_98 rfl (lv_at hl 0 rfl) ?_
        have ew_ : Value.int (nI a_) = Value.int (nI (tsP T_ p_)) := congrArg (fun z_ => Value.int (nI z_)) hres.2
        have hP : va_P D vwCl (fl [[(ra_, .inr (3, [.int (nI (tsP T_ p_)), .int rf_, .ref (xq 0)]))], (WTr ca cq xq tb_ va fy cn an sw sb sv), [(xq 9, .inr (8, [.ref b_, .int 0, .int ml_, .int (nI T_.length)]))], [(b_, .inl (ca 2, cap_, .inl (bs_)))]]) H := (congrArg (fun (x_ : Value) => va_P D vwCl (fl [[(ra_, .inr (3, [x_, .int rf_, .ref (xq 0)]))], (WTr ca cq xq tb_ va fy cn an sw sb sv), [(xq 9, .inr (8, [.ref b_, .int 0, .int ml_, .int (nI T_.length)]))], [(b_, .inl (ca 2, cap_, .inl (bs_)))]]) H) ew_).mp hP
        have hD : va_D A (fl [[(ra_, .inr (3, [.int (nI (tsP T_ p_)), .int rf_, .ref (xq 0)]))], (WTr ca cq xq tb_ va fy cn an sw sb sv), [(xq 9, .inr (8, [.ref b_, .int 0, .int ml_, .int (nI T_.length)]))], [(b_, .inl (ca 2, cap_, .inl (bs_)))]]) := (congrArg (fun (x_ : Value) => va_D A (fl [[(ra_, .inr (3, [x_, .int rf_, .ref (xq 0)]))], (WTr ca cq xq tb_ va fy cn an sw sb sv), [(xq 9, .inr (8, [.ref b_, .int 0, .int ml_, .int (nI T_.length)]))], [(b_, .inl (ca 2, cap_, .inl (bs_)))]])) ew_).mp hD
        clear ew_
        subst hQQ
        exact xe_i (v := nI v_) () hx hb hr hlocks hK hP hD hS (congrArg nI hres.1) dX4_test_99
      · skip
        refine lv_aload_n hx hb dX4_test_13 rfl (lv_at hl 1 rfl) ?_
        refine va_get (D := D) (ci := 3) (v := .int (nI a_)) (C := RX4) (T := TX4) (N := 3) hx hb hts in_X4 hown hK hP 0 rfl rfl 0 (by decide) (hts _ q791) (fun _ h9 => h9) rfl dX4_test_14 ?_
        refine lv_aload_n hx hb dX4_test_17 rfl (lv_at hl 1 rfl) ?_
        refine va_get (D := D) (ci := 3) (v := .ref (xq 0)) (C := RX4) (T := TX4) (N := 3) hx hb hts in_X4 hown hK hP 0 rfl rfl 2 (by decide) (hts _ q794) (fun _ h9 => h9) rfl dX4_test_18 ?_
        refine va_getN (D := D) (ci := 0) (v := .ref (xq 9)) (C := RX1) (T := TX1) (N := 11) hx hb hts in_X1 hown hK hP 1 rfl rfl 10 (by decide) (va_Nw.use rfl (hE.1.1.1 _ q242 rfl)) (fun _ h9 => h9) rfl dX4_test_21 ?_
        have hP : va_P D vwCl (fl [[(xq 9, .inr (8, [.ref b_, .int 0, .int ml_, .int (nI T_.length)]))], [(b_, .inl (ca 2, cap_, .inl (bs_)))], [(ra_, .inr (3, [.int (nI a_), .int rf_, .ref (xq 0)]))], (WTr ca cq xq tb_ va fy cn an sw sb sv)]) H := mvP hP [2, 3, 0, 1]
        have hD : va_D A (fl [[(xq 9, .inr (8, [.ref b_, .int 0, .int ml_, .int (nI T_.length)]))], [(b_, .inl (ca 2, cap_, .inl (bs_)))], [(ra_, .inr (3, [.int (nI a_), .int rf_, .ref (xq 0)]))], (WTr ca cq xq tb_ va fy cn an sw sb sv)]) := mvD hD [2, 3, 0, 1] (by decide)
        refine xc_i (xr_V (b := xq 9) (ci := 8) (q0 := 0) (As := []) (rest := [.int (nI a_)]) (mt_J3_length l D ca xq b_ ml_ bs_ cap_ T_.length  H.size) ⟨hx, hb, hml, hown, hts⟩ (cwV 0 hts (lw_V q833 q496 q497 q84 q498) rfl rfl rfl (by decide +kernel) ⟨Nat.le_of_ble_eq_true rfl, Nat.le_of_ble_eq_true rfl⟩) Ev0_ok trivial hK hS (Cut.ch [[(xq 9, .inr (8, [.ref b_, .int 0, .int ml_, .int (nI T_.length)]))], [(b_, .inl (ca 2, cap_, .inl (bs_)))]] [[(ra_, .inr (3, [.int (nI a_), .int rf_, .ref (xq 0)]))], (WTr ca cq xq tb_ va fy cn an sw sb sv)] hP hD hS hA) rfl rfl rfl hl.1 rfl (Nat.le_of_ble_eq_true rfl) dX4_test_24 ⟨Nat.le_of_ble_eq_true rfl, Nat.le_of_ble_eq_true rfl⟩) hS (Cut.ch [[(xq 9, .inr (8, [.ref b_, .int 0, .int ml_, .int (nI T_.length)]))], [(b_, .inl (ca 2, cap_, .inl (bs_)))]] [[(ra_, .inr (3, [.int (nI a_), .int rf_, .ref (xq 0)]))], (WTr ca cq xq tb_ va fy cn an sw sb sv)] hP hD hS hA) (fun r_4 u_5 H locs hq_24 hP hD hS => ?_)
        have hP : va_P D vwCl (fl [[(xq 9, .inr (8, [.ref b_, .int 0, .int ml_, .int (nI T_.length)]))], [(b_, .inl (ca 2, cap_, .inl (bs_)))], [(ra_, .inr (3, [.int (nI a_), .int rf_, .ref (xq 0)]))], (WTr ca cq xq tb_ va fy cn an sw sb sv)]) H := fl_join [[(xq 9, .inr (8, [.ref b_, .int 0, .int ml_, .int (nI T_.length)]))], [(b_, .inl (ca 2, cap_, .inl (bs_)))]] [[(ra_, .inr (3, [.int (nI a_), .int rf_, .ref (xq 0)]))], (WTr ca cq xq tb_ va fy cn an sw sb sv)] hP
        have hD : va_D A (fl [[(xq 9, .inr (8, [.ref b_, .int 0, .int ml_, .int (nI T_.length)]))], [(b_, .inl (ca 2, cap_, .inl (bs_)))], [(ra_, .inr (3, [.int (nI a_), .int rf_, .ref (xq 0)]))], (WTr ca cq xq tb_ va fy cn an sw sb sv)]) := fl_joinD [[(xq 9, .inr (8, [.ref b_, .int 0, .int ml_, .int (nI T_.length)]))], [(b_, .inl (ca 2, cap_, .inl (bs_)))]] [[(ra_, .inr (3, [.int (nI a_), .int rf_, .ref (xq 0)]))], (WTr ca cq xq tb_ va fy cn an sw sb sv)] hD
        have hp_24 : r_4 = nI T_.length := hq_24
        clear hq_24
        obtain rfl := hp_24
        refine nv_icmp_ge (tgt := 98) hx hb dX4_test_27 (by decide) (by omega) (by omega) (fun c_27 => ?_) (fun c_27 => ?_)
        · skip
          have hres := tw_0 hv (fun e_ => tw_n2 (by rw [← e_, getD_no c_27]; rfl))
          refine lv_iload_n hx hb dX4_test_98 rfl (lv_at hl 0 rfl) ?_
          have hP : va_P D vwCl (fl [[(ra_, .inr (3, [.int (nI a_), .int rf_, .ref (xq 0)]))], (WTr ca cq xq tb_ va fy cn an sw sb sv), [(xq 9, .inr (8, [.ref b_, .int 0, .int ml_, .int (nI T_.length)]))], [(b_, .inl (ca 2, cap_, .inl (bs_)))]]) H := mvP hP [2, 3, 0, 1]
          have hD : va_D A (fl [[(ra_, .inr (3, [.int (nI a_), .int rf_, .ref (xq 0)]))], (WTr ca cq xq tb_ va fy cn an sw sb sv), [(xq 9, .inr (8, [.ref b_, .int 0, .int ml_, .int (nI T_.length)]))], [(b_, .inl (ca 2, cap_, .inl (bs_)))]]) := mvD hD [2, 3, 0, 1] (by decide)
          have ew_ : Value.int (nI a_) = Value.int (nI (tsP T_ p_)) := congrArg (fun z_ => Value.int (nI z_)) hres.2
          have hP : va_P D vwCl (fl [[(ra_, .inr (3, [.int (nI (tsP T_ p_)), .int rf_, .ref (xq 0)]))], (WTr ca cq xq tb_ va fy cn an sw sb sv), [(xq 9, .inr (8, [.ref b_, .int 0, .int ml_, .int (nI T_.length)]))], [(b_, .inl (ca 2, cap_, .inl (bs_)))]]) H := (congrArg (fun (x_ : Value) => va_P D vwCl (fl [[(ra_, .inr (3, [x_, .int rf_, .ref (xq 0)]))], (WTr ca cq xq tb_ va fy cn an sw sb sv), [(xq 9, .inr (8, [.ref b_, .int 0, .int ml_, .int (nI T_.length)]))], [(b_, .inl (ca 2, cap_, .inl (bs_)))]]) H) ew_).mp hP
          have hD : va_D A (fl [[(ra_, .inr (3, [.int (nI (tsP T_ p_)), .int rf_, .ref (xq 0)]))], (WTr ca cq xq tb_ va fy cn an sw sb sv), [(xq 9, .inr (8, [.ref b_, .int 0, .int ml_, .int (nI T_.length)]))], [(b_, .inl (ca 2, cap_, .inl (bs_)))]]) := (congrArg (fun (x_ : Value) => va_D A (fl [[(ra_, .inr (3, [x_, .int rf_, .ref (xq 0)]))], (WTr ca cq xq tb_ va fy cn an sw sb sv), [(xq 9, .inr (8, [.ref b_, .int 0, .int ml_, .int (nI T_.length)]))], [(b_, .inl (ca 2, cap_, .inl (bs_)))]])) ew_).mp hD
          clear ew_
          subst hQQ
          exact xe_i (v := nI v_) () hx hb hr hlocks hK hP hD hS (congrArg nI hres.1) dX4_test_99
        · skip
          refine lv_aload_n hx hb dX4_test_30 rfl (lv_at hl 1 rfl) ?_
          refine va_get (D := D) (ci := 3) (v := .ref (xq 0)) (C := RX4) (T := TX4) (N := 3) hx hb hts in_X4 hown hK hP 2 rfl rfl 2 (by decide) (hts _ q794) (fun _ h9 => h9) rfl dX4_test_31 ?_
          refine va_getN (D := D) (ci := 0) (v := .ref (xq 9)) (C := RX1) (T := TX1) (N := 11) hx hb hts in_X1 hown hK hP 3 rfl rfl 10 (by decide) (va_Nw.use rfl (hE.1.1.1 _ q242 rfl)) (fun _ h9 => h9) rfl dX4_test_34 ?_
          refine lv_aload_n hx hb dX4_test_37 rfl (lv_at hl 1 rfl) ?_
          refine va_get (D := D) (ci := 3) (v := .int (nI a_)) (C := RX4) (T := TX4) (N := 3) hx hb hts in_X4 hown hK hP 2 rfl rfl 0 (by decide) (hts _ q791) (fun _ h9 => h9) rfl dX4_test_38 ?_
          refine xc_i (xr_V (b := xq 9) (ci := 8) (q0 := 0) (As := [.int (nI a_)]) (rest := []) (mt_J3_charAt l D ca xq b_ ml_ bs_ T_ cap_ a_ hSb hTx (by omega) hc hcap H.size) ⟨hx, hb, hml, hown, hts⟩ (cwV 1 hts (lw_V q834 q835 q836 q84 q837) rfl rfl rfl (by decide +kernel) ⟨Nat.le_of_ble_eq_true rfl, Nat.le_of_ble_eq_true rfl⟩) EvZ_ok hE hK hS (Cut.ch [[(xq 9, .inr (8, [.ref b_, .int 0, .int ml_, .int (nI T_.length)]))], [(b_, .inl (ca 2, cap_, .inl (bs_)))]] [[(ra_, .inr (3, [.int (nI a_), .int rf_, .ref (xq 0)]))], (WTr ca cq xq tb_ va fy cn an sw sb sv)] hP hD hS hA) rfl rfl rfl hl.1 rfl (Nat.le_of_ble_eq_true rfl) dX4_test_41 ⟨Nat.le_of_ble_eq_true rfl, Nat.le_of_ble_eq_true rfl⟩) hS (Cut.ch [[(xq 9, .inr (8, [.ref b_, .int 0, .int ml_, .int (nI T_.length)]))], [(b_, .inl (ca 2, cap_, .inl (bs_)))]] [[(ra_, .inr (3, [.int (nI a_), .int rf_, .ref (xq 0)]))], (WTr ca cq xq tb_ va fy cn an sw sb sv)] hP hD hS hA) (fun r_7 u_8 H locs hq_41 hP hD hS => ?_)
          have hP : va_P D vwCl (fl [[(xq 9, .inr (8, [.ref b_, .int 0, .int ml_, .int (nI T_.length)]))], [(b_, .inl (ca 2, cap_, .inl (bs_)))], [(ra_, .inr (3, [.int (nI a_), .int rf_, .ref (xq 0)]))], (WTr ca cq xq tb_ va fy cn an sw sb sv)]) H := fl_join [[(xq 9, .inr (8, [.ref b_, .int 0, .int ml_, .int (nI T_.length)]))], [(b_, .inl (ca 2, cap_, .inl (bs_)))]] [[(ra_, .inr (3, [.int (nI a_), .int rf_, .ref (xq 0)]))], (WTr ca cq xq tb_ va fy cn an sw sb sv)] hP
          have hD : va_D A (fl [[(xq 9, .inr (8, [.ref b_, .int 0, .int ml_, .int (nI T_.length)]))], [(b_, .inl (ca 2, cap_, .inl (bs_)))], [(ra_, .inr (3, [.int (nI a_), .int rf_, .ref (xq 0)]))], (WTr ca cq xq tb_ va fy cn an sw sb sv)]) := fl_joinD [[(xq 9, .inr (8, [.ref b_, .int 0, .int ml_, .int (nI T_.length)]))], [(b_, .inl (ca 2, cap_, .inl (bs_)))]] [[(ra_, .inr (3, [.int (nI a_), .int rf_, .ref (xq 0)]))], (WTr ca cq xq tb_ va fy cn an sw sb sv)] hD
          have hp_41 : r_7 = nI (T_.getD a_ 0) := hq_41
          clear hq_41
          obtain rfl := hp_41
          refine lv_bipush (v := nI 48) hx hb dX4_test_44 (by decide) ?_
          refine lv_bipush (v := nI 57) hx hb dX4_test_46 (by decide) ?_
          refine xc_i (xr_SN (As := [.int (nI (T_.getD a_ 0)), .int (nI 48), .int (nI 57)]) (rest := []) (mt_X1_isWithin l D ca (nI (T_.getD a_ 0)) (nI 48) (nI 57)  H.size) ⟨hx, hb, hml, hown, hts⟩ ⟨va_cnB 3 hts (lw_meth q927) rfl rfl rfl (hE.1.1.1 _ q925 rfl) (hts _ q79) (by decide +kernel) ⟨Nat.le_of_ble_eq_true rfl, Nat.le_of_ble_eq_true rfl⟩, hts _ q926, trivial⟩ Ev0_ok trivial hK hS (Cut.app (wc := []) (wr := (fl [[(xq 9, .inr (8, [.ref b_, .int 0, .int ml_, .int (nI T_.length)]))], [(b_, .inl (ca 2, cap_, .inl (bs_)))], [(ra_, .inr (3, [.int (nI a_), .int rf_, .ref (xq 0)]))], (WTr ca cq xq tb_ va fy cn an sw sb sv)])) hP hD hS hA) rfl hl.1 rfl (Nat.le_of_ble_eq_true rfl) dX4_test_48 ⟨Nat.le_of_ble_eq_true rfl, Nat.le_of_ble_eq_true rfl⟩) hS (Cut.app (wc := []) (wr := (fl [[(xq 9, .inr (8, [.ref b_, .int 0, .int ml_, .int (nI T_.length)]))], [(b_, .inl (ca 2, cap_, .inl (bs_)))], [(ra_, .inr (3, [.int (nI a_), .int rf_, .ref (xq 0)]))], (WTr ca cq xq tb_ va fy cn an sw sb sv)])) hP hD hS hA) (fun r_9 u_10 H locs hq_48 hP hD hS => ?_)
          have hP : va_P D vwCl (fl [[(xq 9, .inr (8, [.ref b_, .int 0, .int ml_, .int (nI T_.length)]))], [(b_, .inl (ca 2, cap_, .inl (bs_)))], [(ra_, .inr (3, [.int (nI a_), .int rf_, .ref (xq 0)]))], (WTr ca cq xq tb_ va fy cn an sw sb sv)]) H := hP
          have hD : va_D A (fl [[(xq 9, .inr (8, [.ref b_, .int 0, .int ml_, .int (nI T_.length)]))], [(b_, .inl (ca 2, cap_, .inl (bs_)))], [(ra_, .inr (3, [.int (nI a_), .int rf_, .ref (xq 0)]))], (WTr ca cq xq tb_ va fy cn an sw sb sv)]) := hD
          have hp_48 : r_9 = bI (decide ((nI 48) ≤ (nI (T_.getD a_ 0)) ∧ (nI (T_.getD a_ 0)) ≤ (nI 57))) := hq_48
          clear hq_48
          obtain rfl := hp_48
          refine nv_ifb_eq (tgt := 98) hx hb dX4_test_51 (by decide) (fun c_51 => ?_) (fun c_51 => ?_)
          · skip
            rw [dg_rng (hTx.2 a_)] at c_51
            have hres := tw_0 hv (fun e_ => tw_n2 (by rw [← e_]; exact c_51))
            refine lv_iload_n hx hb dX4_test_98 rfl (lv_at hl 0 rfl) ?_
            have hP : va_P D vwCl (fl [[(ra_, .inr (3, [.int (nI a_), .int rf_, .ref (xq 0)]))], (WTr ca cq xq tb_ va fy cn an sw sb sv), [(xq 9, .inr (8, [.ref b_, .int 0, .int ml_, .int (nI T_.length)]))], [(b_, .inl (ca 2, cap_, .inl (bs_)))]]) H := mvP hP [2, 3, 0, 1]
            have hD : va_D A (fl [[(ra_, .inr (3, [.int (nI a_), .int rf_, .ref (xq 0)]))], (WTr ca cq xq tb_ va fy cn an sw sb sv), [(xq 9, .inr (8, [.ref b_, .int 0, .int ml_, .int (nI T_.length)]))], [(b_, .inl (ca 2, cap_, .inl (bs_)))]]) := mvD hD [2, 3, 0, 1] (by decide)
            have ew_ : Value.int (nI a_) = Value.int (nI (tsP T_ p_)) := congrArg (fun z_ => Value.int (nI z_)) hres.2
            have hP : va_P D vwCl (fl [[(ra_, .inr (3, [.int (nI (tsP T_ p_)), .int rf_, .ref (xq 0)]))], (WTr ca cq xq tb_ va fy cn an sw sb sv), [(xq 9, .inr (8, [.ref b_, .int 0, .int ml_, .int (nI T_.length)]))], [(b_, .inl (ca 2, cap_, .inl (bs_)))]]) H := (congrArg (fun (x_ : Value) => va_P D vwCl (fl [[(ra_, .inr (3, [x_, .int rf_, .ref (xq 0)]))], (WTr ca cq xq tb_ va fy cn an sw sb sv), [(xq 9, .inr (8, [.ref b_, .int 0, .int ml_, .int (nI T_.length)]))], [(b_, .inl (ca 2, cap_, .inl (bs_)))]]) H) ew_).mp hP
            have hD : va_D A (fl [[(ra_, .inr (3, [.int (nI (tsP T_ p_)), .int rf_, .ref (xq 0)]))], (WTr ca cq xq tb_ va fy cn an sw sb sv), [(xq 9, .inr (8, [.ref b_, .int 0, .int ml_, .int (nI T_.length)]))], [(b_, .inl (ca 2, cap_, .inl (bs_)))]]) := (congrArg (fun (x_ : Value) => va_D A (fl [[(ra_, .inr (3, [x_, .int rf_, .ref (xq 0)]))], (WTr ca cq xq tb_ va fy cn an sw sb sv), [(xq 9, .inr (8, [.ref b_, .int 0, .int ml_, .int (nI T_.length)]))], [(b_, .inl (ca 2, cap_, .inl (bs_)))]])) ew_).mp hD
            clear ew_
            subst hQQ
            exact xe_i (v := nI v_) () hx hb hr hlocks hK hP hD hS (congrArg nI hres.1) dX4_test_99
          · skip
            rw [dg_rng (hTx.2 a_)] at c_51
            have hpr2 : 48 ≤ T_.getD a_ 0 ∧ T_.getD a_ 0 ≤ 57 := of_decide_eq_true c_51
            refine lv_bipush (v := nI 10) hx hb dX4_test_54 (by decide) ?_
            refine lv_iload_n hx hb dX4_test_56 rfl (lv_at hl 0 rfl) ?_
            refine nv_imul hx hb dX4_test_57 ?_
            refine lv_aload_n hx hb dX4_test_58 rfl (lv_at hl 1 rfl) ?_
            refine va_get (D := D) (ci := 3) (v := .ref (xq 0)) (C := RX4) (T := TX4) (N := 3) hx hb hts in_X4 hown hK hP 2 rfl rfl 2 (by decide) (hts _ q794) (fun _ h9 => h9) rfl dX4_test_59 ?_
            refine va_getN (D := D) (ci := 0) (v := .ref (xq 9)) (C := RX1) (T := TX1) (N := 11) hx hb hts in_X1 hown hK hP 3 rfl rfl 10 (by decide) (va_Nw.use rfl (hE.1.1.1 _ q242 rfl)) (fun _ h9 => h9) rfl dX4_test_62 ?_
            refine lv_aload_n hx hb dX4_test_65 rfl (lv_at hl 1 rfl) ?_
            refine va_get (D := D) (ci := 3) (v := .int (nI a_)) (C := RX4) (T := TX4) (N := 3) hx hb hts in_X4 hown hK hP 2 rfl rfl 0 (by decide) (hts _ q791) (fun _ h9 => h9) rfl dX4_test_66 ?_
            refine xc_i (xr_V (b := xq 9) (ci := 8) (q0 := 0) (As := [.int (nI a_)]) (rest := [.int (nI (10 * v_))]) (mt_J3_charAt l D ca xq b_ ml_ bs_ T_ cap_ a_ hSb hTx (by omega) hc hcap H.size) ⟨hx, hb, hml, hown, hts⟩ (cwV 1 hts (lw_V q834 q835 q836 q84 q837) rfl rfl rfl (by decide +kernel) ⟨Nat.le_of_ble_eq_true rfl, Nat.le_of_ble_eq_true rfl⟩) EvZ_ok hE hK hS (Cut.ch [[(xq 9, .inr (8, [.ref b_, .int 0, .int ml_, .int (nI T_.length)]))], [(b_, .inl (ca 2, cap_, .inl (bs_)))]] [[(ra_, .inr (3, [.int (nI a_), .int rf_, .ref (xq 0)]))], (WTr ca cq xq tb_ va fy cn an sw sb sv)] hP hD hS hA) rfl rfl rfl hl.1 rfl (Nat.le_of_ble_eq_true rfl) dX4_test_69 ⟨Nat.le_of_ble_eq_true rfl, Nat.le_of_ble_eq_true rfl⟩) hS (Cut.ch [[(xq 9, .inr (8, [.ref b_, .int 0, .int ml_, .int (nI T_.length)]))], [(b_, .inl (ca 2, cap_, .inl (bs_)))]] [[(ra_, .inr (3, [.int (nI a_), .int rf_, .ref (xq 0)]))], (WTr ca cq xq tb_ va fy cn an sw sb sv)] hP hD hS hA) (fun r_12 u_13 H locs hq_69 hP hD hS => ?_)
            have hP : va_P D vwCl (fl [[(xq 9, .inr (8, [.ref b_, .int 0, .int ml_, .int (nI T_.length)]))], [(b_, .inl (ca 2, cap_, .inl (bs_)))], [(ra_, .inr (3, [.int (nI a_), .int rf_, .ref (xq 0)]))], (WTr ca cq xq tb_ va fy cn an sw sb sv)]) H := fl_join [[(xq 9, .inr (8, [.ref b_, .int 0, .int ml_, .int (nI T_.length)]))], [(b_, .inl (ca 2, cap_, .inl (bs_)))]] [[(ra_, .inr (3, [.int (nI a_), .int rf_, .ref (xq 0)]))], (WTr ca cq xq tb_ va fy cn an sw sb sv)] hP
            have hD : va_D A (fl [[(xq 9, .inr (8, [.ref b_, .int 0, .int ml_, .int (nI T_.length)]))], [(b_, .inl (ca 2, cap_, .inl (bs_)))], [(ra_, .inr (3, [.int (nI a_), .int rf_, .ref (xq 0)]))], (WTr ca cq xq tb_ va fy cn an sw sb sv)]) := fl_joinD [[(xq 9, .inr (8, [.ref b_, .int 0, .int ml_, .int (nI T_.length)]))], [(b_, .inl (ca 2, cap_, .inl (bs_)))]] [[(ra_, .inr (3, [.int (nI a_), .int rf_, .ref (xq 0)]))], (WTr ca cq xq tb_ va fy cn an sw sb sv)] hD
            have hp_69 : r_12 = nI (T_.getD a_ 0) := hq_69
            clear hq_69
            obtain rfl := hp_69
            refine nv_iadd hx hb dX4_test_72 ?_
            refine lv_bipush (v := nI 48) hx hb dX4_test_73 (by decide) ?_
            refine nv_isub hx hb dX4_test_75 (by omega) ?_
            refine lv_bipush (v := nI 64) hx hb dX4_test_76 (by decide) ?_
            refine nv_icmp_ge (tgt := 98) hx hb dX4_test_78 (by decide) (by omega) (by omega) (fun c_78 => ?_) (fun c_78 => ?_)
            · skip
              have hres := tw_0 hv (fun e_ => tw_n3 (by subst e_; rcases hv with ⟨e1, e2⟩ | ⟨e1, e2, e3, e4⟩ <;> omega))
              refine lv_iload_n hx hb dX4_test_98 rfl (lv_at hl 0 rfl) ?_
              have hP : va_P D vwCl (fl [[(ra_, .inr (3, [.int (nI a_), .int rf_, .ref (xq 0)]))], (WTr ca cq xq tb_ va fy cn an sw sb sv), [(xq 9, .inr (8, [.ref b_, .int 0, .int ml_, .int (nI T_.length)]))], [(b_, .inl (ca 2, cap_, .inl (bs_)))]]) H := mvP hP [2, 3, 0, 1]
              have hD : va_D A (fl [[(ra_, .inr (3, [.int (nI a_), .int rf_, .ref (xq 0)]))], (WTr ca cq xq tb_ va fy cn an sw sb sv), [(xq 9, .inr (8, [.ref b_, .int 0, .int ml_, .int (nI T_.length)]))], [(b_, .inl (ca 2, cap_, .inl (bs_)))]]) := mvD hD [2, 3, 0, 1] (by decide)
              have ew_ : Value.int (nI a_) = Value.int (nI (tsP T_ p_)) := congrArg (fun z_ => Value.int (nI z_)) hres.2
              have hP : va_P D vwCl (fl [[(ra_, .inr (3, [.int (nI (tsP T_ p_)), .int rf_, .ref (xq 0)]))], (WTr ca cq xq tb_ va fy cn an sw sb sv), [(xq 9, .inr (8, [.ref b_, .int 0, .int ml_, .int (nI T_.length)]))], [(b_, .inl (ca 2, cap_, .inl (bs_)))]]) H := (congrArg (fun (x_ : Value) => va_P D vwCl (fl [[(ra_, .inr (3, [x_, .int rf_, .ref (xq 0)]))], (WTr ca cq xq tb_ va fy cn an sw sb sv), [(xq 9, .inr (8, [.ref b_, .int 0, .int ml_, .int (nI T_.length)]))], [(b_, .inl (ca 2, cap_, .inl (bs_)))]]) H) ew_).mp hP
              have hD : va_D A (fl [[(ra_, .inr (3, [.int (nI (tsP T_ p_)), .int rf_, .ref (xq 0)]))], (WTr ca cq xq tb_ va fy cn an sw sb sv), [(xq 9, .inr (8, [.ref b_, .int 0, .int ml_, .int (nI T_.length)]))], [(b_, .inl (ca 2, cap_, .inl (bs_)))]]) := (congrArg (fun (x_ : Value) => va_D A (fl [[(ra_, .inr (3, [x_, .int rf_, .ref (xq 0)]))], (WTr ca cq xq tb_ va fy cn an sw sb sv), [(xq 9, .inr (8, [.ref b_, .int 0, .int ml_, .int (nI T_.length)]))], [(b_, .inl (ca 2, cap_, .inl (bs_)))]])) ew_).mp hD
              clear ew_
              subst hQQ
              exact xe_i (v := nI v_) () hx hb hr hlocks hK hP hD hS (congrArg nI hres.1) dX4_test_99
            · skip
              refine lv_bipush (v := nI 10) hx hb dX4_test_81 (by decide) ?_
              refine lv_iload_n hx hb dX4_test_83 rfl (lv_at hl 0 rfl) ?_
              refine nv_imul hx hb dX4_test_84 ?_
              refine lv_aload_n hx hb dX4_test_85 rfl (lv_at hl 1 rfl) ?_
              refine lv_bipush (v := nI 48) hx hb dX4_test_86 (by decide) ?_
              refine lv_bipush (v := nI 57) hx hb dX4_test_88 (by decide) ?_
              have hP : va_P D vwCl (fl [[(ra_, .inr (3, [.int (nI a_), .int rf_, .ref (xq 0)]))], (WTr ca cq xq tb_ va fy cn an sw sb sv), [(xq 9, .inr (8, [.ref b_, .int 0, .int ml_, .int (nI T_.length)]))], [(b_, .inl (ca 2, cap_, .inl (bs_)))]]) H := mvP hP [2, 3, 0, 1]
              have hD : va_D A (fl [[(ra_, .inr (3, [.int (nI a_), .int rf_, .ref (xq 0)]))], (WTr ca cq xq tb_ va fy cn an sw sb sv), [(xq 9, .inr (8, [.ref b_, .int 0, .int ml_, .int (nI T_.length)]))], [(b_, .inl (ca 2, cap_, .inl (bs_)))]]) := mvD hD [2, 3, 0, 1] (by decide)
              refine xc_i (xr_V (b := ra_) (ci := 3) (q0 := 0) (As := [.int (nI 48), .int (nI 57)]) (rest := [.int (nI (10 * v_))]) (mt_X4_letter_ok l D ca cq tb_ va fy cn an sw sb sv ra_ a_ rf_ xq b_ ml_ bs_ T_ cap_ 48 57 hSb hTx hc hcap (by decide) (by decide) (by omega) hpr2.1 hpr2.2 H.size) ⟨hx, hb, hml, hown, hts⟩ (cwV 2 hts (lw_V q921 q923 qs12 q105 q924) rfl rfl rfl (by decide +kernel) ⟨Nat.le_of_ble_eq_true rfl, Nat.le_of_ble_eq_true rfl⟩) EvZ_ok hE hK hS (Cut.ch [[(ra_, .inr (3, [.int (nI a_), .int rf_, .ref (xq 0)]))], (WTr ca cq xq tb_ va fy cn an sw sb sv), [(xq 9, .inr (8, [.ref b_, .int 0, .int ml_, .int (nI T_.length)]))], [(b_, .inl (ca 2, cap_, .inl (bs_)))]] [] hP hD hS hA) rfl rfl rfl hl.1 rfl (Nat.le_of_ble_eq_true rfl) dX4_test_90 ⟨Nat.le_of_ble_eq_true rfl, Nat.le_of_ble_eq_true rfl⟩) hS (Cut.ch [[(ra_, .inr (3, [.int (nI a_), .int rf_, .ref (xq 0)]))], (WTr ca cq xq tb_ va fy cn an sw sb sv), [(xq 9, .inr (8, [.ref b_, .int 0, .int ml_, .int (nI T_.length)]))], [(b_, .inl (ca 2, cap_, .inl (bs_)))]] [] hP hD hS hA) (fun r_15 u_16 H locs hq_90 hP hD hS => ?_)
              have hP : va_P D vwCl (fl [[(ra_, .inr (3, [.int (nI (a_ + 1)), .int rf_, .ref (xq 0)]))], (WTr ca cq xq tb_ va fy cn an sw sb sv), [(xq 9, .inr (8, [.ref b_, .int 0, .int ml_, .int (nI T_.length)]))], [(b_, .inl (ca 2, cap_, .inl (bs_)))]]) H := fl_join [[(ra_, .inr (3, [.int (nI (a_ + 1)), .int rf_, .ref (xq 0)]))], (WTr ca cq xq tb_ va fy cn an sw sb sv), [(xq 9, .inr (8, [.ref b_, .int 0, .int ml_, .int (nI T_.length)]))], [(b_, .inl (ca 2, cap_, .inl (bs_)))]] [] hP
              have hD : va_D A (fl [[(ra_, .inr (3, [.int (nI (a_ + 1)), .int rf_, .ref (xq 0)]))], (WTr ca cq xq tb_ va fy cn an sw sb sv), [(xq 9, .inr (8, [.ref b_, .int 0, .int ml_, .int (nI T_.length)]))], [(b_, .inl (ca 2, cap_, .inl (bs_)))]]) := fl_joinD [[(ra_, .inr (3, [.int (nI (a_ + 1)), .int rf_, .ref (xq 0)]))], (WTr ca cq xq tb_ va fy cn an sw sb sv), [(xq 9, .inr (8, [.ref b_, .int 0, .int ml_, .int (nI T_.length)]))], [(b_, .inl (ca 2, cap_, .inl (bs_)))]] [] hD
              have hp_90 : r_15 = nI (T_.getD a_ 0 - 48) := hq_90
              clear hq_90
              obtain rfl := hp_90
              refine nv_iadd hx hb dX4_test_93 ?_
              refine lv_istore_n (lv' := [(1, .int (nI ((10 * v_) + (T_.getD a_ 0 - 48)))), (0, .ref ra_)]) hx hb dX4_test_94 rfl hl (by decide) rfl (fun ls hl => ?_)
              refine lv_goto (tgt := 9) hx hb dX4_test_95 (by decide) ?_
              exact ih_9  (10 * v_ + (T_.getD a_ 0 - 48)) (a_ + 1) (by rcases hv with ⟨e1, e2⟩ | ⟨e1, e2, e3, e4⟩ <;> omega) (by rcases hv with ⟨e1, e2⟩ | ⟨e1, e2, e3, e4⟩ <;> omega) (by omega) (by omega) (tw_s hv (by omega) c_51 (by omega)) _ _ hP hD hS ls (lv_sub hl [0, 1] rfl)
  exact lp_9 (p_ + 2 - (p_ + 1) + 1) (T_.getD p_ 0 - 48) (p_ + 1) (Nat.lt_succ_self _) (by omega) (by omega) (by have := hTx.2 p_; omega) (Or.inl ⟨rfl, rfl⟩) _ _ hP hD hS ls (lv_sub hl [0, 1] rfl)
set_option maxHeartbeats 400000 in
set_option maxRecDepth 100000 in
theorem mt_X4_test_thr (l : Launch) (hlf : l.stackTraces = false) (D : va_G) (ca : Nat → ClassId) (cq : Nat → Nat) (tb_ : Nat → Int64) (va : Nat → Int32) (fy : Nat → Int64) (cn : Nat → Int32) (an : Nat → Int32) (sw : Nat → Int64) (sb : Nat → Int64) (sv : Value) (ra_ : Nat) (p_ : Nat) (rf_ : Int32) (xq : Nat → Nat) (b_ : Nat) (ml_ : Int32) (bs_ : Nat → Int32) (T_ : List Nat) (cap_ : Nat) (hSb : SbOk T_ bs_) (hTx : TxOk T_) (hc : T_.length ≤ cap_) (hcap : cap_ < 2000) (hp : p_ ≤ T_.length) (hd : dgB (T_.getD p_ 0) = false) (nn : Nat) : vx_Met l yX4_test (ws_ yX4_test cX4_test 2 (Option.some Jvm.ClassFile.FieldType.int)) ({ frames := 5, cells := 1, slots := 6, locals := 130 } : Room) (va_Pc [.ref ra_] (PreW EvZ D vwCl (TY ca) (fl [[(ra_, .inr (3, [.int (nI p_), .int rf_, .ref (xq 0)]))], (WTr ca cq xq tb_ va fy cn an sw sb sv), [(xq 9, .inr (8, [.ref b_, .int 0, .int ml_, .int (nI T_.length)]))], [(b_, .inl (ca 2, cap_, .inl (bs_)))]]) nn)) (QN (va_A (fl [[(ra_, .inr (3, [.int (nI p_), .int rf_, .ref (xq 0)]))], (WTr ca cq xq tb_ va fy cn an sw sb sv), [(xq 9, .inr (8, [.ref b_, .int 0, .int ml_, .int (nI T_.length)]))], [(b_, .inl (ca 2, cap_, .inl (bs_)))]]) nn)) (XT "RosehipCircuits$Misspelled" D vwCl (TY ca) (fl [[(ra_, .inr (3, [.int (nI p_), .int rf_, .ref (xq 0)]))], (WTr ca cq xq tb_ va fy cn an sw sb sv), [(xq 9, .inr (8, [.ref b_, .int 0, .int ml_, .int (nI T_.length)]))], [(b_, .inl (ca 2, cap_, .inl (bs_)))]]) (va_A (fl [[(ra_, .inr (3, [.int (nI p_), .int rf_, .ref (xq 0)]))], (WTr ca cq xq tb_ va fy cn an sw sb sv), [(xq 9, .inr (8, [.ref b_, .int 0, .int ml_, .int (nI T_.length)]))], [(b_, .inl (ca 2, cap_, .inl (bs_)))]]) nn)) 1 6 (va_A (fl [[(ra_, .inr (3, [.int (nI p_), .int rf_, .ref (xq 0)]))], (WTr ca cq xq tb_ va fy cn an sw sb sv), [(xq 9, .inr (8, [.ref b_, .int 0, .int ml_, .int (nI T_.length)]))], [(b_, .inl (ca 2, cap_, .inl (bs_)))]]) nn) := by
  refine met_goX (QA := fun A => QN A) (XA := fun A => XT "RosehipCircuits$Misspelled" D vwCl (TY ca) (fl [[(ra_, .inr (3, [.int (nI p_), .int rf_, .ref (xq 0)]))], (WTr ca cq xq tb_ va fy cn an sw sb sv), [(xq 9, .inr (8, [.ref b_, .int 0, .int ml_, .int (nI T_.length)]))], [(b_, .inl (ca 2, cap_, .inl (bs_)))]]) A) (by decide) (Nat.le_of_ble_eq_true rfl) (fun p e s m below meth c A ls QQ hQQ hex hnm hx hb hr hts hown hlocks hml hA hP hK hD hE hl => ?_)
  have hown : s.vm.findClass RX4 = some m.cls := hown
  have hS : va_S A s.heap s.heap [] := va_S.rf
  have hl : lv_has ls 2 [(0, .ref ra_)] := hl
  generalize hHe : s.heap = H at hP ⊢
  have hS : va_S A s.heap H [] := hHe ▸ hS
  generalize ([] : List Loc) = locs at hS ⊢
  have hT60 : T_.length ≤ 60 := hTx.1
  refine lv_aload_n hx hb dX4_test_0 rfl (lv_at hl 0 rfl) ?_
  refine lv_bipush (v := nI 48) hx hb dX4_test_1 (by decide) ?_
  refine lv_bipush (v := nI 57) hx hb dX4_test_3 (by decide) ?_
  subst hQQ
  exact xt_out (xt_V (b := ra_) (ci := 3) (q0 := 0) (As := [.int (nI 48), .int (nI 57)]) (rest := []) (mt_X4_letter_thr l hlf D ca cq tb_ va fy cn an sw sb sv ra_ p_ rf_ xq b_ ml_ bs_ T_ cap_ 48 57 hSb hTx hc hcap (by decide) (by decide) hp (fun z => of_decide_eq_false hd z.2) H.size) ⟨hx, hb, hml, hown, hts⟩ (cwV 2 hts (lw_V q921 q923 qs12 q105 q924) rfl rfl rfl (by decide +kernel) ⟨Nat.le_of_ble_eq_true rfl, Nat.le_of_ble_eq_true rfl⟩) EvZ_ok hE hK hS (Cut.ch [[(ra_, .inr (3, [.int (nI p_), .int rf_, .ref (xq 0)]))], (WTr ca cq xq tb_ va fy cn an sw sb sv), [(xq 9, .inr (8, [.ref b_, .int 0, .int ml_, .int (nI T_.length)]))], [(b_, .inl (ca 2, cap_, .inl (bs_)))]] [] hP hD hS hA) rfl rfl rfl hl.1 rfl (Nat.le_of_ble_eq_true rfl) dX4_test_5 ⟨Nat.le_of_ble_eq_true rfl, Nat.le_of_ble_eq_true rfl⟩) hS (Cut.ch [[(ra_, .inr (3, [.int (nI p_), .int rf_, .ref (xq 0)]))], (WTr ca cq xq tb_ va fy cn an sw sb sv), [(xq 9, .inr (8, [.ref b_, .int 0, .int ml_, .int (nI T_.length)]))], [(b_, .inl (ca 2, cap_, .inl (bs_)))]] [] hP hD hS hA) (fun H1 ua_ ub_ => ⟨fl_join [[(ra_, .inr (3, [.int (nI p_), .int rf_, .ref (xq 0)]))], (WTr ca cq xq tb_ va fy cn an sw sb sv), [(xq 9, .inr (8, [.ref b_, .int 0, .int ml_, .int (nI T_.length)]))], [(b_, .inl (ca 2, cap_, .inl (bs_)))]] [] ua_, fl_joinD [[(ra_, .inr (3, [.int (nI p_), .int rf_, .ref (xq 0)]))], (WTr ca cq xq tb_ va fy cn an sw sb sv), [(xq 9, .inr (8, [.ref b_, .int 0, .int ml_, .int (nI T_.length)]))], [(b_, .inl (ca 2, cap_, .inl (bs_)))]] [] ub_⟩) hex hlocks hK (by decide) (by decide)
set_option maxHeartbeats 4000000 in
set_option maxRecDepth 100000 in
theorem mt_J24_init (l : Launch) (D : va_G) (ca : Nat → ClassId) (b_ : Nat)  (nn : Nat) : Met l yJ24_init (ws_ yJ24_init cJ24_init 1 (Option.none : Option Jvm.ClassFile.FieldType)) ({ frames := 1, cells := 0, slots := 0, locals := 40 } : Room) (va_Pc [.ref b_] (PreW Ev0 D vwCl (TY ca) (fl []) nn)) (va_Qv (fun (_ : Unit) => True) (PostW D vwCl (TY ca) (fun (_ : Unit) => (fl [])) (va_A (fl []) nn)) (va_A (fl []) nn)) 0 0 (va_A (fl []) nn) := by
  refine met_go2 (QA := fun A => va_Qv (fun (_ : Unit) => True) (PostW D vwCl (TY ca) (fun (_ : Unit) => (fl [])) A) A) (by decide) (Nat.le_of_ble_eq_true rfl) (fun p e s m below meth c A ls QQ hQQ hmn hnm hx hb hr hts hown hlocks hml hA hP hK hD hE hl => ?_)
  have hown : s.vm.findClass RJ24 = some m.cls := hown
  have hS : va_S A s.heap s.heap [] := va_S.rf
  have hl : lv_has ls 1 [(0, .ref b_)] := hl
  generalize hHe : s.heap = H at hP ⊢
  have hS : va_S A s.heap H [] := hHe ▸ hS
  generalize ([] : List Loc) = locs at hS ⊢
  refine lv_aload_n hx hb dJ24_init_0 rfl (lv_at hl 0 rfl) ?_
  refine W.objInit hx hb hown (hts _ q936) (hts _ q120) (hts _ q121) rfl (by rw [hml]; exact hl.1) rfl dJ24_init_1 (Nat.le_of_ble_eq_true rfl) (Nat.le_of_ble_eq_true rfl) ?_
  show W p l e _ s m _ below meth c _ _ _ _ _ (F0 m 4 ls [])
  subst hQQ
  exact xe_v () hx hb hr hlocks hK hP hD hS (trivial) dJ24_init_4
set_option maxHeartbeats 400000 in
set_option maxRecDepth 100000 in
theorem mt_X6_init (l : Launch) (D : va_G) (ca : Nat → ClassId) (o_ : Nat) (s_ : Nat) (i_ : Nat) (k_ : Nat) (hs : s_ < 65536) (nn : Nat) : Met l yX6_init (ws_ yX6_init cX6_init 4 (Option.none : Option Jvm.ClassFile.FieldType)) ({ frames := 2, cells := 0, slots := 0, locals := 60 } : Room) (va_Pc [.ref o_, .int (nI s_), .int (nI i_), .int (nI k_)] (PreW Ev0 D vwCl (TY ca) (fl [[(o_, .inr (4, [.int 0, .int 0, .int 0]))]]) nn)) (va_Qv (fun (_ : Unit) => True) (PostW D vwCl (TY ca) (fun (_ : Unit) => (fl [[(o_, .inr (4, [.int (nI s_), .int (nI i_), .int (nI k_)]))]])) (va_A (fl [[(o_, .inr (4, [.int 0, .int 0, .int 0]))]]) nn)) (va_A (fl [[(o_, .inr (4, [.int 0, .int 0, .int 0]))]]) nn)) 0 0 (va_A (fl [[(o_, .inr (4, [.int 0, .int 0, .int 0]))]]) nn) := by
  refine met_go2 (QA := fun A => va_Qv (fun (_ : Unit) => True) (PostW D vwCl (TY ca) (fun (_ : Unit) => (fl [[(o_, .inr (4, [.int (nI s_), .int (nI i_), .int (nI k_)]))]])) A) A) (by decide) (Nat.le_of_ble_eq_true rfl) (fun p e s m below meth c A ls QQ hQQ hmn hnm hx hb hr hts hown hlocks hml hA hP hK hD hE hl => ?_)
  have hown : s.vm.findClass RX6 = some m.cls := hown
  have hS : va_S A s.heap s.heap [] := va_S.rf
  have hl : lv_has ls 4 [(0, .ref o_), (1, .int (nI s_)), (2, .int (nI i_)), (3, .int (nI k_))] := hl
  generalize hHe : s.heap = H at hP ⊢
  have hS : va_S A s.heap H [] := hHe ▸ hS
  generalize ([] : List Loc) = locs at hS ⊢
  refine lv_aload_n hx hb dX6_init_0 rfl (lv_at hl 0 rfl) ?_
  refine xc_v (xr_I (b := o_) (As := []) (rest := []) (mt_J24_init l D ca o_  H.size) ⟨hx, hb, hml, hown, hts⟩ (cwI 0 hts (lw_meth q935) rfl rfl rfl (hts _ q110) (hts _ q933) (hts _ q934) rfl (by decide +kernel) ⟨Nat.le_of_ble_eq_true rfl, Nat.le_of_ble_eq_true rfl⟩) Ev0_ok hE hK hS (Cut.app (wc := []) (wr := (fl [[(o_, .inr (4, [.int 0, .int 0, .int 0]))]])) hP hD hS hA) rfl hl.1 rfl (Nat.le_of_ble_eq_true rfl) dX6_init_1 ⟨Nat.le_of_ble_eq_true rfl, Nat.le_of_ble_eq_true rfl⟩) hS (Cut.app (wc := []) (wr := (fl [[(o_, .inr (4, [.int 0, .int 0, .int 0]))]])) hP hD hS hA) (fun u_2 H locs hq_1 hP hD hS => ?_)
  have hP : va_P D vwCl (fl [[(o_, .inr (4, [.int 0, .int 0, .int 0]))]]) H := hP
  have hD : va_D A (fl [[(o_, .inr (4, [.int 0, .int 0, .int 0]))]]) := hD
  refine lv_aload_n hx hb dX6_init_4 rfl (lv_at hl 0 rfl) ?_
  refine lv_iload_n hx hb dX6_init_5 rfl (lv_at hl 1 rfl) ?_
  refine va_putF (D := D) (ci := 4) (v := .int (nI s_)) (ty := .char) (C := RX6) (T := TX6) (N := 3) hx hb hts in_X6 tyX6 tyX6_ok nmX6 hown hK hP hD hS 0 rfl rfl 0 (by decide) (hts _ q937) (fun _ h9 => h9) rfl hmn rfl (by decide +kernel) (pk_charN hs).1 (pk_charN hs).2 (Nat.le_of_ble_eq_true rfl) dX6_init_6 (fun H locs hP hD hS => ?_)
  have hP : va_P D vwCl (fl [[(o_, .inr (4, [.int (nI s_), .int 0, .int 0]))]]) H := hP
  have hD : va_D A (fl [[(o_, .inr (4, [.int (nI s_), .int 0, .int 0]))]]) := hD
  refine lv_aload_n hx hb dX6_init_9 rfl (lv_at hl 0 rfl) ?_
  refine lv_iload_n hx hb dX6_init_10 rfl (lv_at hl 2 rfl) ?_
  refine va_putF (D := D) (ci := 4) (v := .int (nI i_)) (ty := .int) (C := RX6) (T := TX6) (N := 3) hx hb hts in_X6 tyX6 tyX6_ok nmX6 hown hK hP hD hS 0 rfl rfl 1 (by decide) (hts _ q938) (fun _ h9 => h9) rfl hmn rfl (by decide +kernel) rfl rfl (Nat.le_of_ble_eq_true rfl) dX6_init_11 (fun H locs hP hD hS => ?_)
  have hP : va_P D vwCl (fl [[(o_, .inr (4, [.int (nI s_), .int (nI i_), .int 0]))]]) H := hP
  have hD : va_D A (fl [[(o_, .inr (4, [.int (nI s_), .int (nI i_), .int 0]))]]) := hD
  refine lv_aload_n hx hb dX6_init_14 rfl (lv_at hl 0 rfl) ?_
  refine lv_iload_n hx hb dX6_init_15 rfl (lv_at hl 3 rfl) ?_
  refine va_putF (D := D) (ci := 4) (v := .int (nI k_)) (ty := .int) (C := RX6) (T := TX6) (N := 3) hx hb hts in_X6 tyX6 tyX6_ok nmX6 hown hK hP hD hS 0 rfl rfl 2 (by decide) (hts _ q939) (fun _ h9 => h9) rfl hmn rfl (by decide +kernel) rfl rfl (Nat.le_of_ble_eq_true rfl) dX6_init_16 (fun H locs hP hD hS => ?_)
  have hP : va_P D vwCl (fl [[(o_, .inr (4, [.int (nI s_), .int (nI i_), .int (nI k_)]))]]) H := hP
  have hD : va_D A (fl [[(o_, .inr (4, [.int (nI s_), .int (nI i_), .int (nI k_)]))]]) := hD
  subst hQQ
  exact xe_v () hx hb hr hlocks hK hP hD hS (trivial) dX6_init_19
set_option maxHeartbeats 400000 in
set_option maxRecDepth 100000 in
theorem mt_X6_one (l : Launch) (D : va_G) (ca : Nat → ClassId) (o_ : Nat) (s_ : Nat) (i_ : Nat) (k_ : Nat)  (nn : Nat) : Met l yX6_one (ws_ yX6_one cX6_one 1 (Option.some Jvm.ClassFile.FieldType.int)) ({ frames := 0, cells := 0, slots := 0, locals := 0 } : Room) (va_Pc [.ref o_] (PreW Ev0 D vwCl (TY ca) (fl [[(o_, .inr (4, [.int (nI s_), .int (nI i_), .int (nI k_)]))]]) nn)) (va_Qi (fun (r_ : Int32) (_ : Unit) => r_ = nI i_) (PostW D vwCl (TY ca) (fun (_ : Unit) => (fl [[(o_, .inr (4, [.int (nI s_), .int (nI i_), .int (nI k_)]))]])) (va_A (fl [[(o_, .inr (4, [.int (nI s_), .int (nI i_), .int (nI k_)]))]]) nn)) (va_A (fl [[(o_, .inr (4, [.int (nI s_), .int (nI i_), .int (nI k_)]))]]) nn)) 0 0 (va_A (fl [[(o_, .inr (4, [.int (nI s_), .int (nI i_), .int (nI k_)]))]]) nn) := by
  refine met_go2 (QA := fun A => va_Qi (fun (r_ : Int32) (_ : Unit) => r_ = nI i_) (PostW D vwCl (TY ca) (fun (_ : Unit) => (fl [[(o_, .inr (4, [.int (nI s_), .int (nI i_), .int (nI k_)]))]])) A) A) (by decide) (Nat.le_of_ble_eq_true rfl) (fun p e s m below meth c A ls QQ hQQ hmn hnm hx hb hr hts hown hlocks hml hA hP hK hD hE hl => ?_)
  have hown : s.vm.findClass RX6 = some m.cls := hown
  have hS : va_S A s.heap s.heap [] := va_S.rf
  have hl : lv_has ls 1 [(0, .ref o_)] := hl
  generalize hHe : s.heap = H at hP ⊢
  have hS : va_S A s.heap H [] := hHe ▸ hS
  generalize ([] : List Loc) = locs at hS ⊢
  refine lv_aload_n hx hb dX6_one_0 rfl (lv_at hl 0 rfl) ?_
  refine va_get (D := D) (ci := 4) (v := .int (nI i_)) (C := RX6) (T := TX6) (N := 3) hx hb hts in_X6 hown hK hP 0 rfl rfl 1 (by decide) (hts _ q938) (fun _ h9 => h9) rfl dX6_one_1 ?_
  subst hQQ
  exact xe_i (v := nI i_) () hx hb hr hlocks hK hP hD hS (rfl) dX6_one_4
set_option maxHeartbeats 400000 in
set_option maxRecDepth 100000 in
theorem mt_X6_two (l : Launch) (D : va_G) (ca : Nat → ClassId) (o_ : Nat) (s_ : Nat) (i_ : Nat) (k_ : Nat)  (nn : Nat) : Met l yX6_two (ws_ yX6_two cX6_two 1 (Option.some Jvm.ClassFile.FieldType.int)) ({ frames := 0, cells := 0, slots := 0, locals := 0 } : Room) (va_Pc [.ref o_] (PreW Ev0 D vwCl (TY ca) (fl [[(o_, .inr (4, [.int (nI s_), .int (nI i_), .int (nI k_)]))]]) nn)) (va_Qi (fun (r_ : Int32) (_ : Unit) => r_ = nI k_) (PostW D vwCl (TY ca) (fun (_ : Unit) => (fl [[(o_, .inr (4, [.int (nI s_), .int (nI i_), .int (nI k_)]))]])) (va_A (fl [[(o_, .inr (4, [.int (nI s_), .int (nI i_), .int (nI k_)]))]]) nn)) (va_A (fl [[(o_, .inr (4, [.int (nI s_), .int (nI i_), .int (nI k_)]))]]) nn)) 0 0 (va_A (fl [[(o_, .inr (4, [.int (nI s_), .int (nI i_), .int (nI k_)]))]]) nn) := by
  refine met_go2 (QA := fun A => va_Qi (fun (r_ : Int32) (_ : Unit) => r_ = nI k_) (PostW D vwCl (TY ca) (fun (_ : Unit) => (fl [[(o_, .inr (4, [.int (nI s_), .int (nI i_), .int (nI k_)]))]])) A) A) (by decide) (Nat.le_of_ble_eq_true rfl) (fun p e s m below meth c A ls QQ hQQ hmn hnm hx hb hr hts hown hlocks hml hA hP hK hD hE hl => ?_)
  have hown : s.vm.findClass RX6 = some m.cls := hown
  have hS : va_S A s.heap s.heap [] := va_S.rf
  have hl : lv_has ls 1 [(0, .ref o_)] := hl
  generalize hHe : s.heap = H at hP ⊢
  have hS : va_S A s.heap H [] := hHe ▸ hS
  generalize ([] : List Loc) = locs at hS ⊢
  refine lv_aload_n hx hb dX6_two_0 rfl (lv_at hl 0 rfl) ?_
  refine va_get (D := D) (ci := 4) (v := .int (nI k_)) (C := RX6) (T := TX6) (N := 3) hx hb hts in_X6 hown hK hP 0 rfl rfl 2 (by decide) (hts _ q939) (fun _ h9 => h9) rfl dX6_two_1 ?_
  subst hQQ
  exact xe_i (v := nI k_) () hx hb hr hlocks hK hP hD hS (rfl) dX6_two_4
set_option maxHeartbeats 400000 in
set_option maxRecDepth 100000 in
theorem mt_X6_sign (l : Launch) (D : va_G) (ca : Nat → ClassId) (o_ : Nat) (s_ : Nat) (i_ : Nat) (k_ : Nat) (hs : s_ < 65536) (nn : Nat) : Met l yX6_sign (ws_ yX6_sign cX6_sign 1 (Option.some Jvm.ClassFile.FieldType.char)) ({ frames := 0, cells := 0, slots := 0, locals := 0 } : Room) (va_Pc [.ref o_] (PreW Ev0 D vwCl (TY ca) (fl [[(o_, .inr (4, [.int (nI s_), .int (nI i_), .int (nI k_)]))]]) nn)) (va_Qi (fun (r_ : Int32) (_ : Unit) => r_ = nI s_) (PostW D vwCl (TY ca) (fun (_ : Unit) => (fl [[(o_, .inr (4, [.int (nI s_), .int (nI i_), .int (nI k_)]))]])) (va_A (fl [[(o_, .inr (4, [.int (nI s_), .int (nI i_), .int (nI k_)]))]]) nn)) (va_A (fl [[(o_, .inr (4, [.int (nI s_), .int (nI i_), .int (nI k_)]))]]) nn)) 0 0 (va_A (fl [[(o_, .inr (4, [.int (nI s_), .int (nI i_), .int (nI k_)]))]]) nn) := by
  refine met_go2 (QA := fun A => va_Qi (fun (r_ : Int32) (_ : Unit) => r_ = nI s_) (PostW D vwCl (TY ca) (fun (_ : Unit) => (fl [[(o_, .inr (4, [.int (nI s_), .int (nI i_), .int (nI k_)]))]])) A) A) (by decide) (Nat.le_of_ble_eq_true rfl) (fun p e s m below meth c A ls QQ hQQ hmn hnm hx hb hr hts hown hlocks hml hA hP hK hD hE hl => ?_)
  have hown : s.vm.findClass RX6 = some m.cls := hown
  have hS : va_S A s.heap s.heap [] := va_S.rf
  have hl : lv_has ls 1 [(0, .ref o_)] := hl
  generalize hHe : s.heap = H at hP ⊢
  have hS : va_S A s.heap H [] := hHe ▸ hS
  generalize ([] : List Loc) = locs at hS ⊢
  refine lv_aload_n hx hb dX6_sign_0 rfl (lv_at hl 0 rfl) ?_
  refine va_get (D := D) (ci := 4) (v := .int (nI s_)) (C := RX6) (T := TX6) (N := 3) hx hb hts in_X6 hown hK hP 0 rfl rfl 0 (by decide) (hts _ q937) (fun _ h9 => h9) rfl dX6_sign_1 ?_
  subst hQQ
  exact xe_c (v := nI s_) () hx hb hr (pk_charN hs).1 hlocks hK hP hD hS (rfl) dX6_sign_4
