/-! ArrayList: the list of orders -/
set_option maxRecDepth 100000
/-- the surroundings of a list that is still empty: the shared empty array stands at t -/
def EvT (t : Nat) (A : Nat → Prop) (s : State) : Prop := EvL A s ∧ va_Z "java/util/ArrayList" "DEFAULTCAPACITY_EMPTY_ELEMENTDATA" "[Ljava/lang/Object;" (.ref t) A s s.heap ∧ va_T (.object "java/lang/Object") t 0 (fun _ => .null) A s s.heap
theorem EvT_ok (t : Nat) : EvOk (EvT t) := by
  intro A A1 s U hE hW hq hs
  obtain ⟨h1, h2, h3⟩ := hE
  exact ⟨EvL_ok A A1 s U h1 hW hq hs, ((h2.kept hq).moved hW.alike).narrow hs, ((h3.kept hq).moved hW.alike).narrow hs⟩
theorem evt_of {A : Nat → Prop} {s : State} (hE : EvL A s) : ∃ t, EvT t A s := by
  obtain ⟨t, h1, h2⟩ := hE.1.2.2.2.2.1
  exact ⟨t, hE, h1, h2⟩
set_option maxHeartbeats 400000 in
set_option maxRecDepth 100000 in
theorem mt_J21_init (l : Launch) (D : va_G) (ca : Nat → ClassId) (la_ : Nat)  (nn : Nat) : Met l yJ21_init (ws_ yJ21_init cJ21_init 1 (Option.none : Option Jvm.ClassFile.FieldType)) ({ frames := 2, cells := 0, slots := 0, locals := 60 } : Room) (va_Pc [.ref la_] (PreW Ev0 D vwCl (TY ca) (fl [[(la_, .inr (9, [.int 0, .null, .int 0]))]]) nn)) (va_Qv (fun (_ : Unit) => True) (PostW D vwCl (TY ca) (fun (_ : Unit) => (fl [[(la_, .inr (9, [.int 0, .null, .int 0]))]])) (va_A (fl [[(la_, .inr (9, [.int 0, .null, .int 0]))]]) nn)) (va_A (fl [[(la_, .inr (9, [.int 0, .null, .int 0]))]]) nn)) 0 0 (va_A (fl [[(la_, .inr (9, [.int 0, .null, .int 0]))]]) nn) := by
  refine met_go2 (QA := fun A => va_Qv (fun (_ : Unit) => True) (PostW D vwCl (TY ca) (fun (_ : Unit) => (fl [[(la_, .inr (9, [.int 0, .null, .int 0]))]])) A) A) (by decide) (Nat.le_of_ble_eq_true rfl) (fun p e s m below meth c A ls QQ hQQ hmn hnm hx hb hr hts hown hlocks hml hA hP hK hD hE hl => ?_)
  have hown : s.vm.findClass RJ21 = some m.cls := hown
  have hS : va_S A s.heap s.heap [] := va_S.rf
  have hl : lv_has ls 1 [(0, .ref la_)] := hl
  generalize hHe : s.heap = H at hP ⊢
  have hS : va_S A s.heap H [] := hHe ▸ hS
  generalize ([] : List Loc) = locs at hS ⊢
  refine lv_aload_n hx hb dJ21_init_0 rfl (lv_at hl 0 rfl) ?_
  refine xc_v (xr_I (b := la_) (As := []) (rest := []) (mt_J0_init l D ca la_  H.size) ⟨hx, hb, hml, hown, hts⟩ (cwI 0 hts (lw_meth q185) rfl rfl rfl (hts _ q81) (hts _ q814) (hts _ q184) rfl (by decide +kernel) ⟨Nat.le_of_ble_eq_true rfl, Nat.le_of_ble_eq_true rfl⟩) Ev0_ok hE hK hS (Cut.app (wc := []) (wr := (fl [[(la_, .inr (9, [.int 0, .null, .int 0]))]])) hP hD hS hA) rfl hl.1 rfl (Nat.le_of_ble_eq_true rfl) dJ21_init_1 ⟨Nat.le_of_ble_eq_true rfl, Nat.le_of_ble_eq_true rfl⟩) hS (Cut.app (wc := []) (wr := (fl [[(la_, .inr (9, [.int 0, .null, .int 0]))]])) hP hD hS hA) (fun u_2 H locs hq_1 hP hD hS => ?_)
  have hP : va_P D vwCl (fl [[(la_, .inr (9, [.int 0, .null, .int 0]))]]) H := hP
  have hD : va_D A (fl [[(la_, .inr (9, [.int 0, .null, .int 0]))]]) := hD
  refine lv_aload_n hx hb dJ21_init_4 rfl (lv_at hl 0 rfl) ?_
  refine lv_iconst (v := nI 0) hx hb dJ21_init_5 (by decide) ?_
  refine va_put (D := D) (ci := 9) (v := .int (nI 0)) (ty := .int) (C := RJ22) (T := TJ22) (N := 3) hx hb hts in_J22 tyJ22 tyJ22_ok nmJ22 hown hK hP hD hS 0 rfl rfl 0 (by decide) (hts _ q819) (fun _ h9 => h9) rfl (by decide +kernel) rfl rfl (Nat.le_of_ble_eq_true rfl) dJ21_init_6 (fun H locs hP hD hS => ?_)
  have hP : va_P D vwCl (fl [[(la_, .inr (9, [.int (nI 0), .null, .int 0]))]]) H := hP
  have hD : va_D A (fl [[(la_, .inr (9, [.int (nI 0), .null, .int 0]))]]) := hD
  subst hQQ
  exact xe_v () hx hb hr hlocks hK hP hD hS (trivial) dJ21_init_9
set_option maxHeartbeats 400000 in
set_option maxRecDepth 100000 in
theorem mt_J22_init (l : Launch) (D : va_G) (ca : Nat → ClassId) (la_ : Nat) (t_ : Nat)  (nn : Nat) : Met l yJ22_init (ws_ yJ22_init cJ22_init 1 (Option.none : Option Jvm.ClassFile.FieldType)) ({ frames := 3, cells := 0, slots := 0, locals := 80 } : Room) (va_Pc [.ref la_] (PreW (EvT t_) D vwCl (TY ca) (fl [[(la_, .inr (9, [.int 0, .null, .int 0]))]]) nn)) (va_Qv (fun (_ : Unit) => True) (PostW D vwCl (TY ca) (fun (_ : Unit) => (fl [[(la_, .inr (9, [.int 0, .ref t_, .int (nI 0)]))]])) (va_A (fl [[(la_, .inr (9, [.int 0, .null, .int 0]))]]) nn)) (va_A (fl [[(la_, .inr (9, [.int 0, .null, .int 0]))]]) nn)) 0 0 (va_A (fl [[(la_, .inr (9, [.int 0, .null, .int 0]))]]) nn) := by
  refine met_go2 (QA := fun A => va_Qv (fun (_ : Unit) => True) (PostW D vwCl (TY ca) (fun (_ : Unit) => (fl [[(la_, .inr (9, [.int 0, .ref t_, .int (nI 0)]))]])) A) A) (by decide) (Nat.le_of_ble_eq_true rfl) (fun p e s m below meth c A ls QQ hQQ hmn hnm hx hb hr hts hown hlocks hml hA hP hK hD hE hl => ?_)
  have hown : s.vm.findClass RJ22 = some m.cls := hown
  have hS : va_S A s.heap s.heap [] := va_S.rf
  have hl : lv_has ls 1 [(0, .ref la_)] := hl
  generalize hHe : s.heap = H at hP ⊢
  have hS : va_S A s.heap H [] := hHe ▸ hS
  generalize ([] : List Loc) = locs at hS ⊢
  refine lv_aload_n hx hb dJ22_init_0 rfl (lv_at hl 0 rfl) ?_
  refine xc_v (xr_I (b := la_) (As := []) (rest := []) (mt_J21_init l D ca la_  H.size) ⟨hx, hb, hml, hown, hts⟩ (cwI 0 hts (lw_meth q813) rfl rfl rfl (hts _ q106) (hts _ q811) (hts _ q812) rfl (by decide +kernel) ⟨Nat.le_of_ble_eq_true rfl, Nat.le_of_ble_eq_true rfl⟩) Ev0_ok trivial hK hS (Cut.ch [[(la_, .inr (9, [.int 0, .null, .int 0]))]] [] hP hD hS hA) rfl hl.1 rfl (Nat.le_of_ble_eq_true rfl) dJ22_init_1 ⟨Nat.le_of_ble_eq_true rfl, Nat.le_of_ble_eq_true rfl⟩) hS (Cut.ch [[(la_, .inr (9, [.int 0, .null, .int 0]))]] [] hP hD hS hA) (fun u_2 H locs hq_1 hP hD hS => ?_)
  have hP : va_P D vwCl (fl [[(la_, .inr (9, [.int 0, .null, .int 0]))]]) H := fl_join [[(la_, .inr (9, [.int 0, .null, .int 0]))]] [] hP
  have hD : va_D A (fl [[(la_, .inr (9, [.int 0, .null, .int 0]))]]) := fl_joinD [[(la_, .inr (9, [.int 0, .null, .int 0]))]] [] hD
  refine lv_aload_n hx hb dJ22_init_4 rfl (lv_at hl 0 rfl) ?_
  refine va_gets (v := .ref t_) hx hb hE.2.1 hS hown (hts _ q815) (fun _ h9 => h9) dJ22_init_5 ?_
  refine va_put (D := D) (ci := 9) (v := .ref t_) (ty := (.array (.object "java/lang/Object"))) (C := RJ22) (T := TJ22) (N := 3) hx hb hts in_J22 tyJ22 tyJ22_ok nmJ22 hown hK hP hD hS 0 rfl rfl 1 (by decide) (hts _ q817) (fun _ h9 => h9) rfl (by decide +kernel) rfl rfl (Nat.le_of_ble_eq_true rfl) dJ22_init_8 (fun H locs hP hD hS => ?_)
  have hP : va_P D vwCl (fl [[(la_, .inr (9, [.int 0, .ref t_, .int 0]))]]) H := hP
  have hD : va_D A (fl [[(la_, .inr (9, [.int 0, .ref t_, .int 0]))]]) := hD
  subst hQQ
  exact xe_v () hx hb hr hlocks hK hP hD hS (trivial) dJ22_init_11
set_option maxHeartbeats 400000 in
set_option maxRecDepth 100000 in
theorem mt_J22_grow_2_0 (l : Launch) (D : va_G) (ca : Nat → ClassId) (la_ : Nat) (t_ : Nat) (mc_ : Int32)  (nn : Nat) : Met l yJ22_grow_2 (ws_ yJ22_grow_2 cJ22_grow_2 4 (Option.some (Jvm.ClassFile.FieldType.array (Jvm.ClassFile.FieldType.object "java/lang/Object")))) ({ frames := 1, cells := 1, slots := 10, locals := 40 } : Room) (va_Pc [.ref la_, .int (nI 1)] (PreW (EvT t_) D vwCl (TY ca) (fl [[(la_, .inr (9, [.int mc_, .ref t_, .int (nI 0)]))]]) nn)) (va_Qr (fun (u_ : Nat) => True) (fun (u_ : Nat) (r_ : Nat) (tS_ : State) => r_ = u_ ∧ PostW D vwCl (TY ca) (fun (u_ : Nat) => (fl [[(la_, .inr (9, [.int mc_, .ref u_, .int (nI 0)]))], [(u_, .inl (ca 3, 10, .inr (.inr (.inr (.inr ((fun _ => none)))))))]])) (va_A (fl [[(la_, .inr (9, [.int mc_, .ref t_, .int (nI 0)]))]]) nn) u_ tS_) (va_A (fl [[(la_, .inr (9, [.int mc_, .ref t_, .int (nI 0)]))]]) nn)) 1 10 (va_A (fl [[(la_, .inr (9, [.int mc_, .ref t_, .int (nI 0)]))]]) nn) := by
  refine met_go2 (QA := fun A => va_Qr (fun (u_ : Nat) => True) (fun (u_ : Nat) (r_ : Nat) (tS_ : State) => r_ = u_ ∧ PostW D vwCl (TY ca) (fun (u_ : Nat) => (fl [[(la_, .inr (9, [.int mc_, .ref u_, .int (nI 0)]))], [(u_, .inl (ca 3, 10, .inr (.inr (.inr (.inr ((fun _ => none)))))))]])) A u_ tS_) A) (by decide) (Nat.le_of_ble_eq_true rfl) (fun p e s m below meth c A ls QQ hQQ hmn hnm hx hb hr hts hown hlocks hml hA hP hK hD hE hl => ?_)
  have hown : s.vm.findClass RJ22 = some m.cls := hown
  have hS : va_S A s.heap s.heap [] := va_S.rf
  have hl : lv_has ls 4 [(0, .ref la_), (1, .int (nI 1))] := hl
  generalize hHe : s.heap = H at hP ⊢
  have hS : va_S A s.heap H [] := hHe ▸ hS
  generalize ([] : List Loc) = locs at hS ⊢
  have hAO := hE.1.1.2.1
  refine lv_aload_n hx hb dJ22_grow_2_0 rfl (lv_at hl 0 rfl) ?_
  refine va_get (D := D) (ci := 9) (v := .ref t_) (C := RJ22) (T := TJ22) (N := 3) hx hb hts in_J22 hown hK hP 0 rfl rfl 1 (by decide) (hts _ q817) (fun _ h9 => h9) rfl dJ22_grow_2_1 ?_
  refine va_tlen hx hb hE.2.2 hS (v := nI 0) rfl dJ22_grow_2_4 ?_
  refine lv_istore_n (lv' := [(2, .int (nI 0)), (0, .ref la_), (1, .int (nI 1))]) hx hb dJ22_grow_2_5 rfl hl (by decide) rfl (fun ls hl => ?_)
  refine lv_iload_n hx hb dJ22_grow_2_6 rfl (lv_at hl 0 rfl) ?_
  refine nv_if_gt (tgt := 20) hx hb dJ22_grow_2_7 (by decide) (by omega) (fun c_7 => absurd c_7 (by decide)) (fun c_7 => ?_)
  refine lv_aload_n hx hb dJ22_grow_2_10 rfl (lv_at hl 1 rfl) ?_
  refine va_get (D := D) (ci := 9) (v := .ref t_) (C := RJ22) (T := TJ22) (N := 3) hx hb hts in_J22 hown hK hP 0 rfl rfl 1 (by decide) (hts _ q817) (fun _ h9 => h9) rfl dJ22_grow_2_11 ?_
  refine va_gets (v := .ref t_) hx hb hE.2.1 hS hown (hts _ q815) (fun _ h9 => h9) dJ22_grow_2_14 ?_
  refine lv_acmp_eq (rx := some t_) (ry := some t_) (tgt := 45) hx hb dJ22_grow_2_17 (by decide) (fun c_17 => ?_) (fun c_17 => absurd rfl c_17)
  refine lv_aload_n hx hb dJ22_grow_2_45 rfl (lv_at hl 1 rfl) ?_
  refine lv_bipush (v := nI 10) hx hb dJ22_grow_2_46 (by decide) ?_
  refine lv_iload_n hx hb dJ22_grow_2_48 rfl (lv_at hl 2 rfl) ?_
  refine va_mmax (x := nI 10) (y := nI 1) hx hb (hml.trans hl.1.symm) hown (hts _ q975) (hts _ q540) (hts _ q96) (hts _ q541) (Nat.le_of_ble_eq_true rfl) (Nat.le_of_ble_eq_true rfl) (by decide) (by decide) dJ22_grow_2_49 ?_
  refine lv_topi (nm_r (e' := nI 10) ((mx_nI (by omega) (by omega)).trans (by decide)) ?_)
  refine nv_newq hx hb hown (hts _ q976) hAO hK hP hD hS hA 3 rfl (N := 10) (by decide) (by decide) ⟨Nat.le_of_ble_eq_true rfl, Nat.le_of_ble_eq_true rfl⟩ dJ22_grow_2_52 (fun q_1 H hP hD hS => ?_)
  have hP : va_P D vwCl (fl [[(la_, .inr (9, [.int mc_, .ref t_, .int (nI 0)]))], [(q_1, .inl (ca 3, 10, .inr (.inr (.inr (.inr ((fun _ => none)))))))]]) H := fl_pushP hP
  have hD : va_D A (fl [[(la_, .inr (9, [.int mc_, .ref t_, .int (nI 0)]))], [(q_1, .inl (ca 3, 10, .inr (.inr (.inr (.inr ((fun _ => none)))))))]]) := fl_pushD hD
  refine lv_dup_x1 hx hb dJ22_grow_2_55 rfl rfl ?_
  refine va_put (D := D) (ci := 9) (v := .ref q_1) (ty := (.array (.object "java/lang/Object"))) (C := RJ22) (T := TJ22) (N := 3) hx hb hts in_J22 tyJ22 tyJ22_ok nmJ22 hown hK hP hD hS 0 rfl rfl 1 (by decide) (hts _ q817) (fun _ h9 => h9) rfl (by decide +kernel) rfl rfl (Nat.le_of_ble_eq_true rfl) dJ22_grow_2_56 (fun H locs hP hD hS => ?_)
  have hP : va_P D vwCl (fl [[(la_, .inr (9, [.int mc_, .ref q_1, .int (nI 0)]))], [(q_1, .inl (ca 3, 10, .inr (.inr (.inr (.inr ((fun _ => none)))))))]]) H := hP
  have hD : va_D A (fl [[(la_, .inr (9, [.int mc_, .ref q_1, .int (nI 0)]))], [(q_1, .inl (ca 3, 10, .inr (.inr (.inr (.inr ((fun _ => none)))))))]]) := hD
  subst hQQ
  exact xe_ra (ad := fun (u_ : Nat) => u_) q_1 hx hb hr hlocks hK hP hD hS (trivial) dJ22_grow_2_59
set_option maxHeartbeats 400000 in
set_option maxRecDepth 100000 in
theorem mt_J22_grow_0 (l : Launch) (D : va_G) (ca : Nat → ClassId) (la_ : Nat) (t_ : Nat) (mc_ : Int32)  (nn : Nat) : Met l yJ22_grow (ws_ yJ22_grow cJ22_grow 1 (Option.some (Jvm.ClassFile.FieldType.array (Jvm.ClassFile.FieldType.object "java/lang/Object")))) ({ frames := 2, cells := 1, slots := 10, locals := 63 } : Room) (va_Pc [.ref la_] (PreW (EvT t_) D vwCl (TY ca) (fl [[(la_, .inr (9, [.int mc_, .ref t_, .int (nI 0)]))]]) nn)) (va_Qr (fun (u_ : Nat) => True) (fun (u_ : Nat) (r_ : Nat) (tS_ : State) => r_ = u_ ∧ PostW D vwCl (TY ca) (fun (u_ : Nat) => (fl [[(la_, .inr (9, [.int mc_, .ref u_, .int (nI 0)]))], [(u_, .inl (ca 3, 10, .inr (.inr (.inr (.inr ((fun _ => none)))))))]])) (va_A (fl [[(la_, .inr (9, [.int mc_, .ref t_, .int (nI 0)]))]]) nn) u_ tS_) (va_A (fl [[(la_, .inr (9, [.int mc_, .ref t_, .int (nI 0)]))]]) nn)) 1 10 (va_A (fl [[(la_, .inr (9, [.int mc_, .ref t_, .int (nI 0)]))]]) nn) := by
  refine met_go2 (QA := fun A => va_Qr (fun (u_ : Nat) => True) (fun (u_ : Nat) (r_ : Nat) (tS_ : State) => r_ = u_ ∧ PostW D vwCl (TY ca) (fun (u_ : Nat) => (fl [[(la_, .inr (9, [.int mc_, .ref u_, .int (nI 0)]))], [(u_, .inl (ca 3, 10, .inr (.inr (.inr (.inr ((fun _ => none)))))))]])) A u_ tS_) A) (by decide) (Nat.le_of_ble_eq_true rfl) (fun p e s m below meth c A ls QQ hQQ hmn hnm hx hb hr hts hown hlocks hml hA hP hK hD hE hl => ?_)
  have hown : s.vm.findClass RJ22 = some m.cls := hown
  have hS : va_S A s.heap s.heap [] := va_S.rf
  have hl : lv_has ls 1 [(0, .ref la_)] := hl
  generalize hHe : s.heap = H at hP ⊢
  have hS : va_S A s.heap H [] := hHe ▸ hS
  generalize ([] : List Loc) = locs at hS ⊢
  refine lv_aload_n hx hb dJ22_grow_0 rfl (lv_at hl 0 rfl) ?_
  refine lv_aload_n hx hb dJ22_grow_1 rfl (lv_at hl 0 rfl) ?_
  refine va_get (D := D) (ci := 9) (v := .int (nI 0)) (C := RJ22) (T := TJ22) (N := 3) hx hb hts in_J22 hown hK hP 0 rfl rfl 2 (by decide) (hts _ q818) (fun _ h9 => h9) rfl dJ22_grow_2 ?_
  refine lv_iconst (v := nI 1) hx hb dJ22_grow_5 (by decide) ?_
  refine lv_iadd hx hb dJ22_grow_6 (lv_topi (nm_r (e' := nI 1) (by decide) ?_))
  refine xc_r (xr_V (b := la_) (ci := 9) (q0 := 0) (As := [.int (nI 1)]) (rest := []) (mt_J22_grow_2_0 l D ca la_ t_ mc_  H.size) ⟨hx, hb, hml, hown, hts⟩ (cwV 1 hts (lw_V q969 q971 qs16 q107 q972) rfl rfl rfl (by decide +kernel) ⟨Nat.le_of_ble_eq_true rfl, Nat.le_of_ble_eq_true rfl⟩) (EvT_ok _) hE hK hS (Cut.ch [[(la_, .inr (9, [.int mc_, .ref t_, .int (nI 0)]))]] [] hP hD hS hA) rfl rfl rfl hl.1 rfl (Nat.le_of_ble_eq_true rfl) dJ22_grow_7 ⟨Nat.le_of_ble_eq_true rfl, Nat.le_of_ble_eq_true rfl⟩) hS (Cut.ch [[(la_, .inr (9, [.int mc_, .ref t_, .int (nI 0)]))]] [] hP hD hS hA) (fun u_2 H locs hq_7 hP hD hS => ?_)
  obtain ⟨e1_3, rfl⟩ : ∃ z_, z_ = u_2 := ⟨_, rfl⟩
  have hP : va_P D vwCl (fl [[(la_, .inr (9, [.int mc_, .ref e1_3, .int (nI 0)]))], [(e1_3, .inl (ca 3, 10, .inr (.inr (.inr (.inr (fun _ => none))))))]]) H := fl_join [[(la_, .inr (9, [.int mc_, .ref e1_3, .int (nI 0)]))], [(e1_3, .inl (ca 3, 10, .inr (.inr (.inr (.inr (fun _ => none))))))]] [] hP
  have hD : va_D A (fl [[(la_, .inr (9, [.int mc_, .ref e1_3, .int (nI 0)]))], [(e1_3, .inl (ca 3, 10, .inr (.inr (.inr (.inr (fun _ => none))))))]]) := fl_joinD [[(la_, .inr (9, [.int mc_, .ref e1_3, .int (nI 0)]))], [(e1_3, .inl (ca 3, 10, .inr (.inr (.inr (.inr (fun _ => none))))))]] [] hD
  subst hQQ
  exact xe_ra (ad := fun (u_ : Nat) => u_) e1_3 hx hb hr hlocks hK hP hD hS (trivial) dJ22_grow_10
set_option maxHeartbeats 400000 in
set_option maxRecDepth 100000 in
theorem mt_J22_add_2_0 (l : Launch) (D : va_G) (ca : Nat → ClassId) (la_ : Nat) (t_ : Nat) (mc_ : Int32) (oa_ : Nat) (s0_ : Int32) (s1_ : Int32) (s2_ : Int32)  (nn : Nat) : Met l yJ22_add_2 (ws_ yJ22_add_2 cJ22_add_2 4 (Option.none : Option Jvm.ClassFile.FieldType)) ({ frames := 3, cells := 1, slots := 10, locals := 83 } : Room) (va_Pc [.ref la_, .ref oa_, .ref t_, .int (nI 0)] (PreW (EvT t_) D vwCl (TY ca) (fl [[(la_, .inr (9, [.int mc_, .ref t_, .int (nI 0)]))], [(oa_, .inr (4, [.int s0_, .int s1_, .int s2_]))]]) nn)) (va_Qv (fun (u_ : Nat) => True) (PostW D vwCl (TY ca) (fun (u_ : Nat) => (fl [[(la_, .inr (9, [.int mc_, .ref u_, .int (nI (0 + 1))]))], [(u_, .inl (ca 3, 10, .inr (.inr (.inr (.inr (va_up (fun _ => none) 0 (some oa_)))))))], [(oa_, .inr (4, [.int s0_, .int s1_, .int s2_]))]])) (va_A (fl [[(la_, .inr (9, [.int mc_, .ref t_, .int (nI 0)]))], [(oa_, .inr (4, [.int s0_, .int s1_, .int s2_]))]]) nn)) (va_A (fl [[(la_, .inr (9, [.int mc_, .ref t_, .int (nI 0)]))], [(oa_, .inr (4, [.int s0_, .int s1_, .int s2_]))]]) nn)) 1 10 (va_A (fl [[(la_, .inr (9, [.int mc_, .ref t_, .int (nI 0)]))], [(oa_, .inr (4, [.int s0_, .int s1_, .int s2_]))]]) nn) := by
  refine met_go2 (QA := fun A => va_Qv (fun (u_ : Nat) => True) (PostW D vwCl (TY ca) (fun (u_ : Nat) => (fl [[(la_, .inr (9, [.int mc_, .ref u_, .int (nI (0 + 1))]))], [(u_, .inl (ca 3, 10, .inr (.inr (.inr (.inr (va_up (fun _ => none) 0 (some oa_)))))))], [(oa_, .inr (4, [.int s0_, .int s1_, .int s2_]))]])) A) A) (by decide) (Nat.le_of_ble_eq_true rfl) (fun p e s m below meth c A ls QQ hQQ hmn hnm hx hb hr hts hown hlocks hml hA hP hK hD hE hl => ?_)
  have hown : s.vm.findClass RJ22 = some m.cls := hown
  have hS : va_S A s.heap s.heap [] := va_S.rf
  have hl : lv_has ls 4 [(0, .ref la_), (1, .ref oa_), (2, .ref t_), (3, .int (nI 0))] := hl
  generalize hHe : s.heap = H at hP ⊢
  have hS : va_S A s.heap H [] := hHe ▸ hS
  generalize ([] : List Loc) = locs at hS ⊢
  refine lv_iload_n hx hb dJ22_add_2_0 rfl (lv_at hl 3 rfl) ?_
  refine lv_aload_n hx hb dJ22_add_2_1 rfl (lv_at hl 2 rfl) ?_
  refine va_tlen hx hb hE.2.2 hS (v := nI 0) rfl dJ22_add_2_2 ?_
  refine nv_icmp_ne (tgt := 11) hx hb dJ22_add_2_3 (by decide) (by omega) (by omega) (fun c_3 => absurd c_3 (by decide)) (fun c_3 => ?_)
  refine lv_aload_n hx hb dJ22_add_2_6 rfl (lv_at hl 0 rfl) ?_
  refine xc_r (xr_V (b := la_) (ci := 9) (q0 := 0) (As := []) (rest := []) (mt_J22_grow_0 l D ca la_ t_ mc_  H.size) ⟨hx, hb, hml, hown, hts⟩ (cwV 0 hts (lw_V q965 q967 qs15 q107 q968) rfl rfl rfl (by decide +kernel) ⟨Nat.le_of_ble_eq_true rfl, Nat.le_of_ble_eq_true rfl⟩) (EvT_ok _) hE hK hS (Cut.ch [[(la_, .inr (9, [.int mc_, .ref t_, .int (nI 0)]))]] [[(oa_, .inr (4, [.int s0_, .int s1_, .int s2_]))]] hP hD hS hA) rfl rfl rfl hl.1 rfl (Nat.le_of_ble_eq_true rfl) dJ22_add_2_7 ⟨Nat.le_of_ble_eq_true rfl, Nat.le_of_ble_eq_true rfl⟩) hS (Cut.ch [[(la_, .inr (9, [.int mc_, .ref t_, .int (nI 0)]))]] [[(oa_, .inr (4, [.int s0_, .int s1_, .int s2_]))]] hP hD hS hA) (fun u_2 H locs hq_7 hP hD hS => ?_)
  obtain ⟨e1_3, rfl⟩ : ∃ z_, z_ = u_2 := ⟨_, rfl⟩
  have hP : va_P D vwCl (fl [[(la_, .inr (9, [.int mc_, .ref e1_3, .int (nI 0)]))], [(e1_3, .inl (ca 3, 10, .inr (.inr (.inr (.inr (fun _ => none))))))], [(oa_, .inr (4, [.int s0_, .int s1_, .int s2_]))]]) H := fl_join [[(la_, .inr (9, [.int mc_, .ref e1_3, .int (nI 0)]))], [(e1_3, .inl (ca 3, 10, .inr (.inr (.inr (.inr (fun _ => none))))))]] [[(oa_, .inr (4, [.int s0_, .int s1_, .int s2_]))]] hP
  have hD : va_D A (fl [[(la_, .inr (9, [.int mc_, .ref e1_3, .int (nI 0)]))], [(e1_3, .inl (ca 3, 10, .inr (.inr (.inr (.inr (fun _ => none))))))], [(oa_, .inr (4, [.int s0_, .int s1_, .int s2_]))]]) := fl_joinD [[(la_, .inr (9, [.int mc_, .ref e1_3, .int (nI 0)]))], [(e1_3, .inl (ca 3, 10, .inr (.inr (.inr (.inr (fun _ => none))))))]] [[(oa_, .inr (4, [.int s0_, .int s1_, .int s2_]))]] hD
  refine lv_astore_n (lv' := [(2, .ref e1_3), (0, .ref la_), (1, .ref oa_), (3, .int (nI 0))]) hx hb dJ22_add_2_10 rfl hl (by decide) rfl (fun ls hl => ?_)
  refine lv_aload_n hx hb dJ22_add_2_11 rfl (lv_at hl 0 rfl) ?_
  refine lv_iload_n hx hb dJ22_add_2_12 rfl (lv_at hl 3 rfl) ?_
  refine lv_aload_n hx hb dJ22_add_2_13 rfl (lv_at hl 2 rfl) ?_
  refine nv_aast hx hb hK hP hD hS 1 3 2 4 rfl rfl (hE.1.1.1.1.1 _ q2073 rfl) rfl rfl (by omega) (by decide) dJ22_add_2_14 (fun H locs hP hD hS => ?_)
  have hP : va_P D vwCl (fl [[(la_, .inr (9, [.int mc_, .ref e1_3, .int (nI 0)]))], [(e1_3, .inl (ca 3, 10, .inr (.inr (.inr (.inr (va_up (fun _ => none) 0 (some oa_)))))))], [(oa_, .inr (4, [.int s0_, .int s1_, .int s2_]))]]) H := hP
  have hD : va_D A (fl [[(la_, .inr (9, [.int mc_, .ref e1_3, .int (nI 0)]))], [(e1_3, .inl (ca 3, 10, .inr (.inr (.inr (.inr (va_up (fun _ => none) 0 (some oa_)))))))], [(oa_, .inr (4, [.int s0_, .int s1_, .int s2_]))]]) := hD
  refine lv_aload_n hx hb dJ22_add_2_15 rfl (lv_at hl 1 rfl) ?_
  refine lv_iload_n hx hb dJ22_add_2_16 rfl (lv_at hl 3 rfl) ?_
  refine lv_iconst (v := nI 1) hx hb dJ22_add_2_17 (by decide) ?_
  refine lv_iadd hx hb dJ22_add_2_18 (lv_topi (nm_r (e' := nI 1) (by decide) ?_))
  refine va_put (D := D) (ci := 9) (v := .int (nI 1)) (ty := .int) (C := RJ22) (T := TJ22) (N := 3) hx hb hts in_J22 tyJ22 tyJ22_ok nmJ22 hown hK hP hD hS 0 rfl rfl 2 (by decide) (hts _ q818) (fun _ h9 => h9) rfl (by decide +kernel) rfl rfl (Nat.le_of_ble_eq_true rfl) dJ22_add_2_19 (fun H locs hP hD hS => ?_)
  have hP : va_P D vwCl (fl [[(la_, .inr (9, [.int mc_, .ref e1_3, .int (nI 1)]))], [(e1_3, .inl (ca 3, 10, .inr (.inr (.inr (.inr (va_up (fun _ => none) 0 (some oa_)))))))], [(oa_, .inr (4, [.int s0_, .int s1_, .int s2_]))]]) H := hP
  have hD : va_D A (fl [[(la_, .inr (9, [.int mc_, .ref e1_3, .int (nI 1)]))], [(e1_3, .inl (ca 3, 10, .inr (.inr (.inr (.inr (va_up (fun _ => none) 0 (some oa_)))))))], [(oa_, .inr (4, [.int s0_, .int s1_, .int s2_]))]]) := hD
  subst hQQ
  exact xe_v e1_3 hx hb hr hlocks hK hP hD hS (trivial) dJ22_add_2_22
set_option maxHeartbeats 400000 in
set_option maxRecDepth 100000 in
theorem mt_J22_add_0 (l : Launch) (D : va_G) (ca : Nat → ClassId) (la_ : Nat) (t_ : Nat) (mc_ : Int32) (oa_ : Nat) (s0_ : Int32) (s1_ : Int32) (s2_ : Int32)  (nn : Nat) : Met l yJ22_add (ws_ yJ22_add cJ22_add 2 (Option.some Jvm.ClassFile.FieldType.boolean)) ({ frames := 4, cells := 1, slots := 10, locals := 106 } : Room) (va_Pc [.ref la_, .ref oa_] (PreW (EvT t_) D vwCl (TY ca) (fl [[(la_, .inr (9, [.int mc_, .ref t_, .int (nI 0)]))], [(oa_, .inr (4, [.int s0_, .int s1_, .int s2_]))]]) nn)) (va_Qi (fun (r_ : Int32) (u_ : Nat) => r_ = bI true) (PostW D vwCl (TY ca) (fun (u_ : Nat) => (fl [[(la_, .inr (9, [.int (mc_ + nI 1), .ref u_, .int (nI (0 + 1))]))], [(u_, .inl (ca 3, 10, .inr (.inr (.inr (.inr (va_up (fun _ => none) 0 (some oa_)))))))], [(oa_, .inr (4, [.int s0_, .int s1_, .int s2_]))]])) (va_A (fl [[(la_, .inr (9, [.int mc_, .ref t_, .int (nI 0)]))], [(oa_, .inr (4, [.int s0_, .int s1_, .int s2_]))]]) nn)) (va_A (fl [[(la_, .inr (9, [.int mc_, .ref t_, .int (nI 0)]))], [(oa_, .inr (4, [.int s0_, .int s1_, .int s2_]))]]) nn)) 1 10 (va_A (fl [[(la_, .inr (9, [.int mc_, .ref t_, .int (nI 0)]))], [(oa_, .inr (4, [.int s0_, .int s1_, .int s2_]))]]) nn) := by
  refine met_go2 (QA := fun A => va_Qi (fun (r_ : Int32) (u_ : Nat) => r_ = bI true) (PostW D vwCl (TY ca) (fun (u_ : Nat) => (fl [[(la_, .inr (9, [.int (mc_ + nI 1), .ref u_, .int (nI (0 + 1))]))], [(u_, .inl (ca 3, 10, .inr (.inr (.inr (.inr (va_up (fun _ => none) 0 (some oa_)))))))], [(oa_, .inr (4, [.int s0_, .int s1_, .int s2_]))]])) A) A) (by decide) (Nat.le_of_ble_eq_true rfl) (fun p e s m below meth c A ls QQ hQQ hmn hnm hx hb hr hts hown hlocks hml hA hP hK hD hE hl => ?_)
  have hown : s.vm.findClass RJ22 = some m.cls := hown
  have hS : va_S A s.heap s.heap [] := va_S.rf
  have hl : lv_has ls 2 [(0, .ref la_), (1, .ref oa_)] := hl
  generalize hHe : s.heap = H at hP ⊢
  have hS : va_S A s.heap H [] := hHe ▸ hS
  generalize ([] : List Loc) = locs at hS ⊢
  refine lv_aload_n hx hb dJ22_add_0 rfl (lv_at hl 0 rfl) ?_
  refine lv_dup hx hb dJ22_add_1 rfl ?_
  refine va_get (D := D) (ci := 9) (v := .int mc_) (C := RJ22) (T := TJ22) (N := 3) hx hb hts in_J22 hown hK hP 0 rfl rfl 0 (by decide) (hts _ q820) (fun x9 h9 => u_same (hts _ q821) x9 h9) rfl dJ22_add_2 ?_
  refine lv_iconst (v := nI 1) hx hb dJ22_add_5 (by decide) ?_
  refine lv_iadd hx hb dJ22_add_6 ?_
  refine va_put (D := D) (ci := 9) (v := .int (mc_ + (nI 1))) (ty := .int) (C := RJ22) (T := TJ22) (N := 3) hx hb hts in_J22 tyJ22 tyJ22_ok nmJ22 hown hK hP hD hS 0 rfl rfl 0 (by decide) (hts _ q820) (fun x9 h9 => u_same (hts _ q821) x9 h9) rfl (by decide +kernel) rfl rfl (Nat.le_of_ble_eq_true rfl) dJ22_add_7 (fun H locs hP hD hS => ?_)
  have hP : va_P D vwCl (fl [[(la_, .inr (9, [.int (mc_ + (nI 1)), .ref t_, .int (nI 0)]))], [(oa_, .inr (4, [.int s0_, .int s1_, .int s2_]))]]) H := hP
  have hD : va_D A (fl [[(la_, .inr (9, [.int (mc_ + (nI 1)), .ref t_, .int (nI 0)]))], [(oa_, .inr (4, [.int s0_, .int s1_, .int s2_]))]]) := hD
  refine lv_aload_n hx hb dJ22_add_10 rfl (lv_at hl 0 rfl) ?_
  refine lv_aload_n hx hb dJ22_add_11 rfl (lv_at hl 1 rfl) ?_
  refine lv_aload_n hx hb dJ22_add_12 rfl (lv_at hl 0 rfl) ?_
  refine va_get (D := D) (ci := 9) (v := .ref t_) (C := RJ22) (T := TJ22) (N := 3) hx hb hts in_J22 hown hK hP 0 rfl rfl 1 (by decide) (hts _ q817) (fun _ h9 => h9) rfl dJ22_add_13 ?_
  refine lv_aload_n hx hb dJ22_add_16 rfl (lv_at hl 0 rfl) ?_
  refine va_get (D := D) (ci := 9) (v := .int (nI 0)) (C := RJ22) (T := TJ22) (N := 3) hx hb hts in_J22 hown hK hP 0 rfl rfl 2 (by decide) (hts _ q818) (fun _ h9 => h9) rfl dJ22_add_17 ?_
  refine xc_v (xr_V (b := la_) (ci := 9) (q0 := 0) (As := [.ref oa_, .ref t_, .int (nI 0)]) (rest := []) (mt_J22_add_2_0 l D ca la_ t_ (mc_ + (nI 1)) oa_ s0_ s1_ s2_  H.size) ⟨hx, hb, hml, hown, hts⟩ (cwV 3 hts (lw_V q961 q963 qs14 q107 q964) rfl rfl rfl (by decide +kernel) ⟨Nat.le_of_ble_eq_true rfl, Nat.le_of_ble_eq_true rfl⟩) (EvT_ok _) hE hK hS (Cut.ch [[(la_, .inr (9, [.int (mc_ + (nI 1)), .ref t_, .int (nI 0)]))], [(oa_, .inr (4, [.int s0_, .int s1_, .int s2_]))]] [] hP hD hS hA) rfl rfl rfl hl.1 rfl (Nat.le_of_ble_eq_true rfl) dJ22_add_20 ⟨Nat.le_of_ble_eq_true rfl, Nat.le_of_ble_eq_true rfl⟩) hS (Cut.ch [[(la_, .inr (9, [.int (mc_ + (nI 1)), .ref t_, .int (nI 0)]))], [(oa_, .inr (4, [.int s0_, .int s1_, .int s2_]))]] [] hP hD hS hA) (fun u_2 H locs hq_20 hP hD hS => ?_)
  obtain ⟨e1_3, rfl⟩ : ∃ z_, z_ = u_2 := ⟨_, rfl⟩
  have hP : va_P D vwCl (fl [[(la_, .inr (9, [.int (mc_ + (nI 1)), .ref e1_3, .int (nI (0 + 1))]))], [(e1_3, .inl (ca 3, 10, .inr (.inr (.inr (.inr (va_up (fun _ => none) 0 (some oa_)))))))], [(oa_, .inr (4, [.int s0_, .int s1_, .int s2_]))]]) H := fl_join [[(la_, .inr (9, [.int (mc_ + (nI 1)), .ref e1_3, .int (nI (0 + 1))]))], [(e1_3, .inl (ca 3, 10, .inr (.inr (.inr (.inr (va_up (fun _ => none) 0 (some oa_)))))))], [(oa_, .inr (4, [.int s0_, .int s1_, .int s2_]))]] [] hP
  have hD : va_D A (fl [[(la_, .inr (9, [.int (mc_ + (nI 1)), .ref e1_3, .int (nI (0 + 1))]))], [(e1_3, .inl (ca 3, 10, .inr (.inr (.inr (.inr (va_up (fun _ => none) 0 (some oa_)))))))], [(oa_, .inr (4, [.int s0_, .int s1_, .int s2_]))]]) := fl_joinD [[(la_, .inr (9, [.int (mc_ + (nI 1)), .ref e1_3, .int (nI (0 + 1))]))], [(e1_3, .inl (ca 3, 10, .inr (.inr (.inr (.inr (va_up (fun _ => none) 0 (some oa_)))))))], [(oa_, .inr (4, [.int s0_, .int s1_, .int s2_]))]] [] hD
  refine lv_iconst (v := nI 1) hx hb dJ22_add_23 (by decide) ?_
  subst hQQ
  refine (xe_z (b := true) e1_3 hx hb hr hlocks hK hP hD hS (rfl) dJ22_add_24)
set_option maxHeartbeats 400000 in
set_option maxRecDepth 100000 in
theorem mt_J22_add_2_n (l : Launch) (D : va_G) (ca : Nat → ClassId) (la_ : Nat) (mc_ : Int32) (n_ : Nat) (cap_ : Nat) (ea_ : Nat) (es_ : Nat → Option Nat) (oa_ : Nat) (s0_ : Int32) (s1_ : Int32) (s2_ : Int32) (hn : n_ < cap_) (hcap : cap_ < 1000) (nn : Nat) : Met l yJ22_add_2 (ws_ yJ22_add_2 cJ22_add_2 4 (Option.none : Option Jvm.ClassFile.FieldType)) ({ frames := 0, cells := 0, slots := 0, locals := 0 } : Room) (va_Pc [.ref la_, .ref oa_, .ref ea_, .int (nI n_)] (PreW EvL D vwCl (TY ca) (fl [[(la_, .inr (9, [.int mc_, .ref ea_, .int (nI n_)]))], [(ea_, .inl (ca 3, cap_, .inr (.inr (.inr (.inr (es_))))))], [(oa_, .inr (4, [.int s0_, .int s1_, .int s2_]))]]) nn)) (va_Qv (fun (_ : Unit) => True) (PostW D vwCl (TY ca) (fun (_ : Unit) => (fl [[(la_, .inr (9, [.int mc_, .ref ea_, .int (nI (n_ + 1))]))], [(ea_, .inl (ca 3, cap_, .inr (.inr (.inr (.inr (va_up es_ n_ (some oa_)))))))], [(oa_, .inr (4, [.int s0_, .int s1_, .int s2_]))]])) (va_A (fl [[(la_, .inr (9, [.int mc_, .ref ea_, .int (nI n_)]))], [(ea_, .inl (ca 3, cap_, .inr (.inr (.inr (.inr (es_))))))], [(oa_, .inr (4, [.int s0_, .int s1_, .int s2_]))]]) nn)) (va_A (fl [[(la_, .inr (9, [.int mc_, .ref ea_, .int (nI n_)]))], [(ea_, .inl (ca 3, cap_, .inr (.inr (.inr (.inr (es_))))))], [(oa_, .inr (4, [.int s0_, .int s1_, .int s2_]))]]) nn)) 0 0 (va_A (fl [[(la_, .inr (9, [.int mc_, .ref ea_, .int (nI n_)]))], [(ea_, .inl (ca 3, cap_, .inr (.inr (.inr (.inr (es_))))))], [(oa_, .inr (4, [.int s0_, .int s1_, .int s2_]))]]) nn) := by
  refine met_go2 (QA := fun A => va_Qv (fun (_ : Unit) => True) (PostW D vwCl (TY ca) (fun (_ : Unit) => (fl [[(la_, .inr (9, [.int mc_, .ref ea_, .int (nI (n_ + 1))]))], [(ea_, .inl (ca 3, cap_, .inr (.inr (.inr (.inr (va_up es_ n_ (some oa_)))))))], [(oa_, .inr (4, [.int s0_, .int s1_, .int s2_]))]])) A) A) (by decide) (Nat.le_of_ble_eq_true rfl) (fun p e s m below meth c A ls QQ hQQ hmn hnm hx hb hr hts hown hlocks hml hA hP hK hD hE hl => ?_)
  have hown : s.vm.findClass RJ22 = some m.cls := hown
  have hS : va_S A s.heap s.heap [] := va_S.rf
  have hl : lv_has ls 4 [(0, .ref la_), (1, .ref oa_), (2, .ref ea_), (3, .int (nI n_))] := hl
  generalize hHe : s.heap = H at hP ⊢
  have hS : va_S A s.heap H [] := hHe ▸ hS
  generalize ([] : List Loc) = locs at hS ⊢
  refine lv_iload_n hx hb dJ22_add_2_0 rfl (lv_at hl 3 rfl) ?_
  refine lv_aload_n hx hb dJ22_add_2_1 rfl (lv_at hl 2 rfl) ?_
  refine va_alen hx hb hK hP 1 3 rfl rfl rfl dJ22_add_2_2 (lv_topi (nm_r (e' := nI cap_) rfl ?_))
  refine nv_icmp_ne (tgt := 11) hx hb dJ22_add_2_3 (by decide) (by omega) (by omega) (fun c_3 => ?_) (fun c_3 => absurd c_3 (by omega))
  refine lv_aload_n hx hb dJ22_add_2_11 rfl (lv_at hl 2 rfl) ?_
  refine lv_iload_n hx hb dJ22_add_2_12 rfl (lv_at hl 3 rfl) ?_
  refine lv_aload_n hx hb dJ22_add_2_13 rfl (lv_at hl 1 rfl) ?_
  refine nv_aast hx hb hK hP hD hS 1 3 2 4 rfl rfl (hE.1.1.1.1 _ q2073 rfl) rfl rfl (by omega) (by omega) dJ22_add_2_14 (fun H locs hP hD hS => ?_)
  have hP : va_P D vwCl (fl [[(la_, .inr (9, [.int mc_, .ref ea_, .int (nI n_)]))], [(ea_, .inl (ca 3, cap_, .inr (.inr (.inr (.inr (va_up es_ n_ (some oa_)))))))], [(oa_, .inr (4, [.int s0_, .int s1_, .int s2_]))]]) H := hP
  have hD : va_D A (fl [[(la_, .inr (9, [.int mc_, .ref ea_, .int (nI n_)]))], [(ea_, .inl (ca 3, cap_, .inr (.inr (.inr (.inr (va_up es_ n_ (some oa_)))))))], [(oa_, .inr (4, [.int s0_, .int s1_, .int s2_]))]]) := hD
  refine lv_aload_n hx hb dJ22_add_2_15 rfl (lv_at hl 0 rfl) ?_
  refine lv_iload_n hx hb dJ22_add_2_16 rfl (lv_at hl 3 rfl) ?_
  refine lv_iconst (v := nI 1) hx hb dJ22_add_2_17 (by decide) ?_
  refine nv_iadd hx hb dJ22_add_2_18 ?_
  refine va_put (D := D) (ci := 9) (v := .int (nI (n_ + 1))) (ty := .int) (C := RJ22) (T := TJ22) (N := 3) hx hb hts in_J22 tyJ22 tyJ22_ok nmJ22 hown hK hP hD hS 0 rfl rfl 2 (by decide) (hts _ q818) (fun _ h9 => h9) rfl (by decide +kernel) rfl rfl (Nat.le_of_ble_eq_true rfl) dJ22_add_2_19 (fun H locs hP hD hS => ?_)
  have hP : va_P D vwCl (fl [[(la_, .inr (9, [.int mc_, .ref ea_, .int (nI (n_ + 1))]))], [(ea_, .inl (ca 3, cap_, .inr (.inr (.inr (.inr (va_up es_ n_ (some oa_)))))))], [(oa_, .inr (4, [.int s0_, .int s1_, .int s2_]))]]) H := hP
  have hD : va_D A (fl [[(la_, .inr (9, [.int mc_, .ref ea_, .int (nI (n_ + 1))]))], [(ea_, .inl (ca 3, cap_, .inr (.inr (.inr (.inr (va_up es_ n_ (some oa_)))))))], [(oa_, .inr (4, [.int s0_, .int s1_, .int s2_]))]]) := hD
  subst hQQ
  exact xe_v () hx hb hr hlocks hK hP hD hS (trivial) dJ22_add_2_22
set_option maxHeartbeats 400000 in
set_option maxRecDepth 100000 in
theorem mt_J22_add_n (l : Launch) (D : va_G) (ca : Nat → ClassId) (la_ : Nat) (mc_ : Int32) (n_ : Nat) (cap_ : Nat) (ea_ : Nat) (es_ : Nat → Option Nat) (oa_ : Nat) (s0_ : Int32) (s1_ : Int32) (s2_ : Int32) (hn : n_ < cap_) (hcap : cap_ < 1000) (nn : Nat) : Met l yJ22_add (ws_ yJ22_add cJ22_add 2 (Option.some Jvm.ClassFile.FieldType.boolean)) ({ frames := 1, cells := 0, slots := 0, locals := 23 } : Room) (va_Pc [.ref la_, .ref oa_] (PreW EvL D vwCl (TY ca) (fl [[(la_, .inr (9, [.int mc_, .ref ea_, .int (nI n_)]))], [(ea_, .inl (ca 3, cap_, .inr (.inr (.inr (.inr (es_))))))], [(oa_, .inr (4, [.int s0_, .int s1_, .int s2_]))]]) nn)) (va_Qi (fun (r_ : Int32) (_ : Unit) => r_ = bI true) (PostW D vwCl (TY ca) (fun (_ : Unit) => (fl [[(la_, .inr (9, [.int (mc_ + nI 1), .ref ea_, .int (nI (n_ + 1))]))], [(ea_, .inl (ca 3, cap_, .inr (.inr (.inr (.inr (va_up es_ n_ (some oa_)))))))], [(oa_, .inr (4, [.int s0_, .int s1_, .int s2_]))]])) (va_A (fl [[(la_, .inr (9, [.int mc_, .ref ea_, .int (nI n_)]))], [(ea_, .inl (ca 3, cap_, .inr (.inr (.inr (.inr (es_))))))], [(oa_, .inr (4, [.int s0_, .int s1_, .int s2_]))]]) nn)) (va_A (fl [[(la_, .inr (9, [.int mc_, .ref ea_, .int (nI n_)]))], [(ea_, .inl (ca 3, cap_, .inr (.inr (.inr (.inr (es_))))))], [(oa_, .inr (4, [.int s0_, .int s1_, .int s2_]))]]) nn)) 0 0 (va_A (fl [[(la_, .inr (9, [.int mc_, .ref ea_, .int (nI n_)]))], [(ea_, .inl (ca 3, cap_, .inr (.inr (.inr (.inr (es_))))))], [(oa_, .inr (4, [.int s0_, .int s1_, .int s2_]))]]) nn) := by
  refine met_go2 (QA := fun A => va_Qi (fun (r_ : Int32) (_ : Unit) => r_ = bI true) (PostW D vwCl (TY ca) (fun (_ : Unit) => (fl [[(la_, .inr (9, [.int (mc_ + nI 1), .ref ea_, .int (nI (n_ + 1))]))], [(ea_, .inl (ca 3, cap_, .inr (.inr (.inr (.inr (va_up es_ n_ (some oa_)))))))], [(oa_, .inr (4, [.int s0_, .int s1_, .int s2_]))]])) A) A) (by decide) (Nat.le_of_ble_eq_true rfl) (fun p e s m below meth c A ls QQ hQQ hmn hnm hx hb hr hts hown hlocks hml hA hP hK hD hE hl => ?_)
  have hown : s.vm.findClass RJ22 = some m.cls := hown
  have hS : va_S A s.heap s.heap [] := va_S.rf
  have hl : lv_has ls 2 [(0, .ref la_), (1, .ref oa_)] := hl
  generalize hHe : s.heap = H at hP ⊢
  have hS : va_S A s.heap H [] := hHe ▸ hS
  generalize ([] : List Loc) = locs at hS ⊢
  refine lv_aload_n hx hb dJ22_add_0 rfl (lv_at hl 0 rfl) ?_
  refine lv_dup hx hb dJ22_add_1 rfl ?_
  refine va_get (D := D) (ci := 9) (v := .int mc_) (C := RJ22) (T := TJ22) (N := 3) hx hb hts in_J22 hown hK hP 0 rfl rfl 0 (by decide) (hts _ q820) (fun x9 h9 => u_same (hts _ q821) x9 h9) rfl dJ22_add_2 ?_
  refine lv_iconst (v := nI 1) hx hb dJ22_add_5 (by decide) ?_
  refine lv_iadd hx hb dJ22_add_6 ?_
  refine va_put (D := D) (ci := 9) (v := .int (mc_ + (nI 1))) (ty := .int) (C := RJ22) (T := TJ22) (N := 3) hx hb hts in_J22 tyJ22 tyJ22_ok nmJ22 hown hK hP hD hS 0 rfl rfl 0 (by decide) (hts _ q820) (fun x9 h9 => u_same (hts _ q821) x9 h9) rfl (by decide +kernel) rfl rfl (Nat.le_of_ble_eq_true rfl) dJ22_add_7 (fun H locs hP hD hS => ?_)
  have hP : va_P D vwCl (fl [[(la_, .inr (9, [.int (mc_ + (nI 1)), .ref ea_, .int (nI n_)]))], [(ea_, .inl (ca 3, cap_, .inr (.inr (.inr (.inr (es_))))))], [(oa_, .inr (4, [.int s0_, .int s1_, .int s2_]))]]) H := hP
  have hD : va_D A (fl [[(la_, .inr (9, [.int (mc_ + (nI 1)), .ref ea_, .int (nI n_)]))], [(ea_, .inl (ca 3, cap_, .inr (.inr (.inr (.inr (es_))))))], [(oa_, .inr (4, [.int s0_, .int s1_, .int s2_]))]]) := hD
  refine lv_aload_n hx hb dJ22_add_10 rfl (lv_at hl 0 rfl) ?_
  refine lv_aload_n hx hb dJ22_add_11 rfl (lv_at hl 1 rfl) ?_
  refine lv_aload_n hx hb dJ22_add_12 rfl (lv_at hl 0 rfl) ?_
  refine va_get (D := D) (ci := 9) (v := .ref ea_) (C := RJ22) (T := TJ22) (N := 3) hx hb hts in_J22 hown hK hP 0 rfl rfl 1 (by decide) (hts _ q817) (fun _ h9 => h9) rfl dJ22_add_13 ?_
  refine lv_aload_n hx hb dJ22_add_16 rfl (lv_at hl 0 rfl) ?_
  refine va_get (D := D) (ci := 9) (v := .int (nI n_)) (C := RJ22) (T := TJ22) (N := 3) hx hb hts in_J22 hown hK hP 0 rfl rfl 2 (by decide) (hts _ q818) (fun _ h9 => h9) rfl dJ22_add_17 ?_
  refine xc_v (xr_V (b := la_) (ci := 9) (q0 := 0) (As := [.ref oa_, .ref ea_, .int (nI n_)]) (rest := []) (mt_J22_add_2_n l D ca la_ (mc_ + (nI 1)) n_ cap_ ea_ es_ oa_ s0_ s1_ s2_ (by first | assumption | omega | (simp only [updN, forgetC, changedC]; (repeat' split) <;> omega)) (by first | assumption | omega | (simp only [updN, forgetC, changedC]; (repeat' split) <;> omega)) H.size) ⟨hx, hb, hml, hown, hts⟩ (cwV 3 hts (lw_V q961 q963 qs14 q107 q964) rfl rfl rfl (by decide +kernel) ⟨Nat.le_of_ble_eq_true rfl, Nat.le_of_ble_eq_true rfl⟩) EvL_ok hE hK hS (Cut.ch [[(la_, .inr (9, [.int (mc_ + (nI 1)), .ref ea_, .int (nI n_)]))], [(ea_, .inl (ca 3, cap_, .inr (.inr (.inr (.inr (es_))))))], [(oa_, .inr (4, [.int s0_, .int s1_, .int s2_]))]] [] hP hD hS hA) rfl rfl rfl hl.1 rfl (Nat.le_of_ble_eq_true rfl) dJ22_add_20 ⟨Nat.le_of_ble_eq_true rfl, Nat.le_of_ble_eq_true rfl⟩) hS (Cut.ch [[(la_, .inr (9, [.int (mc_ + (nI 1)), .ref ea_, .int (nI n_)]))], [(ea_, .inl (ca 3, cap_, .inr (.inr (.inr (.inr (es_))))))], [(oa_, .inr (4, [.int s0_, .int s1_, .int s2_]))]] [] hP hD hS hA) (fun u_2 H locs hq_20 hP hD hS => ?_)
  have hP : va_P D vwCl (fl [[(la_, .inr (9, [.int (mc_ + (nI 1)), .ref ea_, .int (nI (n_ + 1))]))], [(ea_, .inl (ca 3, cap_, .inr (.inr (.inr (.inr (va_up es_ n_ (some oa_)))))))], [(oa_, .inr (4, [.int s0_, .int s1_, .int s2_]))]]) H := fl_join [[(la_, .inr (9, [.int (mc_ + (nI 1)), .ref ea_, .int (nI (n_ + 1))]))], [(ea_, .inl (ca 3, cap_, .inr (.inr (.inr (.inr (va_up es_ n_ (some oa_)))))))], [(oa_, .inr (4, [.int s0_, .int s1_, .int s2_]))]] [] hP
  have hD : va_D A (fl [[(la_, .inr (9, [.int (mc_ + (nI 1)), .ref ea_, .int (nI (n_ + 1))]))], [(ea_, .inl (ca 3, cap_, .inr (.inr (.inr (.inr (va_up es_ n_ (some oa_)))))))], [(oa_, .inr (4, [.int s0_, .int s1_, .int s2_]))]]) := fl_joinD [[(la_, .inr (9, [.int (mc_ + (nI 1)), .ref ea_, .int (nI (n_ + 1))]))], [(ea_, .inl (ca 3, cap_, .inr (.inr (.inr (.inr (va_up es_ n_ (some oa_)))))))], [(oa_, .inr (4, [.int s0_, .int s1_, .int s2_]))]] [] hD
  refine lv_iconst (v := nI 1) hx hb dJ22_add_23 (by decide) ?_
  subst hQQ
  refine (xe_z (b := true) () hx hb hr hlocks hK hP hD hS (rfl) dJ22_add_24)
set_option maxHeartbeats 400000 in
set_option maxRecDepth 100000 in
theorem mt_J22_size (l : Launch) (D : va_G) (ca : Nat → ClassId) (la_ : Nat) (mc_ : Int32) (n_ : Nat) (cap_ : Nat) (ea_ : Nat) (es_ : Nat → Option Nat)  (nn : Nat) : Met l yJ22_size (ws_ yJ22_size cJ22_size 1 (Option.some Jvm.ClassFile.FieldType.int)) ({ frames := 0, cells := 0, slots := 0, locals := 0 } : Room) (va_Pc [.ref la_] (PreW Ev0 D vwCl (TY ca) (fl [[(la_, .inr (9, [.int mc_, .ref ea_, .int (nI n_)]))], [(ea_, .inl (ca 3, cap_, .inr (.inr (.inr (.inr (es_))))))]]) nn)) (va_Qi (fun (r_ : Int32) (_ : Unit) => r_ = nI n_) (PostW D vwCl (TY ca) (fun (_ : Unit) => (fl [[(la_, .inr (9, [.int mc_, .ref ea_, .int (nI n_)]))], [(ea_, .inl (ca 3, cap_, .inr (.inr (.inr (.inr (es_))))))]])) (va_A (fl [[(la_, .inr (9, [.int mc_, .ref ea_, .int (nI n_)]))], [(ea_, .inl (ca 3, cap_, .inr (.inr (.inr (.inr (es_))))))]]) nn)) (va_A (fl [[(la_, .inr (9, [.int mc_, .ref ea_, .int (nI n_)]))], [(ea_, .inl (ca 3, cap_, .inr (.inr (.inr (.inr (es_))))))]]) nn)) 0 0 (va_A (fl [[(la_, .inr (9, [.int mc_, .ref ea_, .int (nI n_)]))], [(ea_, .inl (ca 3, cap_, .inr (.inr (.inr (.inr (es_))))))]]) nn) := by
  refine met_go2 (QA := fun A => va_Qi (fun (r_ : Int32) (_ : Unit) => r_ = nI n_) (PostW D vwCl (TY ca) (fun (_ : Unit) => (fl [[(la_, .inr (9, [.int mc_, .ref ea_, .int (nI n_)]))], [(ea_, .inl (ca 3, cap_, .inr (.inr (.inr (.inr (es_))))))]])) A) A) (by decide) (Nat.le_of_ble_eq_true rfl) (fun p e s m below meth c A ls QQ hQQ hmn hnm hx hb hr hts hown hlocks hml hA hP hK hD hE hl => ?_)
  have hown : s.vm.findClass RJ22 = some m.cls := hown
  have hS : va_S A s.heap s.heap [] := va_S.rf
  have hl : lv_has ls 1 [(0, .ref la_)] := hl
  generalize hHe : s.heap = H at hP ⊢
  have hS : va_S A s.heap H [] := hHe ▸ hS
  generalize ([] : List Loc) = locs at hS ⊢
  refine lv_aload_n hx hb dJ22_size_0 rfl (lv_at hl 0 rfl) ?_
  refine va_get (D := D) (ci := 9) (v := .int (nI n_)) (C := RJ22) (T := TJ22) (N := 3) hx hb hts in_J22 hown hK hP 0 rfl rfl 2 (by decide) (hts _ q818) (fun _ h9 => h9) rfl dJ22_size_1 ?_
  subst hQQ
  exact xe_i (v := nI n_) () hx hb hr hlocks hK hP hD hS (rfl) dJ22_size_4
set_option maxHeartbeats 400000 in
set_option maxRecDepth 100000 in
theorem mt_J22_elementData (l : Launch) (D : va_G) (ca : Nat → ClassId) (la_ : Nat) (mc_ : Int32) (n_ : Nat) (cap_ : Nat) (ea_ : Nat) (es_ : Nat → Option Nat) (x_ : Nat) (i_ : Nat) (hi : i_ < n_) (hx_ : es_ i_ = some x_) (hn : n_ ≤ cap_) (hcap : cap_ < 1000) (nn : Nat) : Met l yJ22_elementData (ws_ yJ22_elementData cJ22_elementData 2 (Option.some (Jvm.ClassFile.FieldType.object "java/lang/Object"))) ({ frames := 0, cells := 0, slots := 0, locals := 0 } : Room) (va_Pc [.ref la_, .int (nI i_)] (PreW Ev0 D vwCl (TY ca) (fl [[(la_, .inr (9, [.int mc_, .ref ea_, .int (nI n_)]))], [(ea_, .inl (ca 3, cap_, .inr (.inr (.inr (.inr (es_))))))]]) nn)) (va_Qr (fun (u_ : Unit) => True) (fun (u_ : Unit) (r_ : Nat) (tS_ : State) => r_ = x_ ∧ PostW D vwCl (TY ca) (fun (u_ : Unit) => (fl [[(la_, .inr (9, [.int mc_, .ref ea_, .int (nI n_)]))], [(ea_, .inl (ca 3, cap_, .inr (.inr (.inr (.inr (es_))))))]])) (va_A (fl [[(la_, .inr (9, [.int mc_, .ref ea_, .int (nI n_)]))], [(ea_, .inl (ca 3, cap_, .inr (.inr (.inr (.inr (es_))))))]]) nn) u_ tS_) (va_A (fl [[(la_, .inr (9, [.int mc_, .ref ea_, .int (nI n_)]))], [(ea_, .inl (ca 3, cap_, .inr (.inr (.inr (.inr (es_))))))]]) nn)) 0 0 (va_A (fl [[(la_, .inr (9, [.int mc_, .ref ea_, .int (nI n_)]))], [(ea_, .inl (ca 3, cap_, .inr (.inr (.inr (.inr (es_))))))]]) nn) := by
  refine met_go2 (QA := fun A => va_Qr (fun (u_ : Unit) => True) (fun (u_ : Unit) (r_ : Nat) (tS_ : State) => r_ = x_ ∧ PostW D vwCl (TY ca) (fun (u_ : Unit) => (fl [[(la_, .inr (9, [.int mc_, .ref ea_, .int (nI n_)]))], [(ea_, .inl (ca 3, cap_, .inr (.inr (.inr (.inr (es_))))))]])) A u_ tS_) A) (by decide) (Nat.le_of_ble_eq_true rfl) (fun p e s m below meth c A ls QQ hQQ hmn hnm hx hb hr hts hown hlocks hml hA hP hK hD hE hl => ?_)
  have hown : s.vm.findClass RJ22 = some m.cls := hown
  have hS : va_S A s.heap s.heap [] := va_S.rf
  have hl : lv_has ls 2 [(0, .ref la_), (1, .int (nI i_))] := hl
  generalize hHe : s.heap = H at hP ⊢
  have hS : va_S A s.heap H [] := hHe ▸ hS
  generalize ([] : List Loc) = locs at hS ⊢
  refine lv_aload_n hx hb dJ22_elementData_0 rfl (lv_at hl 0 rfl) ?_
  refine va_get (D := D) (ci := 9) (v := .ref ea_) (C := RJ22) (T := TJ22) (N := 3) hx hb hts in_J22 hown hK hP 0 rfl rfl 1 (by decide) (hts _ q817) (fun _ h9 => h9) rfl dJ22_elementData_1 ?_
  refine lv_iload_n hx hb dJ22_elementData_4 rfl (lv_at hl 1 rfl) ?_
  refine nv_aald (x := x_) hx hb hK hP 1 3 rfl rfl (by omega) (by omega) (hx_) dJ22_elementData_5 ?_
  subst hQQ
  exact xe_r (ad := fun (u_ : Unit) => x_) () hx hb hr hlocks hK hP hD hS (trivial) dJ22_elementData_6
set_option maxHeartbeats 400000 in
set_option maxRecDepth 100000 in
theorem mt_J22_get (l : Launch) (D : va_G) (ca : Nat → ClassId) (la_ : Nat) (mc_ : Int32) (n_ : Nat) (cap_ : Nat) (ea_ : Nat) (es_ : Nat → Option Nat) (x_ : Nat) (i_ : Nat) (hi : i_ < n_) (hx_ : es_ i_ = some x_) (hn : n_ ≤ cap_) (hcap : cap_ < 1000) (nn : Nat) : Met l yJ22_get (ws_ yJ22_get cJ22_get 2 (Option.some (Jvm.ClassFile.FieldType.object "java/lang/Object"))) ({ frames := 2, cells := 0, slots := 0, locals := 43 } : Room) (va_Pc [.ref la_, .int (nI i_)] (PreW Ev0 D vwCl (TY ca) (fl [[(la_, .inr (9, [.int mc_, .ref ea_, .int (nI n_)]))], [(ea_, .inl (ca 3, cap_, .inr (.inr (.inr (.inr (es_))))))]]) nn)) (va_Qr (fun (u_ : Unit) => True) (fun (u_ : Unit) (r_ : Nat) (tS_ : State) => r_ = x_ ∧ PostW D vwCl (TY ca) (fun (u_ : Unit) => (fl [[(la_, .inr (9, [.int mc_, .ref ea_, .int (nI n_)]))], [(ea_, .inl (ca 3, cap_, .inr (.inr (.inr (.inr (es_))))))]])) (va_A (fl [[(la_, .inr (9, [.int mc_, .ref ea_, .int (nI n_)]))], [(ea_, .inl (ca 3, cap_, .inr (.inr (.inr (.inr (es_))))))]]) nn) u_ tS_) (va_A (fl [[(la_, .inr (9, [.int mc_, .ref ea_, .int (nI n_)]))], [(ea_, .inl (ca 3, cap_, .inr (.inr (.inr (.inr (es_))))))]]) nn)) 0 0 (va_A (fl [[(la_, .inr (9, [.int mc_, .ref ea_, .int (nI n_)]))], [(ea_, .inl (ca 3, cap_, .inr (.inr (.inr (.inr (es_))))))]]) nn) := by
  refine met_go2 (QA := fun A => va_Qr (fun (u_ : Unit) => True) (fun (u_ : Unit) (r_ : Nat) (tS_ : State) => r_ = x_ ∧ PostW D vwCl (TY ca) (fun (u_ : Unit) => (fl [[(la_, .inr (9, [.int mc_, .ref ea_, .int (nI n_)]))], [(ea_, .inl (ca 3, cap_, .inr (.inr (.inr (.inr (es_))))))]])) A u_ tS_) A) (by decide) (Nat.le_of_ble_eq_true rfl) (fun p e s m below meth c A ls QQ hQQ hmn hnm hx hb hr hts hown hlocks hml hA hP hK hD hE hl => ?_)
  have hown : s.vm.findClass RJ22 = some m.cls := hown
  have hS : va_S A s.heap s.heap [] := va_S.rf
  have hl : lv_has ls 2 [(0, .ref la_), (1, .int (nI i_))] := hl
  generalize hHe : s.heap = H at hP ⊢
  have hS : va_S A s.heap H [] := hHe ▸ hS
  generalize ([] : List Loc) = locs at hS ⊢
  refine lv_iload_n hx hb dJ22_get_0 rfl (lv_at hl 1 rfl) ?_
  refine lv_aload_n hx hb dJ22_get_1 rfl (lv_at hl 0 rfl) ?_
  refine va_get (D := D) (ci := 9) (v := .int (nI n_)) (C := RJ22) (T := TJ22) (N := 3) hx hb hts in_J22 hown hK hP 0 rfl rfl 2 (by decide) (hts _ q818) (fun _ h9 => h9) rfl dJ22_get_2 ?_
  refine xc_i (xr_S (As := [.int (nI i_), .int (nI n_)]) (rest := []) (mt_J25_checkIndex l D ca i_ n_ hi (by omega) H.size) ⟨hx, hb, hml, hown, hts⟩ (va_cwS 2 hts (lw_S q1383 q1384 q112 q1385) rfl rfl rfl (by decide +kernel) ⟨Nat.le_of_ble_eq_true rfl, Nat.le_of_ble_eq_true rfl⟩) Ev0_ok hE hK hS (Cut.app (wc := []) (wr := (fl [[(la_, .inr (9, [.int mc_, .ref ea_, .int (nI n_)]))], [(ea_, .inl (ca 3, cap_, .inr (.inr (.inr (.inr (es_))))))]])) hP hD hS hA) rfl hl.1 rfl (Nat.le_of_ble_eq_true rfl) dJ22_get_5 ⟨Nat.le_of_ble_eq_true rfl, Nat.le_of_ble_eq_true rfl⟩) hS (Cut.app (wc := []) (wr := (fl [[(la_, .inr (9, [.int mc_, .ref ea_, .int (nI n_)]))], [(ea_, .inl (ca 3, cap_, .inr (.inr (.inr (.inr (es_))))))]])) hP hD hS hA) (fun r_1 u_2 H locs hq_5 hP hD hS => ?_)
  have hP : va_P D vwCl (fl [[(la_, .inr (9, [.int mc_, .ref ea_, .int (nI n_)]))], [(ea_, .inl (ca 3, cap_, .inr (.inr (.inr (.inr (es_))))))]]) H := hP
  have hD : va_D A (fl [[(la_, .inr (9, [.int mc_, .ref ea_, .int (nI n_)]))], [(ea_, .inl (ca 3, cap_, .inr (.inr (.inr (.inr (es_))))))]]) := hD
  have hp_5 : r_1 = nI i_ := hq_5
  clear hq_5
  obtain rfl := hp_5
  refine lv_pop hx hb dJ22_get_8 rfl ?_
  refine lv_aload_n hx hb dJ22_get_9 rfl (lv_at hl 0 rfl) ?_
  refine lv_iload_n hx hb dJ22_get_10 rfl (lv_at hl 1 rfl) ?_
  refine xc_r (xr_V (b := la_) (ci := 9) (q0 := 0) (As := [.int (nI i_)]) (rest := []) (mt_J22_elementData l D ca la_ mc_ n_ cap_ ea_ es_ x_ i_ (by first | assumption | omega | (simp only [updN, forgetC, changedC]; (repeat' split) <;> omega)) (by first | assumption | omega | (simp only [updN, forgetC, changedC]; (repeat' split) <;> omega)) (by first | assumption | omega | (simp only [updN, forgetC, changedC]; (repeat' split) <;> omega)) (by first | assumption | omega | (simp only [updN, forgetC, changedC]; (repeat' split) <;> omega)) H.size) ⟨hx, hb, hml, hown, hts⟩ (cwV 1 hts (lw_V q1387 q1388 q1389 q107 q1390) rfl rfl rfl (by decide +kernel) ⟨Nat.le_of_ble_eq_true rfl, Nat.le_of_ble_eq_true rfl⟩) Ev0_ok hE hK hS (Cut.ch [[(la_, .inr (9, [.int mc_, .ref ea_, .int (nI n_)]))], [(ea_, .inl (ca 3, cap_, .inr (.inr (.inr (.inr (es_))))))]] [] hP hD hS hA) rfl rfl rfl hl.1 rfl (Nat.le_of_ble_eq_true rfl) dJ22_get_11 ⟨Nat.le_of_ble_eq_true rfl, Nat.le_of_ble_eq_true rfl⟩) hS (Cut.ch [[(la_, .inr (9, [.int mc_, .ref ea_, .int (nI n_)]))], [(ea_, .inl (ca 3, cap_, .inr (.inr (.inr (.inr (es_))))))]] [] hP hD hS hA) (fun u_4 H locs hq_11 hP hD hS => ?_)
  have hP : va_P D vwCl (fl [[(la_, .inr (9, [.int mc_, .ref ea_, .int (nI n_)]))], [(ea_, .inl (ca 3, cap_, .inr (.inr (.inr (.inr (es_))))))]]) H := fl_join [[(la_, .inr (9, [.int mc_, .ref ea_, .int (nI n_)]))], [(ea_, .inl (ca 3, cap_, .inr (.inr (.inr (.inr (es_))))))]] [] hP
  have hD : va_D A (fl [[(la_, .inr (9, [.int mc_, .ref ea_, .int (nI n_)]))], [(ea_, .inl (ca 3, cap_, .inr (.inr (.inr (.inr (es_))))))]]) := fl_joinD [[(la_, .inr (9, [.int mc_, .ref ea_, .int (nI n_)]))], [(ea_, .inl (ca 3, cap_, .inr (.inr (.inr (.inr (es_))))))]] [] hD
  subst hQQ
  exact xe_r (ad := fun (u_ : Unit) => x_) () hx hb hr hlocks hK hP hD hS (trivial) dJ22_get_14
