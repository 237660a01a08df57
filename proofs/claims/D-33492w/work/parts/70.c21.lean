/-! the deque of saved circuits -/
set_option maxRecDepth 100000
set_option maxHeartbeats 400000 in
set_option maxRecDepth 100000 in
theorem mt_J1_inc (l : Launch) (D : va_G) (ca : Nat → ClassId) (i_ : Nat) (hi : i_ < 17) (nn : Nat) : Met l yJ1_inc (ws_ yJ1_inc cJ1_inc 2 (Option.some Jvm.ClassFile.FieldType.int)) ({ frames := 0, cells := 0, slots := 0, locals := 0 } : Room) (va_Pc [.int (nI i_), .int (nI 17)] (PreW Ev0 D vwCl (TY ca) (fl []) nn)) (va_Qi (fun (r_ : Int32) (_ : Unit) => r_ = nI ((i_ + 1) % 17)) (PostW D vwCl (TY ca) (fun (_ : Unit) => (fl [])) (va_A (fl []) nn)) (va_A (fl []) nn)) 0 0 (va_A (fl []) nn) := by
  refine met_go2 (QA := fun A => va_Qi (fun (r_ : Int32) (_ : Unit) => r_ = nI ((i_ + 1) % 17)) (PostW D vwCl (TY ca) (fun (_ : Unit) => (fl [])) A) A) (by decide) (Nat.le_of_ble_eq_true rfl) (fun p e s m below meth c A ls QQ hQQ hmn hnm hx hb hr hts hown hlocks hml hA hP hK hD hE hl => ?_)
  have hown : s.vm.findClass RJ1 = some m.cls := hown
  have hS : va_S A s.heap s.heap [] := va_S.rf
  have hl : lv_has ls 2 [(0, .int (nI i_)), (1, .int (nI 17))] := hl
  generalize hHe : s.heap = H at hP ⊢
  have hS : va_S A s.heap H [] := hHe ▸ hS
  generalize ([] : List Loc) = locs at hS ⊢
  refine lv_iinc (v := nI (i_ + 1)) (lv' := [(0, .int (nI (i_ + 1))), (1, .int (nI 17))]) hx hb dJ1_inc_0 hl (k := 0) rfl (nI_add i_ 1) (by decide) rfl (fun ls hl => ?_)
  refine lv_iload_n hx hb dJ1_inc_3 rfl (lv_at hl 0 rfl) ?_
  refine lv_iload_n hx hb dJ1_inc_4 rfl (lv_at hl 1 rfl) ?_
  refine nv_icmp_lt (tgt := 10) hx hb dJ1_inc_5 (by decide) (by omega) (by omega) (fun c_5 => ?_) (fun c_5 => ?_)
  · skip
    have hl : lv_has ls 2 [(0, .int (nI ((i_ + 1) % 17))), (1, .int (nI 17))] := (congrArg (fun x_ => lv_has ls 2 [(0, .int x_), (1, .int (nI 17))]) (show nI (i_ + 1) = nI ((i_ + 1) % 17) from congrArg nI (by omega))).mp hl
    refine lv_iload_n hx hb dJ1_inc_10 rfl (lv_at hl 0 rfl) ?_
    subst hQQ
    exact xe_i (v := nI ((i_ + 1) % 17)) () hx hb hr hlocks hK hP hD hS (rfl) dJ1_inc_11
  · skip
    refine lv_iconst (v := nI 0) hx hb dJ1_inc_8 (by decide) ?_
    refine lv_istore_n (lv' := [(0, .int (nI 0)), (1, .int (nI 17))]) hx hb dJ1_inc_9 rfl hl (by decide) rfl (fun ls hl => ?_)
    refine lv_iload_n hx hb dJ1_inc_10 rfl (lv_at hl 0 rfl) ?_
    subst hQQ
    exact xe_i (v := nI 0) () hx hb hr hlocks hK hP hD hS (congrArg nI (by omega)) dJ1_inc_11
set_option maxHeartbeats 400000 in
set_option maxRecDepth 100000 in
theorem mt_J1_dec (l : Launch) (D : va_G) (ca : Nat → ClassId) (i_ : Nat) (hi : i_ < 17) (nn : Nat) : Met l yJ1_dec (ws_ yJ1_dec cJ1_dec 2 (Option.some Jvm.ClassFile.FieldType.int)) ({ frames := 0, cells := 0, slots := 0, locals := 0 } : Room) (va_Pc [.int (nI i_), .int (nI 17)] (PreW Ev0 D vwCl (TY ca) (fl []) nn)) (va_Qi (fun (r_ : Int32) (_ : Unit) => r_ = nI ((i_ + 16) % 17)) (PostW D vwCl (TY ca) (fun (_ : Unit) => (fl [])) (va_A (fl []) nn)) (va_A (fl []) nn)) 0 0 (va_A (fl []) nn) := by
  refine met_go2 (QA := fun A => va_Qi (fun (r_ : Int32) (_ : Unit) => r_ = nI ((i_ + 16) % 17)) (PostW D vwCl (TY ca) (fun (_ : Unit) => (fl [])) A) A) (by decide) (Nat.le_of_ble_eq_true rfl) (fun p e s m below meth c A ls QQ hQQ hmn hnm hx hb hr hts hown hlocks hml hA hP hK hD hE hl => ?_)
  have hown : s.vm.findClass RJ1 = some m.cls := hown
  have hS : va_S A s.heap s.heap [] := va_S.rf
  have hl : lv_has ls 2 [(0, .int (nI i_)), (1, .int (nI 17))] := hl
  generalize hHe : s.heap = H at hP ⊢
  have hS : va_S A s.heap H [] := hHe ▸ hS
  generalize ([] : List Loc) = locs at hS ⊢
  refine lv_iinc (v := fI i_) (lv' := [(0, .int (fI i_)), (1, .int (nI 17))]) hx hb dJ1_dec_0 hl (k := 0) rfl (nI_m1 i_) (by decide) rfl (fun ls hl => ?_)
  refine lv_iload_n hx hb dJ1_dec_3 rfl (lv_at hl 0 rfl) ?_
  refine lv_if_ge (tgt := 11) hx hb dJ1_dec_4 (by decide) (fun c_4 => ?_) (fun c_4 => ?_)
  · skip
    have z_ := (fI_ge0 (by omega)).mp c_4
    have hl : lv_has ls 2 [(0, .int (nI ((i_ + 16) % 17))), (1, .int (nI 17))] := (congrArg (fun x_ => lv_has ls 2 [(0, .int x_), (1, .int (nI 17))]) (show fI i_ = nI ((i_ + 16) % 17) from (fI_pos z_).trans (congrArg nI (by omega)))).mp hl
    refine lv_iload_n hx hb dJ1_dec_11 rfl (lv_at hl 0 rfl) ?_
    subst hQQ
    exact xe_i (v := nI ((i_ + 16) % 17)) () hx hb hr hlocks hK hP hD hS (rfl) dJ1_dec_12
  · skip
    have z_ : i_ = 0 := Classical.byContradiction fun q_ => c_4 ((fI_ge0 (by omega)).mpr q_)
    refine lv_iload_n hx hb dJ1_dec_7 rfl (lv_at hl 1 rfl) ?_
    refine lv_iconst (v := nI 1) hx hb dJ1_dec_8 (by decide) ?_
    refine lv_isub hx hb dJ1_dec_9 (lv_topi (nm_r (e' := nI 16) (by decide) ?_))
    refine lv_istore_n (lv' := [(0, .int (nI 16)), (1, .int (nI 17))]) hx hb dJ1_dec_10 rfl hl (by decide) rfl (fun ls hl => ?_)
    refine lv_iload_n hx hb dJ1_dec_11 rfl (lv_at hl 0 rfl) ?_
    subst hQQ
    exact xe_i (v := nI 16) () hx hb hr hlocks hK hP hD hS (congrArg nI (by omega)) dJ1_dec_12
set_option maxHeartbeats 400000 in
set_option maxRecDepth 100000 in
theorem mt_J1_sub (l : Launch) (D : va_G) (ca : Nat → ClassId) (n_ : Nat) (t_ : Nat) (h_ : Nat) (hh : h_ < 17) (hn : n_ < 17) (ht : t_ = (h_ + n_) % 17) (nn : Nat) : Met l yJ1_sub (ws_ yJ1_sub cJ1_sub 3 (Option.some Jvm.ClassFile.FieldType.int)) ({ frames := 0, cells := 0, slots := 0, locals := 0 } : Room) (va_Pc [.int (nI t_), .int (nI h_), .int (nI 17)] (PreW Ev0 D vwCl (TY ca) (fl []) nn)) (va_Qi (fun (r_ : Int32) (_ : Unit) => r_ = nI n_) (PostW D vwCl (TY ca) (fun (_ : Unit) => (fl [])) (va_A (fl []) nn)) (va_A (fl []) nn)) 0 0 (va_A (fl []) nn) := by
  refine met_go2 (QA := fun A => va_Qi (fun (r_ : Int32) (_ : Unit) => r_ = nI n_) (PostW D vwCl (TY ca) (fun (_ : Unit) => (fl [])) A) A) (by decide) (Nat.le_of_ble_eq_true rfl) (fun p e s m below meth c A ls QQ hQQ hmn hnm hx hb hr hts hown hlocks hml hA hP hK hD hE hl => ?_)
  have hown : s.vm.findClass RJ1 = some m.cls := hown
  have hS : va_S A s.heap s.heap [] := va_S.rf
  have hl : lv_has ls 3 [(0, .int (nI t_)), (1, .int (nI h_)), (2, .int (nI 17))] := hl
  generalize hHe : s.heap = H at hP ⊢
  have hS : va_S A s.heap H [] := hHe ▸ hS
  generalize ([] : List Loc) = locs at hS ⊢
  refine lv_iload_n hx hb dJ1_sub_0 rfl (lv_at hl 0 rfl) ?_
  refine lv_iload_n hx hb dJ1_sub_1 rfl (lv_at hl 1 rfl) ?_
  refine lv_isub hx hb dJ1_sub_2 ?_
  refine lv_dup hx hb dJ1_sub_3 rfl ?_
  refine lv_istore_n (lv' := [(0, .int ((nI t_) - (nI h_))), (1, .int (nI h_)), (2, .int (nI 17))]) hx hb dJ1_sub_4 rfl hl (by decide) rfl (fun ls hl => ?_)
  refine lv_if_ge (tgt := 12) hx hb dJ1_sub_5 (by decide) (fun c_5 => ?_) (fun c_5 => ?_)
  · skip
    have hl : lv_has ls 3 [(0, .int (nI n_)), (1, .int (nI h_)), (2, .int (nI 17))] := (congrArg (fun x_ => lv_has ls 3 [(0, .int x_), (1, .int (nI h_)), (2, .int (nI 17))]) (show (nI t_) - (nI h_) = nI n_ from dq_sub hh hn ht (Int32.not_lt.mpr c_5))).mp hl
    refine lv_iload_n hx hb dJ1_sub_12 rfl (lv_at hl 0 rfl) ?_
    subst hQQ
    exact xe_i (v := nI n_) () hx hb hr hlocks hK hP hD hS (rfl) dJ1_sub_13
  · skip
    refine lv_iload_n hx hb dJ1_sub_8 rfl (lv_at hl 0 rfl) ?_
    refine lv_iload_n hx hb dJ1_sub_9 rfl (lv_at hl 2 rfl) ?_
    refine lv_iadd hx hb dJ1_sub_10 ?_
    refine lv_topi (nm_r (e' := nI n_) (dq_sub2 hh hn ht (Int32.not_le.mp c_5)) ?_)
    refine lv_istore_n (lv' := [(0, .int (nI n_)), (1, .int (nI h_)), (2, .int (nI 17))]) hx hb dJ1_sub_11 rfl hl (by decide) rfl (fun ls hl => ?_)
    refine lv_iload_n hx hb dJ1_sub_12 rfl (lv_at hl 0 rfl) ?_
    subst hQQ
    exact xe_i (v := nI n_) () hx hb hr hlocks hK hP hD hS (rfl) dJ1_sub_13
set_option maxHeartbeats 400000 in
set_option maxRecDepth 100000 in
theorem mt_J1_elementAt (l : Launch) (D : va_G) (ca : Nat → ClassId) (e_ : Nat) (f_ : Nat → Option Nat) (x_ : Nat) (i_ : Nat) (hi : i_ < 17) (hx_ : f_ i_ = some x_) (nn : Nat) : Met l yJ1_elementAt (ws_ yJ1_elementAt cJ1_elementAt 2 (Option.some (Jvm.ClassFile.FieldType.object "java/lang/Object"))) ({ frames := 0, cells := 0, slots := 0, locals := 0 } : Room) (va_Pc [.ref e_, .int (nI i_)] (PreW Ev0 D vwCl (TY ca) (fl [[(e_, .inl (ca 3, 17, .inr (.inr (.inr (.inr (f_))))))]]) nn)) (va_Qr (fun (u_ : Unit) => True) (fun (u_ : Unit) (r_ : Nat) (t_ : State) => r_ = x_ ∧ PostW D vwCl (TY ca) (fun (u_ : Unit) => (fl [[(e_, .inl (ca 3, 17, .inr (.inr (.inr (.inr (f_))))))]])) (va_A (fl [[(e_, .inl (ca 3, 17, .inr (.inr (.inr (.inr (f_))))))]]) nn) u_ t_) (va_A (fl [[(e_, .inl (ca 3, 17, .inr (.inr (.inr (.inr (f_))))))]]) nn)) 0 0 (va_A (fl [[(e_, .inl (ca 3, 17, .inr (.inr (.inr (.inr (f_))))))]]) nn) := by
  refine met_go2 (QA := fun A => va_Qr (fun (u_ : Unit) => True) (fun (u_ : Unit) (r_ : Nat) (t_ : State) => r_ = x_ ∧ PostW D vwCl (TY ca) (fun (u_ : Unit) => (fl [[(e_, .inl (ca 3, 17, .inr (.inr (.inr (.inr (f_))))))]])) A u_ t_) A) (by decide) (Nat.le_of_ble_eq_true rfl) (fun p e s m below meth c A ls QQ hQQ hmn hnm hx hb hr hts hown hlocks hml hA hP hK hD hE hl => ?_)
  have hown : s.vm.findClass RJ1 = some m.cls := hown
  have hS : va_S A s.heap s.heap [] := va_S.rf
  have hl : lv_has ls 2 [(0, .ref e_), (1, .int (nI i_))] := hl
  generalize hHe : s.heap = H at hP ⊢
  have hS : va_S A s.heap H [] := hHe ▸ hS
  generalize ([] : List Loc) = locs at hS ⊢
  refine lv_aload_n hx hb dJ1_elementAt_0 rfl (lv_at hl 0 rfl) ?_
  refine lv_iload_n hx hb dJ1_elementAt_1 rfl (lv_at hl 1 rfl) ?_
  refine nv_aald (x := x_) hx hb hK hP 0 3 rfl rfl (by omega) (by decide) (hx_) dJ1_elementAt_2 ?_
  subst hQQ
  exact xe_r (ad := fun (u_ : Unit) => x_) () hx hb hr hlocks hK hP hD hS (trivial) dJ1_elementAt_3
set_option maxHeartbeats 400000 in
set_option maxRecDepth 100000 in
theorem mt_J1_size (l : Launch) (D : va_G) (ca : Nat → ClassId) (xq : Nat → Nat) (hd_ : Nat) (tl_ : Nat) (es_ : Nat → Option Nat) (as_ : List Nat) (hq : DqOk es_ hd_ tl_ as_) (nn : Nat) : Met l yJ1_size (ws_ yJ1_size cJ1_size 1 (Option.some Jvm.ClassFile.FieldType.int)) ({ frames := 1, cells := 0, slots := 0, locals := 22 } : Room) (va_Pc [.ref (xq 8)] (PreW EvX D vwCl (TY ca) (fl [[(xq 8, .inr (7, [.ref (xq 10), .int (nI hd_), .int (nI tl_)]))], [(xq 10, .inl (ca 3, 17, .inr (.inr (.inr (.inr (es_))))))]]) nn)) (va_Qi (fun (r_ : Int32) (_ : Unit) => r_ = nI as_.length) (PostW D vwCl (TY ca) (fun (_ : Unit) => (fl [[(xq 8, .inr (7, [.ref (xq 10), .int (nI hd_), .int (nI tl_)]))], [(xq 10, .inl (ca 3, 17, .inr (.inr (.inr (.inr (es_))))))]])) (va_A (fl [[(xq 8, .inr (7, [.ref (xq 10), .int (nI hd_), .int (nI tl_)]))], [(xq 10, .inl (ca 3, 17, .inr (.inr (.inr (.inr (es_))))))]]) nn)) (va_A (fl [[(xq 8, .inr (7, [.ref (xq 10), .int (nI hd_), .int (nI tl_)]))], [(xq 10, .inl (ca 3, 17, .inr (.inr (.inr (.inr (es_))))))]]) nn)) 0 0 (va_A (fl [[(xq 8, .inr (7, [.ref (xq 10), .int (nI hd_), .int (nI tl_)]))], [(xq 10, .inl (ca 3, 17, .inr (.inr (.inr (.inr (es_))))))]]) nn) := by
  refine met_go2 (QA := fun A => va_Qi (fun (r_ : Int32) (_ : Unit) => r_ = nI as_.length) (PostW D vwCl (TY ca) (fun (_ : Unit) => (fl [[(xq 8, .inr (7, [.ref (xq 10), .int (nI hd_), .int (nI tl_)]))], [(xq 10, .inl (ca 3, 17, .inr (.inr (.inr (.inr (es_))))))]])) A) A) (by decide) (Nat.le_of_ble_eq_true rfl) (fun p e s m below meth c A ls QQ hQQ hmn hnm hx hb hr hts hown hlocks hml hA hP hK hD hE hl => ?_)
  have hown : s.vm.findClass RJ1 = some m.cls := hown
  have hS : va_S A s.heap s.heap [] := va_S.rf
  have hl : lv_has ls 1 [(0, .ref (xq 8))] := hl
  generalize hHe : s.heap = H at hP ⊢
  have hS : va_S A s.heap H [] := hHe ▸ hS
  generalize ([] : List Loc) = locs at hS ⊢
  have hq2 := dq_tl hq
  refine lv_aload_n hx hb dJ1_size_0 rfl (lv_at hl 0 rfl) ?_
  refine va_get (D := D) (ci := 7) (v := .int (nI tl_)) (C := RJ1) (T := TJ1) (N := 3) hx hb hts in_J1 hown hK hP 0 rfl rfl 2 (by decide) (hts _ q191) (fun _ h9 => h9) rfl dJ1_size_1 ?_
  refine lv_aload_n hx hb dJ1_size_4 rfl (lv_at hl 0 rfl) ?_
  refine va_get (D := D) (ci := 7) (v := .int (nI hd_)) (C := RJ1) (T := TJ1) (N := 3) hx hb hts in_J1 hown hK hP 0 rfl rfl 1 (by decide) (hts _ q190) (fun _ h9 => h9) rfl dJ1_size_5 ?_
  refine lv_aload_n hx hb dJ1_size_8 rfl (lv_at hl 0 rfl) ?_
  refine va_get (D := D) (ci := 7) (v := .ref (xq 10)) (C := RJ1) (T := TJ1) (N := 3) hx hb hts in_J1 hown hK hP 0 rfl rfl 0 (by decide) (hts _ q189) (fun _ h9 => h9) rfl dJ1_size_9 ?_
  refine va_alen hx hb hK hP 1 3 rfl rfl rfl dJ1_size_12 (lv_topi (nm_r (e' := nI 17) rfl ?_))
  refine xc_i (xr_S (As := [.int (nI tl_), .int (nI hd_), .int (nI 17)]) (rest := []) (mt_J1_sub l D ca as_.length tl_ hd_ hq2.1 (by omega) hq2.2.2.1 H.size) ⟨hx, hb, hml, hown, hts⟩ (va_cwS 3 hts (lw_S q283 q284 q82 q285) rfl rfl rfl (by decide +kernel) ⟨Nat.le_of_ble_eq_true rfl, Nat.le_of_ble_eq_true rfl⟩) Ev0_ok trivial hK hS (Cut.app (wc := []) (wr := (fl [[(xq 8, .inr (7, [.ref (xq 10), .int (nI hd_), .int (nI tl_)]))], [(xq 10, .inl (ca 3, 17, .inr (.inr (.inr (.inr (es_))))))]])) hP hD hS hA) rfl hl.1 rfl (Nat.le_of_ble_eq_true rfl) dJ1_size_13 ⟨Nat.le_of_ble_eq_true rfl, Nat.le_of_ble_eq_true rfl⟩) hS (Cut.app (wc := []) (wr := (fl [[(xq 8, .inr (7, [.ref (xq 10), .int (nI hd_), .int (nI tl_)]))], [(xq 10, .inl (ca 3, 17, .inr (.inr (.inr (.inr (es_))))))]])) hP hD hS hA) (fun r_1 u_2 H locs hq_13 hP hD hS => ?_)
  have hP : va_P D vwCl (fl [[(xq 8, .inr (7, [.ref (xq 10), .int (nI hd_), .int (nI tl_)]))], [(xq 10, .inl (ca 3, 17, .inr (.inr (.inr (.inr (es_))))))]]) H := hP
  have hD : va_D A (fl [[(xq 8, .inr (7, [.ref (xq 10), .int (nI hd_), .int (nI tl_)]))], [(xq 10, .inl (ca 3, 17, .inr (.inr (.inr (.inr (es_))))))]]) := hD
  have hp_13 : r_1 = nI as_.length := hq_13
  clear hq_13
  obtain rfl := hp_13
  subst hQQ
  exact xe_i (v := nI as_.length) () hx hb hr hlocks hK hP hD hS (rfl) dJ1_size_16
set_option maxHeartbeats 400000 in
set_option maxRecDepth 100000 in
theorem mt_J1_isEmpty (l : Launch) (D : va_G) (ca : Nat → ClassId) (xq : Nat → Nat) (hd_ : Nat) (tl_ : Nat) (es_ : Nat → Option Nat) (as_ : List Nat) (hq : DqOk es_ hd_ tl_ as_) (nn : Nat) : Met l yJ1_isEmpty (ws_ yJ1_isEmpty cJ1_isEmpty 1 (Option.some Jvm.ClassFile.FieldType.boolean)) ({ frames := 0, cells := 0, slots := 0, locals := 0 } : Room) (va_Pc [.ref (xq 8)] (PreW EvX D vwCl (TY ca) (fl [[(xq 8, .inr (7, [.ref (xq 10), .int (nI hd_), .int (nI tl_)]))], [(xq 10, .inl (ca 3, 17, .inr (.inr (.inr (.inr (es_))))))]]) nn)) (va_Qi (fun (r_ : Int32) (_ : Unit) => r_ = bI (decide (as_.length = 0))) (PostW D vwCl (TY ca) (fun (_ : Unit) => (fl [[(xq 8, .inr (7, [.ref (xq 10), .int (nI hd_), .int (nI tl_)]))], [(xq 10, .inl (ca 3, 17, .inr (.inr (.inr (.inr (es_))))))]])) (va_A (fl [[(xq 8, .inr (7, [.ref (xq 10), .int (nI hd_), .int (nI tl_)]))], [(xq 10, .inl (ca 3, 17, .inr (.inr (.inr (.inr (es_))))))]]) nn)) (va_A (fl [[(xq 8, .inr (7, [.ref (xq 10), .int (nI hd_), .int (nI tl_)]))], [(xq 10, .inl (ca 3, 17, .inr (.inr (.inr (.inr (es_))))))]]) nn)) 0 0 (va_A (fl [[(xq 8, .inr (7, [.ref (xq 10), .int (nI hd_), .int (nI tl_)]))], [(xq 10, .inl (ca 3, 17, .inr (.inr (.inr (.inr (es_))))))]]) nn) := by
  refine met_go2 (QA := fun A => va_Qi (fun (r_ : Int32) (_ : Unit) => r_ = bI (decide (as_.length = 0))) (PostW D vwCl (TY ca) (fun (_ : Unit) => (fl [[(xq 8, .inr (7, [.ref (xq 10), .int (nI hd_), .int (nI tl_)]))], [(xq 10, .inl (ca 3, 17, .inr (.inr (.inr (.inr (es_))))))]])) A) A) (by decide) (Nat.le_of_ble_eq_true rfl) (fun p e s m below meth c A ls QQ hQQ hmn hnm hx hb hr hts hown hlocks hml hA hP hK hD hE hl => ?_)
  have hown : s.vm.findClass RJ1 = some m.cls := hown
  have hS : va_S A s.heap s.heap [] := va_S.rf
  have hl : lv_has ls 1 [(0, .ref (xq 8))] := hl
  generalize hHe : s.heap = H at hP ⊢
  have hS : va_S A s.heap H [] := hHe ▸ hS
  generalize ([] : List Loc) = locs at hS ⊢
  have hq2 := dq_tl hq
  refine lv_aload_n hx hb dJ1_isEmpty_0 rfl (lv_at hl 0 rfl) ?_
  refine va_get (D := D) (ci := 7) (v := .int (nI hd_)) (C := RJ1) (T := TJ1) (N := 3) hx hb hts in_J1 hown hK hP 0 rfl rfl 1 (by decide) (hts _ q190) (fun _ h9 => h9) rfl dJ1_isEmpty_1 ?_
  refine lv_aload_n hx hb dJ1_isEmpty_4 rfl (lv_at hl 0 rfl) ?_
  refine va_get (D := D) (ci := 7) (v := .int (nI tl_)) (C := RJ1) (T := TJ1) (N := 3) hx hb hts in_J1 hown hK hP 0 rfl rfl 2 (by decide) (hts _ q191) (fun _ h9 => h9) rfl dJ1_isEmpty_5 ?_
  refine nv_icmp_ne (tgt := 15) hx hb dJ1_isEmpty_8 (by decide) (by omega) (by omega) (fun c_8 => ?_) (fun c_8 => ?_)
  · skip
    refine lv_iconst (v := nI 0) hx hb dJ1_isEmpty_15 (by decide) ?_
    subst hQQ
    refine (xe_z (b := false) () hx hb hr hlocks hK hP hD hS (congrArg bI (decide_eq_false (by omega)).symm) dJ1_isEmpty_16)
  · skip
    refine lv_iconst (v := nI 1) hx hb dJ1_isEmpty_11 (by decide) ?_
    refine lv_goto (tgt := 16) hx hb dJ1_isEmpty_12 (by decide) ?_
    subst hQQ
    refine (xe_z (b := true) () hx hb hr hlocks hK hP hD hS (congrArg bI (decide_eq_true (by omega)).symm) dJ1_isEmpty_16)
set_option maxHeartbeats 400000 in
set_option maxRecDepth 100000 in
theorem mt_J1_addLast (l : Launch) (D : va_G) (ca : Nat → ClassId) (cq : Nat → Nat) (kd : Nat → Int32) (fs : Nat → Int32) (sn : Nat → Int32) (ak : Nat → Int32) (ga : Int32) (ot : Int32) (bx : Int32) (se : Int32) (su : Int32) (ch : Int64) (ad : Int32) (xq : Nat → Nat) (hd_ : Nat) (tl_ : Nat) (es_ : Nat → Option Nat) (as_ : List Nat) (hq : DqOk es_ hd_ tl_ as_) (h5 : as_.length ≤ 5) (nn : Nat) : Met l yJ1_addLast (ws_ yJ1_addLast cJ1_addLast 3 (Option.none : Option Jvm.ClassFile.FieldType)) ({ frames := 1, cells := 0, slots := 0, locals := 21 } : Room) (va_Pc [.ref (xq 8), .ref (cq 0)] (PreW EvX D vwCl (TY ca) (fl [[(xq 8, .inr (7, [.ref (xq 10), .int (nI hd_), .int (nI tl_)]))], [(xq 10, .inl (ca 3, 17, .inr (.inr (.inr (.inr (es_))))))], (WC ca cq kd fs sn ak ga ot bx se su ch ad)]) nn)) (va_Qv (fun (_ : Unit) => True) (PostW D vwCl (TY ca) (fun (_ : Unit) => (fl [[(xq 8, .inr (7, [.ref (xq 10), .int (nI hd_), .int (nI ((tl_ + 1) % 17))]))], [(xq 10, .inl (ca 3, 17, .inr (.inr (.inr (.inr (va_up es_ tl_ (some (cq 0))))))))], (WC ca cq kd fs sn ak ga ot bx se su ch ad)])) (va_A (fl [[(xq 8, .inr (7, [.ref (xq 10), .int (nI hd_), .int (nI tl_)]))], [(xq 10, .inl (ca 3, 17, .inr (.inr (.inr (.inr (es_))))))], (WC ca cq kd fs sn ak ga ot bx se su ch ad)]) nn)) (va_A (fl [[(xq 8, .inr (7, [.ref (xq 10), .int (nI hd_), .int (nI tl_)]))], [(xq 10, .inl (ca 3, 17, .inr (.inr (.inr (.inr (es_))))))], (WC ca cq kd fs sn ak ga ot bx se su ch ad)]) nn)) 0 0 (va_A (fl [[(xq 8, .inr (7, [.ref (xq 10), .int (nI hd_), .int (nI tl_)]))], [(xq 10, .inl (ca 3, 17, .inr (.inr (.inr (.inr (es_))))))], (WC ca cq kd fs sn ak ga ot bx se su ch ad)]) nn) := by
  refine met_go2 (QA := fun A => va_Qv (fun (_ : Unit) => True) (PostW D vwCl (TY ca) (fun (_ : Unit) => (fl [[(xq 8, .inr (7, [.ref (xq 10), .int (nI hd_), .int (nI ((tl_ + 1) % 17))]))], [(xq 10, .inl (ca 3, 17, .inr (.inr (.inr (.inr (va_up es_ tl_ (some (cq 0))))))))], (WC ca cq kd fs sn ak ga ot bx se su ch ad)])) A) A) (by decide) (Nat.le_of_ble_eq_true rfl) (fun p e s m below meth c A ls QQ hQQ hmn hnm hx hb hr hts hown hlocks hml hA hP hK hD hE hl => ?_)
  have hown : s.vm.findClass RJ1 = some m.cls := hown
  have hS : va_S A s.heap s.heap [] := va_S.rf
  have hl : lv_has ls 3 [(0, .ref (xq 8)), (1, .ref (cq 0))] := hl
  generalize hHe : s.heap = H at hP ⊢
  have hS : va_S A s.heap H [] := hHe ▸ hS
  generalize ([] : List Loc) = locs at hS ⊢
  have hq2 := dq_tl hq
  refine lv_aload_n hx hb dJ1_addLast_0 rfl (lv_at hl 1 rfl) ?_
  refine lv_ifnonnull (tgt := 12) hx hb dJ1_addLast_1 (by decide) ?_
  refine lv_aload_n hx hb dJ1_addLast_12 rfl (lv_at hl 0 rfl) ?_
  refine va_get (D := D) (ci := 7) (v := .ref (xq 10)) (C := RJ1) (T := TJ1) (N := 3) hx hb hts in_J1 hown hK hP 0 rfl rfl 0 (by decide) (hts _ q189) (fun _ h9 => h9) rfl dJ1_addLast_13 ?_
  refine lv_astore_n (lv' := [(2, .ref (xq 10)), (0, .ref (xq 8)), (1, .ref (cq 0))]) hx hb dJ1_addLast_16 rfl hl (by decide) rfl (fun ls hl => ?_)
  refine lv_aload_n hx hb dJ1_addLast_17 rfl (lv_at hl 0 rfl) ?_
  refine lv_aload_n hx hb dJ1_addLast_18 rfl (lv_at hl 1 rfl) ?_
  refine va_get (D := D) (ci := 7) (v := .int (nI tl_)) (C := RJ1) (T := TJ1) (N := 3) hx hb hts in_J1 hown hK hP 0 rfl rfl 2 (by decide) (hts _ q191) (fun _ h9 => h9) rfl dJ1_addLast_19 ?_
  refine lv_aload_n hx hb dJ1_addLast_22 rfl (lv_at hl 2 rfl) ?_
  refine nv_aast hx hb hK hP hD hS 1 3 2 1 rfl rfl (hE.1 _ q2060 rfl) rfl rfl (by omega) (by decide) dJ1_addLast_23 (fun H locs hP hD hS => ?_)
  have hP : va_P D vwCl (fl [[(xq 8, .inr (7, [.ref (xq 10), .int (nI hd_), .int (nI tl_)]))], [(xq 10, .inl (ca 3, 17, .inr (.inr (.inr (.inr (va_up es_ tl_ (some (cq 0))))))))], (WC ca cq kd fs sn ak ga ot bx se su ch ad)]) H := hP
  have hD : va_D A (fl [[(xq 8, .inr (7, [.ref (xq 10), .int (nI hd_), .int (nI tl_)]))], [(xq 10, .inl (ca 3, 17, .inr (.inr (.inr (.inr (va_up es_ tl_ (some (cq 0))))))))], (WC ca cq kd fs sn ak ga ot bx se su ch ad)]) := hD
  refine lv_aload_n hx hb dJ1_addLast_24 rfl (lv_at hl 1 rfl) ?_
  refine va_get (D := D) (ci := 7) (v := .int (nI hd_)) (C := RJ1) (T := TJ1) (N := 3) hx hb hts in_J1 hown hK hP 0 rfl rfl 1 (by decide) (hts _ q190) (fun _ h9 => h9) rfl dJ1_addLast_25 ?_
  refine lv_aload_n hx hb dJ1_addLast_28 rfl (lv_at hl 1 rfl) ?_
  refine lv_aload_n hx hb dJ1_addLast_29 rfl (lv_at hl 1 rfl) ?_
  refine va_get (D := D) (ci := 7) (v := .int (nI tl_)) (C := RJ1) (T := TJ1) (N := 3) hx hb hts in_J1 hown hK hP 0 rfl rfl 2 (by decide) (hts _ q191) (fun _ h9 => h9) rfl dJ1_addLast_30 ?_
  refine lv_aload_n hx hb dJ1_addLast_33 rfl (lv_at hl 0 rfl) ?_
  refine va_alen hx hb hK hP 1 3 rfl rfl rfl dJ1_addLast_34 (lv_topi (nm_r (e' := nI 17) rfl ?_))
  refine xc_i (xr_S (As := [.int (nI tl_), .int (nI 17)]) (rest := [.ref (xq 8), .int (nI hd_)]) (mt_J1_inc l D ca tl_ hq2.2.1 H.size) ⟨hx, hb, hml, hown, hts⟩ (va_cwS 2 hts (lw_S q297 q298 q82 q299) rfl rfl rfl (by decide +kernel) ⟨Nat.le_of_ble_eq_true rfl, Nat.le_of_ble_eq_true rfl⟩) Ev0_ok trivial hK hS (Cut.app (wc := []) (wr := (fl [[(xq 8, .inr (7, [.ref (xq 10), .int (nI hd_), .int (nI tl_)]))], [(xq 10, .inl (ca 3, 17, .inr (.inr (.inr (.inr (va_up es_ tl_ (some (cq 0))))))))], (WC ca cq kd fs sn ak ga ot bx se su ch ad)])) hP hD hS hA) rfl hl.1 rfl (Nat.le_of_ble_eq_true rfl) dJ1_addLast_35 ⟨Nat.le_of_ble_eq_true rfl, Nat.le_of_ble_eq_true rfl⟩) hS (Cut.app (wc := []) (wr := (fl [[(xq 8, .inr (7, [.ref (xq 10), .int (nI hd_), .int (nI tl_)]))], [(xq 10, .inl (ca 3, 17, .inr (.inr (.inr (.inr (va_up es_ tl_ (some (cq 0))))))))], (WC ca cq kd fs sn ak ga ot bx se su ch ad)])) hP hD hS hA) (fun r_1 u_2 H locs hq_35 hP hD hS => ?_)
  have hP : va_P D vwCl (fl [[(xq 8, .inr (7, [.ref (xq 10), .int (nI hd_), .int (nI tl_)]))], [(xq 10, .inl (ca 3, 17, .inr (.inr (.inr (.inr (va_up es_ tl_ (some (cq 0))))))))], (WC ca cq kd fs sn ak ga ot bx se su ch ad)]) H := hP
  have hD : va_D A (fl [[(xq 8, .inr (7, [.ref (xq 10), .int (nI hd_), .int (nI tl_)]))], [(xq 10, .inl (ca 3, 17, .inr (.inr (.inr (.inr (va_up es_ tl_ (some (cq 0))))))))], (WC ca cq kd fs sn ak ga ot bx se su ch ad)]) := hD
  have hp_35 : r_1 = nI ((tl_ + 1) % 17) := hq_35
  clear hq_35
  obtain rfl := hp_35
  refine lv_dup_x1 hx hb dJ1_addLast_38 rfl rfl ?_
  refine va_put (D := D) (ci := 7) (v := .int (nI ((tl_ + 1) % 17))) (ty := .int) (C := RJ1) (T := TJ1) (N := 3) hx hb hts in_J1 tyJ1 tyJ1_ok nmJ1 hown hK hP hD hS 0 rfl rfl 2 (by decide) (hts _ q191) (fun _ h9 => h9) rfl (by decide +kernel) rfl rfl (Nat.le_of_ble_eq_true rfl) dJ1_addLast_39 (fun H locs hP hD hS => ?_)
  have hP : va_P D vwCl (fl [[(xq 8, .inr (7, [.ref (xq 10), .int (nI hd_), .int (nI ((tl_ + 1) % 17))]))], [(xq 10, .inl (ca 3, 17, .inr (.inr (.inr (.inr (va_up es_ tl_ (some (cq 0))))))))], (WC ca cq kd fs sn ak ga ot bx se su ch ad)]) H := hP
  have hD : va_D A (fl [[(xq 8, .inr (7, [.ref (xq 10), .int (nI hd_), .int (nI ((tl_ + 1) % 17))]))], [(xq 10, .inl (ca 3, 17, .inr (.inr (.inr (.inr (va_up es_ tl_ (some (cq 0))))))))], (WC ca cq kd fs sn ak ga ot bx se su ch ad)]) := hD
  refine nv_icmp_ne (tgt := 50) hx hb dJ1_addLast_42 (by decide) (by omega) (by omega) (fun c_42 => ?_) (fun c_42 => (by omega))
  subst hQQ
  exact xe_v () hx hb hr hlocks hK hP hD hS (trivial) dJ1_addLast_50
set_option maxHeartbeats 400000 in
set_option maxRecDepth 100000 in
theorem mt_J1_pollFirst (l : Launch) (D : va_G) (ca : Nat → ClassId) (xq : Nat → Nat) (hd_ : Nat) (tl_ : Nat) (es_ : Nat → Option Nat) (x_ : Nat) (r_ : List Nat) (hq : DqOk es_ hd_ tl_ (x_ :: r_)) (nn : Nat) : Met l yJ1_pollFirst (ws_ yJ1_pollFirst cJ1_pollFirst 4 (Option.some (Jvm.ClassFile.FieldType.object "java/lang/Object"))) ({ frames := 1, cells := 0, slots := 0, locals := 21 } : Room) (va_Pc [.ref (xq 8)] (PreW EvX D vwCl (TY ca) (fl [[(xq 8, .inr (7, [.ref (xq 10), .int (nI hd_), .int (nI tl_)]))], [(xq 10, .inl (ca 3, 17, .inr (.inr (.inr (.inr (es_))))))]]) nn)) (va_Qr (fun (u_ : Unit) => True) (fun (u_ : Unit) (r_ : Nat) (t_ : State) => r_ = x_ ∧ PostW D vwCl (TY ca) (fun (u_ : Unit) => (fl [[(xq 8, .inr (7, [.ref (xq 10), .int (nI ((hd_ + 1) % 17)), .int (nI tl_)]))], [(xq 10, .inl (ca 3, 17, .inr (.inr (.inr (.inr (va_up es_ hd_ none))))))]])) (va_A (fl [[(xq 8, .inr (7, [.ref (xq 10), .int (nI hd_), .int (nI tl_)]))], [(xq 10, .inl (ca 3, 17, .inr (.inr (.inr (.inr (es_))))))]]) nn) u_ t_) (va_A (fl [[(xq 8, .inr (7, [.ref (xq 10), .int (nI hd_), .int (nI tl_)]))], [(xq 10, .inl (ca 3, 17, .inr (.inr (.inr (.inr (es_))))))]]) nn)) 0 0 (va_A (fl [[(xq 8, .inr (7, [.ref (xq 10), .int (nI hd_), .int (nI tl_)]))], [(xq 10, .inl (ca 3, 17, .inr (.inr (.inr (.inr (es_))))))]]) nn) := by
  refine met_go2 (QA := fun A => va_Qr (fun (u_ : Unit) => True) (fun (u_ : Unit) (r_ : Nat) (t_ : State) => r_ = x_ ∧ PostW D vwCl (TY ca) (fun (u_ : Unit) => (fl [[(xq 8, .inr (7, [.ref (xq 10), .int (nI ((hd_ + 1) % 17)), .int (nI tl_)]))], [(xq 10, .inl (ca 3, 17, .inr (.inr (.inr (.inr (va_up es_ hd_ none))))))]])) A u_ t_) A) (by decide) (Nat.le_of_ble_eq_true rfl) (fun p e s m below meth c A ls QQ hQQ hmn hnm hx hb hr hts hown hlocks hml hA hP hK hD hE hl => ?_)
  have hown : s.vm.findClass RJ1 = some m.cls := hown
  have hS : va_S A s.heap s.heap [] := va_S.rf
  have hl : lv_has ls 4 [(0, .ref (xq 8))] := hl
  generalize hHe : s.heap = H at hP ⊢
  have hS : va_S A s.heap H [] := hHe ▸ hS
  generalize ([] : List Loc) = locs at hS ⊢
  have hq2 := dq_tl hq
  refine lv_aload_n hx hb dJ1_pollFirst_0 rfl (lv_at hl 0 rfl) ?_
  refine va_get (D := D) (ci := 7) (v := .ref (xq 10)) (C := RJ1) (T := TJ1) (N := 3) hx hb hts in_J1 hown hK hP 0 rfl rfl 0 (by decide) (hts _ q189) (fun _ h9 => h9) rfl dJ1_pollFirst_1 ?_
  refine lv_dup hx hb dJ1_pollFirst_4 rfl ?_
  refine lv_astore_n (lv' := [(1, .ref (xq 10)), (0, .ref (xq 8))]) hx hb dJ1_pollFirst_5 rfl hl (by decide) rfl (fun ls hl => ?_)
  refine lv_aload_n hx hb dJ1_pollFirst_6 rfl (lv_at hl 1 rfl) ?_
  refine va_get (D := D) (ci := 7) (v := .int (nI hd_)) (C := RJ1) (T := TJ1) (N := 3) hx hb hts in_J1 hown hK hP 0 rfl rfl 1 (by decide) (hts _ q190) (fun _ h9 => h9) rfl dJ1_pollFirst_7 ?_
  refine lv_dup hx hb dJ1_pollFirst_10 rfl ?_
  refine lv_istore_n (lv' := [(2, .int (nI hd_)), (1, .ref (xq 10)), (0, .ref (xq 8))]) hx hb dJ1_pollFirst_11 rfl hl (by decide) rfl (fun ls hl => ?_)
  have hP : va_P D vwCl (fl [[(xq 10, .inl (ca 3, 17, .inr (.inr (.inr (.inr (es_))))))], [(xq 8, .inr (7, [.ref (xq 10), .int (nI hd_), .int (nI tl_)]))]]) H := mvP hP [1, 0]
  have hD : va_D A (fl [[(xq 10, .inl (ca 3, 17, .inr (.inr (.inr (.inr (es_))))))], [(xq 8, .inr (7, [.ref (xq 10), .int (nI hd_), .int (nI tl_)]))]]) := mvD hD [1, 0] (by decide)
  refine xc_r (xr_S (As := [.ref (xq 10), .int (nI hd_)]) (rest := []) (mt_J1_elementAt l D ca (xq 10) es_ x_ hd_ hq2.1 (dq_fst hq) H.size) ⟨hx, hb, hml, hown, hts⟩ (va_cwS 2 hts (lw_S q294 q295 q82 q296) rfl rfl rfl (by decide +kernel) ⟨Nat.le_of_ble_eq_true rfl, Nat.le_of_ble_eq_true rfl⟩) Ev0_ok trivial hK hS (Cut.ch [[(xq 10, .inl (ca 3, 17, .inr (.inr (.inr (.inr (es_))))))]] [[(xq 8, .inr (7, [.ref (xq 10), .int (nI hd_), .int (nI tl_)]))]] hP hD hS hA) rfl hl.1 rfl (Nat.le_of_ble_eq_true rfl) dJ1_pollFirst_12 ⟨Nat.le_of_ble_eq_true rfl, Nat.le_of_ble_eq_true rfl⟩) hS (Cut.ch [[(xq 10, .inl (ca 3, 17, .inr (.inr (.inr (.inr (es_))))))]] [[(xq 8, .inr (7, [.ref (xq 10), .int (nI hd_), .int (nI tl_)]))]] hP hD hS hA) (fun u_2 H locs hq_12 hP hD hS => ?_)
  have hP : va_P D vwCl (fl [[(xq 10, .inl (ca 3, 17, .inr (.inr (.inr (.inr (es_))))))], [(xq 8, .inr (7, [.ref (xq 10), .int (nI hd_), .int (nI tl_)]))]]) H := fl_join [[(xq 10, .inl (ca 3, 17, .inr (.inr (.inr (.inr (es_))))))]] [[(xq 8, .inr (7, [.ref (xq 10), .int (nI hd_), .int (nI tl_)]))]] hP
  have hD : va_D A (fl [[(xq 10, .inl (ca 3, 17, .inr (.inr (.inr (.inr (es_))))))], [(xq 8, .inr (7, [.ref (xq 10), .int (nI hd_), .int (nI tl_)]))]]) := fl_joinD [[(xq 10, .inl (ca 3, 17, .inr (.inr (.inr (.inr (es_))))))]] [[(xq 8, .inr (7, [.ref (xq 10), .int (nI hd_), .int (nI tl_)]))]] hD
  refine lv_astore_n (lv' := [(3, .ref x_), (2, .int (nI hd_)), (1, .ref (xq 10)), (0, .ref (xq 8))]) hx hb dJ1_pollFirst_15 rfl hl (by decide) rfl (fun ls hl => ?_)
  refine lv_aload_n hx hb dJ1_pollFirst_16 rfl (lv_at hl 0 rfl) ?_
  refine lv_ifnull hx hb dJ1_pollFirst_17 ?_
  refine lv_aload_n hx hb dJ1_pollFirst_20 rfl (lv_at hl 2 rfl) ?_
  refine lv_iload_n hx hb dJ1_pollFirst_21 rfl (lv_at hl 1 rfl) ?_
  refine lv_null hx hb dJ1_pollFirst_22 ?_
  refine nv_aastN hx hb hK hP hD hS 0 3 rfl rfl (by omega) (by decide) dJ1_pollFirst_23 (fun H locs hP hD hS => ?_)
  have hP : va_P D vwCl (fl [[(xq 10, .inl (ca 3, 17, .inr (.inr (.inr (.inr (va_up es_ hd_ none))))))], [(xq 8, .inr (7, [.ref (xq 10), .int (nI hd_), .int (nI tl_)]))]]) H := hP
  have hD : va_D A (fl [[(xq 10, .inl (ca 3, 17, .inr (.inr (.inr (.inr (va_up es_ hd_ none))))))], [(xq 8, .inr (7, [.ref (xq 10), .int (nI hd_), .int (nI tl_)]))]]) := hD
  refine lv_aload_n hx hb dJ1_pollFirst_24 rfl (lv_at hl 3 rfl) ?_
  refine lv_iload_n hx hb dJ1_pollFirst_25 rfl (lv_at hl 1 rfl) ?_
  refine lv_aload_n hx hb dJ1_pollFirst_26 rfl (lv_at hl 2 rfl) ?_
  refine va_alen hx hb hK hP 0 3 rfl rfl rfl dJ1_pollFirst_27 (lv_topi (nm_r (e' := nI 17) rfl ?_))
  refine xc_i (xr_S (As := [.int (nI hd_), .int (nI 17)]) (rest := [.ref (xq 8)]) (mt_J1_inc l D ca hd_ hq2.1 H.size) ⟨hx, hb, hml, hown, hts⟩ (va_cwS 2 hts (lw_S q297 q298 q82 q299) rfl rfl rfl (by decide +kernel) ⟨Nat.le_of_ble_eq_true rfl, Nat.le_of_ble_eq_true rfl⟩) Ev0_ok trivial hK hS (Cut.app (wc := []) (wr := (fl [[(xq 10, .inl (ca 3, 17, .inr (.inr (.inr (.inr (va_up es_ hd_ none))))))], [(xq 8, .inr (7, [.ref (xq 10), .int (nI hd_), .int (nI tl_)]))]])) hP hD hS hA) rfl hl.1 rfl (Nat.le_of_ble_eq_true rfl) dJ1_pollFirst_28 ⟨Nat.le_of_ble_eq_true rfl, Nat.le_of_ble_eq_true rfl⟩) hS (Cut.app (wc := []) (wr := (fl [[(xq 10, .inl (ca 3, 17, .inr (.inr (.inr (.inr (va_up es_ hd_ none))))))], [(xq 8, .inr (7, [.ref (xq 10), .int (nI hd_), .int (nI tl_)]))]])) hP hD hS hA) (fun r_3 u_4 H locs hq_28 hP hD hS => ?_)
  have hP : va_P D vwCl (fl [[(xq 10, .inl (ca 3, 17, .inr (.inr (.inr (.inr (va_up es_ hd_ none))))))], [(xq 8, .inr (7, [.ref (xq 10), .int (nI hd_), .int (nI tl_)]))]]) H := hP
  have hD : va_D A (fl [[(xq 10, .inl (ca 3, 17, .inr (.inr (.inr (.inr (va_up es_ hd_ none))))))], [(xq 8, .inr (7, [.ref (xq 10), .int (nI hd_), .int (nI tl_)]))]]) := hD
  have hp_28 : r_3 = nI ((hd_ + 1) % 17) := hq_28
  clear hq_28
  obtain rfl := hp_28
  refine va_put (D := D) (ci := 7) (v := .int (nI ((hd_ + 1) % 17))) (ty := .int) (C := RJ1) (T := TJ1) (N := 3) hx hb hts in_J1 tyJ1 tyJ1_ok nmJ1 hown hK hP hD hS 1 rfl rfl 1 (by decide) (hts _ q190) (fun _ h9 => h9) rfl (by decide +kernel) rfl rfl (Nat.le_of_ble_eq_true rfl) dJ1_pollFirst_31 (fun H locs hP hD hS => ?_)
  have hP : va_P D vwCl (fl [[(xq 10, .inl (ca 3, 17, .inr (.inr (.inr (.inr (va_up es_ hd_ none))))))], [(xq 8, .inr (7, [.ref (xq 10), .int (nI ((hd_ + 1) % 17)), .int (nI tl_)]))]]) H := hP
  have hD : va_D A (fl [[(xq 10, .inl (ca 3, 17, .inr (.inr (.inr (.inr (va_up es_ hd_ none))))))], [(xq 8, .inr (7, [.ref (xq 10), .int (nI ((hd_ + 1) % 17)), .int (nI tl_)]))]]) := hD
  refine lv_aload_n hx hb dJ1_pollFirst_34 rfl (lv_at hl 0 rfl) ?_
  have hP : va_P D vwCl (fl [[(xq 8, .inr (7, [.ref (xq 10), .int (nI ((hd_ + 1) % 17)), .int (nI tl_)]))], [(xq 10, .inl (ca 3, 17, .inr (.inr (.inr (.inr (va_up es_ hd_ none))))))]]) H := mvP hP [1, 0]
  have hD : va_D A (fl [[(xq 8, .inr (7, [.ref (xq 10), .int (nI ((hd_ + 1) % 17)), .int (nI tl_)]))], [(xq 10, .inl (ca 3, 17, .inr (.inr (.inr (.inr (va_up es_ hd_ none))))))]]) := mvD hD [1, 0] (by decide)
  subst hQQ
  exact xe_r (ad := fun (u_ : Unit) => x_) () hx hb hr hlocks hK hP hD hS (trivial) dJ1_pollFirst_35
set_option maxHeartbeats 400000 in
set_option maxRecDepth 100000 in
theorem mt_J1_pollLast (l : Launch) (D : va_G) (ca : Nat → ClassId) (xq : Nat → Nat) (hd_ : Nat) (tl_ : Nat) (es_ : Nat → Option Nat) (x_ : Nat) (r_ : List Nat) (hq : DqOk es_ hd_ tl_ (r_ ++ [x_])) (nn : Nat) : Met l yJ1_pollLast (ws_ yJ1_pollLast cJ1_pollLast 4 (Option.some (Jvm.ClassFile.FieldType.object "java/lang/Object"))) ({ frames := 1, cells := 0, slots := 0, locals := 21 } : Room) (va_Pc [.ref (xq 8)] (PreW EvX D vwCl (TY ca) (fl [[(xq 8, .inr (7, [.ref (xq 10), .int (nI hd_), .int (nI tl_)]))], [(xq 10, .inl (ca 3, 17, .inr (.inr (.inr (.inr (es_))))))]]) nn)) (va_Qr (fun (u_ : Unit) => True) (fun (u_ : Unit) (r_ : Nat) (t_ : State) => r_ = x_ ∧ PostW D vwCl (TY ca) (fun (u_ : Unit) => (fl [[(xq 8, .inr (7, [.ref (xq 10), .int (nI hd_), .int (nI ((tl_ + 16) % 17))]))], [(xq 10, .inl (ca 3, 17, .inr (.inr (.inr (.inr (va_up es_ ((tl_ + 16) % 17) none))))))]])) (va_A (fl [[(xq 8, .inr (7, [.ref (xq 10), .int (nI hd_), .int (nI tl_)]))], [(xq 10, .inl (ca 3, 17, .inr (.inr (.inr (.inr (es_))))))]]) nn) u_ t_) (va_A (fl [[(xq 8, .inr (7, [.ref (xq 10), .int (nI hd_), .int (nI tl_)]))], [(xq 10, .inl (ca 3, 17, .inr (.inr (.inr (.inr (es_))))))]]) nn)) 0 0 (va_A (fl [[(xq 8, .inr (7, [.ref (xq 10), .int (nI hd_), .int (nI tl_)]))], [(xq 10, .inl (ca 3, 17, .inr (.inr (.inr (.inr (es_))))))]]) nn) := by
  refine met_go2 (QA := fun A => va_Qr (fun (u_ : Unit) => True) (fun (u_ : Unit) (r_ : Nat) (t_ : State) => r_ = x_ ∧ PostW D vwCl (TY ca) (fun (u_ : Unit) => (fl [[(xq 8, .inr (7, [.ref (xq 10), .int (nI hd_), .int (nI ((tl_ + 16) % 17))]))], [(xq 10, .inl (ca 3, 17, .inr (.inr (.inr (.inr (va_up es_ ((tl_ + 16) % 17) none))))))]])) A u_ t_) A) (by decide) (Nat.le_of_ble_eq_true rfl) (fun p e s m below meth c A ls QQ hQQ hmn hnm hx hb hr hts hown hlocks hml hA hP hK hD hE hl => ?_)
  have hown : s.vm.findClass RJ1 = some m.cls := hown
  have hS : va_S A s.heap s.heap [] := va_S.rf
  have hl : lv_has ls 4 [(0, .ref (xq 8))] := hl
  generalize hHe : s.heap = H at hP ⊢
  have hS : va_S A s.heap H [] := hHe ▸ hS
  generalize ([] : List Loc) = locs at hS ⊢
  have hq2 := dq_tl hq
  refine lv_aload_n hx hb dJ1_pollLast_0 rfl (lv_at hl 0 rfl) ?_
  refine va_get (D := D) (ci := 7) (v := .ref (xq 10)) (C := RJ1) (T := TJ1) (N := 3) hx hb hts in_J1 hown hK hP 0 rfl rfl 0 (by decide) (hts _ q189) (fun _ h9 => h9) rfl dJ1_pollLast_1 ?_
  refine lv_dup hx hb dJ1_pollLast_4 rfl ?_
  refine lv_astore_n (lv' := [(1, .ref (xq 10)), (0, .ref (xq 8))]) hx hb dJ1_pollLast_5 rfl hl (by decide) rfl (fun ls hl => ?_)
  refine lv_aload_n hx hb dJ1_pollLast_6 rfl (lv_at hl 1 rfl) ?_
  refine va_get (D := D) (ci := 7) (v := .int (nI tl_)) (C := RJ1) (T := TJ1) (N := 3) hx hb hts in_J1 hown hK hP 0 rfl rfl 2 (by decide) (hts _ q191) (fun _ h9 => h9) rfl dJ1_pollLast_7 ?_
  refine lv_aload_n hx hb dJ1_pollLast_10 rfl (lv_at hl 0 rfl) ?_
  refine va_alen hx hb hK hP 1 3 rfl rfl rfl dJ1_pollLast_11 (lv_topi (nm_r (e' := nI 17) rfl ?_))
  refine xc_i (xr_S (As := [.int (nI tl_), .int (nI 17)]) (rest := [.ref (xq 10)]) (mt_J1_dec l D ca tl_ hq2.2.1 H.size) ⟨hx, hb, hml, hown, hts⟩ (va_cwS 2 hts (lw_S q1453 q1454 q82 q1455) rfl rfl rfl (by decide +kernel) ⟨Nat.le_of_ble_eq_true rfl, Nat.le_of_ble_eq_true rfl⟩) Ev0_ok trivial hK hS (Cut.app (wc := []) (wr := (fl [[(xq 8, .inr (7, [.ref (xq 10), .int (nI hd_), .int (nI tl_)]))], [(xq 10, .inl (ca 3, 17, .inr (.inr (.inr (.inr (es_))))))]])) hP hD hS hA) rfl hl.1 rfl (Nat.le_of_ble_eq_true rfl) dJ1_pollLast_12 ⟨Nat.le_of_ble_eq_true rfl, Nat.le_of_ble_eq_true rfl⟩) hS (Cut.app (wc := []) (wr := (fl [[(xq 8, .inr (7, [.ref (xq 10), .int (nI hd_), .int (nI tl_)]))], [(xq 10, .inl (ca 3, 17, .inr (.inr (.inr (.inr (es_))))))]])) hP hD hS hA) (fun r_1 u_2 H locs hq_12 hP hD hS => ?_)
  have hP : va_P D vwCl (fl [[(xq 8, .inr (7, [.ref (xq 10), .int (nI hd_), .int (nI tl_)]))], [(xq 10, .inl (ca 3, 17, .inr (.inr (.inr (.inr (es_))))))]]) H := hP
  have hD : va_D A (fl [[(xq 8, .inr (7, [.ref (xq 10), .int (nI hd_), .int (nI tl_)]))], [(xq 10, .inl (ca 3, 17, .inr (.inr (.inr (.inr (es_))))))]]) := hD
  have hp_12 : r_1 = nI ((tl_ + 16) % 17) := hq_12
  clear hq_12
  obtain rfl := hp_12
  refine lv_dup hx hb dJ1_pollLast_15 rfl ?_
  refine lv_istore_n (lv' := [(2, .int (nI ((tl_ + 16) % 17))), (1, .ref (xq 10)), (0, .ref (xq 8))]) hx hb dJ1_pollLast_16 rfl hl (by decide) rfl (fun ls hl => ?_)
  have hP : va_P D vwCl (fl [[(xq 10, .inl (ca 3, 17, .inr (.inr (.inr (.inr (es_))))))], [(xq 8, .inr (7, [.ref (xq 10), .int (nI hd_), .int (nI tl_)]))]]) H := mvP hP [1, 0]
  have hD : va_D A (fl [[(xq 10, .inl (ca 3, 17, .inr (.inr (.inr (.inr (es_))))))], [(xq 8, .inr (7, [.ref (xq 10), .int (nI hd_), .int (nI tl_)]))]]) := mvD hD [1, 0] (by decide)
  refine xc_r (xr_S (As := [.ref (xq 10), .int (nI ((tl_ + 16) % 17))]) (rest := []) (mt_J1_elementAt l D ca (xq 10) es_ x_ ((tl_ + 16) % 17) (by omega) (dq_last hq) H.size) ⟨hx, hb, hml, hown, hts⟩ (va_cwS 2 hts (lw_S q294 q295 q82 q296) rfl rfl rfl (by decide +kernel) ⟨Nat.le_of_ble_eq_true rfl, Nat.le_of_ble_eq_true rfl⟩) Ev0_ok trivial hK hS (Cut.ch [[(xq 10, .inl (ca 3, 17, .inr (.inr (.inr (.inr (es_))))))]] [[(xq 8, .inr (7, [.ref (xq 10), .int (nI hd_), .int (nI tl_)]))]] hP hD hS hA) rfl hl.1 rfl (Nat.le_of_ble_eq_true rfl) dJ1_pollLast_17 ⟨Nat.le_of_ble_eq_true rfl, Nat.le_of_ble_eq_true rfl⟩) hS (Cut.ch [[(xq 10, .inl (ca 3, 17, .inr (.inr (.inr (.inr (es_))))))]] [[(xq 8, .inr (7, [.ref (xq 10), .int (nI hd_), .int (nI tl_)]))]] hP hD hS hA) (fun u_4 H locs hq_17 hP hD hS => ?_)
  have hP : va_P D vwCl (fl [[(xq 10, .inl (ca 3, 17, .inr (.inr (.inr (.inr (es_))))))], [(xq 8, .inr (7, [.ref (xq 10), .int (nI hd_), .int (nI tl_)]))]]) H := fl_join [[(xq 10, .inl (ca 3, 17, .inr (.inr (.inr (.inr (es_))))))]] [[(xq 8, .inr (7, [.ref (xq 10), .int (nI hd_), .int (nI tl_)]))]] hP
  have hD : va_D A (fl [[(xq 10, .inl (ca 3, 17, .inr (.inr (.inr (.inr (es_))))))], [(xq 8, .inr (7, [.ref (xq 10), .int (nI hd_), .int (nI tl_)]))]]) := fl_joinD [[(xq 10, .inl (ca 3, 17, .inr (.inr (.inr (.inr (es_))))))]] [[(xq 8, .inr (7, [.ref (xq 10), .int (nI hd_), .int (nI tl_)]))]] hD
  refine lv_astore_n (lv' := [(3, .ref x_), (2, .int (nI ((tl_ + 16) % 17))), (1, .ref (xq 10)), (0, .ref (xq 8))]) hx hb dJ1_pollLast_20 rfl hl (by decide) rfl (fun ls hl => ?_)
  refine lv_aload_n hx hb dJ1_pollLast_21 rfl (lv_at hl 0 rfl) ?_
  refine lv_ifnull hx hb dJ1_pollLast_22 ?_
  refine lv_aload_n hx hb dJ1_pollLast_25 rfl (lv_at hl 2 rfl) ?_
  refine lv_aload_n hx hb dJ1_pollLast_26 rfl (lv_at hl 3 rfl) ?_
  refine lv_iload_n hx hb dJ1_pollLast_27 rfl (lv_at hl 1 rfl) ?_
  refine lv_dup_x1 hx hb dJ1_pollLast_28 rfl rfl ?_
  refine va_put (D := D) (ci := 7) (v := .int (nI ((tl_ + 16) % 17))) (ty := .int) (C := RJ1) (T := TJ1) (N := 3) hx hb hts in_J1 tyJ1 tyJ1_ok nmJ1 hown hK hP hD hS 1 rfl rfl 2 (by decide) (hts _ q191) (fun _ h9 => h9) rfl (by decide +kernel) rfl rfl (Nat.le_of_ble_eq_true rfl) dJ1_pollLast_29 (fun H locs hP hD hS => ?_)
  have hP : va_P D vwCl (fl [[(xq 10, .inl (ca 3, 17, .inr (.inr (.inr (.inr (es_))))))], [(xq 8, .inr (7, [.ref (xq 10), .int (nI hd_), .int (nI ((tl_ + 16) % 17))]))]]) H := hP
  have hD : va_D A (fl [[(xq 10, .inl (ca 3, 17, .inr (.inr (.inr (.inr (es_))))))], [(xq 8, .inr (7, [.ref (xq 10), .int (nI hd_), .int (nI ((tl_ + 16) % 17))]))]]) := hD
  refine lv_null hx hb dJ1_pollLast_32 ?_
  refine nv_aastN hx hb hK hP hD hS 0 3 rfl rfl (by omega) (by decide) dJ1_pollLast_33 (fun H locs hP hD hS => ?_)
  have hP : va_P D vwCl (fl [[(xq 10, .inl (ca 3, 17, .inr (.inr (.inr (.inr (va_up es_ ((tl_ + 16) % 17) none))))))], [(xq 8, .inr (7, [.ref (xq 10), .int (nI hd_), .int (nI ((tl_ + 16) % 17))]))]]) H := hP
  have hD : va_D A (fl [[(xq 10, .inl (ca 3, 17, .inr (.inr (.inr (.inr (va_up es_ ((tl_ + 16) % 17) none))))))], [(xq 8, .inr (7, [.ref (xq 10), .int (nI hd_), .int (nI ((tl_ + 16) % 17))]))]]) := hD
  refine lv_aload_n hx hb dJ1_pollLast_34 rfl (lv_at hl 0 rfl) ?_
  have hP : va_P D vwCl (fl [[(xq 8, .inr (7, [.ref (xq 10), .int (nI hd_), .int (nI ((tl_ + 16) % 17))]))], [(xq 10, .inl (ca 3, 17, .inr (.inr (.inr (.inr (va_up es_ ((tl_ + 16) % 17) none))))))]]) H := mvP hP [1, 0]
  have hD : va_D A (fl [[(xq 8, .inr (7, [.ref (xq 10), .int (nI hd_), .int (nI ((tl_ + 16) % 17))]))], [(xq 10, .inl (ca 3, 17, .inr (.inr (.inr (.inr (va_up es_ ((tl_ + 16) % 17) none))))))]]) := mvD hD [1, 0] (by decide)
  subst hQQ
  exact xe_r (ad := fun (u_ : Unit) => x_) () hx hb hr hlocks hK hP hD hS (trivial) dJ1_pollLast_35
set_option maxHeartbeats 400000 in
set_option maxRecDepth 100000 in
theorem mt_J1_removeFirst (l : Launch) (D : va_G) (ca : Nat → ClassId) (xq : Nat → Nat) (hd_ : Nat) (tl_ : Nat) (es_ : Nat → Option Nat) (x_ : Nat) (r_ : List Nat) (hq : DqOk es_ hd_ tl_ (x_ :: r_)) (nn : Nat) : Met l yJ1_removeFirst (ws_ yJ1_removeFirst cJ1_removeFirst 2 (Option.some (Jvm.ClassFile.FieldType.object "java/lang/Object"))) ({ frames := 2, cells := 0, slots := 0, locals := 44 } : Room) (va_Pc [.ref (xq 8)] (PreW EvX D vwCl (TY ca) (fl [[(xq 8, .inr (7, [.ref (xq 10), .int (nI hd_), .int (nI tl_)]))], [(xq 10, .inl (ca 3, 17, .inr (.inr (.inr (.inr (es_))))))]]) nn)) (va_Qr (fun (u_ : Unit) => True) (fun (u_ : Unit) (r_ : Nat) (t_ : State) => r_ = x_ ∧ PostW D vwCl (TY ca) (fun (u_ : Unit) => (fl [[(xq 8, .inr (7, [.ref (xq 10), .int (nI ((hd_ + 1) % 17)), .int (nI tl_)]))], [(xq 10, .inl (ca 3, 17, .inr (.inr (.inr (.inr (va_up es_ hd_ none))))))]])) (va_A (fl [[(xq 8, .inr (7, [.ref (xq 10), .int (nI hd_), .int (nI tl_)]))], [(xq 10, .inl (ca 3, 17, .inr (.inr (.inr (.inr (es_))))))]]) nn) u_ t_) (va_A (fl [[(xq 8, .inr (7, [.ref (xq 10), .int (nI hd_), .int (nI tl_)]))], [(xq 10, .inl (ca 3, 17, .inr (.inr (.inr (.inr (es_))))))]]) nn)) 0 0 (va_A (fl [[(xq 8, .inr (7, [.ref (xq 10), .int (nI hd_), .int (nI tl_)]))], [(xq 10, .inl (ca 3, 17, .inr (.inr (.inr (.inr (es_))))))]]) nn) := by
  refine met_go2 (QA := fun A => va_Qr (fun (u_ : Unit) => True) (fun (u_ : Unit) (r_ : Nat) (t_ : State) => r_ = x_ ∧ PostW D vwCl (TY ca) (fun (u_ : Unit) => (fl [[(xq 8, .inr (7, [.ref (xq 10), .int (nI ((hd_ + 1) % 17)), .int (nI tl_)]))], [(xq 10, .inl (ca 3, 17, .inr (.inr (.inr (.inr (va_up es_ hd_ none))))))]])) A u_ t_) A) (by decide) (Nat.le_of_ble_eq_true rfl) (fun p e s m below meth c A ls QQ hQQ hmn hnm hx hb hr hts hown hlocks hml hA hP hK hD hE hl => ?_)
  have hown : s.vm.findClass RJ1 = some m.cls := hown
  have hS : va_S A s.heap s.heap [] := va_S.rf
  have hl : lv_has ls 2 [(0, .ref (xq 8))] := hl
  generalize hHe : s.heap = H at hP ⊢
  have hS : va_S A s.heap H [] := hHe ▸ hS
  generalize ([] : List Loc) = locs at hS ⊢
  refine lv_aload_n hx hb dJ1_removeFirst_0 rfl (lv_at hl 0 rfl) ?_
  refine xc_r (xr_V (b := xq 8) (ci := 7) (q0 := 0) (As := []) (rest := []) (mt_J1_pollFirst l D ca xq hd_ tl_ es_ x_ r_ (by first | assumption | omega | (simp only [updN, forgetC, changedC]; (repeat' split) <;> omega)) H.size) ⟨hx, hb, hml, hown, hts⟩ (cwV 0 hts (lw_V q290 q291 q292 q82 q293) rfl rfl rfl (by decide +kernel) ⟨Nat.le_of_ble_eq_true rfl, Nat.le_of_ble_eq_true rfl⟩) EvX_ok hE hK hS (Cut.ch [[(xq 8, .inr (7, [.ref (xq 10), .int (nI hd_), .int (nI tl_)]))], [(xq 10, .inl (ca 3, 17, .inr (.inr (.inr (.inr (es_))))))]] [] hP hD hS hA) rfl rfl rfl hl.1 rfl (Nat.le_of_ble_eq_true rfl) dJ1_removeFirst_1 ⟨Nat.le_of_ble_eq_true rfl, Nat.le_of_ble_eq_true rfl⟩) hS (Cut.ch [[(xq 8, .inr (7, [.ref (xq 10), .int (nI hd_), .int (nI tl_)]))], [(xq 10, .inl (ca 3, 17, .inr (.inr (.inr (.inr (es_))))))]] [] hP hD hS hA) (fun u_2 H locs hq_1 hP hD hS => ?_)
  have hP : va_P D vwCl (fl [[(xq 8, .inr (7, [.ref (xq 10), .int (nI ((hd_ + 1) % 17)), .int (nI tl_)]))], [(xq 10, .inl (ca 3, 17, .inr (.inr (.inr (.inr (va_up es_ hd_ none))))))]]) H := fl_join [[(xq 8, .inr (7, [.ref (xq 10), .int (nI ((hd_ + 1) % 17)), .int (nI tl_)]))], [(xq 10, .inl (ca 3, 17, .inr (.inr (.inr (.inr (va_up es_ hd_ none))))))]] [] hP
  have hD : va_D A (fl [[(xq 8, .inr (7, [.ref (xq 10), .int (nI ((hd_ + 1) % 17)), .int (nI tl_)]))], [(xq 10, .inl (ca 3, 17, .inr (.inr (.inr (.inr (va_up es_ hd_ none))))))]]) := fl_joinD [[(xq 8, .inr (7, [.ref (xq 10), .int (nI ((hd_ + 1) % 17)), .int (nI tl_)]))], [(xq 10, .inl (ca 3, 17, .inr (.inr (.inr (.inr (va_up es_ hd_ none))))))]] [] hD
  refine lv_astore_n (lv' := [(1, .ref x_), (0, .ref (xq 8))]) hx hb dJ1_removeFirst_4 rfl hl (by decide) rfl (fun ls hl => ?_)
  refine lv_aload_n hx hb dJ1_removeFirst_5 rfl (lv_at hl 0 rfl) ?_
  refine lv_ifnonnull (tgt := 17) hx hb dJ1_removeFirst_6 (by decide) ?_
  refine lv_aload_n hx hb dJ1_removeFirst_17 rfl (lv_at hl 0 rfl) ?_
  subst hQQ
  exact xe_r (ad := fun (u_ : Unit) => x_) () hx hb hr hlocks hK hP hD hS (trivial) dJ1_removeFirst_18
set_option maxHeartbeats 400000 in
set_option maxRecDepth 100000 in
theorem mt_J1_removeLast (l : Launch) (D : va_G) (ca : Nat → ClassId) (xq : Nat → Nat) (hd_ : Nat) (tl_ : Nat) (es_ : Nat → Option Nat) (x_ : Nat) (r_ : List Nat) (hq : DqOk es_ hd_ tl_ (r_ ++ [x_])) (nn : Nat) : Met l yJ1_removeLast (ws_ yJ1_removeLast cJ1_removeLast 2 (Option.some (Jvm.ClassFile.FieldType.object "java/lang/Object"))) ({ frames := 2, cells := 0, slots := 0, locals := 44 } : Room) (va_Pc [.ref (xq 8)] (PreW EvX D vwCl (TY ca) (fl [[(xq 8, .inr (7, [.ref (xq 10), .int (nI hd_), .int (nI tl_)]))], [(xq 10, .inl (ca 3, 17, .inr (.inr (.inr (.inr (es_))))))]]) nn)) (va_Qr (fun (u_ : Unit) => True) (fun (u_ : Unit) (r_ : Nat) (t_ : State) => r_ = x_ ∧ PostW D vwCl (TY ca) (fun (u_ : Unit) => (fl [[(xq 8, .inr (7, [.ref (xq 10), .int (nI hd_), .int (nI ((tl_ + 16) % 17))]))], [(xq 10, .inl (ca 3, 17, .inr (.inr (.inr (.inr (va_up es_ ((tl_ + 16) % 17) none))))))]])) (va_A (fl [[(xq 8, .inr (7, [.ref (xq 10), .int (nI hd_), .int (nI tl_)]))], [(xq 10, .inl (ca 3, 17, .inr (.inr (.inr (.inr (es_))))))]]) nn) u_ t_) (va_A (fl [[(xq 8, .inr (7, [.ref (xq 10), .int (nI hd_), .int (nI tl_)]))], [(xq 10, .inl (ca 3, 17, .inr (.inr (.inr (.inr (es_))))))]]) nn)) 0 0 (va_A (fl [[(xq 8, .inr (7, [.ref (xq 10), .int (nI hd_), .int (nI tl_)]))], [(xq 10, .inl (ca 3, 17, .inr (.inr (.inr (.inr (es_))))))]]) nn) := by
  refine met_go2 (QA := fun A => va_Qr (fun (u_ : Unit) => True) (fun (u_ : Unit) (r_ : Nat) (t_ : State) => r_ = x_ ∧ PostW D vwCl (TY ca) (fun (u_ : Unit) => (fl [[(xq 8, .inr (7, [.ref (xq 10), .int (nI hd_), .int (nI ((tl_ + 16) % 17))]))], [(xq 10, .inl (ca 3, 17, .inr (.inr (.inr (.inr (va_up es_ ((tl_ + 16) % 17) none))))))]])) A u_ t_) A) (by decide) (Nat.le_of_ble_eq_true rfl) (fun p e s m below meth c A ls QQ hQQ hmn hnm hx hb hr hts hown hlocks hml hA hP hK hD hE hl => ?_)
  have hown : s.vm.findClass RJ1 = some m.cls := hown
  have hS : va_S A s.heap s.heap [] := va_S.rf
  have hl : lv_has ls 2 [(0, .ref (xq 8))] := hl
  generalize hHe : s.heap = H at hP ⊢
  have hS : va_S A s.heap H [] := hHe ▸ hS
  generalize ([] : List Loc) = locs at hS ⊢
  refine lv_aload_n hx hb dJ1_removeLast_0 rfl (lv_at hl 0 rfl) ?_
  refine xc_r (xr_V (b := xq 8) (ci := 7) (q0 := 0) (As := []) (rest := []) (mt_J1_pollLast l D ca xq hd_ tl_ es_ x_ r_ (by first | assumption | omega | (simp only [updN, forgetC, changedC]; (repeat' split) <;> omega)) H.size) ⟨hx, hb, hml, hown, hts⟩ (cwV 0 hts (lw_V q1449 q1450 q1451 q82 q1452) rfl rfl rfl (by decide +kernel) ⟨Nat.le_of_ble_eq_true rfl, Nat.le_of_ble_eq_true rfl⟩) EvX_ok hE hK hS (Cut.ch [[(xq 8, .inr (7, [.ref (xq 10), .int (nI hd_), .int (nI tl_)]))], [(xq 10, .inl (ca 3, 17, .inr (.inr (.inr (.inr (es_))))))]] [] hP hD hS hA) rfl rfl rfl hl.1 rfl (Nat.le_of_ble_eq_true rfl) dJ1_removeLast_1 ⟨Nat.le_of_ble_eq_true rfl, Nat.le_of_ble_eq_true rfl⟩) hS (Cut.ch [[(xq 8, .inr (7, [.ref (xq 10), .int (nI hd_), .int (nI tl_)]))], [(xq 10, .inl (ca 3, 17, .inr (.inr (.inr (.inr (es_))))))]] [] hP hD hS hA) (fun u_2 H locs hq_1 hP hD hS => ?_)
  have hP : va_P D vwCl (fl [[(xq 8, .inr (7, [.ref (xq 10), .int (nI hd_), .int (nI ((tl_ + 16) % 17))]))], [(xq 10, .inl (ca 3, 17, .inr (.inr (.inr (.inr (va_up es_ ((tl_ + 16) % 17) none))))))]]) H := fl_join [[(xq 8, .inr (7, [.ref (xq 10), .int (nI hd_), .int (nI ((tl_ + 16) % 17))]))], [(xq 10, .inl (ca 3, 17, .inr (.inr (.inr (.inr (va_up es_ ((tl_ + 16) % 17) none))))))]] [] hP
  have hD : va_D A (fl [[(xq 8, .inr (7, [.ref (xq 10), .int (nI hd_), .int (nI ((tl_ + 16) % 17))]))], [(xq 10, .inl (ca 3, 17, .inr (.inr (.inr (.inr (va_up es_ ((tl_ + 16) % 17) none))))))]]) := fl_joinD [[(xq 8, .inr (7, [.ref (xq 10), .int (nI hd_), .int (nI ((tl_ + 16) % 17))]))], [(xq 10, .inl (ca 3, 17, .inr (.inr (.inr (.inr (va_up es_ ((tl_ + 16) % 17) none))))))]] [] hD
  refine lv_astore_n (lv' := [(1, .ref x_), (0, .ref (xq 8))]) hx hb dJ1_removeLast_4 rfl hl (by decide) rfl (fun ls hl => ?_)
  refine lv_aload_n hx hb dJ1_removeLast_5 rfl (lv_at hl 0 rfl) ?_
  refine lv_ifnonnull (tgt := 17) hx hb dJ1_removeLast_6 (by decide) ?_
  refine lv_aload_n hx hb dJ1_removeLast_17 rfl (lv_at hl 0 rfl) ?_
  subst hQQ
  exact xe_r (ad := fun (u_ : Unit) => x_) () hx hb hr hlocks hK hP hD hS (trivial) dJ1_removeLast_18
set_option maxHeartbeats 4000000 in
set_option maxRecDepth 100000 in
theorem mt_J0_init (l : Launch) (D : va_G) (ca : Nat → ClassId) (b_ : Nat)  (nn : Nat) : Met l yJ0_init (ws_ yJ0_init cJ0_init 1 (Option.none : Option Jvm.ClassFile.FieldType)) ({ frames := 1, cells := 0, slots := 0, locals := 40 } : Room) (va_Pc [.ref b_] (PreW Ev0 D vwCl (TY ca) (fl []) nn)) (va_Qv (fun (_ : Unit) => True) (PostW D vwCl (TY ca) (fun (_ : Unit) => (fl [])) (va_A (fl []) nn)) (va_A (fl []) nn)) 0 0 (va_A (fl []) nn) := by
  refine met_go2 (QA := fun A => va_Qv (fun (_ : Unit) => True) (PostW D vwCl (TY ca) (fun (_ : Unit) => (fl [])) A) A) (by decide) (Nat.le_of_ble_eq_true rfl) (fun p e s m below meth c A ls QQ hQQ hmn hnm hx hb hr hts hown hlocks hml hA hP hK hD hE hl => ?_)
  have hown : s.vm.findClass RJ0 = some m.cls := hown
  have hS : va_S A s.heap s.heap [] := va_S.rf
  have hl : lv_has ls 1 [(0, .ref b_)] := hl
  generalize hHe : s.heap = H at hP ⊢
  have hS : va_S A s.heap H [] := hHe ▸ hS
  generalize ([] : List Loc) = locs at hS ⊢
  refine lv_aload_n hx hb dJ0_init_0 rfl (lv_at hl 0 rfl) ?_
  refine W.objInit hx hb hown (hts _ q186) (hts _ q120) (hts _ q121) rfl (by rw [hml]; exact hl.1) rfl dJ0_init_1 (Nat.le_of_ble_eq_true rfl) (Nat.le_of_ble_eq_true rfl) ?_
  show W p l e _ s m _ below meth c _ _ _ _ _ (F0 m 4 ls [])
  subst hQQ
  exact xe_v () hx hb hr hlocks hK hP hD hS (trivial) dJ0_init_4
set_option maxHeartbeats 400000 in
set_option maxRecDepth 100000 in
theorem mt_J1_init (l : Launch) (D : va_G) (ca : Nat → ClassId) (n_ : Nat)  (nn : Nat) : Met l yJ1_init (ws_ yJ1_init cJ1_init 1 (Option.none : Option Jvm.ClassFile.FieldType)) ({ frames := 2, cells := 1, slots := 17, locals := 60 } : Room) (va_Pc [.ref n_] (PreW EvZ D vwCl (TY ca) (fl [[(n_, .inr (7, [.null, .int 0, .int 0]))]]) nn)) (va_Qv (fun (u_ : Nat) => True) (PostW D vwCl (TY ca) (fun (u_ : Nat) => (fl [[(n_, .inr (7, [.ref u_, .int 0, .int 0]))], [(u_, .inl (ca 3, 17, .inr (.inr (.inr (.inr ((fun _ => none)))))))]])) (va_A (fl [[(n_, .inr (7, [.null, .int 0, .int 0]))]]) nn)) (va_A (fl [[(n_, .inr (7, [.null, .int 0, .int 0]))]]) nn)) 1 17 (va_A (fl [[(n_, .inr (7, [.null, .int 0, .int 0]))]]) nn) := by
  refine met_go2 (QA := fun A => va_Qv (fun (u_ : Nat) => True) (PostW D vwCl (TY ca) (fun (u_ : Nat) => (fl [[(n_, .inr (7, [.ref u_, .int 0, .int 0]))], [(u_, .inl (ca 3, 17, .inr (.inr (.inr (.inr ((fun _ => none)))))))]])) A) A) (by decide) (Nat.le_of_ble_eq_true rfl) (fun p e s m below meth c A ls QQ hQQ hmn hnm hx hb hr hts hown hlocks hml hA hP hK hD hE hl => ?_)
  have hown : s.vm.findClass RJ1 = some m.cls := hown
  have hS : va_S A s.heap s.heap [] := va_S.rf
  have hl : lv_has ls 1 [(0, .ref n_)] := hl
  generalize hHe : s.heap = H at hP ⊢
  have hS : va_S A s.heap H [] := hHe ▸ hS
  generalize ([] : List Loc) = locs at hS ⊢
  have hAO := hE.2.1
  refine lv_aload_n hx hb dJ1_init_0 rfl (lv_at hl 0 rfl) ?_
  refine xc_v (xr_I (b := n_) (As := []) (rest := []) (mt_J0_init l D ca n_  H.size) ⟨hx, hb, hml, hown, hts⟩ (cwI 0 hts (lw_meth q185) rfl rfl rfl (hts _ q81) (hts _ q183) (hts _ q184) rfl (by decide +kernel) ⟨Nat.le_of_ble_eq_true rfl, Nat.le_of_ble_eq_true rfl⟩) Ev0_ok trivial hK hS (Cut.app (wc := []) (wr := (fl [[(n_, .inr (7, [.null, .int 0, .int 0]))]])) hP hD hS hA) rfl hl.1 rfl (Nat.le_of_ble_eq_true rfl) dJ1_init_1 ⟨Nat.le_of_ble_eq_true rfl, Nat.le_of_ble_eq_true rfl⟩) hS (Cut.app (wc := []) (wr := (fl [[(n_, .inr (7, [.null, .int 0, .int 0]))]])) hP hD hS hA) (fun u_2 H locs hq_1 hP hD hS => ?_)
  have hP : va_P D vwCl (fl [[(n_, .inr (7, [.null, .int 0, .int 0]))]]) H := hP
  have hD : va_D A (fl [[(n_, .inr (7, [.null, .int 0, .int 0]))]]) := hD
  refine lv_aload_n hx hb dJ1_init_4 rfl (lv_at hl 0 rfl) ?_
  refine lv_bipush (v := nI 17) hx hb dJ1_init_5 (by decide) ?_
  refine nv_newq hx hb hown (hts _ q187) hAO hK hP hD hS hA 3 rfl (N := 17) (by decide) (by decide) ⟨Nat.le_of_ble_eq_true rfl, Nat.le_of_ble_eq_true rfl⟩ dJ1_init_7 (fun q_3 H hP hD hS => ?_)
  have hP : va_P D vwCl (fl [[(n_, .inr (7, [.null, .int 0, .int 0]))], [(q_3, .inl (ca 3, 17, .inr (.inr (.inr (.inr ((fun _ => none)))))))]]) H := fl_pushP hP
  have hD : va_D A (fl [[(n_, .inr (7, [.null, .int 0, .int 0]))], [(q_3, .inl (ca 3, 17, .inr (.inr (.inr (.inr ((fun _ => none)))))))]]) := fl_pushD hD
  refine va_put (D := D) (ci := 7) (v := .ref q_3) (ty := (.array (.object "java/lang/Object"))) (C := RJ1) (T := TJ1) (N := 3) hx hb hts in_J1 tyJ1 tyJ1_ok nmJ1 hown hK hP hD hS 0 rfl rfl 0 (by decide) (hts _ q189) (fun _ h9 => h9) rfl (by decide +kernel) rfl rfl (Nat.le_of_ble_eq_true rfl) dJ1_init_10 (fun H locs hP hD hS => ?_)
  have hP : va_P D vwCl (fl [[(n_, .inr (7, [.ref q_3, .int 0, .int 0]))], [(q_3, .inl (ca 3, 17, .inr (.inr (.inr (.inr ((fun _ => none)))))))]]) H := hP
  have hD : va_D A (fl [[(n_, .inr (7, [.ref q_3, .int 0, .int 0]))], [(q_3, .inl (ca 3, 17, .inr (.inr (.inr (.inr ((fun _ => none)))))))]]) := hD
  subst hQQ
  exact xe_v q_3 hx hb hr hlocks hK hP hD hS (trivial) dJ1_init_13
