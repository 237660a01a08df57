/-! ArrayList: adding, whatever the size -/
set_option maxRecDepth 100000
/-- the list's places behind an addition -/
def LsA (es : Nat → Option Nat) (L : List (Nat × Nat × Nat × Nat)) (oa : Nat) : Prop := (∀ j, j < L.length → es j = (L[j]?).map (·.1)) ∧ es L.length = some oa
theorem LsA_ok {es : Nat → Option Nat} {L : List (Nat × Nat × Nat × Nat)} {o : Nat × Nat × Nat × Nat} (h : LsA es L o.1) : LsOk es (L ++ [o]) := by
  intro j hj
  rw [List.length_append, List.length_singleton] at hj
  by_cases e : j = L.length
  · subst e; rw [h.2]; simp
  · rw [h.1 j (by omega), List.getElem?_append_left (by omega)]
theorem LsA_up {es : Nat → Option Nat} {L : List (Nat × Nat × Nat × Nat)} {n oa : Nat} (h : LsOk es L) (hn : L.length = n) : LsA (va_up es n (some oa)) L oa := by
  refine ⟨fun j hj => ?_, by rw [hn, va_up_self]⟩
  rw [dq_ne (by omega)]; exact h j hj
theorem LsA_cp {es : Nat → Option Nat} {L : List (Nat × Nat × Nat × Nat)} {n oa : Nat} (h : LsOk es L) (hn : L.length = n) : LsA (va_up (va_cpy es (fun _ => none) 0 0 n) n (some oa)) L oa := by
  refine ⟨fun j hj => ?_, by rw [hn, va_up_self]⟩
  rw [dq_ne (by omega), pk_cpy_in (Nat.zero_le j) (by omega)]
  show es (0 + (j - 0)) = _
  rw [show 0 + (j - 0) = j by omega]; exact h j hj
def CapOk (n cap : Nat) : Prop := (cap = 10 ∨ cap = 15 ∨ cap = 22 ∨ cap = 33) ∧ n ≤ cap
set_option maxHeartbeats 400000 in
set_option maxRecDepth 100000 in
theorem mt_J22_add_u (l : Launch) (D : va_G) (ca : Nat → ClassId) (la_ : Nat) (mc_ : Int32) (n_ : Nat) (cap_ : Nat) (ea_ : Nat) (es_ : Nat → Option Nat) (oa_ : Nat) (s0_ : Int32) (s1_ : Int32) (s2_ : Int32) (L_ : List (Nat × Nat × Nat × Nat)) (hLs : LsOk es_ L_) (hLn : L_.length = n_) (hcp : CapOk n_ cap_) (hn33 : n_ < 33) (nn : Nat) : Met l yJ22_add (ws_ yJ22_add cJ22_add 2 (Option.some Jvm.ClassFile.FieldType.boolean)) ({ frames := 6, cells := 1, slots := 33, locals := 170 } : Room) (va_Pc [.ref la_, .ref oa_] (PreW EvL D vwCl (TY ca) (fl [[(la_, .inr (9, [.int mc_, .ref ea_, .int (nI n_)]))], [(ea_, .inl (ca 3, cap_, .inr (.inr (.inr (.inr (es_))))))], [(oa_, .inr (4, [.int s0_, .int s1_, .int s2_]))], (orW L_)]) nn)) (va_Qi (fun (r_ : Int32) (u_ : Nat × Nat × (Nat → Option Nat)) => r_ = bI true ∧ (LsA u_.2.2 L_ oa_ ∧ CapOk (n_ + 1) u_.2.1)) (PostW D vwCl (TY ca) (fun (u_ : Nat × Nat × (Nat → Option Nat)) => (fl [[(la_, .inr (9, [.int (mc_ + nI 1), .ref u_.1, .int (nI (n_ + 1))]))], [(u_.1, .inl (ca 3, u_.2.1, .inr (.inr (.inr (.inr (u_.2.2))))))], [(oa_, .inr (4, [.int s0_, .int s1_, .int s2_]))], (orW L_)])) (va_A (fl [[(la_, .inr (9, [.int mc_, .ref ea_, .int (nI n_)]))], [(ea_, .inl (ca 3, cap_, .inr (.inr (.inr (.inr (es_))))))], [(oa_, .inr (4, [.int s0_, .int s1_, .int s2_]))], (orW L_)]) nn)) (va_A (fl [[(la_, .inr (9, [.int mc_, .ref ea_, .int (nI n_)]))], [(ea_, .inl (ca 3, cap_, .inr (.inr (.inr (.inr (es_))))))], [(oa_, .inr (4, [.int s0_, .int s1_, .int s2_]))], (orW L_)]) nn)) 1 33 (va_A (fl [[(la_, .inr (9, [.int mc_, .ref ea_, .int (nI n_)]))], [(ea_, .inl (ca 3, cap_, .inr (.inr (.inr (.inr (es_))))))], [(oa_, .inr (4, [.int s0_, .int s1_, .int s2_]))], (orW L_)]) nn) := by
  refine met_go2 (QA := fun A => va_Qi (fun (r_ : Int32) (u_ : Nat × Nat × (Nat → Option Nat)) => r_ = bI true ∧ (LsA u_.2.2 L_ oa_ ∧ CapOk (n_ + 1) u_.2.1)) (PostW D vwCl (TY ca) (fun (u_ : Nat × Nat × (Nat → Option Nat)) => (fl [[(la_, .inr (9, [.int (mc_ + nI 1), .ref u_.1, .int (nI (n_ + 1))]))], [(u_.1, .inl (ca 3, u_.2.1, .inr (.inr (.inr (.inr (u_.2.2))))))], [(oa_, .inr (4, [.int s0_, .int s1_, .int s2_]))], (orW L_)])) A) A) (by decide) (Nat.le_of_ble_eq_true rfl) (fun p e s m below meth c A ls QQ hQQ hmn hnm hx hb hr hts hown hlocks hml hA hP hK hD hE hl => ?_)
  have hown : s.vm.findClass RJ22 = some m.cls := hown
  have hS : va_S A s.heap s.heap [] := va_S.rf
  have hl : lv_has ls 2 [(0, .ref la_), (1, .ref oa_)] := hl
  generalize hHe : s.heap = H at hP ⊢
  have hS : va_S A s.heap H [] := hHe ▸ hS
  generalize ([] : List Loc) = locs at hS ⊢
  refine lv_aload_n hx hb dJ22_add_0 rfl (lv_at hl 0 rfl) ?_
  refine lv_dup hx hb dJ22_add_1 rfl ?_
  refine va_get (D := D) (ci := 9) (v := .int mc_) (C := RJ22) (T := TJ22) (N := 3) hx hb hts in_J22 hown hK hP 0 rfl rfl 0 (by decide) (hts _ q820) (fun x9 h9 => u_same (hts _ q821) x9 h9) rfl dJ22_add_2 ?_
  refine lv_iconst (v := nI 1) hx hb dJ22_add_5 (by decide) ?_
  refine lv_iadd hx hb dJ22_add_6 ?_
  refine va_put (D := D) (ci := 9) (v := .int (mc_ + (nI 1))) (ty := .int) (C := RJ22) (T := TJ22) (N := 3) hx hb hts in_J22 tyJ22 tyJ22_ok nmJ22 hown hK hP hD hS 0 rfl rfl 0 (by decide) (hts _ q820) (fun x9 h9 => u_same (hts _ q821) x9 h9) rfl (by decide +kernel) rfl rfl (Nat.le_of_ble_eq_true rfl) dJ22_add_7 (fun H locs hP hD hS => ?_)
  have hP : va_P D vwCl (fl [[(la_, .inr (9, [.int (mc_ + (nI 1)), .ref ea_, .int (nI n_)]))], [(ea_, .inl (ca 3, cap_, .inr (.inr (.inr (.inr (es_))))))], [(oa_, .inr (4, [.int s0_, .int s1_, .int s2_]))], (orW L_)]) H := hP
  have hD : va_D A (fl [[(la_, .inr (9, [.int (mc_ + (nI 1)), .ref ea_, .int (nI n_)]))], [(ea_, .inl (ca 3, cap_, .inr (.inr (.inr (.inr (es_))))))], [(oa_, .inr (4, [.int s0_, .int s1_, .int s2_]))], (orW L_)]) := hD
  refine lv_aload_n hx hb dJ22_add_10 rfl (lv_at hl 0 rfl) ?_
  refine lv_aload_n hx hb dJ22_add_11 rfl (lv_at hl 1 rfl) ?_
  refine lv_aload_n hx hb dJ22_add_12 rfl (lv_at hl 0 rfl) ?_
  refine va_get (D := D) (ci := 9) (v := .ref ea_) (C := RJ22) (T := TJ22) (N := 3) hx hb hts in_J22 hown hK hP 0 rfl rfl 1 (by decide) (hts _ q817) (fun _ h9 => h9) rfl dJ22_add_13 ?_
  refine lv_aload_n hx hb dJ22_add_16 rfl (lv_at hl 0 rfl) ?_
  refine va_get (D := D) (ci := 9) (v := .int (nI n_)) (C := RJ22) (T := TJ22) (N := 3) hx hb hts in_J22 hown hK hP 0 rfl rfl 2 (by decide) (hts _ q818) (fun _ h9 => h9) rfl dJ22_add_17 ?_
  rcases (show (n_ < cap_ ∧ cap_ < 1000) ∨ (n_ = 10 ∧ cap_ = 10) ∨ (n_ = 15 ∧ cap_ = 15) ∨ (n_ = 22 ∧ cap_ = 22) by obtain ⟨h1_, h2_⟩ := hcp; omega) with hcc | ⟨rfl, rfl⟩ | ⟨rfl, rfl⟩ | ⟨rfl, rfl⟩
  · skip
    refine xc_v (xr_V (b := la_) (ci := 9) (q0 := 0) (As := [.ref oa_, .ref ea_, .int (nI n_)]) (rest := []) (mt_J22_add_2_n l D ca la_ (mc_ + (nI 1)) n_ cap_ ea_ es_ oa_ s0_ s1_ s2_ hcc.1 hcc.2 H.size) ⟨hx, hb, hml, hown, hts⟩ (cwV 3 hts (lw_V q961 q963 qs14 q107 q964) rfl rfl rfl (by decide +kernel) ⟨Nat.le_of_ble_eq_true rfl, Nat.le_of_ble_eq_true rfl⟩) EvL_ok hE hK hS (Cut.ch [[(la_, .inr (9, [.int (mc_ + (nI 1)), .ref ea_, .int (nI n_)]))], [(ea_, .inl (ca 3, cap_, .inr (.inr (.inr (.inr (es_))))))], [(oa_, .inr (4, [.int s0_, .int s1_, .int s2_]))]] [(orW L_)] hP hD hS hA) rfl rfl rfl hl.1 rfl (Nat.le_of_ble_eq_true rfl) dJ22_add_20 ⟨Nat.le_of_ble_eq_true rfl, Nat.le_of_ble_eq_true rfl⟩) hS (Cut.ch [[(la_, .inr (9, [.int (mc_ + (nI 1)), .ref ea_, .int (nI n_)]))], [(ea_, .inl (ca 3, cap_, .inr (.inr (.inr (.inr (es_))))))], [(oa_, .inr (4, [.int s0_, .int s1_, .int s2_]))]] [(orW L_)] hP hD hS hA) (fun u_2 H locs hq_20 hP hD hS => ?_)
    have hP : va_P D vwCl (fl [[(la_, .inr (9, [.int (mc_ + (nI 1)), .ref ea_, .int (nI (n_ + 1))]))], [(ea_, .inl (ca 3, cap_, .inr (.inr (.inr (.inr (va_up es_ n_ (some oa_)))))))], [(oa_, .inr (4, [.int s0_, .int s1_, .int s2_]))], (orW L_)]) H := fl_join [[(la_, .inr (9, [.int (mc_ + (nI 1)), .ref ea_, .int (nI (n_ + 1))]))], [(ea_, .inl (ca 3, cap_, .inr (.inr (.inr (.inr (va_up es_ n_ (some oa_)))))))], [(oa_, .inr (4, [.int s0_, .int s1_, .int s2_]))]] [(orW L_)] hP
    have hD : va_D A (fl [[(la_, .inr (9, [.int (mc_ + (nI 1)), .ref ea_, .int (nI (n_ + 1))]))], [(ea_, .inl (ca 3, cap_, .inr (.inr (.inr (.inr (va_up es_ n_ (some oa_)))))))], [(oa_, .inr (4, [.int s0_, .int s1_, .int s2_]))], (orW L_)]) := fl_joinD [[(la_, .inr (9, [.int (mc_ + (nI 1)), .ref ea_, .int (nI (n_ + 1))]))], [(ea_, .inl (ca 3, cap_, .inr (.inr (.inr (.inr (va_up es_ n_ (some oa_)))))))], [(oa_, .inr (4, [.int s0_, .int s1_, .int s2_]))]] [(orW L_)] hD
    refine lv_iconst (v := nI 1) hx hb dJ22_add_23 (by decide) ?_
    subst hQQ
    refine MQ_le (c0 := 0) (s0 := 0) (by decide) (by decide) ?_
    refine (xe_z (b := true) (ea_, cap_, va_up es_ n_ (some oa_)) hx hb hr hlocks hK hP hD hS (⟨rfl, ⟨LsA_up hLs hLn, hcp.1, (show n_ + 1 ≤ cap_ from hcc.1)⟩⟩) dJ22_add_24)
  · skip
    refine xc_v (xr_V (b := la_) (ci := 9) (q0 := 0) (As := [.ref oa_, .ref ea_, .int (nI 10)]) (rest := []) (mt_J22_add_2_q10 l D ca la_ (mc_ + (nI 1)) ea_ es_ L_ oa_ s0_ s1_ s2_ hLs hLn H.size) ⟨hx, hb, hml, hown, hts⟩ (cwV 3 hts (lw_V q961 q963 qs14 q107 q964) rfl rfl rfl (by decide +kernel) ⟨Nat.le_of_ble_eq_true rfl, Nat.le_of_ble_eq_true rfl⟩) EvL_ok hE hK hS (Cut.ch [[(la_, .inr (9, [.int (mc_ + (nI 1)), .ref ea_, .int (nI 10)]))], [(ea_, .inl (ca 3, 10, .inr (.inr (.inr (.inr (es_))))))], [(oa_, .inr (4, [.int s0_, .int s1_, .int s2_]))], (orW L_)] [] hP hD hS hA) rfl rfl rfl hl.1 rfl (Nat.le_of_ble_eq_true rfl) dJ22_add_20 ⟨Nat.le_of_ble_eq_true rfl, Nat.le_of_ble_eq_true rfl⟩) hS (Cut.ch [[(la_, .inr (9, [.int (mc_ + (nI 1)), .ref ea_, .int (nI 10)]))], [(ea_, .inl (ca 3, 10, .inr (.inr (.inr (.inr (es_))))))], [(oa_, .inr (4, [.int s0_, .int s1_, .int s2_]))], (orW L_)] [] hP hD hS hA) (fun u_4 H locs hq_20 hP hD hS => ?_)
    obtain ⟨e1_5, rfl⟩ : ∃ z_, z_ = u_4 := ⟨_, rfl⟩
    have hP : va_P D vwCl (fl [[(la_, .inr (9, [.int (mc_ + (nI 1)), .ref e1_5, .int (nI 11)]))], [(e1_5, .inl (ca 3, 15, .inr (.inr (.inr (.inr (va_up (va_cpy es_ (fun _ => none) 0 0 10) 10 (some oa_)))))))], [(oa_, .inr (4, [.int s0_, .int s1_, .int s2_]))], orW L_]) H := fl_join [[(la_, .inr (9, [.int (mc_ + (nI 1)), .ref e1_5, .int (nI 11)]))], [(e1_5, .inl (ca 3, 15, .inr (.inr (.inr (.inr (va_up (va_cpy es_ (fun _ => none) 0 0 10) 10 (some oa_)))))))], [(oa_, .inr (4, [.int s0_, .int s1_, .int s2_]))], orW L_] [] hP
    have hD : va_D A (fl [[(la_, .inr (9, [.int (mc_ + (nI 1)), .ref e1_5, .int (nI 11)]))], [(e1_5, .inl (ca 3, 15, .inr (.inr (.inr (.inr (va_up (va_cpy es_ (fun _ => none) 0 0 10) 10 (some oa_)))))))], [(oa_, .inr (4, [.int s0_, .int s1_, .int s2_]))], orW L_]) := fl_joinD [[(la_, .inr (9, [.int (mc_ + (nI 1)), .ref e1_5, .int (nI 11)]))], [(e1_5, .inl (ca 3, 15, .inr (.inr (.inr (.inr (va_up (va_cpy es_ (fun _ => none) 0 0 10) 10 (some oa_)))))))], [(oa_, .inr (4, [.int s0_, .int s1_, .int s2_]))], orW L_] [] hD
    refine lv_iconst (v := nI 1) hx hb dJ22_add_23 (by decide) ?_
    subst hQQ
    refine MQ_le (c0 := 1) (s0 := 15) (by decide) (by decide) ?_
    refine (xe_z (b := true) (e1_5, 15, va_up (va_cpy es_ (fun _ => none) 0 0 10) 10 (some oa_)) hx hb hr hlocks hK hP hD hS (⟨rfl, ⟨LsA_cp hLs hLn, (by show CapOk (10 + 1) 15; unfold CapOk; omega)⟩⟩) dJ22_add_24)
  · skip
    refine xc_v (xr_V (b := la_) (ci := 9) (q0 := 0) (As := [.ref oa_, .ref ea_, .int (nI 15)]) (rest := []) (mt_J22_add_2_q15 l D ca la_ (mc_ + (nI 1)) ea_ es_ L_ oa_ s0_ s1_ s2_ hLs hLn H.size) ⟨hx, hb, hml, hown, hts⟩ (cwV 3 hts (lw_V q961 q963 qs14 q107 q964) rfl rfl rfl (by decide +kernel) ⟨Nat.le_of_ble_eq_true rfl, Nat.le_of_ble_eq_true rfl⟩) EvL_ok hE hK hS (Cut.ch [[(la_, .inr (9, [.int (mc_ + (nI 1)), .ref ea_, .int (nI 15)]))], [(ea_, .inl (ca 3, 15, .inr (.inr (.inr (.inr (es_))))))], [(oa_, .inr (4, [.int s0_, .int s1_, .int s2_]))], (orW L_)] [] hP hD hS hA) rfl rfl rfl hl.1 rfl (Nat.le_of_ble_eq_true rfl) dJ22_add_20 ⟨Nat.le_of_ble_eq_true rfl, Nat.le_of_ble_eq_true rfl⟩) hS (Cut.ch [[(la_, .inr (9, [.int (mc_ + (nI 1)), .ref ea_, .int (nI 15)]))], [(ea_, .inl (ca 3, 15, .inr (.inr (.inr (.inr (es_))))))], [(oa_, .inr (4, [.int s0_, .int s1_, .int s2_]))], (orW L_)] [] hP hD hS hA) (fun u_7 H locs hq_20 hP hD hS => ?_)
    obtain ⟨e1_8, rfl⟩ : ∃ z_, z_ = u_7 := ⟨_, rfl⟩
    have hP : va_P D vwCl (fl [[(la_, .inr (9, [.int (mc_ + (nI 1)), .ref e1_8, .int (nI 16)]))], [(e1_8, .inl (ca 3, 22, .inr (.inr (.inr (.inr (va_up (va_cpy es_ (fun _ => none) 0 0 15) 15 (some oa_)))))))], [(oa_, .inr (4, [.int s0_, .int s1_, .int s2_]))], orW L_]) H := fl_join [[(la_, .inr (9, [.int (mc_ + (nI 1)), .ref e1_8, .int (nI 16)]))], [(e1_8, .inl (ca 3, 22, .inr (.inr (.inr (.inr (va_up (va_cpy es_ (fun _ => none) 0 0 15) 15 (some oa_)))))))], [(oa_, .inr (4, [.int s0_, .int s1_, .int s2_]))], orW L_] [] hP
    have hD : va_D A (fl [[(la_, .inr (9, [.int (mc_ + (nI 1)), .ref e1_8, .int (nI 16)]))], [(e1_8, .inl (ca 3, 22, .inr (.inr (.inr (.inr (va_up (va_cpy es_ (fun _ => none) 0 0 15) 15 (some oa_)))))))], [(oa_, .inr (4, [.int s0_, .int s1_, .int s2_]))], orW L_]) := fl_joinD [[(la_, .inr (9, [.int (mc_ + (nI 1)), .ref e1_8, .int (nI 16)]))], [(e1_8, .inl (ca 3, 22, .inr (.inr (.inr (.inr (va_up (va_cpy es_ (fun _ => none) 0 0 15) 15 (some oa_)))))))], [(oa_, .inr (4, [.int s0_, .int s1_, .int s2_]))], orW L_] [] hD
    refine lv_iconst (v := nI 1) hx hb dJ22_add_23 (by decide) ?_
    subst hQQ
    refine MQ_le (c0 := 1) (s0 := 22) (by decide) (by decide) ?_
    refine (xe_z (b := true) (e1_8, 22, va_up (va_cpy es_ (fun _ => none) 0 0 15) 15 (some oa_)) hx hb hr hlocks hK hP hD hS (⟨rfl, ⟨LsA_cp hLs hLn, (by show CapOk (15 + 1) 22; unfold CapOk; omega)⟩⟩) dJ22_add_24)
  · skip
    refine xc_v (xr_V (b := la_) (ci := 9) (q0 := 0) (As := [.ref oa_, .ref ea_, .int (nI 22)]) (rest := []) (mt_J22_add_2_q22 l D ca la_ (mc_ + (nI 1)) ea_ es_ L_ oa_ s0_ s1_ s2_ hLs hLn H.size) ⟨hx, hb, hml, hown, hts⟩ (cwV 3 hts (lw_V q961 q963 qs14 q107 q964) rfl rfl rfl (by decide +kernel) ⟨Nat.le_of_ble_eq_true rfl, Nat.le_of_ble_eq_true rfl⟩) EvL_ok hE hK hS (Cut.ch [[(la_, .inr (9, [.int (mc_ + (nI 1)), .ref ea_, .int (nI 22)]))], [(ea_, .inl (ca 3, 22, .inr (.inr (.inr (.inr (es_))))))], [(oa_, .inr (4, [.int s0_, .int s1_, .int s2_]))], (orW L_)] [] hP hD hS hA) rfl rfl rfl hl.1 rfl (Nat.le_of_ble_eq_true rfl) dJ22_add_20 ⟨Nat.le_of_ble_eq_true rfl, Nat.le_of_ble_eq_true rfl⟩) hS (Cut.ch [[(la_, .inr (9, [.int (mc_ + (nI 1)), .ref ea_, .int (nI 22)]))], [(ea_, .inl (ca 3, 22, .inr (.inr (.inr (.inr (es_))))))], [(oa_, .inr (4, [.int s0_, .int s1_, .int s2_]))], (orW L_)] [] hP hD hS hA) (fun u_10 H locs hq_20 hP hD hS => ?_)
    obtain ⟨e1_11, rfl⟩ : ∃ z_, z_ = u_10 := ⟨_, rfl⟩
    have hP : va_P D vwCl (fl [[(la_, .inr (9, [.int (mc_ + (nI 1)), .ref e1_11, .int (nI 23)]))], [(e1_11, .inl (ca 3, 33, .inr (.inr (.inr (.inr (va_up (va_cpy es_ (fun _ => none) 0 0 22) 22 (some oa_)))))))], [(oa_, .inr (4, [.int s0_, .int s1_, .int s2_]))], orW L_]) H := fl_join [[(la_, .inr (9, [.int (mc_ + (nI 1)), .ref e1_11, .int (nI 23)]))], [(e1_11, .inl (ca 3, 33, .inr (.inr (.inr (.inr (va_up (va_cpy es_ (fun _ => none) 0 0 22) 22 (some oa_)))))))], [(oa_, .inr (4, [.int s0_, .int s1_, .int s2_]))], orW L_] [] hP
    have hD : va_D A (fl [[(la_, .inr (9, [.int (mc_ + (nI 1)), .ref e1_11, .int (nI 23)]))], [(e1_11, .inl (ca 3, 33, .inr (.inr (.inr (.inr (va_up (va_cpy es_ (fun _ => none) 0 0 22) 22 (some oa_)))))))], [(oa_, .inr (4, [.int s0_, .int s1_, .int s2_]))], orW L_]) := fl_joinD [[(la_, .inr (9, [.int (mc_ + (nI 1)), .ref e1_11, .int (nI 23)]))], [(e1_11, .inl (ca 3, 33, .inr (.inr (.inr (.inr (va_up (va_cpy es_ (fun _ => none) 0 0 22) 22 (some oa_)))))))], [(oa_, .inr (4, [.int s0_, .int s1_, .int s2_]))], orW L_] [] hD
    refine lv_iconst (v := nI 1) hx hb dJ22_add_23 (by decide) ?_
    subst hQQ
    refine (xe_z (b := true) (e1_11, 33, va_up (va_cpy es_ (fun _ => none) 0 0 22) 22 (some oa_)) hx hb hr hlocks hK hP hD hS (⟨rfl, ⟨LsA_cp hLs hLn, (by show CapOk (22 + 1) 33; unfold CapOk; omega)⟩⟩) dJ22_add_24)
