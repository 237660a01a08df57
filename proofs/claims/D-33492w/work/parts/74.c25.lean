/-! the text: letters, clearing; constructors of the component -/
set_option maxRecDepth 100000
def nqL (L : List Nat) : Nat → Nat := fun i => L.getD i 0
theorem SbOk_0 {bs : Nat → Int32} (h : sb_Fit bs) : SbOk [] bs := ⟨fun k hk => absurd hk (Nat.not_lt_zero _), h⟩
theorem ch_nar {c : Nat} (h : c < 65536) : narrow .char (.int (nI c)) = .int (nI c) := (pk_charN h).1
set_option maxHeartbeats 400000 in
set_option maxRecDepth 100000 in
theorem mt_J19_checkIndex_n (l : Launch) (D : va_G) (ca : Nat → ClassId) (i_ : Nat) (n_ : Nat) (hi : i_ < n_) (hn : n_ < 2 ^ 31) (nn : Nat) : Met l yJ19_checkIndex (ws_ yJ19_checkIndex cJ19_checkIndex 3 (Option.some Jvm.ClassFile.FieldType.int)) ({ frames := 0, cells := 0, slots := 0, locals := 0 } : Room) (va_Pc [.int (nI i_), .int (nI n_), .null] (PreW Ev0 D vwCl (TY ca) (fl []) nn)) (va_Qi (fun (r_ : Int32) (_ : Unit) => r_ = nI i_) (PostW D vwCl (TY ca) (fun (_ : Unit) => (fl [])) (va_A (fl []) nn)) (va_A (fl []) nn)) 0 0 (va_A (fl []) nn) := by
  refine met_go2 (QA := fun A => va_Qi (fun (r_ : Int32) (_ : Unit) => r_ = nI i_) (PostW D vwCl (TY ca) (fun (_ : Unit) => (fl [])) A) A) (by decide) (Nat.le_of_ble_eq_true rfl) (fun p e s m below meth c A ls QQ hQQ hmn hnm hx hb hr hts hown hlocks hml hA hP hK hD hE hl => ?_)
  have hown : s.vm.findClass RJ19 = some m.cls := hown
  have hS : va_S A s.heap s.heap [] := va_S.rf
  have hl : lv_has ls 3 [(0, .int (nI i_)), (1, .int (nI n_)), (2, .null)] := hl
  generalize hHe : s.heap = H at hP ⊢
  have hS : va_S A s.heap H [] := hHe ▸ hS
  generalize ([] : List Loc) = locs at hS ⊢
  refine lv_iload_n hx hb dJ19_checkIndex_0 rfl (lv_at hl 0 rfl) ?_
  refine nv_if_lt hx hb dJ19_checkIndex_1 (tgt := 9) (by decide) (by omega) ?_
  refine lv_iload_n hx hb dJ19_checkIndex_4 rfl (lv_at hl 0 rfl) ?_
  refine lv_iload_n hx hb dJ19_checkIndex_5 rfl (lv_at hl 1 rfl) ?_
  refine nv_icmp_lt (tgt := 16) hx hb dJ19_checkIndex_6 (by decide) (by omega) (by omega) (fun c_6 => ?_) (fun c_6 => absurd hi (by omega))
  refine lv_iload_n hx hb dJ19_checkIndex_16 rfl (lv_at hl 0 rfl) ?_
  subst hQQ
  exact xe_i (v := nI i_) () hx hb hr hlocks hK hP hD hS (rfl) dJ19_checkIndex_17
set_option maxHeartbeats 400000 in
set_option maxRecDepth 100000 in
theorem mt_J19_checkIndex_r (l : Launch) (D : va_G) (ca : Nat → ClassId) (i_ : Nat) (n_ : Nat) (f_ : Nat) (hi : i_ < n_) (hn : n_ < 2 ^ 31) (nn : Nat) : Met l yJ19_checkIndex (ws_ yJ19_checkIndex cJ19_checkIndex 3 (Option.some Jvm.ClassFile.FieldType.int)) ({ frames := 0, cells := 0, slots := 0, locals := 0 } : Room) (va_Pc [.int (nI i_), .int (nI n_), .ref f_] (PreW Ev0 D vwCl (TY ca) (fl []) nn)) (va_Qi (fun (r_ : Int32) (_ : Unit) => r_ = nI i_) (PostW D vwCl (TY ca) (fun (_ : Unit) => (fl [])) (va_A (fl []) nn)) (va_A (fl []) nn)) 0 0 (va_A (fl []) nn) := by
  refine met_go2 (QA := fun A => va_Qi (fun (r_ : Int32) (_ : Unit) => r_ = nI i_) (PostW D vwCl (TY ca) (fun (_ : Unit) => (fl [])) A) A) (by decide) (Nat.le_of_ble_eq_true rfl) (fun p e s m below meth c A ls QQ hQQ hmn hnm hx hb hr hts hown hlocks hml hA hP hK hD hE hl => ?_)
  have hown : s.vm.findClass RJ19 = some m.cls := hown
  have hS : va_S A s.heap s.heap [] := va_S.rf
  have hl : lv_has ls 3 [(0, .int (nI i_)), (1, .int (nI n_)), (2, .ref f_)] := hl
  generalize hHe : s.heap = H at hP ⊢
  have hS : va_S A s.heap H [] := hHe ▸ hS
  generalize ([] : List Loc) = locs at hS ⊢
  refine lv_iload_n hx hb dJ19_checkIndex_0 rfl (lv_at hl 0 rfl) ?_
  refine nv_if_lt hx hb dJ19_checkIndex_1 (tgt := 9) (by decide) (by omega) ?_
  refine lv_iload_n hx hb dJ19_checkIndex_4 rfl (lv_at hl 0 rfl) ?_
  refine lv_iload_n hx hb dJ19_checkIndex_5 rfl (lv_at hl 1 rfl) ?_
  refine nv_icmp_lt (tgt := 16) hx hb dJ19_checkIndex_6 (by decide) (by omega) (by omega) (fun c_6 => ?_) (fun c_6 => absurd hi (by omega))
  refine lv_iload_n hx hb dJ19_checkIndex_16 rfl (lv_at hl 0 rfl) ?_
  subst hQQ
  exact xe_i (v := nI i_) () hx hb hr hlocks hK hP hD hS (rfl) dJ19_checkIndex_17
set_option maxHeartbeats 400000 in
set_option maxRecDepth 100000 in
theorem mt_J4_checkIndex (l : Launch) (D : va_G) (ca : Nat → ClassId) (i_ : Nat) (n_ : Nat) (hi : i_ < n_) (hn : n_ < 2 ^ 31) (nn : Nat) : Met l yJ4_checkIndex (ws_ yJ4_checkIndex cJ4_checkIndex 2 (Option.none : Option Jvm.ClassFile.FieldType)) ({ frames := 1, cells := 0, slots := 0, locals := 22 } : Room) (va_Pc [.int (nI i_), .int (nI n_)] (PreW EvZ D vwCl (TY ca) (fl []) nn)) (va_Qv (fun (_ : Unit) => True) (PostW D vwCl (TY ca) (fun (_ : Unit) => (fl [])) (va_A (fl []) nn)) (va_A (fl []) nn)) 0 0 (va_A (fl []) nn) := by
  refine met_go2 (QA := fun A => va_Qv (fun (_ : Unit) => True) (PostW D vwCl (TY ca) (fun (_ : Unit) => (fl [])) A) A) (by decide) (Nat.le_of_ble_eq_true rfl) (fun p e s m below meth c A ls QQ hQQ hmn hnm hx hb hr hts hown hlocks hml hA hP hK hD hE hl => ?_)
  have hown : s.vm.findClass RJ4 = some m.cls := hown
  have hS : va_S A s.heap s.heap [] := va_S.rf
  have hl : lv_has ls 2 [(0, .int (nI i_)), (1, .int (nI n_))] := hl
  generalize hHe : s.heap = H at hP ⊢
  have hS : va_S A s.heap H [] := hHe ▸ hS
  generalize ([] : List Loc) = locs at hS ⊢
  refine lv_iload_n hx hb dJ4_checkIndex_0 rfl (lv_at hl 0 rfl) ?_
  refine lv_iload_n hx hb dJ4_checkIndex_1 rfl (lv_at hl 1 rfl) ?_
  rcases hE.2.2.2.1 with hz_ | ⟨tz_, hz_⟩
  · skip
    refine va_gets (v := .null) hx hb hz_ hS hown (hts _ q574) (fun _ h9 => h9) dJ4_checkIndex_2 ?_
    refine xc_i (xr_S (As := [.int (nI i_), .int (nI n_), .null]) (rest := []) (mt_J19_checkIndex_n l D ca i_ n_ (by first | assumption | omega | (simp only [updN, forgetC, changedC]; (repeat' split) <;> omega)) (by first | assumption | omega | (simp only [updN, forgetC, changedC]; (repeat' split) <;> omega)) H.size) ⟨hx, hb, hml, hown, hts⟩ (va_cwS 3 hts (lw_S q845 q846 q103 q847) rfl rfl rfl (by decide +kernel) ⟨Nat.le_of_ble_eq_true rfl, Nat.le_of_ble_eq_true rfl⟩) Ev0_ok trivial hK hS (Cut.app (wc := []) (wr := (fl [])) hP hD hS hA) rfl hl.1 rfl (Nat.le_of_ble_eq_true rfl) dJ4_checkIndex_5 ⟨Nat.le_of_ble_eq_true rfl, Nat.le_of_ble_eq_true rfl⟩) hS (Cut.app (wc := []) (wr := (fl [])) hP hD hS hA) (fun r_1 u_2 H locs hq_5 hP hD hS => ?_)
    have hP : va_P D vwCl (fl []) H := hP
    have hD : va_D A (fl []) := hD
    have hp_5 : r_1 = nI i_ := hq_5
    clear hq_5
    obtain rfl := hp_5
    refine lv_pop hx hb dJ4_checkIndex_8 rfl ?_
    subst hQQ
    exact xe_v () hx hb hr hlocks hK hP hD hS (trivial) dJ4_checkIndex_9
  · skip
    refine va_gets (v := .ref tz_) hx hb hz_ hS hown (hts _ q574) (fun _ h9 => h9) dJ4_checkIndex_2 ?_
    refine xc_i (xr_S (As := [.int (nI i_), .int (nI n_), .ref tz_]) (rest := []) (mt_J19_checkIndex_r l D ca i_ n_ tz_ (by first | assumption | omega | (simp only [updN, forgetC, changedC]; (repeat' split) <;> omega)) (by first | assumption | omega | (simp only [updN, forgetC, changedC]; (repeat' split) <;> omega)) H.size) ⟨hx, hb, hml, hown, hts⟩ (va_cwS 3 hts (lw_S q845 q846 q103 q847) rfl rfl rfl (by decide +kernel) ⟨Nat.le_of_ble_eq_true rfl, Nat.le_of_ble_eq_true rfl⟩) Ev0_ok trivial hK hS (Cut.app (wc := []) (wr := (fl [])) hP hD hS hA) rfl hl.1 rfl (Nat.le_of_ble_eq_true rfl) dJ4_checkIndex_5 ⟨Nat.le_of_ble_eq_true rfl, Nat.le_of_ble_eq_true rfl⟩) hS (Cut.app (wc := []) (wr := (fl [])) hP hD hS hA) (fun r_3 u_4 H locs hq_5 hP hD hS => ?_)
    have hP : va_P D vwCl (fl []) H := hP
    have hD : va_D A (fl []) := hD
    have hp_5 : r_3 = nI i_ := hq_5
    clear hq_5
    obtain rfl := hp_5
    refine lv_pop hx hb dJ4_checkIndex_8 rfl ?_
    subst hQQ
    exact xe_v () hx hb hr hlocks hK hP hD hS (trivial) dJ4_checkIndex_9
set_option maxHeartbeats 400000 in
set_option maxRecDepth 100000 in
theorem mt_J25_checkIndex (l : Launch) (D : va_G) (ca : Nat → ClassId) (i_ : Nat) (n_ : Nat) (hi : i_ < n_) (hn : n_ < 2 ^ 31) (nn : Nat) : Met l yJ25_checkIndex (ws_ yJ25_checkIndex cJ25_checkIndex 2 (Option.some Jvm.ClassFile.FieldType.int)) ({ frames := 1, cells := 0, slots := 0, locals := 22 } : Room) (va_Pc [.int (nI i_), .int (nI n_)] (PreW Ev0 D vwCl (TY ca) (fl []) nn)) (va_Qi (fun (r_ : Int32) (_ : Unit) => r_ = nI i_) (PostW D vwCl (TY ca) (fun (_ : Unit) => (fl [])) (va_A (fl []) nn)) (va_A (fl []) nn)) 0 0 (va_A (fl []) nn) := by
  refine met_go2 (QA := fun A => va_Qi (fun (r_ : Int32) (_ : Unit) => r_ = nI i_) (PostW D vwCl (TY ca) (fun (_ : Unit) => (fl [])) A) A) (by decide) (Nat.le_of_ble_eq_true rfl) (fun p e s m below meth c A ls QQ hQQ hmn hnm hx hb hr hts hown hlocks hml hA hP hK hD hE hl => ?_)
  have hown : s.vm.findClass RJ25 = some m.cls := hown
  have hS : va_S A s.heap s.heap [] := va_S.rf
  have hl : lv_has ls 2 [(0, .int (nI i_)), (1, .int (nI n_))] := hl
  generalize hHe : s.heap = H at hP ⊢
  have hS : va_S A s.heap H [] := hHe ▸ hS
  generalize ([] : List Loc) = locs at hS ⊢
  refine lv_iload_n hx hb dJ25_checkIndex_0 rfl (lv_at hl 0 rfl) ?_
  refine lv_iload_n hx hb dJ25_checkIndex_1 rfl (lv_at hl 1 rfl) ?_
  refine lv_null hx hb dJ25_checkIndex_2 ?_
  refine xc_i (xr_S (As := [.int (nI i_), .int (nI n_), .null]) (rest := []) (mt_J19_checkIndex_n l D ca i_ n_ (by first | assumption | omega | (simp only [updN, forgetC, changedC]; (repeat' split) <;> omega)) (by first | assumption | omega | (simp only [updN, forgetC, changedC]; (repeat' split) <;> omega)) H.size) ⟨hx, hb, hml, hown, hts⟩ (va_cwS 3 hts (lw_S q1386 q846 q103 q847) rfl rfl rfl (by decide +kernel) ⟨Nat.le_of_ble_eq_true rfl, Nat.le_of_ble_eq_true rfl⟩) Ev0_ok hE hK hS (Cut.app (wc := []) (wr := (fl [])) hP hD hS hA) rfl hl.1 rfl (Nat.le_of_ble_eq_true rfl) dJ25_checkIndex_3 ⟨Nat.le_of_ble_eq_true rfl, Nat.le_of_ble_eq_true rfl⟩) hS (Cut.app (wc := []) (wr := (fl [])) hP hD hS hA) (fun r_1 u_2 H locs hq_3 hP hD hS => ?_)
  have hP : va_P D vwCl (fl []) H := hP
  have hD : va_D A (fl []) := hD
  have hp_3 : r_1 = nI i_ := hq_3
  clear hq_3
  obtain rfl := hp_3
  subst hQQ
  exact xe_i (v := nI i_) () hx hb hr hlocks hK hP hD hS (rfl) dJ25_checkIndex_6
set_option maxHeartbeats 400000 in
set_option maxRecDepth 100000 in
theorem mt_J2_charAt (l : Launch) (D : va_G) (ca : Nat → ClassId) (xq : Nat → Nat) (b_ : Nat) (ml_ : Int32) (bs_ : Nat → Int32) (T_ : List Nat) (cap_ : Nat) (i_ : Nat) (hSb : SbOk T_ bs_) (hTx : TxOk T_) (hi : i_ < T_.length) (hc : T_.length ≤ cap_) (hcap : cap_ < 2000) (nn : Nat) : Met l yJ2_charAt (ws_ yJ2_charAt cJ2_charAt 5 (Option.some Jvm.ClassFile.FieldType.char)) ({ frames := 2, cells := 0, slots := 0, locals := 43 } : Room) (va_Pc [.ref (xq 9), .int (nI i_)] (PreW EvZ D vwCl (TY ca) (fl [[(xq 9, .inr (8, [.ref b_, .int 0, .int ml_, .int (nI T_.length)]))], [(b_, .inl (ca 2, cap_, .inl (bs_)))]]) nn)) (va_Qi (fun (r_ : Int32) (_ : Unit) => r_ = nI (T_.getD i_ 0)) (PostW D vwCl (TY ca) (fun (_ : Unit) => (fl [[(xq 9, .inr (8, [.ref b_, .int 0, .int ml_, .int (nI T_.length)]))], [(b_, .inl (ca 2, cap_, .inl (bs_)))]])) (va_A (fl [[(xq 9, .inr (8, [.ref b_, .int 0, .int ml_, .int (nI T_.length)]))], [(b_, .inl (ca 2, cap_, .inl (bs_)))]]) nn)) (va_A (fl [[(xq 9, .inr (8, [.ref b_, .int 0, .int ml_, .int (nI T_.length)]))], [(b_, .inl (ca 2, cap_, .inl (bs_)))]]) nn)) 0 0 (va_A (fl [[(xq 9, .inr (8, [.ref b_, .int 0, .int ml_, .int (nI T_.length)]))], [(b_, .inl (ca 2, cap_, .inl (bs_)))]]) nn) := by
  refine met_go2 (QA := fun A => va_Qi (fun (r_ : Int32) (_ : Unit) => r_ = nI (T_.getD i_ 0)) (PostW D vwCl (TY ca) (fun (_ : Unit) => (fl [[(xq 9, .inr (8, [.ref b_, .int 0, .int ml_, .int (nI T_.length)]))], [(b_, .inl (ca 2, cap_, .inl (bs_)))]])) A) A) (by decide) (Nat.le_of_ble_eq_true rfl) (fun p e s m below meth c A ls QQ hQQ hmn hnm hx hb hr hts hown hlocks hml hA hP hK hD hE hl => ?_)
  have hown : s.vm.findClass RJ2 = some m.cls := hown
  have hS : va_S A s.heap s.heap [] := va_S.rf
  have hl : lv_has ls 5 [(0, .ref (xq 9)), (1, .int (nI i_))] := hl
  generalize hHe : s.heap = H at hP ⊢
  have hS : va_S A s.heap H [] := hHe ▸ hS
  generalize ([] : List Loc) = locs at hS ⊢
  refine lv_aload_n hx hb dJ2_charAt_0 rfl (lv_at hl 0 rfl) ?_
  refine va_get (D := D) (ci := 8) (v := .int (nI 0)) (C := RJ3) (T := TJ3) (N := 4) hx hb hts in_J3 hown hK hP 0 rfl rfl 1 (by decide) (hts _ q218) (fun _ h9 => h9) rfl dJ2_charAt_1 ?_
  refine lv_istore_n (lv' := [(2, .int (nI 0)), (0, .ref (xq 9)), (1, .int (nI i_))]) hx hb dJ2_charAt_4 rfl hl (by decide) rfl (fun ls hl => ?_)
  refine lv_aload_n hx hb dJ2_charAt_5 rfl (lv_at hl 1 rfl) ?_
  refine va_get (D := D) (ci := 8) (v := .ref b_) (C := RJ3) (T := TJ3) (N := 4) hx hb hts in_J3 hown hK hP 0 rfl rfl 0 (by decide) (hts _ q217) (fun _ h9 => h9) rfl dJ2_charAt_6 ?_
  refine lv_astore_n (lv' := [(3, .ref b_), (2, .int (nI 0)), (0, .ref (xq 9)), (1, .int (nI i_))]) hx hb dJ2_charAt_9 rfl hl (by decide) rfl (fun ls hl => ?_)
  refine lv_aload_n hx hb dJ2_charAt_10 rfl (lv_at hl 2 rfl) ?_
  refine va_get (D := D) (ci := 8) (v := .int (nI T_.length)) (C := RJ3) (T := TJ3) (N := 4) hx hb hts in_J3 hown hK hP 0 rfl rfl 3 (by decide) (hts _ q221) (fun _ h9 => h9) rfl dJ2_charAt_11 ?_
  refine lv_aload_n hx hb dJ2_charAt_14 rfl (lv_at hl 0 rfl) ?_
  refine va_alen hx hb hK hP 1 2 rfl rfl rfl dJ2_charAt_15 (lv_topi (nm_r (e' := nI cap_) rfl ?_))
  refine lv_iload_n hx hb dJ2_charAt_16 rfl (lv_at hl 1 rfl) ?_
  refine nv_ishr hx hb dJ2_charAt_17 (by decide) (by omega) ?_
  refine lv_topi (nm_r (e' := nI cap_) (congrArg nI Nat.shiftRight_zero) ?_)
  refine va_mmin (x := nI T_.length) (y := nI cap_) hx hb (hml.trans hl.1.symm) hown (hts _ q841) (hts _ q414) (hts _ q96) (hts _ q415) (Nat.le_of_ble_eq_true rfl) (Nat.le_of_ble_eq_true rfl) (by decide) (by decide) dJ2_charAt_18 ?_
  refine lv_topi (nm_r (e' := nI T_.length) ((mn_nI (by omega) (by omega)).trans (congrArg nI (if_neg (by omega)))) ?_)
  refine lv_istore (lv' := [(4, .int (nI T_.length)), (3, .ref b_), (2, .int (nI 0)), (0, .ref (xq 9)), (1, .int (nI i_))]) hx hb dJ2_charAt_21 hl (by decide) rfl (fun ls hl => ?_)
  refine lv_iload_n hx hb dJ2_charAt_23 rfl (lv_at hl 4 rfl) ?_
  refine lv_iload hx hb dJ2_charAt_24 (lv_at hl 0 rfl) ?_
  refine xc_v (xr_S (As := [.int (nI i_), .int (nI T_.length)]) (rest := []) (mt_J4_checkIndex l D ca i_ T_.length hi (by omega) H.size) ⟨hx, hb, hml, hown, hts⟩ (va_cwS 2 hts (lw_S q842 q843 q85 q844) rfl rfl rfl (by decide +kernel) ⟨Nat.le_of_ble_eq_true rfl, Nat.le_of_ble_eq_true rfl⟩) EvZ_ok hE hK hS (Cut.app (wc := []) (wr := (fl [[(xq 9, .inr (8, [.ref b_, .int 0, .int ml_, .int (nI T_.length)]))], [(b_, .inl (ca 2, cap_, .inl (bs_)))]])) hP hD hS hA) rfl hl.1 rfl (Nat.le_of_ble_eq_true rfl) dJ2_charAt_26 ⟨Nat.le_of_ble_eq_true rfl, Nat.le_of_ble_eq_true rfl⟩) hS (Cut.app (wc := []) (wr := (fl [[(xq 9, .inr (8, [.ref b_, .int 0, .int ml_, .int (nI T_.length)]))], [(b_, .inl (ca 2, cap_, .inl (bs_)))]])) hP hD hS hA) (fun u_2 H locs hq_26 hP hD hS => ?_)
  have hP : va_P D vwCl (fl [[(xq 9, .inr (8, [.ref b_, .int 0, .int ml_, .int (nI T_.length)]))], [(b_, .inl (ca 2, cap_, .inl (bs_)))]]) H := hP
  have hD : va_D A (fl [[(xq 9, .inr (8, [.ref b_, .int 0, .int ml_, .int (nI T_.length)]))], [(b_, .inl (ca 2, cap_, .inl (bs_)))]]) := hD
  refine lv_iload_n hx hb dJ2_charAt_29 rfl (lv_at hl 2 rfl) ?_
  refine nv_if_ne (tgt := 42) hx hb dJ2_charAt_30 (by decide) (by omega) (fun c_30 => absurd c_30 (by decide)) (fun c_30 => ?_)
  refine lv_aload_n hx hb dJ2_charAt_33 rfl (lv_at hl 1 rfl) ?_
  refine lv_iload_n hx hb dJ2_charAt_34 rfl (lv_at hl 4 rfl) ?_
  refine nv_bald hx hb hK hP 1 2 rfl rfl (by omega) (by omega) dJ2_charAt_35 ?_
  refine lv_topi (nm_r (e' := nI (T_.getD i_ 0)) (hSb.1 i_ hi) ?_)
  refine lv_sipush (v := nI 255) hx hb dJ2_charAt_36 (by decide) ?_
  refine lv_iand hx hb dJ2_charAt_39 ?_
  refine lv_topi (nm_r (e' := nI (T_.getD i_ 0)) (bt_and _ (by have := hTx.2 i_; omega)) ?_)
  refine lv_i2c (v := nI (T_.getD i_ 0)) hx hb dJ2_charAt_40 (ch_id _ (by have := hTx.2 i_; omega)) ?_
  subst hQQ
  exact xe_c (v := nI (T_.getD i_ 0)) () hx hb hr (ch_nar (by have := hTx.2 i_; omega)) hlocks hK hP hD hS (rfl) dJ2_charAt_41
set_option maxHeartbeats 400000 in
set_option maxRecDepth 100000 in
theorem mt_J3_charAt (l : Launch) (D : va_G) (ca : Nat → ClassId) (xq : Nat → Nat) (b_ : Nat) (ml_ : Int32) (bs_ : Nat → Int32) (T_ : List Nat) (cap_ : Nat) (i_ : Nat) (hSb : SbOk T_ bs_) (hTx : TxOk T_) (hi : i_ < T_.length) (hc : T_.length ≤ cap_) (hcap : cap_ < 2000) (nn : Nat) : Met l yJ3_charAt (ws_ yJ3_charAt cJ3_charAt 2 (Option.some Jvm.ClassFile.FieldType.char)) ({ frames := 3, cells := 0, slots := 0, locals := 67 } : Room) (va_Pc [.ref (xq 9), .int (nI i_)] (PreW EvZ D vwCl (TY ca) (fl [[(xq 9, .inr (8, [.ref b_, .int 0, .int ml_, .int (nI T_.length)]))], [(b_, .inl (ca 2, cap_, .inl (bs_)))]]) nn)) (va_Qi (fun (r_ : Int32) (_ : Unit) => r_ = nI (T_.getD i_ 0)) (PostW D vwCl (TY ca) (fun (_ : Unit) => (fl [[(xq 9, .inr (8, [.ref b_, .int 0, .int ml_, .int (nI T_.length)]))], [(b_, .inl (ca 2, cap_, .inl (bs_)))]])) (va_A (fl [[(xq 9, .inr (8, [.ref b_, .int 0, .int ml_, .int (nI T_.length)]))], [(b_, .inl (ca 2, cap_, .inl (bs_)))]]) nn)) (va_A (fl [[(xq 9, .inr (8, [.ref b_, .int 0, .int ml_, .int (nI T_.length)]))], [(b_, .inl (ca 2, cap_, .inl (bs_)))]]) nn)) 0 0 (va_A (fl [[(xq 9, .inr (8, [.ref b_, .int 0, .int ml_, .int (nI T_.length)]))], [(b_, .inl (ca 2, cap_, .inl (bs_)))]]) nn) := by
  refine met_go2 (QA := fun A => va_Qi (fun (r_ : Int32) (_ : Unit) => r_ = nI (T_.getD i_ 0)) (PostW D vwCl (TY ca) (fun (_ : Unit) => (fl [[(xq 9, .inr (8, [.ref b_, .int 0, .int ml_, .int (nI T_.length)]))], [(b_, .inl (ca 2, cap_, .inl (bs_)))]])) A) A) (by decide) (Nat.le_of_ble_eq_true rfl) (fun p e s m below meth c A ls QQ hQQ hmn hnm hx hb hr hts hown hlocks hml hA hP hK hD hE hl => ?_)
  have hown : s.vm.findClass RJ3 = some m.cls := hown
  have hS : va_S A s.heap s.heap [] := va_S.rf
  have hl : lv_has ls 2 [(0, .ref (xq 9)), (1, .int (nI i_))] := hl
  generalize hHe : s.heap = H at hP ⊢
  have hS : va_S A s.heap H [] := hHe ▸ hS
  generalize ([] : List Loc) = locs at hS ⊢
  refine lv_aload_n hx hb dJ3_charAt_0 rfl (lv_at hl 0 rfl) ?_
  refine lv_iload_n hx hb dJ3_charAt_1 rfl (lv_at hl 1 rfl) ?_
  refine xc_i (xr_SU (b := xq 9) (ci := 8) (q0 := 0) (As := [.int (nI i_)]) (rest := []) (mt_J2_charAt l D ca xq b_ ml_ bs_ T_ cap_ i_ (by first | assumption | omega | (simp only [updN, forgetC, changedC]; (repeat' split) <;> omega)) (by first | assumption | omega | (simp only [updN, forgetC, changedC]; (repeat' split) <;> omega)) (by first | assumption | omega | (simp only [updN, forgetC, changedC]; (repeat' split) <;> omega)) (by first | assumption | omega | (simp only [updN, forgetC, changedC]; (repeat' split) <;> omega)) (by first | assumption | omega | (simp only [updN, forgetC, changedC]; (repeat' split) <;> omega)) H.size) ⟨hx, hb, hml, hown, hts⟩ (va_cwSU 1 hts (lw_SU q838 q2054 q230 q839 q83 q840) rfl rfl rfl (by decide +kernel) ⟨Nat.le_of_ble_eq_true rfl, Nat.le_of_ble_eq_true rfl⟩) EvZ_ok hE hK hS (Cut.ch [[(xq 9, .inr (8, [.ref b_, .int 0, .int ml_, .int (nI T_.length)]))], [(b_, .inl (ca 2, cap_, .inl (bs_)))]] [] hP hD hS hA) rfl rfl rfl hl.1 rfl (Nat.le_of_ble_eq_true rfl) dJ3_charAt_2 ⟨Nat.le_of_ble_eq_true rfl, Nat.le_of_ble_eq_true rfl⟩) hS (Cut.ch [[(xq 9, .inr (8, [.ref b_, .int 0, .int ml_, .int (nI T_.length)]))], [(b_, .inl (ca 2, cap_, .inl (bs_)))]] [] hP hD hS hA) (fun r_1 u_2 H locs hq_2 hP hD hS => ?_)
  have hP : va_P D vwCl (fl [[(xq 9, .inr (8, [.ref b_, .int 0, .int ml_, .int (nI T_.length)]))], [(b_, .inl (ca 2, cap_, .inl (bs_)))]]) H := fl_join [[(xq 9, .inr (8, [.ref b_, .int 0, .int ml_, .int (nI T_.length)]))], [(b_, .inl (ca 2, cap_, .inl (bs_)))]] [] hP
  have hD : va_D A (fl [[(xq 9, .inr (8, [.ref b_, .int 0, .int ml_, .int (nI T_.length)]))], [(b_, .inl (ca 2, cap_, .inl (bs_)))]]) := fl_joinD [[(xq 9, .inr (8, [.ref b_, .int 0, .int ml_, .int (nI T_.length)]))], [(b_, .inl (ca 2, cap_, .inl (bs_)))]] [] hD
  have hp_2 : r_1 = nI (T_.getD i_ 0) := hq_2
  clear hq_2
  obtain rfl := hp_2
  subst hQQ
  exact xe_c (v := nI (T_.getD i_ 0)) () hx hb hr (ch_nar (by have := hTx.2 i_; omega)) hlocks hK hP hD hS (rfl) dJ3_charAt_5
set_option maxHeartbeats 400000 in
set_option maxRecDepth 100000 in
theorem mt_J2_setLength (l : Launch) (D : va_G) (ca : Nat → ClassId) (xq : Nat → Nat) (b_ : Nat) (ml_ : Int32) (bs_ : Nat → Int32) (cap_ : Nat) (n_ : Nat) (hcap : cap_ < 2000) (hn : n_ < 2000) (nn : Nat) : Met l yJ2_setLength (ws_ yJ2_setLength cJ2_setLength 2 (Option.none : Option Jvm.ClassFile.FieldType)) ({ frames := 1, cells := 0, slots := 0, locals := 22 } : Room) (va_Pc [.ref (xq 9), .int (nI 0)] (PreW EvZ D vwCl (TY ca) (fl [[(xq 9, .inr (8, [.ref b_, .int 0, .int ml_, .int (nI n_)]))], [(b_, .inl (ca 2, cap_, .inl (bs_)))]]) nn)) (va_Qv (fun (u_ : Int32) => True) (PostW D vwCl (TY ca) (fun (u_ : Int32) => (fl [[(xq 9, .inr (8, [.ref b_, .int 0, .int u_, .int (nI 0)]))], [(b_, .inl (ca 2, cap_, .inl (bs_)))]])) (va_A (fl [[(xq 9, .inr (8, [.ref b_, .int 0, .int ml_, .int (nI n_)]))], [(b_, .inl (ca 2, cap_, .inl (bs_)))]]) nn)) (va_A (fl [[(xq 9, .inr (8, [.ref b_, .int 0, .int ml_, .int (nI n_)]))], [(b_, .inl (ca 2, cap_, .inl (bs_)))]]) nn)) 0 0 (va_A (fl [[(xq 9, .inr (8, [.ref b_, .int 0, .int ml_, .int (nI n_)]))], [(b_, .inl (ca 2, cap_, .inl (bs_)))]]) nn) := by
  refine met_go2 (QA := fun A => va_Qv (fun (u_ : Int32) => True) (PostW D vwCl (TY ca) (fun (u_ : Int32) => (fl [[(xq 9, .inr (8, [.ref b_, .int 0, .int u_, .int (nI 0)]))], [(b_, .inl (ca 2, cap_, .inl (bs_)))]])) A) A) (by decide) (Nat.le_of_ble_eq_true rfl) (fun p e s m below meth c A ls QQ hQQ hmn hnm hx hb hr hts hown hlocks hml hA hP hK hD hE hl => ?_)
  have hown : s.vm.findClass RJ2 = some m.cls := hown
  have hS : va_S A s.heap s.heap [] := va_S.rf
  have hl : lv_has ls 2 [(0, .ref (xq 9)), (1, .int (nI 0))] := hl
  generalize hHe : s.heap = H at hP ⊢
  have hS : va_S A s.heap H [] := hHe ▸ hS
  generalize ([] : List Loc) = locs at hS ⊢
  refine lv_iload_n hx hb dJ2_setLength_0 rfl (lv_at hl 1 rfl) ?_
  refine nv_if_ge hx hb dJ2_setLength_1 (tgt := 13) (by decide) (by omega) ?_
  refine lv_aload_n hx hb dJ2_setLength_13 rfl (lv_at hl 0 rfl) ?_
  refine lv_iload_n hx hb dJ2_setLength_14 rfl (lv_at hl 1 rfl) ?_
  refine xc_v (xr_U (b := xq 9) (ci := 8) (q0 := 0) (As := [.int (nI 0)]) (rest := []) (mt_J2_ensureCapacityInternal_n l D ca xq b_ ml_ bs_ cap_ n_ 0 (Nat.zero_le _) hcap H.size) ⟨hx, hb, hml, hown, hts⟩ (va_cwP 1 hts q528 q2047 hE.2.2.2.2.2.2.1.1 q530 q83 q531 rfl rfl (by decide +kernel) ⟨Nat.le_of_ble_eq_true rfl, Nat.le_of_ble_eq_true rfl⟩) EvX_ok hE.1.1 hK hS (Cut.ch [[(xq 9, .inr (8, [.ref b_, .int 0, .int ml_, .int (nI n_)]))], [(b_, .inl (ca 2, cap_, .inl (bs_)))]] [] hP hD hS hA) rfl rfl rfl hl.1 rfl (Nat.le_of_ble_eq_true rfl) dJ2_setLength_15 ⟨Nat.le_of_ble_eq_true rfl, Nat.le_of_ble_eq_true rfl⟩) hS (Cut.ch [[(xq 9, .inr (8, [.ref b_, .int 0, .int ml_, .int (nI n_)]))], [(b_, .inl (ca 2, cap_, .inl (bs_)))]] [] hP hD hS hA) (fun u_2 H locs hq_15 hP hD hS => ?_)
  have hP : va_P D vwCl (fl [[(xq 9, .inr (8, [.ref b_, .int 0, .int ml_, .int (nI n_)]))], [(b_, .inl (ca 2, cap_, .inl (bs_)))]]) H := fl_join [[(xq 9, .inr (8, [.ref b_, .int 0, .int ml_, .int (nI n_)]))], [(b_, .inl (ca 2, cap_, .inl (bs_)))]] [] hP
  have hD : va_D A (fl [[(xq 9, .inr (8, [.ref b_, .int 0, .int ml_, .int (nI n_)]))], [(b_, .inl (ca 2, cap_, .inl (bs_)))]]) := fl_joinD [[(xq 9, .inr (8, [.ref b_, .int 0, .int ml_, .int (nI n_)]))], [(b_, .inl (ca 2, cap_, .inl (bs_)))]] [] hD
  refine lv_aload_n hx hb dJ2_setLength_18 rfl (lv_at hl 0 rfl) ?_
  refine va_get (D := D) (ci := 8) (v := .int (nI n_)) (C := RJ3) (T := TJ3) (N := 4) hx hb hts in_J3 hown hK hP 0 rfl rfl 3 (by decide) (hts _ q221) (fun _ h9 => h9) rfl dJ2_setLength_19 ?_
  refine lv_iload_n hx hb dJ2_setLength_22 rfl (lv_at hl 1 rfl) ?_
  refine nv_icmp_ge (tgt := 63) hx hb dJ2_setLength_23 (by decide) (by omega) (by omega) (fun c_23 => ?_) (fun c_23 => absurd c_23 (by omega))
  refine lv_aload_n hx hb dJ2_setLength_63 rfl (lv_at hl 0 rfl) ?_
  refine va_get (D := D) (ci := 8) (v := .int (nI n_)) (C := RJ3) (T := TJ3) (N := 4) hx hb hts in_J3 hown hK hP 0 rfl rfl 3 (by decide) (hts _ q221) (fun _ h9 => h9) rfl dJ2_setLength_64 ?_
  refine lv_iload_n hx hb dJ2_setLength_67 rfl (lv_at hl 1 rfl) ?_
  refine nv_icmp_le (tgt := 76) hx hb dJ2_setLength_68 (by decide) (by omega) (by omega) (fun c_68 => ?_) (fun c_68 => ?_)
  · skip
    refine lv_aload_n hx hb dJ2_setLength_76 rfl (lv_at hl 0 rfl) ?_
    refine lv_iload_n hx hb dJ2_setLength_77 rfl (lv_at hl 1 rfl) ?_
    refine va_put (D := D) (ci := 8) (v := .int (nI 0)) (ty := .int) (C := RJ3) (T := TJ3) (N := 4) hx hb hts in_J3 tyJ3 tyJ3_ok nmJ3 hown hK hP hD hS 0 rfl rfl 3 (by decide) (hts _ q221) (fun _ h9 => h9) rfl (by decide +kernel) rfl rfl (Nat.le_of_ble_eq_true rfl) dJ2_setLength_78 (fun H locs hP hD hS => ?_)
    have hP : va_P D vwCl (fl [[(xq 9, .inr (8, [.ref b_, .int 0, .int ml_, .int (nI 0)]))], [(b_, .inl (ca 2, cap_, .inl (bs_)))]]) H := hP
    have hD : va_D A (fl [[(xq 9, .inr (8, [.ref b_, .int 0, .int ml_, .int (nI 0)]))], [(b_, .inl (ca 2, cap_, .inl (bs_)))]]) := hD
    subst hQQ
    exact xe_v ml_ hx hb hr hlocks hK hP hD hS (trivial) dJ2_setLength_81
  · skip
    refine lv_aload_n hx hb dJ2_setLength_71 rfl (lv_at hl 0 rfl) ?_
    refine lv_iconst (v := nI 1) hx hb dJ2_setLength_72 (by decide) ?_
    refine va_put (D := D) (ci := 8) (v := .int (nI 1)) (ty := .boolean) (C := RJ3) (T := TJ3) (N := 4) hx hb hts in_J3 tyJ3 tyJ3_ok nmJ3 hown hK hP hD hS 0 rfl rfl 2 (by decide) (hts _ q219) (fun _ h9 => h9) rfl (by decide +kernel) rfl rfl (Nat.le_of_ble_eq_true rfl) dJ2_setLength_73 (fun H locs hP hD hS => ?_)
    have hP : va_P D vwCl (fl [[(xq 9, .inr (8, [.ref b_, .int 0, .int (nI 1), .int (nI n_)]))], [(b_, .inl (ca 2, cap_, .inl (bs_)))]]) H := hP
    have hD : va_D A (fl [[(xq 9, .inr (8, [.ref b_, .int 0, .int (nI 1), .int (nI n_)]))], [(b_, .inl (ca 2, cap_, .inl (bs_)))]]) := hD
    refine lv_aload_n hx hb dJ2_setLength_76 rfl (lv_at hl 0 rfl) ?_
    refine lv_iload_n hx hb dJ2_setLength_77 rfl (lv_at hl 1 rfl) ?_
    refine va_put (D := D) (ci := 8) (v := .int (nI 0)) (ty := .int) (C := RJ3) (T := TJ3) (N := 4) hx hb hts in_J3 tyJ3 tyJ3_ok nmJ3 hown hK hP hD hS 0 rfl rfl 3 (by decide) (hts _ q221) (fun _ h9 => h9) rfl (by decide +kernel) rfl rfl (Nat.le_of_ble_eq_true rfl) dJ2_setLength_78 (fun H locs hP hD hS => ?_)
    have hP : va_P D vwCl (fl [[(xq 9, .inr (8, [.ref b_, .int 0, .int (nI 1), .int (nI 0)]))], [(b_, .inl (ca 2, cap_, .inl (bs_)))]]) H := hP
    have hD : va_D A (fl [[(xq 9, .inr (8, [.ref b_, .int 0, .int (nI 1), .int (nI 0)]))], [(b_, .inl (ca 2, cap_, .inl (bs_)))]]) := hD
    subst hQQ
    exact xe_v (nI 1) hx hb hr hlocks hK hP hD hS (trivial) dJ2_setLength_81
set_option maxHeartbeats 400000 in
set_option maxRecDepth 100000 in
theorem mt_J3_setLength (l : Launch) (D : va_G) (ca : Nat → ClassId) (xq : Nat → Nat) (b_ : Nat) (ml_ : Int32) (bs_ : Nat → Int32) (cap_ : Nat) (n_ : Nat) (hcap : cap_ < 2000) (hn : n_ < 2000) (nn : Nat) : Met l yJ3_setLength (ws_ yJ3_setLength cJ3_setLength 2 (Option.none : Option Jvm.ClassFile.FieldType)) ({ frames := 2, cells := 0, slots := 0, locals := 43 } : Room) (va_Pc [.ref (xq 9), .int (nI 0)] (PreW EvZ D vwCl (TY ca) (fl [[(xq 9, .inr (8, [.ref b_, .int 0, .int ml_, .int (nI n_)]))], [(b_, .inl (ca 2, cap_, .inl (bs_)))]]) nn)) (va_Qv (fun (u_ : Int32) => True) (PostW D vwCl (TY ca) (fun (u_ : Int32) => (fl [[(xq 9, .inr (8, [.ref b_, .int 0, .int u_, .int (nI 0)]))], [(b_, .inl (ca 2, cap_, .inl (bs_)))]])) (va_A (fl [[(xq 9, .inr (8, [.ref b_, .int 0, .int ml_, .int (nI n_)]))], [(b_, .inl (ca 2, cap_, .inl (bs_)))]]) nn)) (va_A (fl [[(xq 9, .inr (8, [.ref b_, .int 0, .int ml_, .int (nI n_)]))], [(b_, .inl (ca 2, cap_, .inl (bs_)))]]) nn)) 0 0 (va_A (fl [[(xq 9, .inr (8, [.ref b_, .int 0, .int ml_, .int (nI n_)]))], [(b_, .inl (ca 2, cap_, .inl (bs_)))]]) nn) := by
  refine met_go2 (QA := fun A => va_Qv (fun (u_ : Int32) => True) (PostW D vwCl (TY ca) (fun (u_ : Int32) => (fl [[(xq 9, .inr (8, [.ref b_, .int 0, .int u_, .int (nI 0)]))], [(b_, .inl (ca 2, cap_, .inl (bs_)))]])) A) A) (by decide) (Nat.le_of_ble_eq_true rfl) (fun p e s m below meth c A ls QQ hQQ hmn hnm hx hb hr hts hown hlocks hml hA hP hK hD hE hl => ?_)
  have hown : s.vm.findClass RJ3 = some m.cls := hown
  have hS : va_S A s.heap s.heap [] := va_S.rf
  have hl : lv_has ls 2 [(0, .ref (xq 9)), (1, .int (nI 0))] := hl
  generalize hHe : s.heap = H at hP ⊢
  have hS : va_S A s.heap H [] := hHe ▸ hS
  generalize ([] : List Loc) = locs at hS ⊢
  refine lv_aload_n hx hb dJ3_setLength_0 rfl (lv_at hl 0 rfl) ?_
  refine lv_iload_n hx hb dJ3_setLength_1 rfl (lv_at hl 1 rfl) ?_
  refine xc_v (xr_SU (b := xq 9) (ci := 8) (q0 := 0) (As := [.int (nI 0)]) (rest := []) (mt_J2_setLength l D ca xq b_ ml_ bs_ cap_ n_ (by first | assumption | omega | (simp only [updN, forgetC, changedC]; (repeat' split) <;> omega)) (by first | assumption | omega | (simp only [updN, forgetC, changedC]; (repeat' split) <;> omega)) H.size) ⟨hx, hb, hml, hown, hts⟩ (va_cwSU 1 hts (lw_SU q506 q2044 q230 q507 q83 q508) rfl rfl rfl (by decide +kernel) ⟨Nat.le_of_ble_eq_true rfl, Nat.le_of_ble_eq_true rfl⟩) EvZ_ok hE hK hS (Cut.ch [[(xq 9, .inr (8, [.ref b_, .int 0, .int ml_, .int (nI n_)]))], [(b_, .inl (ca 2, cap_, .inl (bs_)))]] [] hP hD hS hA) rfl rfl rfl hl.1 rfl (Nat.le_of_ble_eq_true rfl) dJ3_setLength_2 ⟨Nat.le_of_ble_eq_true rfl, Nat.le_of_ble_eq_true rfl⟩) hS (Cut.ch [[(xq 9, .inr (8, [.ref b_, .int 0, .int ml_, .int (nI n_)]))], [(b_, .inl (ca 2, cap_, .inl (bs_)))]] [] hP hD hS hA) (fun u_2 H locs hq_2 hP hD hS => ?_)
  obtain ⟨ml1_3, rfl⟩ : ∃ z_, z_ = u_2 := ⟨_, rfl⟩
  have hP : va_P D vwCl (fl [[(xq 9, .inr (8, [.ref b_, .int 0, .int ml1_3, .int (nI 0)]))], [(b_, .inl (ca 2, cap_, .inl (bs_)))]]) H := fl_join [[(xq 9, .inr (8, [.ref b_, .int 0, .int ml1_3, .int (nI 0)]))], [(b_, .inl (ca 2, cap_, .inl (bs_)))]] [] hP
  have hD : va_D A (fl [[(xq 9, .inr (8, [.ref b_, .int 0, .int ml1_3, .int (nI 0)]))], [(b_, .inl (ca 2, cap_, .inl (bs_)))]]) := fl_joinD [[(xq 9, .inr (8, [.ref b_, .int 0, .int ml1_3, .int (nI 0)]))], [(b_, .inl (ca 2, cap_, .inl (bs_)))]] [] hD
  subst hQQ
  exact xe_v ml1_3 hx hb hr hlocks hK hP hD hS (trivial) dJ3_setLength_5
set_option maxHeartbeats 400000 in
set_option maxRecDepth 100000 in
theorem mt_J2_init (l : Launch) (D : va_G) (ca : Nat → ClassId) (t_ : Nat)  (nn : Nat) : Met l yJ2_init (ws_ yJ2_init cJ2_init 2 (Option.none : Option Jvm.ClassFile.FieldType)) ({ frames := 1, cells := 1, slots := 16, locals := 40 } : Room) (va_Pc [.ref t_, .int (nI 16)] (PreW EvZ D vwCl (TY ca) (fl [[(t_, .inr (8, [.null, .int 0, .int 0, .int 0]))]]) nn)) (va_Qv (fun (u_ : Nat) => True) (PostW D vwCl (TY ca) (fun (u_ : Nat) => (fl [[(t_, .inr (8, [.ref u_, .int 0, .int 0, .int 0]))], [(u_, .inl (ca 2, 16, .inl ((fun _ => 0))))]])) (va_A (fl [[(t_, .inr (8, [.null, .int 0, .int 0, .int 0]))]]) nn)) (va_A (fl [[(t_, .inr (8, [.null, .int 0, .int 0, .int 0]))]]) nn)) 1 16 (va_A (fl [[(t_, .inr (8, [.null, .int 0, .int 0, .int 0]))]]) nn) := by
  refine met_go2 (QA := fun A => va_Qv (fun (u_ : Nat) => True) (PostW D vwCl (TY ca) (fun (u_ : Nat) => (fl [[(t_, .inr (8, [.ref u_, .int 0, .int 0, .int 0]))], [(u_, .inl (ca 2, 16, .inl ((fun _ => 0))))]])) A) A) (by decide) (Nat.le_of_ble_eq_true rfl) (fun p e s m below meth c A ls QQ hQQ hmn hnm hx hb hr hts hown hlocks hml hA hP hK hD hE hl => ?_)
  have hown : s.vm.findClass RJ2 = some m.cls := hown
  have hS : va_S A s.heap s.heap [] := va_S.rf
  have hl : lv_has ls 2 [(0, .ref t_), (1, .int (nI 16))] := hl
  generalize hHe : s.heap = H at hP ⊢
  have hS : va_S A s.heap H [] := hHe ▸ hS
  generalize ([] : List Loc) = locs at hS ⊢
  refine lv_aload_n hx hb dJ2_init_0 rfl (lv_at hl 0 rfl) ?_
  refine W.objInit hx hb hown (hts _ q207) (hts _ q120) (hts _ q121) rfl (by rw [hml]; exact hl.1) rfl dJ2_init_1 (Nat.le_of_ble_eq_true rfl) (Nat.le_of_ble_eq_true rfl) ?_
  show W p l e _ s m _ below meth c _ _ _ _ _ (F0 m 4 ls [])
  refine va_gets (v := .int (nI 1)) hx hb hE.2.2.1 hS hown (hts _ q208) (fun _ h9 => h9) dJ2_init_4 ?_
  refine nv_if_eq (tgt := 25) hx hb dJ2_init_7 (by decide) (by omega) (fun c_7 => absurd c_7 (by decide)) (fun c_7 => ?_)
  refine lv_aload_n hx hb dJ2_init_10 rfl (lv_at hl 0 rfl) ?_
  refine lv_iload_n hx hb dJ2_init_11 rfl (lv_at hl 1 rfl) ?_
  refine nv_newb (N := 16) hx hb (hts _ q231) hK hP hD hS hA 2 rfl (by decide) (by decide) ⟨Nat.le_of_ble_eq_true rfl, Nat.le_of_ble_eq_true rfl⟩ dJ2_init_12 (fun q_1 H hP hD hS => ?_)
  have hP : va_P D vwCl (fl [[(t_, .inr (8, [.null, .int 0, .int 0, .int 0]))], [(q_1, .inl (ca 2, 16, .inl ((fun _ => 0))))]]) H := fl_pushP hP
  have hD : va_D A (fl [[(t_, .inr (8, [.null, .int 0, .int 0, .int 0]))], [(q_1, .inl (ca 2, 16, .inl ((fun _ => 0))))]]) := fl_pushD hD
  refine va_put (D := D) (ci := 8) (v := .ref q_1) (ty := (.array .byte)) (C := RJ3) (T := TJ3) (N := 4) hx hb hts in_J3 tyJ3 tyJ3_ok nmJ3 hown hK hP hD hS 0 rfl rfl 0 (by decide) (hts _ q217) (fun _ h9 => h9) rfl (by decide +kernel) rfl rfl (Nat.le_of_ble_eq_true rfl) dJ2_init_14 (fun H locs hP hD hS => ?_)
  have hP : va_P D vwCl (fl [[(t_, .inr (8, [.ref q_1, .int 0, .int 0, .int 0]))], [(q_1, .inl (ca 2, 16, .inl ((fun _ => 0))))]]) H := hP
  have hD : va_D A (fl [[(t_, .inr (8, [.ref q_1, .int 0, .int 0, .int 0]))], [(q_1, .inl (ca 2, 16, .inl ((fun _ => 0))))]]) := hD
  refine lv_aload_n hx hb dJ2_init_17 rfl (lv_at hl 0 rfl) ?_
  refine lv_iconst (v := nI 0) hx hb dJ2_init_18 (by decide) ?_
  refine va_put (D := D) (ci := 8) (v := .int (nI 0)) (ty := .byte) (C := RJ3) (T := TJ3) (N := 4) hx hb hts in_J3 tyJ3 tyJ3_ok nmJ3 hown hK hP hD hS 0 rfl rfl 1 (by decide) (hts _ q218) (fun _ h9 => h9) rfl (by decide +kernel) rfl rfl (Nat.le_of_ble_eq_true rfl) dJ2_init_19 (fun H locs hP hD hS => ?_)
  have hP : va_P D vwCl (fl [[(t_, .inr (8, [.ref q_1, .int (nI 0), .int 0, .int 0]))], [(q_1, .inl (ca 2, 16, .inl ((fun _ => 0))))]]) H := hP
  have hD : va_D A (fl [[(t_, .inr (8, [.ref q_1, .int (nI 0), .int 0, .int 0]))], [(q_1, .inl (ca 2, 16, .inl ((fun _ => 0))))]]) := hD
  refine lv_goto (tgt := 38) hx hb dJ2_init_22 (by decide) ?_
  subst hQQ
  exact xe_v q_1 hx hb hr hlocks hK hP hD hS (trivial) dJ2_init_38
set_option maxHeartbeats 400000 in
set_option maxRecDepth 100000 in
theorem mt_J3_init (l : Launch) (D : va_G) (ca : Nat → ClassId) (t_ : Nat)  (nn : Nat) : Met l yJ3_init (ws_ yJ3_init cJ3_init 1 (Option.none : Option Jvm.ClassFile.FieldType)) ({ frames := 2, cells := 1, slots := 16, locals := 61 } : Room) (va_Pc [.ref t_] (PreW EvZ D vwCl (TY ca) (fl [[(t_, .inr (8, [.null, .int 0, .int 0, .int 0]))]]) nn)) (va_Qv (fun (u_ : Nat) => True) (PostW D vwCl (TY ca) (fun (u_ : Nat) => (fl [[(t_, .inr (8, [.ref u_, .int 0, .int 0, .int 0]))], [(u_, .inl (ca 2, 16, .inl ((fun _ => 0))))]])) (va_A (fl [[(t_, .inr (8, [.null, .int 0, .int 0, .int 0]))]]) nn)) (va_A (fl [[(t_, .inr (8, [.null, .int 0, .int 0, .int 0]))]]) nn)) 1 16 (va_A (fl [[(t_, .inr (8, [.null, .int 0, .int 0, .int 0]))]]) nn) := by
  refine met_go2 (QA := fun A => va_Qv (fun (u_ : Nat) => True) (PostW D vwCl (TY ca) (fun (u_ : Nat) => (fl [[(t_, .inr (8, [.ref u_, .int 0, .int 0, .int 0]))], [(u_, .inl (ca 2, 16, .inl ((fun _ => 0))))]])) A) A) (by decide) (Nat.le_of_ble_eq_true rfl) (fun p e s m below meth c A ls QQ hQQ hmn hnm hx hb hr hts hown hlocks hml hA hP hK hD hE hl => ?_)
  have hown : s.vm.findClass RJ3 = some m.cls := hown
  have hS : va_S A s.heap s.heap [] := va_S.rf
  have hl : lv_has ls 1 [(0, .ref t_)] := hl
  generalize hHe : s.heap = H at hP ⊢
  have hS : va_S A s.heap H [] := hHe ▸ hS
  generalize ([] : List Loc) = locs at hS ⊢
  refine lv_aload_n hx hb dJ3_init_0 rfl (lv_at hl 0 rfl) ?_
  refine lv_bipush (v := nI 16) hx hb dJ3_init_1 (by decide) ?_
  refine xc_v (xr_I (b := t_) (As := [.int (nI 16)]) (rest := []) (mt_J2_init l D ca t_  H.size) ⟨hx, hb, hml, hown, hts⟩ (cwI 1 hts (lw_meth q206) rfl rfl rfl (hts _ q83) (hts _ q204) (hts _ q205) rfl (by decide +kernel) ⟨Nat.le_of_ble_eq_true rfl, Nat.le_of_ble_eq_true rfl⟩) EvZ_ok hE hK hS (Cut.ch [[(t_, .inr (8, [.null, .int 0, .int 0, .int 0]))]] [] hP hD hS hA) rfl hl.1 rfl (Nat.le_of_ble_eq_true rfl) dJ3_init_3 ⟨Nat.le_of_ble_eq_true rfl, Nat.le_of_ble_eq_true rfl⟩) hS (Cut.ch [[(t_, .inr (8, [.null, .int 0, .int 0, .int 0]))]] [] hP hD hS hA) (fun u_2 H locs hq_3 hP hD hS => ?_)
  obtain ⟨b1_3, rfl⟩ : ∃ z_, z_ = u_2 := ⟨_, rfl⟩
  have hP : va_P D vwCl (fl [[(t_, .inr (8, [.ref b1_3, .int 0, .int 0, .int 0]))], [(b1_3, .inl (ca 2, 16, .inl (fun _ => 0)))]]) H := fl_join [[(t_, .inr (8, [.ref b1_3, .int 0, .int 0, .int 0]))], [(b1_3, .inl (ca 2, 16, .inl (fun _ => 0)))]] [] hP
  have hD : va_D A (fl [[(t_, .inr (8, [.ref b1_3, .int 0, .int 0, .int 0]))], [(b1_3, .inl (ca 2, 16, .inl (fun _ => 0)))]]) := fl_joinD [[(t_, .inr (8, [.ref b1_3, .int 0, .int 0, .int 0]))], [(b1_3, .inl (ca 2, 16, .inl (fun _ => 0)))]] [] hD
  subst hQQ
  exact xe_v b1_3 hx hb hr hlocks hK hP hD hS (trivial) dJ3_init_6
set_option maxHeartbeats 400000 in
set_option maxRecDepth 100000 in
theorem mt_X1_append_thrA (l : Launch) (hlf : l.stackTraces = false) (D : va_G) (ca : Nat → ClassId) (cq : Nat → Nat) (xq : Nat → Nat) (tb_ : Nat → Int64) (va : Nat → Int32) (fy : Nat → Int64) (cn : Nat → Int32) (an : Nat → Int32) (sw : Nat → Int64) (sb : Nat → Int64) (sv : Value) (x_ : Int32) (hc : decide (nI 32 ≤ x_ ∧ x_ ≤ nI 126) = false) (nn : Nat) : vx_Met l yX1_append (ws_ yX1_append cX1_append 2 (Option.some Jvm.ClassFile.FieldType.int)) ({ frames := 9, cells := 1, slots := 6, locals := 220 } : Room) (va_Pc [.ref (xq 0), .int x_] (PreW EvY D vwCl (TY ca) (fl [(WTr ca cq xq tb_ va fy cn an sw sb sv)]) nn)) (QN (va_A (fl [(WTr ca cq xq tb_ va fy cn an sw sb sv)]) nn)) (XT "java/lang/IllegalArgumentException" D vwCl (TY ca) (fl [(WTr ca cq xq tb_ va fy cn an sw sb sv)]) (va_A (fl [(WTr ca cq xq tb_ va fy cn an sw sb sv)]) nn)) 1 6 (va_A (fl [(WTr ca cq xq tb_ va fy cn an sw sb sv)]) nn) := by
  refine met_goX (QA := fun A => QN A) (XA := fun A => XT "java/lang/IllegalArgumentException" D vwCl (TY ca) (fl [(WTr ca cq xq tb_ va fy cn an sw sb sv)]) A) (by decide) (Nat.le_of_ble_eq_true rfl) (fun p e s m below meth c A ls QQ hQQ hex hnm hx hb hr hts hown hlocks hml hA hP hK hD hE hl => ?_)
  have hown : s.vm.findClass RX1 = some m.cls := hown
  have hS : va_S A s.heap s.heap [] := va_S.rf
  have hl : lv_has ls 2 [(0, .ref (xq 0)), (1, .int x_)] := hl
  generalize hHe : s.heap = H at hP ⊢
  have hS : va_S A s.heap H [] := hHe ▸ hS
  generalize ([] : List Loc) = locs at hS ⊢
  refine lv_iload_n hx hb dX1_append_0 rfl (lv_at hl 1 rfl) ?_
  refine lv_bipush (v := nI 32) hx hb dX1_append_1 (by decide) ?_
  refine lv_bipush (v := nI 126) hx hb dX1_append_3 (by decide) ?_
  refine xc_i (xr_S (As := [.int x_, .int (nI 32), .int (nI 126)]) (rest := []) (mt_X1_isWithin l D ca x_ (nI 32) (nI 126)  H.size) ⟨hx, hb, hml, hown, hts⟩ (va_cwS 3 hts (lw_S q1044 q926 q79 q927) rfl rfl rfl (by decide +kernel) ⟨Nat.le_of_ble_eq_true rfl, Nat.le_of_ble_eq_true rfl⟩) Ev0_ok trivial hK hS (Cut.app (wc := []) (wr := (fl [(WTr ca cq xq tb_ va fy cn an sw sb sv)])) hP hD hS hA) rfl hl.1 rfl (Nat.le_of_ble_eq_true rfl) dX1_append_5 ⟨Nat.le_of_ble_eq_true rfl, Nat.le_of_ble_eq_true rfl⟩) hS (Cut.app (wc := []) (wr := (fl [(WTr ca cq xq tb_ va fy cn an sw sb sv)])) hP hD hS hA) (fun r_1 u_2 H locs hq_5 hP hD hS => ?_)
  have hP : va_P D vwCl (fl [(WTr ca cq xq tb_ va fy cn an sw sb sv)]) H := hP
  have hD : va_D A (fl [(WTr ca cq xq tb_ va fy cn an sw sb sv)]) := hD
  have hp_5 : r_1 = bI (decide ((nI 32) ≤ x_ ∧ x_ ≤ (nI 126))) := hq_5
  clear hq_5
  obtain rfl := hp_5
  subst hQQ
  exact xt_out (xt_S (As := [.int (bI (decide ((nI 32) ≤ x_ ∧ x_ ≤ (nI 126))))]) (rest := []) (mt_X1_needArgument_thr l hlf D ca (decide ((nI 32) ≤ x_ ∧ x_ ≤ (nI 126))) hc H.size) ⟨hx, hb, hml, hown, hts⟩ (va_cwS 1 hts (lw_S q1045 q1046 q79 q1047) rfl rfl rfl (by decide +kernel) ⟨Nat.le_of_ble_eq_true rfl, Nat.le_of_ble_eq_true rfl⟩) EvY_ok hE hK hS (Cut.app (wc := []) (wr := (fl [(WTr ca cq xq tb_ va fy cn an sw sb sv)])) hP hD hS hA) rfl hl.1 rfl (Nat.le_of_ble_eq_true rfl) dX1_append_8 ⟨Nat.le_of_ble_eq_true rfl, Nat.le_of_ble_eq_true rfl⟩) hS (Cut.app (wc := []) (wr := (fl [(WTr ca cq xq tb_ va fy cn an sw sb sv)])) hP hD hS hA) xt_same hex hlocks hK (by decide) (by decide)
set_option maxHeartbeats 400000 in
set_option maxRecDepth 100000 in
theorem mt_X1_append_thrS (l : Launch) (hlf : l.stackTraces = false) (D : va_G) (ca : Nat → ClassId) (cq : Nat → Nat) (tb_ : Nat → Int64) (va : Nat → Int32) (fy : Nat → Int64) (cn : Nat → Int32) (an : Nat → Int32) (sw : Nat → Int64) (sb : Nat → Int64) (sv : Value) (xq : Nat → Nat) (b_ : Nat) (ml_ : Int32) (bs_ : Nat → Int32) (T_ : List Nat) (cap_ : Nat) (x_ : Int32) (hc : decide (nI 32 ≤ x_ ∧ x_ ≤ nI 126) = true) (hT : T_.length = 60) (nn : Nat) : vx_Met l yX1_append (ws_ yX1_append cX1_append 2 (Option.some Jvm.ClassFile.FieldType.int)) ({ frames := 9, cells := 1, slots := 6, locals := 220 } : Room) (va_Pc [.ref (xq 0), .int x_] (PreW EvY D vwCl (TY ca) (fl [(WTr ca cq xq tb_ va fy cn an sw sb sv), [(xq 9, .inr (8, [.ref b_, .int 0, .int ml_, .int (nI T_.length)]))], [(b_, .inl (ca 2, cap_, .inl (bs_)))]]) nn)) (QN (va_A (fl [(WTr ca cq xq tb_ va fy cn an sw sb sv), [(xq 9, .inr (8, [.ref b_, .int 0, .int ml_, .int (nI T_.length)]))], [(b_, .inl (ca 2, cap_, .inl (bs_)))]]) nn)) (XT "java/lang/IllegalStateException" D vwCl (TY ca) (fl [(WTr ca cq xq tb_ va fy cn an sw sb sv), [(xq 9, .inr (8, [.ref b_, .int 0, .int ml_, .int (nI T_.length)]))], [(b_, .inl (ca 2, cap_, .inl (bs_)))]]) (va_A (fl [(WTr ca cq xq tb_ va fy cn an sw sb sv), [(xq 9, .inr (8, [.ref b_, .int 0, .int ml_, .int (nI T_.length)]))], [(b_, .inl (ca 2, cap_, .inl (bs_)))]]) nn)) 1 6 (va_A (fl [(WTr ca cq xq tb_ va fy cn an sw sb sv), [(xq 9, .inr (8, [.ref b_, .int 0, .int ml_, .int (nI T_.length)]))], [(b_, .inl (ca 2, cap_, .inl (bs_)))]]) nn) := by
  refine met_goX (QA := fun A => QN A) (XA := fun A => XT "java/lang/IllegalStateException" D vwCl (TY ca) (fl [(WTr ca cq xq tb_ va fy cn an sw sb sv), [(xq 9, .inr (8, [.ref b_, .int 0, .int ml_, .int (nI T_.length)]))], [(b_, .inl (ca 2, cap_, .inl (bs_)))]]) A) (by decide) (Nat.le_of_ble_eq_true rfl) (fun p e s m below meth c A ls QQ hQQ hex hnm hx hb hr hts hown hlocks hml hA hP hK hD hE hl => ?_)
  have hown : s.vm.findClass RX1 = some m.cls := hown
  have hS : va_S A s.heap s.heap [] := va_S.rf
  have hl : lv_has ls 2 [(0, .ref (xq 0)), (1, .int x_)] := hl
  generalize hHe : s.heap = H at hP ⊢
  have hS : va_S A s.heap H [] := hHe ▸ hS
  generalize ([] : List Loc) = locs at hS ⊢
  refine lv_iload_n hx hb dX1_append_0 rfl (lv_at hl 1 rfl) ?_
  refine lv_bipush (v := nI 32) hx hb dX1_append_1 (by decide) ?_
  refine lv_bipush (v := nI 126) hx hb dX1_append_3 (by decide) ?_
  refine xc_i (xr_S (As := [.int x_, .int (nI 32), .int (nI 126)]) (rest := []) (mt_X1_isWithin l D ca x_ (nI 32) (nI 126)  H.size) ⟨hx, hb, hml, hown, hts⟩ (va_cwS 3 hts (lw_S q1044 q926 q79 q927) rfl rfl rfl (by decide +kernel) ⟨Nat.le_of_ble_eq_true rfl, Nat.le_of_ble_eq_true rfl⟩) Ev0_ok trivial hK hS (Cut.app (wc := []) (wr := (fl [(WTr ca cq xq tb_ va fy cn an sw sb sv), [(xq 9, .inr (8, [.ref b_, .int 0, .int ml_, .int (nI T_.length)]))], [(b_, .inl (ca 2, cap_, .inl (bs_)))]])) hP hD hS hA) rfl hl.1 rfl (Nat.le_of_ble_eq_true rfl) dX1_append_5 ⟨Nat.le_of_ble_eq_true rfl, Nat.le_of_ble_eq_true rfl⟩) hS (Cut.app (wc := []) (wr := (fl [(WTr ca cq xq tb_ va fy cn an sw sb sv), [(xq 9, .inr (8, [.ref b_, .int 0, .int ml_, .int (nI T_.length)]))], [(b_, .inl (ca 2, cap_, .inl (bs_)))]])) hP hD hS hA) (fun r_1 u_2 H locs hq_5 hP hD hS => ?_)
  have hP : va_P D vwCl (fl [(WTr ca cq xq tb_ va fy cn an sw sb sv), [(xq 9, .inr (8, [.ref b_, .int 0, .int ml_, .int (nI T_.length)]))], [(b_, .inl (ca 2, cap_, .inl (bs_)))]]) H := hP
  have hD : va_D A (fl [(WTr ca cq xq tb_ va fy cn an sw sb sv), [(xq 9, .inr (8, [.ref b_, .int 0, .int ml_, .int (nI T_.length)]))], [(b_, .inl (ca 2, cap_, .inl (bs_)))]]) := hD
  have hp_5 : r_1 = bI (decide ((nI 32) ≤ x_ ∧ x_ ≤ (nI 126))) := hq_5
  clear hq_5
  obtain rfl := hp_5
  refine xc_v (xr_S (As := [.int (bI (decide ((nI 32) ≤ x_ ∧ x_ ≤ (nI 126))))]) (rest := []) (mt_X1_needArgument_ok l D ca (decide ((nI 32) ≤ x_ ∧ x_ ≤ (nI 126))) hc H.size) ⟨hx, hb, hml, hown, hts⟩ (va_cwS 1 hts (lw_S q1045 q1046 q79 q1047) rfl rfl rfl (by decide +kernel) ⟨Nat.le_of_ble_eq_true rfl, Nat.le_of_ble_eq_true rfl⟩) Ev0_ok trivial hK hS (Cut.app (wc := []) (wr := (fl [(WTr ca cq xq tb_ va fy cn an sw sb sv), [(xq 9, .inr (8, [.ref b_, .int 0, .int ml_, .int (nI T_.length)]))], [(b_, .inl (ca 2, cap_, .inl (bs_)))]])) hP hD hS hA) rfl hl.1 rfl (Nat.le_of_ble_eq_true rfl) dX1_append_8 ⟨Nat.le_of_ble_eq_true rfl, Nat.le_of_ble_eq_true rfl⟩) hS (Cut.app (wc := []) (wr := (fl [(WTr ca cq xq tb_ va fy cn an sw sb sv), [(xq 9, .inr (8, [.ref b_, .int 0, .int ml_, .int (nI T_.length)]))], [(b_, .inl (ca 2, cap_, .inl (bs_)))]])) hP hD hS hA) (fun u_4 H locs hq_8 hP hD hS => ?_)
  have hP : va_P D vwCl (fl [(WTr ca cq xq tb_ va fy cn an sw sb sv), [(xq 9, .inr (8, [.ref b_, .int 0, .int ml_, .int (nI T_.length)]))], [(b_, .inl (ca 2, cap_, .inl (bs_)))]]) H := hP
  have hD : va_D A (fl [(WTr ca cq xq tb_ va fy cn an sw sb sv), [(xq 9, .inr (8, [.ref b_, .int 0, .int ml_, .int (nI T_.length)]))], [(b_, .inl (ca 2, cap_, .inl (bs_)))]]) := hD
  refine lv_aload_n hx hb dX1_append_11 rfl (lv_at hl 0 rfl) ?_
  refine va_get (D := D) (ci := 0) (v := .ref (xq 9)) (C := RX1) (T := TX1) (N := 11) hx hb hts in_X1 hown hK hP 0 rfl rfl 10 (by decide) (hts _ q243) (fun _ h9 => h9) rfl dX1_append_12 ?_
  have hP : va_P D vwCl (fl [[(xq 9, .inr (8, [.ref b_, .int 0, .int ml_, .int (nI T_.length)]))], [(b_, .inl (ca 2, cap_, .inl (bs_)))], (WTr ca cq xq tb_ va fy cn an sw sb sv)]) H := mvP hP [1, 2, 0]
  have hD : va_D A (fl [[(xq 9, .inr (8, [.ref b_, .int 0, .int ml_, .int (nI T_.length)]))], [(b_, .inl (ca 2, cap_, .inl (bs_)))], (WTr ca cq xq tb_ va fy cn an sw sb sv)]) := mvD hD [1, 2, 0] (by decide)
  refine xc_i (xr_V (b := xq 9) (ci := 8) (q0 := 0) (As := []) (rest := []) (mt_J3_length l D ca xq b_ ml_ bs_ cap_ T_.length  H.size) ⟨hx, hb, hml, hown, hts⟩ (cwV 0 hts (lw_V q495 q496 q497 q84 q498) rfl rfl rfl (by decide +kernel) ⟨Nat.le_of_ble_eq_true rfl, Nat.le_of_ble_eq_true rfl⟩) Ev0_ok trivial hK hS (Cut.ch [[(xq 9, .inr (8, [.ref b_, .int 0, .int ml_, .int (nI T_.length)]))], [(b_, .inl (ca 2, cap_, .inl (bs_)))]] [(WTr ca cq xq tb_ va fy cn an sw sb sv)] hP hD hS hA) rfl rfl rfl hl.1 rfl (Nat.le_of_ble_eq_true rfl) dX1_append_15 ⟨Nat.le_of_ble_eq_true rfl, Nat.le_of_ble_eq_true rfl⟩) hS (Cut.ch [[(xq 9, .inr (8, [.ref b_, .int 0, .int ml_, .int (nI T_.length)]))], [(b_, .inl (ca 2, cap_, .inl (bs_)))]] [(WTr ca cq xq tb_ va fy cn an sw sb sv)] hP hD hS hA) (fun r_5 u_6 H locs hq_15 hP hD hS => ?_)
  have hP : va_P D vwCl (fl [[(xq 9, .inr (8, [.ref b_, .int 0, .int ml_, .int (nI T_.length)]))], [(b_, .inl (ca 2, cap_, .inl (bs_)))], (WTr ca cq xq tb_ va fy cn an sw sb sv)]) H := fl_join [[(xq 9, .inr (8, [.ref b_, .int 0, .int ml_, .int (nI T_.length)]))], [(b_, .inl (ca 2, cap_, .inl (bs_)))]] [(WTr ca cq xq tb_ va fy cn an sw sb sv)] hP
  have hD : va_D A (fl [[(xq 9, .inr (8, [.ref b_, .int 0, .int ml_, .int (nI T_.length)]))], [(b_, .inl (ca 2, cap_, .inl (bs_)))], (WTr ca cq xq tb_ va fy cn an sw sb sv)]) := fl_joinD [[(xq 9, .inr (8, [.ref b_, .int 0, .int ml_, .int (nI T_.length)]))], [(b_, .inl (ca 2, cap_, .inl (bs_)))]] [(WTr ca cq xq tb_ va fy cn an sw sb sv)] hD
  have hp_15 : r_5 = nI T_.length := hq_15
  clear hq_15
  obtain rfl := hp_15
  refine lv_bipush (v := nI 60) hx hb dX1_append_18 (by decide) ?_
  refine nv_icmp_ge (tgt := 27) hx hb dX1_append_20 (by decide) (by omega) (by omega) (fun c_20 => ?_) (fun c_20 => ?_)
  · skip
    refine lv_iconst (v := nI 0) hx hb dX1_append_27 (by decide) ?_
    subst hQQ
    exact xt_out (xt_S (As := [.int (nI 0)]) (rest := []) (mt_X1_needState_thr l hlf D ca false rfl H.size) ⟨hx, hb, hml, hown, hts⟩ (va_cwS 1 hts (lw_S q1302 q1196 q79 q1197) rfl rfl rfl (by decide +kernel) ⟨Nat.le_of_ble_eq_true rfl, Nat.le_of_ble_eq_true rfl⟩) EvY_ok hE hK hS (Cut.app (wc := []) (wr := (fl [[(xq 9, .inr (8, [.ref b_, .int 0, .int ml_, .int (nI T_.length)]))], [(b_, .inl (ca 2, cap_, .inl (bs_)))], (WTr ca cq xq tb_ va fy cn an sw sb sv)])) hP hD hS hA) rfl hl.1 rfl (Nat.le_of_ble_eq_true rfl) dX1_append_28 ⟨Nat.le_of_ble_eq_true rfl, Nat.le_of_ble_eq_true rfl⟩) hS (Cut.app (wc := []) (wr := (fl [[(xq 9, .inr (8, [.ref b_, .int 0, .int ml_, .int (nI T_.length)]))], [(b_, .inl (ca 2, cap_, .inl (bs_)))], (WTr ca cq xq tb_ va fy cn an sw sb sv)])) hP hD hS hA) (fun H1 ua_ ub_ => ⟨mvP (fl_join [] [[(xq 9, .inr (8, [.ref b_, .int 0, .int ml_, .int (nI T_.length)]))], [(b_, .inl (ca 2, cap_, .inl (bs_)))], (WTr ca cq xq tb_ va fy cn an sw sb sv)] ua_) [2, 0, 1], mvD (fl_joinD [] [[(xq 9, .inr (8, [.ref b_, .int 0, .int ml_, .int (nI T_.length)]))], [(b_, .inl (ca 2, cap_, .inl (bs_)))], (WTr ca cq xq tb_ va fy cn an sw sb sv)] ub_) [2, 0, 1] (by decide)⟩) hex hlocks hK (by decide) (by decide)
  · skip
    refine lv_iconst (v := nI 1) hx hb dX1_append_23 (by decide) ?_
    refine lv_goto (tgt := 28) hx hb dX1_append_24 (by decide) ?_
    exfalso; clear hP hD hS hK hts; omega
set_option maxHeartbeats 400000 in
set_option maxRecDepth 100000 in
theorem mt_X1_append_ok (l : Launch) (D : va_G) (ca : Nat → ClassId) (cq : Nat → Nat) (tb_ : Nat → Int64) (va : Nat → Int32) (fy : Nat → Int64) (cn : Nat → Int32) (an : Nat → Int32) (sw : Nat → Int64) (sb : Nat → Int64) (sv : Value) (xq : Nat → Nat) (b_ : Nat) (ml_ : Int32) (bs_ : Nat → Int32) (T_ : List Nat) (cap_ : Nat) (c_ : Nat) (hc1 : 32 ≤ c_) (hc2 : c_ ≤ 126) (hT : T_.length < 60) (hSb : SbOk T_ bs_) (hcc : (T_.length < cap_ ∧ cap_ < 2000) ∨ (T_.length = 16 ∧ cap_ = 16) ∨ (T_.length = 34 ∧ cap_ = 34)) (nn : Nat) : Met l yX1_append (ws_ yX1_append cX1_append 2 (Option.some Jvm.ClassFile.FieldType.int)) ({ frames := 6, cells := 1, slots := 70, locals := 152 } : Room) (va_Pc [.ref (xq 0), .int (nI c_)] (PreW EvZ D vwCl (TY ca) (fl [(WTr ca cq xq tb_ va fy cn an sw sb sv), [(xq 9, .inr (8, [.ref b_, .int 0, .int ml_, .int (nI T_.length)]))], [(b_, .inl (ca 2, cap_, .inl (bs_)))]]) nn)) (va_Qi (fun (r_ : Int32) (u_ : Nat × Nat × (Nat → Int32)) => r_ = nI (T_.length + 1) ∧ (SbOk (T_ ++ [c_]) u_.2.2 ∧ ((u_.2.1 = cap_ ∧ T_.length < cap_) ∨ (T_.length = 16 ∧ u_.2.1 = 34) ∨ (T_.length = 34 ∧ u_.2.1 = 70)))) (PostW D vwCl (TY ca) (fun (u_ : Nat × Nat × (Nat → Int32)) => (fl [(WTr ca cq xq tb_ va fy cn an sw sb sv), [(xq 9, .inr (8, [.ref u_.1, .int 0, .int ml_, .int (nI (T_.length + 1))]))], [(u_.1, .inl (ca 2, u_.2.1, .inl (u_.2.2)))]])) (va_A (fl [(WTr ca cq xq tb_ va fy cn an sw sb sv), [(xq 9, .inr (8, [.ref b_, .int 0, .int ml_, .int (nI T_.length)]))], [(b_, .inl (ca 2, cap_, .inl (bs_)))]]) nn)) (va_A (fl [(WTr ca cq xq tb_ va fy cn an sw sb sv), [(xq 9, .inr (8, [.ref b_, .int 0, .int ml_, .int (nI T_.length)]))], [(b_, .inl (ca 2, cap_, .inl (bs_)))]]) nn)) 1 70 (va_A (fl [(WTr ca cq xq tb_ va fy cn an sw sb sv), [(xq 9, .inr (8, [.ref b_, .int 0, .int ml_, .int (nI T_.length)]))], [(b_, .inl (ca 2, cap_, .inl (bs_)))]]) nn) := by
  refine met_go2 (QA := fun A => va_Qi (fun (r_ : Int32) (u_ : Nat × Nat × (Nat → Int32)) => r_ = nI (T_.length + 1) ∧ (SbOk (T_ ++ [c_]) u_.2.2 ∧ ((u_.2.1 = cap_ ∧ T_.length < cap_) ∨ (T_.length = 16 ∧ u_.2.1 = 34) ∨ (T_.length = 34 ∧ u_.2.1 = 70)))) (PostW D vwCl (TY ca) (fun (u_ : Nat × Nat × (Nat → Int32)) => (fl [(WTr ca cq xq tb_ va fy cn an sw sb sv), [(xq 9, .inr (8, [.ref u_.1, .int 0, .int ml_, .int (nI (T_.length + 1))]))], [(u_.1, .inl (ca 2, u_.2.1, .inl (u_.2.2)))]])) A) A) (by decide) (Nat.le_of_ble_eq_true rfl) (fun p e s m below meth c A ls QQ hQQ hmn hnm hx hb hr hts hown hlocks hml hA hP hK hD hE hl => ?_)
  have hown : s.vm.findClass RX1 = some m.cls := hown
  have hS : va_S A s.heap s.heap [] := va_S.rf
  have hl : lv_has ls 2 [(0, .ref (xq 0)), (1, .int (nI c_))] := hl
  generalize hHe : s.heap = H at hP ⊢
  have hS : va_S A s.heap H [] := hHe ▸ hS
  generalize ([] : List Loc) = locs at hS ⊢
  refine lv_iload_n hx hb dX1_append_0 rfl (lv_at hl 1 rfl) ?_
  refine lv_bipush (v := nI 32) hx hb dX1_append_1 (by decide) ?_
  refine lv_bipush (v := nI 126) hx hb dX1_append_3 (by decide) ?_
  refine xc_i (xr_S (As := [.int (nI c_), .int (nI 32), .int (nI 126)]) (rest := []) (mt_X1_isWithin l D ca (nI c_) (nI 32) (nI 126)  H.size) ⟨hx, hb, hml, hown, hts⟩ (va_cwS 3 hts (lw_S q1044 q926 q79 q927) rfl rfl rfl (by decide +kernel) ⟨Nat.le_of_ble_eq_true rfl, Nat.le_of_ble_eq_true rfl⟩) Ev0_ok trivial hK hS (Cut.app (wc := []) (wr := (fl [(WTr ca cq xq tb_ va fy cn an sw sb sv), [(xq 9, .inr (8, [.ref b_, .int 0, .int ml_, .int (nI T_.length)]))], [(b_, .inl (ca 2, cap_, .inl (bs_)))]])) hP hD hS hA) rfl hl.1 rfl (Nat.le_of_ble_eq_true rfl) dX1_append_5 ⟨Nat.le_of_ble_eq_true rfl, Nat.le_of_ble_eq_true rfl⟩) hS (Cut.app (wc := []) (wr := (fl [(WTr ca cq xq tb_ va fy cn an sw sb sv), [(xq 9, .inr (8, [.ref b_, .int 0, .int ml_, .int (nI T_.length)]))], [(b_, .inl (ca 2, cap_, .inl (bs_)))]])) hP hD hS hA) (fun r_1 u_2 H locs hq_5 hP hD hS => ?_)
  have hP : va_P D vwCl (fl [(WTr ca cq xq tb_ va fy cn an sw sb sv), [(xq 9, .inr (8, [.ref b_, .int 0, .int ml_, .int (nI T_.length)]))], [(b_, .inl (ca 2, cap_, .inl (bs_)))]]) H := hP
  have hD : va_D A (fl [(WTr ca cq xq tb_ va fy cn an sw sb sv), [(xq 9, .inr (8, [.ref b_, .int 0, .int ml_, .int (nI T_.length)]))], [(b_, .inl (ca 2, cap_, .inl (bs_)))]]) := hD
  have hp_5 : r_1 = bI (decide ((nI 32) ≤ (nI c_) ∧ (nI c_) ≤ (nI 126))) := hq_5
  clear hq_5
  obtain rfl := hp_5
  refine xc_v (xr_S (As := [.int (bI (decide ((nI 32) ≤ (nI c_) ∧ (nI c_) ≤ (nI 126))))]) (rest := []) (mt_X1_needArgument_ok l D ca (decide ((nI 32) ≤ (nI c_) ∧ (nI c_) ≤ (nI 126))) (by rw [in_rng (by decide) (by decide) (by omega)]; exact decide_eq_true ⟨hc1, hc2⟩) H.size) ⟨hx, hb, hml, hown, hts⟩ (va_cwS 1 hts (lw_S q1045 q1046 q79 q1047) rfl rfl rfl (by decide +kernel) ⟨Nat.le_of_ble_eq_true rfl, Nat.le_of_ble_eq_true rfl⟩) Ev0_ok trivial hK hS (Cut.app (wc := []) (wr := (fl [(WTr ca cq xq tb_ va fy cn an sw sb sv), [(xq 9, .inr (8, [.ref b_, .int 0, .int ml_, .int (nI T_.length)]))], [(b_, .inl (ca 2, cap_, .inl (bs_)))]])) hP hD hS hA) rfl hl.1 rfl (Nat.le_of_ble_eq_true rfl) dX1_append_8 ⟨Nat.le_of_ble_eq_true rfl, Nat.le_of_ble_eq_true rfl⟩) hS (Cut.app (wc := []) (wr := (fl [(WTr ca cq xq tb_ va fy cn an sw sb sv), [(xq 9, .inr (8, [.ref b_, .int 0, .int ml_, .int (nI T_.length)]))], [(b_, .inl (ca 2, cap_, .inl (bs_)))]])) hP hD hS hA) (fun u_4 H locs hq_8 hP hD hS => ?_)
  have hP : va_P D vwCl (fl [(WTr ca cq xq tb_ va fy cn an sw sb sv), [(xq 9, .inr (8, [.ref b_, .int 0, .int ml_, .int (nI T_.length)]))], [(b_, .inl (ca 2, cap_, .inl (bs_)))]]) H := hP
  have hD : va_D A (fl [(WTr ca cq xq tb_ va fy cn an sw sb sv), [(xq 9, .inr (8, [.ref b_, .int 0, .int ml_, .int (nI T_.length)]))], [(b_, .inl (ca 2, cap_, .inl (bs_)))]]) := hD
  refine lv_aload_n hx hb dX1_append_11 rfl (lv_at hl 0 rfl) ?_
  refine va_get (D := D) (ci := 0) (v := .ref (xq 9)) (C := RX1) (T := TX1) (N := 11) hx hb hts in_X1 hown hK hP 0 rfl rfl 10 (by decide) (hts _ q243) (fun _ h9 => h9) rfl dX1_append_12 ?_
  have hP : va_P D vwCl (fl [[(xq 9, .inr (8, [.ref b_, .int 0, .int ml_, .int (nI T_.length)]))], [(b_, .inl (ca 2, cap_, .inl (bs_)))], (WTr ca cq xq tb_ va fy cn an sw sb sv)]) H := mvP hP [1, 2, 0]
  have hD : va_D A (fl [[(xq 9, .inr (8, [.ref b_, .int 0, .int ml_, .int (nI T_.length)]))], [(b_, .inl (ca 2, cap_, .inl (bs_)))], (WTr ca cq xq tb_ va fy cn an sw sb sv)]) := mvD hD [1, 2, 0] (by decide)
  refine xc_i (xr_V (b := xq 9) (ci := 8) (q0 := 0) (As := []) (rest := []) (mt_J3_length l D ca xq b_ ml_ bs_ cap_ T_.length  H.size) ⟨hx, hb, hml, hown, hts⟩ (cwV 0 hts (lw_V q495 q496 q497 q84 q498) rfl rfl rfl (by decide +kernel) ⟨Nat.le_of_ble_eq_true rfl, Nat.le_of_ble_eq_true rfl⟩) Ev0_ok trivial hK hS (Cut.ch [[(xq 9, .inr (8, [.ref b_, .int 0, .int ml_, .int (nI T_.length)]))], [(b_, .inl (ca 2, cap_, .inl (bs_)))]] [(WTr ca cq xq tb_ va fy cn an sw sb sv)] hP hD hS hA) rfl rfl rfl hl.1 rfl (Nat.le_of_ble_eq_true rfl) dX1_append_15 ⟨Nat.le_of_ble_eq_true rfl, Nat.le_of_ble_eq_true rfl⟩) hS (Cut.ch [[(xq 9, .inr (8, [.ref b_, .int 0, .int ml_, .int (nI T_.length)]))], [(b_, .inl (ca 2, cap_, .inl (bs_)))]] [(WTr ca cq xq tb_ va fy cn an sw sb sv)] hP hD hS hA) (fun r_5 u_6 H locs hq_15 hP hD hS => ?_)
  have hP : va_P D vwCl (fl [[(xq 9, .inr (8, [.ref b_, .int 0, .int ml_, .int (nI T_.length)]))], [(b_, .inl (ca 2, cap_, .inl (bs_)))], (WTr ca cq xq tb_ va fy cn an sw sb sv)]) H := fl_join [[(xq 9, .inr (8, [.ref b_, .int 0, .int ml_, .int (nI T_.length)]))], [(b_, .inl (ca 2, cap_, .inl (bs_)))]] [(WTr ca cq xq tb_ va fy cn an sw sb sv)] hP
  have hD : va_D A (fl [[(xq 9, .inr (8, [.ref b_, .int 0, .int ml_, .int (nI T_.length)]))], [(b_, .inl (ca 2, cap_, .inl (bs_)))], (WTr ca cq xq tb_ va fy cn an sw sb sv)]) := fl_joinD [[(xq 9, .inr (8, [.ref b_, .int 0, .int ml_, .int (nI T_.length)]))], [(b_, .inl (ca 2, cap_, .inl (bs_)))]] [(WTr ca cq xq tb_ va fy cn an sw sb sv)] hD
  have hp_15 : r_5 = nI T_.length := hq_15
  clear hq_15
  obtain rfl := hp_15
  refine lv_bipush (v := nI 60) hx hb dX1_append_18 (by decide) ?_
  refine nv_icmp_ge (tgt := 27) hx hb dX1_append_20 (by decide) (by omega) (by omega) (fun c_20 => absurd c_20 (by omega)) (fun c_20 => ?_)
  refine lv_iconst (v := nI 1) hx hb dX1_append_23 (by decide) ?_
  refine lv_goto (tgt := 28) hx hb dX1_append_24 (by decide) ?_
  refine xc_v (xr_S (As := [.int (nI 1)]) (rest := []) (mt_X1_needState_ok l D ca true rfl H.size) ⟨hx, hb, hml, hown, hts⟩ (va_cwS 1 hts (lw_S q1302 q1196 q79 q1197) rfl rfl rfl (by decide +kernel) ⟨Nat.le_of_ble_eq_true rfl, Nat.le_of_ble_eq_true rfl⟩) Ev0_ok trivial hK hS (Cut.app (wc := []) (wr := (fl [[(xq 9, .inr (8, [.ref b_, .int 0, .int ml_, .int (nI T_.length)]))], [(b_, .inl (ca 2, cap_, .inl (bs_)))], (WTr ca cq xq tb_ va fy cn an sw sb sv)])) hP hD hS hA) rfl hl.1 rfl (Nat.le_of_ble_eq_true rfl) dX1_append_28 ⟨Nat.le_of_ble_eq_true rfl, Nat.le_of_ble_eq_true rfl⟩) hS (Cut.app (wc := []) (wr := (fl [[(xq 9, .inr (8, [.ref b_, .int 0, .int ml_, .int (nI T_.length)]))], [(b_, .inl (ca 2, cap_, .inl (bs_)))], (WTr ca cq xq tb_ va fy cn an sw sb sv)])) hP hD hS hA) (fun u_8 H locs hq_28 hP hD hS => ?_)
  have hP : va_P D vwCl (fl [[(xq 9, .inr (8, [.ref b_, .int 0, .int ml_, .int (nI T_.length)]))], [(b_, .inl (ca 2, cap_, .inl (bs_)))], (WTr ca cq xq tb_ va fy cn an sw sb sv)]) H := hP
  have hD : va_D A (fl [[(xq 9, .inr (8, [.ref b_, .int 0, .int ml_, .int (nI T_.length)]))], [(b_, .inl (ca 2, cap_, .inl (bs_)))], (WTr ca cq xq tb_ va fy cn an sw sb sv)]) := hD
  refine lv_aload_n hx hb dX1_append_31 rfl (lv_at hl 0 rfl) ?_
  refine va_get (D := D) (ci := 0) (v := .ref (xq 9)) (C := RX1) (T := TX1) (N := 11) hx hb hts in_X1 hown hK hP 2 rfl rfl 10 (by decide) (hts _ q243) (fun _ h9 => h9) rfl dX1_append_32 ?_
  refine lv_iload_n hx hb dX1_append_35 rfl (lv_at hl 1 rfl) ?_
  refine lv_i2c (v := nI c_) hx hb dX1_append_36 (ch_id _ (by omega)) ?_
  rcases hcc with hcc | hcc | hcc
  · skip
    refine xc_r (xr_V (b := xq 9) (ci := 8) (q0 := 0) (As := [.int (nI c_)]) (rest := []) (mt_J3_append_3_n l D ca xq b_ ml_ bs_ T_ cap_ c_ (by omega) hcc.1 hcc.2 H.size) ⟨hx, hb, hml, hown, hts⟩ (cwV 1 hts (lw_V q1323 q1324 q1325 q84 q1326) rfl rfl rfl (by decide +kernel) ⟨Nat.le_of_ble_eq_true rfl, Nat.le_of_ble_eq_true rfl⟩) EvZ_ok hE hK hS (Cut.ch [[(xq 9, .inr (8, [.ref b_, .int 0, .int ml_, .int (nI T_.length)]))], [(b_, .inl (ca 2, cap_, .inl (bs_)))]] [(WTr ca cq xq tb_ va fy cn an sw sb sv)] hP hD hS hA) rfl rfl rfl hl.1 rfl (Nat.le_of_ble_eq_true rfl) dX1_append_37 ⟨Nat.le_of_ble_eq_true rfl, Nat.le_of_ble_eq_true rfl⟩) hS (Cut.ch [[(xq 9, .inr (8, [.ref b_, .int 0, .int ml_, .int (nI T_.length)]))], [(b_, .inl (ca 2, cap_, .inl (bs_)))]] [(WTr ca cq xq tb_ va fy cn an sw sb sv)] hP hD hS hA) (fun u_10 H locs hq_37 hP hD hS => ?_)
    have hP : va_P D vwCl (fl [[(xq 9, .inr (8, [.ref b_, .int 0, .int ml_, .int (nI (T_.length + 1))]))], [(b_, .inl (ca 2, cap_, .inl (upd bs_ T_.length (nI c_))))], (WTr ca cq xq tb_ va fy cn an sw sb sv)]) H := fl_join [[(xq 9, .inr (8, [.ref b_, .int 0, .int ml_, .int (nI (T_.length + 1))]))], [(b_, .inl (ca 2, cap_, .inl (upd bs_ T_.length (nI c_))))]] [(WTr ca cq xq tb_ va fy cn an sw sb sv)] hP
    have hD : va_D A (fl [[(xq 9, .inr (8, [.ref b_, .int 0, .int ml_, .int (nI (T_.length + 1))]))], [(b_, .inl (ca 2, cap_, .inl (upd bs_ T_.length (nI c_))))], (WTr ca cq xq tb_ va fy cn an sw sb sv)]) := fl_joinD [[(xq 9, .inr (8, [.ref b_, .int 0, .int ml_, .int (nI (T_.length + 1))]))], [(b_, .inl (ca 2, cap_, .inl (upd bs_ T_.length (nI c_))))]] [(WTr ca cq xq tb_ va fy cn an sw sb sv)] hD
    refine lv_pop hx hb dX1_append_40 rfl ?_
    refine lv_aload_n hx hb dX1_append_41 rfl (lv_at hl 0 rfl) ?_
    refine va_get (D := D) (ci := 0) (v := .ref (xq 9)) (C := RX1) (T := TX1) (N := 11) hx hb hts in_X1 hown hK hP 2 rfl rfl 10 (by decide) (hts _ q243) (fun _ h9 => h9) rfl dX1_append_42 ?_
    refine xc_i (xr_V (b := xq 9) (ci := 8) (q0 := 0) (As := []) (rest := []) (mt_J3_length l D ca xq b_ ml_ (upd bs_ T_.length (nI c_)) cap_ (T_.length + 1)  H.size) ⟨hx, hb, hml, hown, hts⟩ (cwV 0 hts (lw_V q495 q496 q497 q84 q498) rfl rfl rfl (by decide +kernel) ⟨Nat.le_of_ble_eq_true rfl, Nat.le_of_ble_eq_true rfl⟩) Ev0_ok trivial hK hS (Cut.ch [[(xq 9, .inr (8, [.ref b_, .int 0, .int ml_, .int (nI (T_.length + 1))]))], [(b_, .inl (ca 2, cap_, .inl (upd bs_ T_.length (nI c_))))]] [(WTr ca cq xq tb_ va fy cn an sw sb sv)] hP hD hS hA) rfl rfl rfl hl.1 rfl (Nat.le_of_ble_eq_true rfl) dX1_append_45 ⟨Nat.le_of_ble_eq_true rfl, Nat.le_of_ble_eq_true rfl⟩) hS (Cut.ch [[(xq 9, .inr (8, [.ref b_, .int 0, .int ml_, .int (nI (T_.length + 1))]))], [(b_, .inl (ca 2, cap_, .inl (upd bs_ T_.length (nI c_))))]] [(WTr ca cq xq tb_ va fy cn an sw sb sv)] hP hD hS hA) (fun r_11 u_12 H locs hq_45 hP hD hS => ?_)
    have hP : va_P D vwCl (fl [[(xq 9, .inr (8, [.ref b_, .int 0, .int ml_, .int (nI (T_.length + 1))]))], [(b_, .inl (ca 2, cap_, .inl (upd bs_ T_.length (nI c_))))], (WTr ca cq xq tb_ va fy cn an sw sb sv)]) H := fl_join [[(xq 9, .inr (8, [.ref b_, .int 0, .int ml_, .int (nI (T_.length + 1))]))], [(b_, .inl (ca 2, cap_, .inl (upd bs_ T_.length (nI c_))))]] [(WTr ca cq xq tb_ va fy cn an sw sb sv)] hP
    have hD : va_D A (fl [[(xq 9, .inr (8, [.ref b_, .int 0, .int ml_, .int (nI (T_.length + 1))]))], [(b_, .inl (ca 2, cap_, .inl (upd bs_ T_.length (nI c_))))], (WTr ca cq xq tb_ va fy cn an sw sb sv)]) := fl_joinD [[(xq 9, .inr (8, [.ref b_, .int 0, .int ml_, .int (nI (T_.length + 1))]))], [(b_, .inl (ca 2, cap_, .inl (upd bs_ T_.length (nI c_))))]] [(WTr ca cq xq tb_ va fy cn an sw sb sv)] hD
    have hp_45 : r_11 = nI (T_.length + 1) := hq_45
    clear hq_45
    obtain rfl := hp_45
    have hP : va_P D vwCl (fl [(WTr ca cq xq tb_ va fy cn an sw sb sv), [(xq 9, .inr (8, [.ref b_, .int 0, .int ml_, .int (nI (T_.length + 1))]))], [(b_, .inl (ca 2, cap_, .inl (upd bs_ T_.length (nI c_))))]]) H := mvP hP [2, 0, 1]
    have hD : va_D A (fl [(WTr ca cq xq tb_ va fy cn an sw sb sv), [(xq 9, .inr (8, [.ref b_, .int 0, .int ml_, .int (nI (T_.length + 1))]))], [(b_, .inl (ca 2, cap_, .inl (upd bs_ T_.length (nI c_))))]]) := mvD hD [2, 0, 1] (by decide)
    subst hQQ
    refine MQ_le (c0 := 0) (s0 := 0) (by decide) (by decide) ?_
    exact xe_i (v := nI (T_.length + 1)) (b_, cap_, upd bs_ T_.length (nI c_)) hx hb hr hlocks hK hP hD hS (⟨rfl, ⟨SbOk_add hSb (by omega), Or.inl ⟨rfl, hcc.1⟩⟩⟩) dX1_append_48
  · skip
    obtain ⟨hk1_, rfl⟩ := hcc
    have hk2_ : T_.length = 16 := hk1_
    rw [hk2_] at hP hD
    have hP : va_P D vwCl (fl [[(xq 9, .inr (8, [.ref b_, .int 0, .int ml_, .int (nI 16)]))], [(b_, .inl (ca 2, 16, .inl (bs_)))], (WTr ca cq xq tb_ va fy cn an sw sb sv)]) H := hP
    have hD : va_D A (fl [[(xq 9, .inr (8, [.ref b_, .int 0, .int ml_, .int (nI 16)]))], [(b_, .inl (ca 2, 16, .inl (bs_)))], (WTr ca cq xq tb_ va fy cn an sw sb sv)]) := hD
    refine xc_r (xr_V (b := xq 9) (ci := 8) (q0 := 0) (As := [.int (nI c_)]) (rest := []) (mt_J3_append_3_g16 l D ca xq b_ ml_ bs_ T_ c_ (by omega) hSb.2 H.size) ⟨hx, hb, hml, hown, hts⟩ (cwV 1 hts (lw_V q1323 q1324 q1325 q84 q1326) rfl rfl rfl (by decide +kernel) ⟨Nat.le_of_ble_eq_true rfl, Nat.le_of_ble_eq_true rfl⟩) EvZ_ok hE hK hS (Cut.ch [[(xq 9, .inr (8, [.ref b_, .int 0, .int ml_, .int (nI 16)]))], [(b_, .inl (ca 2, 16, .inl (bs_)))]] [(WTr ca cq xq tb_ va fy cn an sw sb sv)] hP hD hS hA) rfl rfl rfl hl.1 rfl (Nat.le_of_ble_eq_true rfl) dX1_append_37 ⟨Nat.le_of_ble_eq_true rfl, Nat.le_of_ble_eq_true rfl⟩) hS (Cut.ch [[(xq 9, .inr (8, [.ref b_, .int 0, .int ml_, .int (nI 16)]))], [(b_, .inl (ca 2, 16, .inl (bs_)))]] [(WTr ca cq xq tb_ va fy cn an sw sb sv)] hP hD hS hA) (fun u_14 H locs hq_37 hP hD hS => ?_)
    obtain ⟨b1_15, rfl⟩ : ∃ z_, z_ = u_14 := ⟨_, rfl⟩
    have hP : va_P D vwCl (fl [[(xq 9, .inr (8, [.ref b1_15, .int 0, .int ml_, .int (nI 17)]))], [(b1_15, .inl (ca 2, 34, .inl (upd (va_cpy bs_ (fun _ => 0) 0 0 16) 16 (nI c_))))], (WTr ca cq xq tb_ va fy cn an sw sb sv)]) H := fl_join [[(xq 9, .inr (8, [.ref b1_15, .int 0, .int ml_, .int (nI 17)]))], [(b1_15, .inl (ca 2, 34, .inl (upd (va_cpy bs_ (fun _ => 0) 0 0 16) 16 (nI c_))))]] [(WTr ca cq xq tb_ va fy cn an sw sb sv)] hP
    have hD : va_D A (fl [[(xq 9, .inr (8, [.ref b1_15, .int 0, .int ml_, .int (nI 17)]))], [(b1_15, .inl (ca 2, 34, .inl (upd (va_cpy bs_ (fun _ => 0) 0 0 16) 16 (nI c_))))], (WTr ca cq xq tb_ va fy cn an sw sb sv)]) := fl_joinD [[(xq 9, .inr (8, [.ref b1_15, .int 0, .int ml_, .int (nI 17)]))], [(b1_15, .inl (ca 2, 34, .inl (upd (va_cpy bs_ (fun _ => 0) 0 0 16) 16 (nI c_))))]] [(WTr ca cq xq tb_ va fy cn an sw sb sv)] hD
    refine lv_pop hx hb dX1_append_40 rfl ?_
    refine lv_aload_n hx hb dX1_append_41 rfl (lv_at hl 0 rfl) ?_
    refine va_get (D := D) (ci := 0) (v := .ref (xq 9)) (C := RX1) (T := TX1) (N := 11) hx hb hts in_X1 hown hK hP 2 rfl rfl 10 (by decide) (hts _ q243) (fun _ h9 => h9) rfl dX1_append_42 ?_
    refine xc_i (xr_V (b := xq 9) (ci := 8) (q0 := 0) (As := []) (rest := []) (mt_J3_length l D ca xq b1_15 ml_ (upd (va_cpy bs_ (fun _ => 0) 0 0 16) 16 (nI c_)) 34 17  H.size) ⟨hx, hb, hml, hown, hts⟩ (cwV 0 hts (lw_V q495 q496 q497 q84 q498) rfl rfl rfl (by decide +kernel) ⟨Nat.le_of_ble_eq_true rfl, Nat.le_of_ble_eq_true rfl⟩) Ev0_ok trivial hK hS (Cut.ch [[(xq 9, .inr (8, [.ref b1_15, .int 0, .int ml_, .int (nI 17)]))], [(b1_15, .inl (ca 2, 34, .inl (upd (va_cpy bs_ (fun _ => 0) 0 0 16) 16 (nI c_))))]] [(WTr ca cq xq tb_ va fy cn an sw sb sv)] hP hD hS hA) rfl rfl rfl hl.1 rfl (Nat.le_of_ble_eq_true rfl) dX1_append_45 ⟨Nat.le_of_ble_eq_true rfl, Nat.le_of_ble_eq_true rfl⟩) hS (Cut.ch [[(xq 9, .inr (8, [.ref b1_15, .int 0, .int ml_, .int (nI 17)]))], [(b1_15, .inl (ca 2, 34, .inl (upd (va_cpy bs_ (fun _ => 0) 0 0 16) 16 (nI c_))))]] [(WTr ca cq xq tb_ va fy cn an sw sb sv)] hP hD hS hA) (fun r_16 u_17 H locs hq_45 hP hD hS => ?_)
    have hP : va_P D vwCl (fl [[(xq 9, .inr (8, [.ref b1_15, .int 0, .int ml_, .int (nI 17)]))], [(b1_15, .inl (ca 2, 34, .inl (upd (va_cpy bs_ (fun _ => 0) 0 0 16) 16 (nI c_))))], (WTr ca cq xq tb_ va fy cn an sw sb sv)]) H := fl_join [[(xq 9, .inr (8, [.ref b1_15, .int 0, .int ml_, .int (nI 17)]))], [(b1_15, .inl (ca 2, 34, .inl (upd (va_cpy bs_ (fun _ => 0) 0 0 16) 16 (nI c_))))]] [(WTr ca cq xq tb_ va fy cn an sw sb sv)] hP
    have hD : va_D A (fl [[(xq 9, .inr (8, [.ref b1_15, .int 0, .int ml_, .int (nI 17)]))], [(b1_15, .inl (ca 2, 34, .inl (upd (va_cpy bs_ (fun _ => 0) 0 0 16) 16 (nI c_))))], (WTr ca cq xq tb_ va fy cn an sw sb sv)]) := fl_joinD [[(xq 9, .inr (8, [.ref b1_15, .int 0, .int ml_, .int (nI 17)]))], [(b1_15, .inl (ca 2, 34, .inl (upd (va_cpy bs_ (fun _ => 0) 0 0 16) 16 (nI c_))))]] [(WTr ca cq xq tb_ va fy cn an sw sb sv)] hD
    have hp_45 : r_16 = nI 17 := hq_45
    clear hq_45
    obtain rfl := hp_45
    have hP : va_P D vwCl (fl [(WTr ca cq xq tb_ va fy cn an sw sb sv), [(xq 9, .inr (8, [.ref b1_15, .int 0, .int ml_, .int (nI 17)]))], [(b1_15, .inl (ca 2, 34, .inl (upd (va_cpy bs_ (fun _ => 0) 0 0 16) 16 (nI c_))))]]) H := mvP hP [2, 0, 1]
    have hD : va_D A (fl [(WTr ca cq xq tb_ va fy cn an sw sb sv), [(xq 9, .inr (8, [.ref b1_15, .int 0, .int ml_, .int (nI 17)]))], [(b1_15, .inl (ca 2, 34, .inl (upd (va_cpy bs_ (fun _ => 0) 0 0 16) 16 (nI c_))))]]) := mvD hD [2, 0, 1] (by decide)
    have ew_ : Value.int (nI 17) = Value.int (nI (T_.length + 1)) := congrArg (fun z_ => Value.int (nI z_)) (by omega)
    have hP : va_P D vwCl (fl [(WTr ca cq xq tb_ va fy cn an sw sb sv), [(xq 9, .inr (8, [.ref b1_15, .int 0, .int ml_, .int (nI (T_.length + 1))]))], [(b1_15, .inl (ca 2, 34, .inl (upd (va_cpy bs_ (fun _ => 0) 0 0 16) 16 (nI c_))))]]) H := (congrArg (fun (x_ : Value) => va_P D vwCl (fl [(WTr ca cq xq tb_ va fy cn an sw sb sv), [(xq 9, .inr (8, [.ref b1_15, .int 0, .int ml_, x_]))], [(b1_15, .inl (ca 2, 34, .inl (upd (va_cpy bs_ (fun _ => 0) 0 0 16) 16 (nI c_))))]]) H) ew_).mp hP
    have hD : va_D A (fl [(WTr ca cq xq tb_ va fy cn an sw sb sv), [(xq 9, .inr (8, [.ref b1_15, .int 0, .int ml_, .int (nI (T_.length + 1))]))], [(b1_15, .inl (ca 2, 34, .inl (upd (va_cpy bs_ (fun _ => 0) 0 0 16) 16 (nI c_))))]]) := (congrArg (fun (x_ : Value) => va_D A (fl [(WTr ca cq xq tb_ va fy cn an sw sb sv), [(xq 9, .inr (8, [.ref b1_15, .int 0, .int ml_, x_]))], [(b1_15, .inl (ca 2, 34, .inl (upd (va_cpy bs_ (fun _ => 0) 0 0 16) 16 (nI c_))))]])) ew_).mp hD
    clear ew_
    subst hQQ
    refine MQ_le (c0 := 1) (s0 := 34) (by decide) (by decide) ?_
    exact xe_i (v := nI 17) (b1_15, 34, upd (va_cpy bs_ (fun _ => 0) 0 0 16) 16 (nI c_)) hx hb hr hlocks hK hP hD hS (⟨congrArg nI (by omega), ⟨by have h_ := SbOk_add (c := c_) (SbOk_cpy (n := 16) hSb (by omega)) (by omega); rw [hk2_] at h_; exact h_, Or.inr (Or.inl ⟨hk2_, rfl⟩)⟩⟩) dX1_append_48
  · skip
    obtain ⟨hk1_, rfl⟩ := hcc
    have hk2_ : T_.length = 34 := hk1_
    rw [hk2_] at hP hD
    have hP : va_P D vwCl (fl [[(xq 9, .inr (8, [.ref b_, .int 0, .int ml_, .int (nI 34)]))], [(b_, .inl (ca 2, 34, .inl (bs_)))], (WTr ca cq xq tb_ va fy cn an sw sb sv)]) H := hP
    have hD : va_D A (fl [[(xq 9, .inr (8, [.ref b_, .int 0, .int ml_, .int (nI 34)]))], [(b_, .inl (ca 2, 34, .inl (bs_)))], (WTr ca cq xq tb_ va fy cn an sw sb sv)]) := hD
    refine xc_r (xr_V (b := xq 9) (ci := 8) (q0 := 0) (As := [.int (nI c_)]) (rest := []) (mt_J3_append_3_g34 l D ca xq b_ ml_ bs_ T_ c_ (by omega) hSb.2 H.size) ⟨hx, hb, hml, hown, hts⟩ (cwV 1 hts (lw_V q1323 q1324 q1325 q84 q1326) rfl rfl rfl (by decide +kernel) ⟨Nat.le_of_ble_eq_true rfl, Nat.le_of_ble_eq_true rfl⟩) EvZ_ok hE hK hS (Cut.ch [[(xq 9, .inr (8, [.ref b_, .int 0, .int ml_, .int (nI 34)]))], [(b_, .inl (ca 2, 34, .inl (bs_)))]] [(WTr ca cq xq tb_ va fy cn an sw sb sv)] hP hD hS hA) rfl rfl rfl hl.1 rfl (Nat.le_of_ble_eq_true rfl) dX1_append_37 ⟨Nat.le_of_ble_eq_true rfl, Nat.le_of_ble_eq_true rfl⟩) hS (Cut.ch [[(xq 9, .inr (8, [.ref b_, .int 0, .int ml_, .int (nI 34)]))], [(b_, .inl (ca 2, 34, .inl (bs_)))]] [(WTr ca cq xq tb_ va fy cn an sw sb sv)] hP hD hS hA) (fun u_19 H locs hq_37 hP hD hS => ?_)
    obtain ⟨b1_20, rfl⟩ : ∃ z_, z_ = u_19 := ⟨_, rfl⟩
    have hP : va_P D vwCl (fl [[(xq 9, .inr (8, [.ref b1_20, .int 0, .int ml_, .int (nI 35)]))], [(b1_20, .inl (ca 2, 70, .inl (upd (va_cpy bs_ (fun _ => 0) 0 0 34) 34 (nI c_))))], (WTr ca cq xq tb_ va fy cn an sw sb sv)]) H := fl_join [[(xq 9, .inr (8, [.ref b1_20, .int 0, .int ml_, .int (nI 35)]))], [(b1_20, .inl (ca 2, 70, .inl (upd (va_cpy bs_ (fun _ => 0) 0 0 34) 34 (nI c_))))]] [(WTr ca cq xq tb_ va fy cn an sw sb sv)] hP
    have hD : va_D A (fl [[(xq 9, .inr (8, [.ref b1_20, .int 0, .int ml_, .int (nI 35)]))], [(b1_20, .inl (ca 2, 70, .inl (upd (va_cpy bs_ (fun _ => 0) 0 0 34) 34 (nI c_))))], (WTr ca cq xq tb_ va fy cn an sw sb sv)]) := fl_joinD [[(xq 9, .inr (8, [.ref b1_20, .int 0, .int ml_, .int (nI 35)]))], [(b1_20, .inl (ca 2, 70, .inl (upd (va_cpy bs_ (fun _ => 0) 0 0 34) 34 (nI c_))))]] [(WTr ca cq xq tb_ va fy cn an sw sb sv)] hD
    refine lv_pop hx hb dX1_append_40 rfl ?_
    refine lv_aload_n hx hb dX1_append_41 rfl (lv_at hl 0 rfl) ?_
    refine va_get (D := D) (ci := 0) (v := .ref (xq 9)) (C := RX1) (T := TX1) (N := 11) hx hb hts in_X1 hown hK hP 2 rfl rfl 10 (by decide) (hts _ q243) (fun _ h9 => h9) rfl dX1_append_42 ?_
    refine xc_i (xr_V (b := xq 9) (ci := 8) (q0 := 0) (As := []) (rest := []) (mt_J3_length l D ca xq b1_20 ml_ (upd (va_cpy bs_ (fun _ => 0) 0 0 34) 34 (nI c_)) 70 35  H.size) ⟨hx, hb, hml, hown, hts⟩ (cwV 0 hts (lw_V q495 q496 q497 q84 q498) rfl rfl rfl (by decide +kernel) ⟨Nat.le_of_ble_eq_true rfl, Nat.le_of_ble_eq_true rfl⟩) Ev0_ok trivial hK hS (Cut.ch [[(xq 9, .inr (8, [.ref b1_20, .int 0, .int ml_, .int (nI 35)]))], [(b1_20, .inl (ca 2, 70, .inl (upd (va_cpy bs_ (fun _ => 0) 0 0 34) 34 (nI c_))))]] [(WTr ca cq xq tb_ va fy cn an sw sb sv)] hP hD hS hA) rfl rfl rfl hl.1 rfl (Nat.le_of_ble_eq_true rfl) dX1_append_45 ⟨Nat.le_of_ble_eq_true rfl, Nat.le_of_ble_eq_true rfl⟩) hS (Cut.ch [[(xq 9, .inr (8, [.ref b1_20, .int 0, .int ml_, .int (nI 35)]))], [(b1_20, .inl (ca 2, 70, .inl (upd (va_cpy bs_ (fun _ => 0) 0 0 34) 34 (nI c_))))]] [(WTr ca cq xq tb_ va fy cn an sw sb sv)] hP hD hS hA) (fun r_21 u_22 H locs hq_45 hP hD hS => ?_)
    have hP : va_P D vwCl (fl [[(xq 9, .inr (8, [.ref b1_20, .int 0, .int ml_, .int (nI 35)]))], [(b1_20, .inl (ca 2, 70, .inl (upd (va_cpy bs_ (fun _ => 0) 0 0 34) 34 (nI c_))))], (WTr ca cq xq tb_ va fy cn an sw sb sv)]) H := fl_join [[(xq 9, .inr (8, [.ref b1_20, .int 0, .int ml_, .int (nI 35)]))], [(b1_20, .inl (ca 2, 70, .inl (upd (va_cpy bs_ (fun _ => 0) 0 0 34) 34 (nI c_))))]] [(WTr ca cq xq tb_ va fy cn an sw sb sv)] hP
    have hD : va_D A (fl [[(xq 9, .inr (8, [.ref b1_20, .int 0, .int ml_, .int (nI 35)]))], [(b1_20, .inl (ca 2, 70, .inl (upd (va_cpy bs_ (fun _ => 0) 0 0 34) 34 (nI c_))))], (WTr ca cq xq tb_ va fy cn an sw sb sv)]) := fl_joinD [[(xq 9, .inr (8, [.ref b1_20, .int 0, .int ml_, .int (nI 35)]))], [(b1_20, .inl (ca 2, 70, .inl (upd (va_cpy bs_ (fun _ => 0) 0 0 34) 34 (nI c_))))]] [(WTr ca cq xq tb_ va fy cn an sw sb sv)] hD
    have hp_45 : r_21 = nI 35 := hq_45
    clear hq_45
    obtain rfl := hp_45
    have hP : va_P D vwCl (fl [(WTr ca cq xq tb_ va fy cn an sw sb sv), [(xq 9, .inr (8, [.ref b1_20, .int 0, .int ml_, .int (nI 35)]))], [(b1_20, .inl (ca 2, 70, .inl (upd (va_cpy bs_ (fun _ => 0) 0 0 34) 34 (nI c_))))]]) H := mvP hP [2, 0, 1]
    have hD : va_D A (fl [(WTr ca cq xq tb_ va fy cn an sw sb sv), [(xq 9, .inr (8, [.ref b1_20, .int 0, .int ml_, .int (nI 35)]))], [(b1_20, .inl (ca 2, 70, .inl (upd (va_cpy bs_ (fun _ => 0) 0 0 34) 34 (nI c_))))]]) := mvD hD [2, 0, 1] (by decide)
    have ew_ : Value.int (nI 35) = Value.int (nI (T_.length + 1)) := congrArg (fun z_ => Value.int (nI z_)) (by omega)
    have hP : va_P D vwCl (fl [(WTr ca cq xq tb_ va fy cn an sw sb sv), [(xq 9, .inr (8, [.ref b1_20, .int 0, .int ml_, .int (nI (T_.length + 1))]))], [(b1_20, .inl (ca 2, 70, .inl (upd (va_cpy bs_ (fun _ => 0) 0 0 34) 34 (nI c_))))]]) H := (congrArg (fun (x_ : Value) => va_P D vwCl (fl [(WTr ca cq xq tb_ va fy cn an sw sb sv), [(xq 9, .inr (8, [.ref b1_20, .int 0, .int ml_, x_]))], [(b1_20, .inl (ca 2, 70, .inl (upd (va_cpy bs_ (fun _ => 0) 0 0 34) 34 (nI c_))))]]) H) ew_).mp hP
    have hD : va_D A (fl [(WTr ca cq xq tb_ va fy cn an sw sb sv), [(xq 9, .inr (8, [.ref b1_20, .int 0, .int ml_, .int (nI (T_.length + 1))]))], [(b1_20, .inl (ca 2, 70, .inl (upd (va_cpy bs_ (fun _ => 0) 0 0 34) 34 (nI c_))))]]) := (congrArg (fun (x_ : Value) => va_D A (fl [(WTr ca cq xq tb_ va fy cn an sw sb sv), [(xq 9, .inr (8, [.ref b1_20, .int 0, .int ml_, x_]))], [(b1_20, .inl (ca 2, 70, .inl (upd (va_cpy bs_ (fun _ => 0) 0 0 34) 34 (nI c_))))]])) ew_).mp hD
    clear ew_
    subst hQQ
    exact xe_i (v := nI 35) (b1_20, 70, upd (va_cpy bs_ (fun _ => 0) 0 0 34) 34 (nI c_)) hx hb hr hlocks hK hP hD hS (⟨congrArg nI (by omega), ⟨by have h_ := SbOk_add (c := c_) (SbOk_cpy (n := 34) hSb (by omega)) (by omega); rw [hk2_] at h_; exact h_, Or.inr (Or.inr ⟨hk2_, rfl⟩)⟩⟩) dX1_append_48
set_option maxHeartbeats 400000 in
set_option maxRecDepth 100000 in
theorem mt_X1_clearText (l : Launch) (D : va_G) (ca : Nat → ClassId) (cq : Nat → Nat) (tb_ : Nat → Int64) (va : Nat → Int32) (fy : Nat → Int64) (cn : Nat → Int32) (an : Nat → Int32) (sw : Nat → Int64) (sb : Nat → Int64) (sv : Value) (xq : Nat → Nat) (b_ : Nat) (ml_ : Int32) (bs_ : Nat → Int32) (cap_ : Nat) (n_ : Nat) (hcap : cap_ < 2000) (hn : n_ < 2000) (nn : Nat) : Met l yX1_clearText (ws_ yX1_clearText cX1_clearText 2 (Option.some Jvm.ClassFile.FieldType.int)) ({ frames := 3, cells := 0, slots := 0, locals := 64 } : Room) (va_Pc [.ref (xq 0)] (PreW EvZ D vwCl (TY ca) (fl [(WTr ca cq xq tb_ va fy cn an sw sb sv), [(xq 9, .inr (8, [.ref b_, .int 0, .int ml_, .int (nI n_)]))], [(b_, .inl (ca 2, cap_, .inl (bs_)))]]) nn)) (va_Qi (fun (r_ : Int32) (u_ : Int32) => r_ = nI n_) (PostW D vwCl (TY ca) (fun (u_ : Int32) => (fl [(WTr ca cq xq tb_ va fy cn an sw sb sv), [(xq 9, .inr (8, [.ref b_, .int 0, .int u_, .int (nI 0)]))], [(b_, .inl (ca 2, cap_, .inl (bs_)))]])) (va_A (fl [(WTr ca cq xq tb_ va fy cn an sw sb sv), [(xq 9, .inr (8, [.ref b_, .int 0, .int ml_, .int (nI n_)]))], [(b_, .inl (ca 2, cap_, .inl (bs_)))]]) nn)) (va_A (fl [(WTr ca cq xq tb_ va fy cn an sw sb sv), [(xq 9, .inr (8, [.ref b_, .int 0, .int ml_, .int (nI n_)]))], [(b_, .inl (ca 2, cap_, .inl (bs_)))]]) nn)) 0 0 (va_A (fl [(WTr ca cq xq tb_ va fy cn an sw sb sv), [(xq 9, .inr (8, [.ref b_, .int 0, .int ml_, .int (nI n_)]))], [(b_, .inl (ca 2, cap_, .inl (bs_)))]]) nn) := by
  refine met_go2 (QA := fun A => va_Qi (fun (r_ : Int32) (u_ : Int32) => r_ = nI n_) (PostW D vwCl (TY ca) (fun (u_ : Int32) => (fl [(WTr ca cq xq tb_ va fy cn an sw sb sv), [(xq 9, .inr (8, [.ref b_, .int 0, .int u_, .int (nI 0)]))], [(b_, .inl (ca 2, cap_, .inl (bs_)))]])) A) A) (by decide) (Nat.le_of_ble_eq_true rfl) (fun p e s m below meth c A ls QQ hQQ hmn hnm hx hb hr hts hown hlocks hml hA hP hK hD hE hl => ?_)
  have hown : s.vm.findClass RX1 = some m.cls := hown
  have hS : va_S A s.heap s.heap [] := va_S.rf
  have hl : lv_has ls 2 [(0, .ref (xq 0))] := hl
  generalize hHe : s.heap = H at hP ⊢
  have hS : va_S A s.heap H [] := hHe ▸ hS
  generalize ([] : List Loc) = locs at hS ⊢
  refine lv_aload_n hx hb dX1_clearText_0 rfl (lv_at hl 0 rfl) ?_
  refine va_get (D := D) (ci := 0) (v := .ref (xq 9)) (C := RX1) (T := TX1) (N := 11) hx hb hts in_X1 hown hK hP 0 rfl rfl 10 (by decide) (hts _ q243) (fun _ h9 => h9) rfl dX1_clearText_1 ?_
  have hP : va_P D vwCl (fl [[(xq 9, .inr (8, [.ref b_, .int 0, .int ml_, .int (nI n_)]))], [(b_, .inl (ca 2, cap_, .inl (bs_)))], (WTr ca cq xq tb_ va fy cn an sw sb sv)]) H := mvP hP [1, 2, 0]
  have hD : va_D A (fl [[(xq 9, .inr (8, [.ref b_, .int 0, .int ml_, .int (nI n_)]))], [(b_, .inl (ca 2, cap_, .inl (bs_)))], (WTr ca cq xq tb_ va fy cn an sw sb sv)]) := mvD hD [1, 2, 0] (by decide)
  refine xc_i (xr_V (b := xq 9) (ci := 8) (q0 := 0) (As := []) (rest := []) (mt_J3_length l D ca xq b_ ml_ bs_ cap_ n_  H.size) ⟨hx, hb, hml, hown, hts⟩ (cwV 0 hts (lw_V q495 q496 q497 q84 q498) rfl rfl rfl (by decide +kernel) ⟨Nat.le_of_ble_eq_true rfl, Nat.le_of_ble_eq_true rfl⟩) Ev0_ok trivial hK hS (Cut.ch [[(xq 9, .inr (8, [.ref b_, .int 0, .int ml_, .int (nI n_)]))], [(b_, .inl (ca 2, cap_, .inl (bs_)))]] [(WTr ca cq xq tb_ va fy cn an sw sb sv)] hP hD hS hA) rfl rfl rfl hl.1 rfl (Nat.le_of_ble_eq_true rfl) dX1_clearText_4 ⟨Nat.le_of_ble_eq_true rfl, Nat.le_of_ble_eq_true rfl⟩) hS (Cut.ch [[(xq 9, .inr (8, [.ref b_, .int 0, .int ml_, .int (nI n_)]))], [(b_, .inl (ca 2, cap_, .inl (bs_)))]] [(WTr ca cq xq tb_ va fy cn an sw sb sv)] hP hD hS hA) (fun r_1 u_2 H locs hq_4 hP hD hS => ?_)
  have hP : va_P D vwCl (fl [[(xq 9, .inr (8, [.ref b_, .int 0, .int ml_, .int (nI n_)]))], [(b_, .inl (ca 2, cap_, .inl (bs_)))], (WTr ca cq xq tb_ va fy cn an sw sb sv)]) H := fl_join [[(xq 9, .inr (8, [.ref b_, .int 0, .int ml_, .int (nI n_)]))], [(b_, .inl (ca 2, cap_, .inl (bs_)))]] [(WTr ca cq xq tb_ va fy cn an sw sb sv)] hP
  have hD : va_D A (fl [[(xq 9, .inr (8, [.ref b_, .int 0, .int ml_, .int (nI n_)]))], [(b_, .inl (ca 2, cap_, .inl (bs_)))], (WTr ca cq xq tb_ va fy cn an sw sb sv)]) := fl_joinD [[(xq 9, .inr (8, [.ref b_, .int 0, .int ml_, .int (nI n_)]))], [(b_, .inl (ca 2, cap_, .inl (bs_)))]] [(WTr ca cq xq tb_ va fy cn an sw sb sv)] hD
  have hp_4 : r_1 = nI n_ := hq_4
  clear hq_4
  obtain rfl := hp_4
  refine lv_istore_n (lv' := [(1, .int (nI n_)), (0, .ref (xq 0))]) hx hb dX1_clearText_7 rfl hl (by decide) rfl (fun ls hl => ?_)
  refine lv_aload_n hx hb dX1_clearText_8 rfl (lv_at hl 1 rfl) ?_
  refine va_get (D := D) (ci := 0) (v := .ref (xq 9)) (C := RX1) (T := TX1) (N := 11) hx hb hts in_X1 hown hK hP 2 rfl rfl 10 (by decide) (hts _ q243) (fun _ h9 => h9) rfl dX1_clearText_9 ?_
  refine lv_iconst (v := nI 0) hx hb dX1_clearText_12 (by decide) ?_
  refine xc_v (xr_V (b := xq 9) (ci := 8) (q0 := 0) (As := [.int (nI 0)]) (rest := []) (mt_J3_setLength l D ca xq b_ ml_ bs_ cap_ n_ (by first | assumption | omega | (simp only [updN, forgetC, changedC]; (repeat' split) <;> omega)) (by first | assumption | omega | (simp only [updN, forgetC, changedC]; (repeat' split) <;> omega)) H.size) ⟨hx, hb, hml, hown, hts⟩ (cwV 1 hts (lw_V q502 q503 q504 q84 q505) rfl rfl rfl (by decide +kernel) ⟨Nat.le_of_ble_eq_true rfl, Nat.le_of_ble_eq_true rfl⟩) EvZ_ok hE hK hS (Cut.ch [[(xq 9, .inr (8, [.ref b_, .int 0, .int ml_, .int (nI n_)]))], [(b_, .inl (ca 2, cap_, .inl (bs_)))]] [(WTr ca cq xq tb_ va fy cn an sw sb sv)] hP hD hS hA) rfl rfl rfl hl.1 rfl (Nat.le_of_ble_eq_true rfl) dX1_clearText_13 ⟨Nat.le_of_ble_eq_true rfl, Nat.le_of_ble_eq_true rfl⟩) hS (Cut.ch [[(xq 9, .inr (8, [.ref b_, .int 0, .int ml_, .int (nI n_)]))], [(b_, .inl (ca 2, cap_, .inl (bs_)))]] [(WTr ca cq xq tb_ va fy cn an sw sb sv)] hP hD hS hA) (fun u_4 H locs hq_13 hP hD hS => ?_)
  obtain ⟨ml1_5, rfl⟩ : ∃ z_, z_ = u_4 := ⟨_, rfl⟩
  have hP : va_P D vwCl (fl [[(xq 9, .inr (8, [.ref b_, .int 0, .int ml1_5, .int (nI 0)]))], [(b_, .inl (ca 2, cap_, .inl (bs_)))], (WTr ca cq xq tb_ va fy cn an sw sb sv)]) H := fl_join [[(xq 9, .inr (8, [.ref b_, .int 0, .int ml1_5, .int (nI 0)]))], [(b_, .inl (ca 2, cap_, .inl (bs_)))]] [(WTr ca cq xq tb_ va fy cn an sw sb sv)] hP
  have hD : va_D A (fl [[(xq 9, .inr (8, [.ref b_, .int 0, .int ml1_5, .int (nI 0)]))], [(b_, .inl (ca 2, cap_, .inl (bs_)))], (WTr ca cq xq tb_ va fy cn an sw sb sv)]) := fl_joinD [[(xq 9, .inr (8, [.ref b_, .int 0, .int ml1_5, .int (nI 0)]))], [(b_, .inl (ca 2, cap_, .inl (bs_)))]] [(WTr ca cq xq tb_ va fy cn an sw sb sv)] hD
  refine lv_iload_n hx hb dX1_clearText_16 rfl (lv_at hl 0 rfl) ?_
  have hP : va_P D vwCl (fl [(WTr ca cq xq tb_ va fy cn an sw sb sv), [(xq 9, .inr (8, [.ref b_, .int 0, .int ml1_5, .int (nI 0)]))], [(b_, .inl (ca 2, cap_, .inl (bs_)))]]) H := mvP hP [2, 0, 1]
  have hD : va_D A (fl [(WTr ca cq xq tb_ va fy cn an sw sb sv), [(xq 9, .inr (8, [.ref b_, .int 0, .int ml1_5, .int (nI 0)]))], [(b_, .inl (ca 2, cap_, .inl (bs_)))]]) := mvD hD [2, 0, 1] (by decide)
  subst hQQ
  exact xe_i (v := nI n_) ml1_5 hx hb hr hlocks hK hP hD hS (rfl) dX1_clearText_17
