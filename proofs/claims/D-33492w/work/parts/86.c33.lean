/-! ArrayList: growing -/
set_option maxRecDepth 100000
/-- the orders' cells: address, sign, one, two -/
def orW (L : List (Nat × Nat × Nat × Nat)) : va_W := L.map fun o => (o.1, .inr (4, [.int (nI o.2.1), .int (nI o.2.2.1), .int (nI o.2.2.2)]))
def LsOk (es : Nat → Option Nat) (L : List (Nat × Nat × Nat × Nat)) : Prop := ∀ j, j < L.length → es j = (L[j]?).map (·.1)
theorem or_cell {D : va_G} {tys : List (ClassId × FieldType)} {s : State} {H : Heap} {Ls : List va_W} {L : List (Nat × Nat × Nat × Nat)} {y j : Nat} (hK : va_K D vwCl tys s) (hP : va_P D vwCl (fl Ls) H) (hm : orW L ∈ Ls) (hy : (L[j]?).map (·.1) = some y) : ∃ cell : Cell, H[y]? = some cell ∧ cell.vm.isStatics = false ∧ s.vm.findClass RX6 = some cell.cls := by
  cases hj : L[j]? with
  | none => rw [hj] at hy; cases hy
  | some o =>
    rw [hj] at hy
    have e : o.1 = y := Option.some.inj hy
    have hin : ((o.1, .inr (4, [.int (nI o.2.1), .int (nI o.2.2.1), .int (nI o.2.2.2)])) : Nat × va_E) ∈ orW L := List.mem_map.mpr ⟨o, List.mem_of_getElem? hj, rfl⟩
    obtain ⟨q', h1, cell, g1, g2, g3, -⟩ := fP_iff.mp hP _ (fl_mem.mpr ⟨_, hm, hin⟩)
    have hr : q' = (RX6, TX6, 3) := Option.some.inj (h1.symm.trans rfl)
    exact ⟨cell, by rw [← e]; exact g1, by rw [g3]; rfl, by rw [g2]; exact (hK.1 4 (RX6, TX6, 3) rfl).2.1⟩
theorem asg_obj {args : Array Value} {s : State} {C E : String} (h : (Cond.castable C E).before args s = true) : ∀ comp c0 : ClassId, s.vm.findClass E = some comp → s.vm.findClass C = some c0 → s.vm.assignable c0 comp = true := by
  intro comp c0 h1 h2
  obtain ⟨c3, c4, h3, h4, h5⟩ := Cond.castable_spec h
  cases Option.some.inj (h3.symm.trans h2)
  cases Option.some.inj (h4.symm.trans h1)
  exact h5
set_option maxHeartbeats 400000 in
set_option maxRecDepth 100000 in
theorem mt_J17_newLength_q10 (l : Launch) (D : va_G) (ca : Nat → ClassId)   (nn : Nat) : Met l yJ17_newLength (ws_ yJ17_newLength cJ17_newLength 4 (Option.some Jvm.ClassFile.FieldType.int)) ({ frames := 1, cells := 0, slots := 0, locals := 40 } : Room) (va_Pc [.int (nI 10), .int (nI 1), .int (nI 5)] (PreW Ev0 D vwCl (TY ca) (fl []) nn)) (va_Qi (fun (r_ : Int32) (_ : Unit) => r_ = nI 15) (PostW D vwCl (TY ca) (fun (_ : Unit) => (fl [])) (va_A (fl []) nn)) (va_A (fl []) nn)) 0 0 (va_A (fl []) nn) := by
  refine met_go2 (QA := fun A => va_Qi (fun (r_ : Int32) (_ : Unit) => r_ = nI 15) (PostW D vwCl (TY ca) (fun (_ : Unit) => (fl [])) A) A) (by decide) (Nat.le_of_ble_eq_true rfl) (fun p e s m below meth c A ls QQ hQQ hmn hnm hx hb hr hts hown hlocks hml hA hP hK hD hE hl => ?_)
  have hown : s.vm.findClass RJ17 = some m.cls := hown
  have hS : va_S A s.heap s.heap [] := va_S.rf
  have hl : lv_has ls 4 [(0, .int (nI 10)), (1, .int (nI 1)), (2, .int (nI 5))] := hl
  generalize hHe : s.heap = H at hP ⊢
  have hS : va_S A s.heap H [] := hHe ▸ hS
  generalize ([] : List Loc) = locs at hS ⊢
  refine lv_iload_n hx hb dJ17_newLength_0 rfl (lv_at hl 0 rfl) ?_
  refine lv_iload_n hx hb dJ17_newLength_1 rfl (lv_at hl 1 rfl) ?_
  refine lv_iload_n hx hb dJ17_newLength_2 rfl (lv_at hl 2 rfl) ?_
  refine va_mmax (x := nI 1) (y := nI 5) hx hb (hml.trans hl.1.symm) hown (hts _ q539) (hts _ q540) (hts _ q96) (hts _ q541) (Nat.le_of_ble_eq_true rfl) (Nat.le_of_ble_eq_true rfl) (by decide) (by decide) dJ17_newLength_3 ?_
  refine lv_topi (nm_r (e' := nI 5) ((mx_nI (by omega) (by omega)).trans (by decide)) ?_)
  refine lv_iadd hx hb dJ17_newLength_6 (lv_topi (nm_r (e' := nI 15) (by decide) ?_))
  refine lv_istore_n (lv' := [(3, .int (nI 15)), (0, .int (nI 10)), (1, .int (nI 1)), (2, .int (nI 5))]) hx hb dJ17_newLength_7 rfl hl (by decide) rfl (fun ls hl => ?_)
  refine lv_iconst (v := nI 0) hx hb dJ17_newLength_8 (by decide) ?_
  refine lv_iload_n hx hb dJ17_newLength_9 rfl (lv_at hl 0 rfl) ?_
  refine nv_icmp_ge (tgt := 21) hx hb dJ17_newLength_10 (by decide) (by omega) (by omega) (fun c_10 => absurd c_10 (by decide)) (fun c_10 => ?_)
  refine lv_iload_n hx hb dJ17_newLength_13 rfl (lv_at hl 0 rfl) ?_
  refine lv_ldc (v := nI 2147483639) hx hb hown (hts _ q542) dJ17_newLength_14 ?_
  refine nv_icmp_gt (tgt := 21) hx hb dJ17_newLength_16 (by decide) (by omega) (by omega) (fun c_16 => absurd c_16 (by decide)) (fun c_16 => ?_)
  refine lv_iload_n hx hb dJ17_newLength_19 rfl (lv_at hl 0 rfl) ?_
  subst hQQ
  exact xe_i (v := nI 15) () hx hb hr hlocks hK hP hD hS (rfl) dJ17_newLength_20
set_option maxHeartbeats 400000 in
set_option maxRecDepth 100000 in
theorem mt_J17_newLength_q15 (l : Launch) (D : va_G) (ca : Nat → ClassId)   (nn : Nat) : Met l yJ17_newLength (ws_ yJ17_newLength cJ17_newLength 4 (Option.some Jvm.ClassFile.FieldType.int)) ({ frames := 1, cells := 0, slots := 0, locals := 40 } : Room) (va_Pc [.int (nI 15), .int (nI 1), .int (nI 7)] (PreW Ev0 D vwCl (TY ca) (fl []) nn)) (va_Qi (fun (r_ : Int32) (_ : Unit) => r_ = nI 22) (PostW D vwCl (TY ca) (fun (_ : Unit) => (fl [])) (va_A (fl []) nn)) (va_A (fl []) nn)) 0 0 (va_A (fl []) nn) := by
  refine met_go2 (QA := fun A => va_Qi (fun (r_ : Int32) (_ : Unit) => r_ = nI 22) (PostW D vwCl (TY ca) (fun (_ : Unit) => (fl [])) A) A) (by decide) (Nat.le_of_ble_eq_true rfl) (fun p e s m below meth c A ls QQ hQQ hmn hnm hx hb hr hts hown hlocks hml hA hP hK hD hE hl => ?_)
  have hown : s.vm.findClass RJ17 = some m.cls := hown
  have hS : va_S A s.heap s.heap [] := va_S.rf
  have hl : lv_has ls 4 [(0, .int (nI 15)), (1, .int (nI 1)), (2, .int (nI 7))] := hl
  generalize hHe : s.heap = H at hP ⊢
  have hS : va_S A s.heap H [] := hHe ▸ hS
  generalize ([] : List Loc) = locs at hS ⊢
  refine lv_iload_n hx hb dJ17_newLength_0 rfl (lv_at hl 0 rfl) ?_
  refine lv_iload_n hx hb dJ17_newLength_1 rfl (lv_at hl 1 rfl) ?_
  refine lv_iload_n hx hb dJ17_newLength_2 rfl (lv_at hl 2 rfl) ?_
  refine va_mmax (x := nI 1) (y := nI 7) hx hb (hml.trans hl.1.symm) hown (hts _ q539) (hts _ q540) (hts _ q96) (hts _ q541) (Nat.le_of_ble_eq_true rfl) (Nat.le_of_ble_eq_true rfl) (by decide) (by decide) dJ17_newLength_3 ?_
  refine lv_topi (nm_r (e' := nI 7) ((mx_nI (by omega) (by omega)).trans (by decide)) ?_)
  refine lv_iadd hx hb dJ17_newLength_6 (lv_topi (nm_r (e' := nI 22) (by decide) ?_))
  refine lv_istore_n (lv' := [(3, .int (nI 22)), (0, .int (nI 15)), (1, .int (nI 1)), (2, .int (nI 7))]) hx hb dJ17_newLength_7 rfl hl (by decide) rfl (fun ls hl => ?_)
  refine lv_iconst (v := nI 0) hx hb dJ17_newLength_8 (by decide) ?_
  refine lv_iload_n hx hb dJ17_newLength_9 rfl (lv_at hl 0 rfl) ?_
  refine nv_icmp_ge (tgt := 21) hx hb dJ17_newLength_10 (by decide) (by omega) (by omega) (fun c_10 => absurd c_10 (by decide)) (fun c_10 => ?_)
  refine lv_iload_n hx hb dJ17_newLength_13 rfl (lv_at hl 0 rfl) ?_
  refine lv_ldc (v := nI 2147483639) hx hb hown (hts _ q542) dJ17_newLength_14 ?_
  refine nv_icmp_gt (tgt := 21) hx hb dJ17_newLength_16 (by decide) (by omega) (by omega) (fun c_16 => absurd c_16 (by decide)) (fun c_16 => ?_)
  refine lv_iload_n hx hb dJ17_newLength_19 rfl (lv_at hl 0 rfl) ?_
  subst hQQ
  exact xe_i (v := nI 22) () hx hb hr hlocks hK hP hD hS (rfl) dJ17_newLength_20
set_option maxHeartbeats 400000 in
set_option maxRecDepth 100000 in
theorem mt_J17_newLength_q22 (l : Launch) (D : va_G) (ca : Nat → ClassId)   (nn : Nat) : Met l yJ17_newLength (ws_ yJ17_newLength cJ17_newLength 4 (Option.some Jvm.ClassFile.FieldType.int)) ({ frames := 1, cells := 0, slots := 0, locals := 40 } : Room) (va_Pc [.int (nI 22), .int (nI 1), .int (nI 11)] (PreW Ev0 D vwCl (TY ca) (fl []) nn)) (va_Qi (fun (r_ : Int32) (_ : Unit) => r_ = nI 33) (PostW D vwCl (TY ca) (fun (_ : Unit) => (fl [])) (va_A (fl []) nn)) (va_A (fl []) nn)) 0 0 (va_A (fl []) nn) := by
  refine met_go2 (QA := fun A => va_Qi (fun (r_ : Int32) (_ : Unit) => r_ = nI 33) (PostW D vwCl (TY ca) (fun (_ : Unit) => (fl [])) A) A) (by decide) (Nat.le_of_ble_eq_true rfl) (fun p e s m below meth c A ls QQ hQQ hmn hnm hx hb hr hts hown hlocks hml hA hP hK hD hE hl => ?_)
  have hown : s.vm.findClass RJ17 = some m.cls := hown
  have hS : va_S A s.heap s.heap [] := va_S.rf
  have hl : lv_has ls 4 [(0, .int (nI 22)), (1, .int (nI 1)), (2, .int (nI 11))] := hl
  generalize hHe : s.heap = H at hP ⊢
  have hS : va_S A s.heap H [] := hHe ▸ hS
  generalize ([] : List Loc) = locs at hS ⊢
  refine lv_iload_n hx hb dJ17_newLength_0 rfl (lv_at hl 0 rfl) ?_
  refine lv_iload_n hx hb dJ17_newLength_1 rfl (lv_at hl 1 rfl) ?_
  refine lv_iload_n hx hb dJ17_newLength_2 rfl (lv_at hl 2 rfl) ?_
  refine va_mmax (x := nI 1) (y := nI 11) hx hb (hml.trans hl.1.symm) hown (hts _ q539) (hts _ q540) (hts _ q96) (hts _ q541) (Nat.le_of_ble_eq_true rfl) (Nat.le_of_ble_eq_true rfl) (by decide) (by decide) dJ17_newLength_3 ?_
  refine lv_topi (nm_r (e' := nI 11) ((mx_nI (by omega) (by omega)).trans (by decide)) ?_)
  refine lv_iadd hx hb dJ17_newLength_6 (lv_topi (nm_r (e' := nI 33) (by decide) ?_))
  refine lv_istore_n (lv' := [(3, .int (nI 33)), (0, .int (nI 22)), (1, .int (nI 1)), (2, .int (nI 11))]) hx hb dJ17_newLength_7 rfl hl (by decide) rfl (fun ls hl => ?_)
  refine lv_iconst (v := nI 0) hx hb dJ17_newLength_8 (by decide) ?_
  refine lv_iload_n hx hb dJ17_newLength_9 rfl (lv_at hl 0 rfl) ?_
  refine nv_icmp_ge (tgt := 21) hx hb dJ17_newLength_10 (by decide) (by omega) (by omega) (fun c_10 => absurd c_10 (by decide)) (fun c_10 => ?_)
  refine lv_iload_n hx hb dJ17_newLength_13 rfl (lv_at hl 0 rfl) ?_
  refine lv_ldc (v := nI 2147483639) hx hb hown (hts _ q542) dJ17_newLength_14 ?_
  refine nv_icmp_gt (tgt := 21) hx hb dJ17_newLength_16 (by decide) (by omega) (by omega) (fun c_16 => absurd c_16 (by decide)) (fun c_16 => ?_)
  refine lv_iload_n hx hb dJ17_newLength_19 rfl (lv_at hl 0 rfl) ?_
  subst hQQ
  exact xe_i (v := nI 33) () hx hb hr hlocks hK hP hD hS (rfl) dJ17_newLength_20
def EvG (mi : Nat) (A : Nat → Prop) (s : State) : Prop := EvL A s ∧ va_Mi "[Ljava/lang/Object;" mi s
theorem EvG_ok (mi : Nat) : EvOk (EvG mi) := by
  intro A A1 s U hE hW hq hs
  exact ⟨EvL_ok A A1 s U hE.1 hW hq hs, hE.2.moved hW.alike⟩
set_option maxHeartbeats 800000 in
set_option maxRecDepth 100000 in
theorem mt_J13_copyOf_2_q10 (l : Launch) (D : va_G) (ca : Nat → ClassId) (a_ : Nat) (f_ : Nat → Option Nat) (L_ : List (Nat × Nat × Nat × Nat)) (mi_ : Nat) (hLs : LsOk f_ L_) (hLn : L_.length = 10) (nn : Nat) : Met l yJ13_copyOf_2 (ws_ yJ13_copyOf_2 cJ13_copyOf_2 4 (Option.some (Jvm.ClassFile.FieldType.array (Jvm.ClassFile.FieldType.object "java/lang/Object")))) ({ frames := 1, cells := 1, slots := 15, locals := 60 } : Room) (va_Pc [.ref a_, .int (nI 15), .ref mi_] (PreW (EvG mi_) D vwCl (TY ca) (fl [[(a_, .inl (ca 3, 10, .inr (.inr (.inr (.inr (f_))))))], (orW L_)]) nn)) (va_Qr (fun (u_ : Nat) => True) (fun (u_ : Nat) (r_ : Nat) (tS_ : State) => r_ = u_ ∧ PostW D vwCl (TY ca) (fun (u_ : Nat) => (fl [[(a_, .inl (ca 3, 10, .inr (.inr (.inr (.inr (f_))))))], [(u_, .inl (ca 3, 15, .inr (.inr (.inr (.inr (va_cpy f_ (fun _ => none) 0 0 10))))))], (orW L_)])) (va_A (fl [[(a_, .inl (ca 3, 10, .inr (.inr (.inr (.inr (f_))))))], (orW L_)]) nn) u_ tS_) (va_A (fl [[(a_, .inl (ca 3, 10, .inr (.inr (.inr (.inr (f_))))))], (orW L_)]) nn)) 1 15 (va_A (fl [[(a_, .inl (ca 3, 10, .inr (.inr (.inr (.inr (f_))))))], (orW L_)]) nn) := by
  refine met_go2 (QA := fun A => va_Qr (fun (u_ : Nat) => True) (fun (u_ : Nat) (r_ : Nat) (tS_ : State) => r_ = u_ ∧ PostW D vwCl (TY ca) (fun (u_ : Nat) => (fl [[(a_, .inl (ca 3, 10, .inr (.inr (.inr (.inr (f_))))))], [(u_, .inl (ca 3, 15, .inr (.inr (.inr (.inr (va_cpy f_ (fun _ => none) 0 0 10))))))], (orW L_)])) A u_ tS_) A) (by decide) (Nat.le_of_ble_eq_true rfl) (fun p e s m below meth c A ls QQ hQQ hmn hnm hx hb hr hts hown hlocks hml hA hP hK hD hE hl => ?_)
  have hown : s.vm.findClass RJ13 = some m.cls := hown
  have hS : va_S A s.heap s.heap [] := va_S.rf
  have hl : lv_has ls 4 [(0, .ref a_), (1, .int (nI 15)), (2, .ref mi_)] := hl
  generalize hHe : s.heap = H at hP ⊢
  have hS : va_S A s.heap H [] := hHe ▸ hS
  generalize ([] : List Loc) = locs at hS ⊢
  have hAO := hE.1.1.2.1
  refine lv_aload_n hx hb dJ13_copyOf_2_0 rfl (lv_at hl 2 rfl) ?_
  refine va_ldcM hx hb hown (hts _ q411) hE.2 dJ13_copyOf_2_1 ?_
  refine lv_acmp_ne (rx := some mi_) (ry := some mi_) (tgt := 13) hx hb dJ13_copyOf_2_3 (by decide) (fun c_3 => absurd rfl c_3) (fun c_3 => ?_)
  refine lv_iload_n hx hb dJ13_copyOf_2_6 rfl (lv_at hl 1 rfl) ?_
  refine nv_newq hx hb hown (hts _ q412) hAO hK hP hD hS hA 3 rfl (N := 15) (by decide) (by decide) ⟨Nat.le_of_ble_eq_true rfl, Nat.le_of_ble_eq_true rfl⟩ dJ13_copyOf_2_7 (fun q_1 H hP hD hS => ?_)
  have hP : va_P D vwCl (fl [[(a_, .inl (ca 3, 10, .inr (.inr (.inr (.inr (f_))))))], (orW L_), [(q_1, .inl (ca 3, 15, .inr (.inr (.inr (.inr ((fun _ => none)))))))]]) H := fl_pushP hP
  have hD : va_D A (fl [[(a_, .inl (ca 3, 10, .inr (.inr (.inr (.inr (f_))))))], (orW L_), [(q_1, .inl (ca 3, 15, .inr (.inr (.inr (.inr ((fun _ => none)))))))]]) := fl_pushD hD
  have hP : va_P D vwCl (fl [[(a_, .inl (ca 3, 10, .inr (.inr (.inr (.inr (f_))))))], [(q_1, .inl (ca 3, 15, .inr (.inr (.inr (.inr ((fun _ => none)))))))], (orW L_)]) H := mvP hP [0, 2, 1]
  have hD : va_D A (fl [[(a_, .inl (ca 3, 10, .inr (.inr (.inr (.inr (f_))))))], [(q_1, .inl (ca 3, 15, .inr (.inr (.inr (.inr ((fun _ => none)))))))], (orW L_)]) := mvD hD [0, 2, 1] (by decide)
  refine lv_goto (tgt := 24) hx hb dJ13_copyOf_2_10 (by decide) ?_
  refine lv_astore_n (lv' := [(3, .ref q_1), (0, .ref a_), (1, .int (nI 15)), (2, .ref mi_)]) hx hb dJ13_copyOf_2_24 rfl hl (by decide) rfl (fun ls hl => ?_)
  refine lv_aload_n hx hb dJ13_copyOf_2_25 rfl (lv_at hl 1 rfl) ?_
  refine lv_iconst (v := nI 0) hx hb dJ13_copyOf_2_26 (by decide) ?_
  refine lv_aload_n hx hb dJ13_copyOf_2_27 rfl (lv_at hl 0 rfl) ?_
  refine lv_iconst (v := nI 0) hx hb dJ13_copyOf_2_28 (by decide) ?_
  refine lv_aload_n hx hb dJ13_copyOf_2_29 rfl (lv_at hl 1 rfl) ?_
  refine va_alen hx hb hK hP 0 3 rfl rfl rfl dJ13_copyOf_2_30 (lv_topi (nm_r (e' := nI 10) rfl ?_))
  refine lv_iload_n hx hb dJ13_copyOf_2_31 rfl (lv_at hl 2 rfl) ?_
  refine va_mmin (x := nI 10) (y := nI 15) hx hb (hml.trans hl.1.symm) hown (hts _ q413) (hts _ q414) (hts _ q96) (hts _ q415) (Nat.le_of_ble_eq_true rfl) (Nat.le_of_ble_eq_true rfl) (by decide) (by decide) dJ13_copyOf_2_32 ?_
  refine lv_topi (nm_r (e' := nI 10) ((mn_nI (by omega) (by omega)).trans (by decide)) ?_)
  refine va_copyq (C := RX6) (E0 := "java/lang/Object") (E1 := "java/lang/Object") hx hb (hml.trans hl.1.symm) hown (hts _ q416) (hts _ q418) (hts _ q417) (hts _ q97) hK hP hD hS 0 1 3 3 rfl rfl rfl rfl (sp := nI 0) (dp := nI 0) (n := nI 10) (by decide) (by decide) (by decide) (by decide) (by decide) (fun i_ hi_ y_ hy_ => or_cell (L := L_) (j := i_) hK hP (by simp) (by have hi2_ : i_ < 10 := hi_; rw [← hLs i_ (by omega)]; rw [← hy_]; congr 1; show i_ = 0 + i_; omega)) (asg_obj (args := #[]) (va_Nw.use rfl (hE.1.1.1.1.1 _ q2073 rfl))) (Nat.le_of_ble_eq_true rfl) (Nat.le_of_ble_eq_true (by decide)) dJ13_copyOf_2_35 (fun H locs hP hD hS => ?_)
  have hP : va_P D vwCl (fl [[(a_, .inl (ca 3, 10, .inr (.inr (.inr (.inr (f_))))))], [(q_1, .inl (ca 3, 15, .inr (.inr (.inr (.inr (va_cpy f_ (fun _ => none) 0 0 10))))))], (orW L_)]) H := hP
  have hD : va_D A (fl [[(a_, .inl (ca 3, 10, .inr (.inr (.inr (.inr (f_))))))], [(q_1, .inl (ca 3, 15, .inr (.inr (.inr (.inr (va_cpy f_ (fun _ => none) 0 0 10))))))], (orW L_)]) := hD
  refine lv_aload_n hx hb dJ13_copyOf_2_38 rfl (lv_at hl 0 rfl) ?_
  subst hQQ
  exact xe_ra (ad := fun (u_ : Nat) => u_) q_1 hx hb hr hlocks hK hP hD hS (trivial) dJ13_copyOf_2_39
set_option maxHeartbeats 800000 in
set_option maxRecDepth 100000 in
theorem mt_J13_copyOf_q10 (l : Launch) (D : va_G) (ca : Nat → ClassId) (a_ : Nat) (f_ : Nat → Option Nat) (L_ : List (Nat × Nat × Nat × Nat)) (hLs : LsOk f_ L_) (hLn : L_.length = 10) (nn : Nat) : Met l yJ13_copyOf (ws_ yJ13_copyOf cJ13_copyOf 2 (Option.some (Jvm.ClassFile.FieldType.array (Jvm.ClassFile.FieldType.object "java/lang/Object")))) ({ frames := 2, cells := 1, slots := 15, locals := 83 } : Room) (va_Pc [.ref a_, .int (nI 15)] (PreW EvL D vwCl (TY ca) (fl [[(a_, .inl (ca 3, 10, .inr (.inr (.inr (.inr (f_))))))], (orW L_)]) nn)) (va_Qr (fun (u_ : Nat) => True) (fun (u_ : Nat) (r_ : Nat) (tS_ : State) => r_ = u_ ∧ PostW D vwCl (TY ca) (fun (u_ : Nat) => (fl [[(a_, .inl (ca 3, 10, .inr (.inr (.inr (.inr (f_))))))], [(u_, .inl (ca 3, 15, .inr (.inr (.inr (.inr (va_cpy f_ (fun _ => none) 0 0 10))))))], (orW L_)])) (va_A (fl [[(a_, .inl (ca 3, 10, .inr (.inr (.inr (.inr (f_))))))], (orW L_)]) nn) u_ tS_) (va_A (fl [[(a_, .inl (ca 3, 10, .inr (.inr (.inr (.inr (f_))))))], (orW L_)]) nn)) 1 15 (va_A (fl [[(a_, .inl (ca 3, 10, .inr (.inr (.inr (.inr (f_))))))], (orW L_)]) nn) := by
  refine met_go2 (QA := fun A => va_Qr (fun (u_ : Nat) => True) (fun (u_ : Nat) (r_ : Nat) (tS_ : State) => r_ = u_ ∧ PostW D vwCl (TY ca) (fun (u_ : Nat) => (fl [[(a_, .inl (ca 3, 10, .inr (.inr (.inr (.inr (f_))))))], [(u_, .inl (ca 3, 15, .inr (.inr (.inr (.inr (va_cpy f_ (fun _ => none) 0 0 10))))))], (orW L_)])) A u_ tS_) A) (by decide) (Nat.le_of_ble_eq_true rfl) (fun p e s m below meth c A ls QQ hQQ hmn hnm hx hb hr hts hown hlocks hml hA hP hK hD hE hl => ?_)
  have hown : s.vm.findClass RJ13 = some m.cls := hown
  have hS : va_S A s.heap s.heap [] := va_S.rf
  have hl : lv_has ls 2 [(0, .ref a_), (1, .int (nI 15))] := hl
  generalize hHe : s.heap = H at hP ⊢
  have hS : va_S A s.heap H [] := hHe ▸ hS
  generalize ([] : List Loc) = locs at hS ⊢
  obtain ⟨mi_, hMi_⟩ := hE.2.1
  have hDc_ := hE.2.2.1
  refine lv_aload_n hx hb dJ13_copyOf_0 rfl (lv_at hl 0 rfl) ?_
  refine lv_iload_n hx hb dJ13_copyOf_1 rfl (lv_at hl 1 rfl) ?_
  refine lv_aload_n hx hb dJ13_copyOf_2 rfl (lv_at hl 0 rfl) ?_
  refine va_getC (C := "[Ljava/lang/Object;") hx hb (hml.trans hl.1.symm) hown (hts _ q388) (va_Dc.use hDc_) (hts _ q2077) (hts _ q389) (hts _ q407) hMi_ ⟨_, hP 0 _ rfl, rfl, va_nmO (hK.2 3 _ rfl).2 rfl⟩ (Nat.le_of_ble_eq_true rfl) (Nat.le_of_ble_eq_true rfl) dJ13_copyOf_3 ?_
  refine xc_r (xr_S (As := [.ref a_, .int (nI 15), .ref mi_]) (rest := []) (mt_J13_copyOf_2_q10 l D ca a_ f_ L_ mi_ (by first | assumption | omega | (simp only [updN, forgetC, changedC]; (repeat' split) <;> omega)) (by first | assumption | omega | (simp only [updN, forgetC, changedC]; (repeat' split) <;> omega)) H.size) ⟨hx, hb, hml, hown, hts⟩ (va_cwS 3 hts (lw_S q408 q409 q95 q410) rfl rfl rfl (by decide +kernel) ⟨Nat.le_of_ble_eq_true rfl, Nat.le_of_ble_eq_true rfl⟩) (EvG_ok _) ⟨hE, hMi_⟩ hK hS (Cut.ch [[(a_, .inl (ca 3, 10, .inr (.inr (.inr (.inr (f_))))))], (orW L_)] [] hP hD hS hA) rfl hl.1 rfl (Nat.le_of_ble_eq_true rfl) dJ13_copyOf_6 ⟨Nat.le_of_ble_eq_true rfl, Nat.le_of_ble_eq_true rfl⟩) hS (Cut.ch [[(a_, .inl (ca 3, 10, .inr (.inr (.inr (.inr (f_))))))], (orW L_)] [] hP hD hS hA) (fun u_2 H locs hq_6 hP hD hS => ?_)
  obtain ⟨c1_3, rfl⟩ : ∃ z_, z_ = u_2 := ⟨_, rfl⟩
  have hP : va_P D vwCl (fl [[(a_, .inl (ca 3, 10, .inr (.inr (.inr (.inr (f_))))))], [(c1_3, .inl (ca 3, 15, .inr (.inr (.inr (.inr (va_cpy f_ (fun _ => none) 0 0 10))))))], orW L_]) H := fl_join [[(a_, .inl (ca 3, 10, .inr (.inr (.inr (.inr (f_))))))], [(c1_3, .inl (ca 3, 15, .inr (.inr (.inr (.inr (va_cpy f_ (fun _ => none) 0 0 10))))))], orW L_] [] hP
  have hD : va_D A (fl [[(a_, .inl (ca 3, 10, .inr (.inr (.inr (.inr (f_))))))], [(c1_3, .inl (ca 3, 15, .inr (.inr (.inr (.inr (va_cpy f_ (fun _ => none) 0 0 10))))))], orW L_]) := fl_joinD [[(a_, .inl (ca 3, 10, .inr (.inr (.inr (.inr (f_))))))], [(c1_3, .inl (ca 3, 15, .inr (.inr (.inr (.inr (va_cpy f_ (fun _ => none) 0 0 10))))))], orW L_] [] hD
  subst hQQ
  exact xe_ra (ad := fun (u_ : Nat) => u_) c1_3 hx hb hr hlocks hK hP hD hS (trivial) dJ13_copyOf_9
set_option maxHeartbeats 800000 in
set_option maxRecDepth 100000 in
theorem mt_J22_grow_2_q10 (l : Launch) (D : va_G) (ca : Nat → ClassId) (la_ : Nat) (mc_ : Int32) (ea_ : Nat) (f_ : Nat → Option Nat) (L_ : List (Nat × Nat × Nat × Nat)) (hLs : LsOk f_ L_) (hLn : L_.length = 10) (nn : Nat) : Met l yJ22_grow_2 (ws_ yJ22_grow_2 cJ22_grow_2 4 (Option.some (Jvm.ClassFile.FieldType.array (Jvm.ClassFile.FieldType.object "java/lang/Object")))) ({ frames := 3, cells := 1, slots := 15, locals := 104 } : Room) (va_Pc [.ref la_, .int (nI 11)] (PreW EvL D vwCl (TY ca) (fl [[(la_, .inr (9, [.int mc_, .ref ea_, .int (nI 10)]))], [(ea_, .inl (ca 3, 10, .inr (.inr (.inr (.inr (f_))))))], (orW L_)]) nn)) (va_Qr (fun (u_ : Nat) => True) (fun (u_ : Nat) (r_ : Nat) (tS_ : State) => r_ = u_ ∧ PostW D vwCl (TY ca) (fun (u_ : Nat) => (fl [[(la_, .inr (9, [.int mc_, .ref u_, .int (nI 10)]))], [(u_, .inl (ca 3, 15, .inr (.inr (.inr (.inr (va_cpy f_ (fun _ => none) 0 0 10))))))], (orW L_)])) (va_A (fl [[(la_, .inr (9, [.int mc_, .ref ea_, .int (nI 10)]))], [(ea_, .inl (ca 3, 10, .inr (.inr (.inr (.inr (f_))))))], (orW L_)]) nn) u_ tS_) (va_A (fl [[(la_, .inr (9, [.int mc_, .ref ea_, .int (nI 10)]))], [(ea_, .inl (ca 3, 10, .inr (.inr (.inr (.inr (f_))))))], (orW L_)]) nn)) 1 15 (va_A (fl [[(la_, .inr (9, [.int mc_, .ref ea_, .int (nI 10)]))], [(ea_, .inl (ca 3, 10, .inr (.inr (.inr (.inr (f_))))))], (orW L_)]) nn) := by
  refine met_go2 (QA := fun A => va_Qr (fun (u_ : Nat) => True) (fun (u_ : Nat) (r_ : Nat) (tS_ : State) => r_ = u_ ∧ PostW D vwCl (TY ca) (fun (u_ : Nat) => (fl [[(la_, .inr (9, [.int mc_, .ref u_, .int (nI 10)]))], [(u_, .inl (ca 3, 15, .inr (.inr (.inr (.inr (va_cpy f_ (fun _ => none) 0 0 10))))))], (orW L_)])) A u_ tS_) A) (by decide) (Nat.le_of_ble_eq_true rfl) (fun p e s m below meth c A ls QQ hQQ hmn hnm hx hb hr hts hown hlocks hml hA hP hK hD hE hl => ?_)
  have hown : s.vm.findClass RJ22 = some m.cls := hown
  have hS : va_S A s.heap s.heap [] := va_S.rf
  have hl : lv_has ls 4 [(0, .ref la_), (1, .int (nI 11))] := hl
  generalize hHe : s.heap = H at hP ⊢
  have hS : va_S A s.heap H [] := hHe ▸ hS
  generalize ([] : List Loc) = locs at hS ⊢
  refine lv_aload_n hx hb dJ22_grow_2_0 rfl (lv_at hl 0 rfl) ?_
  refine va_get (D := D) (ci := 9) (v := .ref ea_) (C := RJ22) (T := TJ22) (N := 3) hx hb hts in_J22 hown hK hP 0 rfl rfl 1 (by decide) (hts _ q817) (fun _ h9 => h9) rfl dJ22_grow_2_1 ?_
  refine va_alen hx hb hK hP 1 3 rfl rfl rfl dJ22_grow_2_4 (lv_topi (nm_r (e' := nI 10) rfl ?_))
  refine lv_istore_n (lv' := [(2, .int (nI 10)), (0, .ref la_), (1, .int (nI 11))]) hx hb dJ22_grow_2_5 rfl hl (by decide) rfl (fun ls hl => ?_)
  refine lv_iload_n hx hb dJ22_grow_2_6 rfl (lv_at hl 0 rfl) ?_
  refine nv_if_gt (tgt := 20) hx hb dJ22_grow_2_7 (by decide) (by omega) (fun c_7 => ?_) (fun c_7 => absurd c_7 (by decide))
  refine lv_iload_n hx hb dJ22_grow_2_20 rfl (lv_at hl 0 rfl) ?_
  refine lv_iload_n hx hb dJ22_grow_2_21 rfl (lv_at hl 2 rfl) ?_
  refine lv_iload_n hx hb dJ22_grow_2_22 rfl (lv_at hl 0 rfl) ?_
  refine lv_isub hx hb dJ22_grow_2_23 (lv_topi (nm_r (e' := nI 1) (by decide) ?_))
  refine lv_iload_n hx hb dJ22_grow_2_24 rfl (lv_at hl 0 rfl) ?_
  refine lv_iconst (v := nI 1) hx hb dJ22_grow_2_25 (by decide) ?_
  refine nv_ishr hx hb dJ22_grow_2_26 (by decide) (by decide) ?_
  refine lv_topi (nm_r (e' := nI 5) (by decide) ?_)
  refine xc_i (xr_S (As := [.int (nI 10), .int (nI 1), .int (nI 5)]) (rest := []) (mt_J17_newLength_q10 l D ca   H.size) ⟨hx, hb, hml, hown, hts⟩ (va_cwS 3 hts (lw_S q973 q537 q101 q538) rfl rfl rfl (by decide +kernel) ⟨Nat.le_of_ble_eq_true rfl, Nat.le_of_ble_eq_true rfl⟩) Ev0_ok trivial hK hS (Cut.app (wc := []) (wr := (fl [[(la_, .inr (9, [.int mc_, .ref ea_, .int (nI 10)]))], [(ea_, .inl (ca 3, 10, .inr (.inr (.inr (.inr (f_))))))], (orW L_)])) hP hD hS hA) rfl hl.1 rfl (Nat.le_of_ble_eq_true rfl) dJ22_grow_2_27 ⟨Nat.le_of_ble_eq_true rfl, Nat.le_of_ble_eq_true rfl⟩) hS (Cut.app (wc := []) (wr := (fl [[(la_, .inr (9, [.int mc_, .ref ea_, .int (nI 10)]))], [(ea_, .inl (ca 3, 10, .inr (.inr (.inr (.inr (f_))))))], (orW L_)])) hP hD hS hA) (fun r_1 u_2 H locs hq_27 hP hD hS => ?_)
  have hP : va_P D vwCl (fl [[(la_, .inr (9, [.int mc_, .ref ea_, .int (nI 10)]))], [(ea_, .inl (ca 3, 10, .inr (.inr (.inr (.inr (f_))))))], (orW L_)]) H := hP
  have hD : va_D A (fl [[(la_, .inr (9, [.int mc_, .ref ea_, .int (nI 10)]))], [(ea_, .inl (ca 3, 10, .inr (.inr (.inr (.inr (f_))))))], (orW L_)]) := hD
  have hp_27 : r_1 = nI 15 := hq_27
  clear hq_27
  obtain rfl := hp_27
  refine lv_istore_n (lv' := [(3, .int (nI 15)), (2, .int (nI 10)), (0, .ref la_), (1, .int (nI 11))]) hx hb dJ22_grow_2_30 rfl hl (by decide) rfl (fun ls hl => ?_)
  refine lv_aload_n hx hb dJ22_grow_2_31 rfl (lv_at hl 2 rfl) ?_
  refine lv_aload_n hx hb dJ22_grow_2_32 rfl (lv_at hl 2 rfl) ?_
  refine va_get (D := D) (ci := 9) (v := .ref ea_) (C := RJ22) (T := TJ22) (N := 3) hx hb hts in_J22 hown hK hP 0 rfl rfl 1 (by decide) (hts _ q817) (fun _ h9 => h9) rfl dJ22_grow_2_33 ?_
  refine lv_iload_n hx hb dJ22_grow_2_36 rfl (lv_at hl 0 rfl) ?_
  have hP : va_P D vwCl (fl [[(ea_, .inl (ca 3, 10, .inr (.inr (.inr (.inr (f_))))))], (orW L_), [(la_, .inr (9, [.int mc_, .ref ea_, .int (nI 10)]))]]) H := mvP hP [1, 2, 0]
  have hD : va_D A (fl [[(ea_, .inl (ca 3, 10, .inr (.inr (.inr (.inr (f_))))))], (orW L_), [(la_, .inr (9, [.int mc_, .ref ea_, .int (nI 10)]))]]) := mvD hD [1, 2, 0] (by decide)
  refine xc_r (xr_S (As := [.ref ea_, .int (nI 15)]) (rest := [.ref la_]) (mt_J13_copyOf_q10 l D ca ea_ f_ L_ (by first | assumption | omega | (simp only [updN, forgetC, changedC]; (repeat' split) <;> omega)) (by first | assumption | omega | (simp only [updN, forgetC, changedC]; (repeat' split) <;> omega)) H.size) ⟨hx, hb, hml, hown, hts⟩ (va_cwS 2 hts (lw_S q974 q386 q95 q387) rfl rfl rfl (by decide +kernel) ⟨Nat.le_of_ble_eq_true rfl, Nat.le_of_ble_eq_true rfl⟩) EvL_ok hE hK hS (Cut.ch [[(ea_, .inl (ca 3, 10, .inr (.inr (.inr (.inr (f_))))))], (orW L_)] [[(la_, .inr (9, [.int mc_, .ref ea_, .int (nI 10)]))]] hP hD hS hA) rfl hl.1 rfl (Nat.le_of_ble_eq_true rfl) dJ22_grow_2_37 ⟨Nat.le_of_ble_eq_true rfl, Nat.le_of_ble_eq_true rfl⟩) hS (Cut.ch [[(ea_, .inl (ca 3, 10, .inr (.inr (.inr (.inr (f_))))))], (orW L_)] [[(la_, .inr (9, [.int mc_, .ref ea_, .int (nI 10)]))]] hP hD hS hA) (fun u_4 H locs hq_37 hP hD hS => ?_)
  obtain ⟨c1_5, rfl⟩ : ∃ z_, z_ = u_4 := ⟨_, rfl⟩
  have hP : va_P D vwCl (fl [[(ea_, .inl (ca 3, 10, .inr (.inr (.inr (.inr (f_))))))], [(c1_5, .inl (ca 3, 15, .inr (.inr (.inr (.inr (va_cpy f_ (fun _ => none) 0 0 10))))))], orW L_, [(la_, .inr (9, [.int mc_, .ref ea_, .int (nI 10)]))]]) H := fl_join [[(ea_, .inl (ca 3, 10, .inr (.inr (.inr (.inr (f_))))))], [(c1_5, .inl (ca 3, 15, .inr (.inr (.inr (.inr (va_cpy f_ (fun _ => none) 0 0 10))))))], orW L_] [[(la_, .inr (9, [.int mc_, .ref ea_, .int (nI 10)]))]] hP
  have hD : va_D A (fl [[(ea_, .inl (ca 3, 10, .inr (.inr (.inr (.inr (f_))))))], [(c1_5, .inl (ca 3, 15, .inr (.inr (.inr (.inr (va_cpy f_ (fun _ => none) 0 0 10))))))], orW L_, [(la_, .inr (9, [.int mc_, .ref ea_, .int (nI 10)]))]]) := fl_joinD [[(ea_, .inl (ca 3, 10, .inr (.inr (.inr (.inr (f_))))))], [(c1_5, .inl (ca 3, 15, .inr (.inr (.inr (.inr (va_cpy f_ (fun _ => none) 0 0 10))))))], orW L_] [[(la_, .inr (9, [.int mc_, .ref ea_, .int (nI 10)]))]] hD
  have hP : va_P D vwCl (fl [[(ea_, .inl (ca 3, 10, .inr (.inr (.inr (.inr (f_))))))], [(c1_5, .inl (ca 3, 15, .inr (.inr (.inr (.inr (va_cpy f_ (fun _ => none) 0 0 10))))))], [(la_, .inr (9, [.int mc_, .ref ea_, .int (nI 10)]))], orW L_]) H := mvP hP [0, 1, 3, 2]
  have hD : va_D A (fl [[(ea_, .inl (ca 3, 10, .inr (.inr (.inr (.inr (f_))))))], [(c1_5, .inl (ca 3, 15, .inr (.inr (.inr (.inr (va_cpy f_ (fun _ => none) 0 0 10))))))], [(la_, .inr (9, [.int mc_, .ref ea_, .int (nI 10)]))], orW L_]) := mvD hD [0, 1, 3, 2] (by decide)
  refine lv_dup_x1 hx hb dJ22_grow_2_40 rfl rfl ?_
  refine va_put (D := D) (ci := 9) (v := .ref c1_5) (ty := (.array (.object "java/lang/Object"))) (C := RJ22) (T := TJ22) (N := 3) hx hb hts in_J22 tyJ22 tyJ22_ok nmJ22 hown hK hP hD hS 2 rfl rfl 1 (by decide) (hts _ q817) (fun _ h9 => h9) rfl (by decide +kernel) rfl rfl (Nat.le_of_ble_eq_true rfl) dJ22_grow_2_41 (fun H locs hP hD hS => ?_)
  have hP : va_P D vwCl (fl [[(ea_, .inl (ca 3, 10, .inr (.inr (.inr (.inr (f_))))))], [(c1_5, .inl (ca 3, 15, .inr (.inr (.inr (.inr (va_cpy f_ (fun _ => none) 0 0 10))))))], [(la_, .inr (9, [.int mc_, .ref c1_5, .int (nI 10)]))], orW L_]) H := hP
  have hD : va_D A (fl [[(ea_, .inl (ca 3, 10, .inr (.inr (.inr (.inr (f_))))))], [(c1_5, .inl (ca 3, 15, .inr (.inr (.inr (.inr (va_cpy f_ (fun _ => none) 0 0 10))))))], [(la_, .inr (9, [.int mc_, .ref c1_5, .int (nI 10)]))], orW L_]) := hD
  have hP : va_P D vwCl (fl [[(la_, .inr (9, [.int mc_, .ref c1_5, .int (nI 10)]))], [(c1_5, .inl (ca 3, 15, .inr (.inr (.inr (.inr (va_cpy f_ (fun _ => none) 0 0 10))))))], orW L_]) H := mvP hP [2, 1, 3]
  have hD : va_D A (fl [[(la_, .inr (9, [.int mc_, .ref c1_5, .int (nI 10)]))], [(c1_5, .inl (ca 3, 15, .inr (.inr (.inr (.inr (va_cpy f_ (fun _ => none) 0 0 10))))))], orW L_]) := mvD hD [2, 1, 3] (by decide)
  subst hQQ
  exact xe_ra (ad := fun (u_ : Nat) => u_) c1_5 hx hb hr hlocks hK hP hD hS (trivial) dJ22_grow_2_44
set_option maxHeartbeats 800000 in
set_option maxRecDepth 100000 in
theorem mt_J22_grow_q10 (l : Launch) (D : va_G) (ca : Nat → ClassId) (la_ : Nat) (mc_ : Int32) (ea_ : Nat) (f_ : Nat → Option Nat) (L_ : List (Nat × Nat × Nat × Nat)) (hLs : LsOk f_ L_) (hLn : L_.length = 10) (nn : Nat) : Met l yJ22_grow (ws_ yJ22_grow cJ22_grow 1 (Option.some (Jvm.ClassFile.FieldType.array (Jvm.ClassFile.FieldType.object "java/lang/Object")))) ({ frames := 4, cells := 1, slots := 15, locals := 127 } : Room) (va_Pc [.ref la_] (PreW EvL D vwCl (TY ca) (fl [[(la_, .inr (9, [.int mc_, .ref ea_, .int (nI 10)]))], [(ea_, .inl (ca 3, 10, .inr (.inr (.inr (.inr (f_))))))], (orW L_)]) nn)) (va_Qr (fun (u_ : Nat) => True) (fun (u_ : Nat) (r_ : Nat) (tS_ : State) => r_ = u_ ∧ PostW D vwCl (TY ca) (fun (u_ : Nat) => (fl [[(la_, .inr (9, [.int mc_, .ref u_, .int (nI 10)]))], [(u_, .inl (ca 3, 15, .inr (.inr (.inr (.inr (va_cpy f_ (fun _ => none) 0 0 10))))))], (orW L_)])) (va_A (fl [[(la_, .inr (9, [.int mc_, .ref ea_, .int (nI 10)]))], [(ea_, .inl (ca 3, 10, .inr (.inr (.inr (.inr (f_))))))], (orW L_)]) nn) u_ tS_) (va_A (fl [[(la_, .inr (9, [.int mc_, .ref ea_, .int (nI 10)]))], [(ea_, .inl (ca 3, 10, .inr (.inr (.inr (.inr (f_))))))], (orW L_)]) nn)) 1 15 (va_A (fl [[(la_, .inr (9, [.int mc_, .ref ea_, .int (nI 10)]))], [(ea_, .inl (ca 3, 10, .inr (.inr (.inr (.inr (f_))))))], (orW L_)]) nn) := by
  refine met_go2 (QA := fun A => va_Qr (fun (u_ : Nat) => True) (fun (u_ : Nat) (r_ : Nat) (tS_ : State) => r_ = u_ ∧ PostW D vwCl (TY ca) (fun (u_ : Nat) => (fl [[(la_, .inr (9, [.int mc_, .ref u_, .int (nI 10)]))], [(u_, .inl (ca 3, 15, .inr (.inr (.inr (.inr (va_cpy f_ (fun _ => none) 0 0 10))))))], (orW L_)])) A u_ tS_) A) (by decide) (Nat.le_of_ble_eq_true rfl) (fun p e s m below meth c A ls QQ hQQ hmn hnm hx hb hr hts hown hlocks hml hA hP hK hD hE hl => ?_)
  have hown : s.vm.findClass RJ22 = some m.cls := hown
  have hS : va_S A s.heap s.heap [] := va_S.rf
  have hl : lv_has ls 1 [(0, .ref la_)] := hl
  generalize hHe : s.heap = H at hP ⊢
  have hS : va_S A s.heap H [] := hHe ▸ hS
  generalize ([] : List Loc) = locs at hS ⊢
  refine lv_aload_n hx hb dJ22_grow_0 rfl (lv_at hl 0 rfl) ?_
  refine lv_aload_n hx hb dJ22_grow_1 rfl (lv_at hl 0 rfl) ?_
  refine va_get (D := D) (ci := 9) (v := .int (nI 10)) (C := RJ22) (T := TJ22) (N := 3) hx hb hts in_J22 hown hK hP 0 rfl rfl 2 (by decide) (hts _ q818) (fun _ h9 => h9) rfl dJ22_grow_2 ?_
  refine lv_iconst (v := nI 1) hx hb dJ22_grow_5 (by decide) ?_
  refine lv_iadd hx hb dJ22_grow_6 (lv_topi (nm_r (e' := nI 11) (by decide) ?_))
  refine xc_r (xr_V (b := la_) (ci := 9) (q0 := 0) (As := [.int (nI 11)]) (rest := []) (mt_J22_grow_2_q10 l D ca la_ mc_ ea_ f_ L_ (by first | assumption | omega | (simp only [updN, forgetC, changedC]; (repeat' split) <;> omega)) (by first | assumption | omega | (simp only [updN, forgetC, changedC]; (repeat' split) <;> omega)) H.size) ⟨hx, hb, hml, hown, hts⟩ (cwV 1 hts (lw_V q969 q971 qs16 q107 q972) rfl rfl rfl (by decide +kernel) ⟨Nat.le_of_ble_eq_true rfl, Nat.le_of_ble_eq_true rfl⟩) EvL_ok hE hK hS (Cut.ch [[(la_, .inr (9, [.int mc_, .ref ea_, .int (nI 10)]))], [(ea_, .inl (ca 3, 10, .inr (.inr (.inr (.inr (f_))))))], (orW L_)] [] hP hD hS hA) rfl rfl rfl hl.1 rfl (Nat.le_of_ble_eq_true rfl) dJ22_grow_7 ⟨Nat.le_of_ble_eq_true rfl, Nat.le_of_ble_eq_true rfl⟩) hS (Cut.ch [[(la_, .inr (9, [.int mc_, .ref ea_, .int (nI 10)]))], [(ea_, .inl (ca 3, 10, .inr (.inr (.inr (.inr (f_))))))], (orW L_)] [] hP hD hS hA) (fun u_2 H locs hq_7 hP hD hS => ?_)
  obtain ⟨e1_3, rfl⟩ : ∃ z_, z_ = u_2 := ⟨_, rfl⟩
  have hP : va_P D vwCl (fl [[(la_, .inr (9, [.int mc_, .ref e1_3, .int (nI 10)]))], [(e1_3, .inl (ca 3, 15, .inr (.inr (.inr (.inr (va_cpy f_ (fun _ => none) 0 0 10))))))], orW L_]) H := fl_join [[(la_, .inr (9, [.int mc_, .ref e1_3, .int (nI 10)]))], [(e1_3, .inl (ca 3, 15, .inr (.inr (.inr (.inr (va_cpy f_ (fun _ => none) 0 0 10))))))], orW L_] [] hP
  have hD : va_D A (fl [[(la_, .inr (9, [.int mc_, .ref e1_3, .int (nI 10)]))], [(e1_3, .inl (ca 3, 15, .inr (.inr (.inr (.inr (va_cpy f_ (fun _ => none) 0 0 10))))))], orW L_]) := fl_joinD [[(la_, .inr (9, [.int mc_, .ref e1_3, .int (nI 10)]))], [(e1_3, .inl (ca 3, 15, .inr (.inr (.inr (.inr (va_cpy f_ (fun _ => none) 0 0 10))))))], orW L_] [] hD
  subst hQQ
  exact xe_ra (ad := fun (u_ : Nat) => u_) e1_3 hx hb hr hlocks hK hP hD hS (trivial) dJ22_grow_10
set_option maxHeartbeats 800000 in
set_option maxRecDepth 100000 in
theorem mt_J22_add_2_q10 (l : Launch) (D : va_G) (ca : Nat → ClassId) (la_ : Nat) (mc_ : Int32) (ea_ : Nat) (f_ : Nat → Option Nat) (L_ : List (Nat × Nat × Nat × Nat)) (oa_ : Nat) (s0_ : Int32) (s1_ : Int32) (s2_ : Int32) (hLs : LsOk f_ L_) (hLn : L_.length = 10) (nn : Nat) : Met l yJ22_add_2 (ws_ yJ22_add_2 cJ22_add_2 4 (Option.none : Option Jvm.ClassFile.FieldType)) ({ frames := 5, cells := 1, slots := 15, locals := 147 } : Room) (va_Pc [.ref la_, .ref oa_, .ref ea_, .int (nI 10)] (PreW EvL D vwCl (TY ca) (fl [[(la_, .inr (9, [.int mc_, .ref ea_, .int (nI 10)]))], [(ea_, .inl (ca 3, 10, .inr (.inr (.inr (.inr (f_))))))], [(oa_, .inr (4, [.int s0_, .int s1_, .int s2_]))], (orW L_)]) nn)) (va_Qv (fun (u_ : Nat) => True) (PostW D vwCl (TY ca) (fun (u_ : Nat) => (fl [[(la_, .inr (9, [.int mc_, .ref u_, .int (nI 11)]))], [(u_, .inl (ca 3, 15, .inr (.inr (.inr (.inr (va_up (va_cpy f_ (fun _ => none) 0 0 10) 10 (some oa_)))))))], [(oa_, .inr (4, [.int s0_, .int s1_, .int s2_]))], (orW L_)])) (va_A (fl [[(la_, .inr (9, [.int mc_, .ref ea_, .int (nI 10)]))], [(ea_, .inl (ca 3, 10, .inr (.inr (.inr (.inr (f_))))))], [(oa_, .inr (4, [.int s0_, .int s1_, .int s2_]))], (orW L_)]) nn)) (va_A (fl [[(la_, .inr (9, [.int mc_, .ref ea_, .int (nI 10)]))], [(ea_, .inl (ca 3, 10, .inr (.inr (.inr (.inr (f_))))))], [(oa_, .inr (4, [.int s0_, .int s1_, .int s2_]))], (orW L_)]) nn)) 1 15 (va_A (fl [[(la_, .inr (9, [.int mc_, .ref ea_, .int (nI 10)]))], [(ea_, .inl (ca 3, 10, .inr (.inr (.inr (.inr (f_))))))], [(oa_, .inr (4, [.int s0_, .int s1_, .int s2_]))], (orW L_)]) nn) := by
  refine met_go2 (QA := fun A => va_Qv (fun (u_ : Nat) => True) (PostW D vwCl (TY ca) (fun (u_ : Nat) => (fl [[(la_, .inr (9, [.int mc_, .ref u_, .int (nI 11)]))], [(u_, .inl (ca 3, 15, .inr (.inr (.inr (.inr (va_up (va_cpy f_ (fun _ => none) 0 0 10) 10 (some oa_)))))))], [(oa_, .inr (4, [.int s0_, .int s1_, .int s2_]))], (orW L_)])) A) A) (by decide) (Nat.le_of_ble_eq_true rfl) (fun p e s m below meth c A ls QQ hQQ hmn hnm hx hb hr hts hown hlocks hml hA hP hK hD hE hl => ?_)
  have hown : s.vm.findClass RJ22 = some m.cls := hown
  have hS : va_S A s.heap s.heap [] := va_S.rf
  have hl : lv_has ls 4 [(0, .ref la_), (1, .ref oa_), (2, .ref ea_), (3, .int (nI 10))] := hl
  generalize hHe : s.heap = H at hP ⊢
  have hS : va_S A s.heap H [] := hHe ▸ hS
  generalize ([] : List Loc) = locs at hS ⊢
  refine lv_iload_n hx hb dJ22_add_2_0 rfl (lv_at hl 3 rfl) ?_
  refine lv_aload_n hx hb dJ22_add_2_1 rfl (lv_at hl 2 rfl) ?_
  refine va_alen hx hb hK hP 1 3 rfl rfl rfl dJ22_add_2_2 (lv_topi (nm_r (e' := nI 10) rfl ?_))
  refine nv_icmp_ne (tgt := 11) hx hb dJ22_add_2_3 (by decide) (by omega) (by omega) (fun c_3 => absurd c_3 (by decide)) (fun c_3 => ?_)
  refine lv_aload_n hx hb dJ22_add_2_6 rfl (lv_at hl 0 rfl) ?_
  have hP : va_P D vwCl (fl [[(la_, .inr (9, [.int mc_, .ref ea_, .int (nI 10)]))], [(ea_, .inl (ca 3, 10, .inr (.inr (.inr (.inr (f_))))))], (orW L_), [(oa_, .inr (4, [.int s0_, .int s1_, .int s2_]))]]) H := mvP hP [0, 1, 3, 2]
  have hD : va_D A (fl [[(la_, .inr (9, [.int mc_, .ref ea_, .int (nI 10)]))], [(ea_, .inl (ca 3, 10, .inr (.inr (.inr (.inr (f_))))))], (orW L_), [(oa_, .inr (4, [.int s0_, .int s1_, .int s2_]))]]) := mvD hD [0, 1, 3, 2] (by decide)
  refine xc_r (xr_V (b := la_) (ci := 9) (q0 := 0) (As := []) (rest := []) (mt_J22_grow_q10 l D ca la_ mc_ ea_ f_ L_ (by first | assumption | omega | (simp only [updN, forgetC, changedC]; (repeat' split) <;> omega)) (by first | assumption | omega | (simp only [updN, forgetC, changedC]; (repeat' split) <;> omega)) H.size) ⟨hx, hb, hml, hown, hts⟩ (cwV 0 hts (lw_V q965 q967 qs15 q107 q968) rfl rfl rfl (by decide +kernel) ⟨Nat.le_of_ble_eq_true rfl, Nat.le_of_ble_eq_true rfl⟩) EvL_ok hE hK hS (Cut.ch [[(la_, .inr (9, [.int mc_, .ref ea_, .int (nI 10)]))], [(ea_, .inl (ca 3, 10, .inr (.inr (.inr (.inr (f_))))))], (orW L_)] [[(oa_, .inr (4, [.int s0_, .int s1_, .int s2_]))]] hP hD hS hA) rfl rfl rfl hl.1 rfl (Nat.le_of_ble_eq_true rfl) dJ22_add_2_7 ⟨Nat.le_of_ble_eq_true rfl, Nat.le_of_ble_eq_true rfl⟩) hS (Cut.ch [[(la_, .inr (9, [.int mc_, .ref ea_, .int (nI 10)]))], [(ea_, .inl (ca 3, 10, .inr (.inr (.inr (.inr (f_))))))], (orW L_)] [[(oa_, .inr (4, [.int s0_, .int s1_, .int s2_]))]] hP hD hS hA) (fun u_2 H locs hq_7 hP hD hS => ?_)
  obtain ⟨e1_3, rfl⟩ : ∃ z_, z_ = u_2 := ⟨_, rfl⟩
  have hP : va_P D vwCl (fl [[(la_, .inr (9, [.int mc_, .ref e1_3, .int (nI 10)]))], [(e1_3, .inl (ca 3, 15, .inr (.inr (.inr (.inr (va_cpy f_ (fun _ => none) 0 0 10))))))], orW L_, [(oa_, .inr (4, [.int s0_, .int s1_, .int s2_]))]]) H := fl_join [[(la_, .inr (9, [.int mc_, .ref e1_3, .int (nI 10)]))], [(e1_3, .inl (ca 3, 15, .inr (.inr (.inr (.inr (va_cpy f_ (fun _ => none) 0 0 10))))))], orW L_] [[(oa_, .inr (4, [.int s0_, .int s1_, .int s2_]))]] hP
  have hD : va_D A (fl [[(la_, .inr (9, [.int mc_, .ref e1_3, .int (nI 10)]))], [(e1_3, .inl (ca 3, 15, .inr (.inr (.inr (.inr (va_cpy f_ (fun _ => none) 0 0 10))))))], orW L_, [(oa_, .inr (4, [.int s0_, .int s1_, .int s2_]))]]) := fl_joinD [[(la_, .inr (9, [.int mc_, .ref e1_3, .int (nI 10)]))], [(e1_3, .inl (ca 3, 15, .inr (.inr (.inr (.inr (va_cpy f_ (fun _ => none) 0 0 10))))))], orW L_] [[(oa_, .inr (4, [.int s0_, .int s1_, .int s2_]))]] hD
  have hP : va_P D vwCl (fl [[(la_, .inr (9, [.int mc_, .ref e1_3, .int (nI 10)]))], [(e1_3, .inl (ca 3, 15, .inr (.inr (.inr (.inr (va_cpy f_ (fun _ => none) 0 0 10))))))], [(oa_, .inr (4, [.int s0_, .int s1_, .int s2_]))], orW L_]) H := mvP hP [0, 1, 3, 2]
  have hD : va_D A (fl [[(la_, .inr (9, [.int mc_, .ref e1_3, .int (nI 10)]))], [(e1_3, .inl (ca 3, 15, .inr (.inr (.inr (.inr (va_cpy f_ (fun _ => none) 0 0 10))))))], [(oa_, .inr (4, [.int s0_, .int s1_, .int s2_]))], orW L_]) := mvD hD [0, 1, 3, 2] (by decide)
  refine lv_astore_n (lv' := [(2, .ref e1_3), (0, .ref la_), (1, .ref oa_), (3, .int (nI 10))]) hx hb dJ22_add_2_10 rfl hl (by decide) rfl (fun ls hl => ?_)
  refine lv_aload_n hx hb dJ22_add_2_11 rfl (lv_at hl 0 rfl) ?_
  refine lv_iload_n hx hb dJ22_add_2_12 rfl (lv_at hl 3 rfl) ?_
  refine lv_aload_n hx hb dJ22_add_2_13 rfl (lv_at hl 2 rfl) ?_
  refine nv_aast hx hb hK hP hD hS 1 3 2 4 rfl rfl (hE.1.1.1.1 _ q2073 rfl) rfl rfl (by omega) (by decide) dJ22_add_2_14 (fun H locs hP hD hS => ?_)
  have hP : va_P D vwCl (fl [[(la_, .inr (9, [.int mc_, .ref e1_3, .int (nI 10)]))], [(e1_3, .inl (ca 3, 15, .inr (.inr (.inr (.inr (va_up (va_cpy f_ (fun _ => none) 0 0 10) 10 (some oa_)))))))], [(oa_, .inr (4, [.int s0_, .int s1_, .int s2_]))], orW L_]) H := hP
  have hD : va_D A (fl [[(la_, .inr (9, [.int mc_, .ref e1_3, .int (nI 10)]))], [(e1_3, .inl (ca 3, 15, .inr (.inr (.inr (.inr (va_up (va_cpy f_ (fun _ => none) 0 0 10) 10 (some oa_)))))))], [(oa_, .inr (4, [.int s0_, .int s1_, .int s2_]))], orW L_]) := hD
  refine lv_aload_n hx hb dJ22_add_2_15 rfl (lv_at hl 1 rfl) ?_
  refine lv_iload_n hx hb dJ22_add_2_16 rfl (lv_at hl 3 rfl) ?_
  refine lv_iconst (v := nI 1) hx hb dJ22_add_2_17 (by decide) ?_
  refine lv_iadd hx hb dJ22_add_2_18 (lv_topi (nm_r (e' := nI 11) (by decide) ?_))
  refine va_put (D := D) (ci := 9) (v := .int (nI 11)) (ty := .int) (C := RJ22) (T := TJ22) (N := 3) hx hb hts in_J22 tyJ22 tyJ22_ok nmJ22 hown hK hP hD hS 0 rfl rfl 2 (by decide) (hts _ q818) (fun _ h9 => h9) rfl (by decide +kernel) rfl rfl (Nat.le_of_ble_eq_true rfl) dJ22_add_2_19 (fun H locs hP hD hS => ?_)
  have hP : va_P D vwCl (fl [[(la_, .inr (9, [.int mc_, .ref e1_3, .int (nI 11)]))], [(e1_3, .inl (ca 3, 15, .inr (.inr (.inr (.inr (va_up (va_cpy f_ (fun _ => none) 0 0 10) 10 (some oa_)))))))], [(oa_, .inr (4, [.int s0_, .int s1_, .int s2_]))], orW L_]) H := hP
  have hD : va_D A (fl [[(la_, .inr (9, [.int mc_, .ref e1_3, .int (nI 11)]))], [(e1_3, .inl (ca 3, 15, .inr (.inr (.inr (.inr (va_up (va_cpy f_ (fun _ => none) 0 0 10) 10 (some oa_)))))))], [(oa_, .inr (4, [.int s0_, .int s1_, .int s2_]))], orW L_]) := hD
  subst hQQ
  exact xe_v e1_3 hx hb hr hlocks hK hP hD hS (trivial) dJ22_add_2_22
set_option maxHeartbeats 800000 in
set_option maxRecDepth 100000 in
theorem mt_J22_add_q10 (l : Launch) (D : va_G) (ca : Nat → ClassId) (la_ : Nat) (mc_ : Int32) (ea_ : Nat) (f_ : Nat → Option Nat) (L_ : List (Nat × Nat × Nat × Nat)) (oa_ : Nat) (s0_ : Int32) (s1_ : Int32) (s2_ : Int32) (hLs : LsOk f_ L_) (hLn : L_.length = 10) (nn : Nat) : Met l yJ22_add (ws_ yJ22_add cJ22_add 2 (Option.some Jvm.ClassFile.FieldType.boolean)) ({ frames := 6, cells := 1, slots := 15, locals := 170 } : Room) (va_Pc [.ref la_, .ref oa_] (PreW EvL D vwCl (TY ca) (fl [[(la_, .inr (9, [.int mc_, .ref ea_, .int (nI 10)]))], [(ea_, .inl (ca 3, 10, .inr (.inr (.inr (.inr (f_))))))], [(oa_, .inr (4, [.int s0_, .int s1_, .int s2_]))], (orW L_)]) nn)) (va_Qi (fun (r_ : Int32) (u_ : Nat) => r_ = bI true) (PostW D vwCl (TY ca) (fun (u_ : Nat) => (fl [[(la_, .inr (9, [.int (mc_ + nI 1), .ref u_, .int (nI 11)]))], [(u_, .inl (ca 3, 15, .inr (.inr (.inr (.inr (va_up (va_cpy f_ (fun _ => none) 0 0 10) 10 (some oa_)))))))], [(oa_, .inr (4, [.int s0_, .int s1_, .int s2_]))], (orW L_)])) (va_A (fl [[(la_, .inr (9, [.int mc_, .ref ea_, .int (nI 10)]))], [(ea_, .inl (ca 3, 10, .inr (.inr (.inr (.inr (f_))))))], [(oa_, .inr (4, [.int s0_, .int s1_, .int s2_]))], (orW L_)]) nn)) (va_A (fl [[(la_, .inr (9, [.int mc_, .ref ea_, .int (nI 10)]))], [(ea_, .inl (ca 3, 10, .inr (.inr (.inr (.inr (f_))))))], [(oa_, .inr (4, [.int s0_, .int s1_, .int s2_]))], (orW L_)]) nn)) 1 15 (va_A (fl [[(la_, .inr (9, [.int mc_, .ref ea_, .int (nI 10)]))], [(ea_, .inl (ca 3, 10, .inr (.inr (.inr (.inr (f_))))))], [(oa_, .inr (4, [.int s0_, .int s1_, .int s2_]))], (orW L_)]) nn) := by
  refine met_go2 (QA := fun A => va_Qi (fun (r_ : Int32) (u_ : Nat) => r_ = bI true) (PostW D vwCl (TY ca) (fun (u_ : Nat) => (fl [[(la_, .inr (9, [.int (mc_ + nI 1), .ref u_, .int (nI 11)]))], [(u_, .inl (ca 3, 15, .inr (.inr (.inr (.inr (va_up (va_cpy f_ (fun _ => none) 0 0 10) 10 (some oa_)))))))], [(oa_, .inr (4, [.int s0_, .int s1_, .int s2_]))], (orW L_)])) A) A) (by decide) (Nat.le_of_ble_eq_true rfl) (fun p e s m below meth c A ls QQ hQQ hmn hnm hx hb hr hts hown hlocks hml hA hP hK hD hE hl => ?_)
  have hown : s.vm.findClass RJ22 = some m.cls := hown
  have hS : va_S A s.heap s.heap [] := va_S.rf
  have hl : lv_has ls 2 [(0, .ref la_), (1, .ref oa_)] := hl
  generalize hHe : s.heap = H at hP ⊢
  have hS : va_S A s.heap H [] := hHe ▸ hS
  generalize ([] : List Loc) = locs at hS ⊢
  refine lv_aload_n hx hb dJ22_add_0 rfl (lv_at hl 0 rfl) ?_
  refine lv_dup hx hb dJ22_add_1 rfl ?_
  refine va_get (D := D) (ci := 9) (v := .int mc_) (C := RJ22) (T := TJ22) (N := 3) hx hb hts in_J22 hown hK hP 0 rfl rfl 0 (by decide) (hts _ q820) (fun x9 h9 => u_same (hts _ q821) x9 h9) rfl dJ22_add_2 ?_
  refine lv_iconst (v := nI 1) hx hb dJ22_add_5 (by decide) ?_
  refine lv_iadd hx hb dJ22_add_6 ?_
  refine va_put (D := D) (ci := 9) (v := .int (mc_ + (nI 1))) (ty := .int) (C := RJ22) (T := TJ22) (N := 3) hx hb hts in_J22 tyJ22 tyJ22_ok nmJ22 hown hK hP hD hS 0 rfl rfl 0 (by decide) (hts _ q820) (fun x9 h9 => u_same (hts _ q821) x9 h9) rfl (by decide +kernel) rfl rfl (Nat.le_of_ble_eq_true rfl) dJ22_add_7 (fun H locs hP hD hS => ?_)
  have hP : va_P D vwCl (fl [[(la_, .inr (9, [.int (mc_ + (nI 1)), .ref ea_, .int (nI 10)]))], [(ea_, .inl (ca 3, 10, .inr (.inr (.inr (.inr (f_))))))], [(oa_, .inr (4, [.int s0_, .int s1_, .int s2_]))], (orW L_)]) H := hP
  have hD : va_D A (fl [[(la_, .inr (9, [.int (mc_ + (nI 1)), .ref ea_, .int (nI 10)]))], [(ea_, .inl (ca 3, 10, .inr (.inr (.inr (.inr (f_))))))], [(oa_, .inr (4, [.int s0_, .int s1_, .int s2_]))], (orW L_)]) := hD
  refine lv_aload_n hx hb dJ22_add_10 rfl (lv_at hl 0 rfl) ?_
  refine lv_aload_n hx hb dJ22_add_11 rfl (lv_at hl 1 rfl) ?_
  refine lv_aload_n hx hb dJ22_add_12 rfl (lv_at hl 0 rfl) ?_
  refine va_get (D := D) (ci := 9) (v := .ref ea_) (C := RJ22) (T := TJ22) (N := 3) hx hb hts in_J22 hown hK hP 0 rfl rfl 1 (by decide) (hts _ q817) (fun _ h9 => h9) rfl dJ22_add_13 ?_
  refine lv_aload_n hx hb dJ22_add_16 rfl (lv_at hl 0 rfl) ?_
  refine va_get (D := D) (ci := 9) (v := .int (nI 10)) (C := RJ22) (T := TJ22) (N := 3) hx hb hts in_J22 hown hK hP 0 rfl rfl 2 (by decide) (hts _ q818) (fun _ h9 => h9) rfl dJ22_add_17 ?_
  refine xc_v (xr_V (b := la_) (ci := 9) (q0 := 0) (As := [.ref oa_, .ref ea_, .int (nI 10)]) (rest := []) (mt_J22_add_2_q10 l D ca la_ (mc_ + (nI 1)) ea_ f_ L_ oa_ s0_ s1_ s2_ (by first | assumption | omega | (simp only [updN, forgetC, changedC]; (repeat' split) <;> omega)) (by first | assumption | omega | (simp only [updN, forgetC, changedC]; (repeat' split) <;> omega)) H.size) ⟨hx, hb, hml, hown, hts⟩ (cwV 3 hts (lw_V q961 q963 qs14 q107 q964) rfl rfl rfl (by decide +kernel) ⟨Nat.le_of_ble_eq_true rfl, Nat.le_of_ble_eq_true rfl⟩) EvL_ok hE hK hS (Cut.ch [[(la_, .inr (9, [.int (mc_ + (nI 1)), .ref ea_, .int (nI 10)]))], [(ea_, .inl (ca 3, 10, .inr (.inr (.inr (.inr (f_))))))], [(oa_, .inr (4, [.int s0_, .int s1_, .int s2_]))], (orW L_)] [] hP hD hS hA) rfl rfl rfl hl.1 rfl (Nat.le_of_ble_eq_true rfl) dJ22_add_20 ⟨Nat.le_of_ble_eq_true rfl, Nat.le_of_ble_eq_true rfl⟩) hS (Cut.ch [[(la_, .inr (9, [.int (mc_ + (nI 1)), .ref ea_, .int (nI 10)]))], [(ea_, .inl (ca 3, 10, .inr (.inr (.inr (.inr (f_))))))], [(oa_, .inr (4, [.int s0_, .int s1_, .int s2_]))], (orW L_)] [] hP hD hS hA) (fun u_2 H locs hq_20 hP hD hS => ?_)
  obtain ⟨e1_3, rfl⟩ : ∃ z_, z_ = u_2 := ⟨_, rfl⟩
  have hP : va_P D vwCl (fl [[(la_, .inr (9, [.int (mc_ + (nI 1)), .ref e1_3, .int (nI 11)]))], [(e1_3, .inl (ca 3, 15, .inr (.inr (.inr (.inr (va_up (va_cpy f_ (fun _ => none) 0 0 10) 10 (some oa_)))))))], [(oa_, .inr (4, [.int s0_, .int s1_, .int s2_]))], orW L_]) H := fl_join [[(la_, .inr (9, [.int (mc_ + (nI 1)), .ref e1_3, .int (nI 11)]))], [(e1_3, .inl (ca 3, 15, .inr (.inr (.inr (.inr (va_up (va_cpy f_ (fun _ => none) 0 0 10) 10 (some oa_)))))))], [(oa_, .inr (4, [.int s0_, .int s1_, .int s2_]))], orW L_] [] hP
  have hD : va_D A (fl [[(la_, .inr (9, [.int (mc_ + (nI 1)), .ref e1_3, .int (nI 11)]))], [(e1_3, .inl (ca 3, 15, .inr (.inr (.inr (.inr (va_up (va_cpy f_ (fun _ => none) 0 0 10) 10 (some oa_)))))))], [(oa_, .inr (4, [.int s0_, .int s1_, .int s2_]))], orW L_]) := fl_joinD [[(la_, .inr (9, [.int (mc_ + (nI 1)), .ref e1_3, .int (nI 11)]))], [(e1_3, .inl (ca 3, 15, .inr (.inr (.inr (.inr (va_up (va_cpy f_ (fun _ => none) 0 0 10) 10 (some oa_)))))))], [(oa_, .inr (4, [.int s0_, .int s1_, .int s2_]))], orW L_] [] hD
  refine lv_iconst (v := nI 1) hx hb dJ22_add_23 (by decide) ?_
  subst hQQ
  refine (xe_z (b := true) e1_3 hx hb hr hlocks hK hP hD hS (rfl) dJ22_add_24)
set_option maxHeartbeats 800000 in
set_option maxRecDepth 100000 in
theorem mt_J13_copyOf_2_q15 (l : Launch) (D : va_G) (ca : Nat → ClassId) (a_ : Nat) (f_ : Nat → Option Nat) (L_ : List (Nat × Nat × Nat × Nat)) (mi_ : Nat) (hLs : LsOk f_ L_) (hLn : L_.length = 15) (nn : Nat) : Met l yJ13_copyOf_2 (ws_ yJ13_copyOf_2 cJ13_copyOf_2 4 (Option.some (Jvm.ClassFile.FieldType.array (Jvm.ClassFile.FieldType.object "java/lang/Object")))) ({ frames := 1, cells := 1, slots := 22, locals := 60 } : Room) (va_Pc [.ref a_, .int (nI 22), .ref mi_] (PreW (EvG mi_) D vwCl (TY ca) (fl [[(a_, .inl (ca 3, 15, .inr (.inr (.inr (.inr (f_))))))], (orW L_)]) nn)) (va_Qr (fun (u_ : Nat) => True) (fun (u_ : Nat) (r_ : Nat) (tS_ : State) => r_ = u_ ∧ PostW D vwCl (TY ca) (fun (u_ : Nat) => (fl [[(a_, .inl (ca 3, 15, .inr (.inr (.inr (.inr (f_))))))], [(u_, .inl (ca 3, 22, .inr (.inr (.inr (.inr (va_cpy f_ (fun _ => none) 0 0 15))))))], (orW L_)])) (va_A (fl [[(a_, .inl (ca 3, 15, .inr (.inr (.inr (.inr (f_))))))], (orW L_)]) nn) u_ tS_) (va_A (fl [[(a_, .inl (ca 3, 15, .inr (.inr (.inr (.inr (f_))))))], (orW L_)]) nn)) 1 22 (va_A (fl [[(a_, .inl (ca 3, 15, .inr (.inr (.inr (.inr (f_))))))], (orW L_)]) nn) := by
  refine met_go2 (QA := fun A => va_Qr (fun (u_ : Nat) => True) (fun (u_ : Nat) (r_ : Nat) (tS_ : State) => r_ = u_ ∧ PostW D vwCl (TY ca) (fun (u_ : Nat) => (fl [[(a_, .inl (ca 3, 15, .inr (.inr (.inr (.inr (f_))))))], [(u_, .inl (ca 3, 22, .inr (.inr (.inr (.inr (va_cpy f_ (fun _ => none) 0 0 15))))))], (orW L_)])) A u_ tS_) A) (by decide) (Nat.le_of_ble_eq_true rfl) (fun p e s m below meth c A ls QQ hQQ hmn hnm hx hb hr hts hown hlocks hml hA hP hK hD hE hl => ?_)
  have hown : s.vm.findClass RJ13 = some m.cls := hown
  have hS : va_S A s.heap s.heap [] := va_S.rf
  have hl : lv_has ls 4 [(0, .ref a_), (1, .int (nI 22)), (2, .ref mi_)] := hl
  generalize hHe : s.heap = H at hP ⊢
  have hS : va_S A s.heap H [] := hHe ▸ hS
  generalize ([] : List Loc) = locs at hS ⊢
  have hAO := hE.1.1.2.1
  refine lv_aload_n hx hb dJ13_copyOf_2_0 rfl (lv_at hl 2 rfl) ?_
  refine va_ldcM hx hb hown (hts _ q411) hE.2 dJ13_copyOf_2_1 ?_
  refine lv_acmp_ne (rx := some mi_) (ry := some mi_) (tgt := 13) hx hb dJ13_copyOf_2_3 (by decide) (fun c_3 => absurd rfl c_3) (fun c_3 => ?_)
  refine lv_iload_n hx hb dJ13_copyOf_2_6 rfl (lv_at hl 1 rfl) ?_
  refine nv_newq hx hb hown (hts _ q412) hAO hK hP hD hS hA 3 rfl (N := 22) (by decide) (by decide) ⟨Nat.le_of_ble_eq_true rfl, Nat.le_of_ble_eq_true rfl⟩ dJ13_copyOf_2_7 (fun q_1 H hP hD hS => ?_)
  have hP : va_P D vwCl (fl [[(a_, .inl (ca 3, 15, .inr (.inr (.inr (.inr (f_))))))], (orW L_), [(q_1, .inl (ca 3, 22, .inr (.inr (.inr (.inr ((fun _ => none)))))))]]) H := fl_pushP hP
  have hD : va_D A (fl [[(a_, .inl (ca 3, 15, .inr (.inr (.inr (.inr (f_))))))], (orW L_), [(q_1, .inl (ca 3, 22, .inr (.inr (.inr (.inr ((fun _ => none)))))))]]) := fl_pushD hD
  have hP : va_P D vwCl (fl [[(a_, .inl (ca 3, 15, .inr (.inr (.inr (.inr (f_))))))], [(q_1, .inl (ca 3, 22, .inr (.inr (.inr (.inr ((fun _ => none)))))))], (orW L_)]) H := mvP hP [0, 2, 1]
  have hD : va_D A (fl [[(a_, .inl (ca 3, 15, .inr (.inr (.inr (.inr (f_))))))], [(q_1, .inl (ca 3, 22, .inr (.inr (.inr (.inr ((fun _ => none)))))))], (orW L_)]) := mvD hD [0, 2, 1] (by decide)
  refine lv_goto (tgt := 24) hx hb dJ13_copyOf_2_10 (by decide) ?_
  refine lv_astore_n (lv' := [(3, .ref q_1), (0, .ref a_), (1, .int (nI 22)), (2, .ref mi_)]) hx hb dJ13_copyOf_2_24 rfl hl (by decide) rfl (fun ls hl => ?_)
  refine lv_aload_n hx hb dJ13_copyOf_2_25 rfl (lv_at hl 1 rfl) ?_
  refine lv_iconst (v := nI 0) hx hb dJ13_copyOf_2_26 (by decide) ?_
  refine lv_aload_n hx hb dJ13_copyOf_2_27 rfl (lv_at hl 0 rfl) ?_
  refine lv_iconst (v := nI 0) hx hb dJ13_copyOf_2_28 (by decide) ?_
  refine lv_aload_n hx hb dJ13_copyOf_2_29 rfl (lv_at hl 1 rfl) ?_
  refine va_alen hx hb hK hP 0 3 rfl rfl rfl dJ13_copyOf_2_30 (lv_topi (nm_r (e' := nI 15) rfl ?_))
  refine lv_iload_n hx hb dJ13_copyOf_2_31 rfl (lv_at hl 2 rfl) ?_
  refine va_mmin (x := nI 15) (y := nI 22) hx hb (hml.trans hl.1.symm) hown (hts _ q413) (hts _ q414) (hts _ q96) (hts _ q415) (Nat.le_of_ble_eq_true rfl) (Nat.le_of_ble_eq_true rfl) (by decide) (by decide) dJ13_copyOf_2_32 ?_
  refine lv_topi (nm_r (e' := nI 15) ((mn_nI (by omega) (by omega)).trans (by decide)) ?_)
  refine va_copyq (C := RX6) (E0 := "java/lang/Object") (E1 := "java/lang/Object") hx hb (hml.trans hl.1.symm) hown (hts _ q416) (hts _ q418) (hts _ q417) (hts _ q97) hK hP hD hS 0 1 3 3 rfl rfl rfl rfl (sp := nI 0) (dp := nI 0) (n := nI 15) (by decide) (by decide) (by decide) (by decide) (by decide) (fun i_ hi_ y_ hy_ => or_cell (L := L_) (j := i_) hK hP (by simp) (by have hi2_ : i_ < 15 := hi_; rw [← hLs i_ (by omega)]; rw [← hy_]; congr 1; show i_ = 0 + i_; omega)) (asg_obj (args := #[]) (va_Nw.use rfl (hE.1.1.1.1.1 _ q2073 rfl))) (Nat.le_of_ble_eq_true rfl) (Nat.le_of_ble_eq_true (by decide)) dJ13_copyOf_2_35 (fun H locs hP hD hS => ?_)
  have hP : va_P D vwCl (fl [[(a_, .inl (ca 3, 15, .inr (.inr (.inr (.inr (f_))))))], [(q_1, .inl (ca 3, 22, .inr (.inr (.inr (.inr (va_cpy f_ (fun _ => none) 0 0 15))))))], (orW L_)]) H := hP
  have hD : va_D A (fl [[(a_, .inl (ca 3, 15, .inr (.inr (.inr (.inr (f_))))))], [(q_1, .inl (ca 3, 22, .inr (.inr (.inr (.inr (va_cpy f_ (fun _ => none) 0 0 15))))))], (orW L_)]) := hD
  refine lv_aload_n hx hb dJ13_copyOf_2_38 rfl (lv_at hl 0 rfl) ?_
  subst hQQ
  exact xe_ra (ad := fun (u_ : Nat) => u_) q_1 hx hb hr hlocks hK hP hD hS (trivial) dJ13_copyOf_2_39
set_option maxHeartbeats 800000 in
set_option maxRecDepth 100000 in
theorem mt_J13_copyOf_q15 (l : Launch) (D : va_G) (ca : Nat → ClassId) (a_ : Nat) (f_ : Nat → Option Nat) (L_ : List (Nat × Nat × Nat × Nat)) (hLs : LsOk f_ L_) (hLn : L_.length = 15) (nn : Nat) : Met l yJ13_copyOf (ws_ yJ13_copyOf cJ13_copyOf 2 (Option.some (Jvm.ClassFile.FieldType.array (Jvm.ClassFile.FieldType.object "java/lang/Object")))) ({ frames := 2, cells := 1, slots := 22, locals := 83 } : Room) (va_Pc [.ref a_, .int (nI 22)] (PreW EvL D vwCl (TY ca) (fl [[(a_, .inl (ca 3, 15, .inr (.inr (.inr (.inr (f_))))))], (orW L_)]) nn)) (va_Qr (fun (u_ : Nat) => True) (fun (u_ : Nat) (r_ : Nat) (tS_ : State) => r_ = u_ ∧ PostW D vwCl (TY ca) (fun (u_ : Nat) => (fl [[(a_, .inl (ca 3, 15, .inr (.inr (.inr (.inr (f_))))))], [(u_, .inl (ca 3, 22, .inr (.inr (.inr (.inr (va_cpy f_ (fun _ => none) 0 0 15))))))], (orW L_)])) (va_A (fl [[(a_, .inl (ca 3, 15, .inr (.inr (.inr (.inr (f_))))))], (orW L_)]) nn) u_ tS_) (va_A (fl [[(a_, .inl (ca 3, 15, .inr (.inr (.inr (.inr (f_))))))], (orW L_)]) nn)) 1 22 (va_A (fl [[(a_, .inl (ca 3, 15, .inr (.inr (.inr (.inr (f_))))))], (orW L_)]) nn) := by
  refine met_go2 (QA := fun A => va_Qr (fun (u_ : Nat) => True) (fun (u_ : Nat) (r_ : Nat) (tS_ : State) => r_ = u_ ∧ PostW D vwCl (TY ca) (fun (u_ : Nat) => (fl [[(a_, .inl (ca 3, 15, .inr (.inr (.inr (.inr (f_))))))], [(u_, .inl (ca 3, 22, .inr (.inr (.inr (.inr (va_cpy f_ (fun _ => none) 0 0 15))))))], (orW L_)])) A u_ tS_) A) (by decide) (Nat.le_of_ble_eq_true rfl) (fun p e s m below meth c A ls QQ hQQ hmn hnm hx hb hr hts hown hlocks hml hA hP hK hD hE hl => ?_)
  have hown : s.vm.findClass RJ13 = some m.cls := hown
  have hS : va_S A s.heap s.heap [] := va_S.rf
  have hl : lv_has ls 2 [(0, .ref a_), (1, .int (nI 22))] := hl
  generalize hHe : s.heap = H at hP ⊢
  have hS : va_S A s.heap H [] := hHe ▸ hS
  generalize ([] : List Loc) = locs at hS ⊢
  obtain ⟨mi_, hMi_⟩ := hE.2.1
  have hDc_ := hE.2.2.1
  refine lv_aload_n hx hb dJ13_copyOf_0 rfl (lv_at hl 0 rfl) ?_
  refine lv_iload_n hx hb dJ13_copyOf_1 rfl (lv_at hl 1 rfl) ?_
  refine lv_aload_n hx hb dJ13_copyOf_2 rfl (lv_at hl 0 rfl) ?_
  refine va_getC (C := "[Ljava/lang/Object;") hx hb (hml.trans hl.1.symm) hown (hts _ q388) (va_Dc.use hDc_) (hts _ q2077) (hts _ q389) (hts _ q407) hMi_ ⟨_, hP 0 _ rfl, rfl, va_nmO (hK.2 3 _ rfl).2 rfl⟩ (Nat.le_of_ble_eq_true rfl) (Nat.le_of_ble_eq_true rfl) dJ13_copyOf_3 ?_
  refine xc_r (xr_S (As := [.ref a_, .int (nI 22), .ref mi_]) (rest := []) (mt_J13_copyOf_2_q15 l D ca a_ f_ L_ mi_ (by first | assumption | omega | (simp only [updN, forgetC, changedC]; (repeat' split) <;> omega)) (by first | assumption | omega | (simp only [updN, forgetC, changedC]; (repeat' split) <;> omega)) H.size) ⟨hx, hb, hml, hown, hts⟩ (va_cwS 3 hts (lw_S q408 q409 q95 q410) rfl rfl rfl (by decide +kernel) ⟨Nat.le_of_ble_eq_true rfl, Nat.le_of_ble_eq_true rfl⟩) (EvG_ok _) ⟨hE, hMi_⟩ hK hS (Cut.ch [[(a_, .inl (ca 3, 15, .inr (.inr (.inr (.inr (f_))))))], (orW L_)] [] hP hD hS hA) rfl hl.1 rfl (Nat.le_of_ble_eq_true rfl) dJ13_copyOf_6 ⟨Nat.le_of_ble_eq_true rfl, Nat.le_of_ble_eq_true rfl⟩) hS (Cut.ch [[(a_, .inl (ca 3, 15, .inr (.inr (.inr (.inr (f_))))))], (orW L_)] [] hP hD hS hA) (fun u_2 H locs hq_6 hP hD hS => ?_)
  obtain ⟨c1_3, rfl⟩ : ∃ z_, z_ = u_2 := ⟨_, rfl⟩
  have hP : va_P D vwCl (fl [[(a_, .inl (ca 3, 15, .inr (.inr (.inr (.inr (f_))))))], [(c1_3, .inl (ca 3, 22, .inr (.inr (.inr (.inr (va_cpy f_ (fun _ => none) 0 0 15))))))], orW L_]) H := fl_join [[(a_, .inl (ca 3, 15, .inr (.inr (.inr (.inr (f_))))))], [(c1_3, .inl (ca 3, 22, .inr (.inr (.inr (.inr (va_cpy f_ (fun _ => none) 0 0 15))))))], orW L_] [] hP
  have hD : va_D A (fl [[(a_, .inl (ca 3, 15, .inr (.inr (.inr (.inr (f_))))))], [(c1_3, .inl (ca 3, 22, .inr (.inr (.inr (.inr (va_cpy f_ (fun _ => none) 0 0 15))))))], orW L_]) := fl_joinD [[(a_, .inl (ca 3, 15, .inr (.inr (.inr (.inr (f_))))))], [(c1_3, .inl (ca 3, 22, .inr (.inr (.inr (.inr (va_cpy f_ (fun _ => none) 0 0 15))))))], orW L_] [] hD
  subst hQQ
  exact xe_ra (ad := fun (u_ : Nat) => u_) c1_3 hx hb hr hlocks hK hP hD hS (trivial) dJ13_copyOf_9
set_option maxHeartbeats 800000 in
set_option maxRecDepth 100000 in
theorem mt_J22_grow_2_q15 (l : Launch) (D : va_G) (ca : Nat → ClassId) (la_ : Nat) (mc_ : Int32) (ea_ : Nat) (f_ : Nat → Option Nat) (L_ : List (Nat × Nat × Nat × Nat)) (hLs : LsOk f_ L_) (hLn : L_.length = 15) (nn : Nat) : Met l yJ22_grow_2 (ws_ yJ22_grow_2 cJ22_grow_2 4 (Option.some (Jvm.ClassFile.FieldType.array (Jvm.ClassFile.FieldType.object "java/lang/Object")))) ({ frames := 3, cells := 1, slots := 22, locals := 104 } : Room) (va_Pc [.ref la_, .int (nI 16)] (PreW EvL D vwCl (TY ca) (fl [[(la_, .inr (9, [.int mc_, .ref ea_, .int (nI 15)]))], [(ea_, .inl (ca 3, 15, .inr (.inr (.inr (.inr (f_))))))], (orW L_)]) nn)) (va_Qr (fun (u_ : Nat) => True) (fun (u_ : Nat) (r_ : Nat) (tS_ : State) => r_ = u_ ∧ PostW D vwCl (TY ca) (fun (u_ : Nat) => (fl [[(la_, .inr (9, [.int mc_, .ref u_, .int (nI 15)]))], [(u_, .inl (ca 3, 22, .inr (.inr (.inr (.inr (va_cpy f_ (fun _ => none) 0 0 15))))))], (orW L_)])) (va_A (fl [[(la_, .inr (9, [.int mc_, .ref ea_, .int (nI 15)]))], [(ea_, .inl (ca 3, 15, .inr (.inr (.inr (.inr (f_))))))], (orW L_)]) nn) u_ tS_) (va_A (fl [[(la_, .inr (9, [.int mc_, .ref ea_, .int (nI 15)]))], [(ea_, .inl (ca 3, 15, .inr (.inr (.inr (.inr (f_))))))], (orW L_)]) nn)) 1 22 (va_A (fl [[(la_, .inr (9, [.int mc_, .ref ea_, .int (nI 15)]))], [(ea_, .inl (ca 3, 15, .inr (.inr (.inr (.inr (f_))))))], (orW L_)]) nn) := by
  refine met_go2 (QA := fun A => va_Qr (fun (u_ : Nat) => True) (fun (u_ : Nat) (r_ : Nat) (tS_ : State) => r_ = u_ ∧ PostW D vwCl (TY ca) (fun (u_ : Nat) => (fl [[(la_, .inr (9, [.int mc_, .ref u_, .int (nI 15)]))], [(u_, .inl (ca 3, 22, .inr (.inr (.inr (.inr (va_cpy f_ (fun _ => none) 0 0 15))))))], (orW L_)])) A u_ tS_) A) (by decide) (Nat.le_of_ble_eq_true rfl) (fun p e s m below meth c A ls QQ hQQ hmn hnm hx hb hr hts hown hlocks hml hA hP hK hD hE hl => ?_)
  have hown : s.vm.findClass RJ22 = some m.cls := hown
  have hS : va_S A s.heap s.heap [] := va_S.rf
  have hl : lv_has ls 4 [(0, .ref la_), (1, .int (nI 16))] := hl
  generalize hHe : s.heap = H at hP ⊢
  have hS : va_S A s.heap H [] := hHe ▸ hS
  generalize ([] : List Loc) = locs at hS ⊢
  refine lv_aload_n hx hb dJ22_grow_2_0 rfl (lv_at hl 0 rfl) ?_
  refine va_get (D := D) (ci := 9) (v := .ref ea_) (C := RJ22) (T := TJ22) (N := 3) hx hb hts in_J22 hown hK hP 0 rfl rfl 1 (by decide) (hts _ q817) (fun _ h9 => h9) rfl dJ22_grow_2_1 ?_
  refine va_alen hx hb hK hP 1 3 rfl rfl rfl dJ22_grow_2_4 (lv_topi (nm_r (e' := nI 15) rfl ?_))
  refine lv_istore_n (lv' := [(2, .int (nI 15)), (0, .ref la_), (1, .int (nI 16))]) hx hb dJ22_grow_2_5 rfl hl (by decide) rfl (fun ls hl => ?_)
  refine lv_iload_n hx hb dJ22_grow_2_6 rfl (lv_at hl 0 rfl) ?_
  refine nv_if_gt (tgt := 20) hx hb dJ22_grow_2_7 (by decide) (by omega) (fun c_7 => ?_) (fun c_7 => absurd c_7 (by decide))
  refine lv_iload_n hx hb dJ22_grow_2_20 rfl (lv_at hl 0 rfl) ?_
  refine lv_iload_n hx hb dJ22_grow_2_21 rfl (lv_at hl 2 rfl) ?_
  refine lv_iload_n hx hb dJ22_grow_2_22 rfl (lv_at hl 0 rfl) ?_
  refine lv_isub hx hb dJ22_grow_2_23 (lv_topi (nm_r (e' := nI 1) (by decide) ?_))
  refine lv_iload_n hx hb dJ22_grow_2_24 rfl (lv_at hl 0 rfl) ?_
  refine lv_iconst (v := nI 1) hx hb dJ22_grow_2_25 (by decide) ?_
  refine nv_ishr hx hb dJ22_grow_2_26 (by decide) (by decide) ?_
  refine lv_topi (nm_r (e' := nI 7) (by decide) ?_)
  refine xc_i (xr_S (As := [.int (nI 15), .int (nI 1), .int (nI 7)]) (rest := []) (mt_J17_newLength_q15 l D ca   H.size) ⟨hx, hb, hml, hown, hts⟩ (va_cwS 3 hts (lw_S q973 q537 q101 q538) rfl rfl rfl (by decide +kernel) ⟨Nat.le_of_ble_eq_true rfl, Nat.le_of_ble_eq_true rfl⟩) Ev0_ok trivial hK hS (Cut.app (wc := []) (wr := (fl [[(la_, .inr (9, [.int mc_, .ref ea_, .int (nI 15)]))], [(ea_, .inl (ca 3, 15, .inr (.inr (.inr (.inr (f_))))))], (orW L_)])) hP hD hS hA) rfl hl.1 rfl (Nat.le_of_ble_eq_true rfl) dJ22_grow_2_27 ⟨Nat.le_of_ble_eq_true rfl, Nat.le_of_ble_eq_true rfl⟩) hS (Cut.app (wc := []) (wr := (fl [[(la_, .inr (9, [.int mc_, .ref ea_, .int (nI 15)]))], [(ea_, .inl (ca 3, 15, .inr (.inr (.inr (.inr (f_))))))], (orW L_)])) hP hD hS hA) (fun r_1 u_2 H locs hq_27 hP hD hS => ?_)
  have hP : va_P D vwCl (fl [[(la_, .inr (9, [.int mc_, .ref ea_, .int (nI 15)]))], [(ea_, .inl (ca 3, 15, .inr (.inr (.inr (.inr (f_))))))], (orW L_)]) H := hP
  have hD : va_D A (fl [[(la_, .inr (9, [.int mc_, .ref ea_, .int (nI 15)]))], [(ea_, .inl (ca 3, 15, .inr (.inr (.inr (.inr (f_))))))], (orW L_)]) := hD
  have hp_27 : r_1 = nI 22 := hq_27
  clear hq_27
  obtain rfl := hp_27
  refine lv_istore_n (lv' := [(3, .int (nI 22)), (2, .int (nI 15)), (0, .ref la_), (1, .int (nI 16))]) hx hb dJ22_grow_2_30 rfl hl (by decide) rfl (fun ls hl => ?_)
  refine lv_aload_n hx hb dJ22_grow_2_31 rfl (lv_at hl 2 rfl) ?_
  refine lv_aload_n hx hb dJ22_grow_2_32 rfl (lv_at hl 2 rfl) ?_
  refine va_get (D := D) (ci := 9) (v := .ref ea_) (C := RJ22) (T := TJ22) (N := 3) hx hb hts in_J22 hown hK hP 0 rfl rfl 1 (by decide) (hts _ q817) (fun _ h9 => h9) rfl dJ22_grow_2_33 ?_
  refine lv_iload_n hx hb dJ22_grow_2_36 rfl (lv_at hl 0 rfl) ?_
  have hP : va_P D vwCl (fl [[(ea_, .inl (ca 3, 15, .inr (.inr (.inr (.inr (f_))))))], (orW L_), [(la_, .inr (9, [.int mc_, .ref ea_, .int (nI 15)]))]]) H := mvP hP [1, 2, 0]
  have hD : va_D A (fl [[(ea_, .inl (ca 3, 15, .inr (.inr (.inr (.inr (f_))))))], (orW L_), [(la_, .inr (9, [.int mc_, .ref ea_, .int (nI 15)]))]]) := mvD hD [1, 2, 0] (by decide)
  refine xc_r (xr_S (As := [.ref ea_, .int (nI 22)]) (rest := [.ref la_]) (mt_J13_copyOf_q15 l D ca ea_ f_ L_ (by first | assumption | omega | (simp only [updN, forgetC, changedC]; (repeat' split) <;> omega)) (by first | assumption | omega | (simp only [updN, forgetC, changedC]; (repeat' split) <;> omega)) H.size) ⟨hx, hb, hml, hown, hts⟩ (va_cwS 2 hts (lw_S q974 q386 q95 q387) rfl rfl rfl (by decide +kernel) ⟨Nat.le_of_ble_eq_true rfl, Nat.le_of_ble_eq_true rfl⟩) EvL_ok hE hK hS (Cut.ch [[(ea_, .inl (ca 3, 15, .inr (.inr (.inr (.inr (f_))))))], (orW L_)] [[(la_, .inr (9, [.int mc_, .ref ea_, .int (nI 15)]))]] hP hD hS hA) rfl hl.1 rfl (Nat.le_of_ble_eq_true rfl) dJ22_grow_2_37 ⟨Nat.le_of_ble_eq_true rfl, Nat.le_of_ble_eq_true rfl⟩) hS (Cut.ch [[(ea_, .inl (ca 3, 15, .inr (.inr (.inr (.inr (f_))))))], (orW L_)] [[(la_, .inr (9, [.int mc_, .ref ea_, .int (nI 15)]))]] hP hD hS hA) (fun u_4 H locs hq_37 hP hD hS => ?_)
  obtain ⟨c1_5, rfl⟩ : ∃ z_, z_ = u_4 := ⟨_, rfl⟩
  have hP : va_P D vwCl (fl [[(ea_, .inl (ca 3, 15, .inr (.inr (.inr (.inr (f_))))))], [(c1_5, .inl (ca 3, 22, .inr (.inr (.inr (.inr (va_cpy f_ (fun _ => none) 0 0 15))))))], orW L_, [(la_, .inr (9, [.int mc_, .ref ea_, .int (nI 15)]))]]) H := fl_join [[(ea_, .inl (ca 3, 15, .inr (.inr (.inr (.inr (f_))))))], [(c1_5, .inl (ca 3, 22, .inr (.inr (.inr (.inr (va_cpy f_ (fun _ => none) 0 0 15))))))], orW L_] [[(la_, .inr (9, [.int mc_, .ref ea_, .int (nI 15)]))]] hP
  have hD : va_D A (fl [[(ea_, .inl (ca 3, 15, .inr (.inr (.inr (.inr (f_))))))], [(c1_5, .inl (ca 3, 22, .inr (.inr (.inr (.inr (va_cpy f_ (fun _ => none) 0 0 15))))))], orW L_, [(la_, .inr (9, [.int mc_, .ref ea_, .int (nI 15)]))]]) := fl_joinD [[(ea_, .inl (ca 3, 15, .inr (.inr (.inr (.inr (f_))))))], [(c1_5, .inl (ca 3, 22, .inr (.inr (.inr (.inr (va_cpy f_ (fun _ => none) 0 0 15))))))], orW L_] [[(la_, .inr (9, [.int mc_, .ref ea_, .int (nI 15)]))]] hD
  have hP : va_P D vwCl (fl [[(ea_, .inl (ca 3, 15, .inr (.inr (.inr (.inr (f_))))))], [(c1_5, .inl (ca 3, 22, .inr (.inr (.inr (.inr (va_cpy f_ (fun _ => none) 0 0 15))))))], [(la_, .inr (9, [.int mc_, .ref ea_, .int (nI 15)]))], orW L_]) H := mvP hP [0, 1, 3, 2]
  have hD : va_D A (fl [[(ea_, .inl (ca 3, 15, .inr (.inr (.inr (.inr (f_))))))], [(c1_5, .inl (ca 3, 22, .inr (.inr (.inr (.inr (va_cpy f_ (fun _ => none) 0 0 15))))))], [(la_, .inr (9, [.int mc_, .ref ea_, .int (nI 15)]))], orW L_]) := mvD hD [0, 1, 3, 2] (by decide)
  refine lv_dup_x1 hx hb dJ22_grow_2_40 rfl rfl ?_
  refine va_put (D := D) (ci := 9) (v := .ref c1_5) (ty := (.array (.object "java/lang/Object"))) (C := RJ22) (T := TJ22) (N := 3) hx hb hts in_J22 tyJ22 tyJ22_ok nmJ22 hown hK hP hD hS 2 rfl rfl 1 (by decide) (hts _ q817) (fun _ h9 => h9) rfl (by decide +kernel) rfl rfl (Nat.le_of_ble_eq_true rfl) dJ22_grow_2_41 (fun H locs hP hD hS => ?_)
  have hP : va_P D vwCl (fl [[(ea_, .inl (ca 3, 15, .inr (.inr (.inr (.inr (f_))))))], [(c1_5, .inl (ca 3, 22, .inr (.inr (.inr (.inr (va_cpy f_ (fun _ => none) 0 0 15))))))], [(la_, .inr (9, [.int mc_, .ref c1_5, .int (nI 15)]))], orW L_]) H := hP
  have hD : va_D A (fl [[(ea_, .inl (ca 3, 15, .inr (.inr (.inr (.inr (f_))))))], [(c1_5, .inl (ca 3, 22, .inr (.inr (.inr (.inr (va_cpy f_ (fun _ => none) 0 0 15))))))], [(la_, .inr (9, [.int mc_, .ref c1_5, .int (nI 15)]))], orW L_]) := hD
  have hP : va_P D vwCl (fl [[(la_, .inr (9, [.int mc_, .ref c1_5, .int (nI 15)]))], [(c1_5, .inl (ca 3, 22, .inr (.inr (.inr (.inr (va_cpy f_ (fun _ => none) 0 0 15))))))], orW L_]) H := mvP hP [2, 1, 3]
  have hD : va_D A (fl [[(la_, .inr (9, [.int mc_, .ref c1_5, .int (nI 15)]))], [(c1_5, .inl (ca 3, 22, .inr (.inr (.inr (.inr (va_cpy f_ (fun _ => none) 0 0 15))))))], orW L_]) := mvD hD [2, 1, 3] (by decide)
  subst hQQ
  exact xe_ra (ad := fun (u_ : Nat) => u_) c1_5 hx hb hr hlocks hK hP hD hS (trivial) dJ22_grow_2_44
set_option maxHeartbeats 800000 in
set_option maxRecDepth 100000 in
theorem mt_J22_grow_q15 (l : Launch) (D : va_G) (ca : Nat → ClassId) (la_ : Nat) (mc_ : Int32) (ea_ : Nat) (f_ : Nat → Option Nat) (L_ : List (Nat × Nat × Nat × Nat)) (hLs : LsOk f_ L_) (hLn : L_.length = 15) (nn : Nat) : Met l yJ22_grow (ws_ yJ22_grow cJ22_grow 1 (Option.some (Jvm.ClassFile.FieldType.array (Jvm.ClassFile.FieldType.object "java/lang/Object")))) ({ frames := 4, cells := 1, slots := 22, locals := 127 } : Room) (va_Pc [.ref la_] (PreW EvL D vwCl (TY ca) (fl [[(la_, .inr (9, [.int mc_, .ref ea_, .int (nI 15)]))], [(ea_, .inl (ca 3, 15, .inr (.inr (.inr (.inr (f_))))))], (orW L_)]) nn)) (va_Qr (fun (u_ : Nat) => True) (fun (u_ : Nat) (r_ : Nat) (tS_ : State) => r_ = u_ ∧ PostW D vwCl (TY ca) (fun (u_ : Nat) => (fl [[(la_, .inr (9, [.int mc_, .ref u_, .int (nI 15)]))], [(u_, .inl (ca 3, 22, .inr (.inr (.inr (.inr (va_cpy f_ (fun _ => none) 0 0 15))))))], (orW L_)])) (va_A (fl [[(la_, .inr (9, [.int mc_, .ref ea_, .int (nI 15)]))], [(ea_, .inl (ca 3, 15, .inr (.inr (.inr (.inr (f_))))))], (orW L_)]) nn) u_ tS_) (va_A (fl [[(la_, .inr (9, [.int mc_, .ref ea_, .int (nI 15)]))], [(ea_, .inl (ca 3, 15, .inr (.inr (.inr (.inr (f_))))))], (orW L_)]) nn)) 1 22 (va_A (fl [[(la_, .inr (9, [.int mc_, .ref ea_, .int (nI 15)]))], [(ea_, .inl (ca 3, 15, .inr (.inr (.inr (.inr (f_))))))], (orW L_)]) nn) := by
  refine met_go2 (QA := fun A => va_Qr (fun (u_ : Nat) => True) (fun (u_ : Nat) (r_ : Nat) (tS_ : State) => r_ = u_ ∧ PostW D vwCl (TY ca) (fun (u_ : Nat) => (fl [[(la_, .inr (9, [.int mc_, .ref u_, .int (nI 15)]))], [(u_, .inl (ca 3, 22, .inr (.inr (.inr (.inr (va_cpy f_ (fun _ => none) 0 0 15))))))], (orW L_)])) A u_ tS_) A) (by decide) (Nat.le_of_ble_eq_true rfl) (fun p e s m below meth c A ls QQ hQQ hmn hnm hx hb hr hts hown hlocks hml hA hP hK hD hE hl => ?_)
  have hown : s.vm.findClass RJ22 = some m.cls := hown
  have hS : va_S A s.heap s.heap [] := va_S.rf
  have hl : lv_has ls 1 [(0, .ref la_)] := hl
  generalize hHe : s.heap = H at hP ⊢
  have hS : va_S A s.heap H [] := hHe ▸ hS
  generalize ([] : List Loc) = locs at hS ⊢
  refine lv_aload_n hx hb dJ22_grow_0 rfl (lv_at hl 0 rfl) ?_
  refine lv_aload_n hx hb dJ22_grow_1 rfl (lv_at hl 0 rfl) ?_
  refine va_get (D := D) (ci := 9) (v := .int (nI 15)) (C := RJ22) (T := TJ22) (N := 3) hx hb hts in_J22 hown hK hP 0 rfl rfl 2 (by decide) (hts _ q818) (fun _ h9 => h9) rfl dJ22_grow_2 ?_
  refine lv_iconst (v := nI 1) hx hb dJ22_grow_5 (by decide) ?_
  refine lv_iadd hx hb dJ22_grow_6 (lv_topi (nm_r (e' := nI 16) (by decide) ?_))
  refine xc_r (xr_V (b := la_) (ci := 9) (q0 := 0) (As := [.int (nI 16)]) (rest := []) (mt_J22_grow_2_q15 l D ca la_ mc_ ea_ f_ L_ (by first | assumption | omega | (simp only [updN, forgetC, changedC]; (repeat' split) <;> omega)) (by first | assumption | omega | (simp only [updN, forgetC, changedC]; (repeat' split) <;> omega)) H.size) ⟨hx, hb, hml, hown, hts⟩ (cwV 1 hts (lw_V q969 q971 qs16 q107 q972) rfl rfl rfl (by decide +kernel) ⟨Nat.le_of_ble_eq_true rfl, Nat.le_of_ble_eq_true rfl⟩) EvL_ok hE hK hS (Cut.ch [[(la_, .inr (9, [.int mc_, .ref ea_, .int (nI 15)]))], [(ea_, .inl (ca 3, 15, .inr (.inr (.inr (.inr (f_))))))], (orW L_)] [] hP hD hS hA) rfl rfl rfl hl.1 rfl (Nat.le_of_ble_eq_true rfl) dJ22_grow_7 ⟨Nat.le_of_ble_eq_true rfl, Nat.le_of_ble_eq_true rfl⟩) hS (Cut.ch [[(la_, .inr (9, [.int mc_, .ref ea_, .int (nI 15)]))], [(ea_, .inl (ca 3, 15, .inr (.inr (.inr (.inr (f_))))))], (orW L_)] [] hP hD hS hA) (fun u_2 H locs hq_7 hP hD hS => ?_)
  obtain ⟨e1_3, rfl⟩ : ∃ z_, z_ = u_2 := ⟨_, rfl⟩
  have hP : va_P D vwCl (fl [[(la_, .inr (9, [.int mc_, .ref e1_3, .int (nI 15)]))], [(e1_3, .inl (ca 3, 22, .inr (.inr (.inr (.inr (va_cpy f_ (fun _ => none) 0 0 15))))))], orW L_]) H := fl_join [[(la_, .inr (9, [.int mc_, .ref e1_3, .int (nI 15)]))], [(e1_3, .inl (ca 3, 22, .inr (.inr (.inr (.inr (va_cpy f_ (fun _ => none) 0 0 15))))))], orW L_] [] hP
  have hD : va_D A (fl [[(la_, .inr (9, [.int mc_, .ref e1_3, .int (nI 15)]))], [(e1_3, .inl (ca 3, 22, .inr (.inr (.inr (.inr (va_cpy f_ (fun _ => none) 0 0 15))))))], orW L_]) := fl_joinD [[(la_, .inr (9, [.int mc_, .ref e1_3, .int (nI 15)]))], [(e1_3, .inl (ca 3, 22, .inr (.inr (.inr (.inr (va_cpy f_ (fun _ => none) 0 0 15))))))], orW L_] [] hD
  subst hQQ
  exact xe_ra (ad := fun (u_ : Nat) => u_) e1_3 hx hb hr hlocks hK hP hD hS (trivial) dJ22_grow_10
set_option maxHeartbeats 800000 in
set_option maxRecDepth 100000 in
theorem mt_J22_add_2_q15 (l : Launch) (D : va_G) (ca : Nat → ClassId) (la_ : Nat) (mc_ : Int32) (ea_ : Nat) (f_ : Nat → Option Nat) (L_ : List (Nat × Nat × Nat × Nat)) (oa_ : Nat) (s0_ : Int32) (s1_ : Int32) (s2_ : Int32) (hLs : LsOk f_ L_) (hLn : L_.length = 15) (nn : Nat) : Met l yJ22_add_2 (ws_ yJ22_add_2 cJ22_add_2 4 (Option.none : Option Jvm.ClassFile.FieldType)) ({ frames := 5, cells := 1, slots := 22, locals := 147 } : Room) (va_Pc [.ref la_, .ref oa_, .ref ea_, .int (nI 15)] (PreW EvL D vwCl (TY ca) (fl [[(la_, .inr (9, [.int mc_, .ref ea_, .int (nI 15)]))], [(ea_, .inl (ca 3, 15, .inr (.inr (.inr (.inr (f_))))))], [(oa_, .inr (4, [.int s0_, .int s1_, .int s2_]))], (orW L_)]) nn)) (va_Qv (fun (u_ : Nat) => True) (PostW D vwCl (TY ca) (fun (u_ : Nat) => (fl [[(la_, .inr (9, [.int mc_, .ref u_, .int (nI 16)]))], [(u_, .inl (ca 3, 22, .inr (.inr (.inr (.inr (va_up (va_cpy f_ (fun _ => none) 0 0 15) 15 (some oa_)))))))], [(oa_, .inr (4, [.int s0_, .int s1_, .int s2_]))], (orW L_)])) (va_A (fl [[(la_, .inr (9, [.int mc_, .ref ea_, .int (nI 15)]))], [(ea_, .inl (ca 3, 15, .inr (.inr (.inr (.inr (f_))))))], [(oa_, .inr (4, [.int s0_, .int s1_, .int s2_]))], (orW L_)]) nn)) (va_A (fl [[(la_, .inr (9, [.int mc_, .ref ea_, .int (nI 15)]))], [(ea_, .inl (ca 3, 15, .inr (.inr (.inr (.inr (f_))))))], [(oa_, .inr (4, [.int s0_, .int s1_, .int s2_]))], (orW L_)]) nn)) 1 22 (va_A (fl [[(la_, .inr (9, [.int mc_, .ref ea_, .int (nI 15)]))], [(ea_, .inl (ca 3, 15, .inr (.inr (.inr (.inr (f_))))))], [(oa_, .inr (4, [.int s0_, .int s1_, .int s2_]))], (orW L_)]) nn) := by
  refine met_go2 (QA := fun A => va_Qv (fun (u_ : Nat) => True) (PostW D vwCl (TY ca) (fun (u_ : Nat) => (fl [[(la_, .inr (9, [.int mc_, .ref u_, .int (nI 16)]))], [(u_, .inl (ca 3, 22, .inr (.inr (.inr (.inr (va_up (va_cpy f_ (fun _ => none) 0 0 15) 15 (some oa_)))))))], [(oa_, .inr (4, [.int s0_, .int s1_, .int s2_]))], (orW L_)])) A) A) (by decide) (Nat.le_of_ble_eq_true rfl) (fun p e s m below meth c A ls QQ hQQ hmn hnm hx hb hr hts hown hlocks hml hA hP hK hD hE hl => ?_)
  have hown : s.vm.findClass RJ22 = some m.cls := hown
  have hS : va_S A s.heap s.heap [] := va_S.rf
  have hl : lv_has ls 4 [(0, .ref la_), (1, .ref oa_), (2, .ref ea_), (3, .int (nI 15))] := hl
  generalize hHe : s.heap = H at hP ⊢
  have hS : va_S A s.heap H [] := hHe ▸ hS
  generalize ([] : List Loc) = locs at hS ⊢
  refine lv_iload_n hx hb dJ22_add_2_0 rfl (lv_at hl 3 rfl) ?_
  refine lv_aload_n hx hb dJ22_add_2_1 rfl (lv_at hl 2 rfl) ?_
  refine va_alen hx hb hK hP 1 3 rfl rfl rfl dJ22_add_2_2 (lv_topi (nm_r (e' := nI 15) rfl ?_))
  refine nv_icmp_ne (tgt := 11) hx hb dJ22_add_2_3 (by decide) (by omega) (by omega) (fun c_3 => absurd c_3 (by decide)) (fun c_3 => ?_)
  refine lv_aload_n hx hb dJ22_add_2_6 rfl (lv_at hl 0 rfl) ?_
  have hP : va_P D vwCl (fl [[(la_, .inr (9, [.int mc_, .ref ea_, .int (nI 15)]))], [(ea_, .inl (ca 3, 15, .inr (.inr (.inr (.inr (f_))))))], (orW L_), [(oa_, .inr (4, [.int s0_, .int s1_, .int s2_]))]]) H := mvP hP [0, 1, 3, 2]
  have hD : va_D A (fl [[(la_, .inr (9, [.int mc_, .ref ea_, .int (nI 15)]))], [(ea_, .inl (ca 3, 15, .inr (.inr (.inr (.inr (f_))))))], (orW L_), [(oa_, .inr (4, [.int s0_, .int s1_, .int s2_]))]]) := mvD hD [0, 1, 3, 2] (by decide)
  refine xc_r (xr_V (b := la_) (ci := 9) (q0 := 0) (As := []) (rest := []) (mt_J22_grow_q15 l D ca la_ mc_ ea_ f_ L_ (by first | assumption | omega | (simp only [updN, forgetC, changedC]; (repeat' split) <;> omega)) (by first | assumption | omega | (simp only [updN, forgetC, changedC]; (repeat' split) <;> omega)) H.size) ⟨hx, hb, hml, hown, hts⟩ (cwV 0 hts (lw_V q965 q967 qs15 q107 q968) rfl rfl rfl (by decide +kernel) ⟨Nat.le_of_ble_eq_true rfl, Nat.le_of_ble_eq_true rfl⟩) EvL_ok hE hK hS (Cut.ch [[(la_, .inr (9, [.int mc_, .ref ea_, .int (nI 15)]))], [(ea_, .inl (ca 3, 15, .inr (.inr (.inr (.inr (f_))))))], (orW L_)] [[(oa_, .inr (4, [.int s0_, .int s1_, .int s2_]))]] hP hD hS hA) rfl rfl rfl hl.1 rfl (Nat.le_of_ble_eq_true rfl) dJ22_add_2_7 ⟨Nat.le_of_ble_eq_true rfl, Nat.le_of_ble_eq_true rfl⟩) hS (Cut.ch [[(la_, .inr (9, [.int mc_, .ref ea_, .int (nI 15)]))], [(ea_, .inl (ca 3, 15, .inr (.inr (.inr (.inr (f_))))))], (orW L_)] [[(oa_, .inr (4, [.int s0_, .int s1_, .int s2_]))]] hP hD hS hA) (fun u_2 H locs hq_7 hP hD hS => ?_)
  obtain ⟨e1_3, rfl⟩ : ∃ z_, z_ = u_2 := ⟨_, rfl⟩
  have hP : va_P D vwCl (fl [[(la_, .inr (9, [.int mc_, .ref e1_3, .int (nI 15)]))], [(e1_3, .inl (ca 3, 22, .inr (.inr (.inr (.inr (va_cpy f_ (fun _ => none) 0 0 15))))))], orW L_, [(oa_, .inr (4, [.int s0_, .int s1_, .int s2_]))]]) H := fl_join [[(la_, .inr (9, [.int mc_, .ref e1_3, .int (nI 15)]))], [(e1_3, .inl (ca 3, 22, .inr (.inr (.inr (.inr (va_cpy f_ (fun _ => none) 0 0 15))))))], orW L_] [[(oa_, .inr (4, [.int s0_, .int s1_, .int s2_]))]] hP
  have hD : va_D A (fl [[(la_, .inr (9, [.int mc_, .ref e1_3, .int (nI 15)]))], [(e1_3, .inl (ca 3, 22, .inr (.inr (.inr (.inr (va_cpy f_ (fun _ => none) 0 0 15))))))], orW L_, [(oa_, .inr (4, [.int s0_, .int s1_, .int s2_]))]]) := fl_joinD [[(la_, .inr (9, [.int mc_, .ref e1_3, .int (nI 15)]))], [(e1_3, .inl (ca 3, 22, .inr (.inr (.inr (.inr (va_cpy f_ (fun _ => none) 0 0 15))))))], orW L_] [[(oa_, .inr (4, [.int s0_, .int s1_, .int s2_]))]] hD
  have hP : va_P D vwCl (fl [[(la_, .inr (9, [.int mc_, .ref e1_3, .int (nI 15)]))], [(e1_3, .inl (ca 3, 22, .inr (.inr (.inr (.inr (va_cpy f_ (fun _ => none) 0 0 15))))))], [(oa_, .inr (4, [.int s0_, .int s1_, .int s2_]))], orW L_]) H := mvP hP [0, 1, 3, 2]
  have hD : va_D A (fl [[(la_, .inr (9, [.int mc_, .ref e1_3, .int (nI 15)]))], [(e1_3, .inl (ca 3, 22, .inr (.inr (.inr (.inr (va_cpy f_ (fun _ => none) 0 0 15))))))], [(oa_, .inr (4, [.int s0_, .int s1_, .int s2_]))], orW L_]) := mvD hD [0, 1, 3, 2] (by decide)
  refine lv_astore_n (lv' := [(2, .ref e1_3), (0, .ref la_), (1, .ref oa_), (3, .int (nI 15))]) hx hb dJ22_add_2_10 rfl hl (by decide) rfl (fun ls hl => ?_)
  refine lv_aload_n hx hb dJ22_add_2_11 rfl (lv_at hl 0 rfl) ?_
  refine lv_iload_n hx hb dJ22_add_2_12 rfl (lv_at hl 3 rfl) ?_
  refine lv_aload_n hx hb dJ22_add_2_13 rfl (lv_at hl 2 rfl) ?_
  refine nv_aast hx hb hK hP hD hS 1 3 2 4 rfl rfl (hE.1.1.1.1 _ q2073 rfl) rfl rfl (by omega) (by decide) dJ22_add_2_14 (fun H locs hP hD hS => ?_)
  have hP : va_P D vwCl (fl [[(la_, .inr (9, [.int mc_, .ref e1_3, .int (nI 15)]))], [(e1_3, .inl (ca 3, 22, .inr (.inr (.inr (.inr (va_up (va_cpy f_ (fun _ => none) 0 0 15) 15 (some oa_)))))))], [(oa_, .inr (4, [.int s0_, .int s1_, .int s2_]))], orW L_]) H := hP
  have hD : va_D A (fl [[(la_, .inr (9, [.int mc_, .ref e1_3, .int (nI 15)]))], [(e1_3, .inl (ca 3, 22, .inr (.inr (.inr (.inr (va_up (va_cpy f_ (fun _ => none) 0 0 15) 15 (some oa_)))))))], [(oa_, .inr (4, [.int s0_, .int s1_, .int s2_]))], orW L_]) := hD
  refine lv_aload_n hx hb dJ22_add_2_15 rfl (lv_at hl 1 rfl) ?_
  refine lv_iload_n hx hb dJ22_add_2_16 rfl (lv_at hl 3 rfl) ?_
  refine lv_iconst (v := nI 1) hx hb dJ22_add_2_17 (by decide) ?_
  refine lv_iadd hx hb dJ22_add_2_18 (lv_topi (nm_r (e' := nI 16) (by decide) ?_))
  refine va_put (D := D) (ci := 9) (v := .int (nI 16)) (ty := .int) (C := RJ22) (T := TJ22) (N := 3) hx hb hts in_J22 tyJ22 tyJ22_ok nmJ22 hown hK hP hD hS 0 rfl rfl 2 (by decide) (hts _ q818) (fun _ h9 => h9) rfl (by decide +kernel) rfl rfl (Nat.le_of_ble_eq_true rfl) dJ22_add_2_19 (fun H locs hP hD hS => ?_)
  have hP : va_P D vwCl (fl [[(la_, .inr (9, [.int mc_, .ref e1_3, .int (nI 16)]))], [(e1_3, .inl (ca 3, 22, .inr (.inr (.inr (.inr (va_up (va_cpy f_ (fun _ => none) 0 0 15) 15 (some oa_)))))))], [(oa_, .inr (4, [.int s0_, .int s1_, .int s2_]))], orW L_]) H := hP
  have hD : va_D A (fl [[(la_, .inr (9, [.int mc_, .ref e1_3, .int (nI 16)]))], [(e1_3, .inl (ca 3, 22, .inr (.inr (.inr (.inr (va_up (va_cpy f_ (fun _ => none) 0 0 15) 15 (some oa_)))))))], [(oa_, .inr (4, [.int s0_, .int s1_, .int s2_]))], orW L_]) := hD
  subst hQQ
  exact xe_v e1_3 hx hb hr hlocks hK hP hD hS (trivial) dJ22_add_2_22
set_option maxHeartbeats 800000 in
set_option maxRecDepth 100000 in
theorem mt_J22_add_q15 (l : Launch) (D : va_G) (ca : Nat → ClassId) (la_ : Nat) (mc_ : Int32) (ea_ : Nat) (f_ : Nat → Option Nat) (L_ : List (Nat × Nat × Nat × Nat)) (oa_ : Nat) (s0_ : Int32) (s1_ : Int32) (s2_ : Int32) (hLs : LsOk f_ L_) (hLn : L_.length = 15) (nn : Nat) : Met l yJ22_add (ws_ yJ22_add cJ22_add 2 (Option.some Jvm.ClassFile.FieldType.boolean)) ({ frames := 6, cells := 1, slots := 22, locals := 170 } : Room) (va_Pc [.ref la_, .ref oa_] (PreW EvL D vwCl (TY ca) (fl [[(la_, .inr (9, [.int mc_, .ref ea_, .int (nI 15)]))], [(ea_, .inl (ca 3, 15, .inr (.inr (.inr (.inr (f_))))))], [(oa_, .inr (4, [.int s0_, .int s1_, .int s2_]))], (orW L_)]) nn)) (va_Qi (fun (r_ : Int32) (u_ : Nat) => r_ = bI true) (PostW D vwCl (TY ca) (fun (u_ : Nat) => (fl [[(la_, .inr (9, [.int (mc_ + nI 1), .ref u_, .int (nI 16)]))], [(u_, .inl (ca 3, 22, .inr (.inr (.inr (.inr (va_up (va_cpy f_ (fun _ => none) 0 0 15) 15 (some oa_)))))))], [(oa_, .inr (4, [.int s0_, .int s1_, .int s2_]))], (orW L_)])) (va_A (fl [[(la_, .inr (9, [.int mc_, .ref ea_, .int (nI 15)]))], [(ea_, .inl (ca 3, 15, .inr (.inr (.inr (.inr (f_))))))], [(oa_, .inr (4, [.int s0_, .int s1_, .int s2_]))], (orW L_)]) nn)) (va_A (fl [[(la_, .inr (9, [.int mc_, .ref ea_, .int (nI 15)]))], [(ea_, .inl (ca 3, 15, .inr (.inr (.inr (.inr (f_))))))], [(oa_, .inr (4, [.int s0_, .int s1_, .int s2_]))], (orW L_)]) nn)) 1 22 (va_A (fl [[(la_, .inr (9, [.int mc_, .ref ea_, .int (nI 15)]))], [(ea_, .inl (ca 3, 15, .inr (.inr (.inr (.inr (f_))))))], [(oa_, .inr (4, [.int s0_, .int s1_, .int s2_]))], (orW L_)]) nn) := by
  refine met_go2 (QA := fun A => va_Qi (fun (r_ : Int32) (u_ : Nat) => r_ = bI true) (PostW D vwCl (TY ca) (fun (u_ : Nat) => (fl [[(la_, .inr (9, [.int (mc_ + nI 1), .ref u_, .int (nI 16)]))], [(u_, .inl (ca 3, 22, .inr (.inr (.inr (.inr (va_up (va_cpy f_ (fun _ => none) 0 0 15) 15 (some oa_)))))))], [(oa_, .inr (4, [.int s0_, .int s1_, .int s2_]))], (orW L_)])) A) A) (by decide) (Nat.le_of_ble_eq_true rfl) (fun p e s m below meth c A ls QQ hQQ hmn hnm hx hb hr hts hown hlocks hml hA hP hK hD hE hl => ?_)
  have hown : s.vm.findClass RJ22 = some m.cls := hown
  have hS : va_S A s.heap s.heap [] := va_S.rf
  have hl : lv_has ls 2 [(0, .ref la_), (1, .ref oa_)] := hl
  generalize hHe : s.heap = H at hP ⊢
  have hS : va_S A s.heap H [] := hHe ▸ hS
  generalize ([] : List Loc) = locs at hS ⊢
  refine lv_aload_n hx hb dJ22_add_0 rfl (lv_at hl 0 rfl) ?_
  refine lv_dup hx hb dJ22_add_1 rfl ?_
  refine va_get (D := D) (ci := 9) (v := .int mc_) (C := RJ22) (T := TJ22) (N := 3) hx hb hts in_J22 hown hK hP 0 rfl rfl 0 (by decide) (hts _ q820) (fun x9 h9 => u_same (hts _ q821) x9 h9) rfl dJ22_add_2 ?_
  refine lv_iconst (v := nI 1) hx hb dJ22_add_5 (by decide) ?_
  refine lv_iadd hx hb dJ22_add_6 ?_
  refine va_put (D := D) (ci := 9) (v := .int (mc_ + (nI 1))) (ty := .int) (C := RJ22) (T := TJ22) (N := 3) hx hb hts in_J22 tyJ22 tyJ22_ok nmJ22 hown hK hP hD hS 0 rfl rfl 0 (by decide) (hts _ q820) (fun x9 h9 => u_same (hts _ q821) x9 h9) rfl (by decide +kernel) rfl rfl (Nat.le_of_ble_eq_true rfl) dJ22_add_7 (fun H locs hP hD hS => ?_)
  have hP : va_P D vwCl (fl [[(la_, .inr (9, [.int (mc_ + (nI 1)), .ref ea_, .int (nI 15)]))], [(ea_, .inl (ca 3, 15, .inr (.inr (.inr (.inr (f_))))))], [(oa_, .inr (4, [.int s0_, .int s1_, .int s2_]))], (orW L_)]) H := hP
  have hD : va_D A (fl [[(la_, .inr (9, [.int (mc_ + (nI 1)), .ref ea_, .int (nI 15)]))], [(ea_, .inl (ca 3, 15, .inr (.inr (.inr (.inr (f_))))))], [(oa_, .inr (4, [.int s0_, .int s1_, .int s2_]))], (orW L_)]) := hD
  refine lv_aload_n hx hb dJ22_add_10 rfl (lv_at hl 0 rfl) ?_
  refine lv_aload_n hx hb dJ22_add_11 rfl (lv_at hl 1 rfl) ?_
  refine lv_aload_n hx hb dJ22_add_12 rfl (lv_at hl 0 rfl) ?_
  refine va_get (D := D) (ci := 9) (v := .ref ea_) (C := RJ22) (T := TJ22) (N := 3) hx hb hts in_J22 hown hK hP 0 rfl rfl 1 (by decide) (hts _ q817) (fun _ h9 => h9) rfl dJ22_add_13 ?_
  refine lv_aload_n hx hb dJ22_add_16 rfl (lv_at hl 0 rfl) ?_
  refine va_get (D := D) (ci := 9) (v := .int (nI 15)) (C := RJ22) (T := TJ22) (N := 3) hx hb hts in_J22 hown hK hP 0 rfl rfl 2 (by decide) (hts _ q818) (fun _ h9 => h9) rfl dJ22_add_17 ?_
  refine xc_v (xr_V (b := la_) (ci := 9) (q0 := 0) (As := [.ref oa_, .ref ea_, .int (nI 15)]) (rest := []) (mt_J22_add_2_q15 l D ca la_ (mc_ + (nI 1)) ea_ f_ L_ oa_ s0_ s1_ s2_ (by first | assumption | omega | (simp only [updN, forgetC, changedC]; (repeat' split) <;> omega)) (by first | assumption | omega | (simp only [updN, forgetC, changedC]; (repeat' split) <;> omega)) H.size) ⟨hx, hb, hml, hown, hts⟩ (cwV 3 hts (lw_V q961 q963 qs14 q107 q964) rfl rfl rfl (by decide +kernel) ⟨Nat.le_of_ble_eq_true rfl, Nat.le_of_ble_eq_true rfl⟩) EvL_ok hE hK hS (Cut.ch [[(la_, .inr (9, [.int (mc_ + (nI 1)), .ref ea_, .int (nI 15)]))], [(ea_, .inl (ca 3, 15, .inr (.inr (.inr (.inr (f_))))))], [(oa_, .inr (4, [.int s0_, .int s1_, .int s2_]))], (orW L_)] [] hP hD hS hA) rfl rfl rfl hl.1 rfl (Nat.le_of_ble_eq_true rfl) dJ22_add_20 ⟨Nat.le_of_ble_eq_true rfl, Nat.le_of_ble_eq_true rfl⟩) hS (Cut.ch [[(la_, .inr (9, [.int (mc_ + (nI 1)), .ref ea_, .int (nI 15)]))], [(ea_, .inl (ca 3, 15, .inr (.inr (.inr (.inr (f_))))))], [(oa_, .inr (4, [.int s0_, .int s1_, .int s2_]))], (orW L_)] [] hP hD hS hA) (fun u_2 H locs hq_20 hP hD hS => ?_)
  obtain ⟨e1_3, rfl⟩ : ∃ z_, z_ = u_2 := ⟨_, rfl⟩
  have hP : va_P D vwCl (fl [[(la_, .inr (9, [.int (mc_ + (nI 1)), .ref e1_3, .int (nI 16)]))], [(e1_3, .inl (ca 3, 22, .inr (.inr (.inr (.inr (va_up (va_cpy f_ (fun _ => none) 0 0 15) 15 (some oa_)))))))], [(oa_, .inr (4, [.int s0_, .int s1_, .int s2_]))], orW L_]) H := fl_join [[(la_, .inr (9, [.int (mc_ + (nI 1)), .ref e1_3, .int (nI 16)]))], [(e1_3, .inl (ca 3, 22, .inr (.inr (.inr (.inr (va_up (va_cpy f_ (fun _ => none) 0 0 15) 15 (some oa_)))))))], [(oa_, .inr (4, [.int s0_, .int s1_, .int s2_]))], orW L_] [] hP
  have hD : va_D A (fl [[(la_, .inr (9, [.int (mc_ + (nI 1)), .ref e1_3, .int (nI 16)]))], [(e1_3, .inl (ca 3, 22, .inr (.inr (.inr (.inr (va_up (va_cpy f_ (fun _ => none) 0 0 15) 15 (some oa_)))))))], [(oa_, .inr (4, [.int s0_, .int s1_, .int s2_]))], orW L_]) := fl_joinD [[(la_, .inr (9, [.int (mc_ + (nI 1)), .ref e1_3, .int (nI 16)]))], [(e1_3, .inl (ca 3, 22, .inr (.inr (.inr (.inr (va_up (va_cpy f_ (fun _ => none) 0 0 15) 15 (some oa_)))))))], [(oa_, .inr (4, [.int s0_, .int s1_, .int s2_]))], orW L_] [] hD
  refine lv_iconst (v := nI 1) hx hb dJ22_add_23 (by decide) ?_
  subst hQQ
  refine (xe_z (b := true) e1_3 hx hb hr hlocks hK hP hD hS (rfl) dJ22_add_24)
set_option maxHeartbeats 800000 in
set_option maxRecDepth 100000 in
theorem mt_J13_copyOf_2_q22 (l : Launch) (D : va_G) (ca : Nat → ClassId) (a_ : Nat) (f_ : Nat → Option Nat) (L_ : List (Nat × Nat × Nat × Nat)) (mi_ : Nat) (hLs : LsOk f_ L_) (hLn : L_.length = 22) (nn : Nat) : Met l yJ13_copyOf_2 (ws_ yJ13_copyOf_2 cJ13_copyOf_2 4 (Option.some (Jvm.ClassFile.FieldType.array (Jvm.ClassFile.FieldType.object "java/lang/Object")))) ({ frames := 1, cells := 1, slots := 33, locals := 60 } : Room) (va_Pc [.ref a_, .int (nI 33), .ref mi_] (PreW (EvG mi_) D vwCl (TY ca) (fl [[(a_, .inl (ca 3, 22, .inr (.inr (.inr (.inr (f_))))))], (orW L_)]) nn)) (va_Qr (fun (u_ : Nat) => True) (fun (u_ : Nat) (r_ : Nat) (tS_ : State) => r_ = u_ ∧ PostW D vwCl (TY ca) (fun (u_ : Nat) => (fl [[(a_, .inl (ca 3, 22, .inr (.inr (.inr (.inr (f_))))))], [(u_, .inl (ca 3, 33, .inr (.inr (.inr (.inr (va_cpy f_ (fun _ => none) 0 0 22))))))], (orW L_)])) (va_A (fl [[(a_, .inl (ca 3, 22, .inr (.inr (.inr (.inr (f_))))))], (orW L_)]) nn) u_ tS_) (va_A (fl [[(a_, .inl (ca 3, 22, .inr (.inr (.inr (.inr (f_))))))], (orW L_)]) nn)) 1 33 (va_A (fl [[(a_, .inl (ca 3, 22, .inr (.inr (.inr (.inr (f_))))))], (orW L_)]) nn) := by
  refine met_go2 (QA := fun A => va_Qr (fun (u_ : Nat) => True) (fun (u_ : Nat) (r_ : Nat) (tS_ : State) => r_ = u_ ∧ PostW D vwCl (TY ca) (fun (u_ : Nat) => (fl [[(a_, .inl (ca 3, 22, .inr (.inr (.inr (.inr (f_))))))], [(u_, .inl (ca 3, 33, .inr (.inr (.inr (.inr (va_cpy f_ (fun _ => none) 0 0 22))))))], (orW L_)])) A u_ tS_) A) (by decide) (Nat.le_of_ble_eq_true rfl) (fun p e s m below meth c A ls QQ hQQ hmn hnm hx hb hr hts hown hlocks hml hA hP hK hD hE hl => ?_)
  have hown : s.vm.findClass RJ13 = some m.cls := hown
  have hS : va_S A s.heap s.heap [] := va_S.rf
  have hl : lv_has ls 4 [(0, .ref a_), (1, .int (nI 33)), (2, .ref mi_)] := hl
  generalize hHe : s.heap = H at hP ⊢
  have hS : va_S A s.heap H [] := hHe ▸ hS
  generalize ([] : List Loc) = locs at hS ⊢
  have hAO := hE.1.1.2.1
  refine lv_aload_n hx hb dJ13_copyOf_2_0 rfl (lv_at hl 2 rfl) ?_
  refine va_ldcM hx hb hown (hts _ q411) hE.2 dJ13_copyOf_2_1 ?_
  refine lv_acmp_ne (rx := some mi_) (ry := some mi_) (tgt := 13) hx hb dJ13_copyOf_2_3 (by decide) (fun c_3 => absurd rfl c_3) (fun c_3 => ?_)
  refine lv_iload_n hx hb dJ13_copyOf_2_6 rfl (lv_at hl 1 rfl) ?_
  refine nv_newq hx hb hown (hts _ q412) hAO hK hP hD hS hA 3 rfl (N := 33) (by decide) (by decide) ⟨Nat.le_of_ble_eq_true rfl, Nat.le_of_ble_eq_true rfl⟩ dJ13_copyOf_2_7 (fun q_1 H hP hD hS => ?_)
  have hP : va_P D vwCl (fl [[(a_, .inl (ca 3, 22, .inr (.inr (.inr (.inr (f_))))))], (orW L_), [(q_1, .inl (ca 3, 33, .inr (.inr (.inr (.inr ((fun _ => none)))))))]]) H := fl_pushP hP
  have hD : va_D A (fl [[(a_, .inl (ca 3, 22, .inr (.inr (.inr (.inr (f_))))))], (orW L_), [(q_1, .inl (ca 3, 33, .inr (.inr (.inr (.inr ((fun _ => none)))))))]]) := fl_pushD hD
  have hP : va_P D vwCl (fl [[(a_, .inl (ca 3, 22, .inr (.inr (.inr (.inr (f_))))))], [(q_1, .inl (ca 3, 33, .inr (.inr (.inr (.inr ((fun _ => none)))))))], (orW L_)]) H := mvP hP [0, 2, 1]
  have hD : va_D A (fl [[(a_, .inl (ca 3, 22, .inr (.inr (.inr (.inr (f_))))))], [(q_1, .inl (ca 3, 33, .inr (.inr (.inr (.inr ((fun _ => none)))))))], (orW L_)]) := mvD hD [0, 2, 1] (by decide)
  refine lv_goto (tgt := 24) hx hb dJ13_copyOf_2_10 (by decide) ?_
  refine lv_astore_n (lv' := [(3, .ref q_1), (0, .ref a_), (1, .int (nI 33)), (2, .ref mi_)]) hx hb dJ13_copyOf_2_24 rfl hl (by decide) rfl (fun ls hl => ?_)
  refine lv_aload_n hx hb dJ13_copyOf_2_25 rfl (lv_at hl 1 rfl) ?_
  refine lv_iconst (v := nI 0) hx hb dJ13_copyOf_2_26 (by decide) ?_
  refine lv_aload_n hx hb dJ13_copyOf_2_27 rfl (lv_at hl 0 rfl) ?_
  refine lv_iconst (v := nI 0) hx hb dJ13_copyOf_2_28 (by decide) ?_
  refine lv_aload_n hx hb dJ13_copyOf_2_29 rfl (lv_at hl 1 rfl) ?_
  refine va_alen hx hb hK hP 0 3 rfl rfl rfl dJ13_copyOf_2_30 (lv_topi (nm_r (e' := nI 22) rfl ?_))
  refine lv_iload_n hx hb dJ13_copyOf_2_31 rfl (lv_at hl 2 rfl) ?_
  refine va_mmin (x := nI 22) (y := nI 33) hx hb (hml.trans hl.1.symm) hown (hts _ q413) (hts _ q414) (hts _ q96) (hts _ q415) (Nat.le_of_ble_eq_true rfl) (Nat.le_of_ble_eq_true rfl) (by decide) (by decide) dJ13_copyOf_2_32 ?_
  refine lv_topi (nm_r (e' := nI 22) ((mn_nI (by omega) (by omega)).trans (by decide)) ?_)
  refine va_copyq (C := RX6) (E0 := "java/lang/Object") (E1 := "java/lang/Object") hx hb (hml.trans hl.1.symm) hown (hts _ q416) (hts _ q418) (hts _ q417) (hts _ q97) hK hP hD hS 0 1 3 3 rfl rfl rfl rfl (sp := nI 0) (dp := nI 0) (n := nI 22) (by decide) (by decide) (by decide) (by decide) (by decide) (fun i_ hi_ y_ hy_ => or_cell (L := L_) (j := i_) hK hP (by simp) (by have hi2_ : i_ < 22 := hi_; rw [← hLs i_ (by omega)]; rw [← hy_]; congr 1; show i_ = 0 + i_; omega)) (asg_obj (args := #[]) (va_Nw.use rfl (hE.1.1.1.1.1 _ q2073 rfl))) (Nat.le_of_ble_eq_true rfl) (Nat.le_of_ble_eq_true (by decide)) dJ13_copyOf_2_35 (fun H locs hP hD hS => ?_)
  have hP : va_P D vwCl (fl [[(a_, .inl (ca 3, 22, .inr (.inr (.inr (.inr (f_))))))], [(q_1, .inl (ca 3, 33, .inr (.inr (.inr (.inr (va_cpy f_ (fun _ => none) 0 0 22))))))], (orW L_)]) H := hP
  have hD : va_D A (fl [[(a_, .inl (ca 3, 22, .inr (.inr (.inr (.inr (f_))))))], [(q_1, .inl (ca 3, 33, .inr (.inr (.inr (.inr (va_cpy f_ (fun _ => none) 0 0 22))))))], (orW L_)]) := hD
  refine lv_aload_n hx hb dJ13_copyOf_2_38 rfl (lv_at hl 0 rfl) ?_
  subst hQQ
  exact xe_ra (ad := fun (u_ : Nat) => u_) q_1 hx hb hr hlocks hK hP hD hS (trivial) dJ13_copyOf_2_39
set_option maxHeartbeats 800000 in
set_option maxRecDepth 100000 in
theorem mt_J13_copyOf_q22 (l : Launch) (D : va_G) (ca : Nat → ClassId) (a_ : Nat) (f_ : Nat → Option Nat) (L_ : List (Nat × Nat × Nat × Nat)) (hLs : LsOk f_ L_) (hLn : L_.length = 22) (nn : Nat) : Met l yJ13_copyOf (ws_ yJ13_copyOf cJ13_copyOf 2 (Option.some (Jvm.ClassFile.FieldType.array (Jvm.ClassFile.FieldType.object "java/lang/Object")))) ({ frames := 2, cells := 1, slots := 33, locals := 83 } : Room) (va_Pc [.ref a_, .int (nI 33)] (PreW EvL D vwCl (TY ca) (fl [[(a_, .inl (ca 3, 22, .inr (.inr (.inr (.inr (f_))))))], (orW L_)]) nn)) (va_Qr (fun (u_ : Nat) => True) (fun (u_ : Nat) (r_ : Nat) (tS_ : State) => r_ = u_ ∧ PostW D vwCl (TY ca) (fun (u_ : Nat) => (fl [[(a_, .inl (ca 3, 22, .inr (.inr (.inr (.inr (f_))))))], [(u_, .inl (ca 3, 33, .inr (.inr (.inr (.inr (va_cpy f_ (fun _ => none) 0 0 22))))))], (orW L_)])) (va_A (fl [[(a_, .inl (ca 3, 22, .inr (.inr (.inr (.inr (f_))))))], (orW L_)]) nn) u_ tS_) (va_A (fl [[(a_, .inl (ca 3, 22, .inr (.inr (.inr (.inr (f_))))))], (orW L_)]) nn)) 1 33 (va_A (fl [[(a_, .inl (ca 3, 22, .inr (.inr (.inr (.inr (f_))))))], (orW L_)]) nn) := by
  refine met_go2 (QA := fun A => va_Qr (fun (u_ : Nat) => True) (fun (u_ : Nat) (r_ : Nat) (tS_ : State) => r_ = u_ ∧ PostW D vwCl (TY ca) (fun (u_ : Nat) => (fl [[(a_, .inl (ca 3, 22, .inr (.inr (.inr (.inr (f_))))))], [(u_, .inl (ca 3, 33, .inr (.inr (.inr (.inr (va_cpy f_ (fun _ => none) 0 0 22))))))], (orW L_)])) A u_ tS_) A) (by decide) (Nat.le_of_ble_eq_true rfl) (fun p e s m below meth c A ls QQ hQQ hmn hnm hx hb hr hts hown hlocks hml hA hP hK hD hE hl => ?_)
  have hown : s.vm.findClass RJ13 = some m.cls := hown
  have hS : va_S A s.heap s.heap [] := va_S.rf
  have hl : lv_has ls 2 [(0, .ref a_), (1, .int (nI 33))] := hl
  generalize hHe : s.heap = H at hP ⊢
  have hS : va_S A s.heap H [] := hHe ▸ hS
  generalize ([] : List Loc) = locs at hS ⊢
  obtain ⟨mi_, hMi_⟩ := hE.2.1
  have hDc_ := hE.2.2.1
  refine lv_aload_n hx hb dJ13_copyOf_0 rfl (lv_at hl 0 rfl) ?_
  refine lv_iload_n hx hb dJ13_copyOf_1 rfl (lv_at hl 1 rfl) ?_
  refine lv_aload_n hx hb dJ13_copyOf_2 rfl (lv_at hl 0 rfl) ?_
  refine va_getC (C := "[Ljava/lang/Object;") hx hb (hml.trans hl.1.symm) hown (hts _ q388) (va_Dc.use hDc_) (hts _ q2077) (hts _ q389) (hts _ q407) hMi_ ⟨_, hP 0 _ rfl, rfl, va_nmO (hK.2 3 _ rfl).2 rfl⟩ (Nat.le_of_ble_eq_true rfl) (Nat.le_of_ble_eq_true rfl) dJ13_copyOf_3 ?_
  refine xc_r (xr_S (As := [.ref a_, .int (nI 33), .ref mi_]) (rest := []) (mt_J13_copyOf_2_q22 l D ca a_ f_ L_ mi_ (by first | assumption | omega | (simp only [updN, forgetC, changedC]; (repeat' split) <;> omega)) (by first | assumption | omega | (simp only [updN, forgetC, changedC]; (repeat' split) <;> omega)) H.size) ⟨hx, hb, hml, hown, hts⟩ (va_cwS 3 hts (lw_S q408 q409 q95 q410) rfl rfl rfl (by decide +kernel) ⟨Nat.le_of_ble_eq_true rfl, Nat.le_of_ble_eq_true rfl⟩) (EvG_ok _) ⟨hE, hMi_⟩ hK hS (Cut.ch [[(a_, .inl (ca 3, 22, .inr (.inr (.inr (.inr (f_))))))], (orW L_)] [] hP hD hS hA) rfl hl.1 rfl (Nat.le_of_ble_eq_true rfl) dJ13_copyOf_6 ⟨Nat.le_of_ble_eq_true rfl, Nat.le_of_ble_eq_true rfl⟩) hS (Cut.ch [[(a_, .inl (ca 3, 22, .inr (.inr (.inr (.inr (f_))))))], (orW L_)] [] hP hD hS hA) (fun u_2 H locs hq_6 hP hD hS => ?_)
  obtain ⟨c1_3, rfl⟩ : ∃ z_, z_ = u_2 := ⟨_, rfl⟩
  have hP : va_P D vwCl (fl [[(a_, .inl (ca 3, 22, .inr (.inr (.inr (.inr (f_))))))], [(c1_3, .inl (ca 3, 33, .inr (.inr (.inr (.inr (va_cpy f_ (fun _ => none) 0 0 22))))))], orW L_]) H := fl_join [[(a_, .inl (ca 3, 22, .inr (.inr (.inr (.inr (f_))))))], [(c1_3, .inl (ca 3, 33, .inr (.inr (.inr (.inr (va_cpy f_ (fun _ => none) 0 0 22))))))], orW L_] [] hP
  have hD : va_D A (fl [[(a_, .inl (ca 3, 22, .inr (.inr (.inr (.inr (f_))))))], [(c1_3, .inl (ca 3, 33, .inr (.inr (.inr (.inr (va_cpy f_ (fun _ => none) 0 0 22))))))], orW L_]) := fl_joinD [[(a_, .inl (ca 3, 22, .inr (.inr (.inr (.inr (f_))))))], [(c1_3, .inl (ca 3, 33, .inr (.inr (.inr (.inr (va_cpy f_ (fun _ => none) 0 0 22))))))], orW L_] [] hD
  subst hQQ
  exact xe_ra (ad := fun (u_ : Nat) => u_) c1_3 hx hb hr hlocks hK hP hD hS (trivial) dJ13_copyOf_9
set_option maxHeartbeats 800000 in
set_option maxRecDepth 100000 in
theorem mt_J22_grow_2_q22 (l : Launch) (D : va_G) (ca : Nat → ClassId) (la_ : Nat) (mc_ : Int32) (ea_ : Nat) (f_ : Nat → Option Nat) (L_ : List (Nat × Nat × Nat × Nat)) (hLs : LsOk f_ L_) (hLn : L_.length = 22) (nn : Nat) : Met l yJ22_grow_2 (ws_ yJ22_grow_2 cJ22_grow_2 4 (Option.some (Jvm.ClassFile.FieldType.array (Jvm.ClassFile.FieldType.object "java/lang/Object")))) ({ frames := 3, cells := 1, slots := 33, locals := 104 } : Room) (va_Pc [.ref la_, .int (nI 23)] (PreW EvL D vwCl (TY ca) (fl [[(la_, .inr (9, [.int mc_, .ref ea_, .int (nI 22)]))], [(ea_, .inl (ca 3, 22, .inr (.inr (.inr (.inr (f_))))))], (orW L_)]) nn)) (va_Qr (fun (u_ : Nat) => True) (fun (u_ : Nat) (r_ : Nat) (tS_ : State) => r_ = u_ ∧ PostW D vwCl (TY ca) (fun (u_ : Nat) => (fl [[(la_, .inr (9, [.int mc_, .ref u_, .int (nI 22)]))], [(u_, .inl (ca 3, 33, .inr (.inr (.inr (.inr (va_cpy f_ (fun _ => none) 0 0 22))))))], (orW L_)])) (va_A (fl [[(la_, .inr (9, [.int mc_, .ref ea_, .int (nI 22)]))], [(ea_, .inl (ca 3, 22, .inr (.inr (.inr (.inr (f_))))))], (orW L_)]) nn) u_ tS_) (va_A (fl [[(la_, .inr (9, [.int mc_, .ref ea_, .int (nI 22)]))], [(ea_, .inl (ca 3, 22, .inr (.inr (.inr (.inr (f_))))))], (orW L_)]) nn)) 1 33 (va_A (fl [[(la_, .inr (9, [.int mc_, .ref ea_, .int (nI 22)]))], [(ea_, .inl (ca 3, 22, .inr (.inr (.inr (.inr (f_))))))], (orW L_)]) nn) := by
  refine met_go2 (QA := fun A => va_Qr (fun (u_ : Nat) => True) (fun (u_ : Nat) (r_ : Nat) (tS_ : State) => r_ = u_ ∧ PostW D vwCl (TY ca) (fun (u_ : Nat) => (fl [[(la_, .inr (9, [.int mc_, .ref u_, .int (nI 22)]))], [(u_, .inl (ca 3, 33, .inr (.inr (.inr (.inr (va_cpy f_ (fun _ => none) 0 0 22))))))], (orW L_)])) A u_ tS_) A) (by decide) (Nat.le_of_ble_eq_true rfl) (fun p e s m below meth c A ls QQ hQQ hmn hnm hx hb hr hts hown hlocks hml hA hP hK hD hE hl => ?_)
  have hown : s.vm.findClass RJ22 = some m.cls := hown
  have hS : va_S A s.heap s.heap [] := va_S.rf
  have hl : lv_has ls 4 [(0, .ref la_), (1, .int (nI 23))] := hl
  generalize hHe : s.heap = H at hP ⊢
  have hS : va_S A s.heap H [] := hHe ▸ hS
  generalize ([] : List Loc) = locs at hS ⊢
  refine lv_aload_n hx hb dJ22_grow_2_0 rfl (lv_at hl 0 rfl) ?_
  refine va_get (D := D) (ci := 9) (v := .ref ea_) (C := RJ22) (T := TJ22) (N := 3) hx hb hts in_J22 hown hK hP 0 rfl rfl 1 (by decide) (hts _ q817) (fun _ h9 => h9) rfl dJ22_grow_2_1 ?_
  refine va_alen hx hb hK hP 1 3 rfl rfl rfl dJ22_grow_2_4 (lv_topi (nm_r (e' := nI 22) rfl ?_))
  refine lv_istore_n (lv' := [(2, .int (nI 22)), (0, .ref la_), (1, .int (nI 23))]) hx hb dJ22_grow_2_5 rfl hl (by decide) rfl (fun ls hl => ?_)
  refine lv_iload_n hx hb dJ22_grow_2_6 rfl (lv_at hl 0 rfl) ?_
  refine nv_if_gt (tgt := 20) hx hb dJ22_grow_2_7 (by decide) (by omega) (fun c_7 => ?_) (fun c_7 => absurd c_7 (by decide))
  refine lv_iload_n hx hb dJ22_grow_2_20 rfl (lv_at hl 0 rfl) ?_
  refine lv_iload_n hx hb dJ22_grow_2_21 rfl (lv_at hl 2 rfl) ?_
  refine lv_iload_n hx hb dJ22_grow_2_22 rfl (lv_at hl 0 rfl) ?_
  refine lv_isub hx hb dJ22_grow_2_23 (lv_topi (nm_r (e' := nI 1) (by decide) ?_))
  refine lv_iload_n hx hb dJ22_grow_2_24 rfl (lv_at hl 0 rfl) ?_
  refine lv_iconst (v := nI 1) hx hb dJ22_grow_2_25 (by decide) ?_
  refine nv_ishr hx hb dJ22_grow_2_26 (by decide) (by decide) ?_
  refine lv_topi (nm_r (e' := nI 11) (by decide) ?_)
  refine xc_i (xr_S (As := [.int (nI 22), .int (nI 1), .int (nI 11)]) (rest := []) (mt_J17_newLength_q22 l D ca   H.size) ⟨hx, hb, hml, hown, hts⟩ (va_cwS 3 hts (lw_S q973 q537 q101 q538) rfl rfl rfl (by decide +kernel) ⟨Nat.le_of_ble_eq_true rfl, Nat.le_of_ble_eq_true rfl⟩) Ev0_ok trivial hK hS (Cut.app (wc := []) (wr := (fl [[(la_, .inr (9, [.int mc_, .ref ea_, .int (nI 22)]))], [(ea_, .inl (ca 3, 22, .inr (.inr (.inr (.inr (f_))))))], (orW L_)])) hP hD hS hA) rfl hl.1 rfl (Nat.le_of_ble_eq_true rfl) dJ22_grow_2_27 ⟨Nat.le_of_ble_eq_true rfl, Nat.le_of_ble_eq_true rfl⟩) hS (Cut.app (wc := []) (wr := (fl [[(la_, .inr (9, [.int mc_, .ref ea_, .int (nI 22)]))], [(ea_, .inl (ca 3, 22, .inr (.inr (.inr (.inr (f_))))))], (orW L_)])) hP hD hS hA) (fun r_1 u_2 H locs hq_27 hP hD hS => ?_)
  have hP : va_P D vwCl (fl [[(la_, .inr (9, [.int mc_, .ref ea_, .int (nI 22)]))], [(ea_, .inl (ca 3, 22, .inr (.inr (.inr (.inr (f_))))))], (orW L_)]) H := hP
  have hD : va_D A (fl [[(la_, .inr (9, [.int mc_, .ref ea_, .int (nI 22)]))], [(ea_, .inl (ca 3, 22, .inr (.inr (.inr (.inr (f_))))))], (orW L_)]) := hD
  have hp_27 : r_1 = nI 33 := hq_27
  clear hq_27
  obtain rfl := hp_27
  refine lv_istore_n (lv' := [(3, .int (nI 33)), (2, .int (nI 22)), (0, .ref la_), (1, .int (nI 23))]) hx hb dJ22_grow_2_30 rfl hl (by decide) rfl (fun ls hl => ?_)
  refine lv_aload_n hx hb dJ22_grow_2_31 rfl (lv_at hl 2 rfl) ?_
  refine lv_aload_n hx hb dJ22_grow_2_32 rfl (lv_at hl 2 rfl) ?_
  refine va_get (D := D) (ci := 9) (v := .ref ea_) (C := RJ22) (T := TJ22) (N := 3) hx hb hts in_J22 hown hK hP 0 rfl rfl 1 (by decide) (hts _ q817) (fun _ h9 => h9) rfl dJ22_grow_2_33 ?_
  refine lv_iload_n hx hb dJ22_grow_2_36 rfl (lv_at hl 0 rfl) ?_
  have hP : va_P D vwCl (fl [[(ea_, .inl (ca 3, 22, .inr (.inr (.inr (.inr (f_))))))], (orW L_), [(la_, .inr (9, [.int mc_, .ref ea_, .int (nI 22)]))]]) H := mvP hP [1, 2, 0]
  have hD : va_D A (fl [[(ea_, .inl (ca 3, 22, .inr (.inr (.inr (.inr (f_))))))], (orW L_), [(la_, .inr (9, [.int mc_, .ref ea_, .int (nI 22)]))]]) := mvD hD [1, 2, 0] (by decide)
  refine xc_r (xr_S (As := [.ref ea_, .int (nI 33)]) (rest := [.ref la_]) (mt_J13_copyOf_q22 l D ca ea_ f_ L_ (by first | assumption | omega | (simp only [updN, forgetC, changedC]; (repeat' split) <;> omega)) (by first | assumption | omega | (simp only [updN, forgetC, changedC]; (repeat' split) <;> omega)) H.size) ⟨hx, hb, hml, hown, hts⟩ (va_cwS 2 hts (lw_S q974 q386 q95 q387) rfl rfl rfl (by decide +kernel) ⟨Nat.le_of_ble_eq_true rfl, Nat.le_of_ble_eq_true rfl⟩) EvL_ok hE hK hS (Cut.ch [[(ea_, .inl (ca 3, 22, .inr (.inr (.inr (.inr (f_))))))], (orW L_)] [[(la_, .inr (9, [.int mc_, .ref ea_, .int (nI 22)]))]] hP hD hS hA) rfl hl.1 rfl (Nat.le_of_ble_eq_true rfl) dJ22_grow_2_37 ⟨Nat.le_of_ble_eq_true rfl, Nat.le_of_ble_eq_true rfl⟩) hS (Cut.ch [[(ea_, .inl (ca 3, 22, .inr (.inr (.inr (.inr (f_))))))], (orW L_)] [[(la_, .inr (9, [.int mc_, .ref ea_, .int (nI 22)]))]] hP hD hS hA) (fun u_4 H locs hq_37 hP hD hS => ?_)
  obtain ⟨c1_5, rfl⟩ : ∃ z_, z_ = u_4 := ⟨_, rfl⟩
  have hP : va_P D vwCl (fl [[(ea_, .inl (ca 3, 22, .inr (.inr (.inr (.inr (f_))))))], [(c1_5, .inl (ca 3, 33, .inr (.inr (.inr (.inr (va_cpy f_ (fun _ => none) 0 0 22))))))], orW L_, [(la_, .inr (9, [.int mc_, .ref ea_, .int (nI 22)]))]]) H := fl_join [[(ea_, .inl (ca 3, 22, .inr (.inr (.inr (.inr (f_))))))], [(c1_5, .inl (ca 3, 33, .inr (.inr (.inr (.inr (va_cpy f_ (fun _ => none) 0 0 22))))))], orW L_] [[(la_, .inr (9, [.int mc_, .ref ea_, .int (nI 22)]))]] hP
  have hD : va_D A (fl [[(ea_, .inl (ca 3, 22, .inr (.inr (.inr (.inr (f_))))))], [(c1_5, .inl (ca 3, 33, .inr (.inr (.inr (.inr (va_cpy f_ (fun _ => none) 0 0 22))))))], orW L_, [(la_, .inr (9, [.int mc_, .ref ea_, .int (nI 22)]))]]) := fl_joinD [[(ea_, .inl (ca 3, 22, .inr (.inr (.inr (.inr (f_))))))], [(c1_5, .inl (ca 3, 33, .inr (.inr (.inr (.inr (va_cpy f_ (fun _ => none) 0 0 22))))))], orW L_] [[(la_, .inr (9, [.int mc_, .ref ea_, .int (nI 22)]))]] hD
  have hP : va_P D vwCl (fl [[(ea_, .inl (ca 3, 22, .inr (.inr (.inr (.inr (f_))))))], [(c1_5, .inl (ca 3, 33, .inr (.inr (.inr (.inr (va_cpy f_ (fun _ => none) 0 0 22))))))], [(la_, .inr (9, [.int mc_, .ref ea_, .int (nI 22)]))], orW L_]) H := mvP hP [0, 1, 3, 2]
  have hD : va_D A (fl [[(ea_, .inl (ca 3, 22, .inr (.inr (.inr (.inr (f_))))))], [(c1_5, .inl (ca 3, 33, .inr (.inr (.inr (.inr (va_cpy f_ (fun _ => none) 0 0 22))))))], [(la_, .inr (9, [.int mc_, .ref ea_, .int (nI 22)]))], orW L_]) := mvD hD [0, 1, 3, 2] (by decide)
  refine lv_dup_x1 hx hb dJ22_grow_2_40 rfl rfl ?_
  refine va_put (D := D) (ci := 9) (v := .ref c1_5) (ty := (.array (.object "java/lang/Object"))) (C := RJ22) (T := TJ22) (N := 3) hx hb hts in_J22 tyJ22 tyJ22_ok nmJ22 hown hK hP hD hS 2 rfl rfl 1 (by decide) (hts _ q817) (fun _ h9 => h9) rfl (by decide +kernel) rfl rfl (Nat.le_of_ble_eq_true rfl) dJ22_grow_2_41 (fun H locs hP hD hS => ?_)
  have hP : va_P D vwCl (fl [[(ea_, .inl (ca 3, 22, .inr (.inr (.inr (.inr (f_))))))], [(c1_5, .inl (ca 3, 33, .inr (.inr (.inr (.inr (va_cpy f_ (fun _ => none) 0 0 22))))))], [(la_, .inr (9, [.int mc_, .ref c1_5, .int (nI 22)]))], orW L_]) H := hP
  have hD : va_D A (fl [[(ea_, .inl (ca 3, 22, .inr (.inr (.inr (.inr (f_))))))], [(c1_5, .inl (ca 3, 33, .inr (.inr (.inr (.inr (va_cpy f_ (fun _ => none) 0 0 22))))))], [(la_, .inr (9, [.int mc_, .ref c1_5, .int (nI 22)]))], orW L_]) := hD
  have hP : va_P D vwCl (fl [[(la_, .inr (9, [.int mc_, .ref c1_5, .int (nI 22)]))], [(c1_5, .inl (ca 3, 33, .inr (.inr (.inr (.inr (va_cpy f_ (fun _ => none) 0 0 22))))))], orW L_]) H := mvP hP [2, 1, 3]
  have hD : va_D A (fl [[(la_, .inr (9, [.int mc_, .ref c1_5, .int (nI 22)]))], [(c1_5, .inl (ca 3, 33, .inr (.inr (.inr (.inr (va_cpy f_ (fun _ => none) 0 0 22))))))], orW L_]) := mvD hD [2, 1, 3] (by decide)
  subst hQQ
  exact xe_ra (ad := fun (u_ : Nat) => u_) c1_5 hx hb hr hlocks hK hP hD hS (trivial) dJ22_grow_2_44
set_option maxHeartbeats 800000 in
set_option maxRecDepth 100000 in
theorem mt_J22_grow_q22 (l : Launch) (D : va_G) (ca : Nat → ClassId) (la_ : Nat) (mc_ : Int32) (ea_ : Nat) (f_ : Nat → Option Nat) (L_ : List (Nat × Nat × Nat × Nat)) (hLs : LsOk f_ L_) (hLn : L_.length = 22) (nn : Nat) : Met l yJ22_grow (ws_ yJ22_grow cJ22_grow 1 (Option.some (Jvm.ClassFile.FieldType.array (Jvm.ClassFile.FieldType.object "java/lang/Object")))) ({ frames := 4, cells := 1, slots := 33, locals := 127 } : Room) (va_Pc [.ref la_] (PreW EvL D vwCl (TY ca) (fl [[(la_, .inr (9, [.int mc_, .ref ea_, .int (nI 22)]))], [(ea_, .inl (ca 3, 22, .inr (.inr (.inr (.inr (f_))))))], (orW L_)]) nn)) (va_Qr (fun (u_ : Nat) => True) (fun (u_ : Nat) (r_ : Nat) (tS_ : State) => r_ = u_ ∧ PostW D vwCl (TY ca) (fun (u_ : Nat) => (fl [[(la_, .inr (9, [.int mc_, .ref u_, .int (nI 22)]))], [(u_, .inl (ca 3, 33, .inr (.inr (.inr (.inr (va_cpy f_ (fun _ => none) 0 0 22))))))], (orW L_)])) (va_A (fl [[(la_, .inr (9, [.int mc_, .ref ea_, .int (nI 22)]))], [(ea_, .inl (ca 3, 22, .inr (.inr (.inr (.inr (f_))))))], (orW L_)]) nn) u_ tS_) (va_A (fl [[(la_, .inr (9, [.int mc_, .ref ea_, .int (nI 22)]))], [(ea_, .inl (ca 3, 22, .inr (.inr (.inr (.inr (f_))))))], (orW L_)]) nn)) 1 33 (va_A (fl [[(la_, .inr (9, [.int mc_, .ref ea_, .int (nI 22)]))], [(ea_, .inl (ca 3, 22, .inr (.inr (.inr (.inr (f_))))))], (orW L_)]) nn) := by
  refine met_go2 (QA := fun A => va_Qr (fun (u_ : Nat) => True) (fun (u_ : Nat) (r_ : Nat) (tS_ : State) => r_ = u_ ∧ PostW D vwCl (TY ca) (fun (u_ : Nat) => (fl [[(la_, .inr (9, [.int mc_, .ref u_, .int (nI 22)]))], [(u_, .inl (ca 3, 33, .inr (.inr (.inr (.inr (va_cpy f_ (fun _ => none) 0 0 22))))))], (orW L_)])) A u_ tS_) A) (by decide) (Nat.le_of_ble_eq_true rfl) (fun p e s m below meth c A ls QQ hQQ hmn hnm hx hb hr hts hown hlocks hml hA hP hK hD hE hl => ?_)
  have hown : s.vm.findClass RJ22 = some m.cls := hown
  have hS : va_S A s.heap s.heap [] := va_S.rf
  have hl : lv_has ls 1 [(0, .ref la_)] := hl
  generalize hHe : s.heap = H at hP ⊢
  have hS : va_S A s.heap H [] := hHe ▸ hS
  generalize ([] : List Loc) = locs at hS ⊢
  refine lv_aload_n hx hb dJ22_grow_0 rfl (lv_at hl 0 rfl) ?_
  refine lv_aload_n hx hb dJ22_grow_1 rfl (lv_at hl 0 rfl) ?_
  refine va_get (D := D) (ci := 9) (v := .int (nI 22)) (C := RJ22) (T := TJ22) (N := 3) hx hb hts in_J22 hown hK hP 0 rfl rfl 2 (by decide) (hts _ q818) (fun _ h9 => h9) rfl dJ22_grow_2 ?_
  refine lv_iconst (v := nI 1) hx hb dJ22_grow_5 (by decide) ?_
  refine lv_iadd hx hb dJ22_grow_6 (lv_topi (nm_r (e' := nI 23) (by decide) ?_))
  refine xc_r (xr_V (b := la_) (ci := 9) (q0 := 0) (As := [.int (nI 23)]) (rest := []) (mt_J22_grow_2_q22 l D ca la_ mc_ ea_ f_ L_ (by first | assumption | omega | (simp only [updN, forgetC, changedC]; (repeat' split) <;> omega)) (by first | assumption | omega | (simp only [updN, forgetC, changedC]; (repeat' split) <;> omega)) H.size) ⟨hx, hb, hml, hown, hts⟩ (cwV 1 hts (lw_V q969 q971 qs16 q107 q972) rfl rfl rfl (by decide +kernel) ⟨Nat.le_of_ble_eq_true rfl, Nat.le_of_ble_eq_true rfl⟩) EvL_ok hE hK hS (Cut.ch [[(la_, .inr (9, [.int mc_, .ref ea_, .int (nI 22)]))], [(ea_, .inl (ca 3, 22, .inr (.inr (.inr (.inr (f_))))))], (orW L_)] [] hP hD hS hA) rfl rfl rfl hl.1 rfl (Nat.le_of_ble_eq_true rfl) dJ22_grow_7 ⟨Nat.le_of_ble_eq_true rfl, Nat.le_of_ble_eq_true rfl⟩) hS (Cut.ch [[(la_, .inr (9, [.int mc_, .ref ea_, .int (nI 22)]))], [(ea_, .inl (ca 3, 22, .inr (.inr (.inr (.inr (f_))))))], (orW L_)] [] hP hD hS hA) (fun u_2 H locs hq_7 hP hD hS => ?_)
  obtain ⟨e1_3, rfl⟩ : ∃ z_, z_ = u_2 := ⟨_, rfl⟩
  have hP : va_P D vwCl (fl [[(la_, .inr (9, [.int mc_, .ref e1_3, .int (nI 22)]))], [(e1_3, .inl (ca 3, 33, .inr (.inr (.inr (.inr (va_cpy f_ (fun _ => none) 0 0 22))))))], orW L_]) H := fl_join [[(la_, .inr (9, [.int mc_, .ref e1_3, .int (nI 22)]))], [(e1_3, .inl (ca 3, 33, .inr (.inr (.inr (.inr (va_cpy f_ (fun _ => none) 0 0 22))))))], orW L_] [] hP
  have hD : va_D A (fl [[(la_, .inr (9, [.int mc_, .ref e1_3, .int (nI 22)]))], [(e1_3, .inl (ca 3, 33, .inr (.inr (.inr (.inr (va_cpy f_ (fun _ => none) 0 0 22))))))], orW L_]) := fl_joinD [[(la_, .inr (9, [.int mc_, .ref e1_3, .int (nI 22)]))], [(e1_3, .inl (ca 3, 33, .inr (.inr (.inr (.inr (va_cpy f_ (fun _ => none) 0 0 22))))))], orW L_] [] hD
  subst hQQ
  exact xe_ra (ad := fun (u_ : Nat) => u_) e1_3 hx hb hr hlocks hK hP hD hS (trivial) dJ22_grow_10
set_option maxHeartbeats 800000 in
set_option maxRecDepth 100000 in
theorem mt_J22_add_2_q22 (l : Launch) (D : va_G) (ca : Nat → ClassId) (la_ : Nat) (mc_ : Int32) (ea_ : Nat) (f_ : Nat → Option Nat) (L_ : List (Nat × Nat × Nat × Nat)) (oa_ : Nat) (s0_ : Int32) (s1_ : Int32) (s2_ : Int32) (hLs : LsOk f_ L_) (hLn : L_.length = 22) (nn : Nat) : Met l yJ22_add_2 (ws_ yJ22_add_2 cJ22_add_2 4 (Option.none : Option Jvm.ClassFile.FieldType)) ({ frames := 5, cells := 1, slots := 33, locals := 147 } : Room) (va_Pc [.ref la_, .ref oa_, .ref ea_, .int (nI 22)] (PreW EvL D vwCl (TY ca) (fl [[(la_, .inr (9, [.int mc_, .ref ea_, .int (nI 22)]))], [(ea_, .inl (ca 3, 22, .inr (.inr (.inr (.inr (f_))))))], [(oa_, .inr (4, [.int s0_, .int s1_, .int s2_]))], (orW L_)]) nn)) (va_Qv (fun (u_ : Nat) => True) (PostW D vwCl (TY ca) (fun (u_ : Nat) => (fl [[(la_, .inr (9, [.int mc_, .ref u_, .int (nI 23)]))], [(u_, .inl (ca 3, 33, .inr (.inr (.inr (.inr (va_up (va_cpy f_ (fun _ => none) 0 0 22) 22 (some oa_)))))))], [(oa_, .inr (4, [.int s0_, .int s1_, .int s2_]))], (orW L_)])) (va_A (fl [[(la_, .inr (9, [.int mc_, .ref ea_, .int (nI 22)]))], [(ea_, .inl (ca 3, 22, .inr (.inr (.inr (.inr (f_))))))], [(oa_, .inr (4, [.int s0_, .int s1_, .int s2_]))], (orW L_)]) nn)) (va_A (fl [[(la_, .inr (9, [.int mc_, .ref ea_, .int (nI 22)]))], [(ea_, .inl (ca 3, 22, .inr (.inr (.inr (.inr (f_))))))], [(oa_, .inr (4, [.int s0_, .int s1_, .int s2_]))], (orW L_)]) nn)) 1 33 (va_A (fl [[(la_, .inr (9, [.int mc_, .ref ea_, .int (nI 22)]))], [(ea_, .inl (ca 3, 22, .inr (.inr (.inr (.inr (f_))))))], [(oa_, .inr (4, [.int s0_, .int s1_, .int s2_]))], (orW L_)]) nn) := by
  refine met_go2 (QA := fun A => va_Qv (fun (u_ : Nat) => True) (PostW D vwCl (TY ca) (fun (u_ : Nat) => (fl [[(la_, .inr (9, [.int mc_, .ref u_, .int (nI 23)]))], [(u_, .inl (ca 3, 33, .inr (.inr (.inr (.inr (va_up (va_cpy f_ (fun _ => none) 0 0 22) 22 (some oa_)))))))], [(oa_, .inr (4, [.int s0_, .int s1_, .int s2_]))], (orW L_)])) A) A) (by decide) (Nat.le_of_ble_eq_true rfl) (fun p e s m below meth c A ls QQ hQQ hmn hnm hx hb hr hts hown hlocks hml hA hP hK hD hE hl => ?_)
  have hown : s.vm.findClass RJ22 = some m.cls := hown
  have hS : va_S A s.heap s.heap [] := va_S.rf
  have hl : lv_has ls 4 [(0, .ref la_), (1, .ref oa_), (2, .ref ea_), (3, .int (nI 22))] := hl
  generalize hHe : s.heap = H at hP ⊢
  have hS : va_S A s.heap H [] := hHe ▸ hS
  generalize ([] : List Loc) = locs at hS ⊢
  refine lv_iload_n hx hb dJ22_add_2_0 rfl (lv_at hl 3 rfl) ?_
  refine lv_aload_n hx hb dJ22_add_2_1 rfl (lv_at hl 2 rfl) ?_
  refine va_alen hx hb hK hP 1 3 rfl rfl rfl dJ22_add_2_2 (lv_topi (nm_r (e' := nI 22) rfl ?_))
  refine nv_icmp_ne (tgt := 11) hx hb dJ22_add_2_3 (by decide) (by omega) (by omega) (fun c_3 => absurd c_3 (by decide)) (fun c_3 => ?_)
  refine lv_aload_n hx hb dJ22_add_2_6 rfl (lv_at hl 0 rfl) ?_
  have hP : va_P D vwCl (fl [[(la_, .inr (9, [.int mc_, .ref ea_, .int (nI 22)]))], [(ea_, .inl (ca 3, 22, .inr (.inr (.inr (.inr (f_))))))], (orW L_), [(oa_, .inr (4, [.int s0_, .int s1_, .int s2_]))]]) H := mvP hP [0, 1, 3, 2]
  have hD : va_D A (fl [[(la_, .inr (9, [.int mc_, .ref ea_, .int (nI 22)]))], [(ea_, .inl (ca 3, 22, .inr (.inr (.inr (.inr (f_))))))], (orW L_), [(oa_, .inr (4, [.int s0_, .int s1_, .int s2_]))]]) := mvD hD [0, 1, 3, 2] (by decide)
  refine xc_r (xr_V (b := la_) (ci := 9) (q0 := 0) (As := []) (rest := []) (mt_J22_grow_q22 l D ca la_ mc_ ea_ f_ L_ (by first | assumption | omega | (simp only [updN, forgetC, changedC]; (repeat' split) <;> omega)) (by first | assumption | omega | (simp only [updN, forgetC, changedC]; (repeat' split) <;> omega)) H.size) ⟨hx, hb, hml, hown, hts⟩ (cwV 0 hts (lw_V q965 q967 qs15 q107 q968) rfl rfl rfl (by decide +kernel) ⟨Nat.le_of_ble_eq_true rfl, Nat.le_of_ble_eq_true rfl⟩) EvL_ok hE hK hS (Cut.ch [[(la_, .inr (9, [.int mc_, .ref ea_, .int (nI 22)]))], [(ea_, .inl (ca 3, 22, .inr (.inr (.inr (.inr (f_))))))], (orW L_)] [[(oa_, .inr (4, [.int s0_, .int s1_, .int s2_]))]] hP hD hS hA) rfl rfl rfl hl.1 rfl (Nat.le_of_ble_eq_true rfl) dJ22_add_2_7 ⟨Nat.le_of_ble_eq_true rfl, Nat.le_of_ble_eq_true rfl⟩) hS (Cut.ch [[(la_, .inr (9, [.int mc_, .ref ea_, .int (nI 22)]))], [(ea_, .inl (ca 3, 22, .inr (.inr (.inr (.inr (f_))))))], (orW L_)] [[(oa_, .inr (4, [.int s0_, .int s1_, .int s2_]))]] hP hD hS hA) (fun u_2 H locs hq_7 hP hD hS => ?_)
  obtain ⟨e1_3, rfl⟩ : ∃ z_, z_ = u_2 := ⟨_, rfl⟩
  have hP : va_P D vwCl (fl [[(la_, .inr (9, [.int mc_, .ref e1_3, .int (nI 22)]))], [(e1_3, .inl (ca 3, 33, .inr (.inr (.inr (.inr (va_cpy f_ (fun _ => none) 0 0 22))))))], orW L_, [(oa_, .inr (4, [.int s0_, .int s1_, .int s2_]))]]) H := fl_join [[(la_, .inr (9, [.int mc_, .ref e1_3, .int (nI 22)]))], [(e1_3, .inl (ca 3, 33, .inr (.inr (.inr (.inr (va_cpy f_ (fun _ => none) 0 0 22))))))], orW L_] [[(oa_, .inr (4, [.int s0_, .int s1_, .int s2_]))]] hP
  have hD : va_D A (fl [[(la_, .inr (9, [.int mc_, .ref e1_3, .int (nI 22)]))], [(e1_3, .inl (ca 3, 33, .inr (.inr (.inr (.inr (va_cpy f_ (fun _ => none) 0 0 22))))))], orW L_, [(oa_, .inr (4, [.int s0_, .int s1_, .int s2_]))]]) := fl_joinD [[(la_, .inr (9, [.int mc_, .ref e1_3, .int (nI 22)]))], [(e1_3, .inl (ca 3, 33, .inr (.inr (.inr (.inr (va_cpy f_ (fun _ => none) 0 0 22))))))], orW L_] [[(oa_, .inr (4, [.int s0_, .int s1_, .int s2_]))]] hD
  have hP : va_P D vwCl (fl [[(la_, .inr (9, [.int mc_, .ref e1_3, .int (nI 22)]))], [(e1_3, .inl (ca 3, 33, .inr (.inr (.inr (.inr (va_cpy f_ (fun _ => none) 0 0 22))))))], [(oa_, .inr (4, [.int s0_, .int s1_, .int s2_]))], orW L_]) H := mvP hP [0, 1, 3, 2]
  have hD : va_D A (fl [[(la_, .inr (9, [.int mc_, .ref e1_3, .int (nI 22)]))], [(e1_3, .inl (ca 3, 33, .inr (.inr (.inr (.inr (va_cpy f_ (fun _ => none) 0 0 22))))))], [(oa_, .inr (4, [.int s0_, .int s1_, .int s2_]))], orW L_]) := mvD hD [0, 1, 3, 2] (by decide)
  refine lv_astore_n (lv' := [(2, .ref e1_3), (0, .ref la_), (1, .ref oa_), (3, .int (nI 22))]) hx hb dJ22_add_2_10 rfl hl (by decide) rfl (fun ls hl => ?_)
  refine lv_aload_n hx hb dJ22_add_2_11 rfl (lv_at hl 0 rfl) ?_
  refine lv_iload_n hx hb dJ22_add_2_12 rfl (lv_at hl 3 rfl) ?_
  refine lv_aload_n hx hb dJ22_add_2_13 rfl (lv_at hl 2 rfl) ?_
  refine nv_aast hx hb hK hP hD hS 1 3 2 4 rfl rfl (hE.1.1.1.1 _ q2073 rfl) rfl rfl (by omega) (by decide) dJ22_add_2_14 (fun H locs hP hD hS => ?_)
  have hP : va_P D vwCl (fl [[(la_, .inr (9, [.int mc_, .ref e1_3, .int (nI 22)]))], [(e1_3, .inl (ca 3, 33, .inr (.inr (.inr (.inr (va_up (va_cpy f_ (fun _ => none) 0 0 22) 22 (some oa_)))))))], [(oa_, .inr (4, [.int s0_, .int s1_, .int s2_]))], orW L_]) H := hP
  have hD : va_D A (fl [[(la_, .inr (9, [.int mc_, .ref e1_3, .int (nI 22)]))], [(e1_3, .inl (ca 3, 33, .inr (.inr (.inr (.inr (va_up (va_cpy f_ (fun _ => none) 0 0 22) 22 (some oa_)))))))], [(oa_, .inr (4, [.int s0_, .int s1_, .int s2_]))], orW L_]) := hD
  refine lv_aload_n hx hb dJ22_add_2_15 rfl (lv_at hl 1 rfl) ?_
  refine lv_iload_n hx hb dJ22_add_2_16 rfl (lv_at hl 3 rfl) ?_
  refine lv_iconst (v := nI 1) hx hb dJ22_add_2_17 (by decide) ?_
  refine lv_iadd hx hb dJ22_add_2_18 (lv_topi (nm_r (e' := nI 23) (by decide) ?_))
  refine va_put (D := D) (ci := 9) (v := .int (nI 23)) (ty := .int) (C := RJ22) (T := TJ22) (N := 3) hx hb hts in_J22 tyJ22 tyJ22_ok nmJ22 hown hK hP hD hS 0 rfl rfl 2 (by decide) (hts _ q818) (fun _ h9 => h9) rfl (by decide +kernel) rfl rfl (Nat.le_of_ble_eq_true rfl) dJ22_add_2_19 (fun H locs hP hD hS => ?_)
  have hP : va_P D vwCl (fl [[(la_, .inr (9, [.int mc_, .ref e1_3, .int (nI 23)]))], [(e1_3, .inl (ca 3, 33, .inr (.inr (.inr (.inr (va_up (va_cpy f_ (fun _ => none) 0 0 22) 22 (some oa_)))))))], [(oa_, .inr (4, [.int s0_, .int s1_, .int s2_]))], orW L_]) H := hP
  have hD : va_D A (fl [[(la_, .inr (9, [.int mc_, .ref e1_3, .int (nI 23)]))], [(e1_3, .inl (ca 3, 33, .inr (.inr (.inr (.inr (va_up (va_cpy f_ (fun _ => none) 0 0 22) 22 (some oa_)))))))], [(oa_, .inr (4, [.int s0_, .int s1_, .int s2_]))], orW L_]) := hD
  subst hQQ
  exact xe_v e1_3 hx hb hr hlocks hK hP hD hS (trivial) dJ22_add_2_22
set_option maxHeartbeats 800000 in
set_option maxRecDepth 100000 in
theorem mt_J22_add_q22 (l : Launch) (D : va_G) (ca : Nat → ClassId) (la_ : Nat) (mc_ : Int32) (ea_ : Nat) (f_ : Nat → Option Nat) (L_ : List (Nat × Nat × Nat × Nat)) (oa_ : Nat) (s0_ : Int32) (s1_ : Int32) (s2_ : Int32) (hLs : LsOk f_ L_) (hLn : L_.length = 22) (nn : Nat) : Met l yJ22_add (ws_ yJ22_add cJ22_add 2 (Option.some Jvm.ClassFile.FieldType.boolean)) ({ frames := 6, cells := 1, slots := 33, locals := 170 } : Room) (va_Pc [.ref la_, .ref oa_] (PreW EvL D vwCl (TY ca) (fl [[(la_, .inr (9, [.int mc_, .ref ea_, .int (nI 22)]))], [(ea_, .inl (ca 3, 22, .inr (.inr (.inr (.inr (f_))))))], [(oa_, .inr (4, [.int s0_, .int s1_, .int s2_]))], (orW L_)]) nn)) (va_Qi (fun (r_ : Int32) (u_ : Nat) => r_ = bI true) (PostW D vwCl (TY ca) (fun (u_ : Nat) => (fl [[(la_, .inr (9, [.int (mc_ + nI 1), .ref u_, .int (nI 23)]))], [(u_, .inl (ca 3, 33, .inr (.inr (.inr (.inr (va_up (va_cpy f_ (fun _ => none) 0 0 22) 22 (some oa_)))))))], [(oa_, .inr (4, [.int s0_, .int s1_, .int s2_]))], (orW L_)])) (va_A (fl [[(la_, .inr (9, [.int mc_, .ref ea_, .int (nI 22)]))], [(ea_, .inl (ca 3, 22, .inr (.inr (.inr (.inr (f_))))))], [(oa_, .inr (4, [.int s0_, .int s1_, .int s2_]))], (orW L_)]) nn)) (va_A (fl [[(la_, .inr (9, [.int mc_, .ref ea_, .int (nI 22)]))], [(ea_, .inl (ca 3, 22, .inr (.inr (.inr (.inr (f_))))))], [(oa_, .inr (4, [.int s0_, .int s1_, .int s2_]))], (orW L_)]) nn)) 1 33 (va_A (fl [[(la_, .inr (9, [.int mc_, .ref ea_, .int (nI 22)]))], [(ea_, .inl (ca 3, 22, .inr (.inr (.inr (.inr (f_))))))], [(oa_, .inr (4, [.int s0_, .int s1_, .int s2_]))], (orW L_)]) nn) := by
  refine met_go2 (QA := fun A => va_Qi (fun (r_ : Int32) (u_ : Nat) => r_ = bI true) (PostW D vwCl (TY ca) (fun (u_ : Nat) => (fl [[(la_, .inr (9, [.int (mc_ + nI 1), .ref u_, .int (nI 23)]))], [(u_, .inl (ca 3, 33, .inr (.inr (.inr (.inr (va_up (va_cpy f_ (fun _ => none) 0 0 22) 22 (some oa_)))))))], [(oa_, .inr (4, [.int s0_, .int s1_, .int s2_]))], (orW L_)])) A) A) (by decide) (Nat.le_of_ble_eq_true rfl) (fun p e s m below meth c A ls QQ hQQ hmn hnm hx hb hr hts hown hlocks hml hA hP hK hD hE hl => ?_)
  have hown : s.vm.findClass RJ22 = some m.cls := hown
  have hS : va_S A s.heap s.heap [] := va_S.rf
  have hl : lv_has ls 2 [(0, .ref la_), (1, .ref oa_)] := hl
  generalize hHe : s.heap = H at hP ⊢
  have hS : va_S A s.heap H [] := hHe ▸ hS
  generalize ([] : List Loc) = locs at hS ⊢
  refine lv_aload_n hx hb dJ22_add_0 rfl (lv_at hl 0 rfl) ?_
  refine lv_dup hx hb dJ22_add_1 rfl ?_
  refine va_get (D := D) (ci := 9) (v := .int mc_) (C := RJ22) (T := TJ22) (N := 3) hx hb hts in_J22 hown hK hP 0 rfl rfl 0 (by decide) (hts _ q820) (fun x9 h9 => u_same (hts _ q821) x9 h9) rfl dJ22_add_2 ?_
  refine lv_iconst (v := nI 1) hx hb dJ22_add_5 (by decide) ?_
  refine lv_iadd hx hb dJ22_add_6 ?_
  refine va_put (D := D) (ci := 9) (v := .int (mc_ + (nI 1))) (ty := .int) (C := RJ22) (T := TJ22) (N := 3) hx hb hts in_J22 tyJ22 tyJ22_ok nmJ22 hown hK hP hD hS 0 rfl rfl 0 (by decide) (hts _ q820) (fun x9 h9 => u_same (hts _ q821) x9 h9) rfl (by decide +kernel) rfl rfl (Nat.le_of_ble_eq_true rfl) dJ22_add_7 (fun H locs hP hD hS => ?_)
  have hP : va_P D vwCl (fl [[(la_, .inr (9, [.int (mc_ + (nI 1)), .ref ea_, .int (nI 22)]))], [(ea_, .inl (ca 3, 22, .inr (.inr (.inr (.inr (f_))))))], [(oa_, .inr (4, [.int s0_, .int s1_, .int s2_]))], (orW L_)]) H := hP
  have hD : va_D A (fl [[(la_, .inr (9, [.int (mc_ + (nI 1)), .ref ea_, .int (nI 22)]))], [(ea_, .inl (ca 3, 22, .inr (.inr (.inr (.inr (f_))))))], [(oa_, .inr (4, [.int s0_, .int s1_, .int s2_]))], (orW L_)]) := hD
  refine lv_aload_n hx hb dJ22_add_10 rfl (lv_at hl 0 rfl) ?_
  refine lv_aload_n hx hb dJ22_add_11 rfl (lv_at hl 1 rfl) ?_
  refine lv_aload_n hx hb dJ22_add_12 rfl (lv_at hl 0 rfl) ?_
  refine va_get (D := D) (ci := 9) (v := .ref ea_) (C := RJ22) (T := TJ22) (N := 3) hx hb hts in_J22 hown hK hP 0 rfl rfl 1 (by decide) (hts _ q817) (fun _ h9 => h9) rfl dJ22_add_13 ?_
  refine lv_aload_n hx hb dJ22_add_16 rfl (lv_at hl 0 rfl) ?_
  refine va_get (D := D) (ci := 9) (v := .int (nI 22)) (C := RJ22) (T := TJ22) (N := 3) hx hb hts in_J22 hown hK hP 0 rfl rfl 2 (by decide) (hts _ q818) (fun _ h9 => h9) rfl dJ22_add_17 ?_
  refine xc_v (xr_V (b := la_) (ci := 9) (q0 := 0) (As := [.ref oa_, .ref ea_, .int (nI 22)]) (rest := []) (mt_J22_add_2_q22 l D ca la_ (mc_ + (nI 1)) ea_ f_ L_ oa_ s0_ s1_ s2_ (by first | assumption | omega | (simp only [updN, forgetC, changedC]; (repeat' split) <;> omega)) (by first | assumption | omega | (simp only [updN, forgetC, changedC]; (repeat' split) <;> omega)) H.size) ⟨hx, hb, hml, hown, hts⟩ (cwV 3 hts (lw_V q961 q963 qs14 q107 q964) rfl rfl rfl (by decide +kernel) ⟨Nat.le_of_ble_eq_true rfl, Nat.le_of_ble_eq_true rfl⟩) EvL_ok hE hK hS (Cut.ch [[(la_, .inr (9, [.int (mc_ + (nI 1)), .ref ea_, .int (nI 22)]))], [(ea_, .inl (ca 3, 22, .inr (.inr (.inr (.inr (f_))))))], [(oa_, .inr (4, [.int s0_, .int s1_, .int s2_]))], (orW L_)] [] hP hD hS hA) rfl rfl rfl hl.1 rfl (Nat.le_of_ble_eq_true rfl) dJ22_add_20 ⟨Nat.le_of_ble_eq_true rfl, Nat.le_of_ble_eq_true rfl⟩) hS (Cut.ch [[(la_, .inr (9, [.int (mc_ + (nI 1)), .ref ea_, .int (nI 22)]))], [(ea_, .inl (ca 3, 22, .inr (.inr (.inr (.inr (f_))))))], [(oa_, .inr (4, [.int s0_, .int s1_, .int s2_]))], (orW L_)] [] hP hD hS hA) (fun u_2 H locs hq_20 hP hD hS => ?_)
  obtain ⟨e1_3, rfl⟩ : ∃ z_, z_ = u_2 := ⟨_, rfl⟩
  have hP : va_P D vwCl (fl [[(la_, .inr (9, [.int (mc_ + (nI 1)), .ref e1_3, .int (nI 23)]))], [(e1_3, .inl (ca 3, 33, .inr (.inr (.inr (.inr (va_up (va_cpy f_ (fun _ => none) 0 0 22) 22 (some oa_)))))))], [(oa_, .inr (4, [.int s0_, .int s1_, .int s2_]))], orW L_]) H := fl_join [[(la_, .inr (9, [.int (mc_ + (nI 1)), .ref e1_3, .int (nI 23)]))], [(e1_3, .inl (ca 3, 33, .inr (.inr (.inr (.inr (va_up (va_cpy f_ (fun _ => none) 0 0 22) 22 (some oa_)))))))], [(oa_, .inr (4, [.int s0_, .int s1_, .int s2_]))], orW L_] [] hP
  have hD : va_D A (fl [[(la_, .inr (9, [.int (mc_ + (nI 1)), .ref e1_3, .int (nI 23)]))], [(e1_3, .inl (ca 3, 33, .inr (.inr (.inr (.inr (va_up (va_cpy f_ (fun _ => none) 0 0 22) 22 (some oa_)))))))], [(oa_, .inr (4, [.int s0_, .int s1_, .int s2_]))], orW L_]) := fl_joinD [[(la_, .inr (9, [.int (mc_ + (nI 1)), .ref e1_3, .int (nI 23)]))], [(e1_3, .inl (ca 3, 33, .inr (.inr (.inr (.inr (va_up (va_cpy f_ (fun _ => none) 0 0 22) 22 (some oa_)))))))], [(oa_, .inr (4, [.int s0_, .int s1_, .int s2_]))], orW L_] [] hD
  refine lv_iconst (v := nI 1) hx hb dJ22_add_23 (by decide) ?_
  subst hQQ
  refine (xe_z (b := true) e1_3 hx hb hr hlocks hK hP hD hS (rfl) dJ22_add_24)
