/-! String.indexOf on literals -/
set_option maxRecDepth 100000
section SROWS
variable {p : Program} {l : Launch} {e : Env} {R : Room} {s : State} {m : MethodId} {args : Array Value} {below : List Frame} {meth : Method} {c : Code} {H : Heap} {locs : List Loc} {cells slots : Nat} {Q : State → Prop}
variable {cc : ByteArray} {pc : Nat} {ls : Array Slot} {rest : List Value}
theorem va_ldcwS (hexec : p.tables.exec = Jvm.exec) (hb : c.code = cc) {own tx : String} {index q : Nat} (hown : s.vm.findClass own = some m.cls) (hZ : vk_R own index tx q s) (hdg : decode cc pc = .ok (.ldc_w index, 3))
    (k : W p l e R s m args below meth c H locs cells slots Q (F0 m (pc + 3) ls (.ref q :: rest))) : W p l e R s m args below meth c H locs cells slots Q (F0 m pc ls rest) := by
  intro T hT X
  obtain ⟨t, a1, b1⟩ := k T hT X
  refine ⟨t, ?_, b1⟩
  obtain ⟨k0, cf, i, a', hk, hcf, hcp, -, hr, hev'⟩ := Cond.stringRef_spec hown hZ.1
  cases hZ.2.symm.trans hev'
  obtain ⟨k', hk', he⟩ := X.warmed.alike.2.2 _ _ hk
  have hr' : k'.resolved[index]? = some (some (.string q)) := by
    rcases X.warmed.entry hk hk' index with h | ⟨h, -⟩
    · rw [h]; exact hr
    · rw [hr] at h; cases h
  have hdg' : decode c.code (F0 m pc ls rest).pc = .ok (.ldc_w index, 3) := by rw [hb]; exact hdg
  jvm_step X.here [hexec, hdg', ldc_w.wp_string (e := e) (s := T) (f := F0 m pc ls rest) X.here.top hk' (by rw [he]; exact hcf) hcp hr']
  exact a1
/-- the surroundings of a literal's methods: the literal at a, its bytes bf at v -/
def EvS (bf : Nat → Int32) (n a v : Nat) (A : Nat → Prop) (s : State) : Prop := EvZ A s ∧ va_O "java/lang/String" a A s s.heap ∧ va_OF "java/lang/String" "coder" "B" (.int (nI 0)) a A s s.heap ∧ va_OF "java/lang/String" "value" "[B" (.ref v) a A s s.heap ∧ va_T .byte v n (fun j => .int (bf j)) A s s.heap
theorem EvS_ok (bf : Nat → Int32) (n a v : Nat) : EvOk (EvS bf n a v) := by
  intro A A1 s U hE hW hq hs
  obtain ⟨h1, h2, h3, h4, h5⟩ := hE
  have hq' : ∀ q : Nat, q < s.heap.size → ¬ A q → U.heap[q]? = s.heap[q]? := hq
  exact ⟨EvZ_ok A A1 s U h1 hW hq hs, ((h2.kept hq').moved hW.alike).narrow hs, ((h3.kept hq').moved hW.alike).narrow hs, ((h4.kept hq').moved hW.alike).narrow hs, ((h5.kept hq').moved hW.alike).narrow hs⟩
theorem vs_recv {A : Nat → Prop} {bf : Nat → Int32} {n a v : Nat} (hE : EvS bf n a v A s) (hS : va_S A s.heap H locs) : ∃ cell : Cell, H[a]? = some cell ∧ cell.vm.isStatics = false ∧ s.vm.findClass "java/lang/String" = some cell.cls := by
  obtain ⟨cell, h1, h2, h3, -⟩ := hE.2.1.kept hS.2.1
  exact ⟨cell, h1, h2, h3⟩
theorem xr_VR {Ev : (Nat → Prop) → State → Prop} {D : va_G} {cl : List vw_C} {tys : List (ClassId × FieldType)} {A : Nat → Prop} {wc : va_W} {J : va_W → va_W} {y : MethodName} {bytes : ByteArray} {maxL nL mc ms n index : Nat} {ret : Option FieldType} {wy : List Cond} {rm : Room} {Qc : Array Value → State → Outcome → State → Prop} {free : Addr → Prop} {Ts : List Cond} {own C0 : String} {As st0 : List Value} {b : Nat}
    (hM : Met l y wy rm (va_Pc (.ref b :: As) (PreW Ev D cl tys wc H.size)) Qc mc ms free) (C : CallFix p m c cc nL s args Ts own) (cw : CallW R s args own C0 index y bytes maxL ret wy rm mc ms n) (hEv : EvOk Ev) (hE : Ev A s) (hK : va_K D cl tys s) (hS : va_S A s.heap H locs) (cut : Cut D cl A wc J H)
    (hr : ∃ cell : Cell, H[b]? = some cell ∧ cell.vm.isStatics = false ∧ s.vm.findClass C0 = some cell.cls) (hn : As.length = n) (hsize : ls.size = nL) (hst : st0 = As.reverse ++ .ref b :: rest) (hW : (rest.map fun v => v.category).sum ≤ 8) (hdg : decode cc pc = .ok (.invokevirtual index, 3)) (hf : cells + mc ≤ R.cells ∧ slots + ms ≤ R.slots) :
    va_Run p l e R s m args below meth c H locs cells slots mc ms (F0 m pc ls st0) rest (Qc (Value.ref b :: As).toArray) free :=
  va_runV (As := As) (rest := rest) C hM cw ⟨(xc_pre (As := .ref b :: As) hEv hE hK hS cut).1, hr, (xc_pre hEv hE hK hS cut).2⟩ rfl hn hsize hst (lv_room hW) hdg hf
theorem xe_b {S : Type} {D : va_G} {cl : List vw_C} {tys : List (ClassId × FieldType)} {A : Nat → Prop} {wf : S → va_W} {post : Int32 → S → Prop} {v : Int32} (u : S) (hx : p.tables.exec = Jvm.exec) (hb : c.code = cc) (hr : meth.sig.returnType = some .byte) (hn : narrow .byte (.int v) = .int v) (hlocks : meth.locks = false) (hK : va_K D cl tys s) (hP : va_P D cl (wf u) H) (hD : va_D A (wf u)) (hS : va_S A s.heap H locs) (hpost : post v u) (hdg : decode cc pc = .ok (.ireturn, 1)) : W p l e R s m args below meth c H locs cells slots (MQ below (va_Qi post (PostW D cl tys wf A) A) args s cells slots A) (F0 m pc ls [.int v]) := W.zret hx hb hr hn (fun t ht hW => ⟨⟨v, u, rfl, hpost, by rw [ht]; exact hP, va_K.moved hW.alike hK, hD⟩, hS.F ht⟩) hS.2.2 hdg hlocks
end SROWS
/-- the first place of c from i on, one more; 0 if there is none -/
def ixN (bf : Nat → Int32) (c : Int32) : Nat → Nat → Nat
  | 0, _ => 0
  | k + 1, i => if bf i = c then i + 1 else ixN bf c k (i + 1)
def bf0 : Nat → Int32 := fun j => (([[65, 79, 88, 78, 82, 83, 73, 67], [62, 35, 63, 37]] : List (List Int32)).getD 0 []).getD j 0
def bf1 : Nat → Int32 := fun j => (([[65, 79, 88, 78, 82, 83, 73, 67], [62, 35, 63, 37]] : List (List Int32)).getD 1 []).getD j 0
theorem ix_kf : ∀ c, c < 127 → ixN bf0 (nI c) 8 0 = kf c := by decide +kernel
theorem ix_sg : ∀ c, c < 127 → (ixN bf1 (nI c) 4 0 = 0 ↔ ¬ (c = 62 ∨ c = 35 ∨ c = 63 ∨ c = 37)) := by decide +kernel
theorem evs_0 {A : Nat → Prop} {s : State} {adK adV : Nat → Nat} (hE : EvZ A s) (h : vk_S 2 [8, 4] [[65, 79, 88, 78, 82, 83, 73, 67], [62, 35, 63, 37]] adK adV A s s.heap) : EvS bf0 8 (adK 0) (adV 0) A s := ⟨hE, h.1 0 (by decide)⟩
theorem evs_1 {A : Nat → Prop} {s : State} {adK adV : Nat → Nat} (hE : EvZ A s) (h : vk_S 2 [8, 4] [[65, 79, 88, 78, 82, 83, 73, 67], [62, 35, 63, 37]] adK adV A s s.heap) : EvS bf1 4 (adK 1) (adV 1) A s := ⟨hE, h.1 1 (by decide)⟩
set_option maxHeartbeats 400000 in
set_option maxRecDepth 100000 in
theorem mt_J18_canEncode (l : Launch) (D : va_G) (ca : Nat → ClassId) (c_ : Nat) (hc : c_ < 128) (nn : Nat) : Met l yJ18_canEncode (ws_ yJ18_canEncode cJ18_canEncode 1 (Option.some Jvm.ClassFile.FieldType.boolean)) ({ frames := 0, cells := 0, slots := 0, locals := 0 } : Room) (va_Pc [.int (nI c_)] (PreW Ev0 D vwCl (TY ca) (fl []) nn)) (va_Qi (fun (r_ : Int32) (_ : Unit) => r_ = bI true) (PostW D vwCl (TY ca) (fun (_ : Unit) => (fl [])) (va_A (fl []) nn)) (va_A (fl []) nn)) 0 0 (va_A (fl []) nn) := by
  refine met_go2 (QA := fun A => va_Qi (fun (r_ : Int32) (_ : Unit) => r_ = bI true) (PostW D vwCl (TY ca) (fun (_ : Unit) => (fl [])) A) A) (by decide) (Nat.le_of_ble_eq_true rfl) (fun p e s m below meth c A ls QQ hQQ hmn hnm hx hb hr hts hown hlocks hml hA hP hK hD hE hl => ?_)
  have hown : s.vm.findClass RJ18 = some m.cls := hown
  have hS : va_S A s.heap s.heap [] := va_S.rf
  have hl : lv_has ls 1 [(0, .int (nI c_))] := hl
  generalize hHe : s.heap = H at hP ⊢
  have hS : va_S A s.heap H [] := hHe ▸ hS
  generalize ([] : List Loc) = locs at hS ⊢
  refine lv_iload_n hx hb dJ18_canEncode_0 rfl (lv_at hl 0 rfl) ?_
  refine nv_if_lt hx hb dJ18_canEncode_1 (tgt := 15) (by decide) (by omega) ?_
  refine lv_iload_n hx hb dJ18_canEncode_4 rfl (lv_at hl 0 rfl) ?_
  refine lv_sipush (v := nI 255) hx hb dJ18_canEncode_5 (by decide) ?_
  refine nv_icmp_gt (tgt := 15) hx hb dJ18_canEncode_8 (by decide) (by omega) (by omega) (fun c_8 => absurd c_8 (by omega)) (fun c_8 => ?_)
  refine lv_iconst (v := nI 1) hx hb dJ18_canEncode_11 (by decide) ?_
  refine lv_goto (tgt := 16) hx hb dJ18_canEncode_12 (by decide) ?_
  subst hQQ
  refine (xe_z (b := true) () hx hb hr hlocks hK hP hD hS (rfl) dJ18_canEncode_16)
set_option maxHeartbeats 400000 in
set_option maxRecDepth 100000 in
theorem mt_J4_isLatin1 (l : Launch) (D : va_G) (ca : Nat → ClassId) (bf_ : Nat → Int32) (n_ : Nat) (a_ : Nat) (v_ : Nat)  (nn : Nat) : Met l yJ4_isLatin1 (ws_ yJ4_isLatin1 cJ4_isLatin1 1 (Option.some Jvm.ClassFile.FieldType.boolean)) ({ frames := 0, cells := 0, slots := 0, locals := 0 } : Room) (va_Pc [.ref a_] (PreW (EvS bf_ n_ a_ v_) D vwCl (TY ca) (fl []) nn)) (va_Qi (fun (r_ : Int32) (_ : Unit) => r_ = bI true) (PostW D vwCl (TY ca) (fun (_ : Unit) => (fl [])) (va_A (fl []) nn)) (va_A (fl []) nn)) 0 0 (va_A (fl []) nn) := by
  refine met_go2 (QA := fun A => va_Qi (fun (r_ : Int32) (_ : Unit) => r_ = bI true) (PostW D vwCl (TY ca) (fun (_ : Unit) => (fl [])) A) A) (by decide) (Nat.le_of_ble_eq_true rfl) (fun p e s m below meth c A ls QQ hQQ hmn hnm hx hb hr hts hown hlocks hml hA hP hK hD hE hl => ?_)
  have hown : s.vm.findClass RJ4 = some m.cls := hown
  have hS : va_S A s.heap s.heap [] := va_S.rf
  have hl : lv_has ls 1 [(0, .ref a_)] := hl
  generalize hHe : s.heap = H at hP ⊢
  have hS : va_S A s.heap H [] := hHe ▸ hS
  generalize ([] : List Loc) = locs at hS ⊢
  refine va_gets (v := .int (nI 1)) hx hb hE.1.2.2.1 hS hown (hts _ q596) (fun _ h9 => h9) dJ4_isLatin1_0 ?_
  refine nv_if_eq (tgt := 17) hx hb dJ4_isLatin1_3 (by decide) (by omega) (fun c_3 => absurd c_3 (by decide)) (fun c_3 => ?_)
  refine lv_aload_n hx hb dJ4_isLatin1_6 rfl (lv_at hl 0 rfl) ?_
  refine vk_getf (v := .int (nI 0)) hx hb hE.2.2.1 hS hown (hts _ q720) (fun _ h9 => h9) dJ4_isLatin1_7 ?_
  refine nv_if_ne (tgt := 17) hx hb dJ4_isLatin1_10 (by decide) (by omega) (fun c_10 => absurd c_10 (by decide)) (fun c_10 => ?_)
  refine lv_iconst (v := nI 1) hx hb dJ4_isLatin1_13 (by decide) ?_
  refine lv_goto (tgt := 18) hx hb dJ4_isLatin1_14 (by decide) ?_
  subst hQQ
  refine (xe_z (b := true) () hx hb hr hlocks hK hP hD hS (rfl) dJ4_isLatin1_18)
set_option maxHeartbeats 400000 in
set_option maxRecDepth 100000 in
theorem mt_J4_coder (l : Launch) (D : va_G) (ca : Nat → ClassId) (bf_ : Nat → Int32) (n_ : Nat) (a_ : Nat) (v_ : Nat)  (nn : Nat) : Met l yJ4_coder (ws_ yJ4_coder cJ4_coder 1 (Option.some Jvm.ClassFile.FieldType.byte)) ({ frames := 0, cells := 0, slots := 0, locals := 0 } : Room) (va_Pc [.ref a_] (PreW (EvS bf_ n_ a_ v_) D vwCl (TY ca) (fl []) nn)) (va_Qi (fun (r_ : Int32) (_ : Unit) => r_ = nI 0) (PostW D vwCl (TY ca) (fun (_ : Unit) => (fl [])) (va_A (fl []) nn)) (va_A (fl []) nn)) 0 0 (va_A (fl []) nn) := by
  refine met_go2 (QA := fun A => va_Qi (fun (r_ : Int32) (_ : Unit) => r_ = nI 0) (PostW D vwCl (TY ca) (fun (_ : Unit) => (fl [])) A) A) (by decide) (Nat.le_of_ble_eq_true rfl) (fun p e s m below meth c A ls QQ hQQ hmn hnm hx hb hr hts hown hlocks hml hA hP hK hD hE hl => ?_)
  have hown : s.vm.findClass RJ4 = some m.cls := hown
  have hS : va_S A s.heap s.heap [] := va_S.rf
  have hl : lv_has ls 1 [(0, .ref a_)] := hl
  generalize hHe : s.heap = H at hP ⊢
  have hS : va_S A s.heap H [] := hHe ▸ hS
  generalize ([] : List Loc) = locs at hS ⊢
  refine va_gets (v := .int (nI 1)) hx hb hE.1.2.2.1 hS hown (hts _ q596) (fun _ h9 => h9) dJ4_coder_0 ?_
  refine nv_if_eq (tgt := 13) hx hb dJ4_coder_3 (by decide) (by omega) (fun c_3 => absurd c_3 (by decide)) (fun c_3 => ?_)
  refine lv_aload_n hx hb dJ4_coder_6 rfl (lv_at hl 0 rfl) ?_
  refine vk_getf (v := .int (nI 0)) hx hb hE.2.2.1 hS hown (hts _ q720) (fun _ h9 => h9) dJ4_coder_7 ?_
  refine lv_goto (tgt := 14) hx hb dJ4_coder_10 (by decide) ?_
  subst hQQ
  exact xe_b (v := nI 0) () hx hb hr rfl hlocks hK hP hD hS (rfl) dJ4_coder_14
set_option maxHeartbeats 400000 in
set_option maxRecDepth 100000 in
theorem mt_J4_length (l : Launch) (D : va_G) (ca : Nat → ClassId) (bf_ : Nat → Int32) (n_ : Nat) (a_ : Nat) (v_ : Nat) (hn : n_ < 1000) (nn : Nat) : Met l yJ4_length (ws_ yJ4_length cJ4_length 1 (Option.some Jvm.ClassFile.FieldType.int)) ({ frames := 1, cells := 0, slots := 0, locals := 20 } : Room) (va_Pc [.ref a_] (PreW (EvS bf_ n_ a_ v_) D vwCl (TY ca) (fl []) nn)) (va_Qi (fun (r_ : Int32) (_ : Unit) => r_ = nI n_) (PostW D vwCl (TY ca) (fun (_ : Unit) => (fl [])) (va_A (fl []) nn)) (va_A (fl []) nn)) 0 0 (va_A (fl []) nn) := by
  refine met_go2 (QA := fun A => va_Qi (fun (r_ : Int32) (_ : Unit) => r_ = nI n_) (PostW D vwCl (TY ca) (fun (_ : Unit) => (fl [])) A) A) (by decide) (Nat.le_of_ble_eq_true rfl) (fun p e s m below meth c A ls QQ hQQ hmn hnm hx hb hr hts hown hlocks hml hA hP hK hD hE hl => ?_)
  have hown : s.vm.findClass RJ4 = some m.cls := hown
  have hS : va_S A s.heap s.heap [] := va_S.rf
  have hl : lv_has ls 1 [(0, .ref a_)] := hl
  generalize hHe : s.heap = H at hP ⊢
  have hS : va_S A s.heap H [] := hHe ▸ hS
  generalize ([] : List Loc) = locs at hS ⊢
  refine lv_aload_n hx hb dJ4_length_0 rfl (lv_at hl 0 rfl) ?_
  refine vk_getf (v := .ref v_) hx hb hE.2.2.2.1 hS hown (hts _ q719) (fun _ h9 => h9) dJ4_length_1 ?_
  refine va_tlen hx hb hE.2.2.2.2 hS (v := nI n_) rfl dJ4_length_4 ?_
  refine lv_aload_n hx hb dJ4_length_5 rfl (lv_at hl 0 rfl) ?_
  refine xc_i (xr_VR (b := a_) (As := []) (rest := [.int (nI n_)]) (mt_J4_coder l D ca bf_ n_ a_ v_  H.size) ⟨hx, hb, hml, hown, hts⟩ (cwV 0 hts (lw_V q592 q593 q594 q85 q595) rfl rfl rfl (by decide +kernel) ⟨Nat.le_of_ble_eq_true rfl, Nat.le_of_ble_eq_true rfl⟩) (EvS_ok _ _ _ _) hE hK hS (Cut.app (wc := []) (wr := (fl [])) hP hD hS hA) (vs_recv hE hS) rfl hl.1 rfl (Nat.le_of_ble_eq_true rfl) dJ4_length_6 ⟨Nat.le_of_ble_eq_true rfl, Nat.le_of_ble_eq_true rfl⟩) hS (Cut.app (wc := []) (wr := (fl [])) hP hD hS hA) (fun r_1 u_2 H locs hq_6 hP hD hS => ?_)
  have hP : va_P D vwCl (fl []) H := hP
  have hD : va_D A (fl []) := hD
  have hp_6 : r_1 = nI 0 := hq_6
  clear hq_6
  obtain rfl := hp_6
  refine nv_ishr hx hb dJ4_length_9 (by decide) (by omega) ?_
  subst hQQ
  exact xe_i (v := nI (n_ >>> 0)) () hx hb hr hlocks hK hP hD hS (congrArg nI Nat.shiftRight_zero) dJ4_length_10
set_option maxHeartbeats 400000 in
set_option maxRecDepth 100000 in
theorem mt_J18_indexOfChar (l : Launch) (D : va_G) (ca : Nat → ClassId) (bf_ : Nat → Int32) (a_ : Nat) (v_ : Nat) (c_ : Nat) (n_ : Nat) (hn : n_ < 1000) (hc : c_ < 128) (nn : Nat) : Met l yJ18_indexOfChar (ws_ yJ18_indexOfChar cJ18_indexOfChar 6 (Option.some Jvm.ClassFile.FieldType.int)) ({ frames := 0, cells := 0, slots := 0, locals := 0 } : Room) (va_Pc [.ref v_, .int (nI c_), .int (nI 0), .int (nI n_)] (PreW (EvS bf_ n_ a_ v_) D vwCl (TY ca) (fl []) nn)) (va_Qi (fun (r_ : Int32) (_ : Unit) => r_ = fI (ixN bf_ (nI c_) n_ 0)) (PostW D vwCl (TY ca) (fun (_ : Unit) => (fl [])) (va_A (fl []) nn)) (va_A (fl []) nn)) 0 0 (va_A (fl []) nn) := by
  refine met_go2 (QA := fun A => va_Qi (fun (r_ : Int32) (_ : Unit) => r_ = fI (ixN bf_ (nI c_) n_ 0)) (PostW D vwCl (TY ca) (fun (_ : Unit) => (fl [])) A) A) (by decide) (Nat.le_of_ble_eq_true rfl) (fun p e s m below meth c A ls QQ hQQ hmn hnm hx hb hr hts hown hlocks hml hA hP hK hD hE hl => ?_)
  have hown : s.vm.findClass RJ18 = some m.cls := hown
  have hS : va_S A s.heap s.heap [] := va_S.rf
  have hl : lv_has ls 6 [(0, .ref v_), (1, .int (nI c_)), (2, .int (nI 0)), (3, .int (nI n_))] := hl
  generalize hHe : s.heap = H at hP ⊢
  have hS : va_S A s.heap H [] := hHe ▸ hS
  generalize ([] : List Loc) = locs at hS ⊢
  refine lv_iload_n hx hb dJ18_indexOfChar_0 rfl (lv_at hl 1 rfl) ?_
  refine lv_i2b (v := nI c_) hx hb dJ18_indexOfChar_1 (bt_id _ hc) ?_
  refine lv_istore (lv' := [(4, .int (nI c_)), (0, .ref v_), (1, .int (nI c_)), (2, .int (nI 0)), (3, .int (nI n_))]) hx hb dJ18_indexOfChar_2 hl (by decide) rfl (fun ls hl => ?_)
  refine lv_iload_n hx hb dJ18_indexOfChar_4 rfl (lv_at hl 3 rfl) ?_
  refine lv_istore (lv' := [(5, .int (nI 0)), (4, .int (nI c_)), (0, .ref v_), (1, .int (nI c_)), (2, .int (nI 0)), (3, .int (nI n_))]) hx hb dJ18_indexOfChar_5 hl (by decide) rfl (fun ls hl => ?_)
  have lp_7 : ∀ (fu_7 : Nat) (i : Nat), n_ - i < fu_7 → (i ≤ n_) → (ixN bf_ (nI c_) (n_ - i) i = ixN bf_ (nI c_) n_ 0) → ∀ (H : Heap) (locs : List Loc), va_P D vwCl (fl []) H → va_D A (fl []) → va_S A s.heap H locs → ∀ (ls : Array Slot), lv_has ls 6 [(5, .int (nI i)), (4, .int (nI c_)), (0, .ref v_), (1, .int (nI c_)), (2, .int (nI 0)), (3, .int (nI n_))] → W p l e ({ frames := 0, cells := 0, slots := 0, locals := 0 } : Room) s m ([.ref v_, .int (nI c_), .int (nI 0), .int (nI n_)] : List Value).toArray below meth c H locs 0 0 QQ (F0 m 7 ls []) := by
    intro fu_7
    induction fu_7 with
    | zero => intro i hfu; exact absurd hfu (Nat.not_lt_zero _)
    | succ fu_7 ih_7 =>
      intro i hfu hi hX H locs hP hD hS ls hl
      refine lv_iload hx hb dJ18_indexOfChar_7 (lv_at hl 0 rfl) ?_
      refine lv_iload_n hx hb dJ18_indexOfChar_9 rfl (lv_at hl 5 rfl) ?_
      refine nv_icmp_ge (tgt := 31) hx hb dJ18_indexOfChar_10 (by decide) (by omega) (by omega) (fun c_10 => ?_) (fun c_10 => ?_)
      · skip
        have hr_ : ixN bf_ (nI c_) n_ 0 = 0 := by rw [← hX, show n_ - i = 0 by omega]; rfl
        refine lv_iconst (v := fI 0) hx hb dJ18_indexOfChar_31 (by decide) ?_
        subst hQQ
        exact xe_i (v := fI 0) () hx hb hr hlocks hK hP hD hS (by rw [hr_]) dJ18_indexOfChar_32
      · skip
        refine lv_aload_n hx hb dJ18_indexOfChar_13 rfl (lv_at hl 2 rfl) ?_
        refine lv_iload hx hb dJ18_indexOfChar_14 (lv_at hl 0 rfl) ?_
        refine va_tb hx hb hE.2.2.2.2 hS (vp_in_nI (by omega) (by omega)) (v := .int (bf_ i)) (by rw [nI_clamp (by omega)]) dJ18_indexOfChar_16 ?_
        refine lv_iload hx hb dJ18_indexOfChar_17 (lv_at hl 1 rfl) ?_
        refine lv_icmp_ne (tgt := 25) hx hb dJ18_indexOfChar_19 (by decide) (fun c_19 => ?_) (fun c_19 => ?_)
        · skip
          refine lv_iinc (v := nI (i + 1)) (lv' := [(5, .int (nI (i + 1))), (4, .int (nI c_)), (0, .ref v_), (1, .int (nI c_)), (2, .int (nI 0)), (3, .int (nI n_))]) hx hb dJ18_indexOfChar_25 hl (k := 0) rfl (nI_add i 1) (by decide) rfl (fun ls hl => ?_)
          refine lv_goto (tgt := 7) hx hb dJ18_indexOfChar_28 (by decide) ?_
          exact ih_7  (i + 1) (by omega) (by omega) (by rw [← hX, show n_ - i = (n_ - (i + 1)) + 1 by omega]; simp only [ixN]; rw [if_neg c_19]) _ _ hP hD hS ls (lv_sub hl [0, 1, 2, 3, 4, 5] rfl)
        · skip
          have hr_ : ixN bf_ (nI c_) n_ 0 = i + 1 := by rw [← hX, show n_ - i = (n_ - (i + 1)) + 1 by omega]; simp only [ixN]; rw [if_pos c_19]
          refine lv_iload hx hb dJ18_indexOfChar_22 (lv_at hl 0 rfl) ?_
          subst hQQ
          exact xe_i (v := nI i) () hx hb hr hlocks hK hP hD hS (by rw [hr_]; exact fI_S i) dJ18_indexOfChar_24
  exact lp_7 (n_ - 0 + 1) 0 (Nat.lt_succ_self _) (by omega) rfl _ _ hP hD hS ls (lv_sub hl [0, 1, 2, 3, 4, 5] rfl)
set_option maxHeartbeats 400000 in
set_option maxRecDepth 100000 in
theorem mt_J18_indexOf (l : Launch) (D : va_G) (ca : Nat → ClassId) (bf_ : Nat → Int32) (a_ : Nat) (v_ : Nat) (c_ : Nat) (n_ : Nat) (hn : n_ < 1000) (hc : c_ < 128) (hn0 : 0 < n_) (nn : Nat) : Met l yJ18_indexOf (ws_ yJ18_indexOf cJ18_indexOf 4 (Option.some Jvm.ClassFile.FieldType.int)) ({ frames := 1, cells := 0, slots := 0, locals := 40 } : Room) (va_Pc [.ref v_, .int (nI c_), .int (nI 0), .int (nI n_)] (PreW (EvS bf_ n_ a_ v_) D vwCl (TY ca) (fl []) nn)) (va_Qi (fun (r_ : Int32) (_ : Unit) => r_ = fI (ixN bf_ (nI c_) n_ 0)) (PostW D vwCl (TY ca) (fun (_ : Unit) => (fl [])) (va_A (fl []) nn)) (va_A (fl []) nn)) 0 0 (va_A (fl []) nn) := by
  refine met_go2 (QA := fun A => va_Qi (fun (r_ : Int32) (_ : Unit) => r_ = fI (ixN bf_ (nI c_) n_ 0)) (PostW D vwCl (TY ca) (fun (_ : Unit) => (fl [])) A) A) (by decide) (Nat.le_of_ble_eq_true rfl) (fun p e s m below meth c A ls QQ hQQ hmn hnm hx hb hr hts hown hlocks hml hA hP hK hD hE hl => ?_)
  have hown : s.vm.findClass RJ18 = some m.cls := hown
  have hS : va_S A s.heap s.heap [] := va_S.rf
  have hl : lv_has ls 4 [(0, .ref v_), (1, .int (nI c_)), (2, .int (nI 0)), (3, .int (nI n_))] := hl
  generalize hHe : s.heap = H at hP ⊢
  have hS : va_S A s.heap H [] := hHe ▸ hS
  generalize ([] : List Loc) = locs at hS ⊢
  refine lv_iload_n hx hb dJ18_indexOf_0 rfl (lv_at hl 1 rfl) ?_
  refine xc_i (xr_S (As := [.int (nI c_)]) (rest := []) (mt_J18_canEncode l D ca c_ (by first | assumption | omega | (simp only [updN, forgetC, changedC]; (repeat' split) <;> omega)) H.size) ⟨hx, hb, hml, hown, hts⟩ (va_cwS 1 hts (lw_S q866 q867 q102 q868) rfl rfl rfl (by decide +kernel) ⟨Nat.le_of_ble_eq_true rfl, Nat.le_of_ble_eq_true rfl⟩) Ev0_ok trivial hK hS (Cut.app (wc := []) (wr := (fl [])) hP hD hS hA) rfl hl.1 rfl (Nat.le_of_ble_eq_true rfl) dJ18_indexOf_1 ⟨Nat.le_of_ble_eq_true rfl, Nat.le_of_ble_eq_true rfl⟩) hS (Cut.app (wc := []) (wr := (fl [])) hP hD hS hA) (fun r_1 u_2 H locs hq_1 hP hD hS => ?_)
  have hP : va_P D vwCl (fl []) H := hP
  have hD : va_D A (fl []) := hD
  have hp_1 : r_1 = bI true := hq_1
  clear hq_1
  obtain rfl := hp_1
  refine nv_ifb_ne (tgt := 9) hx hb dJ18_indexOf_4 (by decide) (fun _ => ?_) (fun q_ => by cases q_)
  refine lv_iload_n hx hb dJ18_indexOf_9 rfl (lv_at hl 2 rfl) ?_
  refine lv_iconst (v := nI 0) hx hb dJ18_indexOf_10 (by decide) ?_
  refine va_mmax (x := nI 0) (y := nI 0) hx hb (hml.trans hl.1.symm) hown (hts _ q869) (hts _ q540) (hts _ q96) (hts _ q541) (Nat.le_of_ble_eq_true rfl) (Nat.le_of_ble_eq_true rfl) (by decide) (by decide) dJ18_indexOf_11 ?_
  refine lv_topi (nm_r (e' := nI 0) ((mx_nI (by omega) (by omega)).trans (by decide)) ?_)
  refine lv_istore_n (lv' := [(2, .int (nI 0)), (0, .ref v_), (1, .int (nI c_)), (3, .int (nI n_))]) hx hb dJ18_indexOf_14 rfl hl (by decide) rfl (fun ls hl => ?_)
  refine lv_iload_n hx hb dJ18_indexOf_15 rfl (lv_at hl 3 rfl) ?_
  refine lv_aload_n hx hb dJ18_indexOf_16 rfl (lv_at hl 1 rfl) ?_
  refine va_tlen hx hb hE.2.2.2.2 hS (v := nI n_) rfl dJ18_indexOf_17 ?_
  refine va_mmin (x := nI n_) (y := nI n_) hx hb (hml.trans hl.1.symm) hown (hts _ q870) (hts _ q414) (hts _ q96) (hts _ q415) (Nat.le_of_ble_eq_true rfl) (Nat.le_of_ble_eq_true rfl) (by decide) (by decide) dJ18_indexOf_18 ?_
  refine lv_topi (nm_r (e' := nI n_) ((mn_nI (by omega) (by omega)).trans (congrArg nI (if_neg (by omega)))) ?_)
  refine lv_istore_n (lv' := [(3, .int (nI n_)), (2, .int (nI 0)), (0, .ref v_), (1, .int (nI c_))]) hx hb dJ18_indexOf_21 rfl hl (by decide) rfl (fun ls hl => ?_)
  refine lv_iload_n hx hb dJ18_indexOf_22 rfl (lv_at hl 1 rfl) ?_
  refine lv_iload_n hx hb dJ18_indexOf_23 rfl (lv_at hl 0 rfl) ?_
  refine nv_icmp_lt (tgt := 29) hx hb dJ18_indexOf_24 (by decide) (by omega) (by omega) (fun c_24 => ?_) (fun c_24 => absurd c_24 (by omega))
  refine lv_aload_n hx hb dJ18_indexOf_29 rfl (lv_at hl 2 rfl) ?_
  refine lv_iload_n hx hb dJ18_indexOf_30 rfl (lv_at hl 3 rfl) ?_
  refine lv_iload_n hx hb dJ18_indexOf_31 rfl (lv_at hl 1 rfl) ?_
  refine lv_iload_n hx hb dJ18_indexOf_32 rfl (lv_at hl 0 rfl) ?_
  refine xc_i (xr_S (As := [.ref v_, .int (nI c_), .int (nI 0), .int (nI n_)]) (rest := []) (mt_J18_indexOfChar l D ca bf_ a_ v_ c_ n_ (by first | assumption | omega | (simp only [updN, forgetC, changedC]; (repeat' split) <;> omega)) (by first | assumption | omega | (simp only [updN, forgetC, changedC]; (repeat' split) <;> omega)) H.size) ⟨hx, hb, hml, hown, hts⟩ (va_cwS 4 hts (lw_S q871 q872 q102 q873) rfl rfl rfl (by decide +kernel) ⟨Nat.le_of_ble_eq_true rfl, Nat.le_of_ble_eq_true rfl⟩) (EvS_ok _ _ _ _) hE hK hS (Cut.app (wc := []) (wr := (fl [])) hP hD hS hA) rfl hl.1 rfl (Nat.le_of_ble_eq_true rfl) dJ18_indexOf_33 ⟨Nat.le_of_ble_eq_true rfl, Nat.le_of_ble_eq_true rfl⟩) hS (Cut.app (wc := []) (wr := (fl [])) hP hD hS hA) (fun r_3 u_4 H locs hq_33 hP hD hS => ?_)
  have hP : va_P D vwCl (fl []) H := hP
  have hD : va_D A (fl []) := hD
  have hp_33 : r_3 = fI (ixN bf_ (nI c_) n_ 0) := hq_33
  clear hq_33
  obtain rfl := hp_33
  subst hQQ
  exact xe_i (v := fI (ixN bf_ (nI c_) n_ 0)) () hx hb hr hlocks hK hP hD hS (rfl) dJ18_indexOf_36
set_option maxHeartbeats 400000 in
set_option maxRecDepth 100000 in
theorem mt_J4_indexOf_2 (l : Launch) (D : va_G) (ca : Nat → ClassId) (bf_ : Nat → Int32) (n_ : Nat) (a_ : Nat) (v_ : Nat) (c_ : Nat) (hn : n_ < 1000) (hc : c_ < 128) (hn0 : 0 < n_) (nn : Nat) : Met l yJ4_indexOf_2 (ws_ yJ4_indexOf_2 cJ4_indexOf_2 3 (Option.some Jvm.ClassFile.FieldType.int)) ({ frames := 2, cells := 0, slots := 0, locals := 63 } : Room) (va_Pc [.ref a_, .int (nI c_), .int (nI 0)] (PreW (EvS bf_ n_ a_ v_) D vwCl (TY ca) (fl []) nn)) (va_Qi (fun (r_ : Int32) (_ : Unit) => r_ = fI (ixN bf_ (nI c_) n_ 0)) (PostW D vwCl (TY ca) (fun (_ : Unit) => (fl [])) (va_A (fl []) nn)) (va_A (fl []) nn)) 0 0 (va_A (fl []) nn) := by
  refine met_go2 (QA := fun A => va_Qi (fun (r_ : Int32) (_ : Unit) => r_ = fI (ixN bf_ (nI c_) n_ 0)) (PostW D vwCl (TY ca) (fun (_ : Unit) => (fl [])) A) A) (by decide) (Nat.le_of_ble_eq_true rfl) (fun p e s m below meth c A ls QQ hQQ hmn hnm hx hb hr hts hown hlocks hml hA hP hK hD hE hl => ?_)
  have hown : s.vm.findClass RJ4 = some m.cls := hown
  have hS : va_S A s.heap s.heap [] := va_S.rf
  have hl : lv_has ls 3 [(0, .ref a_), (1, .int (nI c_)), (2, .int (nI 0))] := hl
  generalize hHe : s.heap = H at hP ⊢
  have hS : va_S A s.heap H [] := hHe ▸ hS
  generalize ([] : List Loc) = locs at hS ⊢
  refine lv_aload_n hx hb dJ4_indexOf_2_0 rfl (lv_at hl 0 rfl) ?_
  refine xc_i (xr_VR (b := a_) (As := []) (rest := []) (mt_J4_isLatin1 l D ca bf_ n_ a_ v_  H.size) ⟨hx, hb, hml, hown, hts⟩ (cwV 0 hts (lw_V q858 q859 q860 q85 q861) rfl rfl rfl (by decide +kernel) ⟨Nat.le_of_ble_eq_true rfl, Nat.le_of_ble_eq_true rfl⟩) (EvS_ok _ _ _ _) hE hK hS (Cut.app (wc := []) (wr := (fl [])) hP hD hS hA) (vs_recv hE hS) rfl hl.1 rfl (Nat.le_of_ble_eq_true rfl) dJ4_indexOf_2_1 ⟨Nat.le_of_ble_eq_true rfl, Nat.le_of_ble_eq_true rfl⟩) hS (Cut.app (wc := []) (wr := (fl [])) hP hD hS hA) (fun r_1 u_2 H locs hq_1 hP hD hS => ?_)
  have hP : va_P D vwCl (fl []) H := hP
  have hD : va_D A (fl []) := hD
  have hp_1 : r_1 = bI true := hq_1
  clear hq_1
  obtain rfl := hp_1
  refine nv_ifb_eq (tgt := 23) hx hb dJ4_indexOf_2_4 (by decide) (fun q_ => by cases q_) (fun _ => ?_)
  refine lv_aload_n hx hb dJ4_indexOf_2_7 rfl (lv_at hl 0 rfl) ?_
  refine vk_getf (v := .ref v_) hx hb hE.2.2.2.1 hS hown (hts _ q719) (fun _ h9 => h9) dJ4_indexOf_2_8 ?_
  refine lv_iload_n hx hb dJ4_indexOf_2_11 rfl (lv_at hl 1 rfl) ?_
  refine lv_iload_n hx hb dJ4_indexOf_2_12 rfl (lv_at hl 2 rfl) ?_
  refine lv_aload_n hx hb dJ4_indexOf_2_13 rfl (lv_at hl 0 rfl) ?_
  refine xc_i (xr_VR (b := a_) (As := []) (rest := [.int (nI 0), .int (nI c_), .ref v_]) (mt_J4_length l D ca bf_ n_ a_ v_ (by first | assumption | omega | (simp only [updN, forgetC, changedC]; (repeat' split) <;> omega)) H.size) ⟨hx, hb, hml, hown, hts⟩ (cwV 0 hts (lw_V q862 q589 q590 q85 q591) rfl rfl rfl (by decide +kernel) ⟨Nat.le_of_ble_eq_true rfl, Nat.le_of_ble_eq_true rfl⟩) (EvS_ok _ _ _ _) hE hK hS (Cut.app (wc := []) (wr := (fl [])) hP hD hS hA) (vs_recv hE hS) rfl hl.1 rfl (Nat.le_of_ble_eq_true rfl) dJ4_indexOf_2_14 ⟨Nat.le_of_ble_eq_true rfl, Nat.le_of_ble_eq_true rfl⟩) hS (Cut.app (wc := []) (wr := (fl [])) hP hD hS hA) (fun r_3 u_4 H locs hq_14 hP hD hS => ?_)
  have hP : va_P D vwCl (fl []) H := hP
  have hD : va_D A (fl []) := hD
  have hp_14 : r_3 = nI n_ := hq_14
  clear hq_14
  obtain rfl := hp_14
  refine xc_i (xr_S (As := [.ref v_, .int (nI c_), .int (nI 0), .int (nI n_)]) (rest := []) (mt_J18_indexOf l D ca bf_ a_ v_ c_ n_ (by first | assumption | omega | (simp only [updN, forgetC, changedC]; (repeat' split) <;> omega)) (by first | assumption | omega | (simp only [updN, forgetC, changedC]; (repeat' split) <;> omega)) (by first | assumption | omega | (simp only [updN, forgetC, changedC]; (repeat' split) <;> omega)) H.size) ⟨hx, hb, hml, hown, hts⟩ (va_cwS 4 hts (lw_S q863 q864 q102 q865) rfl rfl rfl (by decide +kernel) ⟨Nat.le_of_ble_eq_true rfl, Nat.le_of_ble_eq_true rfl⟩) (EvS_ok _ _ _ _) hE hK hS (Cut.app (wc := []) (wr := (fl [])) hP hD hS hA) rfl hl.1 rfl (Nat.le_of_ble_eq_true rfl) dJ4_indexOf_2_17 ⟨Nat.le_of_ble_eq_true rfl, Nat.le_of_ble_eq_true rfl⟩) hS (Cut.app (wc := []) (wr := (fl [])) hP hD hS hA) (fun r_5 u_6 H locs hq_17 hP hD hS => ?_)
  have hP : va_P D vwCl (fl []) H := hP
  have hD : va_D A (fl []) := hD
  have hp_17 : r_5 = fI (ixN bf_ (nI c_) n_ 0) := hq_17
  clear hq_17
  obtain rfl := hp_17
  refine lv_goto (tgt := 36) hx hb dJ4_indexOf_2_20 (by decide) ?_
  subst hQQ
  exact xe_i (v := fI (ixN bf_ (nI c_) n_ 0)) () hx hb hr hlocks hK hP hD hS (rfl) dJ4_indexOf_2_36
set_option maxHeartbeats 400000 in
set_option maxRecDepth 100000 in
theorem mt_J4_indexOf (l : Launch) (D : va_G) (ca : Nat → ClassId) (bf_ : Nat → Int32) (n_ : Nat) (a_ : Nat) (v_ : Nat) (c_ : Nat) (hn : n_ < 1000) (hc : c_ < 128) (hn0 : 0 < n_) (nn : Nat) : Met l yJ4_indexOf (ws_ yJ4_indexOf cJ4_indexOf 2 (Option.some Jvm.ClassFile.FieldType.int)) ({ frames := 3, cells := 0, slots := 0, locals := 85 } : Room) (va_Pc [.ref a_, .int (nI c_)] (PreW (EvS bf_ n_ a_ v_) D vwCl (TY ca) (fl []) nn)) (va_Qi (fun (r_ : Int32) (_ : Unit) => r_ = fI (ixN bf_ (nI c_) n_ 0)) (PostW D vwCl (TY ca) (fun (_ : Unit) => (fl [])) (va_A (fl []) nn)) (va_A (fl []) nn)) 0 0 (va_A (fl []) nn) := by
  refine met_go2 (QA := fun A => va_Qi (fun (r_ : Int32) (_ : Unit) => r_ = fI (ixN bf_ (nI c_) n_ 0)) (PostW D vwCl (TY ca) (fun (_ : Unit) => (fl [])) A) A) (by decide) (Nat.le_of_ble_eq_true rfl) (fun p e s m below meth c A ls QQ hQQ hmn hnm hx hb hr hts hown hlocks hml hA hP hK hD hE hl => ?_)
  have hown : s.vm.findClass RJ4 = some m.cls := hown
  have hS : va_S A s.heap s.heap [] := va_S.rf
  have hl : lv_has ls 2 [(0, .ref a_), (1, .int (nI c_))] := hl
  generalize hHe : s.heap = H at hP ⊢
  have hS : va_S A s.heap H [] := hHe ▸ hS
  generalize ([] : List Loc) = locs at hS ⊢
  refine lv_aload_n hx hb dJ4_indexOf_0 rfl (lv_at hl 0 rfl) ?_
  refine lv_iload_n hx hb dJ4_indexOf_1 rfl (lv_at hl 1 rfl) ?_
  refine lv_iconst (v := nI 0) hx hb dJ4_indexOf_2 (by decide) ?_
  refine xc_i (xr_VR (b := a_) (As := [.int (nI c_), .int (nI 0)]) (rest := []) (mt_J4_indexOf_2 l D ca bf_ n_ a_ v_ c_ (by first | assumption | omega | (simp only [updN, forgetC, changedC]; (repeat' split) <;> omega)) (by first | assumption | omega | (simp only [updN, forgetC, changedC]; (repeat' split) <;> omega)) (by first | assumption | omega | (simp only [updN, forgetC, changedC]; (repeat' split) <;> omega)) H.size) ⟨hx, hb, hml, hown, hts⟩ (cwV 2 hts (lw_V q854 q855 q856 q85 q857) rfl rfl rfl (by decide +kernel) ⟨Nat.le_of_ble_eq_true rfl, Nat.le_of_ble_eq_true rfl⟩) (EvS_ok _ _ _ _) hE hK hS (Cut.app (wc := []) (wr := (fl [])) hP hD hS hA) (vs_recv hE hS) rfl hl.1 rfl (Nat.le_of_ble_eq_true rfl) dJ4_indexOf_3 ⟨Nat.le_of_ble_eq_true rfl, Nat.le_of_ble_eq_true rfl⟩) hS (Cut.app (wc := []) (wr := (fl [])) hP hD hS hA) (fun r_1 u_2 H locs hq_3 hP hD hS => ?_)
  have hP : va_P D vwCl (fl []) H := hP
  have hD : va_D A (fl []) := hD
  have hp_3 : r_1 = fI (ixN bf_ (nI c_) n_ 0) := hq_3
  clear hq_3
  obtain rfl := hp_3
  subst hQQ
  exact xe_i (v := fI (ixN bf_ (nI c_) n_ 0)) () hx hb hr hlocks hK hP hD hS (rfl) dJ4_indexOf_6
