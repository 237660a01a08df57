/-! the text: StringBuilder -/
set_option maxRecDepth 100000
theorem MQ_le {p : Program} {l : Launch} {e : Env} {R : Room} {s : State} {m : MethodId} {args : Array Value} {below : List Frame} {meth : Method} {c : Code} {H : Heap} {locs : List Loc} {cells slots : Nat} {Qc : Array Value → State → Outcome → State → Prop} {a : Array Value} {free : Addr → Prop} {g : JFrame} {c0 s0 mc ms : Nat} (hc : c0 ≤ mc) (hs : s0 ≤ ms) (h : W p l e R s m args below meth c H locs cells slots (MQ below Qc a s c0 s0 free) g) : W p l e R s m args below meth c H locs cells slots (MQ below Qc a s mc ms free) g := by
  intro T hT X
  obtain ⟨t, st, o, h1, h2, h3, L, ⟨f1, f2, f3⟩, h5⟩ := h T hT X
  exact ⟨t, st, o, h1, h2, h3, L, ⟨f1, f2, f3.mono hc hs⟩, h5⟩
theorem bt_id : ∀ c, c < 128 → (nI c).toInt8.toInt32 = nI c := by decide +kernel
theorem bt_vp {c : Nat} (h : c < 128) : vp_nar .byte (nI c) = nI c := (vp_nar_byte _).trans (bt_id c h)
theorem bt_fit {c : Nat} (h : c < 128) : fits .byte (.int (nI c)) = true := by rw [← bt_id c h]; exact pk_fb _
theorem bt_and : ∀ c, c < 128 → nI c &&& nI 255 = nI c := by decide +kernel
theorem ch_id : ∀ c, c < 128 → ((nI c).toUInt32 % 65536).toInt32 = nI c := by decide +kernel
theorem mn_nI {a b : Nat} (ha : a < 2 ^ 31) (hb : b < 2 ^ 31) : (if nI b < nI a then nI b else nI a) = nI (if b < a then b else a) := by
  by_cases h : b < a
  · rw [if_pos h, if_pos ((nI_ltI hb ha).mpr h)]
  · rw [if_neg h, if_neg (fun q => h ((nI_ltI hb ha).mp q))]
/-- the builder's bytes hold the text T -/
def SbOk (T : List Nat) (bs : Nat → Int32) : Prop := TeOk T bs ∧ sb_Fit bs
theorem SbOk_add {T : List Nat} {bs : Nat → Int32} {c : Nat} (h : SbOk T bs) (hc : c < 128) : SbOk (T ++ [c]) (upd bs T.length (nI c)) := ⟨TeOk_add h.1, sb_fitU h.2 (bt_fit hc)⟩
theorem SbOk_cpy {T : List Nat} {bs : Nat → Int32} {n : Nat} (h : SbOk T bs) (hn : T.length ≤ n) : SbOk T (va_cpy bs (fun _ => 0) 0 0 n) := ⟨fun k hk => (sb_cpy0 (by omega)).trans (h.1 k hk), sb_fitC h.2 sb_fit0⟩
section UROWS
variable {p : Program} {l : Launch} {e : Env} {R : Room} {s : State} {m : MethodId} {args : Array Value} {below : List Frame} {meth : Method} {c : Code} {H : Heap} {locs : List Loc} {cells slots : Nat} {Q : State → Prop}
variable {cc : ByteArray} {pc : Nat} {ls : Array Slot} {rest : List Value}
theorem xr_U {Ev : (Nat → Prop) → State → Prop} {D : va_G} {cl : List vw_C} {tys : List (ClassId × FieldType)} {A : Nat → Prop} {wc : va_W} {J : va_W → va_W} {x y : MethodName} {bytes : ByteArray} {maxL nL mc ms n index : Nat} {ret : Option FieldType} {wy : List Cond} {rm : Room} {Qc : Array Value → State → Outcome → State → Prop} {free : Addr → Prop} {Ts : List Cond} {own owner C0 : String} {As st0 : List Value} {b ci q0 : Nat} {fs : List Value} {T0 : u_T} {N0 : Nat} (hM : Met l y wy rm (va_Pc (.ref b :: As) (PreW Ev D cl tys wc H.size)) Qc mc ms free) (C : CallFix p m c cc nL s args Ts own) (cw : va_CU R s args own C0 owner index x y bytes maxL ret wy rm mc ms n) (hEv : EvOk Ev) (hE : Ev A s) (hK : va_K D cl tys s) (hS : va_S A s.heap H locs) (cut : Cut D cl A wc J H) (hq : wc[q0]? = some (b, .inr (ci, fs))) (hc : cl[ci]? = some (C0, T0, N0)) (hn : As.length = n) (hsize : ls.size = nL) (hst : st0 = As.reverse ++ .ref b :: rest) (hW : (rest.map fun v => v.category).sum ≤ 8) (hdg : decode cc pc = .ok (.invokevirtual index, 3)) (hf : cells + mc ≤ R.cells ∧ slots + ms ≤ R.slots) :
    va_Run p l e R s m args below meth c H locs cells slots mc ms (F0 m pc ls st0) rest (Qc (Value.ref b :: As).toArray) free :=
  va_runU (As := As) (rest := rest) C hM cw ⟨(xc_pre (As := .ref b :: As) hEv hE hK hS cut).1, va_recv hK cut.1 hc hq, (xc_pre hEv hE hK hS cut).2⟩ rfl hn hsize hst (lv_room hW) hdg hf
theorem xr_SU {Ev : (Nat → Prop) → State → Prop} {D : va_G} {cl : List vw_C} {tys : List (ClassId × FieldType)} {A : Nat → Prop} {wc : va_W} {J : va_W → va_W} {y : MethodName} {bytes : ByteArray} {maxL nL mc ms n index : Nat} {ret : Option FieldType} {wy : List Cond} {rm : Room} {Qc : Array Value → State → Outcome → State → Prop} {free : Addr → Prop} {Ts : List Cond} {own C0 : String} {As st0 : List Value} {b ci q0 : Nat} {fs : List Value} {T0 : u_T} {N0 : Nat} (hM : Met l y wy rm (va_Pc (.ref b :: As) (PreW Ev D cl tys wc H.size)) Qc mc ms free) (C : CallFix p m c cc nL s args Ts own) (cw : va_CS R s args own index y bytes maxL ret wy rm mc ms n) (hEv : EvOk Ev) (hE : Ev A s) (hK : va_K D cl tys s) (hS : va_S A s.heap H locs) (cut : Cut D cl A wc J H) (hq : wc[q0]? = some (b, .inr (ci, fs))) (hc : cl[ci]? = some (C0, T0, N0)) (hn : As.length = n) (hsize : ls.size = nL) (hst : st0 = As.reverse ++ .ref b :: rest) (hW : (rest.map fun v => v.category).sum ≤ 8) (hdg : decode cc pc = .ok (.invokespecial index, 3)) (hf : cells + mc ≤ R.cells ∧ slots + ms ≤ R.slots) :
    va_Run p l e R s m args below meth c H locs cells slots mc ms (F0 m pc ls st0) rest (Qc (Value.ref b :: As).toArray) free :=
  va_runSU (hK.1 ci _ hc).2 (As := As) (rest := rest) C hM cw ⟨(xc_pre (As := .ref b :: As) hEv hE hK hS cut).1, va_recv hK cut.1 hc hq, (xc_pre hEv hE hK hS cut).2⟩ rfl hn hsize hst (lv_room hW) hdg hf
end UROWS
theorem lw_U {own : String} {idx : Nat} {C owner : String} {x y : MethodName} {b : ByteArray} {L : Nat} {r : Option FieldType} (h1 : Cond.methodLink own idx x ∈ lw_all) (h2 : Cond.sameMethod x.cls owner x.name x.desc ∈ lw_all) (h3 : Cond.selects C x y ∈ lw_all) (h4 : Cond.instanceMethod y ∈ lw_all) (h5 : Cond.initialized y.cls ∈ lw_all) (h6 : Cond.code y b L r ∈ lw_all) : GoodIn lw_all (va_wsU own idx C owner x y (ws_ y b L r)) := by
  refine lw_app ?_ (lw_meth h6)
  intro w hw
  simp only [List.mem_cons, List.not_mem_nil, or_false] at hw
  rcases hw with e | e | e | e | e <;> (rw [e]; assumption)
theorem lw_SU {own : String} {idx : Nat} {y : MethodName} {b : ByteArray} {L : Nat} {r : Option FieldType} (h1 : Cond.methodLink own idx y ∈ lw_all) (h2 : Cond.sameMethod y.cls y.cls y.name y.desc ∈ lw_all) (h3 : Cond.superclass own y.cls ∈ lw_all) (h4 : Cond.instanceMethod y ∈ lw_all) (h5 : Cond.initialized y.cls ∈ lw_all) (h6 : Cond.code y b L r ∈ lw_all) : GoodIn lw_all (va_wsSU own idx y (ws_ y b L r)) := by
  refine lw_app ?_ (lw_meth h6)
  intro w hw
  simp only [List.mem_cons, List.not_mem_nil, or_false] at hw
  rcases hw with e | e | e | e | e <;> (rw [e]; assumption)
set_option maxHeartbeats 400000 in
set_option maxRecDepth 100000 in
theorem mt_J2_isLatin1 (l : Launch) (D : va_G) (ca : Nat → ClassId) (xq : Nat → Nat) (b_ : Nat) (ml_ : Int32) (bs_ : Nat → Int32) (cap_ : Nat) (n_ : Nat)  (nn : Nat) : Met l yJ2_isLatin1 (ws_ yJ2_isLatin1 cJ2_isLatin1 1 (Option.some Jvm.ClassFile.FieldType.boolean)) ({ frames := 0, cells := 0, slots := 0, locals := 0 } : Room) (va_Pc [.ref (xq 9)] (PreW EvZ D vwCl (TY ca) (fl [[(xq 9, .inr (8, [.ref b_, .int 0, .int ml_, .int (nI n_)]))], [(b_, .inl (ca 2, cap_, .inl (bs_)))]]) nn)) (va_Qi (fun (r_ : Int32) (_ : Unit) => r_ = bI true) (PostW D vwCl (TY ca) (fun (_ : Unit) => (fl [[(xq 9, .inr (8, [.ref b_, .int 0, .int ml_, .int (nI n_)]))], [(b_, .inl (ca 2, cap_, .inl (bs_)))]])) (va_A (fl [[(xq 9, .inr (8, [.ref b_, .int 0, .int ml_, .int (nI n_)]))], [(b_, .inl (ca 2, cap_, .inl (bs_)))]]) nn)) (va_A (fl [[(xq 9, .inr (8, [.ref b_, .int 0, .int ml_, .int (nI n_)]))], [(b_, .inl (ca 2, cap_, .inl (bs_)))]]) nn)) 0 0 (va_A (fl [[(xq 9, .inr (8, [.ref b_, .int 0, .int ml_, .int (nI n_)]))], [(b_, .inl (ca 2, cap_, .inl (bs_)))]]) nn) := by
  refine met_go2 (QA := fun A => va_Qi (fun (r_ : Int32) (_ : Unit) => r_ = bI true) (PostW D vwCl (TY ca) (fun (_ : Unit) => (fl [[(xq 9, .inr (8, [.ref b_, .int 0, .int ml_, .int (nI n_)]))], [(b_, .inl (ca 2, cap_, .inl (bs_)))]])) A) A) (by decide) (Nat.le_of_ble_eq_true rfl) (fun p e s m below meth c A ls QQ hQQ hmn hnm hx hb hr hts hown hlocks hml hA hP hK hD hE hl => ?_)
  have hown : s.vm.findClass RJ2 = some m.cls := hown
  have hS : va_S A s.heap s.heap [] := va_S.rf
  have hl : lv_has ls 1 [(0, .ref (xq 9))] := hl
  generalize hHe : s.heap = H at hP ⊢
  have hS : va_S A s.heap H [] := hHe ▸ hS
  generalize ([] : List Loc) = locs at hS ⊢
  refine va_gets (v := .int (nI 1)) hx hb hE.2.2.1 hS hown (hts _ q208) (fun _ h9 => h9) dJ2_isLatin1_0 ?_
  refine nv_if_eq (tgt := 17) hx hb dJ2_isLatin1_3 (by decide) (by omega) (fun c_3 => absurd c_3 (by decide)) (fun c_3 => ?_)
  refine lv_aload_n hx hb dJ2_isLatin1_6 rfl (lv_at hl 0 rfl) ?_
  refine va_get (D := D) (ci := 8) (v := .int (nI 0)) (C := RJ3) (T := TJ3) (N := 4) hx hb hts in_J3 hown hK hP 0 rfl rfl 1 (by decide) (hts _ q218) (fun _ h9 => h9) rfl dJ2_isLatin1_7 ?_
  refine nv_if_ne (tgt := 17) hx hb dJ2_isLatin1_10 (by decide) (by omega) (fun c_10 => absurd c_10 (by decide)) (fun c_10 => ?_)
  refine lv_iconst (v := nI 1) hx hb dJ2_isLatin1_13 (by decide) ?_
  refine lv_goto (tgt := 18) hx hb dJ2_isLatin1_14 (by decide) ?_
  subst hQQ
  refine (xe_z (b := true) () hx hb hr hlocks hK hP hD hS (rfl) dJ2_isLatin1_18)
set_option maxHeartbeats 400000 in
set_option maxRecDepth 100000 in
theorem mt_J2_length (l : Launch) (D : va_G) (ca : Nat → ClassId) (xq : Nat → Nat) (b_ : Nat) (ml_ : Int32) (bs_ : Nat → Int32) (cap_ : Nat) (n_ : Nat)  (nn : Nat) : Met l yJ2_length (ws_ yJ2_length cJ2_length 1 (Option.some Jvm.ClassFile.FieldType.int)) ({ frames := 0, cells := 0, slots := 0, locals := 0 } : Room) (va_Pc [.ref (xq 9)] (PreW Ev0 D vwCl (TY ca) (fl [[(xq 9, .inr (8, [.ref b_, .int 0, .int ml_, .int (nI n_)]))], [(b_, .inl (ca 2, cap_, .inl (bs_)))]]) nn)) (va_Qi (fun (r_ : Int32) (_ : Unit) => r_ = nI n_) (PostW D vwCl (TY ca) (fun (_ : Unit) => (fl [[(xq 9, .inr (8, [.ref b_, .int 0, .int ml_, .int (nI n_)]))], [(b_, .inl (ca 2, cap_, .inl (bs_)))]])) (va_A (fl [[(xq 9, .inr (8, [.ref b_, .int 0, .int ml_, .int (nI n_)]))], [(b_, .inl (ca 2, cap_, .inl (bs_)))]]) nn)) (va_A (fl [[(xq 9, .inr (8, [.ref b_, .int 0, .int ml_, .int (nI n_)]))], [(b_, .inl (ca 2, cap_, .inl (bs_)))]]) nn)) 0 0 (va_A (fl [[(xq 9, .inr (8, [.ref b_, .int 0, .int ml_, .int (nI n_)]))], [(b_, .inl (ca 2, cap_, .inl (bs_)))]]) nn) := by
  refine met_go2 (QA := fun A => va_Qi (fun (r_ : Int32) (_ : Unit) => r_ = nI n_) (PostW D vwCl (TY ca) (fun (_ : Unit) => (fl [[(xq 9, .inr (8, [.ref b_, .int 0, .int ml_, .int (nI n_)]))], [(b_, .inl (ca 2, cap_, .inl (bs_)))]])) A) A) (by decide) (Nat.le_of_ble_eq_true rfl) (fun p e s m below meth c A ls QQ hQQ hmn hnm hx hb hr hts hown hlocks hml hA hP hK hD hE hl => ?_)
  have hown : s.vm.findClass RJ2 = some m.cls := hown
  have hS : va_S A s.heap s.heap [] := va_S.rf
  have hl : lv_has ls 1 [(0, .ref (xq 9))] := hl
  generalize hHe : s.heap = H at hP ⊢
  have hS : va_S A s.heap H [] := hHe ▸ hS
  generalize ([] : List Loc) = locs at hS ⊢
  refine lv_aload_n hx hb dJ2_length_0 rfl (lv_at hl 0 rfl) ?_
  refine va_get (D := D) (ci := 8) (v := .int (nI n_)) (C := RJ3) (T := TJ3) (N := 4) hx hb hts in_J3 hown hK hP 0 rfl rfl 3 (by decide) (hts _ q221) (fun _ h9 => h9) rfl dJ2_length_1 ?_
  subst hQQ
  exact xe_i (v := nI n_) () hx hb hr hlocks hK hP hD hS (rfl) dJ2_length_4
set_option maxHeartbeats 400000 in
set_option maxRecDepth 100000 in
theorem mt_J3_length (l : Launch) (D : va_G) (ca : Nat → ClassId) (xq : Nat → Nat) (b_ : Nat) (ml_ : Int32) (bs_ : Nat → Int32) (cap_ : Nat) (n_ : Nat)  (nn : Nat) : Met l yJ3_length (ws_ yJ3_length cJ3_length 1 (Option.some Jvm.ClassFile.FieldType.int)) ({ frames := 1, cells := 0, slots := 0, locals := 20 } : Room) (va_Pc [.ref (xq 9)] (PreW Ev0 D vwCl (TY ca) (fl [[(xq 9, .inr (8, [.ref b_, .int 0, .int ml_, .int (nI n_)]))], [(b_, .inl (ca 2, cap_, .inl (bs_)))]]) nn)) (va_Qi (fun (r_ : Int32) (_ : Unit) => r_ = nI n_) (PostW D vwCl (TY ca) (fun (_ : Unit) => (fl [[(xq 9, .inr (8, [.ref b_, .int 0, .int ml_, .int (nI n_)]))], [(b_, .inl (ca 2, cap_, .inl (bs_)))]])) (va_A (fl [[(xq 9, .inr (8, [.ref b_, .int 0, .int ml_, .int (nI n_)]))], [(b_, .inl (ca 2, cap_, .inl (bs_)))]]) nn)) (va_A (fl [[(xq 9, .inr (8, [.ref b_, .int 0, .int ml_, .int (nI n_)]))], [(b_, .inl (ca 2, cap_, .inl (bs_)))]]) nn)) 0 0 (va_A (fl [[(xq 9, .inr (8, [.ref b_, .int 0, .int ml_, .int (nI n_)]))], [(b_, .inl (ca 2, cap_, .inl (bs_)))]]) nn) := by
  refine met_go2 (QA := fun A => va_Qi (fun (r_ : Int32) (_ : Unit) => r_ = nI n_) (PostW D vwCl (TY ca) (fun (_ : Unit) => (fl [[(xq 9, .inr (8, [.ref b_, .int 0, .int ml_, .int (nI n_)]))], [(b_, .inl (ca 2, cap_, .inl (bs_)))]])) A) A) (by decide) (Nat.le_of_ble_eq_true rfl) (fun p e s m below meth c A ls QQ hQQ hmn hnm hx hb hr hts hown hlocks hml hA hP hK hD hE hl => ?_)
  have hown : s.vm.findClass RJ3 = some m.cls := hown
  have hS : va_S A s.heap s.heap [] := va_S.rf
  have hl : lv_has ls 1 [(0, .ref (xq 9))] := hl
  generalize hHe : s.heap = H at hP ⊢
  have hS : va_S A s.heap H [] := hHe ▸ hS
  generalize ([] : List Loc) = locs at hS ⊢
  refine lv_aload_n hx hb dJ3_length_0 rfl (lv_at hl 0 rfl) ?_
  refine xc_i (xr_SU (b := xq 9) (ci := 8) (q0 := 0) (As := []) (rest := []) (mt_J2_length l D ca xq b_ ml_ bs_ cap_ n_  H.size) ⟨hx, hb, hml, hown, hts⟩ (va_cwSU 0 hts (lw_SU q499 q2043 q230 q500 q83 q501) rfl rfl rfl (by decide +kernel) ⟨Nat.le_of_ble_eq_true rfl, Nat.le_of_ble_eq_true rfl⟩) Ev0_ok hE hK hS (Cut.ch [[(xq 9, .inr (8, [.ref b_, .int 0, .int ml_, .int (nI n_)]))], [(b_, .inl (ca 2, cap_, .inl (bs_)))]] [] hP hD hS hA) rfl rfl rfl hl.1 rfl (Nat.le_of_ble_eq_true rfl) dJ3_length_1 ⟨Nat.le_of_ble_eq_true rfl, Nat.le_of_ble_eq_true rfl⟩) hS (Cut.ch [[(xq 9, .inr (8, [.ref b_, .int 0, .int ml_, .int (nI n_)]))], [(b_, .inl (ca 2, cap_, .inl (bs_)))]] [] hP hD hS hA) (fun r_1 u_2 H locs hq_1 hP hD hS => ?_)
  have hP : va_P D vwCl (fl [[(xq 9, .inr (8, [.ref b_, .int 0, .int ml_, .int (nI n_)]))], [(b_, .inl (ca 2, cap_, .inl (bs_)))]]) H := fl_join [[(xq 9, .inr (8, [.ref b_, .int 0, .int ml_, .int (nI n_)]))], [(b_, .inl (ca 2, cap_, .inl (bs_)))]] [] hP
  have hD : va_D A (fl [[(xq 9, .inr (8, [.ref b_, .int 0, .int ml_, .int (nI n_)]))], [(b_, .inl (ca 2, cap_, .inl (bs_)))]]) := fl_joinD [[(xq 9, .inr (8, [.ref b_, .int 0, .int ml_, .int (nI n_)]))], [(b_, .inl (ca 2, cap_, .inl (bs_)))]] [] hD
  have hp_1 : r_1 = nI n_ := hq_1
  clear hq_1
  obtain rfl := hp_1
  subst hQQ
  exact xe_i (v := nI n_) () hx hb hr hlocks hK hP hD hS (rfl) dJ3_length_4
set_option maxHeartbeats 400000 in
set_option maxRecDepth 100000 in
theorem mt_J18_canEncode_2 (l : Launch) (D : va_G) (ca : Nat → ClassId) (c_ : Nat) (hc : c_ < 128) (nn : Nat) : Met l yJ18_canEncode_2 (ws_ yJ18_canEncode_2 cJ18_canEncode_2 1 (Option.some Jvm.ClassFile.FieldType.boolean)) ({ frames := 0, cells := 0, slots := 0, locals := 0 } : Room) (va_Pc [.int (nI c_)] (PreW Ev0 D vwCl (TY ca) (fl []) nn)) (va_Qi (fun (r_ : Int32) (_ : Unit) => r_ = bI true) (PostW D vwCl (TY ca) (fun (_ : Unit) => (fl [])) (va_A (fl []) nn)) (va_A (fl []) nn)) 0 0 (va_A (fl []) nn) := by
  refine met_go2 (QA := fun A => va_Qi (fun (r_ : Int32) (_ : Unit) => r_ = bI true) (PostW D vwCl (TY ca) (fun (_ : Unit) => (fl [])) A) A) (by decide) (Nat.le_of_ble_eq_true rfl) (fun p e s m below meth c A ls QQ hQQ hmn hnm hx hb hr hts hown hlocks hml hA hP hK hD hE hl => ?_)
  have hown : s.vm.findClass RJ18 = some m.cls := hown
  have hS : va_S A s.heap s.heap [] := va_S.rf
  have hl : lv_has ls 1 [(0, .int (nI c_))] := hl
  generalize hHe : s.heap = H at hP ⊢
  have hS : va_S A s.heap H [] := hHe ▸ hS
  generalize ([] : List Loc) = locs at hS ⊢
  refine lv_iload_n hx hb dJ18_canEncode_2_0 rfl (lv_at hl 0 rfl) ?_
  refine lv_sipush (v := nI 255) hx hb dJ18_canEncode_2_1 (by decide) ?_
  refine nv_icmp_gt (tgt := 11) hx hb dJ18_canEncode_2_4 (by decide) (by omega) (by omega) (fun c_4 => absurd c_4 (by omega)) (fun c_4 => ?_)
  refine lv_iconst (v := nI 1) hx hb dJ18_canEncode_2_7 (by decide) ?_
  refine lv_goto (tgt := 12) hx hb dJ18_canEncode_2_8 (by decide) ?_
  subst hQQ
  refine (xe_z (b := true) () hx hb hr hlocks hK hP hD hS (rfl) dJ18_canEncode_2_12)
set_option maxHeartbeats 400000 in
set_option maxRecDepth 100000 in
theorem mt_J2_ensureCapacityInternal_n (l : Launch) (D : va_G) (ca : Nat → ClassId) (xq : Nat → Nat) (b_ : Nat) (ml_ : Int32) (bs_ : Nat → Int32) (cap_ : Nat) (n_ : Nat) (m_ : Nat) (hm : m_ ≤ cap_) (hcap : cap_ < 2000) (nn : Nat) : Met l yJ2_ensureCapacityInternal (ws_ yJ2_ensureCapacityInternal cJ2_ensureCapacityInternal 3 (Option.none : Option Jvm.ClassFile.FieldType)) ({ frames := 0, cells := 0, slots := 0, locals := 0 } : Room) (va_Pc [.ref (xq 9), .int (nI m_)] (PreW EvX D vwCl (TY ca) (fl [[(xq 9, .inr (8, [.ref b_, .int 0, .int ml_, .int (nI n_)]))], [(b_, .inl (ca 2, cap_, .inl (bs_)))]]) nn)) (va_Qv (fun (_ : Unit) => True) (PostW D vwCl (TY ca) (fun (_ : Unit) => (fl [[(xq 9, .inr (8, [.ref b_, .int 0, .int ml_, .int (nI n_)]))], [(b_, .inl (ca 2, cap_, .inl (bs_)))]])) (va_A (fl [[(xq 9, .inr (8, [.ref b_, .int 0, .int ml_, .int (nI n_)]))], [(b_, .inl (ca 2, cap_, .inl (bs_)))]]) nn)) (va_A (fl [[(xq 9, .inr (8, [.ref b_, .int 0, .int ml_, .int (nI n_)]))], [(b_, .inl (ca 2, cap_, .inl (bs_)))]]) nn)) 0 0 (va_A (fl [[(xq 9, .inr (8, [.ref b_, .int 0, .int ml_, .int (nI n_)]))], [(b_, .inl (ca 2, cap_, .inl (bs_)))]]) nn) := by
  refine met_go2 (QA := fun A => va_Qv (fun (_ : Unit) => True) (PostW D vwCl (TY ca) (fun (_ : Unit) => (fl [[(xq 9, .inr (8, [.ref b_, .int 0, .int ml_, .int (nI n_)]))], [(b_, .inl (ca 2, cap_, .inl (bs_)))]])) A) A) (by decide) (Nat.le_of_ble_eq_true rfl) (fun p e s m below meth c A ls QQ hQQ hmn hnm hx hb hr hts hown hlocks hml hA hP hK hD hE hl => ?_)
  have hown : s.vm.findClass RJ2 = some m.cls := hown
  have hS : va_S A s.heap s.heap [] := va_S.rf
  have hl : lv_has ls 3 [(0, .ref (xq 9)), (1, .int (nI m_))] := hl
  generalize hHe : s.heap = H at hP ⊢
  have hS : va_S A s.heap H [] := hHe ▸ hS
  generalize ([] : List Loc) = locs at hS ⊢
  refine lv_aload_n hx hb dJ2_ensureCapacityInternal_0 rfl (lv_at hl 0 rfl) ?_
  refine va_get (D := D) (ci := 8) (v := .ref b_) (C := RJ3) (T := TJ3) (N := 4) hx hb hts in_J3 hown hK hP 0 rfl rfl 0 (by decide) (hts _ q217) (fun _ h9 => h9) rfl dJ2_ensureCapacityInternal_1 ?_
  refine va_alen hx hb hK hP 1 2 rfl rfl rfl dJ2_ensureCapacityInternal_4 (lv_topi (nm_r (e' := nI cap_) rfl ?_))
  refine lv_aload_n hx hb dJ2_ensureCapacityInternal_5 rfl (lv_at hl 0 rfl) ?_
  refine va_get (D := D) (ci := 8) (v := .int (nI 0)) (C := RJ3) (T := TJ3) (N := 4) hx hb hts in_J3 hown hK hP 0 rfl rfl 1 (by decide) (hts _ q218) (fun _ h9 => h9) rfl dJ2_ensureCapacityInternal_6 ?_
  refine nv_ishr hx hb dJ2_ensureCapacityInternal_9 (by decide) (by omega) ?_
  refine lv_topi (nm_r (e' := nI cap_) (congrArg nI (Nat.shiftRight_zero)) ?_)
  refine lv_istore_n (lv' := [(2, .int (nI cap_)), (0, .ref (xq 9)), (1, .int (nI m_))]) hx hb dJ2_ensureCapacityInternal_10 rfl hl (by decide) rfl (fun ls hl => ?_)
  refine lv_iload_n hx hb dJ2_ensureCapacityInternal_11 rfl (lv_at hl 2 rfl) ?_
  refine lv_iload_n hx hb dJ2_ensureCapacityInternal_12 rfl (lv_at hl 0 rfl) ?_
  refine lv_isub hx hb dJ2_ensureCapacityInternal_13 ?_
  refine lv_if_le (tgt := 38) hx hb dJ2_ensureCapacityInternal_14 (by decide) (fun c_14 => ?_) (fun c_14 => absurd c_14 (fun z => by have z1 := i32_lt.mp (Int32.not_le.mp z); rw [pk_sub_toInt (by omega) (by omega)] at z1; have z2 : (0 : Int32).toInt = 0 := rfl; omega))
  subst hQQ
  exact xe_v () hx hb hr hlocks hK hP hD hS (trivial) dJ2_ensureCapacityInternal_38
set_option maxHeartbeats 400000 in
set_option maxRecDepth 100000 in
theorem mt_J17_newLength_g16 (l : Launch) (D : va_G) (ca : Nat → ClassId)   (nn : Nat) : Met l yJ17_newLength (ws_ yJ17_newLength cJ17_newLength 4 (Option.some Jvm.ClassFile.FieldType.int)) ({ frames := 1, cells := 0, slots := 0, locals := 40 } : Room) (va_Pc [.int (nI 16), .int (nI 1), .int (nI 18)] (PreW Ev0 D vwCl (TY ca) (fl []) nn)) (va_Qi (fun (r_ : Int32) (_ : Unit) => r_ = nI 34) (PostW D vwCl (TY ca) (fun (_ : Unit) => (fl [])) (va_A (fl []) nn)) (va_A (fl []) nn)) 0 0 (va_A (fl []) nn) := by
  refine met_go2 (QA := fun A => va_Qi (fun (r_ : Int32) (_ : Unit) => r_ = nI 34) (PostW D vwCl (TY ca) (fun (_ : Unit) => (fl [])) A) A) (by decide) (Nat.le_of_ble_eq_true rfl) (fun p e s m below meth c A ls QQ hQQ hmn hnm hx hb hr hts hown hlocks hml hA hP hK hD hE hl => ?_)
  have hown : s.vm.findClass RJ17 = some m.cls := hown
  have hS : va_S A s.heap s.heap [] := va_S.rf
  have hl : lv_has ls 4 [(0, .int (nI 16)), (1, .int (nI 1)), (2, .int (nI 18))] := hl
  generalize hHe : s.heap = H at hP ⊢
  have hS : va_S A s.heap H [] := hHe ▸ hS
  generalize ([] : List Loc) = locs at hS ⊢
  refine lv_iload_n hx hb dJ17_newLength_0 rfl (lv_at hl 0 rfl) ?_
  refine lv_iload_n hx hb dJ17_newLength_1 rfl (lv_at hl 1 rfl) ?_
  refine lv_iload_n hx hb dJ17_newLength_2 rfl (lv_at hl 2 rfl) ?_
  refine va_mmax (x := nI 1) (y := nI 18) hx hb (hml.trans hl.1.symm) hown (hts _ q539) (hts _ q540) (hts _ q96) (hts _ q541) (Nat.le_of_ble_eq_true rfl) (Nat.le_of_ble_eq_true rfl) (by decide) (by decide) dJ17_newLength_3 ?_
  refine lv_topi (nm_r (e' := nI 18) ((mx_nI (by omega) (by omega)).trans (by decide)) ?_)
  refine lv_iadd hx hb dJ17_newLength_6 (lv_topi (nm_r (e' := nI 34) (by decide) ?_))
  refine lv_istore_n (lv' := [(3, .int (nI 34)), (0, .int (nI 16)), (1, .int (nI 1)), (2, .int (nI 18))]) hx hb dJ17_newLength_7 rfl hl (by decide) rfl (fun ls hl => ?_)
  refine lv_iconst (v := nI 0) hx hb dJ17_newLength_8 (by decide) ?_
  refine lv_iload_n hx hb dJ17_newLength_9 rfl (lv_at hl 0 rfl) ?_
  refine nv_icmp_ge (tgt := 21) hx hb dJ17_newLength_10 (by decide) (by omega) (by omega) (fun c_10 => absurd c_10 (by decide)) (fun c_10 => ?_)
  refine lv_iload_n hx hb dJ17_newLength_13 rfl (lv_at hl 0 rfl) ?_
  refine lv_ldc (v := nI 2147483639) hx hb hown (hts _ q542) dJ17_newLength_14 ?_
  refine nv_icmp_gt (tgt := 21) hx hb dJ17_newLength_16 (by decide) (by omega) (by omega) (fun c_16 => absurd c_16 (by decide)) (fun c_16 => ?_)
  refine lv_iload_n hx hb dJ17_newLength_19 rfl (lv_at hl 0 rfl) ?_
  subst hQQ
  exact xe_i (v := nI 34) () hx hb hr hlocks hK hP hD hS (rfl) dJ17_newLength_20
set_option maxHeartbeats 400000 in
set_option maxRecDepth 100000 in
theorem mt_J2_newCapacity_g16 (l : Launch) (D : va_G) (ca : Nat → ClassId) (xq : Nat → Nat) (b_ : Nat) (ml_ : Int32) (bs_ : Nat → Int32) (n_ : Nat)  (nn : Nat) : Met l yJ2_newCapacity (ws_ yJ2_newCapacity cJ2_newCapacity 6 (Option.some Jvm.ClassFile.FieldType.int)) ({ frames := 2, cells := 0, slots := 0, locals := 63 } : Room) (va_Pc [.ref (xq 9), .int (nI 17)] (PreW EvX D vwCl (TY ca) (fl [[(xq 9, .inr (8, [.ref b_, .int 0, .int ml_, .int (nI n_)]))], [(b_, .inl (ca 2, 16, .inl (bs_)))]]) nn)) (va_Qi (fun (r_ : Int32) (_ : Unit) => r_ = nI 34) (PostW D vwCl (TY ca) (fun (_ : Unit) => (fl [[(xq 9, .inr (8, [.ref b_, .int 0, .int ml_, .int (nI n_)]))], [(b_, .inl (ca 2, 16, .inl (bs_)))]])) (va_A (fl [[(xq 9, .inr (8, [.ref b_, .int 0, .int ml_, .int (nI n_)]))], [(b_, .inl (ca 2, 16, .inl (bs_)))]]) nn)) (va_A (fl [[(xq 9, .inr (8, [.ref b_, .int 0, .int ml_, .int (nI n_)]))], [(b_, .inl (ca 2, 16, .inl (bs_)))]]) nn)) 0 0 (va_A (fl [[(xq 9, .inr (8, [.ref b_, .int 0, .int ml_, .int (nI n_)]))], [(b_, .inl (ca 2, 16, .inl (bs_)))]]) nn) := by
  refine met_go2 (QA := fun A => va_Qi (fun (r_ : Int32) (_ : Unit) => r_ = nI 34) (PostW D vwCl (TY ca) (fun (_ : Unit) => (fl [[(xq 9, .inr (8, [.ref b_, .int 0, .int ml_, .int (nI n_)]))], [(b_, .inl (ca 2, 16, .inl (bs_)))]])) A) A) (by decide) (Nat.le_of_ble_eq_true rfl) (fun p e s m below meth c A ls QQ hQQ hmn hnm hx hb hr hts hown hlocks hml hA hP hK hD hE hl => ?_)
  have hown : s.vm.findClass RJ2 = some m.cls := hown
  have hS : va_S A s.heap s.heap [] := va_S.rf
  have hl : lv_has ls 6 [(0, .ref (xq 9)), (1, .int (nI 17))] := hl
  generalize hHe : s.heap = H at hP ⊢
  have hS : va_S A s.heap H [] := hHe ▸ hS
  generalize ([] : List Loc) = locs at hS ⊢
  refine lv_aload_n hx hb dJ2_newCapacity_0 rfl (lv_at hl 0 rfl) ?_
  refine va_get (D := D) (ci := 8) (v := .ref b_) (C := RJ3) (T := TJ3) (N := 4) hx hb hts in_J3 hown hK hP 0 rfl rfl 0 (by decide) (hts _ q217) (fun _ h9 => h9) rfl dJ2_newCapacity_1 ?_
  refine va_alen hx hb hK hP 1 2 rfl rfl rfl dJ2_newCapacity_4 (lv_topi (nm_r (e' := nI 16) rfl ?_))
  refine lv_istore_n (lv' := [(2, .int (nI 16)), (0, .ref (xq 9)), (1, .int (nI 17))]) hx hb dJ2_newCapacity_5 rfl hl (by decide) rfl (fun ls hl => ?_)
  refine lv_iload_n hx hb dJ2_newCapacity_6 rfl (lv_at hl 2 rfl) ?_
  refine lv_aload_n hx hb dJ2_newCapacity_7 rfl (lv_at hl 1 rfl) ?_
  refine va_get (D := D) (ci := 8) (v := .int (nI 0)) (C := RJ3) (T := TJ3) (N := 4) hx hb hts in_J3 hown hK hP 0 rfl rfl 1 (by decide) (hts _ q218) (fun _ h9 => h9) rfl dJ2_newCapacity_8 ?_
  refine nv_ishl hx hb dJ2_newCapacity_11 (by decide) (by decide) ?_
  refine lv_topi (nm_r (e' := nI 17) (by decide) ?_)
  refine lv_istore_n (lv' := [(3, .int (nI 17)), (2, .int (nI 16)), (0, .ref (xq 9)), (1, .int (nI 17))]) hx hb dJ2_newCapacity_12 rfl hl (by decide) rfl (fun ls hl => ?_)
  refine lv_iload_n hx hb dJ2_newCapacity_13 rfl (lv_at hl 0 rfl) ?_
  refine lv_iload_n hx hb dJ2_newCapacity_14 rfl (lv_at hl 1 rfl) ?_
  refine lv_isub hx hb dJ2_newCapacity_15 (lv_topi (nm_r (e' := nI 1) (by decide) ?_))
  refine lv_istore (lv' := [(4, .int (nI 1)), (3, .int (nI 17)), (2, .int (nI 16)), (0, .ref (xq 9)), (1, .int (nI 17))]) hx hb dJ2_newCapacity_16 hl (by decide) rfl (fun ls hl => ?_)
  refine lv_iload_n hx hb dJ2_newCapacity_18 rfl (lv_at hl 2 rfl) ?_
  refine lv_iload hx hb dJ2_newCapacity_19 (lv_at hl 0 rfl) ?_
  refine lv_iload_n hx hb dJ2_newCapacity_21 rfl (lv_at hl 2 rfl) ?_
  refine lv_iconst (v := nI 2) hx hb dJ2_newCapacity_22 (by decide) ?_
  refine lv_aload_n hx hb dJ2_newCapacity_23 rfl (lv_at hl 3 rfl) ?_
  refine va_get (D := D) (ci := 8) (v := .int (nI 0)) (C := RJ3) (T := TJ3) (N := 4) hx hb hts in_J3 hown hK hP 0 rfl rfl 1 (by decide) (hts _ q218) (fun _ h9 => h9) rfl dJ2_newCapacity_24 ?_
  refine nv_ishl hx hb dJ2_newCapacity_27 (by decide) (by decide) ?_
  refine lv_topi (nm_r (e' := nI 2) (by decide) ?_)
  refine lv_iadd hx hb dJ2_newCapacity_28 (lv_topi (nm_r (e' := nI 18) (by decide) ?_))
  refine xc_i (xr_S (As := [.int (nI 16), .int (nI 1), .int (nI 18)]) (rest := []) (mt_J17_newLength_g16 l D ca   H.size) ⟨hx, hb, hml, hown, hts⟩ (va_cwS 3 hts (lw_S q536 q537 q101 q538) rfl rfl rfl (by decide +kernel) ⟨Nat.le_of_ble_eq_true rfl, Nat.le_of_ble_eq_true rfl⟩) Ev0_ok trivial hK hS (Cut.app (wc := []) (wr := (fl [[(xq 9, .inr (8, [.ref b_, .int 0, .int ml_, .int (nI n_)]))], [(b_, .inl (ca 2, 16, .inl (bs_)))]])) hP hD hS hA) rfl hl.1 rfl (Nat.le_of_ble_eq_true rfl) dJ2_newCapacity_29 ⟨Nat.le_of_ble_eq_true rfl, Nat.le_of_ble_eq_true rfl⟩) hS (Cut.app (wc := []) (wr := (fl [[(xq 9, .inr (8, [.ref b_, .int 0, .int ml_, .int (nI n_)]))], [(b_, .inl (ca 2, 16, .inl (bs_)))]])) hP hD hS hA) (fun r_1 u_2 H locs hq_29 hP hD hS => ?_)
  have hP : va_P D vwCl (fl [[(xq 9, .inr (8, [.ref b_, .int 0, .int ml_, .int (nI n_)]))], [(b_, .inl (ca 2, 16, .inl (bs_)))]]) H := hP
  have hD : va_D A (fl [[(xq 9, .inr (8, [.ref b_, .int 0, .int ml_, .int (nI n_)]))], [(b_, .inl (ca 2, 16, .inl (bs_)))]]) := hD
  have hp_29 : r_1 = nI 34 := hq_29
  clear hq_29
  obtain rfl := hp_29
  refine lv_istore (lv' := [(5, .int (nI 34)), (4, .int (nI 1)), (3, .int (nI 17)), (2, .int (nI 16)), (0, .ref (xq 9)), (1, .int (nI 17))]) hx hb dJ2_newCapacity_32 hl (by decide) rfl (fun ls hl => ?_)
  refine lv_iload hx hb dJ2_newCapacity_34 (lv_at hl 0 rfl) ?_
  refine lv_ldc (v := nI 2147483647) hx hb hown (hts _ q546) dJ2_newCapacity_36 ?_
  refine nv_icmp_ne (tgt := 51) hx hb dJ2_newCapacity_38 (by decide) (by omega) (by omega) (fun c_38 => ?_) (fun c_38 => absurd c_38 (by decide))
  refine lv_iload hx hb dJ2_newCapacity_51 (lv_at hl 0 rfl) ?_
  refine lv_aload_n hx hb dJ2_newCapacity_53 rfl (lv_at hl 4 rfl) ?_
  refine va_get (D := D) (ci := 8) (v := .int (nI 0)) (C := RJ3) (T := TJ3) (N := 4) hx hb hts in_J3 hown hK hP 0 rfl rfl 1 (by decide) (hts _ q218) (fun _ h9 => h9) rfl dJ2_newCapacity_54 ?_
  refine nv_ishr hx hb dJ2_newCapacity_57 (by decide) (by decide) ?_
  subst hQQ
  exact xe_i (v := nI (34 >>> 0)) () hx hb hr hlocks hK hP hD hS (by decide) dJ2_newCapacity_58
set_option maxHeartbeats 400000 in
set_option maxRecDepth 100000 in
theorem mt_J13_copyOf_3_g16 (l : Launch) (D : va_G) (ca : Nat → ClassId) (b_ : Nat) (bs_ : Nat → Int32) (hf : sb_Fit bs_) (nn : Nat) : Met l yJ13_copyOf_3 (ws_ yJ13_copyOf_3 cJ13_copyOf_3 3 (Option.some (Jvm.ClassFile.FieldType.array Jvm.ClassFile.FieldType.byte))) ({ frames := 1, cells := 1, slots := 34, locals := 60 } : Room) (va_Pc [.ref b_, .int (nI 34)] (PreW Ev0 D vwCl (TY ca) (fl [[(b_, .inl (ca 2, 16, .inl (bs_)))]]) nn)) (va_Qr (fun (u_ : Nat) => True) (fun (u_ : Nat) (r_ : Nat) (t_ : State) => r_ = u_ ∧ PostW D vwCl (TY ca) (fun (u_ : Nat) => (fl [[(b_, .inl (ca 2, 16, .inl (bs_)))], [(u_, .inl (ca 2, 34, .inl (va_cpy bs_ (fun _ => 0) 0 0 16)))]])) (va_A (fl [[(b_, .inl (ca 2, 16, .inl (bs_)))]]) nn) u_ t_) (va_A (fl [[(b_, .inl (ca 2, 16, .inl (bs_)))]]) nn)) 1 34 (va_A (fl [[(b_, .inl (ca 2, 16, .inl (bs_)))]]) nn) := by
  refine met_go2 (QA := fun A => va_Qr (fun (u_ : Nat) => True) (fun (u_ : Nat) (r_ : Nat) (t_ : State) => r_ = u_ ∧ PostW D vwCl (TY ca) (fun (u_ : Nat) => (fl [[(b_, .inl (ca 2, 16, .inl (bs_)))], [(u_, .inl (ca 2, 34, .inl (va_cpy bs_ (fun _ => 0) 0 0 16)))]])) A u_ t_) A) (by decide) (Nat.le_of_ble_eq_true rfl) (fun p e s m below meth c A ls QQ hQQ hmn hnm hx hb hr hts hown hlocks hml hA hP hK hD hE hl => ?_)
  have hown : s.vm.findClass RJ13 = some m.cls := hown
  have hS : va_S A s.heap s.heap [] := va_S.rf
  have hl : lv_has ls 3 [(0, .ref b_), (1, .int (nI 34))] := hl
  generalize hHe : s.heap = H at hP ⊢
  have hS : va_S A s.heap H [] := hHe ▸ hS
  generalize ([] : List Loc) = locs at hS ⊢
  refine lv_iload_n hx hb dJ13_copyOf_3_0 rfl (lv_at hl 1 rfl) ?_
  refine lv_aload_n hx hb dJ13_copyOf_3_1 rfl (lv_at hl 0 rfl) ?_
  refine va_alen hx hb hK hP 0 2 rfl rfl rfl dJ13_copyOf_3_2 (lv_topi (nm_r (e' := nI 16) rfl ?_))
  refine nv_icmp_ne (tgt := 14) hx hb dJ13_copyOf_3_3 (by decide) (by omega) (by omega) (fun c_3 => ?_) (fun c_3 => absurd c_3 (by decide))
  refine lv_iload_n hx hb dJ13_copyOf_3_14 rfl (lv_at hl 1 rfl) ?_
  refine nv_newb (N := 34) hx hb (hts _ q231) hK hP hD hS hA 2 rfl (by decide) (by decide) ⟨Nat.le_of_ble_eq_true rfl, Nat.le_of_ble_eq_true rfl⟩ dJ13_copyOf_3_15 (fun q_1 H hP hD hS => ?_)
  have hP : va_P D vwCl (fl [[(b_, .inl (ca 2, 16, .inl (bs_)))], [(q_1, .inl (ca 2, 34, .inl ((fun _ => 0))))]]) H := fl_pushP hP
  have hD : va_D A (fl [[(b_, .inl (ca 2, 16, .inl (bs_)))], [(q_1, .inl (ca 2, 34, .inl ((fun _ => 0))))]]) := fl_pushD hD
  refine lv_astore_n (lv' := [(2, .ref q_1), (0, .ref b_), (1, .int (nI 34))]) hx hb dJ13_copyOf_3_17 rfl hl (by decide) rfl (fun ls hl => ?_)
  refine lv_aload_n hx hb dJ13_copyOf_3_18 rfl (lv_at hl 1 rfl) ?_
  refine lv_iconst (v := nI 0) hx hb dJ13_copyOf_3_19 (by decide) ?_
  refine lv_aload_n hx hb dJ13_copyOf_3_20 rfl (lv_at hl 0 rfl) ?_
  refine lv_iconst (v := nI 0) hx hb dJ13_copyOf_3_21 (by decide) ?_
  refine lv_aload_n hx hb dJ13_copyOf_3_22 rfl (lv_at hl 1 rfl) ?_
  refine va_alen hx hb hK hP 0 2 rfl rfl rfl dJ13_copyOf_3_23 (lv_topi (nm_r (e' := nI 16) rfl ?_))
  refine lv_iload_n hx hb dJ13_copyOf_3_24 rfl (lv_at hl 2 rfl) ?_
  refine va_mmin (x := nI 16) (y := nI 34) hx hb (hml.trans hl.1.symm) hown (hts _ q413) (hts _ q414) (hts _ q96) (hts _ q415) (Nat.le_of_ble_eq_true rfl) (Nat.le_of_ble_eq_true rfl) (by decide) (by decide) dJ13_copyOf_3_25 ?_
  refine lv_topi (nm_r (e' := nI 16) ((mn_nI (by omega) (by omega)).trans (by decide)) ?_)
  refine va_copyi hx hb (hml.trans hl.1.symm) hown (hts _ q416) (hts _ q418) (hts _ q417) (hts _ q97) hK hP hD hS 0 1 2 2 rfl rfl rfl rfl rfl (sp := nI 0) (dp := nI 0) (n := nI 16) (by decide) (by decide) (by decide) (by decide) (by decide) (fun i_ _ => hf _) (Nat.le_of_ble_eq_true rfl) (Nat.le_of_ble_eq_true (by decide)) dJ13_copyOf_3_28 (fun H locs hP hD hS => ?_)
  have hP : va_P D vwCl (fl [[(b_, .inl (ca 2, 16, .inl (bs_)))], [(q_1, .inl (ca 2, 34, .inl (va_cpy bs_ (fun _ => 0) 0 0 16)))]]) H := hP
  have hD : va_D A (fl [[(b_, .inl (ca 2, 16, .inl (bs_)))], [(q_1, .inl (ca 2, 34, .inl (va_cpy bs_ (fun _ => 0) 0 0 16)))]]) := hD
  refine lv_aload_n hx hb dJ13_copyOf_3_31 rfl (lv_at hl 0 rfl) ?_
  subst hQQ
  exact xe_ra (ad := fun (u_ : Nat) => u_) q_1 hx hb hr hlocks hK hP hD hS (trivial) dJ13_copyOf_3_32
set_option maxHeartbeats 400000 in
set_option maxRecDepth 100000 in
theorem mt_J2_ensureCapacityInternal_g16 (l : Launch) (D : va_G) (ca : Nat → ClassId) (xq : Nat → Nat) (b_ : Nat) (ml_ : Int32) (bs_ : Nat → Int32) (hf : sb_Fit bs_) (nn : Nat) : Met l yJ2_ensureCapacityInternal (ws_ yJ2_ensureCapacityInternal cJ2_ensureCapacityInternal 3 (Option.none : Option Jvm.ClassFile.FieldType)) ({ frames := 3, cells := 1, slots := 34, locals := 88 } : Room) (va_Pc [.ref (xq 9), .int (nI 17)] (PreW EvZ D vwCl (TY ca) (fl [[(xq 9, .inr (8, [.ref b_, .int 0, .int ml_, .int (nI 16)]))], [(b_, .inl (ca 2, 16, .inl (bs_)))]]) nn)) (va_Qv (fun (u_ : Nat) => True) (PostW D vwCl (TY ca) (fun (u_ : Nat) => (fl [[(xq 9, .inr (8, [.ref u_, .int 0, .int ml_, .int (nI 16)]))], [(u_, .inl (ca 2, 34, .inl (va_cpy bs_ (fun _ => 0) 0 0 16)))]])) (va_A (fl [[(xq 9, .inr (8, [.ref b_, .int 0, .int ml_, .int (nI 16)]))], [(b_, .inl (ca 2, 16, .inl (bs_)))]]) nn)) (va_A (fl [[(xq 9, .inr (8, [.ref b_, .int 0, .int ml_, .int (nI 16)]))], [(b_, .inl (ca 2, 16, .inl (bs_)))]]) nn)) 1 34 (va_A (fl [[(xq 9, .inr (8, [.ref b_, .int 0, .int ml_, .int (nI 16)]))], [(b_, .inl (ca 2, 16, .inl (bs_)))]]) nn) := by
  refine met_go2 (QA := fun A => va_Qv (fun (u_ : Nat) => True) (PostW D vwCl (TY ca) (fun (u_ : Nat) => (fl [[(xq 9, .inr (8, [.ref u_, .int 0, .int ml_, .int (nI 16)]))], [(u_, .inl (ca 2, 34, .inl (va_cpy bs_ (fun _ => 0) 0 0 16)))]])) A) A) (by decide) (Nat.le_of_ble_eq_true rfl) (fun p e s m below meth c A ls QQ hQQ hmn hnm hx hb hr hts hown hlocks hml hA hP hK hD hE hl => ?_)
  have hown : s.vm.findClass RJ2 = some m.cls := hown
  have hS : va_S A s.heap s.heap [] := va_S.rf
  have hl : lv_has ls 3 [(0, .ref (xq 9)), (1, .int (nI 17))] := hl
  generalize hHe : s.heap = H at hP ⊢
  have hS : va_S A s.heap H [] := hHe ▸ hS
  generalize ([] : List Loc) = locs at hS ⊢
  refine lv_aload_n hx hb dJ2_ensureCapacityInternal_0 rfl (lv_at hl 0 rfl) ?_
  refine va_get (D := D) (ci := 8) (v := .ref b_) (C := RJ3) (T := TJ3) (N := 4) hx hb hts in_J3 hown hK hP 0 rfl rfl 0 (by decide) (hts _ q217) (fun _ h9 => h9) rfl dJ2_ensureCapacityInternal_1 ?_
  refine va_alen hx hb hK hP 1 2 rfl rfl rfl dJ2_ensureCapacityInternal_4 (lv_topi (nm_r (e' := nI 16) rfl ?_))
  refine lv_aload_n hx hb dJ2_ensureCapacityInternal_5 rfl (lv_at hl 0 rfl) ?_
  refine va_get (D := D) (ci := 8) (v := .int (nI 0)) (C := RJ3) (T := TJ3) (N := 4) hx hb hts in_J3 hown hK hP 0 rfl rfl 1 (by decide) (hts _ q218) (fun _ h9 => h9) rfl dJ2_ensureCapacityInternal_6 ?_
  refine nv_ishr hx hb dJ2_ensureCapacityInternal_9 (by decide) (by decide) ?_
  refine lv_topi (nm_r (e' := nI 16) (by decide) ?_)
  refine lv_istore_n (lv' := [(2, .int (nI 16)), (0, .ref (xq 9)), (1, .int (nI 17))]) hx hb dJ2_ensureCapacityInternal_10 rfl hl (by decide) rfl (fun ls hl => ?_)
  refine lv_iload_n hx hb dJ2_ensureCapacityInternal_11 rfl (lv_at hl 2 rfl) ?_
  refine lv_iload_n hx hb dJ2_ensureCapacityInternal_12 rfl (lv_at hl 0 rfl) ?_
  refine lv_isub hx hb dJ2_ensureCapacityInternal_13 (lv_topi (nm_r (e' := nI 1) (by decide) ?_))
  refine nv_if_le (tgt := 38) hx hb dJ2_ensureCapacityInternal_14 (by decide) (by omega) (fun c_14 => absurd c_14 (by decide)) (fun c_14 => ?_)
  refine lv_aload_n hx hb dJ2_ensureCapacityInternal_17 rfl (lv_at hl 1 rfl) ?_
  refine lv_aload_n hx hb dJ2_ensureCapacityInternal_18 rfl (lv_at hl 1 rfl) ?_
  refine va_get (D := D) (ci := 8) (v := .ref b_) (C := RJ3) (T := TJ3) (N := 4) hx hb hts in_J3 hown hK hP 0 rfl rfl 0 (by decide) (hts _ q217) (fun _ h9 => h9) rfl dJ2_ensureCapacityInternal_19 ?_
  refine lv_aload_n hx hb dJ2_ensureCapacityInternal_22 rfl (lv_at hl 1 rfl) ?_
  refine lv_iload_n hx hb dJ2_ensureCapacityInternal_23 rfl (lv_at hl 2 rfl) ?_
  refine xc_i (xr_U (b := xq 9) (ci := 8) (q0 := 0) (As := [.int (nI 17)]) (rest := [.ref b_, .ref (xq 9)]) (mt_J2_newCapacity_g16 l D ca xq b_ ml_ bs_ 16  H.size) ⟨hx, hb, hml, hown, hts⟩ (va_cwP 1 hts q532 q2048 hE.2.2.2.2.2.2.1.2 q534 q83 q535 rfl rfl (by decide +kernel) ⟨Nat.le_of_ble_eq_true rfl, Nat.le_of_ble_eq_true rfl⟩) EvX_ok hE.1.1 hK hS (Cut.ch [[(xq 9, .inr (8, [.ref b_, .int 0, .int ml_, .int (nI 16)]))], [(b_, .inl (ca 2, 16, .inl (bs_)))]] [] hP hD hS hA) rfl rfl rfl hl.1 rfl (Nat.le_of_ble_eq_true rfl) dJ2_ensureCapacityInternal_24 ⟨Nat.le_of_ble_eq_true rfl, Nat.le_of_ble_eq_true rfl⟩) hS (Cut.ch [[(xq 9, .inr (8, [.ref b_, .int 0, .int ml_, .int (nI 16)]))], [(b_, .inl (ca 2, 16, .inl (bs_)))]] [] hP hD hS hA) (fun r_1 u_2 H locs hq_24 hP hD hS => ?_)
  have hP : va_P D vwCl (fl [[(xq 9, .inr (8, [.ref b_, .int 0, .int ml_, .int (nI 16)]))], [(b_, .inl (ca 2, 16, .inl (bs_)))]]) H := fl_join [[(xq 9, .inr (8, [.ref b_, .int 0, .int ml_, .int (nI 16)]))], [(b_, .inl (ca 2, 16, .inl (bs_)))]] [] hP
  have hD : va_D A (fl [[(xq 9, .inr (8, [.ref b_, .int 0, .int ml_, .int (nI 16)]))], [(b_, .inl (ca 2, 16, .inl (bs_)))]]) := fl_joinD [[(xq 9, .inr (8, [.ref b_, .int 0, .int ml_, .int (nI 16)]))], [(b_, .inl (ca 2, 16, .inl (bs_)))]] [] hD
  have hp_24 : r_1 = nI 34 := hq_24
  clear hq_24
  obtain rfl := hp_24
  refine lv_aload_n hx hb dJ2_ensureCapacityInternal_27 rfl (lv_at hl 1 rfl) ?_
  refine va_get (D := D) (ci := 8) (v := .int (nI 0)) (C := RJ3) (T := TJ3) (N := 4) hx hb hts in_J3 hown hK hP 0 rfl rfl 1 (by decide) (hts _ q218) (fun _ h9 => h9) rfl dJ2_ensureCapacityInternal_28 ?_
  refine nv_ishl hx hb dJ2_ensureCapacityInternal_31 (by decide) (by decide) ?_
  refine lv_topi (nm_r (e' := nI 34) (by decide) ?_)
  have hP : va_P D vwCl (fl [[(b_, .inl (ca 2, 16, .inl (bs_)))], [(xq 9, .inr (8, [.ref b_, .int 0, .int ml_, .int (nI 16)]))]]) H := mvP hP [1, 0]
  have hD : va_D A (fl [[(b_, .inl (ca 2, 16, .inl (bs_)))], [(xq 9, .inr (8, [.ref b_, .int 0, .int ml_, .int (nI 16)]))]]) := mvD hD [1, 0] (by decide)
  refine xc_r (xr_S (As := [.ref b_, .int (nI 34)]) (rest := [.ref (xq 9)]) (mt_J13_copyOf_3_g16 l D ca b_ bs_ (by first | assumption | omega | (simp only [updN, forgetC, changedC]; (repeat' split) <;> omega)) H.size) ⟨hx, hb, hml, hown, hts⟩ (va_cwS 2 hts (lw_S q547 q548 q95 q549) rfl rfl rfl (by decide +kernel) ⟨Nat.le_of_ble_eq_true rfl, Nat.le_of_ble_eq_true rfl⟩) Ev0_ok trivial hK hS (Cut.ch [[(b_, .inl (ca 2, 16, .inl (bs_)))]] [[(xq 9, .inr (8, [.ref b_, .int 0, .int ml_, .int (nI 16)]))]] hP hD hS hA) rfl hl.1 rfl (Nat.le_of_ble_eq_true rfl) dJ2_ensureCapacityInternal_32 ⟨Nat.le_of_ble_eq_true rfl, Nat.le_of_ble_eq_true rfl⟩) hS (Cut.ch [[(b_, .inl (ca 2, 16, .inl (bs_)))]] [[(xq 9, .inr (8, [.ref b_, .int 0, .int ml_, .int (nI 16)]))]] hP hD hS hA) (fun u_4 H locs hq_32 hP hD hS => ?_)
  obtain ⟨b1_5, rfl⟩ : ∃ z_, z_ = u_4 := ⟨_, rfl⟩
  have hP : va_P D vwCl (fl [[(b_, .inl (ca 2, 16, .inl (bs_)))], [(b1_5, .inl (ca 2, 34, .inl (va_cpy bs_ (fun _ => 0) 0 0 16)))], [(xq 9, .inr (8, [.ref b_, .int 0, .int ml_, .int (nI 16)]))]]) H := fl_join [[(b_, .inl (ca 2, 16, .inl (bs_)))], [(b1_5, .inl (ca 2, 34, .inl (va_cpy bs_ (fun _ => 0) 0 0 16)))]] [[(xq 9, .inr (8, [.ref b_, .int 0, .int ml_, .int (nI 16)]))]] hP
  have hD : va_D A (fl [[(b_, .inl (ca 2, 16, .inl (bs_)))], [(b1_5, .inl (ca 2, 34, .inl (va_cpy bs_ (fun _ => 0) 0 0 16)))], [(xq 9, .inr (8, [.ref b_, .int 0, .int ml_, .int (nI 16)]))]]) := fl_joinD [[(b_, .inl (ca 2, 16, .inl (bs_)))], [(b1_5, .inl (ca 2, 34, .inl (va_cpy bs_ (fun _ => 0) 0 0 16)))]] [[(xq 9, .inr (8, [.ref b_, .int 0, .int ml_, .int (nI 16)]))]] hD
  refine va_put (D := D) (ci := 8) (v := .ref b1_5) (ty := (.array .byte)) (C := RJ3) (T := TJ3) (N := 4) hx hb hts in_J3 tyJ3 tyJ3_ok nmJ3 hown hK hP hD hS 2 rfl rfl 0 (by decide) (hts _ q217) (fun _ h9 => h9) rfl (by decide +kernel) rfl rfl (Nat.le_of_ble_eq_true rfl) dJ2_ensureCapacityInternal_35 (fun H locs hP hD hS => ?_)
  have hP : va_P D vwCl (fl [[(b_, .inl (ca 2, 16, .inl (bs_)))], [(b1_5, .inl (ca 2, 34, .inl (va_cpy bs_ (fun _ => 0) 0 0 16)))], [(xq 9, .inr (8, [.ref b1_5, .int 0, .int ml_, .int (nI 16)]))]]) H := hP
  have hD : va_D A (fl [[(b_, .inl (ca 2, 16, .inl (bs_)))], [(b1_5, .inl (ca 2, 34, .inl (va_cpy bs_ (fun _ => 0) 0 0 16)))], [(xq 9, .inr (8, [.ref b1_5, .int 0, .int ml_, .int (nI 16)]))]]) := hD
  have hP : va_P D vwCl (fl [[(xq 9, .inr (8, [.ref b1_5, .int 0, .int ml_, .int (nI 16)]))], [(b1_5, .inl (ca 2, 34, .inl (va_cpy bs_ (fun _ => 0) 0 0 16)))]]) H := mvP hP [2, 1]
  have hD : va_D A (fl [[(xq 9, .inr (8, [.ref b1_5, .int 0, .int ml_, .int (nI 16)]))], [(b1_5, .inl (ca 2, 34, .inl (va_cpy bs_ (fun _ => 0) 0 0 16)))]]) := mvD hD [2, 1] (by decide)
  subst hQQ
  exact xe_v b1_5 hx hb hr hlocks hK hP hD hS (trivial) dJ2_ensureCapacityInternal_38
set_option maxHeartbeats 400000 in
set_option maxRecDepth 100000 in
theorem mt_J17_newLength_g34 (l : Launch) (D : va_G) (ca : Nat → ClassId)   (nn : Nat) : Met l yJ17_newLength (ws_ yJ17_newLength cJ17_newLength 4 (Option.some Jvm.ClassFile.FieldType.int)) ({ frames := 1, cells := 0, slots := 0, locals := 40 } : Room) (va_Pc [.int (nI 34), .int (nI 1), .int (nI 36)] (PreW Ev0 D vwCl (TY ca) (fl []) nn)) (va_Qi (fun (r_ : Int32) (_ : Unit) => r_ = nI 70) (PostW D vwCl (TY ca) (fun (_ : Unit) => (fl [])) (va_A (fl []) nn)) (va_A (fl []) nn)) 0 0 (va_A (fl []) nn) := by
  refine met_go2 (QA := fun A => va_Qi (fun (r_ : Int32) (_ : Unit) => r_ = nI 70) (PostW D vwCl (TY ca) (fun (_ : Unit) => (fl [])) A) A) (by decide) (Nat.le_of_ble_eq_true rfl) (fun p e s m below meth c A ls QQ hQQ hmn hnm hx hb hr hts hown hlocks hml hA hP hK hD hE hl => ?_)
  have hown : s.vm.findClass RJ17 = some m.cls := hown
  have hS : va_S A s.heap s.heap [] := va_S.rf
  have hl : lv_has ls 4 [(0, .int (nI 34)), (1, .int (nI 1)), (2, .int (nI 36))] := hl
  generalize hHe : s.heap = H at hP ⊢
  have hS : va_S A s.heap H [] := hHe ▸ hS
  generalize ([] : List Loc) = locs at hS ⊢
  refine lv_iload_n hx hb dJ17_newLength_0 rfl (lv_at hl 0 rfl) ?_
  refine lv_iload_n hx hb dJ17_newLength_1 rfl (lv_at hl 1 rfl) ?_
  refine lv_iload_n hx hb dJ17_newLength_2 rfl (lv_at hl 2 rfl) ?_
  refine va_mmax (x := nI 1) (y := nI 36) hx hb (hml.trans hl.1.symm) hown (hts _ q539) (hts _ q540) (hts _ q96) (hts _ q541) (Nat.le_of_ble_eq_true rfl) (Nat.le_of_ble_eq_true rfl) (by decide) (by decide) dJ17_newLength_3 ?_
  refine lv_topi (nm_r (e' := nI 36) ((mx_nI (by omega) (by omega)).trans (by decide)) ?_)
  refine lv_iadd hx hb dJ17_newLength_6 (lv_topi (nm_r (e' := nI 70) (by decide) ?_))
  refine lv_istore_n (lv' := [(3, .int (nI 70)), (0, .int (nI 34)), (1, .int (nI 1)), (2, .int (nI 36))]) hx hb dJ17_newLength_7 rfl hl (by decide) rfl (fun ls hl => ?_)
  refine lv_iconst (v := nI 0) hx hb dJ17_newLength_8 (by decide) ?_
  refine lv_iload_n hx hb dJ17_newLength_9 rfl (lv_at hl 0 rfl) ?_
  refine nv_icmp_ge (tgt := 21) hx hb dJ17_newLength_10 (by decide) (by omega) (by omega) (fun c_10 => absurd c_10 (by decide)) (fun c_10 => ?_)
  refine lv_iload_n hx hb dJ17_newLength_13 rfl (lv_at hl 0 rfl) ?_
  refine lv_ldc (v := nI 2147483639) hx hb hown (hts _ q542) dJ17_newLength_14 ?_
  refine nv_icmp_gt (tgt := 21) hx hb dJ17_newLength_16 (by decide) (by omega) (by omega) (fun c_16 => absurd c_16 (by decide)) (fun c_16 => ?_)
  refine lv_iload_n hx hb dJ17_newLength_19 rfl (lv_at hl 0 rfl) ?_
  subst hQQ
  exact xe_i (v := nI 70) () hx hb hr hlocks hK hP hD hS (rfl) dJ17_newLength_20
set_option maxHeartbeats 400000 in
set_option maxRecDepth 100000 in
theorem mt_J2_newCapacity_g34 (l : Launch) (D : va_G) (ca : Nat → ClassId) (xq : Nat → Nat) (b_ : Nat) (ml_ : Int32) (bs_ : Nat → Int32) (n_ : Nat)  (nn : Nat) : Met l yJ2_newCapacity (ws_ yJ2_newCapacity cJ2_newCapacity 6 (Option.some Jvm.ClassFile.FieldType.int)) ({ frames := 2, cells := 0, slots := 0, locals := 63 } : Room) (va_Pc [.ref (xq 9), .int (nI 35)] (PreW EvX D vwCl (TY ca) (fl [[(xq 9, .inr (8, [.ref b_, .int 0, .int ml_, .int (nI n_)]))], [(b_, .inl (ca 2, 34, .inl (bs_)))]]) nn)) (va_Qi (fun (r_ : Int32) (_ : Unit) => r_ = nI 70) (PostW D vwCl (TY ca) (fun (_ : Unit) => (fl [[(xq 9, .inr (8, [.ref b_, .int 0, .int ml_, .int (nI n_)]))], [(b_, .inl (ca 2, 34, .inl (bs_)))]])) (va_A (fl [[(xq 9, .inr (8, [.ref b_, .int 0, .int ml_, .int (nI n_)]))], [(b_, .inl (ca 2, 34, .inl (bs_)))]]) nn)) (va_A (fl [[(xq 9, .inr (8, [.ref b_, .int 0, .int ml_, .int (nI n_)]))], [(b_, .inl (ca 2, 34, .inl (bs_)))]]) nn)) 0 0 (va_A (fl [[(xq 9, .inr (8, [.ref b_, .int 0, .int ml_, .int (nI n_)]))], [(b_, .inl (ca 2, 34, .inl (bs_)))]]) nn) := by
  refine met_go2 (QA := fun A => va_Qi (fun (r_ : Int32) (_ : Unit) => r_ = nI 70) (PostW D vwCl (TY ca) (fun (_ : Unit) => (fl [[(xq 9, .inr (8, [.ref b_, .int 0, .int ml_, .int (nI n_)]))], [(b_, .inl (ca 2, 34, .inl (bs_)))]])) A) A) (by decide) (Nat.le_of_ble_eq_true rfl) (fun p e s m below meth c A ls QQ hQQ hmn hnm hx hb hr hts hown hlocks hml hA hP hK hD hE hl => ?_)
  have hown : s.vm.findClass RJ2 = some m.cls := hown
  have hS : va_S A s.heap s.heap [] := va_S.rf
  have hl : lv_has ls 6 [(0, .ref (xq 9)), (1, .int (nI 35))] := hl
  generalize hHe : s.heap = H at hP ⊢
  have hS : va_S A s.heap H [] := hHe ▸ hS
  generalize ([] : List Loc) = locs at hS ⊢
  refine lv_aload_n hx hb dJ2_newCapacity_0 rfl (lv_at hl 0 rfl) ?_
  refine va_get (D := D) (ci := 8) (v := .ref b_) (C := RJ3) (T := TJ3) (N := 4) hx hb hts in_J3 hown hK hP 0 rfl rfl 0 (by decide) (hts _ q217) (fun _ h9 => h9) rfl dJ2_newCapacity_1 ?_
  refine va_alen hx hb hK hP 1 2 rfl rfl rfl dJ2_newCapacity_4 (lv_topi (nm_r (e' := nI 34) rfl ?_))
  refine lv_istore_n (lv' := [(2, .int (nI 34)), (0, .ref (xq 9)), (1, .int (nI 35))]) hx hb dJ2_newCapacity_5 rfl hl (by decide) rfl (fun ls hl => ?_)
  refine lv_iload_n hx hb dJ2_newCapacity_6 rfl (lv_at hl 2 rfl) ?_
  refine lv_aload_n hx hb dJ2_newCapacity_7 rfl (lv_at hl 1 rfl) ?_
  refine va_get (D := D) (ci := 8) (v := .int (nI 0)) (C := RJ3) (T := TJ3) (N := 4) hx hb hts in_J3 hown hK hP 0 rfl rfl 1 (by decide) (hts _ q218) (fun _ h9 => h9) rfl dJ2_newCapacity_8 ?_
  refine nv_ishl hx hb dJ2_newCapacity_11 (by decide) (by decide) ?_
  refine lv_topi (nm_r (e' := nI 35) (by decide) ?_)
  refine lv_istore_n (lv' := [(3, .int (nI 35)), (2, .int (nI 34)), (0, .ref (xq 9)), (1, .int (nI 35))]) hx hb dJ2_newCapacity_12 rfl hl (by decide) rfl (fun ls hl => ?_)
  refine lv_iload_n hx hb dJ2_newCapacity_13 rfl (lv_at hl 0 rfl) ?_
  refine lv_iload_n hx hb dJ2_newCapacity_14 rfl (lv_at hl 1 rfl) ?_
  refine lv_isub hx hb dJ2_newCapacity_15 (lv_topi (nm_r (e' := nI 1) (by decide) ?_))
  refine lv_istore (lv' := [(4, .int (nI 1)), (3, .int (nI 35)), (2, .int (nI 34)), (0, .ref (xq 9)), (1, .int (nI 35))]) hx hb dJ2_newCapacity_16 hl (by decide) rfl (fun ls hl => ?_)
  refine lv_iload_n hx hb dJ2_newCapacity_18 rfl (lv_at hl 2 rfl) ?_
  refine lv_iload hx hb dJ2_newCapacity_19 (lv_at hl 0 rfl) ?_
  refine lv_iload_n hx hb dJ2_newCapacity_21 rfl (lv_at hl 2 rfl) ?_
  refine lv_iconst (v := nI 2) hx hb dJ2_newCapacity_22 (by decide) ?_
  refine lv_aload_n hx hb dJ2_newCapacity_23 rfl (lv_at hl 3 rfl) ?_
  refine va_get (D := D) (ci := 8) (v := .int (nI 0)) (C := RJ3) (T := TJ3) (N := 4) hx hb hts in_J3 hown hK hP 0 rfl rfl 1 (by decide) (hts _ q218) (fun _ h9 => h9) rfl dJ2_newCapacity_24 ?_
  refine nv_ishl hx hb dJ2_newCapacity_27 (by decide) (by decide) ?_
  refine lv_topi (nm_r (e' := nI 2) (by decide) ?_)
  refine lv_iadd hx hb dJ2_newCapacity_28 (lv_topi (nm_r (e' := nI 36) (by decide) ?_))
  refine xc_i (xr_S (As := [.int (nI 34), .int (nI 1), .int (nI 36)]) (rest := []) (mt_J17_newLength_g34 l D ca   H.size) ⟨hx, hb, hml, hown, hts⟩ (va_cwS 3 hts (lw_S q536 q537 q101 q538) rfl rfl rfl (by decide +kernel) ⟨Nat.le_of_ble_eq_true rfl, Nat.le_of_ble_eq_true rfl⟩) Ev0_ok trivial hK hS (Cut.app (wc := []) (wr := (fl [[(xq 9, .inr (8, [.ref b_, .int 0, .int ml_, .int (nI n_)]))], [(b_, .inl (ca 2, 34, .inl (bs_)))]])) hP hD hS hA) rfl hl.1 rfl (Nat.le_of_ble_eq_true rfl) dJ2_newCapacity_29 ⟨Nat.le_of_ble_eq_true rfl, Nat.le_of_ble_eq_true rfl⟩) hS (Cut.app (wc := []) (wr := (fl [[(xq 9, .inr (8, [.ref b_, .int 0, .int ml_, .int (nI n_)]))], [(b_, .inl (ca 2, 34, .inl (bs_)))]])) hP hD hS hA) (fun r_1 u_2 H locs hq_29 hP hD hS => ?_)
  have hP : va_P D vwCl (fl [[(xq 9, .inr (8, [.ref b_, .int 0, .int ml_, .int (nI n_)]))], [(b_, .inl (ca 2, 34, .inl (bs_)))]]) H := hP
  have hD : va_D A (fl [[(xq 9, .inr (8, [.ref b_, .int 0, .int ml_, .int (nI n_)]))], [(b_, .inl (ca 2, 34, .inl (bs_)))]]) := hD
  have hp_29 : r_1 = nI 70 := hq_29
  clear hq_29
  obtain rfl := hp_29
  refine lv_istore (lv' := [(5, .int (nI 70)), (4, .int (nI 1)), (3, .int (nI 35)), (2, .int (nI 34)), (0, .ref (xq 9)), (1, .int (nI 35))]) hx hb dJ2_newCapacity_32 hl (by decide) rfl (fun ls hl => ?_)
  refine lv_iload hx hb dJ2_newCapacity_34 (lv_at hl 0 rfl) ?_
  refine lv_ldc (v := nI 2147483647) hx hb hown (hts _ q546) dJ2_newCapacity_36 ?_
  refine nv_icmp_ne (tgt := 51) hx hb dJ2_newCapacity_38 (by decide) (by omega) (by omega) (fun c_38 => ?_) (fun c_38 => absurd c_38 (by decide))
  refine lv_iload hx hb dJ2_newCapacity_51 (lv_at hl 0 rfl) ?_
  refine lv_aload_n hx hb dJ2_newCapacity_53 rfl (lv_at hl 4 rfl) ?_
  refine va_get (D := D) (ci := 8) (v := .int (nI 0)) (C := RJ3) (T := TJ3) (N := 4) hx hb hts in_J3 hown hK hP 0 rfl rfl 1 (by decide) (hts _ q218) (fun _ h9 => h9) rfl dJ2_newCapacity_54 ?_
  refine nv_ishr hx hb dJ2_newCapacity_57 (by decide) (by decide) ?_
  subst hQQ
  exact xe_i (v := nI (70 >>> 0)) () hx hb hr hlocks hK hP hD hS (by decide) dJ2_newCapacity_58
set_option maxHeartbeats 400000 in
set_option maxRecDepth 100000 in
theorem mt_J13_copyOf_3_g34 (l : Launch) (D : va_G) (ca : Nat → ClassId) (b_ : Nat) (bs_ : Nat → Int32) (hf : sb_Fit bs_) (nn : Nat) : Met l yJ13_copyOf_3 (ws_ yJ13_copyOf_3 cJ13_copyOf_3 3 (Option.some (Jvm.ClassFile.FieldType.array Jvm.ClassFile.FieldType.byte))) ({ frames := 1, cells := 1, slots := 70, locals := 60 } : Room) (va_Pc [.ref b_, .int (nI 70)] (PreW Ev0 D vwCl (TY ca) (fl [[(b_, .inl (ca 2, 34, .inl (bs_)))]]) nn)) (va_Qr (fun (u_ : Nat) => True) (fun (u_ : Nat) (r_ : Nat) (t_ : State) => r_ = u_ ∧ PostW D vwCl (TY ca) (fun (u_ : Nat) => (fl [[(b_, .inl (ca 2, 34, .inl (bs_)))], [(u_, .inl (ca 2, 70, .inl (va_cpy bs_ (fun _ => 0) 0 0 34)))]])) (va_A (fl [[(b_, .inl (ca 2, 34, .inl (bs_)))]]) nn) u_ t_) (va_A (fl [[(b_, .inl (ca 2, 34, .inl (bs_)))]]) nn)) 1 70 (va_A (fl [[(b_, .inl (ca 2, 34, .inl (bs_)))]]) nn) := by
  refine met_go2 (QA := fun A => va_Qr (fun (u_ : Nat) => True) (fun (u_ : Nat) (r_ : Nat) (t_ : State) => r_ = u_ ∧ PostW D vwCl (TY ca) (fun (u_ : Nat) => (fl [[(b_, .inl (ca 2, 34, .inl (bs_)))], [(u_, .inl (ca 2, 70, .inl (va_cpy bs_ (fun _ => 0) 0 0 34)))]])) A u_ t_) A) (by decide) (Nat.le_of_ble_eq_true rfl) (fun p e s m below meth c A ls QQ hQQ hmn hnm hx hb hr hts hown hlocks hml hA hP hK hD hE hl => ?_)
  have hown : s.vm.findClass RJ13 = some m.cls := hown
  have hS : va_S A s.heap s.heap [] := va_S.rf
  have hl : lv_has ls 3 [(0, .ref b_), (1, .int (nI 70))] := hl
  generalize hHe : s.heap = H at hP ⊢
  have hS : va_S A s.heap H [] := hHe ▸ hS
  generalize ([] : List Loc) = locs at hS ⊢
  refine lv_iload_n hx hb dJ13_copyOf_3_0 rfl (lv_at hl 1 rfl) ?_
  refine lv_aload_n hx hb dJ13_copyOf_3_1 rfl (lv_at hl 0 rfl) ?_
  refine va_alen hx hb hK hP 0 2 rfl rfl rfl dJ13_copyOf_3_2 (lv_topi (nm_r (e' := nI 34) rfl ?_))
  refine nv_icmp_ne (tgt := 14) hx hb dJ13_copyOf_3_3 (by decide) (by omega) (by omega) (fun c_3 => ?_) (fun c_3 => absurd c_3 (by decide))
  refine lv_iload_n hx hb dJ13_copyOf_3_14 rfl (lv_at hl 1 rfl) ?_
  refine nv_newb (N := 70) hx hb (hts _ q231) hK hP hD hS hA 2 rfl (by decide) (by decide) ⟨Nat.le_of_ble_eq_true rfl, Nat.le_of_ble_eq_true rfl⟩ dJ13_copyOf_3_15 (fun q_1 H hP hD hS => ?_)
  have hP : va_P D vwCl (fl [[(b_, .inl (ca 2, 34, .inl (bs_)))], [(q_1, .inl (ca 2, 70, .inl ((fun _ => 0))))]]) H := fl_pushP hP
  have hD : va_D A (fl [[(b_, .inl (ca 2, 34, .inl (bs_)))], [(q_1, .inl (ca 2, 70, .inl ((fun _ => 0))))]]) := fl_pushD hD
  refine lv_astore_n (lv' := [(2, .ref q_1), (0, .ref b_), (1, .int (nI 70))]) hx hb dJ13_copyOf_3_17 rfl hl (by decide) rfl (fun ls hl => ?_)
  refine lv_aload_n hx hb dJ13_copyOf_3_18 rfl (lv_at hl 1 rfl) ?_
  refine lv_iconst (v := nI 0) hx hb dJ13_copyOf_3_19 (by decide) ?_
  refine lv_aload_n hx hb dJ13_copyOf_3_20 rfl (lv_at hl 0 rfl) ?_
  refine lv_iconst (v := nI 0) hx hb dJ13_copyOf_3_21 (by decide) ?_
  refine lv_aload_n hx hb dJ13_copyOf_3_22 rfl (lv_at hl 1 rfl) ?_
  refine va_alen hx hb hK hP 0 2 rfl rfl rfl dJ13_copyOf_3_23 (lv_topi (nm_r (e' := nI 34) rfl ?_))
  refine lv_iload_n hx hb dJ13_copyOf_3_24 rfl (lv_at hl 2 rfl) ?_
  refine va_mmin (x := nI 34) (y := nI 70) hx hb (hml.trans hl.1.symm) hown (hts _ q413) (hts _ q414) (hts _ q96) (hts _ q415) (Nat.le_of_ble_eq_true rfl) (Nat.le_of_ble_eq_true rfl) (by decide) (by decide) dJ13_copyOf_3_25 ?_
  refine lv_topi (nm_r (e' := nI 34) ((mn_nI (by omega) (by omega)).trans (by decide)) ?_)
  refine va_copyi hx hb (hml.trans hl.1.symm) hown (hts _ q416) (hts _ q418) (hts _ q417) (hts _ q97) hK hP hD hS 0 1 2 2 rfl rfl rfl rfl rfl (sp := nI 0) (dp := nI 0) (n := nI 34) (by decide) (by decide) (by decide) (by decide) (by decide) (fun i_ _ => hf _) (Nat.le_of_ble_eq_true rfl) (Nat.le_of_ble_eq_true (by decide)) dJ13_copyOf_3_28 (fun H locs hP hD hS => ?_)
  have hP : va_P D vwCl (fl [[(b_, .inl (ca 2, 34, .inl (bs_)))], [(q_1, .inl (ca 2, 70, .inl (va_cpy bs_ (fun _ => 0) 0 0 34)))]]) H := hP
  have hD : va_D A (fl [[(b_, .inl (ca 2, 34, .inl (bs_)))], [(q_1, .inl (ca 2, 70, .inl (va_cpy bs_ (fun _ => 0) 0 0 34)))]]) := hD
  refine lv_aload_n hx hb dJ13_copyOf_3_31 rfl (lv_at hl 0 rfl) ?_
  subst hQQ
  exact xe_ra (ad := fun (u_ : Nat) => u_) q_1 hx hb hr hlocks hK hP hD hS (trivial) dJ13_copyOf_3_32
set_option maxHeartbeats 400000 in
set_option maxRecDepth 100000 in
theorem mt_J2_ensureCapacityInternal_g34 (l : Launch) (D : va_G) (ca : Nat → ClassId) (xq : Nat → Nat) (b_ : Nat) (ml_ : Int32) (bs_ : Nat → Int32) (hf : sb_Fit bs_) (nn : Nat) : Met l yJ2_ensureCapacityInternal (ws_ yJ2_ensureCapacityInternal cJ2_ensureCapacityInternal 3 (Option.none : Option Jvm.ClassFile.FieldType)) ({ frames := 3, cells := 1, slots := 70, locals := 88 } : Room) (va_Pc [.ref (xq 9), .int (nI 35)] (PreW EvZ D vwCl (TY ca) (fl [[(xq 9, .inr (8, [.ref b_, .int 0, .int ml_, .int (nI 34)]))], [(b_, .inl (ca 2, 34, .inl (bs_)))]]) nn)) (va_Qv (fun (u_ : Nat) => True) (PostW D vwCl (TY ca) (fun (u_ : Nat) => (fl [[(xq 9, .inr (8, [.ref u_, .int 0, .int ml_, .int (nI 34)]))], [(u_, .inl (ca 2, 70, .inl (va_cpy bs_ (fun _ => 0) 0 0 34)))]])) (va_A (fl [[(xq 9, .inr (8, [.ref b_, .int 0, .int ml_, .int (nI 34)]))], [(b_, .inl (ca 2, 34, .inl (bs_)))]]) nn)) (va_A (fl [[(xq 9, .inr (8, [.ref b_, .int 0, .int ml_, .int (nI 34)]))], [(b_, .inl (ca 2, 34, .inl (bs_)))]]) nn)) 1 70 (va_A (fl [[(xq 9, .inr (8, [.ref b_, .int 0, .int ml_, .int (nI 34)]))], [(b_, .inl (ca 2, 34, .inl (bs_)))]]) nn) := by
  refine met_go2 (QA := fun A => va_Qv (fun (u_ : Nat) => True) (PostW D vwCl (TY ca) (fun (u_ : Nat) => (fl [[(xq 9, .inr (8, [.ref u_, .int 0, .int ml_, .int (nI 34)]))], [(u_, .inl (ca 2, 70, .inl (va_cpy bs_ (fun _ => 0) 0 0 34)))]])) A) A) (by decide) (Nat.le_of_ble_eq_true rfl) (fun p e s m below meth c A ls QQ hQQ hmn hnm hx hb hr hts hown hlocks hml hA hP hK hD hE hl => ?_)
  have hown : s.vm.findClass RJ2 = some m.cls := hown
  have hS : va_S A s.heap s.heap [] := va_S.rf
  have hl : lv_has ls 3 [(0, .ref (xq 9)), (1, .int (nI 35))] := hl
  generalize hHe : s.heap = H at hP ⊢
  have hS : va_S A s.heap H [] := hHe ▸ hS
  generalize ([] : List Loc) = locs at hS ⊢
  refine lv_aload_n hx hb dJ2_ensureCapacityInternal_0 rfl (lv_at hl 0 rfl) ?_
  refine va_get (D := D) (ci := 8) (v := .ref b_) (C := RJ3) (T := TJ3) (N := 4) hx hb hts in_J3 hown hK hP 0 rfl rfl 0 (by decide) (hts _ q217) (fun _ h9 => h9) rfl dJ2_ensureCapacityInternal_1 ?_
  refine va_alen hx hb hK hP 1 2 rfl rfl rfl dJ2_ensureCapacityInternal_4 (lv_topi (nm_r (e' := nI 34) rfl ?_))
  refine lv_aload_n hx hb dJ2_ensureCapacityInternal_5 rfl (lv_at hl 0 rfl) ?_
  refine va_get (D := D) (ci := 8) (v := .int (nI 0)) (C := RJ3) (T := TJ3) (N := 4) hx hb hts in_J3 hown hK hP 0 rfl rfl 1 (by decide) (hts _ q218) (fun _ h9 => h9) rfl dJ2_ensureCapacityInternal_6 ?_
  refine nv_ishr hx hb dJ2_ensureCapacityInternal_9 (by decide) (by decide) ?_
  refine lv_topi (nm_r (e' := nI 34) (by decide) ?_)
  refine lv_istore_n (lv' := [(2, .int (nI 34)), (0, .ref (xq 9)), (1, .int (nI 35))]) hx hb dJ2_ensureCapacityInternal_10 rfl hl (by decide) rfl (fun ls hl => ?_)
  refine lv_iload_n hx hb dJ2_ensureCapacityInternal_11 rfl (lv_at hl 2 rfl) ?_
  refine lv_iload_n hx hb dJ2_ensureCapacityInternal_12 rfl (lv_at hl 0 rfl) ?_
  refine lv_isub hx hb dJ2_ensureCapacityInternal_13 (lv_topi (nm_r (e' := nI 1) (by decide) ?_))
  refine nv_if_le (tgt := 38) hx hb dJ2_ensureCapacityInternal_14 (by decide) (by omega) (fun c_14 => absurd c_14 (by decide)) (fun c_14 => ?_)
  refine lv_aload_n hx hb dJ2_ensureCapacityInternal_17 rfl (lv_at hl 1 rfl) ?_
  refine lv_aload_n hx hb dJ2_ensureCapacityInternal_18 rfl (lv_at hl 1 rfl) ?_
  refine va_get (D := D) (ci := 8) (v := .ref b_) (C := RJ3) (T := TJ3) (N := 4) hx hb hts in_J3 hown hK hP 0 rfl rfl 0 (by decide) (hts _ q217) (fun _ h9 => h9) rfl dJ2_ensureCapacityInternal_19 ?_
  refine lv_aload_n hx hb dJ2_ensureCapacityInternal_22 rfl (lv_at hl 1 rfl) ?_
  refine lv_iload_n hx hb dJ2_ensureCapacityInternal_23 rfl (lv_at hl 2 rfl) ?_
  refine xc_i (xr_U (b := xq 9) (ci := 8) (q0 := 0) (As := [.int (nI 35)]) (rest := [.ref b_, .ref (xq 9)]) (mt_J2_newCapacity_g34 l D ca xq b_ ml_ bs_ 34  H.size) ⟨hx, hb, hml, hown, hts⟩ (va_cwP 1 hts q532 q2048 hE.2.2.2.2.2.2.1.2 q534 q83 q535 rfl rfl (by decide +kernel) ⟨Nat.le_of_ble_eq_true rfl, Nat.le_of_ble_eq_true rfl⟩) EvX_ok hE.1.1 hK hS (Cut.ch [[(xq 9, .inr (8, [.ref b_, .int 0, .int ml_, .int (nI 34)]))], [(b_, .inl (ca 2, 34, .inl (bs_)))]] [] hP hD hS hA) rfl rfl rfl hl.1 rfl (Nat.le_of_ble_eq_true rfl) dJ2_ensureCapacityInternal_24 ⟨Nat.le_of_ble_eq_true rfl, Nat.le_of_ble_eq_true rfl⟩) hS (Cut.ch [[(xq 9, .inr (8, [.ref b_, .int 0, .int ml_, .int (nI 34)]))], [(b_, .inl (ca 2, 34, .inl (bs_)))]] [] hP hD hS hA) (fun r_1 u_2 H locs hq_24 hP hD hS => ?_)
  have hP : va_P D vwCl (fl [[(xq 9, .inr (8, [.ref b_, .int 0, .int ml_, .int (nI 34)]))], [(b_, .inl (ca 2, 34, .inl (bs_)))]]) H := fl_join [[(xq 9, .inr (8, [.ref b_, .int 0, .int ml_, .int (nI 34)]))], [(b_, .inl (ca 2, 34, .inl (bs_)))]] [] hP
  have hD : va_D A (fl [[(xq 9, .inr (8, [.ref b_, .int 0, .int ml_, .int (nI 34)]))], [(b_, .inl (ca 2, 34, .inl (bs_)))]]) := fl_joinD [[(xq 9, .inr (8, [.ref b_, .int 0, .int ml_, .int (nI 34)]))], [(b_, .inl (ca 2, 34, .inl (bs_)))]] [] hD
  have hp_24 : r_1 = nI 70 := hq_24
  clear hq_24
  obtain rfl := hp_24
  refine lv_aload_n hx hb dJ2_ensureCapacityInternal_27 rfl (lv_at hl 1 rfl) ?_
  refine va_get (D := D) (ci := 8) (v := .int (nI 0)) (C := RJ3) (T := TJ3) (N := 4) hx hb hts in_J3 hown hK hP 0 rfl rfl 1 (by decide) (hts _ q218) (fun _ h9 => h9) rfl dJ2_ensureCapacityInternal_28 ?_
  refine nv_ishl hx hb dJ2_ensureCapacityInternal_31 (by decide) (by decide) ?_
  refine lv_topi (nm_r (e' := nI 70) (by decide) ?_)
  have hP : va_P D vwCl (fl [[(b_, .inl (ca 2, 34, .inl (bs_)))], [(xq 9, .inr (8, [.ref b_, .int 0, .int ml_, .int (nI 34)]))]]) H := mvP hP [1, 0]
  have hD : va_D A (fl [[(b_, .inl (ca 2, 34, .inl (bs_)))], [(xq 9, .inr (8, [.ref b_, .int 0, .int ml_, .int (nI 34)]))]]) := mvD hD [1, 0] (by decide)
  refine xc_r (xr_S (As := [.ref b_, .int (nI 70)]) (rest := [.ref (xq 9)]) (mt_J13_copyOf_3_g34 l D ca b_ bs_ (by first | assumption | omega | (simp only [updN, forgetC, changedC]; (repeat' split) <;> omega)) H.size) ⟨hx, hb, hml, hown, hts⟩ (va_cwS 2 hts (lw_S q547 q548 q95 q549) rfl rfl rfl (by decide +kernel) ⟨Nat.le_of_ble_eq_true rfl, Nat.le_of_ble_eq_true rfl⟩) Ev0_ok trivial hK hS (Cut.ch [[(b_, .inl (ca 2, 34, .inl (bs_)))]] [[(xq 9, .inr (8, [.ref b_, .int 0, .int ml_, .int (nI 34)]))]] hP hD hS hA) rfl hl.1 rfl (Nat.le_of_ble_eq_true rfl) dJ2_ensureCapacityInternal_32 ⟨Nat.le_of_ble_eq_true rfl, Nat.le_of_ble_eq_true rfl⟩) hS (Cut.ch [[(b_, .inl (ca 2, 34, .inl (bs_)))]] [[(xq 9, .inr (8, [.ref b_, .int 0, .int ml_, .int (nI 34)]))]] hP hD hS hA) (fun u_4 H locs hq_32 hP hD hS => ?_)
  obtain ⟨b1_5, rfl⟩ : ∃ z_, z_ = u_4 := ⟨_, rfl⟩
  have hP : va_P D vwCl (fl [[(b_, .inl (ca 2, 34, .inl (bs_)))], [(b1_5, .inl (ca 2, 70, .inl (va_cpy bs_ (fun _ => 0) 0 0 34)))], [(xq 9, .inr (8, [.ref b_, .int 0, .int ml_, .int (nI 34)]))]]) H := fl_join [[(b_, .inl (ca 2, 34, .inl (bs_)))], [(b1_5, .inl (ca 2, 70, .inl (va_cpy bs_ (fun _ => 0) 0 0 34)))]] [[(xq 9, .inr (8, [.ref b_, .int 0, .int ml_, .int (nI 34)]))]] hP
  have hD : va_D A (fl [[(b_, .inl (ca 2, 34, .inl (bs_)))], [(b1_5, .inl (ca 2, 70, .inl (va_cpy bs_ (fun _ => 0) 0 0 34)))], [(xq 9, .inr (8, [.ref b_, .int 0, .int ml_, .int (nI 34)]))]]) := fl_joinD [[(b_, .inl (ca 2, 34, .inl (bs_)))], [(b1_5, .inl (ca 2, 70, .inl (va_cpy bs_ (fun _ => 0) 0 0 34)))]] [[(xq 9, .inr (8, [.ref b_, .int 0, .int ml_, .int (nI 34)]))]] hD
  refine va_put (D := D) (ci := 8) (v := .ref b1_5) (ty := (.array .byte)) (C := RJ3) (T := TJ3) (N := 4) hx hb hts in_J3 tyJ3 tyJ3_ok nmJ3 hown hK hP hD hS 2 rfl rfl 0 (by decide) (hts _ q217) (fun _ h9 => h9) rfl (by decide +kernel) rfl rfl (Nat.le_of_ble_eq_true rfl) dJ2_ensureCapacityInternal_35 (fun H locs hP hD hS => ?_)
  have hP : va_P D vwCl (fl [[(b_, .inl (ca 2, 34, .inl (bs_)))], [(b1_5, .inl (ca 2, 70, .inl (va_cpy bs_ (fun _ => 0) 0 0 34)))], [(xq 9, .inr (8, [.ref b1_5, .int 0, .int ml_, .int (nI 34)]))]]) H := hP
  have hD : va_D A (fl [[(b_, .inl (ca 2, 34, .inl (bs_)))], [(b1_5, .inl (ca 2, 70, .inl (va_cpy bs_ (fun _ => 0) 0 0 34)))], [(xq 9, .inr (8, [.ref b1_5, .int 0, .int ml_, .int (nI 34)]))]]) := hD
  have hP : va_P D vwCl (fl [[(xq 9, .inr (8, [.ref b1_5, .int 0, .int ml_, .int (nI 34)]))], [(b1_5, .inl (ca 2, 70, .inl (va_cpy bs_ (fun _ => 0) 0 0 34)))]]) H := mvP hP [2, 1]
  have hD : va_D A (fl [[(xq 9, .inr (8, [.ref b1_5, .int 0, .int ml_, .int (nI 34)]))], [(b1_5, .inl (ca 2, 70, .inl (va_cpy bs_ (fun _ => 0) 0 0 34)))]]) := mvD hD [2, 1] (by decide)
  subst hQQ
  exact xe_v b1_5 hx hb hr hlocks hK hP hD hS (trivial) dJ2_ensureCapacityInternal_38
set_option maxHeartbeats 400000 in
set_option maxRecDepth 100000 in
theorem mt_J2_append_3_n (l : Launch) (D : va_G) (ca : Nat → ClassId) (xq : Nat → Nat) (b_ : Nat) (ml_ : Int32) (bs_ : Nat → Int32) (T_ : List Nat) (cap_ : Nat) (c_ : Nat) (hc : c_ < 128) (hn : T_.length < cap_) (hcap : cap_ < 2000) (nn : Nat) : Met l yJ2_append_3 (ws_ yJ2_append_3 cJ2_append_3 2 (Option.some (Jvm.ClassFile.FieldType.object "java/lang/AbstractStringBuilder"))) ({ frames := 1, cells := 0, slots := 0, locals := 22 } : Room) (va_Pc [.ref (xq 9), .int (nI c_)] (PreW EvZ D vwCl (TY ca) (fl [[(xq 9, .inr (8, [.ref b_, .int 0, .int ml_, .int (nI T_.length)]))], [(b_, .inl (ca 2, cap_, .inl (bs_)))]]) nn)) (va_Qr (fun (u_ : Unit) => True) (fun (u_ : Unit) (r_ : Nat) (t_ : State) => r_ = (xq 9) ∧ PostW D vwCl (TY ca) (fun (u_ : Unit) => (fl [[(xq 9, .inr (8, [.ref b_, .int 0, .int ml_, .int (nI (T_.length + 1))]))], [(b_, .inl (ca 2, cap_, .inl (upd bs_ T_.length (nI c_))))]])) (va_A (fl [[(xq 9, .inr (8, [.ref b_, .int 0, .int ml_, .int (nI T_.length)]))], [(b_, .inl (ca 2, cap_, .inl (bs_)))]]) nn) u_ t_) (va_A (fl [[(xq 9, .inr (8, [.ref b_, .int 0, .int ml_, .int (nI T_.length)]))], [(b_, .inl (ca 2, cap_, .inl (bs_)))]]) nn)) 0 0 (va_A (fl [[(xq 9, .inr (8, [.ref b_, .int 0, .int ml_, .int (nI T_.length)]))], [(b_, .inl (ca 2, cap_, .inl (bs_)))]]) nn) := by
  refine met_go2 (QA := fun A => va_Qr (fun (u_ : Unit) => True) (fun (u_ : Unit) (r_ : Nat) (t_ : State) => r_ = (xq 9) ∧ PostW D vwCl (TY ca) (fun (u_ : Unit) => (fl [[(xq 9, .inr (8, [.ref b_, .int 0, .int ml_, .int (nI (T_.length + 1))]))], [(b_, .inl (ca 2, cap_, .inl (upd bs_ T_.length (nI c_))))]])) A u_ t_) A) (by decide) (Nat.le_of_ble_eq_true rfl) (fun p e s m below meth c A ls QQ hQQ hmn hnm hx hb hr hts hown hlocks hml hA hP hK hD hE hl => ?_)
  have hown : s.vm.findClass RJ2 = some m.cls := hown
  have hS : va_S A s.heap s.heap [] := va_S.rf
  have hl : lv_has ls 2 [(0, .ref (xq 9)), (1, .int (nI c_))] := hl
  generalize hHe : s.heap = H at hP ⊢
  have hS : va_S A s.heap H [] := hHe ▸ hS
  generalize ([] : List Loc) = locs at hS ⊢
  refine lv_aload_n hx hb dJ2_append_3_0 rfl (lv_at hl 0 rfl) ?_
  refine lv_aload_n hx hb dJ2_append_3_1 rfl (lv_at hl 0 rfl) ?_
  refine va_get (D := D) (ci := 8) (v := .int (nI T_.length)) (C := RJ3) (T := TJ3) (N := 4) hx hb hts in_J3 hown hK hP 0 rfl rfl 3 (by decide) (hts _ q221) (fun _ h9 => h9) rfl dJ2_append_3_2 ?_
  refine lv_iconst (v := nI 1) hx hb dJ2_append_3_5 (by decide) ?_
  refine nv_iadd hx hb dJ2_append_3_6 ?_
  refine xc_v (xr_U (b := xq 9) (ci := 8) (q0 := 0) (As := [.int (nI (T_.length + 1))]) (rest := []) (mt_J2_ensureCapacityInternal_n l D ca xq b_ ml_ bs_ cap_ T_.length (T_.length + 1) (by omega) hcap H.size) ⟨hx, hb, hml, hown, hts⟩ (va_cwP 1 hts q528 q2047 hE.2.2.2.2.2.2.1.1 q530 q83 q531 rfl rfl (by decide +kernel) ⟨Nat.le_of_ble_eq_true rfl, Nat.le_of_ble_eq_true rfl⟩) EvX_ok hE.1.1 hK hS (Cut.ch [[(xq 9, .inr (8, [.ref b_, .int 0, .int ml_, .int (nI T_.length)]))], [(b_, .inl (ca 2, cap_, .inl (bs_)))]] [] hP hD hS hA) rfl rfl rfl hl.1 rfl (Nat.le_of_ble_eq_true rfl) dJ2_append_3_7 ⟨Nat.le_of_ble_eq_true rfl, Nat.le_of_ble_eq_true rfl⟩) hS (Cut.ch [[(xq 9, .inr (8, [.ref b_, .int 0, .int ml_, .int (nI T_.length)]))], [(b_, .inl (ca 2, cap_, .inl (bs_)))]] [] hP hD hS hA) (fun u_2 H locs hq_7 hP hD hS => ?_)
  have hP : va_P D vwCl (fl [[(xq 9, .inr (8, [.ref b_, .int 0, .int ml_, .int (nI T_.length)]))], [(b_, .inl (ca 2, cap_, .inl (bs_)))]]) H := fl_join [[(xq 9, .inr (8, [.ref b_, .int 0, .int ml_, .int (nI T_.length)]))], [(b_, .inl (ca 2, cap_, .inl (bs_)))]] [] hP
  have hD : va_D A (fl [[(xq 9, .inr (8, [.ref b_, .int 0, .int ml_, .int (nI T_.length)]))], [(b_, .inl (ca 2, cap_, .inl (bs_)))]]) := fl_joinD [[(xq 9, .inr (8, [.ref b_, .int 0, .int ml_, .int (nI T_.length)]))], [(b_, .inl (ca 2, cap_, .inl (bs_)))]] [] hD
  refine lv_aload_n hx hb dJ2_append_3_10 rfl (lv_at hl 0 rfl) ?_
  refine xc_i (xr_U (b := xq 9) (ci := 8) (q0 := 0) (As := []) (rest := []) (mt_J2_isLatin1 l D ca xq b_ ml_ bs_ cap_ T_.length  H.size) ⟨hx, hb, hml, hown, hts⟩ (va_cwU (owner := "java/lang/AbstractStringBuilder") 0 hts (lw_U q557 q559 q560 q558 q83 q561) rfl rfl rfl rfl (by decide +kernel) ⟨Nat.le_of_ble_eq_true rfl, Nat.le_of_ble_eq_true rfl⟩) EvZ_ok hE hK hS (Cut.ch [[(xq 9, .inr (8, [.ref b_, .int 0, .int ml_, .int (nI T_.length)]))], [(b_, .inl (ca 2, cap_, .inl (bs_)))]] [] hP hD hS hA) rfl rfl rfl hl.1 rfl (Nat.le_of_ble_eq_true rfl) dJ2_append_3_11 ⟨Nat.le_of_ble_eq_true rfl, Nat.le_of_ble_eq_true rfl⟩) hS (Cut.ch [[(xq 9, .inr (8, [.ref b_, .int 0, .int ml_, .int (nI T_.length)]))], [(b_, .inl (ca 2, cap_, .inl (bs_)))]] [] hP hD hS hA) (fun r_3 u_4 H locs hq_11 hP hD hS => ?_)
  have hP : va_P D vwCl (fl [[(xq 9, .inr (8, [.ref b_, .int 0, .int ml_, .int (nI T_.length)]))], [(b_, .inl (ca 2, cap_, .inl (bs_)))]]) H := fl_join [[(xq 9, .inr (8, [.ref b_, .int 0, .int ml_, .int (nI T_.length)]))], [(b_, .inl (ca 2, cap_, .inl (bs_)))]] [] hP
  have hD : va_D A (fl [[(xq 9, .inr (8, [.ref b_, .int 0, .int ml_, .int (nI T_.length)]))], [(b_, .inl (ca 2, cap_, .inl (bs_)))]]) := fl_joinD [[(xq 9, .inr (8, [.ref b_, .int 0, .int ml_, .int (nI T_.length)]))], [(b_, .inl (ca 2, cap_, .inl (bs_)))]] [] hD
  have hp_11 : r_3 = bI true := hq_11
  clear hq_11
  obtain rfl := hp_11
  refine nv_ifb_eq (tgt := 45) hx hb dJ2_append_3_14 (by decide) (fun q_ => by cases q_) (fun _ => ?_)
  refine lv_iload_n hx hb dJ2_append_3_17 rfl (lv_at hl 1 rfl) ?_
  refine xc_i (xr_S (As := [.int (nI c_)]) (rest := []) (mt_J18_canEncode_2 l D ca c_ (by first | assumption | omega | (simp only [updN, forgetC, changedC]; (repeat' split) <;> omega)) H.size) ⟨hx, hb, hml, hown, hts⟩ (va_cwS 1 hts (lw_S q1330 q1331 q102 q1332) rfl rfl rfl (by decide +kernel) ⟨Nat.le_of_ble_eq_true rfl, Nat.le_of_ble_eq_true rfl⟩) Ev0_ok trivial hK hS (Cut.app (wc := []) (wr := (fl [[(xq 9, .inr (8, [.ref b_, .int 0, .int ml_, .int (nI T_.length)]))], [(b_, .inl (ca 2, cap_, .inl (bs_)))]])) hP hD hS hA) rfl hl.1 rfl (Nat.le_of_ble_eq_true rfl) dJ2_append_3_18 ⟨Nat.le_of_ble_eq_true rfl, Nat.le_of_ble_eq_true rfl⟩) hS (Cut.app (wc := []) (wr := (fl [[(xq 9, .inr (8, [.ref b_, .int 0, .int ml_, .int (nI T_.length)]))], [(b_, .inl (ca 2, cap_, .inl (bs_)))]])) hP hD hS hA) (fun r_5 u_6 H locs hq_18 hP hD hS => ?_)
  have hP : va_P D vwCl (fl [[(xq 9, .inr (8, [.ref b_, .int 0, .int ml_, .int (nI T_.length)]))], [(b_, .inl (ca 2, cap_, .inl (bs_)))]]) H := hP
  have hD : va_D A (fl [[(xq 9, .inr (8, [.ref b_, .int 0, .int ml_, .int (nI T_.length)]))], [(b_, .inl (ca 2, cap_, .inl (bs_)))]]) := hD
  have hp_18 : r_5 = bI true := hq_18
  clear hq_18
  obtain rfl := hp_18
  refine nv_ifb_eq (tgt := 45) hx hb dJ2_append_3_21 (by decide) (fun q_ => by cases q_) (fun _ => ?_)
  refine lv_aload_n hx hb dJ2_append_3_24 rfl (lv_at hl 0 rfl) ?_
  refine va_get (D := D) (ci := 8) (v := .ref b_) (C := RJ3) (T := TJ3) (N := 4) hx hb hts in_J3 hown hK hP 0 rfl rfl 0 (by decide) (hts _ q217) (fun _ h9 => h9) rfl dJ2_append_3_25 ?_
  refine lv_aload_n hx hb dJ2_append_3_28 rfl (lv_at hl 0 rfl) ?_
  refine lv_dup hx hb dJ2_append_3_29 rfl ?_
  refine va_get (D := D) (ci := 8) (v := .int (nI T_.length)) (C := RJ3) (T := TJ3) (N := 4) hx hb hts in_J3 hown hK hP 0 rfl rfl 3 (by decide) (hts _ q221) (fun _ h9 => h9) rfl dJ2_append_3_30 ?_
  refine lv_dup_x1 hx hb dJ2_append_3_33 rfl rfl ?_
  refine lv_iconst (v := nI 1) hx hb dJ2_append_3_34 (by decide) ?_
  refine nv_iadd hx hb dJ2_append_3_35 ?_
  refine va_put (D := D) (ci := 8) (v := .int (nI (T_.length + 1))) (ty := .int) (C := RJ3) (T := TJ3) (N := 4) hx hb hts in_J3 tyJ3 tyJ3_ok nmJ3 hown hK hP hD hS 0 rfl rfl 3 (by decide) (hts _ q221) (fun _ h9 => h9) rfl (by decide +kernel) rfl rfl (Nat.le_of_ble_eq_true rfl) dJ2_append_3_36 (fun H locs hP hD hS => ?_)
  have hP : va_P D vwCl (fl [[(xq 9, .inr (8, [.ref b_, .int 0, .int ml_, .int (nI (T_.length + 1))]))], [(b_, .inl (ca 2, cap_, .inl (bs_)))]]) H := hP
  have hD : va_D A (fl [[(xq 9, .inr (8, [.ref b_, .int 0, .int ml_, .int (nI (T_.length + 1))]))], [(b_, .inl (ca 2, cap_, .inl (bs_)))]]) := hD
  refine lv_iload_n hx hb dJ2_append_3_39 rfl (lv_at hl 1 rfl) ?_
  refine lv_i2b (v := nI c_) hx hb dJ2_append_3_40 (bt_id _ hc) ?_
  refine nv_bast hx hb hK hP hD hS 1 2 rfl rfl (bt_vp hc) (by omega) (by omega) dJ2_append_3_41 (fun H locs hP hD hS => ?_)
  have hP : va_P D vwCl (fl [[(xq 9, .inr (8, [.ref b_, .int 0, .int ml_, .int (nI (T_.length + 1))]))], [(b_, .inl (ca 2, cap_, .inl (upd bs_ T_.length (nI c_))))]]) H := hP
  have hD : va_D A (fl [[(xq 9, .inr (8, [.ref b_, .int 0, .int ml_, .int (nI (T_.length + 1))]))], [(b_, .inl (ca 2, cap_, .inl (upd bs_ T_.length (nI c_))))]]) := hD
  refine lv_goto (tgt := 75) hx hb dJ2_append_3_42 (by decide) ?_
  refine lv_aload_n hx hb dJ2_append_3_75 rfl (lv_at hl 0 rfl) ?_
  subst hQQ
  exact xe_r (ad := fun (u_ : Unit) => (xq 9)) () hx hb hr hlocks hK hP hD hS (trivial) dJ2_append_3_76
set_option maxHeartbeats 400000 in
set_option maxRecDepth 100000 in
theorem mt_J3_append_3_n (l : Launch) (D : va_G) (ca : Nat → ClassId) (xq : Nat → Nat) (b_ : Nat) (ml_ : Int32) (bs_ : Nat → Int32) (T_ : List Nat) (cap_ : Nat) (c_ : Nat) (hc : c_ < 128) (hn : T_.length < cap_) (hcap : cap_ < 2000) (nn : Nat) : Met l yJ3_append_3 (ws_ yJ3_append_3 cJ3_append_3 2 (Option.some (Jvm.ClassFile.FieldType.object "java/lang/StringBuilder"))) ({ frames := 2, cells := 0, slots := 0, locals := 43 } : Room) (va_Pc [.ref (xq 9), .int (nI c_)] (PreW EvZ D vwCl (TY ca) (fl [[(xq 9, .inr (8, [.ref b_, .int 0, .int ml_, .int (nI T_.length)]))], [(b_, .inl (ca 2, cap_, .inl (bs_)))]]) nn)) (va_Qr (fun (u_ : Unit) => True) (fun (u_ : Unit) (r_ : Nat) (t_ : State) => r_ = (xq 9) ∧ PostW D vwCl (TY ca) (fun (u_ : Unit) => (fl [[(xq 9, .inr (8, [.ref b_, .int 0, .int ml_, .int (nI (T_.length + 1))]))], [(b_, .inl (ca 2, cap_, .inl (upd bs_ T_.length (nI c_))))]])) (va_A (fl [[(xq 9, .inr (8, [.ref b_, .int 0, .int ml_, .int (nI T_.length)]))], [(b_, .inl (ca 2, cap_, .inl (bs_)))]]) nn) u_ t_) (va_A (fl [[(xq 9, .inr (8, [.ref b_, .int 0, .int ml_, .int (nI T_.length)]))], [(b_, .inl (ca 2, cap_, .inl (bs_)))]]) nn)) 0 0 (va_A (fl [[(xq 9, .inr (8, [.ref b_, .int 0, .int ml_, .int (nI T_.length)]))], [(b_, .inl (ca 2, cap_, .inl (bs_)))]]) nn) := by
  refine met_go2 (QA := fun A => va_Qr (fun (u_ : Unit) => True) (fun (u_ : Unit) (r_ : Nat) (t_ : State) => r_ = (xq 9) ∧ PostW D vwCl (TY ca) (fun (u_ : Unit) => (fl [[(xq 9, .inr (8, [.ref b_, .int 0, .int ml_, .int (nI (T_.length + 1))]))], [(b_, .inl (ca 2, cap_, .inl (upd bs_ T_.length (nI c_))))]])) A u_ t_) A) (by decide) (Nat.le_of_ble_eq_true rfl) (fun p e s m below meth c A ls QQ hQQ hmn hnm hx hb hr hts hown hlocks hml hA hP hK hD hE hl => ?_)
  have hown : s.vm.findClass RJ3 = some m.cls := hown
  have hS : va_S A s.heap s.heap [] := va_S.rf
  have hl : lv_has ls 2 [(0, .ref (xq 9)), (1, .int (nI c_))] := hl
  generalize hHe : s.heap = H at hP ⊢
  have hS : va_S A s.heap H [] := hHe ▸ hS
  generalize ([] : List Loc) = locs at hS ⊢
  refine lv_aload_n hx hb dJ3_append_3_0 rfl (lv_at hl 0 rfl) ?_
  refine lv_iload_n hx hb dJ3_append_3_1 rfl (lv_at hl 1 rfl) ?_
  refine xc_r (xr_SU (b := xq 9) (ci := 8) (q0 := 0) (As := [.int (nI c_)]) (rest := []) (mt_J2_append_3_n l D ca xq b_ ml_ bs_ T_ cap_ c_ (by first | assumption | omega | (simp only [updN, forgetC, changedC]; (repeat' split) <;> omega)) (by first | assumption | omega | (simp only [updN, forgetC, changedC]; (repeat' split) <;> omega)) (by first | assumption | omega | (simp only [updN, forgetC, changedC]; (repeat' split) <;> omega)) H.size) ⟨hx, hb, hml, hown, hts⟩ (va_cwSU 1 hts (lw_SU q1327 q2055 q230 q1328 q83 q1329) rfl rfl rfl (by decide +kernel) ⟨Nat.le_of_ble_eq_true rfl, Nat.le_of_ble_eq_true rfl⟩) EvZ_ok hE hK hS (Cut.ch [[(xq 9, .inr (8, [.ref b_, .int 0, .int ml_, .int (nI T_.length)]))], [(b_, .inl (ca 2, cap_, .inl (bs_)))]] [] hP hD hS hA) rfl rfl rfl hl.1 rfl (Nat.le_of_ble_eq_true rfl) dJ3_append_3_2 ⟨Nat.le_of_ble_eq_true rfl, Nat.le_of_ble_eq_true rfl⟩) hS (Cut.ch [[(xq 9, .inr (8, [.ref b_, .int 0, .int ml_, .int (nI T_.length)]))], [(b_, .inl (ca 2, cap_, .inl (bs_)))]] [] hP hD hS hA) (fun u_2 H locs hq_2 hP hD hS => ?_)
  have hP : va_P D vwCl (fl [[(xq 9, .inr (8, [.ref b_, .int 0, .int ml_, .int (nI (T_.length + 1))]))], [(b_, .inl (ca 2, cap_, .inl (upd bs_ T_.length (nI c_))))]]) H := fl_join [[(xq 9, .inr (8, [.ref b_, .int 0, .int ml_, .int (nI (T_.length + 1))]))], [(b_, .inl (ca 2, cap_, .inl (upd bs_ T_.length (nI c_))))]] [] hP
  have hD : va_D A (fl [[(xq 9, .inr (8, [.ref b_, .int 0, .int ml_, .int (nI (T_.length + 1))]))], [(b_, .inl (ca 2, cap_, .inl (upd bs_ T_.length (nI c_))))]]) := fl_joinD [[(xq 9, .inr (8, [.ref b_, .int 0, .int ml_, .int (nI (T_.length + 1))]))], [(b_, .inl (ca 2, cap_, .inl (upd bs_ T_.length (nI c_))))]] [] hD
  refine lv_pop hx hb dJ3_append_3_5 rfl ?_
  refine lv_aload_n hx hb dJ3_append_3_6 rfl (lv_at hl 0 rfl) ?_
  subst hQQ
  exact xe_r (ad := fun (u_ : Unit) => (xq 9)) () hx hb hr hlocks hK hP hD hS (trivial) dJ3_append_3_7
set_option maxHeartbeats 400000 in
set_option maxRecDepth 100000 in
theorem mt_J2_append_3_g16 (l : Launch) (D : va_G) (ca : Nat → ClassId) (xq : Nat → Nat) (b_ : Nat) (ml_ : Int32) (bs_ : Nat → Int32) (T_ : List Nat) (c_ : Nat) (hc : c_ < 128) (hf : sb_Fit bs_) (nn : Nat) : Met l yJ2_append_3 (ws_ yJ2_append_3 cJ2_append_3 2 (Option.some (Jvm.ClassFile.FieldType.object "java/lang/AbstractStringBuilder"))) ({ frames := 4, cells := 1, slots := 34, locals := 110 } : Room) (va_Pc [.ref (xq 9), .int (nI c_)] (PreW EvZ D vwCl (TY ca) (fl [[(xq 9, .inr (8, [.ref b_, .int 0, .int ml_, .int (nI 16)]))], [(b_, .inl (ca 2, 16, .inl (bs_)))]]) nn)) (va_Qr (fun (u_ : Nat) => True) (fun (u_ : Nat) (r_ : Nat) (t_ : State) => r_ = (xq 9) ∧ PostW D vwCl (TY ca) (fun (u_ : Nat) => (fl [[(xq 9, .inr (8, [.ref u_, .int 0, .int ml_, .int (nI 17)]))], [(u_, .inl (ca 2, 34, .inl (upd (va_cpy bs_ (fun _ => 0) 0 0 16) 16 (nI c_))))]])) (va_A (fl [[(xq 9, .inr (8, [.ref b_, .int 0, .int ml_, .int (nI 16)]))], [(b_, .inl (ca 2, 16, .inl (bs_)))]]) nn) u_ t_) (va_A (fl [[(xq 9, .inr (8, [.ref b_, .int 0, .int ml_, .int (nI 16)]))], [(b_, .inl (ca 2, 16, .inl (bs_)))]]) nn)) 1 34 (va_A (fl [[(xq 9, .inr (8, [.ref b_, .int 0, .int ml_, .int (nI 16)]))], [(b_, .inl (ca 2, 16, .inl (bs_)))]]) nn) := by
  refine met_go2 (QA := fun A => va_Qr (fun (u_ : Nat) => True) (fun (u_ : Nat) (r_ : Nat) (t_ : State) => r_ = (xq 9) ∧ PostW D vwCl (TY ca) (fun (u_ : Nat) => (fl [[(xq 9, .inr (8, [.ref u_, .int 0, .int ml_, .int (nI 17)]))], [(u_, .inl (ca 2, 34, .inl (upd (va_cpy bs_ (fun _ => 0) 0 0 16) 16 (nI c_))))]])) A u_ t_) A) (by decide) (Nat.le_of_ble_eq_true rfl) (fun p e s m below meth c A ls QQ hQQ hmn hnm hx hb hr hts hown hlocks hml hA hP hK hD hE hl => ?_)
  have hown : s.vm.findClass RJ2 = some m.cls := hown
  have hS : va_S A s.heap s.heap [] := va_S.rf
  have hl : lv_has ls 2 [(0, .ref (xq 9)), (1, .int (nI c_))] := hl
  generalize hHe : s.heap = H at hP ⊢
  have hS : va_S A s.heap H [] := hHe ▸ hS
  generalize ([] : List Loc) = locs at hS ⊢
  refine lv_aload_n hx hb dJ2_append_3_0 rfl (lv_at hl 0 rfl) ?_
  refine lv_aload_n hx hb dJ2_append_3_1 rfl (lv_at hl 0 rfl) ?_
  refine va_get (D := D) (ci := 8) (v := .int (nI 16)) (C := RJ3) (T := TJ3) (N := 4) hx hb hts in_J3 hown hK hP 0 rfl rfl 3 (by decide) (hts _ q221) (fun _ h9 => h9) rfl dJ2_append_3_2 ?_
  refine lv_iconst (v := nI 1) hx hb dJ2_append_3_5 (by decide) ?_
  refine lv_iadd hx hb dJ2_append_3_6 (lv_topi (nm_r (e' := nI 17) (by decide) ?_))
  refine xc_v (xr_U (b := xq 9) (ci := 8) (q0 := 0) (As := [.int (nI 17)]) (rest := []) (mt_J2_ensureCapacityInternal_g16 l D ca xq b_ ml_ bs_ hf H.size) ⟨hx, hb, hml, hown, hts⟩ (va_cwP 1 hts q528 q2047 hE.2.2.2.2.2.2.1.1 q530 q83 q531 rfl rfl (by decide +kernel) ⟨Nat.le_of_ble_eq_true rfl, Nat.le_of_ble_eq_true rfl⟩) EvZ_ok hE hK hS (Cut.ch [[(xq 9, .inr (8, [.ref b_, .int 0, .int ml_, .int (nI 16)]))], [(b_, .inl (ca 2, 16, .inl (bs_)))]] [] hP hD hS hA) rfl rfl rfl hl.1 rfl (Nat.le_of_ble_eq_true rfl) dJ2_append_3_7 ⟨Nat.le_of_ble_eq_true rfl, Nat.le_of_ble_eq_true rfl⟩) hS (Cut.ch [[(xq 9, .inr (8, [.ref b_, .int 0, .int ml_, .int (nI 16)]))], [(b_, .inl (ca 2, 16, .inl (bs_)))]] [] hP hD hS hA) (fun u_2 H locs hq_7 hP hD hS => ?_)
  obtain ⟨b1_3, rfl⟩ : ∃ z_, z_ = u_2 := ⟨_, rfl⟩
  have hP : va_P D vwCl (fl [[(xq 9, .inr (8, [.ref b1_3, .int 0, .int ml_, .int (nI 16)]))], [(b1_3, .inl (ca 2, 34, .inl (va_cpy bs_ (fun _ => 0) 0 0 16)))]]) H := fl_join [[(xq 9, .inr (8, [.ref b1_3, .int 0, .int ml_, .int (nI 16)]))], [(b1_3, .inl (ca 2, 34, .inl (va_cpy bs_ (fun _ => 0) 0 0 16)))]] [] hP
  have hD : va_D A (fl [[(xq 9, .inr (8, [.ref b1_3, .int 0, .int ml_, .int (nI 16)]))], [(b1_3, .inl (ca 2, 34, .inl (va_cpy bs_ (fun _ => 0) 0 0 16)))]]) := fl_joinD [[(xq 9, .inr (8, [.ref b1_3, .int 0, .int ml_, .int (nI 16)]))], [(b1_3, .inl (ca 2, 34, .inl (va_cpy bs_ (fun _ => 0) 0 0 16)))]] [] hD
  refine lv_aload_n hx hb dJ2_append_3_10 rfl (lv_at hl 0 rfl) ?_
  refine xc_i (xr_U (b := xq 9) (ci := 8) (q0 := 0) (As := []) (rest := []) (mt_J2_isLatin1 l D ca xq b1_3 ml_ (va_cpy bs_ (fun _ => 0) 0 0 16) 34 16  H.size) ⟨hx, hb, hml, hown, hts⟩ (va_cwU (owner := "java/lang/AbstractStringBuilder") 0 hts (lw_U q557 q559 q560 q558 q83 q561) rfl rfl rfl rfl (by decide +kernel) ⟨Nat.le_of_ble_eq_true rfl, Nat.le_of_ble_eq_true rfl⟩) EvZ_ok hE hK hS (Cut.ch [[(xq 9, .inr (8, [.ref b1_3, .int 0, .int ml_, .int (nI 16)]))], [(b1_3, .inl (ca 2, 34, .inl (va_cpy bs_ (fun _ => 0) 0 0 16)))]] [] hP hD hS hA) rfl rfl rfl hl.1 rfl (Nat.le_of_ble_eq_true rfl) dJ2_append_3_11 ⟨Nat.le_of_ble_eq_true rfl, Nat.le_of_ble_eq_true rfl⟩) hS (Cut.ch [[(xq 9, .inr (8, [.ref b1_3, .int 0, .int ml_, .int (nI 16)]))], [(b1_3, .inl (ca 2, 34, .inl (va_cpy bs_ (fun _ => 0) 0 0 16)))]] [] hP hD hS hA) (fun r_4 u_5 H locs hq_11 hP hD hS => ?_)
  have hP : va_P D vwCl (fl [[(xq 9, .inr (8, [.ref b1_3, .int 0, .int ml_, .int (nI 16)]))], [(b1_3, .inl (ca 2, 34, .inl (va_cpy bs_ (fun _ => 0) 0 0 16)))]]) H := fl_join [[(xq 9, .inr (8, [.ref b1_3, .int 0, .int ml_, .int (nI 16)]))], [(b1_3, .inl (ca 2, 34, .inl (va_cpy bs_ (fun _ => 0) 0 0 16)))]] [] hP
  have hD : va_D A (fl [[(xq 9, .inr (8, [.ref b1_3, .int 0, .int ml_, .int (nI 16)]))], [(b1_3, .inl (ca 2, 34, .inl (va_cpy bs_ (fun _ => 0) 0 0 16)))]]) := fl_joinD [[(xq 9, .inr (8, [.ref b1_3, .int 0, .int ml_, .int (nI 16)]))], [(b1_3, .inl (ca 2, 34, .inl (va_cpy bs_ (fun _ => 0) 0 0 16)))]] [] hD
  have hp_11 : r_4 = bI true := hq_11
  clear hq_11
  obtain rfl := hp_11
  refine nv_ifb_eq (tgt := 45) hx hb dJ2_append_3_14 (by decide) (fun q_ => by cases q_) (fun _ => ?_)
  refine lv_iload_n hx hb dJ2_append_3_17 rfl (lv_at hl 1 rfl) ?_
  refine xc_i (xr_S (As := [.int (nI c_)]) (rest := []) (mt_J18_canEncode_2 l D ca c_ (by first | assumption | omega | (simp only [updN, forgetC, changedC]; (repeat' split) <;> omega)) H.size) ⟨hx, hb, hml, hown, hts⟩ (va_cwS 1 hts (lw_S q1330 q1331 q102 q1332) rfl rfl rfl (by decide +kernel) ⟨Nat.le_of_ble_eq_true rfl, Nat.le_of_ble_eq_true rfl⟩) Ev0_ok trivial hK hS (Cut.app (wc := []) (wr := (fl [[(xq 9, .inr (8, [.ref b1_3, .int 0, .int ml_, .int (nI 16)]))], [(b1_3, .inl (ca 2, 34, .inl (va_cpy bs_ (fun _ => 0) 0 0 16)))]])) hP hD hS hA) rfl hl.1 rfl (Nat.le_of_ble_eq_true rfl) dJ2_append_3_18 ⟨Nat.le_of_ble_eq_true rfl, Nat.le_of_ble_eq_true rfl⟩) hS (Cut.app (wc := []) (wr := (fl [[(xq 9, .inr (8, [.ref b1_3, .int 0, .int ml_, .int (nI 16)]))], [(b1_3, .inl (ca 2, 34, .inl (va_cpy bs_ (fun _ => 0) 0 0 16)))]])) hP hD hS hA) (fun r_6 u_7 H locs hq_18 hP hD hS => ?_)
  have hP : va_P D vwCl (fl [[(xq 9, .inr (8, [.ref b1_3, .int 0, .int ml_, .int (nI 16)]))], [(b1_3, .inl (ca 2, 34, .inl (va_cpy bs_ (fun _ => 0) 0 0 16)))]]) H := hP
  have hD : va_D A (fl [[(xq 9, .inr (8, [.ref b1_3, .int 0, .int ml_, .int (nI 16)]))], [(b1_3, .inl (ca 2, 34, .inl (va_cpy bs_ (fun _ => 0) 0 0 16)))]]) := hD
  have hp_18 : r_6 = bI true := hq_18
  clear hq_18
  obtain rfl := hp_18
  refine nv_ifb_eq (tgt := 45) hx hb dJ2_append_3_21 (by decide) (fun q_ => by cases q_) (fun _ => ?_)
  refine lv_aload_n hx hb dJ2_append_3_24 rfl (lv_at hl 0 rfl) ?_
  refine va_get (D := D) (ci := 8) (v := .ref b1_3) (C := RJ3) (T := TJ3) (N := 4) hx hb hts in_J3 hown hK hP 0 rfl rfl 0 (by decide) (hts _ q217) (fun _ h9 => h9) rfl dJ2_append_3_25 ?_
  refine lv_aload_n hx hb dJ2_append_3_28 rfl (lv_at hl 0 rfl) ?_
  refine lv_dup hx hb dJ2_append_3_29 rfl ?_
  refine va_get (D := D) (ci := 8) (v := .int (nI 16)) (C := RJ3) (T := TJ3) (N := 4) hx hb hts in_J3 hown hK hP 0 rfl rfl 3 (by decide) (hts _ q221) (fun _ h9 => h9) rfl dJ2_append_3_30 ?_
  refine lv_dup_x1 hx hb dJ2_append_3_33 rfl rfl ?_
  refine lv_iconst (v := nI 1) hx hb dJ2_append_3_34 (by decide) ?_
  refine lv_iadd hx hb dJ2_append_3_35 (lv_topi (nm_r (e' := nI 17) (by decide) ?_))
  refine va_put (D := D) (ci := 8) (v := .int (nI 17)) (ty := .int) (C := RJ3) (T := TJ3) (N := 4) hx hb hts in_J3 tyJ3 tyJ3_ok nmJ3 hown hK hP hD hS 0 rfl rfl 3 (by decide) (hts _ q221) (fun _ h9 => h9) rfl (by decide +kernel) rfl rfl (Nat.le_of_ble_eq_true rfl) dJ2_append_3_36 (fun H locs hP hD hS => ?_)
  have hP : va_P D vwCl (fl [[(xq 9, .inr (8, [.ref b1_3, .int 0, .int ml_, .int (nI 17)]))], [(b1_3, .inl (ca 2, 34, .inl (va_cpy bs_ (fun _ => 0) 0 0 16)))]]) H := hP
  have hD : va_D A (fl [[(xq 9, .inr (8, [.ref b1_3, .int 0, .int ml_, .int (nI 17)]))], [(b1_3, .inl (ca 2, 34, .inl (va_cpy bs_ (fun _ => 0) 0 0 16)))]]) := hD
  refine lv_iload_n hx hb dJ2_append_3_39 rfl (lv_at hl 1 rfl) ?_
  refine lv_i2b (v := nI c_) hx hb dJ2_append_3_40 (bt_id _ hc) ?_
  refine nv_bast hx hb hK hP hD hS 1 2 rfl rfl (bt_vp hc) (by omega) (by decide) dJ2_append_3_41 (fun H locs hP hD hS => ?_)
  have hP : va_P D vwCl (fl [[(xq 9, .inr (8, [.ref b1_3, .int 0, .int ml_, .int (nI 17)]))], [(b1_3, .inl (ca 2, 34, .inl (upd (va_cpy bs_ (fun _ => 0) 0 0 16) 16 (nI c_))))]]) H := hP
  have hD : va_D A (fl [[(xq 9, .inr (8, [.ref b1_3, .int 0, .int ml_, .int (nI 17)]))], [(b1_3, .inl (ca 2, 34, .inl (upd (va_cpy bs_ (fun _ => 0) 0 0 16) 16 (nI c_))))]]) := hD
  refine lv_goto (tgt := 75) hx hb dJ2_append_3_42 (by decide) ?_
  refine lv_aload_n hx hb dJ2_append_3_75 rfl (lv_at hl 0 rfl) ?_
  subst hQQ
  exact xe_r (ad := fun (u_ : Nat) => (xq 9)) b1_3 hx hb hr hlocks hK hP hD hS (trivial) dJ2_append_3_76
set_option maxHeartbeats 400000 in
set_option maxRecDepth 100000 in
theorem mt_J3_append_3_g16 (l : Launch) (D : va_G) (ca : Nat → ClassId) (xq : Nat → Nat) (b_ : Nat) (ml_ : Int32) (bs_ : Nat → Int32) (T_ : List Nat) (c_ : Nat) (hc : c_ < 128) (hf : sb_Fit bs_) (nn : Nat) : Met l yJ3_append_3 (ws_ yJ3_append_3 cJ3_append_3 2 (Option.some (Jvm.ClassFile.FieldType.object "java/lang/StringBuilder"))) ({ frames := 5, cells := 1, slots := 34, locals := 131 } : Room) (va_Pc [.ref (xq 9), .int (nI c_)] (PreW EvZ D vwCl (TY ca) (fl [[(xq 9, .inr (8, [.ref b_, .int 0, .int ml_, .int (nI 16)]))], [(b_, .inl (ca 2, 16, .inl (bs_)))]]) nn)) (va_Qr (fun (u_ : Nat) => True) (fun (u_ : Nat) (r_ : Nat) (t_ : State) => r_ = (xq 9) ∧ PostW D vwCl (TY ca) (fun (u_ : Nat) => (fl [[(xq 9, .inr (8, [.ref u_, .int 0, .int ml_, .int (nI 17)]))], [(u_, .inl (ca 2, 34, .inl (upd (va_cpy bs_ (fun _ => 0) 0 0 16) 16 (nI c_))))]])) (va_A (fl [[(xq 9, .inr (8, [.ref b_, .int 0, .int ml_, .int (nI 16)]))], [(b_, .inl (ca 2, 16, .inl (bs_)))]]) nn) u_ t_) (va_A (fl [[(xq 9, .inr (8, [.ref b_, .int 0, .int ml_, .int (nI 16)]))], [(b_, .inl (ca 2, 16, .inl (bs_)))]]) nn)) 1 34 (va_A (fl [[(xq 9, .inr (8, [.ref b_, .int 0, .int ml_, .int (nI 16)]))], [(b_, .inl (ca 2, 16, .inl (bs_)))]]) nn) := by
  refine met_go2 (QA := fun A => va_Qr (fun (u_ : Nat) => True) (fun (u_ : Nat) (r_ : Nat) (t_ : State) => r_ = (xq 9) ∧ PostW D vwCl (TY ca) (fun (u_ : Nat) => (fl [[(xq 9, .inr (8, [.ref u_, .int 0, .int ml_, .int (nI 17)]))], [(u_, .inl (ca 2, 34, .inl (upd (va_cpy bs_ (fun _ => 0) 0 0 16) 16 (nI c_))))]])) A u_ t_) A) (by decide) (Nat.le_of_ble_eq_true rfl) (fun p e s m below meth c A ls QQ hQQ hmn hnm hx hb hr hts hown hlocks hml hA hP hK hD hE hl => ?_)
  have hown : s.vm.findClass RJ3 = some m.cls := hown
  have hS : va_S A s.heap s.heap [] := va_S.rf
  have hl : lv_has ls 2 [(0, .ref (xq 9)), (1, .int (nI c_))] := hl
  generalize hHe : s.heap = H at hP ⊢
  have hS : va_S A s.heap H [] := hHe ▸ hS
  generalize ([] : List Loc) = locs at hS ⊢
  refine lv_aload_n hx hb dJ3_append_3_0 rfl (lv_at hl 0 rfl) ?_
  refine lv_iload_n hx hb dJ3_append_3_1 rfl (lv_at hl 1 rfl) ?_
  refine xc_r (xr_SU (b := xq 9) (ci := 8) (q0 := 0) (As := [.int (nI c_)]) (rest := []) (mt_J2_append_3_g16 l D ca xq b_ ml_ bs_ T_ c_ (by first | assumption | omega | (simp only [updN, forgetC, changedC]; (repeat' split) <;> omega)) (by first | assumption | omega | (simp only [updN, forgetC, changedC]; (repeat' split) <;> omega)) H.size) ⟨hx, hb, hml, hown, hts⟩ (va_cwSU 1 hts (lw_SU q1327 q2055 q230 q1328 q83 q1329) rfl rfl rfl (by decide +kernel) ⟨Nat.le_of_ble_eq_true rfl, Nat.le_of_ble_eq_true rfl⟩) EvZ_ok hE hK hS (Cut.ch [[(xq 9, .inr (8, [.ref b_, .int 0, .int ml_, .int (nI 16)]))], [(b_, .inl (ca 2, 16, .inl (bs_)))]] [] hP hD hS hA) rfl rfl rfl hl.1 rfl (Nat.le_of_ble_eq_true rfl) dJ3_append_3_2 ⟨Nat.le_of_ble_eq_true rfl, Nat.le_of_ble_eq_true rfl⟩) hS (Cut.ch [[(xq 9, .inr (8, [.ref b_, .int 0, .int ml_, .int (nI 16)]))], [(b_, .inl (ca 2, 16, .inl (bs_)))]] [] hP hD hS hA) (fun u_2 H locs hq_2 hP hD hS => ?_)
  obtain ⟨b1_3, rfl⟩ : ∃ z_, z_ = u_2 := ⟨_, rfl⟩
  have hP : va_P D vwCl (fl [[(xq 9, .inr (8, [.ref b1_3, .int 0, .int ml_, .int (nI 17)]))], [(b1_3, .inl (ca 2, 34, .inl (upd (va_cpy bs_ (fun _ => 0) 0 0 16) 16 (nI c_))))]]) H := fl_join [[(xq 9, .inr (8, [.ref b1_3, .int 0, .int ml_, .int (nI 17)]))], [(b1_3, .inl (ca 2, 34, .inl (upd (va_cpy bs_ (fun _ => 0) 0 0 16) 16 (nI c_))))]] [] hP
  have hD : va_D A (fl [[(xq 9, .inr (8, [.ref b1_3, .int 0, .int ml_, .int (nI 17)]))], [(b1_3, .inl (ca 2, 34, .inl (upd (va_cpy bs_ (fun _ => 0) 0 0 16) 16 (nI c_))))]]) := fl_joinD [[(xq 9, .inr (8, [.ref b1_3, .int 0, .int ml_, .int (nI 17)]))], [(b1_3, .inl (ca 2, 34, .inl (upd (va_cpy bs_ (fun _ => 0) 0 0 16) 16 (nI c_))))]] [] hD
  refine lv_pop hx hb dJ3_append_3_5 rfl ?_
  refine lv_aload_n hx hb dJ3_append_3_6 rfl (lv_at hl 0 rfl) ?_
  subst hQQ
  exact xe_r (ad := fun (u_ : Nat) => (xq 9)) b1_3 hx hb hr hlocks hK hP hD hS (trivial) dJ3_append_3_7
set_option maxHeartbeats 400000 in
set_option maxRecDepth 100000 in
theorem mt_J2_append_3_g34 (l : Launch) (D : va_G) (ca : Nat → ClassId) (xq : Nat → Nat) (b_ : Nat) (ml_ : Int32) (bs_ : Nat → Int32) (T_ : List Nat) (c_ : Nat) (hc : c_ < 128) (hf : sb_Fit bs_) (nn : Nat) : Met l yJ2_append_3 (ws_ yJ2_append_3 cJ2_append_3 2 (Option.some (Jvm.ClassFile.FieldType.object "java/lang/AbstractStringBuilder"))) ({ frames := 4, cells := 1, slots := 70, locals := 110 } : Room) (va_Pc [.ref (xq 9), .int (nI c_)] (PreW EvZ D vwCl (TY ca) (fl [[(xq 9, .inr (8, [.ref b_, .int 0, .int ml_, .int (nI 34)]))], [(b_, .inl (ca 2, 34, .inl (bs_)))]]) nn)) (va_Qr (fun (u_ : Nat) => True) (fun (u_ : Nat) (r_ : Nat) (t_ : State) => r_ = (xq 9) ∧ PostW D vwCl (TY ca) (fun (u_ : Nat) => (fl [[(xq 9, .inr (8, [.ref u_, .int 0, .int ml_, .int (nI 35)]))], [(u_, .inl (ca 2, 70, .inl (upd (va_cpy bs_ (fun _ => 0) 0 0 34) 34 (nI c_))))]])) (va_A (fl [[(xq 9, .inr (8, [.ref b_, .int 0, .int ml_, .int (nI 34)]))], [(b_, .inl (ca 2, 34, .inl (bs_)))]]) nn) u_ t_) (va_A (fl [[(xq 9, .inr (8, [.ref b_, .int 0, .int ml_, .int (nI 34)]))], [(b_, .inl (ca 2, 34, .inl (bs_)))]]) nn)) 1 70 (va_A (fl [[(xq 9, .inr (8, [.ref b_, .int 0, .int ml_, .int (nI 34)]))], [(b_, .inl (ca 2, 34, .inl (bs_)))]]) nn) := by
  refine met_go2 (QA := fun A => va_Qr (fun (u_ : Nat) => True) (fun (u_ : Nat) (r_ : Nat) (t_ : State) => r_ = (xq 9) ∧ PostW D vwCl (TY ca) (fun (u_ : Nat) => (fl [[(xq 9, .inr (8, [.ref u_, .int 0, .int ml_, .int (nI 35)]))], [(u_, .inl (ca 2, 70, .inl (upd (va_cpy bs_ (fun _ => 0) 0 0 34) 34 (nI c_))))]])) A u_ t_) A) (by decide) (Nat.le_of_ble_eq_true rfl) (fun p e s m below meth c A ls QQ hQQ hmn hnm hx hb hr hts hown hlocks hml hA hP hK hD hE hl => ?_)
  have hown : s.vm.findClass RJ2 = some m.cls := hown
  have hS : va_S A s.heap s.heap [] := va_S.rf
  have hl : lv_has ls 2 [(0, .ref (xq 9)), (1, .int (nI c_))] := hl
  generalize hHe : s.heap = H at hP ⊢
  have hS : va_S A s.heap H [] := hHe ▸ hS
  generalize ([] : List Loc) = locs at hS ⊢
  refine lv_aload_n hx hb dJ2_append_3_0 rfl (lv_at hl 0 rfl) ?_
  refine lv_aload_n hx hb dJ2_append_3_1 rfl (lv_at hl 0 rfl) ?_
  refine va_get (D := D) (ci := 8) (v := .int (nI 34)) (C := RJ3) (T := TJ3) (N := 4) hx hb hts in_J3 hown hK hP 0 rfl rfl 3 (by decide) (hts _ q221) (fun _ h9 => h9) rfl dJ2_append_3_2 ?_
  refine lv_iconst (v := nI 1) hx hb dJ2_append_3_5 (by decide) ?_
  refine lv_iadd hx hb dJ2_append_3_6 (lv_topi (nm_r (e' := nI 35) (by decide) ?_))
  refine xc_v (xr_U (b := xq 9) (ci := 8) (q0 := 0) (As := [.int (nI 35)]) (rest := []) (mt_J2_ensureCapacityInternal_g34 l D ca xq b_ ml_ bs_ hf H.size) ⟨hx, hb, hml, hown, hts⟩ (va_cwP 1 hts q528 q2047 hE.2.2.2.2.2.2.1.1 q530 q83 q531 rfl rfl (by decide +kernel) ⟨Nat.le_of_ble_eq_true rfl, Nat.le_of_ble_eq_true rfl⟩) EvZ_ok hE hK hS (Cut.ch [[(xq 9, .inr (8, [.ref b_, .int 0, .int ml_, .int (nI 34)]))], [(b_, .inl (ca 2, 34, .inl (bs_)))]] [] hP hD hS hA) rfl rfl rfl hl.1 rfl (Nat.le_of_ble_eq_true rfl) dJ2_append_3_7 ⟨Nat.le_of_ble_eq_true rfl, Nat.le_of_ble_eq_true rfl⟩) hS (Cut.ch [[(xq 9, .inr (8, [.ref b_, .int 0, .int ml_, .int (nI 34)]))], [(b_, .inl (ca 2, 34, .inl (bs_)))]] [] hP hD hS hA) (fun u_2 H locs hq_7 hP hD hS => ?_)
  obtain ⟨b1_3, rfl⟩ : ∃ z_, z_ = u_2 := ⟨_, rfl⟩
  have hP : va_P D vwCl (fl [[(xq 9, .inr (8, [.ref b1_3, .int 0, .int ml_, .int (nI 34)]))], [(b1_3, .inl (ca 2, 70, .inl (va_cpy bs_ (fun _ => 0) 0 0 34)))]]) H := fl_join [[(xq 9, .inr (8, [.ref b1_3, .int 0, .int ml_, .int (nI 34)]))], [(b1_3, .inl (ca 2, 70, .inl (va_cpy bs_ (fun _ => 0) 0 0 34)))]] [] hP
  have hD : va_D A (fl [[(xq 9, .inr (8, [.ref b1_3, .int 0, .int ml_, .int (nI 34)]))], [(b1_3, .inl (ca 2, 70, .inl (va_cpy bs_ (fun _ => 0) 0 0 34)))]]) := fl_joinD [[(xq 9, .inr (8, [.ref b1_3, .int 0, .int ml_, .int (nI 34)]))], [(b1_3, .inl (ca 2, 70, .inl (va_cpy bs_ (fun _ => 0) 0 0 34)))]] [] hD
  refine lv_aload_n hx hb dJ2_append_3_10 rfl (lv_at hl 0 rfl) ?_
  refine xc_i (xr_U (b := xq 9) (ci := 8) (q0 := 0) (As := []) (rest := []) (mt_J2_isLatin1 l D ca xq b1_3 ml_ (va_cpy bs_ (fun _ => 0) 0 0 34) 70 34  H.size) ⟨hx, hb, hml, hown, hts⟩ (va_cwU (owner := "java/lang/AbstractStringBuilder") 0 hts (lw_U q557 q559 q560 q558 q83 q561) rfl rfl rfl rfl (by decide +kernel) ⟨Nat.le_of_ble_eq_true rfl, Nat.le_of_ble_eq_true rfl⟩) EvZ_ok hE hK hS (Cut.ch [[(xq 9, .inr (8, [.ref b1_3, .int 0, .int ml_, .int (nI 34)]))], [(b1_3, .inl (ca 2, 70, .inl (va_cpy bs_ (fun _ => 0) 0 0 34)))]] [] hP hD hS hA) rfl rfl rfl hl.1 rfl (Nat.le_of_ble_eq_true rfl) dJ2_append_3_11 ⟨Nat.le_of_ble_eq_true rfl, Nat.le_of_ble_eq_true rfl⟩) hS (Cut.ch [[(xq 9, .inr (8, [.ref b1_3, .int 0, .int ml_, .int (nI 34)]))], [(b1_3, .inl (ca 2, 70, .inl (va_cpy bs_ (fun _ => 0) 0 0 34)))]] [] hP hD hS hA) (fun r_4 u_5 H locs hq_11 hP hD hS => ?_)
  have hP : va_P D vwCl (fl [[(xq 9, .inr (8, [.ref b1_3, .int 0, .int ml_, .int (nI 34)]))], [(b1_3, .inl (ca 2, 70, .inl (va_cpy bs_ (fun _ => 0) 0 0 34)))]]) H := fl_join [[(xq 9, .inr (8, [.ref b1_3, .int 0, .int ml_, .int (nI 34)]))], [(b1_3, .inl (ca 2, 70, .inl (va_cpy bs_ (fun _ => 0) 0 0 34)))]] [] hP
  have hD : va_D A (fl [[(xq 9, .inr (8, [.ref b1_3, .int 0, .int ml_, .int (nI 34)]))], [(b1_3, .inl (ca 2, 70, .inl (va_cpy bs_ (fun _ => 0) 0 0 34)))]]) := fl_joinD [[(xq 9, .inr (8, [.ref b1_3, .int 0, .int ml_, .int (nI 34)]))], [(b1_3, .inl (ca 2, 70, .inl (va_cpy bs_ (fun _ => 0) 0 0 34)))]] [] hD
  have hp_11 : r_4 = bI true := hq_11
  clear hq_11
  obtain rfl := hp_11
  refine nv_ifb_eq (tgt := 45) hx hb dJ2_append_3_14 (by decide) (fun q_ => by cases q_) (fun _ => ?_)
  refine lv_iload_n hx hb dJ2_append_3_17 rfl (lv_at hl 1 rfl) ?_
  refine xc_i (xr_S (As := [.int (nI c_)]) (rest := []) (mt_J18_canEncode_2 l D ca c_ (by first | assumption | omega | (simp only [updN, forgetC, changedC]; (repeat' split) <;> omega)) H.size) ⟨hx, hb, hml, hown, hts⟩ (va_cwS 1 hts (lw_S q1330 q1331 q102 q1332) rfl rfl rfl (by decide +kernel) ⟨Nat.le_of_ble_eq_true rfl, Nat.le_of_ble_eq_true rfl⟩) Ev0_ok trivial hK hS (Cut.app (wc := []) (wr := (fl [[(xq 9, .inr (8, [.ref b1_3, .int 0, .int ml_, .int (nI 34)]))], [(b1_3, .inl (ca 2, 70, .inl (va_cpy bs_ (fun _ => 0) 0 0 34)))]])) hP hD hS hA) rfl hl.1 rfl (Nat.le_of_ble_eq_true rfl) dJ2_append_3_18 ⟨Nat.le_of_ble_eq_true rfl, Nat.le_of_ble_eq_true rfl⟩) hS (Cut.app (wc := []) (wr := (fl [[(xq 9, .inr (8, [.ref b1_3, .int 0, .int ml_, .int (nI 34)]))], [(b1_3, .inl (ca 2, 70, .inl (va_cpy bs_ (fun _ => 0) 0 0 34)))]])) hP hD hS hA) (fun r_6 u_7 H locs hq_18 hP hD hS => ?_)
  have hP : va_P D vwCl (fl [[(xq 9, .inr (8, [.ref b1_3, .int 0, .int ml_, .int (nI 34)]))], [(b1_3, .inl (ca 2, 70, .inl (va_cpy bs_ (fun _ => 0) 0 0 34)))]]) H := hP
  have hD : va_D A (fl [[(xq 9, .inr (8, [.ref b1_3, .int 0, .int ml_, .int (nI 34)]))], [(b1_3, .inl (ca 2, 70, .inl (va_cpy bs_ (fun _ => 0) 0 0 34)))]]) := hD
  have hp_18 : r_6 = bI true := hq_18
  clear hq_18
  obtain rfl := hp_18
  refine nv_ifb_eq (tgt := 45) hx hb dJ2_append_3_21 (by decide) (fun q_ => by cases q_) (fun _ => ?_)
  refine lv_aload_n hx hb dJ2_append_3_24 rfl (lv_at hl 0 rfl) ?_
  refine va_get (D := D) (ci := 8) (v := .ref b1_3) (C := RJ3) (T := TJ3) (N := 4) hx hb hts in_J3 hown hK hP 0 rfl rfl 0 (by decide) (hts _ q217) (fun _ h9 => h9) rfl dJ2_append_3_25 ?_
  refine lv_aload_n hx hb dJ2_append_3_28 rfl (lv_at hl 0 rfl) ?_
  refine lv_dup hx hb dJ2_append_3_29 rfl ?_
  refine va_get (D := D) (ci := 8) (v := .int (nI 34)) (C := RJ3) (T := TJ3) (N := 4) hx hb hts in_J3 hown hK hP 0 rfl rfl 3 (by decide) (hts _ q221) (fun _ h9 => h9) rfl dJ2_append_3_30 ?_
  refine lv_dup_x1 hx hb dJ2_append_3_33 rfl rfl ?_
  refine lv_iconst (v := nI 1) hx hb dJ2_append_3_34 (by decide) ?_
  refine lv_iadd hx hb dJ2_append_3_35 (lv_topi (nm_r (e' := nI 35) (by decide) ?_))
  refine va_put (D := D) (ci := 8) (v := .int (nI 35)) (ty := .int) (C := RJ3) (T := TJ3) (N := 4) hx hb hts in_J3 tyJ3 tyJ3_ok nmJ3 hown hK hP hD hS 0 rfl rfl 3 (by decide) (hts _ q221) (fun _ h9 => h9) rfl (by decide +kernel) rfl rfl (Nat.le_of_ble_eq_true rfl) dJ2_append_3_36 (fun H locs hP hD hS => ?_)
  have hP : va_P D vwCl (fl [[(xq 9, .inr (8, [.ref b1_3, .int 0, .int ml_, .int (nI 35)]))], [(b1_3, .inl (ca 2, 70, .inl (va_cpy bs_ (fun _ => 0) 0 0 34)))]]) H := hP
  have hD : va_D A (fl [[(xq 9, .inr (8, [.ref b1_3, .int 0, .int ml_, .int (nI 35)]))], [(b1_3, .inl (ca 2, 70, .inl (va_cpy bs_ (fun _ => 0) 0 0 34)))]]) := hD
  refine lv_iload_n hx hb dJ2_append_3_39 rfl (lv_at hl 1 rfl) ?_
  refine lv_i2b (v := nI c_) hx hb dJ2_append_3_40 (bt_id _ hc) ?_
  refine nv_bast hx hb hK hP hD hS 1 2 rfl rfl (bt_vp hc) (by omega) (by decide) dJ2_append_3_41 (fun H locs hP hD hS => ?_)
  have hP : va_P D vwCl (fl [[(xq 9, .inr (8, [.ref b1_3, .int 0, .int ml_, .int (nI 35)]))], [(b1_3, .inl (ca 2, 70, .inl (upd (va_cpy bs_ (fun _ => 0) 0 0 34) 34 (nI c_))))]]) H := hP
  have hD : va_D A (fl [[(xq 9, .inr (8, [.ref b1_3, .int 0, .int ml_, .int (nI 35)]))], [(b1_3, .inl (ca 2, 70, .inl (upd (va_cpy bs_ (fun _ => 0) 0 0 34) 34 (nI c_))))]]) := hD
  refine lv_goto (tgt := 75) hx hb dJ2_append_3_42 (by decide) ?_
  refine lv_aload_n hx hb dJ2_append_3_75 rfl (lv_at hl 0 rfl) ?_
  subst hQQ
  exact xe_r (ad := fun (u_ : Nat) => (xq 9)) b1_3 hx hb hr hlocks hK hP hD hS (trivial) dJ2_append_3_76
set_option maxHeartbeats 400000 in
set_option maxRecDepth 100000 in
theorem mt_J3_append_3_g34 (l : Launch) (D : va_G) (ca : Nat → ClassId) (xq : Nat → Nat) (b_ : Nat) (ml_ : Int32) (bs_ : Nat → Int32) (T_ : List Nat) (c_ : Nat) (hc : c_ < 128) (hf : sb_Fit bs_) (nn : Nat) : Met l yJ3_append_3 (ws_ yJ3_append_3 cJ3_append_3 2 (Option.some (Jvm.ClassFile.FieldType.object "java/lang/StringBuilder"))) ({ frames := 5, cells := 1, slots := 70, locals := 131 } : Room) (va_Pc [.ref (xq 9), .int (nI c_)] (PreW EvZ D vwCl (TY ca) (fl [[(xq 9, .inr (8, [.ref b_, .int 0, .int ml_, .int (nI 34)]))], [(b_, .inl (ca 2, 34, .inl (bs_)))]]) nn)) (va_Qr (fun (u_ : Nat) => True) (fun (u_ : Nat) (r_ : Nat) (t_ : State) => r_ = (xq 9) ∧ PostW D vwCl (TY ca) (fun (u_ : Nat) => (fl [[(xq 9, .inr (8, [.ref u_, .int 0, .int ml_, .int (nI 35)]))], [(u_, .inl (ca 2, 70, .inl (upd (va_cpy bs_ (fun _ => 0) 0 0 34) 34 (nI c_))))]])) (va_A (fl [[(xq 9, .inr (8, [.ref b_, .int 0, .int ml_, .int (nI 34)]))], [(b_, .inl (ca 2, 34, .inl (bs_)))]]) nn) u_ t_) (va_A (fl [[(xq 9, .inr (8, [.ref b_, .int 0, .int ml_, .int (nI 34)]))], [(b_, .inl (ca 2, 34, .inl (bs_)))]]) nn)) 1 70 (va_A (fl [[(xq 9, .inr (8, [.ref b_, .int 0, .int ml_, .int (nI 34)]))], [(b_, .inl (ca 2, 34, .inl (bs_)))]]) nn) := by
  refine met_go2 (QA := fun A => va_Qr (fun (u_ : Nat) => True) (fun (u_ : Nat) (r_ : Nat) (t_ : State) => r_ = (xq 9) ∧ PostW D vwCl (TY ca) (fun (u_ : Nat) => (fl [[(xq 9, .inr (8, [.ref u_, .int 0, .int ml_, .int (nI 35)]))], [(u_, .inl (ca 2, 70, .inl (upd (va_cpy bs_ (fun _ => 0) 0 0 34) 34 (nI c_))))]])) A u_ t_) A) (by decide) (Nat.le_of_ble_eq_true rfl) (fun p e s m below meth c A ls QQ hQQ hmn hnm hx hb hr hts hown hlocks hml hA hP hK hD hE hl => ?_)
  have hown : s.vm.findClass RJ3 = some m.cls := hown
  have hS : va_S A s.heap s.heap [] := va_S.rf
  have hl : lv_has ls 2 [(0, .ref (xq 9)), (1, .int (nI c_))] := hl
  generalize hHe : s.heap = H at hP ⊢
  have hS : va_S A s.heap H [] := hHe ▸ hS
  generalize ([] : List Loc) = locs at hS ⊢
  refine lv_aload_n hx hb dJ3_append_3_0 rfl (lv_at hl 0 rfl) ?_
  refine lv_iload_n hx hb dJ3_append_3_1 rfl (lv_at hl 1 rfl) ?_
  refine xc_r (xr_SU (b := xq 9) (ci := 8) (q0 := 0) (As := [.int (nI c_)]) (rest := []) (mt_J2_append_3_g34 l D ca xq b_ ml_ bs_ T_ c_ (by first | assumption | omega | (simp only [updN, forgetC, changedC]; (repeat' split) <;> omega)) (by first | assumption | omega | (simp only [updN, forgetC, changedC]; (repeat' split) <;> omega)) H.size) ⟨hx, hb, hml, hown, hts⟩ (va_cwSU 1 hts (lw_SU q1327 q2055 q230 q1328 q83 q1329) rfl rfl rfl (by decide +kernel) ⟨Nat.le_of_ble_eq_true rfl, Nat.le_of_ble_eq_true rfl⟩) EvZ_ok hE hK hS (Cut.ch [[(xq 9, .inr (8, [.ref b_, .int 0, .int ml_, .int (nI 34)]))], [(b_, .inl (ca 2, 34, .inl (bs_)))]] [] hP hD hS hA) rfl rfl rfl hl.1 rfl (Nat.le_of_ble_eq_true rfl) dJ3_append_3_2 ⟨Nat.le_of_ble_eq_true rfl, Nat.le_of_ble_eq_true rfl⟩) hS (Cut.ch [[(xq 9, .inr (8, [.ref b_, .int 0, .int ml_, .int (nI 34)]))], [(b_, .inl (ca 2, 34, .inl (bs_)))]] [] hP hD hS hA) (fun u_2 H locs hq_2 hP hD hS => ?_)
  obtain ⟨b1_3, rfl⟩ : ∃ z_, z_ = u_2 := ⟨_, rfl⟩
  have hP : va_P D vwCl (fl [[(xq 9, .inr (8, [.ref b1_3, .int 0, .int ml_, .int (nI 35)]))], [(b1_3, .inl (ca 2, 70, .inl (upd (va_cpy bs_ (fun _ => 0) 0 0 34) 34 (nI c_))))]]) H := fl_join [[(xq 9, .inr (8, [.ref b1_3, .int 0, .int ml_, .int (nI 35)]))], [(b1_3, .inl (ca 2, 70, .inl (upd (va_cpy bs_ (fun _ => 0) 0 0 34) 34 (nI c_))))]] [] hP
  have hD : va_D A (fl [[(xq 9, .inr (8, [.ref b1_3, .int 0, .int ml_, .int (nI 35)]))], [(b1_3, .inl (ca 2, 70, .inl (upd (va_cpy bs_ (fun _ => 0) 0 0 34) 34 (nI c_))))]]) := fl_joinD [[(xq 9, .inr (8, [.ref b1_3, .int 0, .int ml_, .int (nI 35)]))], [(b1_3, .inl (ca 2, 70, .inl (upd (va_cpy bs_ (fun _ => 0) 0 0 34) 34 (nI c_))))]] [] hD
  refine lv_pop hx hb dJ3_append_3_5 rfl ?_
  refine lv_aload_n hx hb dJ3_append_3_6 rfl (lv_at hl 0 rfl) ?_
  subst hQQ
  exact xe_r (ad := fun (u_ : Nat) => (xq 9)) b1_3 hx hb hr hlocks hK hP hD hS (trivial) dJ3_append_3_7
