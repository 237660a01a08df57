/-! rows for lambdas -/
set_option maxRecDepth 100000
def lm_x : MethodName := ⟨"RosehipCircuits$Change", "on", "(LRosehipCircuits$Circuit;)I"⟩
/-- the interface's method, at the tables -/
def lm_I (s : State) : Prop := (Cond.declares lm_x).before #[] s = true ∧ (Cond.interfaceMethod lm_x.cls lm_x.cls lm_x.name lm_x.desc).before #[] s = true
theorem lm_I.of {s : State} {A : Array Value} (h1 : (Cond.declares lm_x).before A s = true) (h2 : (Cond.interfaceMethod lm_x.cls lm_x.cls lm_x.name lm_x.desc).before A s = true) : lm_I s := ⟨va_any rfl h1, va_any rfl h2⟩
theorem lm_Ig {x : MethodName} (hx : x.cls ≠ "java/lang/invoke/MethodHandle" ∧ x.cls ≠ "java/lang/invoke/VarHandle") {u U : State} (hvm : u.vm.Alike U.vm) (h1 : (Cond.declares x).before #[] u = true) (h2 : (Cond.interfaceMethod x.cls x.cls x.name x.desc).before #[] u = true) : (Cond.declares x).before #[] U = true ∧ (Cond.interfaceMethod x.cls x.cls x.name x.desc).before #[] U = true := by
  obtain ⟨r, meth, hn, -⟩ := Cond.declares_spec h1
  have tr : ∀ {c : Cond}, c.onTables = true → c.before #[] (u.setVm U.vm) = true → c.before #[] U = true := by
    intro c hc h
    have e := Cond.onTables_vm (A := #[]) (A' := #[]) (U := u) (U' := U) U.vm c hc
    have hU : U.setVm U.vm = U := rfl
    rw [hU] at e
    rw [← e]
    exact h
  exact ⟨tr rfl (by rw [Cond.declares_setVm hvm]; exact h1), tr rfl (by rw [Cond.interfaceMethod_setVm hvm (r := r) hn hx]; exact h2)⟩
theorem lm_I.moved {u U : State} (hvm : u.vm.Alike U.vm) (h : lm_I u) : lm_I U := lm_Ig (by decide) hvm h.1 h.2
set_option maxHeartbeats 2000000 in
theorem lm0_on {p : Program} {l : Launch} {e : Env} {R : Room} {s : State} {m : MethodId} {args : Array Value} {below : List Frame} {meth : Method} {c : Code} {H : Heap} {locs : List Loc} {cells slots : Nat} {cc : ByteArray} {pc : Nat} {ls : Array Slot} {rest : List Value} {D : va_G} {cl : List vw_C} {tys : List (ClassId × FieldType)} {A : Nat → Prop} {wc : va_W} {J : va_W → va_W} {Ev : (Nat → Prop) → State → Prop} {S SX : Type} {post : Int32 → S → Prop} {wf : S → va_W} {px : SX → Prop} {BX : String → SX → State → Prop} {rm : Room} {mc ms count : Nat} {la a1 : Nat} {lc : Cell} {x0 : Int32} {x1 : Int32} {x2 : Int32}
    (hx : p.tables.exec = Jvm.exec) (hb : c.code = cc) (hts : ∀ w ∈ lw_all, w.before args s = true) (hown : s.vm.findClass RX1 = some m.cls) (hsz : ls.size = c.maxLocals) (hI : lm_I s) (hKl : lm_K lm0_S s lc.cls) (hcell : H[la]? = some lc) (hlv : lc.vm = .none) (hls : lc.slots = #[.int x0, .int x1, .int x2])
    (hM : vx_Met l yX1_lambda_addGate_0 (ws_ yX1_lambda_addGate_0 cX1_lambda_addGate_0 4 (some .int)) rm (va_Pc [.int x0, .int x1, .int x2, .ref a1] (PreW Ev D cl tys wc H.size)) (va_Qi post (PostW D cl tys wf (va_A wc H.size)) (va_A wc H.size)) (vx_X px BX (va_A wc H.size)) mc ms (va_A wc H.size))
    (hrc : rm.cells = mc) (hrs : rm.slots = ms) (hfr : rm.frames + 2 ≤ R.frames) (hlo : rm.locals + 60 ≤ R.locals) (hEv : EvOk Ev) (hE : Ev A s) (hKK : va_K D cl tys s) (hS : va_S A s.heap H locs) (cut : Cut D cl A wc J H)
    (hBX : ∀ (E : String) (u : SX) (t t' : State), t'.heap = t.heap → t.vm.Alike t'.vm → BX E u t → BX E u t') (hW : (rest.map fun v => v.category).sum ≤ 8) (hdg : decode cc pc = .ok (.invokeinterface 224 count, 5)) (hf : cells + mc ≤ R.cells ∧ slots + ms ≤ R.slots) :
    vx_Run5 p l e R s m args below meth c H locs cells slots mc ms (F0 m pc ls (.ref a1 :: .ref la :: rest)) rest (va_Qi post (PostW D cl tys wf (va_A wc H.size)) (va_A wc H.size) #[]) (vx_X px BX (va_A wc H.size)) (va_A wc H.size) := by
  intro T hT X
  subst hT
  obtain ⟨r0, r, hn, hrm, hstR, hsigR⟩ := Cond.declares_spec hI.1
  obtain ⟨cL, kL, r1, hcL, hkL, hiL, hfoundL, hn1⟩ := Cond.interfaceMethod_spec hI.2
  cases hn.symm.trans hn1
  have hr0cls : r0.cls = cL := Option.some.inj ((findClass_of_methodNamed hn).symm.trans hcL)
  obtain ⟨hnameR, hdescR⟩ := name_of_methodNamed hn hrm
  have hFs := lm0_F hts hKl
  obtain ⟨k, tk, file, methk, ck, toy, t0, ci, nt, g1, g2, -, -, -, g6, g7, g8, g9, g10, g11, g12, g13, -⟩ := hFs s.vm (State.WarmedH.refl s)
  obtain ⟨d, dk, h1, h2, hmade, hcan⟩ := id hKl
  obtain ⟨_, _, _, _, _, _, object, iface, _, _, _, _, found, -, -, -, -, -, hi', -, -, -, -, -, -, hfound', -, -, -, -, -, -, -, -, -, -, hsel⟩ := Lambda.isMade_spec hmade
  have hic : iface = cL := Option.some.inj (Eq.trans (Eq.symm hi') hcL)
  subst hic
  have hmf := State.methodFound?_of_named hn (by decide)
  have hfr0 : found = r0 := by
    have e1 : s.vm.findClass lm_x.cls = some iface := hcL
    simp only [State.methodFound?, e1, hkL, hiL, Option.bind_eq_bind, Option.bind_some] at hmf
    have e2 : ((methodIn iface lm_x.name lm_x.desc true none).ask lm_set s.vm).1 = .ok found := hfound'
    rw [e2] at hmf
    exact Option.some.inj hmf
  subst hfr0
  obtain ⟨i2, hi2, hasg, hway⟩ := State.lambdaCallable_spec hcan
  have hi2c : i2 = iface := Option.some.inj (Eq.trans (Eq.symm hi2) hi')
  subst hi2c
  have hselP : selectMethod e.platform s.vm lc.cls found = .method ⟨lc.cls, 1⟩ := by rw [Launch.admits_selectMethod X.admits]; exact hsel
  have hlenR : [Value.ref a1].length = r.sig.parameters.length := by
    have e3 : parseMethodDescriptor lm_x.desc = some ⟨[FieldType.object "RosehipCircuits$Circuit"], some .int⟩ := by decide +kernel
    rw [e3] at hsigR
    rw [← Option.some.inj hsigR]; rfl
  obtain ⟨vm₁, X₁, hstep₁⟩ := X.invokeinterface hx hown (hts _ q1211) hn hrm hstR (by rw [hr0cls]; exact hkL) hiL (by decide) (a := la) (cell := lc) (kcell := k) hcell (fun z h => by rw [hlv] at h; cases h) g1 (by rw [hr0cls]; exact hasg) hselP g6
    (by rw [hnameR, hdescR]; exact hway) (by rw [g12]; decide) (by simp [Method.isAbstract, g12, hasFlag, Acc.abstract]) (g := F0 m pc ls (.ref a1 :: .ref la :: rest)) rfl (argsL := [.ref a1]) (rest := rest) hlenR rfl (by rw [hb]; exact hdg)
  obtain ⟨k1, tk1, file1, methk1, ck1, toy1, t1, ci1, nt1, f1, f2, -, -, -, f6, f7, f8, f9, f10, f11, f12, f13, -⟩ := hFs vm₁ X₁.warmed
  have hgo := lm_in X₁ (g := F0 m pc ls rest) rfl hsz (ig := .invokeinterface 224 count) (len := 5) (by rw [hb]; exact hdg) (mk := ⟨lc.cls, 1⟩) (methk := methk1) (ck := ck1) #[.ref la, .ref a1] (R' := { frames := rm.frames + 1, cells := mc, slots := ms, locals := rm.locals + 30 }) f6 f7 f11
    (fun kk hkk => by cases f1.symm.trans hkk; exact plain_of_name (by rw [f2]; decide)) (by show rm.frames + 1 + 1 ≤ R.frames; omega) (by rw [f9]; show 2 * 0 + (rest.map fun v => v.category).sum + (2 + 11) + (rm.locals + 30) ≤ R.locals; omega) hf.1 hf.2
    (Qc := va_Qi post (PostW D cl tys wf (va_A wc T.heap.size)) (va_A wc T.heap.size)) (XC := vx_X px BX (va_A wc T.heap.size)) (mc := mc) (ms := ms) (free := va_A wc T.heap.size) ?_
  · rcases hgo with ⟨v, t, T', L, X', hL, e1, e2, hq, st⟩ | ⟨q, t, T', L, E, ce, X', hL, e1, e2, hq, hce, hcv, hcl, st⟩
    · exact Or.inl ⟨v, (T.setVm vm₁).calling (F0 m pc ls rest) ⟨lc.cls, 1⟩ #[.ref la, .ref a1], t, T', L, rfl, X', hL, e1, e2, hq, fun target h => hstep₁ _ fun acts => (st acts).trans h⟩
    · exact Or.inr ⟨q, (T.setVm vm₁).calling (F0 m pc ls rest) ⟨lc.cls, 1⟩ #[.ref la, .ref a1], t, T', L, E, ce, rfl, X', hL, e1, e2, hq, hce, hcv, vx_cls X₁.warmed hcl, hstep₁ _ fun acts => st acts⟩
  · generalize hsK : (T.setVm vm₁).calling (F0 m pc ls rest) ⟨lc.cls, 1⟩ #[.ref la, .ref a1] = sK
    have hvK : sK.vm = vm₁ := by rw [← hsK]; rfl
    have hhK : sK.heap = T.heap := by rw [← hsK]; rfl
    have hWK : s.WarmedH sK.vm := by rw [hvK]; exact X₁.warmed
    show W p l e _ sK ⟨lc.cls, 1⟩ #[.ref la, .ref a1] _ methk1 ck1 T.heap [] 0 0 (vx_MQ _ _ _ _ sK mc ms _) _
    rw [← hhK] at hcell hM cut hS ⊢
    have hb' : ck1.code = lm0_C := f8
    have hts' : ∀ w ∈ lw_all, w.before #[.ref la, .ref a1] sK = true := fun w hw => word_at hWK (good_of_word (List.mem_filter.mp hw).2) (hts w hw)
    have hEK : Ev (va_A wc sK.heap.size) sK := hEv A _ s sK hE hWK (fun q h1 h2 => hS.2.1 q h1 h2) cut.2.2.1
    have hK' : va_K D cl tys sK := va_K.moved hWK.alike hKK
    have hP : va_P D cl wc sK.heap := cut.1
    have hD : va_D (va_A wc sK.heap.size) wc := cut.2.1.self
    have hS' : va_S (va_A wc sK.heap.size) sK.heap sK.heap [] := va_S.rf
    have hF' : ∀ vm', sK.WarmedH vm' → lm_F vm' lc.cls lm0_C 3 (fun i_ => 17 + 2 * i_) 29 yX1_lambda_addGate_0 := lm0_F hts' (hKl.warm hWK)
    have hcell' := hcell
    have cutK : Cut D cl (va_A wc sK.heap.size) wc (fun w => w) sK.heap := Cut.all hP hD hS' (fun q h => Or.inr h)
    have hl := lv_entry [.ref la, .ref a1] (n := 2) (Nat.le_of_ble_eq_true rfl)
    rw [f9, show (#[.ref la, .ref a1] : Array Value) = ([.ref la, .ref a1] : List Value).toArray from rfl, lg_entry_eq]
    generalize (lg_sl ([.ref la, .ref a1]) ++ List.replicate (2 - (lg_sl ([.ref la, .ref a1])).length) Slot.unset).toArray = ls' at hl ⊢
    have hl : lv_has ls' 2 [(0, .ref la), (1, .ref a1)] := hl
    refine lv_aload_n hx hb' lm0_d0 rfl (lv_at hl 0 rfl) ?_
    refine lm_getf (nc := 3) (i := 0) (v := .int x0) hx hb' hF' hcell' (by rw [hlv]; exact fun h => by cases h) (by omega) (by rw [hls]; rfl) lm0_d1 ?_
    refine lv_aload_n hx hb' lm0_d4 rfl (lv_at hl 0 rfl) ?_
    refine lm_getf (nc := 3) (i := 1) (v := .int x1) hx hb' hF' hcell' (by rw [hlv]; exact fun h => by cases h) (by omega) (by rw [hls]; rfl) lm0_d5 ?_
    refine lv_aload_n hx hb' lm0_d8 rfl (lv_at hl 0 rfl) ?_
    refine lm_getf (nc := 3) (i := 2) (v := .int x2) hx hb' hF' hcell' (by rw [hlv]; exact fun h => by cases h) (by omega) (by rw [hls]; rfl) lm0_d9 ?_
    refine lv_aload_n hx hb' lm0_d12 rfl (lv_at hl 1 rfl) ?_
    refine vx_calli (A0 := va_A wc sK.heap.size) (lm_runS (bytes := cX1_lambda_addGate_0) (maxL := 4) (ret := some .int) (n := 4) (As := [.int x0, .int x1, .int x2, .ref a1]) (rest := []) (g := F0 ⟨lc.cls, 1⟩ 13 ls' _) hx hb' hF' hM hrc hrs (Nat.le_refl _) (by show 8 + (4 + 11) + rm.locals ≤ rm.locals + 30; omega) (fun w hw a' U hU => ?_) List.mem_cons_self (hts' _ q1168) (hts' _ q79) (hts' _ q1167) (by decide) ?_ (xc_pre hEv hEK hK' hS' cutK) rfl rfl (hl.1.trans f9.symm) rfl (lv_room (Nat.le_of_ble_eq_true rfl)) lm0_d13 ⟨by show 0 + mc ≤ mc; omega, by show 0 + ms ≤ ms; omega⟩) hS' (fun q _ h => h) (fun q h => h) (fun q _ h => h) (fun E ce q9 u t H1 locs1 ht hvm hpx hbx hz hk hS1 hce hcv hcl => ?_) (fun rr u t H1 locs1 ht hvm hpost hB hz hk hS1 => ?_)
    · rcases List.mem_cons.mp hw with e9 | e9
      · rw [e9]; exact word_at hU (good_of_word (List.mem_filter.mp q1168).2) (hts' _ q1168)
      · exact word_at hU (good_of_word (List.mem_filter.mp e9).2) (hts' w e9)
    · intro sig hs
      have e3 : (parseMethodDescriptor yX1_lambda_addGate_0.desc).map (fun d => d.parameters.length) = some 4 := by decide +kernel
      rw [hs] at e3
      exact (Option.some.inj e3).symm
    · have hex : ck1.exceptionTable.toList = [] := by have h9 := f10; simp only [Array.isEmpty_iff] at h9; rw [h9]
      exact vx_out (fun x hx9 => by rw [hex] at hx9; cases hx9) f11 hce hcv hcl (fun t' ht' hv' => ⟨u, hpx, hBX E u t t' (by rw [ht', ht]) (hvm.symm.trans hv') hbx, hS1.F ht'⟩) (fun z hz9 => hS1.2.2 z hz9) (by omega) (by omega)
    · obtain ⟨hP1, hK1, hD1⟩ := hB
      rw [ht] at hP1
      refine W.widen (k := mc) (n := ms) (by omega) (by omega) (vx_ret ?_)
      exact xe_i u hx hb' f13 f11 hK' hP1 hD1 hS1 hpost lm0_d16
set_option maxHeartbeats 2000000 in
theorem lm1_on {p : Program} {l : Launch} {e : Env} {R : Room} {s : State} {m : MethodId} {args : Array Value} {below : List Frame} {meth : Method} {c : Code} {H : Heap} {locs : List Loc} {cells slots : Nat} {cc : ByteArray} {pc : Nat} {ls : Array Slot} {rest : List Value} {D : va_G} {cl : List vw_C} {tys : List (ClassId × FieldType)} {A : Nat → Prop} {wc : va_W} {J : va_W → va_W} {Ev : (Nat → Prop) → State → Prop} {S SX : Type} {post : Int32 → S → Prop} {wf : S → va_W} {px : SX → Prop} {BX : String → SX → State → Prop} {rm : Room} {mc ms count : Nat} {la a1 : Nat} {lc : Cell}
    (hx : p.tables.exec = Jvm.exec) (hb : c.code = cc) (hts : ∀ w ∈ lw_all, w.before args s = true) (hown : s.vm.findClass RX1 = some m.cls) (hsz : ls.size = c.maxLocals) (hI : lm_I s) (hKl : lm_K lm1_S s lc.cls) (hcell : H[la]? = some lc) (hlv : lc.vm = .none) (hls : lc.slots = #[])
    (hM : vx_Met l yX1_lambda_dropGate_1 (ws_ yX1_lambda_dropGate_1 cX1_lambda_dropGate_1 1 (some .int)) rm (va_Pc [.ref a1] (PreW Ev D cl tys wc H.size)) (va_Qi post (PostW D cl tys wf (va_A wc H.size)) (va_A wc H.size)) (vx_X px BX (va_A wc H.size)) mc ms (va_A wc H.size))
    (hrc : rm.cells = mc) (hrs : rm.slots = ms) (hfr : rm.frames + 2 ≤ R.frames) (hlo : rm.locals + 60 ≤ R.locals) (hEv : EvOk Ev) (hE : Ev A s) (hKK : va_K D cl tys s) (hS : va_S A s.heap H locs) (cut : Cut D cl A wc J H)
    (hBX : ∀ (E : String) (u : SX) (t t' : State), t'.heap = t.heap → t.vm.Alike t'.vm → BX E u t → BX E u t') (hW : (rest.map fun v => v.category).sum ≤ 8) (hdg : decode cc pc = .ok (.invokeinterface 224 count, 5)) (hf : cells + mc ≤ R.cells ∧ slots + ms ≤ R.slots) :
    vx_Run5 p l e R s m args below meth c H locs cells slots mc ms (F0 m pc ls (.ref a1 :: .ref la :: rest)) rest (va_Qi post (PostW D cl tys wf (va_A wc H.size)) (va_A wc H.size) #[]) (vx_X px BX (va_A wc H.size)) (va_A wc H.size) := by
  intro T hT X
  subst hT
  obtain ⟨r0, r, hn, hrm, hstR, hsigR⟩ := Cond.declares_spec hI.1
  obtain ⟨cL, kL, r1, hcL, hkL, hiL, hfoundL, hn1⟩ := Cond.interfaceMethod_spec hI.2
  cases hn.symm.trans hn1
  have hr0cls : r0.cls = cL := Option.some.inj ((findClass_of_methodNamed hn).symm.trans hcL)
  obtain ⟨hnameR, hdescR⟩ := name_of_methodNamed hn hrm
  have hFs := lm1_F hts hKl
  obtain ⟨k, tk, file, methk, ck, toy, t0, ci, nt, g1, g2, -, -, -, g6, g7, g8, g9, g10, g11, g12, g13, -⟩ := hFs s.vm (State.WarmedH.refl s)
  obtain ⟨d, dk, h1, h2, hmade, hcan⟩ := id hKl
  obtain ⟨_, _, _, _, _, _, object, iface, _, _, _, _, found, -, -, -, -, -, hi', -, -, -, -, -, -, hfound', -, -, -, -, -, -, -, -, -, -, hsel⟩ := Lambda.isMade_spec hmade
  have hic : iface = cL := Option.some.inj (Eq.trans (Eq.symm hi') hcL)
  subst hic
  have hmf := State.methodFound?_of_named hn (by decide)
  have hfr0 : found = r0 := by
    have e1 : s.vm.findClass lm_x.cls = some iface := hcL
    simp only [State.methodFound?, e1, hkL, hiL, Option.bind_eq_bind, Option.bind_some] at hmf
    have e2 : ((methodIn iface lm_x.name lm_x.desc true none).ask lm_set s.vm).1 = .ok found := hfound'
    rw [e2] at hmf
    exact Option.some.inj hmf
  subst hfr0
  obtain ⟨i2, hi2, hasg, hway⟩ := State.lambdaCallable_spec hcan
  have hi2c : i2 = iface := Option.some.inj (Eq.trans (Eq.symm hi2) hi')
  subst hi2c
  have hselP : selectMethod e.platform s.vm lc.cls found = .method ⟨lc.cls, 1⟩ := by rw [Launch.admits_selectMethod X.admits]; exact hsel
  have hlenR : [Value.ref a1].length = r.sig.parameters.length := by
    have e3 : parseMethodDescriptor lm_x.desc = some ⟨[FieldType.object "RosehipCircuits$Circuit"], some .int⟩ := by decide +kernel
    rw [e3] at hsigR
    rw [← Option.some.inj hsigR]; rfl
  obtain ⟨vm₁, X₁, hstep₁⟩ := X.invokeinterface hx hown (hts _ q1211) hn hrm hstR (by rw [hr0cls]; exact hkL) hiL (by decide) (a := la) (cell := lc) (kcell := k) hcell (fun z h => by rw [hlv] at h; cases h) g1 (by rw [hr0cls]; exact hasg) hselP g6
    (by rw [hnameR, hdescR]; exact hway) (by rw [g12]; decide) (by simp [Method.isAbstract, g12, hasFlag, Acc.abstract]) (g := F0 m pc ls (.ref a1 :: .ref la :: rest)) rfl (argsL := [.ref a1]) (rest := rest) hlenR rfl (by rw [hb]; exact hdg)
  obtain ⟨k1, tk1, file1, methk1, ck1, toy1, t1, ci1, nt1, f1, f2, -, -, -, f6, f7, f8, f9, f10, f11, f12, f13, -⟩ := hFs vm₁ X₁.warmed
  have hgo := lm_in X₁ (g := F0 m pc ls rest) rfl hsz (ig := .invokeinterface 224 count) (len := 5) (by rw [hb]; exact hdg) (mk := ⟨lc.cls, 1⟩) (methk := methk1) (ck := ck1) #[.ref la, .ref a1] (R' := { frames := rm.frames + 1, cells := mc, slots := ms, locals := rm.locals + 30 }) f6 f7 f11
    (fun kk hkk => by cases f1.symm.trans hkk; exact plain_of_name (by rw [f2]; decide)) (by show rm.frames + 1 + 1 ≤ R.frames; omega) (by rw [f9]; show 2 * 0 + (rest.map fun v => v.category).sum + (2 + 11) + (rm.locals + 30) ≤ R.locals; omega) hf.1 hf.2
    (Qc := va_Qi post (PostW D cl tys wf (va_A wc T.heap.size)) (va_A wc T.heap.size)) (XC := vx_X px BX (va_A wc T.heap.size)) (mc := mc) (ms := ms) (free := va_A wc T.heap.size) ?_
  · rcases hgo with ⟨v, t, T', L, X', hL, e1, e2, hq, st⟩ | ⟨q, t, T', L, E, ce, X', hL, e1, e2, hq, hce, hcv, hcl, st⟩
    · exact Or.inl ⟨v, (T.setVm vm₁).calling (F0 m pc ls rest) ⟨lc.cls, 1⟩ #[.ref la, .ref a1], t, T', L, rfl, X', hL, e1, e2, hq, fun target h => hstep₁ _ fun acts => (st acts).trans h⟩
    · exact Or.inr ⟨q, (T.setVm vm₁).calling (F0 m pc ls rest) ⟨lc.cls, 1⟩ #[.ref la, .ref a1], t, T', L, E, ce, rfl, X', hL, e1, e2, hq, hce, hcv, vx_cls X₁.warmed hcl, hstep₁ _ fun acts => st acts⟩
  · generalize hsK : (T.setVm vm₁).calling (F0 m pc ls rest) ⟨lc.cls, 1⟩ #[.ref la, .ref a1] = sK
    have hvK : sK.vm = vm₁ := by rw [← hsK]; rfl
    have hhK : sK.heap = T.heap := by rw [← hsK]; rfl
    have hWK : s.WarmedH sK.vm := by rw [hvK]; exact X₁.warmed
    show W p l e _ sK ⟨lc.cls, 1⟩ #[.ref la, .ref a1] _ methk1 ck1 T.heap [] 0 0 (vx_MQ _ _ _ _ sK mc ms _) _
    rw [← hhK] at hcell hM cut hS ⊢
    have hb' : ck1.code = lm1_C := f8
    have hts' : ∀ w ∈ lw_all, w.before #[.ref la, .ref a1] sK = true := fun w hw => word_at hWK (good_of_word (List.mem_filter.mp hw).2) (hts w hw)
    have hEK : Ev (va_A wc sK.heap.size) sK := hEv A _ s sK hE hWK (fun q h1 h2 => hS.2.1 q h1 h2) cut.2.2.1
    have hK' : va_K D cl tys sK := va_K.moved hWK.alike hKK
    have hP : va_P D cl wc sK.heap := cut.1
    have hD : va_D (va_A wc sK.heap.size) wc := cut.2.1.self
    have hS' : va_S (va_A wc sK.heap.size) sK.heap sK.heap [] := va_S.rf
    have hF' : ∀ vm', sK.WarmedH vm' → lm_F vm' lc.cls lm1_C 0 (fun i_ => 0 + 2 * i_) 17 yX1_lambda_dropGate_1 := lm1_F hts' (hKl.warm hWK)
    have hcell' := hcell
    have cutK : Cut D cl (va_A wc sK.heap.size) wc (fun w => w) sK.heap := Cut.all hP hD hS' (fun q h => Or.inr h)
    have hl := lv_entry [.ref la, .ref a1] (n := 2) (Nat.le_of_ble_eq_true rfl)
    rw [f9, show (#[.ref la, .ref a1] : Array Value) = ([.ref la, .ref a1] : List Value).toArray from rfl, lg_entry_eq]
    generalize (lg_sl ([.ref la, .ref a1]) ++ List.replicate (2 - (lg_sl ([.ref la, .ref a1])).length) Slot.unset).toArray = ls' at hl ⊢
    have hl : lv_has ls' 2 [(0, .ref la), (1, .ref a1)] := hl
    refine lv_aload_n hx hb' lm1_d0 rfl (lv_at hl 1 rfl) ?_
    refine vx_calli (A0 := va_A wc sK.heap.size) (lm_runS (bytes := cX1_lambda_dropGate_1) (maxL := 1) (ret := some .int) (n := 1) (As := [.ref a1]) (rest := []) (g := F0 ⟨lc.cls, 1⟩ 1 ls' _) hx hb' hF' hM hrc hrs (Nat.le_refl _) (by show 8 + (1 + 11) + rm.locals ≤ rm.locals + 30; omega) (fun w hw a' U hU => ?_) List.mem_cons_self (hts' _ q1222) (hts' _ q79) (hts' _ q1221) (by decide) ?_ (xc_pre hEv hEK hK' hS' cutK) rfl rfl (hl.1.trans f9.symm) rfl (lv_room (Nat.le_of_ble_eq_true rfl)) lm1_d1 ⟨by show 0 + mc ≤ mc; omega, by show 0 + ms ≤ ms; omega⟩) hS' (fun q _ h => h) (fun q h => h) (fun q _ h => h) (fun E ce q9 u t H1 locs1 ht hvm hpx hbx hz hk hS1 hce hcv hcl => ?_) (fun rr u t H1 locs1 ht hvm hpost hB hz hk hS1 => ?_)
    · rcases List.mem_cons.mp hw with e9 | e9
      · rw [e9]; exact word_at hU (good_of_word (List.mem_filter.mp q1222).2) (hts' _ q1222)
      · exact word_at hU (good_of_word (List.mem_filter.mp e9).2) (hts' w e9)
    · intro sig hs
      have e3 : (parseMethodDescriptor yX1_lambda_dropGate_1.desc).map (fun d => d.parameters.length) = some 1 := by decide +kernel
      rw [hs] at e3
      exact (Option.some.inj e3).symm
    · have hex : ck1.exceptionTable.toList = [] := by have h9 := f10; simp only [Array.isEmpty_iff] at h9; rw [h9]
      exact vx_out (fun x hx9 => by rw [hex] at hx9; cases hx9) f11 hce hcv hcl (fun t' ht' hv' => ⟨u, hpx, hBX E u t t' (by rw [ht', ht]) (hvm.symm.trans hv') hbx, hS1.F ht'⟩) (fun z hz9 => hS1.2.2 z hz9) (by omega) (by omega)
    · obtain ⟨hP1, hK1, hD1⟩ := hB
      rw [ht] at hP1
      refine W.widen (k := mc) (n := ms) (by omega) (by omega) (vx_ret ?_)
      exact xe_i u hx hb' f13 f11 hK' hP1 hD1 hS1 hpost lm1_d4
set_option maxHeartbeats 2000000 in
theorem lm2_on {p : Program} {l : Launch} {e : Env} {R : Room} {s : State} {m : MethodId} {args : Array Value} {below : List Frame} {meth : Method} {c : Code} {H : Heap} {locs : List Loc} {cells slots : Nat} {cc : ByteArray} {pc : Nat} {ls : Array Slot} {rest : List Value} {D : va_G} {cl : List vw_C} {tys : List (ClassId × FieldType)} {A : Nat → Prop} {wc : va_W} {J : va_W → va_W} {Ev : (Nat → Prop) → State → Prop} {S SX : Type} {post : Int32 → S → Prop} {wf : S → va_W} {px : SX → Prop} {BX : String → SX → State → Prop} {rm : Room} {mc ms count : Nat} {la a1 : Nat} {lc : Cell} {x0 : Int32} {x1 : Int32}
    (hx : p.tables.exec = Jvm.exec) (hb : c.code = cc) (hts : ∀ w ∈ lw_all, w.before args s = true) (hown : s.vm.findClass RX1 = some m.cls) (hsz : ls.size = c.maxLocals) (hI : lm_I s) (hKl : lm_K lm2_S s lc.cls) (hcell : H[la]? = some lc) (hlv : lc.vm = .none) (hls : lc.slots = #[.int x0, .int x1])
    (hM : vx_Met l yX1_lambda_setKind_2 (ws_ yX1_lambda_setKind_2 cX1_lambda_setKind_2 3 (some .int)) rm (va_Pc [.int x0, .int x1, .ref a1] (PreW Ev D cl tys wc H.size)) (va_Qi post (PostW D cl tys wf (va_A wc H.size)) (va_A wc H.size)) (vx_X px BX (va_A wc H.size)) mc ms (va_A wc H.size))
    (hrc : rm.cells = mc) (hrs : rm.slots = ms) (hfr : rm.frames + 2 ≤ R.frames) (hlo : rm.locals + 60 ≤ R.locals) (hEv : EvOk Ev) (hE : Ev A s) (hKK : va_K D cl tys s) (hS : va_S A s.heap H locs) (cut : Cut D cl A wc J H)
    (hBX : ∀ (E : String) (u : SX) (t t' : State), t'.heap = t.heap → t.vm.Alike t'.vm → BX E u t → BX E u t') (hW : (rest.map fun v => v.category).sum ≤ 8) (hdg : decode cc pc = .ok (.invokeinterface 224 count, 5)) (hf : cells + mc ≤ R.cells ∧ slots + ms ≤ R.slots) :
    vx_Run5 p l e R s m args below meth c H locs cells slots mc ms (F0 m pc ls (.ref a1 :: .ref la :: rest)) rest (va_Qi post (PostW D cl tys wf (va_A wc H.size)) (va_A wc H.size) #[]) (vx_X px BX (va_A wc H.size)) (va_A wc H.size) := by
  intro T hT X
  subst hT
  obtain ⟨r0, r, hn, hrm, hstR, hsigR⟩ := Cond.declares_spec hI.1
  obtain ⟨cL, kL, r1, hcL, hkL, hiL, hfoundL, hn1⟩ := Cond.interfaceMethod_spec hI.2
  cases hn.symm.trans hn1
  have hr0cls : r0.cls = cL := Option.some.inj ((findClass_of_methodNamed hn).symm.trans hcL)
  obtain ⟨hnameR, hdescR⟩ := name_of_methodNamed hn hrm
  have hFs := lm2_F hts hKl
  obtain ⟨k, tk, file, methk, ck, toy, t0, ci, nt, g1, g2, -, -, -, g6, g7, g8, g9, g10, g11, g12, g13, -⟩ := hFs s.vm (State.WarmedH.refl s)
  obtain ⟨d, dk, h1, h2, hmade, hcan⟩ := id hKl
  obtain ⟨_, _, _, _, _, _, object, iface, _, _, _, _, found, -, -, -, -, -, hi', -, -, -, -, -, -, hfound', -, -, -, -, -, -, -, -, -, -, hsel⟩ := Lambda.isMade_spec hmade
  have hic : iface = cL := Option.some.inj (Eq.trans (Eq.symm hi') hcL)
  subst hic
  have hmf := State.methodFound?_of_named hn (by decide)
  have hfr0 : found = r0 := by
    have e1 : s.vm.findClass lm_x.cls = some iface := hcL
    simp only [State.methodFound?, e1, hkL, hiL, Option.bind_eq_bind, Option.bind_some] at hmf
    have e2 : ((methodIn iface lm_x.name lm_x.desc true none).ask lm_set s.vm).1 = .ok found := hfound'
    rw [e2] at hmf
    exact Option.some.inj hmf
  subst hfr0
  obtain ⟨i2, hi2, hasg, hway⟩ := State.lambdaCallable_spec hcan
  have hi2c : i2 = iface := Option.some.inj (Eq.trans (Eq.symm hi2) hi')
  subst hi2c
  have hselP : selectMethod e.platform s.vm lc.cls found = .method ⟨lc.cls, 1⟩ := by rw [Launch.admits_selectMethod X.admits]; exact hsel
  have hlenR : [Value.ref a1].length = r.sig.parameters.length := by
    have e3 : parseMethodDescriptor lm_x.desc = some ⟨[FieldType.object "RosehipCircuits$Circuit"], some .int⟩ := by decide +kernel
    rw [e3] at hsigR
    rw [← Option.some.inj hsigR]; rfl
  obtain ⟨vm₁, X₁, hstep₁⟩ := X.invokeinterface hx hown (hts _ q1211) hn hrm hstR (by rw [hr0cls]; exact hkL) hiL (by decide) (a := la) (cell := lc) (kcell := k) hcell (fun z h => by rw [hlv] at h; cases h) g1 (by rw [hr0cls]; exact hasg) hselP g6
    (by rw [hnameR, hdescR]; exact hway) (by rw [g12]; decide) (by simp [Method.isAbstract, g12, hasFlag, Acc.abstract]) (g := F0 m pc ls (.ref a1 :: .ref la :: rest)) rfl (argsL := [.ref a1]) (rest := rest) hlenR rfl (by rw [hb]; exact hdg)
  obtain ⟨k1, tk1, file1, methk1, ck1, toy1, t1, ci1, nt1, f1, f2, -, -, -, f6, f7, f8, f9, f10, f11, f12, f13, -⟩ := hFs vm₁ X₁.warmed
  have hgo := lm_in X₁ (g := F0 m pc ls rest) rfl hsz (ig := .invokeinterface 224 count) (len := 5) (by rw [hb]; exact hdg) (mk := ⟨lc.cls, 1⟩) (methk := methk1) (ck := ck1) #[.ref la, .ref a1] (R' := { frames := rm.frames + 1, cells := mc, slots := ms, locals := rm.locals + 30 }) f6 f7 f11
    (fun kk hkk => by cases f1.symm.trans hkk; exact plain_of_name (by rw [f2]; decide)) (by show rm.frames + 1 + 1 ≤ R.frames; omega) (by rw [f9]; show 2 * 0 + (rest.map fun v => v.category).sum + (2 + 11) + (rm.locals + 30) ≤ R.locals; omega) hf.1 hf.2
    (Qc := va_Qi post (PostW D cl tys wf (va_A wc T.heap.size)) (va_A wc T.heap.size)) (XC := vx_X px BX (va_A wc T.heap.size)) (mc := mc) (ms := ms) (free := va_A wc T.heap.size) ?_
  · rcases hgo with ⟨v, t, T', L, X', hL, e1, e2, hq, st⟩ | ⟨q, t, T', L, E, ce, X', hL, e1, e2, hq, hce, hcv, hcl, st⟩
    · exact Or.inl ⟨v, (T.setVm vm₁).calling (F0 m pc ls rest) ⟨lc.cls, 1⟩ #[.ref la, .ref a1], t, T', L, rfl, X', hL, e1, e2, hq, fun target h => hstep₁ _ fun acts => (st acts).trans h⟩
    · exact Or.inr ⟨q, (T.setVm vm₁).calling (F0 m pc ls rest) ⟨lc.cls, 1⟩ #[.ref la, .ref a1], t, T', L, E, ce, rfl, X', hL, e1, e2, hq, hce, hcv, vx_cls X₁.warmed hcl, hstep₁ _ fun acts => st acts⟩
  · generalize hsK : (T.setVm vm₁).calling (F0 m pc ls rest) ⟨lc.cls, 1⟩ #[.ref la, .ref a1] = sK
    have hvK : sK.vm = vm₁ := by rw [← hsK]; rfl
    have hhK : sK.heap = T.heap := by rw [← hsK]; rfl
    have hWK : s.WarmedH sK.vm := by rw [hvK]; exact X₁.warmed
    show W p l e _ sK ⟨lc.cls, 1⟩ #[.ref la, .ref a1] _ methk1 ck1 T.heap [] 0 0 (vx_MQ _ _ _ _ sK mc ms _) _
    rw [← hhK] at hcell hM cut hS ⊢
    have hb' : ck1.code = lm2_C := f8
    have hts' : ∀ w ∈ lw_all, w.before #[.ref la, .ref a1] sK = true := fun w hw => word_at hWK (good_of_word (List.mem_filter.mp hw).2) (hts w hw)
    have hEK : Ev (va_A wc sK.heap.size) sK := hEv A _ s sK hE hWK (fun q h1 h2 => hS.2.1 q h1 h2) cut.2.2.1
    have hK' : va_K D cl tys sK := va_K.moved hWK.alike hKK
    have hP : va_P D cl wc sK.heap := cut.1
    have hD : va_D (va_A wc sK.heap.size) wc := cut.2.1.self
    have hS' : va_S (va_A wc sK.heap.size) sK.heap sK.heap [] := va_S.rf
    have hF' : ∀ vm', sK.WarmedH vm' → lm_F vm' lc.cls lm2_C 2 (fun i_ => 16 + 2 * i_) 26 yX1_lambda_setKind_2 := lm2_F hts' (hKl.warm hWK)
    have hcell' := hcell
    have cutK : Cut D cl (va_A wc sK.heap.size) wc (fun w => w) sK.heap := Cut.all hP hD hS' (fun q h => Or.inr h)
    have hl := lv_entry [.ref la, .ref a1] (n := 2) (Nat.le_of_ble_eq_true rfl)
    rw [f9, show (#[.ref la, .ref a1] : Array Value) = ([.ref la, .ref a1] : List Value).toArray from rfl, lg_entry_eq]
    generalize (lg_sl ([.ref la, .ref a1]) ++ List.replicate (2 - (lg_sl ([.ref la, .ref a1])).length) Slot.unset).toArray = ls' at hl ⊢
    have hl : lv_has ls' 2 [(0, .ref la), (1, .ref a1)] := hl
    refine lv_aload_n hx hb' lm2_d0 rfl (lv_at hl 0 rfl) ?_
    refine lm_getf (nc := 2) (i := 0) (v := .int x0) hx hb' hF' hcell' (by rw [hlv]; exact fun h => by cases h) (by omega) (by rw [hls]; rfl) lm2_d1 ?_
    refine lv_aload_n hx hb' lm2_d4 rfl (lv_at hl 0 rfl) ?_
    refine lm_getf (nc := 2) (i := 1) (v := .int x1) hx hb' hF' hcell' (by rw [hlv]; exact fun h => by cases h) (by omega) (by rw [hls]; rfl) lm2_d5 ?_
    refine lv_aload_n hx hb' lm2_d8 rfl (lv_at hl 1 rfl) ?_
    refine vx_calli (A0 := va_A wc sK.heap.size) (lm_runS (bytes := cX1_lambda_setKind_2) (maxL := 3) (ret := some .int) (n := 3) (As := [.int x0, .int x1, .ref a1]) (rest := []) (g := F0 ⟨lc.cls, 1⟩ 9 ls' _) hx hb' hF' hM hrc hrs (Nat.le_refl _) (by show 8 + (3 + 11) + rm.locals ≤ rm.locals + 30; omega) (fun w hw a' U hU => ?_) List.mem_cons_self (hts' _ q1235) (hts' _ q79) (hts' _ q1234) (by decide) ?_ (xc_pre hEv hEK hK' hS' cutK) rfl rfl (hl.1.trans f9.symm) rfl (lv_room (Nat.le_of_ble_eq_true rfl)) lm2_d9 ⟨by show 0 + mc ≤ mc; omega, by show 0 + ms ≤ ms; omega⟩) hS' (fun q _ h => h) (fun q h => h) (fun q _ h => h) (fun E ce q9 u t H1 locs1 ht hvm hpx hbx hz hk hS1 hce hcv hcl => ?_) (fun rr u t H1 locs1 ht hvm hpost hB hz hk hS1 => ?_)
    · rcases List.mem_cons.mp hw with e9 | e9
      · rw [e9]; exact word_at hU (good_of_word (List.mem_filter.mp q1235).2) (hts' _ q1235)
      · exact word_at hU (good_of_word (List.mem_filter.mp e9).2) (hts' w e9)
    · intro sig hs
      have e3 : (parseMethodDescriptor yX1_lambda_setKind_2.desc).map (fun d => d.parameters.length) = some 3 := by decide +kernel
      rw [hs] at e3
      exact (Option.some.inj e3).symm
    · have hex : ck1.exceptionTable.toList = [] := by have h9 := f10; simp only [Array.isEmpty_iff] at h9; rw [h9]
      exact vx_out (fun x hx9 => by rw [hex] at hx9; cases hx9) f11 hce hcv hcl (fun t' ht' hv' => ⟨u, hpx, hBX E u t t' (by rw [ht', ht]) (hvm.symm.trans hv') hbx, hS1.F ht'⟩) (fun z hz9 => hS1.2.2 z hz9) (by omega) (by omega)
    · obtain ⟨hP1, hK1, hD1⟩ := hB
      rw [ht] at hP1
      refine W.widen (k := mc) (n := ms) (by omega) (by omega) (vx_ret ?_)
      exact xe_i u hx hb' f13 f11 hK' hP1 hD1 hS1 hpost lm2_d12
set_option maxHeartbeats 2000000 in
theorem lm3_on {p : Program} {l : Launch} {e : Env} {R : Room} {s : State} {m : MethodId} {args : Array Value} {below : List Frame} {meth : Method} {c : Code} {H : Heap} {locs : List Loc} {cells slots : Nat} {cc : ByteArray} {pc : Nat} {ls : Array Slot} {rest : List Value} {D : va_G} {cl : List vw_C} {tys : List (ClassId × FieldType)} {A : Nat → Prop} {wc : va_W} {J : va_W → va_W} {Ev : (Nat → Prop) → State → Prop} {S SX : Type} {post : Int32 → S → Prop} {wf : S → va_W} {px : SX → Prop} {BX : String → SX → State → Prop} {rm : Room} {mc ms count : Nat} {la a1 : Nat} {lc : Cell} {x0 : Int32} {x1 : Int32} {x2 : Int32}
    (hx : p.tables.exec = Jvm.exec) (hb : c.code = cc) (hts : ∀ w ∈ lw_all, w.before args s = true) (hown : s.vm.findClass RX1 = some m.cls) (hsz : ls.size = c.maxLocals) (hI : lm_I s) (hKl : lm_K lm3_S s lc.cls) (hcell : H[la]? = some lc) (hlv : lc.vm = .none) (hls : lc.slots = #[.int x0, .int x1, .int x2])
    (hM : vx_Met l yX1_lambda_setSource_3 (ws_ yX1_lambda_setSource_3 cX1_lambda_setSource_3 4 (some .int)) rm (va_Pc [.int x0, .int x1, .int x2, .ref a1] (PreW Ev D cl tys wc H.size)) (va_Qi post (PostW D cl tys wf (va_A wc H.size)) (va_A wc H.size)) (vx_X px BX (va_A wc H.size)) mc ms (va_A wc H.size))
    (hrc : rm.cells = mc) (hrs : rm.slots = ms) (hfr : rm.frames + 2 ≤ R.frames) (hlo : rm.locals + 60 ≤ R.locals) (hEv : EvOk Ev) (hE : Ev A s) (hKK : va_K D cl tys s) (hS : va_S A s.heap H locs) (cut : Cut D cl A wc J H)
    (hBX : ∀ (E : String) (u : SX) (t t' : State), t'.heap = t.heap → t.vm.Alike t'.vm → BX E u t → BX E u t') (hW : (rest.map fun v => v.category).sum ≤ 8) (hdg : decode cc pc = .ok (.invokeinterface 224 count, 5)) (hf : cells + mc ≤ R.cells ∧ slots + ms ≤ R.slots) :
    vx_Run5 p l e R s m args below meth c H locs cells slots mc ms (F0 m pc ls (.ref a1 :: .ref la :: rest)) rest (va_Qi post (PostW D cl tys wf (va_A wc H.size)) (va_A wc H.size) #[]) (vx_X px BX (va_A wc H.size)) (va_A wc H.size) := by
  intro T hT X
  subst hT
  obtain ⟨r0, r, hn, hrm, hstR, hsigR⟩ := Cond.declares_spec hI.1
  obtain ⟨cL, kL, r1, hcL, hkL, hiL, hfoundL, hn1⟩ := Cond.interfaceMethod_spec hI.2
  cases hn.symm.trans hn1
  have hr0cls : r0.cls = cL := Option.some.inj ((findClass_of_methodNamed hn).symm.trans hcL)
  obtain ⟨hnameR, hdescR⟩ := name_of_methodNamed hn hrm
  have hFs := lm3_F hts hKl
  obtain ⟨k, tk, file, methk, ck, toy, t0, ci, nt, g1, g2, -, -, -, g6, g7, g8, g9, g10, g11, g12, g13, -⟩ := hFs s.vm (State.WarmedH.refl s)
  obtain ⟨d, dk, h1, h2, hmade, hcan⟩ := id hKl
  obtain ⟨_, _, _, _, _, _, object, iface, _, _, _, _, found, -, -, -, -, -, hi', -, -, -, -, -, -, hfound', -, -, -, -, -, -, -, -, -, -, hsel⟩ := Lambda.isMade_spec hmade
  have hic : iface = cL := Option.some.inj (Eq.trans (Eq.symm hi') hcL)
  subst hic
  have hmf := State.methodFound?_of_named hn (by decide)
  have hfr0 : found = r0 := by
    have e1 : s.vm.findClass lm_x.cls = some iface := hcL
    simp only [State.methodFound?, e1, hkL, hiL, Option.bind_eq_bind, Option.bind_some] at hmf
    have e2 : ((methodIn iface lm_x.name lm_x.desc true none).ask lm_set s.vm).1 = .ok found := hfound'
    rw [e2] at hmf
    exact Option.some.inj hmf
  subst hfr0
  obtain ⟨i2, hi2, hasg, hway⟩ := State.lambdaCallable_spec hcan
  have hi2c : i2 = iface := Option.some.inj (Eq.trans (Eq.symm hi2) hi')
  subst hi2c
  have hselP : selectMethod e.platform s.vm lc.cls found = .method ⟨lc.cls, 1⟩ := by rw [Launch.admits_selectMethod X.admits]; exact hsel
  have hlenR : [Value.ref a1].length = r.sig.parameters.length := by
    have e3 : parseMethodDescriptor lm_x.desc = some ⟨[FieldType.object "RosehipCircuits$Circuit"], some .int⟩ := by decide +kernel
    rw [e3] at hsigR
    rw [← Option.some.inj hsigR]; rfl
  obtain ⟨vm₁, X₁, hstep₁⟩ := X.invokeinterface hx hown (hts _ q1211) hn hrm hstR (by rw [hr0cls]; exact hkL) hiL (by decide) (a := la) (cell := lc) (kcell := k) hcell (fun z h => by rw [hlv] at h; cases h) g1 (by rw [hr0cls]; exact hasg) hselP g6
    (by rw [hnameR, hdescR]; exact hway) (by rw [g12]; decide) (by simp [Method.isAbstract, g12, hasFlag, Acc.abstract]) (g := F0 m pc ls (.ref a1 :: .ref la :: rest)) rfl (argsL := [.ref a1]) (rest := rest) hlenR rfl (by rw [hb]; exact hdg)
  obtain ⟨k1, tk1, file1, methk1, ck1, toy1, t1, ci1, nt1, f1, f2, -, -, -, f6, f7, f8, f9, f10, f11, f12, f13, -⟩ := hFs vm₁ X₁.warmed
  have hgo := lm_in X₁ (g := F0 m pc ls rest) rfl hsz (ig := .invokeinterface 224 count) (len := 5) (by rw [hb]; exact hdg) (mk := ⟨lc.cls, 1⟩) (methk := methk1) (ck := ck1) #[.ref la, .ref a1] (R' := { frames := rm.frames + 1, cells := mc, slots := ms, locals := rm.locals + 30 }) f6 f7 f11
    (fun kk hkk => by cases f1.symm.trans hkk; exact plain_of_name (by rw [f2]; decide)) (by show rm.frames + 1 + 1 ≤ R.frames; omega) (by rw [f9]; show 2 * 0 + (rest.map fun v => v.category).sum + (2 + 11) + (rm.locals + 30) ≤ R.locals; omega) hf.1 hf.2
    (Qc := va_Qi post (PostW D cl tys wf (va_A wc T.heap.size)) (va_A wc T.heap.size)) (XC := vx_X px BX (va_A wc T.heap.size)) (mc := mc) (ms := ms) (free := va_A wc T.heap.size) ?_
  · rcases hgo with ⟨v, t, T', L, X', hL, e1, e2, hq, st⟩ | ⟨q, t, T', L, E, ce, X', hL, e1, e2, hq, hce, hcv, hcl, st⟩
    · exact Or.inl ⟨v, (T.setVm vm₁).calling (F0 m pc ls rest) ⟨lc.cls, 1⟩ #[.ref la, .ref a1], t, T', L, rfl, X', hL, e1, e2, hq, fun target h => hstep₁ _ fun acts => (st acts).trans h⟩
    · exact Or.inr ⟨q, (T.setVm vm₁).calling (F0 m pc ls rest) ⟨lc.cls, 1⟩ #[.ref la, .ref a1], t, T', L, E, ce, rfl, X', hL, e1, e2, hq, hce, hcv, vx_cls X₁.warmed hcl, hstep₁ _ fun acts => st acts⟩
  · generalize hsK : (T.setVm vm₁).calling (F0 m pc ls rest) ⟨lc.cls, 1⟩ #[.ref la, .ref a1] = sK
    have hvK : sK.vm = vm₁ := by rw [← hsK]; rfl
    have hhK : sK.heap = T.heap := by rw [← hsK]; rfl
    have hWK : s.WarmedH sK.vm := by rw [hvK]; exact X₁.warmed
    show W p l e _ sK ⟨lc.cls, 1⟩ #[.ref la, .ref a1] _ methk1 ck1 T.heap [] 0 0 (vx_MQ _ _ _ _ sK mc ms _) _
    rw [← hhK] at hcell hM cut hS ⊢
    have hb' : ck1.code = lm3_C := f8
    have hts' : ∀ w ∈ lw_all, w.before #[.ref la, .ref a1] sK = true := fun w hw => word_at hWK (good_of_word (List.mem_filter.mp hw).2) (hts w hw)
    have hEK : Ev (va_A wc sK.heap.size) sK := hEv A _ s sK hE hWK (fun q h1 h2 => hS.2.1 q h1 h2) cut.2.2.1
    have hK' : va_K D cl tys sK := va_K.moved hWK.alike hKK
    have hP : va_P D cl wc sK.heap := cut.1
    have hD : va_D (va_A wc sK.heap.size) wc := cut.2.1.self
    have hS' : va_S (va_A wc sK.heap.size) sK.heap sK.heap [] := va_S.rf
    have hF' : ∀ vm', sK.WarmedH vm' → lm_F vm' lc.cls lm3_C 3 (fun i_ => 17 + 2 * i_) 29 yX1_lambda_setSource_3 := lm3_F hts' (hKl.warm hWK)
    have hcell' := hcell
    have cutK : Cut D cl (va_A wc sK.heap.size) wc (fun w => w) sK.heap := Cut.all hP hD hS' (fun q h => Or.inr h)
    have hl := lv_entry [.ref la, .ref a1] (n := 2) (Nat.le_of_ble_eq_true rfl)
    rw [f9, show (#[.ref la, .ref a1] : Array Value) = ([.ref la, .ref a1] : List Value).toArray from rfl, lg_entry_eq]
    generalize (lg_sl ([.ref la, .ref a1]) ++ List.replicate (2 - (lg_sl ([.ref la, .ref a1])).length) Slot.unset).toArray = ls' at hl ⊢
    have hl : lv_has ls' 2 [(0, .ref la), (1, .ref a1)] := hl
    refine lv_aload_n hx hb' lm3_d0 rfl (lv_at hl 0 rfl) ?_
    refine lm_getf (nc := 3) (i := 0) (v := .int x0) hx hb' hF' hcell' (by rw [hlv]; exact fun h => by cases h) (by omega) (by rw [hls]; rfl) lm3_d1 ?_
    refine lv_aload_n hx hb' lm3_d4 rfl (lv_at hl 0 rfl) ?_
    refine lm_getf (nc := 3) (i := 1) (v := .int x1) hx hb' hF' hcell' (by rw [hlv]; exact fun h => by cases h) (by omega) (by rw [hls]; rfl) lm3_d5 ?_
    refine lv_aload_n hx hb' lm3_d8 rfl (lv_at hl 0 rfl) ?_
    refine lm_getf (nc := 3) (i := 2) (v := .int x2) hx hb' hF' hcell' (by rw [hlv]; exact fun h => by cases h) (by omega) (by rw [hls]; rfl) lm3_d9 ?_
    refine lv_aload_n hx hb' lm3_d12 rfl (lv_at hl 1 rfl) ?_
    refine vx_calli (A0 := va_A wc sK.heap.size) (lm_runS (bytes := cX1_lambda_setSource_3) (maxL := 4) (ret := some .int) (n := 4) (As := [.int x0, .int x1, .int x2, .ref a1]) (rest := []) (g := F0 ⟨lc.cls, 1⟩ 13 ls' _) hx hb' hF' hM hrc hrs (Nat.le_refl _) (by show 8 + (4 + 11) + rm.locals ≤ rm.locals + 30; omega) (fun w hw a' U hU => ?_) List.mem_cons_self (hts' _ q1253) (hts' _ q79) (hts' _ q1252) (by decide) ?_ (xc_pre hEv hEK hK' hS' cutK) rfl rfl (hl.1.trans f9.symm) rfl (lv_room (Nat.le_of_ble_eq_true rfl)) lm3_d13 ⟨by show 0 + mc ≤ mc; omega, by show 0 + ms ≤ ms; omega⟩) hS' (fun q _ h => h) (fun q h => h) (fun q _ h => h) (fun E ce q9 u t H1 locs1 ht hvm hpx hbx hz hk hS1 hce hcv hcl => ?_) (fun rr u t H1 locs1 ht hvm hpost hB hz hk hS1 => ?_)
    · rcases List.mem_cons.mp hw with e9 | e9
      · rw [e9]; exact word_at hU (good_of_word (List.mem_filter.mp q1253).2) (hts' _ q1253)
      · exact word_at hU (good_of_word (List.mem_filter.mp e9).2) (hts' w e9)
    · intro sig hs
      have e3 : (parseMethodDescriptor yX1_lambda_setSource_3.desc).map (fun d => d.parameters.length) = some 4 := by decide +kernel
      rw [hs] at e3
      exact (Option.some.inj e3).symm
    · have hex : ck1.exceptionTable.toList = [] := by have h9 := f10; simp only [Array.isEmpty_iff] at h9; rw [h9]
      exact vx_out (fun x hx9 => by rw [hex] at hx9; cases hx9) f11 hce hcv hcl (fun t' ht' hv' => ⟨u, hpx, hBX E u t t' (by rw [ht', ht]) (hvm.symm.trans hv') hbx, hS1.F ht'⟩) (fun z hz9 => hS1.2.2 z hz9) (by omega) (by omega)
    · obtain ⟨hP1, hK1, hD1⟩ := hB
      rw [ht] at hP1
      refine W.widen (k := mc) (n := ms) (by omega) (by omega) (vx_ret ?_)
      exact xe_i u hx hb' f13 f11 hK' hP1 hD1 hS1 hpost lm3_d16
set_option maxHeartbeats 2000000 in
theorem lm4_on {p : Program} {l : Launch} {e : Env} {R : Room} {s : State} {m : MethodId} {args : Array Value} {below : List Frame} {meth : Method} {c : Code} {H : Heap} {locs : List Loc} {cells slots : Nat} {cc : ByteArray} {pc : Nat} {ls : Array Slot} {rest : List Value} {D : va_G} {cl : List vw_C} {tys : List (ClassId × FieldType)} {A : Nat → Prop} {wc : va_W} {J : va_W → va_W} {Ev : (Nat → Prop) → State → Prop} {S SX : Type} {post : Int32 → S → Prop} {wf : S → va_W} {px : SX → Prop} {BX : String → SX → State → Prop} {rm : Room} {mc ms count : Nat} {la a1 : Nat} {lc : Cell} {x0 : Int32}
    (hx : p.tables.exec = Jvm.exec) (hb : c.code = cc) (hts : ∀ w ∈ lw_all, w.before args s = true) (hown : s.vm.findClass RX1 = some m.cls) (hsz : ls.size = c.maxLocals) (hI : lm_I s) (hKl : lm_K lm4_S s lc.cls) (hcell : H[la]? = some lc) (hlv : lc.vm = .none) (hls : lc.slots = #[.int x0])
    (hM : vx_Met l yX1_lambda_turnOutput_4 (ws_ yX1_lambda_turnOutput_4 cX1_lambda_turnOutput_4 2 (some .int)) rm (va_Pc [.int x0, .ref a1] (PreW Ev D cl tys wc H.size)) (va_Qi post (PostW D cl tys wf (va_A wc H.size)) (va_A wc H.size)) (vx_X px BX (va_A wc H.size)) mc ms (va_A wc H.size))
    (hrc : rm.cells = mc) (hrs : rm.slots = ms) (hfr : rm.frames + 2 ≤ R.frames) (hlo : rm.locals + 60 ≤ R.locals) (hEv : EvOk Ev) (hE : Ev A s) (hKK : va_K D cl tys s) (hS : va_S A s.heap H locs) (cut : Cut D cl A wc J H)
    (hBX : ∀ (E : String) (u : SX) (t t' : State), t'.heap = t.heap → t.vm.Alike t'.vm → BX E u t → BX E u t') (hW : (rest.map fun v => v.category).sum ≤ 8) (hdg : decode cc pc = .ok (.invokeinterface 224 count, 5)) (hf : cells + mc ≤ R.cells ∧ slots + ms ≤ R.slots) :
    vx_Run5 p l e R s m args below meth c H locs cells slots mc ms (F0 m pc ls (.ref a1 :: .ref la :: rest)) rest (va_Qi post (PostW D cl tys wf (va_A wc H.size)) (va_A wc H.size) #[]) (vx_X px BX (va_A wc H.size)) (va_A wc H.size) := by
  intro T hT X
  subst hT
  obtain ⟨r0, r, hn, hrm, hstR, hsigR⟩ := Cond.declares_spec hI.1
  obtain ⟨cL, kL, r1, hcL, hkL, hiL, hfoundL, hn1⟩ := Cond.interfaceMethod_spec hI.2
  cases hn.symm.trans hn1
  have hr0cls : r0.cls = cL := Option.some.inj ((findClass_of_methodNamed hn).symm.trans hcL)
  obtain ⟨hnameR, hdescR⟩ := name_of_methodNamed hn hrm
  have hFs := lm4_F hts hKl
  obtain ⟨k, tk, file, methk, ck, toy, t0, ci, nt, g1, g2, -, -, -, g6, g7, g8, g9, g10, g11, g12, g13, -⟩ := hFs s.vm (State.WarmedH.refl s)
  obtain ⟨d, dk, h1, h2, hmade, hcan⟩ := id hKl
  obtain ⟨_, _, _, _, _, _, object, iface, _, _, _, _, found, -, -, -, -, -, hi', -, -, -, -, -, -, hfound', -, -, -, -, -, -, -, -, -, -, hsel⟩ := Lambda.isMade_spec hmade
  have hic : iface = cL := Option.some.inj (Eq.trans (Eq.symm hi') hcL)
  subst hic
  have hmf := State.methodFound?_of_named hn (by decide)
  have hfr0 : found = r0 := by
    have e1 : s.vm.findClass lm_x.cls = some iface := hcL
    simp only [State.methodFound?, e1, hkL, hiL, Option.bind_eq_bind, Option.bind_some] at hmf
    have e2 : ((methodIn iface lm_x.name lm_x.desc true none).ask lm_set s.vm).1 = .ok found := hfound'
    rw [e2] at hmf
    exact Option.some.inj hmf
  subst hfr0
  obtain ⟨i2, hi2, hasg, hway⟩ := State.lambdaCallable_spec hcan
  have hi2c : i2 = iface := Option.some.inj (Eq.trans (Eq.symm hi2) hi')
  subst hi2c
  have hselP : selectMethod e.platform s.vm lc.cls found = .method ⟨lc.cls, 1⟩ := by rw [Launch.admits_selectMethod X.admits]; exact hsel
  have hlenR : [Value.ref a1].length = r.sig.parameters.length := by
    have e3 : parseMethodDescriptor lm_x.desc = some ⟨[FieldType.object "RosehipCircuits$Circuit"], some .int⟩ := by decide +kernel
    rw [e3] at hsigR
    rw [← Option.some.inj hsigR]; rfl
  obtain ⟨vm₁, X₁, hstep₁⟩ := X.invokeinterface hx hown (hts _ q1211) hn hrm hstR (by rw [hr0cls]; exact hkL) hiL (by decide) (a := la) (cell := lc) (kcell := k) hcell (fun z h => by rw [hlv] at h; cases h) g1 (by rw [hr0cls]; exact hasg) hselP g6
    (by rw [hnameR, hdescR]; exact hway) (by rw [g12]; decide) (by simp [Method.isAbstract, g12, hasFlag, Acc.abstract]) (g := F0 m pc ls (.ref a1 :: .ref la :: rest)) rfl (argsL := [.ref a1]) (rest := rest) hlenR rfl (by rw [hb]; exact hdg)
  obtain ⟨k1, tk1, file1, methk1, ck1, toy1, t1, ci1, nt1, f1, f2, -, -, -, f6, f7, f8, f9, f10, f11, f12, f13, -⟩ := hFs vm₁ X₁.warmed
  have hgo := lm_in X₁ (g := F0 m pc ls rest) rfl hsz (ig := .invokeinterface 224 count) (len := 5) (by rw [hb]; exact hdg) (mk := ⟨lc.cls, 1⟩) (methk := methk1) (ck := ck1) #[.ref la, .ref a1] (R' := { frames := rm.frames + 1, cells := mc, slots := ms, locals := rm.locals + 30 }) f6 f7 f11
    (fun kk hkk => by cases f1.symm.trans hkk; exact plain_of_name (by rw [f2]; decide)) (by show rm.frames + 1 + 1 ≤ R.frames; omega) (by rw [f9]; show 2 * 0 + (rest.map fun v => v.category).sum + (2 + 11) + (rm.locals + 30) ≤ R.locals; omega) hf.1 hf.2
    (Qc := va_Qi post (PostW D cl tys wf (va_A wc T.heap.size)) (va_A wc T.heap.size)) (XC := vx_X px BX (va_A wc T.heap.size)) (mc := mc) (ms := ms) (free := va_A wc T.heap.size) ?_
  · rcases hgo with ⟨v, t, T', L, X', hL, e1, e2, hq, st⟩ | ⟨q, t, T', L, E, ce, X', hL, e1, e2, hq, hce, hcv, hcl, st⟩
    · exact Or.inl ⟨v, (T.setVm vm₁).calling (F0 m pc ls rest) ⟨lc.cls, 1⟩ #[.ref la, .ref a1], t, T', L, rfl, X', hL, e1, e2, hq, fun target h => hstep₁ _ fun acts => (st acts).trans h⟩
    · exact Or.inr ⟨q, (T.setVm vm₁).calling (F0 m pc ls rest) ⟨lc.cls, 1⟩ #[.ref la, .ref a1], t, T', L, E, ce, rfl, X', hL, e1, e2, hq, hce, hcv, vx_cls X₁.warmed hcl, hstep₁ _ fun acts => st acts⟩
  · generalize hsK : (T.setVm vm₁).calling (F0 m pc ls rest) ⟨lc.cls, 1⟩ #[.ref la, .ref a1] = sK
    have hvK : sK.vm = vm₁ := by rw [← hsK]; rfl
    have hhK : sK.heap = T.heap := by rw [← hsK]; rfl
    have hWK : s.WarmedH sK.vm := by rw [hvK]; exact X₁.warmed
    show W p l e _ sK ⟨lc.cls, 1⟩ #[.ref la, .ref a1] _ methk1 ck1 T.heap [] 0 0 (vx_MQ _ _ _ _ sK mc ms _) _
    rw [← hhK] at hcell hM cut hS ⊢
    have hb' : ck1.code = lm4_C := f8
    have hts' : ∀ w ∈ lw_all, w.before #[.ref la, .ref a1] sK = true := fun w hw => word_at hWK (good_of_word (List.mem_filter.mp hw).2) (hts w hw)
    have hEK : Ev (va_A wc sK.heap.size) sK := hEv A _ s sK hE hWK (fun q h1 h2 => hS.2.1 q h1 h2) cut.2.2.1
    have hK' : va_K D cl tys sK := va_K.moved hWK.alike hKK
    have hP : va_P D cl wc sK.heap := cut.1
    have hD : va_D (va_A wc sK.heap.size) wc := cut.2.1.self
    have hS' : va_S (va_A wc sK.heap.size) sK.heap sK.heap [] := va_S.rf
    have hF' : ∀ vm', sK.WarmedH vm' → lm_F vm' lc.cls lm4_C 1 (fun i_ => 15 + 2 * i_) 23 yX1_lambda_turnOutput_4 := lm4_F hts' (hKl.warm hWK)
    have hcell' := hcell
    have cutK : Cut D cl (va_A wc sK.heap.size) wc (fun w => w) sK.heap := Cut.all hP hD hS' (fun q h => Or.inr h)
    have hl := lv_entry [.ref la, .ref a1] (n := 2) (Nat.le_of_ble_eq_true rfl)
    rw [f9, show (#[.ref la, .ref a1] : Array Value) = ([.ref la, .ref a1] : List Value).toArray from rfl, lg_entry_eq]
    generalize (lg_sl ([.ref la, .ref a1]) ++ List.replicate (2 - (lg_sl ([.ref la, .ref a1])).length) Slot.unset).toArray = ls' at hl ⊢
    have hl : lv_has ls' 2 [(0, .ref la), (1, .ref a1)] := hl
    refine lv_aload_n hx hb' lm4_d0 rfl (lv_at hl 0 rfl) ?_
    refine lm_getf (nc := 1) (i := 0) (v := .int x0) hx hb' hF' hcell' (by rw [hlv]; exact fun h => by cases h) (by omega) (by rw [hls]; rfl) lm4_d1 ?_
    refine lv_aload_n hx hb' lm4_d4 rfl (lv_at hl 1 rfl) ?_
    refine vx_calli (A0 := va_A wc sK.heap.size) (lm_runS (bytes := cX1_lambda_turnOutput_4) (maxL := 2) (ret := some .int) (n := 2) (As := [.int x0, .ref a1]) (rest := []) (g := F0 ⟨lc.cls, 1⟩ 5 ls' _) hx hb' hF' hM hrc hrs (Nat.le_refl _) (by show 8 + (2 + 11) + rm.locals ≤ rm.locals + 30; omega) (fun w hw a' U hU => ?_) List.mem_cons_self (hts' _ q1266) (hts' _ q79) (hts' _ q1265) (by decide) ?_ (xc_pre hEv hEK hK' hS' cutK) rfl rfl (hl.1.trans f9.symm) rfl (lv_room (Nat.le_of_ble_eq_true rfl)) lm4_d5 ⟨by show 0 + mc ≤ mc; omega, by show 0 + ms ≤ ms; omega⟩) hS' (fun q _ h => h) (fun q h => h) (fun q _ h => h) (fun E ce q9 u t H1 locs1 ht hvm hpx hbx hz hk hS1 hce hcv hcl => ?_) (fun rr u t H1 locs1 ht hvm hpost hB hz hk hS1 => ?_)
    · rcases List.mem_cons.mp hw with e9 | e9
      · rw [e9]; exact word_at hU (good_of_word (List.mem_filter.mp q1266).2) (hts' _ q1266)
      · exact word_at hU (good_of_word (List.mem_filter.mp e9).2) (hts' w e9)
    · intro sig hs
      have e3 : (parseMethodDescriptor yX1_lambda_turnOutput_4.desc).map (fun d => d.parameters.length) = some 2 := by decide +kernel
      rw [hs] at e3
      exact (Option.some.inj e3).symm
    · have hex : ck1.exceptionTable.toList = [] := by have h9 := f10; simp only [Array.isEmpty_iff] at h9; rw [h9]
      exact vx_out (fun x hx9 => by rw [hex] at hx9; cases hx9) f11 hce hcv hcl (fun t' ht' hv' => ⟨u, hpx, hBX E u t t' (by rw [ht', ht]) (hvm.symm.trans hv') hbx, hS1.F ht'⟩) (fun z hz9 => hS1.2.2 z hz9) (by omega) (by omega)
    · obtain ⟨hP1, hK1, hD1⟩ := hB
      rw [ht] at hP1
      refine W.widen (k := mc) (n := ms) (by omega) (by omega) (vx_ret ?_)
      exact xe_i u hx hb' f13 f11 hK' hP1 hD1 hS1 hpost lm4_d8
set_option maxHeartbeats 2000000 in
theorem lm5_on {p : Program} {l : Launch} {e : Env} {R : Room} {s : State} {m : MethodId} {args : Array Value} {below : List Frame} {meth : Method} {c : Code} {H : Heap} {locs : List Loc} {cells slots : Nat} {cc : ByteArray} {pc : Nat} {ls : Array Slot} {rest : List Value} {D : va_G} {cl : List vw_C} {tys : List (ClassId × FieldType)} {A : Nat → Prop} {wc : va_W} {J : va_W → va_W} {Ev : (Nat → Prop) → State → Prop} {S SX : Type} {post : Int32 → S → Prop} {wf : S → va_W} {px : SX → Prop} {BX : String → SX → State → Prop} {rm : Room} {mc ms count : Nat} {la a1 : Nat} {lc : Cell} {x0 : Int32}
    (hx : p.tables.exec = Jvm.exec) (hb : c.code = cc) (hts : ∀ w ∈ lw_all, w.before args s = true) (hown : s.vm.findClass RX1 = some m.cls) (hsz : ls.size = c.maxLocals) (hI : lm_I s) (hKl : lm_K lm5_S s lc.cls) (hcell : H[la]? = some lc) (hlv : lc.vm = .none) (hls : lc.slots = #[.int x0])
    (hM : vx_Met l yX1_lambda_turnBox_5 (ws_ yX1_lambda_turnBox_5 cX1_lambda_turnBox_5 2 (some .int)) rm (va_Pc [.int x0, .ref a1] (PreW Ev D cl tys wc H.size)) (va_Qi post (PostW D cl tys wf (va_A wc H.size)) (va_A wc H.size)) (vx_X px BX (va_A wc H.size)) mc ms (va_A wc H.size))
    (hrc : rm.cells = mc) (hrs : rm.slots = ms) (hfr : rm.frames + 2 ≤ R.frames) (hlo : rm.locals + 60 ≤ R.locals) (hEv : EvOk Ev) (hE : Ev A s) (hKK : va_K D cl tys s) (hS : va_S A s.heap H locs) (cut : Cut D cl A wc J H)
    (hBX : ∀ (E : String) (u : SX) (t t' : State), t'.heap = t.heap → t.vm.Alike t'.vm → BX E u t → BX E u t') (hW : (rest.map fun v => v.category).sum ≤ 8) (hdg : decode cc pc = .ok (.invokeinterface 224 count, 5)) (hf : cells + mc ≤ R.cells ∧ slots + ms ≤ R.slots) :
    vx_Run5 p l e R s m args below meth c H locs cells slots mc ms (F0 m pc ls (.ref a1 :: .ref la :: rest)) rest (va_Qi post (PostW D cl tys wf (va_A wc H.size)) (va_A wc H.size) #[]) (vx_X px BX (va_A wc H.size)) (va_A wc H.size) := by
  intro T hT X
  subst hT
  obtain ⟨r0, r, hn, hrm, hstR, hsigR⟩ := Cond.declares_spec hI.1
  obtain ⟨cL, kL, r1, hcL, hkL, hiL, hfoundL, hn1⟩ := Cond.interfaceMethod_spec hI.2
  cases hn.symm.trans hn1
  have hr0cls : r0.cls = cL := Option.some.inj ((findClass_of_methodNamed hn).symm.trans hcL)
  obtain ⟨hnameR, hdescR⟩ := name_of_methodNamed hn hrm
  have hFs := lm5_F hts hKl
  obtain ⟨k, tk, file, methk, ck, toy, t0, ci, nt, g1, g2, -, -, -, g6, g7, g8, g9, g10, g11, g12, g13, -⟩ := hFs s.vm (State.WarmedH.refl s)
  obtain ⟨d, dk, h1, h2, hmade, hcan⟩ := id hKl
  obtain ⟨_, _, _, _, _, _, object, iface, _, _, _, _, found, -, -, -, -, -, hi', -, -, -, -, -, -, hfound', -, -, -, -, -, -, -, -, -, -, hsel⟩ := Lambda.isMade_spec hmade
  have hic : iface = cL := Option.some.inj (Eq.trans (Eq.symm hi') hcL)
  subst hic
  have hmf := State.methodFound?_of_named hn (by decide)
  have hfr0 : found = r0 := by
    have e1 : s.vm.findClass lm_x.cls = some iface := hcL
    simp only [State.methodFound?, e1, hkL, hiL, Option.bind_eq_bind, Option.bind_some] at hmf
    have e2 : ((methodIn iface lm_x.name lm_x.desc true none).ask lm_set s.vm).1 = .ok found := hfound'
    rw [e2] at hmf
    exact Option.some.inj hmf
  subst hfr0
  obtain ⟨i2, hi2, hasg, hway⟩ := State.lambdaCallable_spec hcan
  have hi2c : i2 = iface := Option.some.inj (Eq.trans (Eq.symm hi2) hi')
  subst hi2c
  have hselP : selectMethod e.platform s.vm lc.cls found = .method ⟨lc.cls, 1⟩ := by rw [Launch.admits_selectMethod X.admits]; exact hsel
  have hlenR : [Value.ref a1].length = r.sig.parameters.length := by
    have e3 : parseMethodDescriptor lm_x.desc = some ⟨[FieldType.object "RosehipCircuits$Circuit"], some .int⟩ := by decide +kernel
    rw [e3] at hsigR
    rw [← Option.some.inj hsigR]; rfl
  obtain ⟨vm₁, X₁, hstep₁⟩ := X.invokeinterface hx hown (hts _ q1211) hn hrm hstR (by rw [hr0cls]; exact hkL) hiL (by decide) (a := la) (cell := lc) (kcell := k) hcell (fun z h => by rw [hlv] at h; cases h) g1 (by rw [hr0cls]; exact hasg) hselP g6
    (by rw [hnameR, hdescR]; exact hway) (by rw [g12]; decide) (by simp [Method.isAbstract, g12, hasFlag, Acc.abstract]) (g := F0 m pc ls (.ref a1 :: .ref la :: rest)) rfl (argsL := [.ref a1]) (rest := rest) hlenR rfl (by rw [hb]; exact hdg)
  obtain ⟨k1, tk1, file1, methk1, ck1, toy1, t1, ci1, nt1, f1, f2, -, -, -, f6, f7, f8, f9, f10, f11, f12, f13, -⟩ := hFs vm₁ X₁.warmed
  have hgo := lm_in X₁ (g := F0 m pc ls rest) rfl hsz (ig := .invokeinterface 224 count) (len := 5) (by rw [hb]; exact hdg) (mk := ⟨lc.cls, 1⟩) (methk := methk1) (ck := ck1) #[.ref la, .ref a1] (R' := { frames := rm.frames + 1, cells := mc, slots := ms, locals := rm.locals + 30 }) f6 f7 f11
    (fun kk hkk => by cases f1.symm.trans hkk; exact plain_of_name (by rw [f2]; decide)) (by show rm.frames + 1 + 1 ≤ R.frames; omega) (by rw [f9]; show 2 * 0 + (rest.map fun v => v.category).sum + (2 + 11) + (rm.locals + 30) ≤ R.locals; omega) hf.1 hf.2
    (Qc := va_Qi post (PostW D cl tys wf (va_A wc T.heap.size)) (va_A wc T.heap.size)) (XC := vx_X px BX (va_A wc T.heap.size)) (mc := mc) (ms := ms) (free := va_A wc T.heap.size) ?_
  · rcases hgo with ⟨v, t, T', L, X', hL, e1, e2, hq, st⟩ | ⟨q, t, T', L, E, ce, X', hL, e1, e2, hq, hce, hcv, hcl, st⟩
    · exact Or.inl ⟨v, (T.setVm vm₁).calling (F0 m pc ls rest) ⟨lc.cls, 1⟩ #[.ref la, .ref a1], t, T', L, rfl, X', hL, e1, e2, hq, fun target h => hstep₁ _ fun acts => (st acts).trans h⟩
    · exact Or.inr ⟨q, (T.setVm vm₁).calling (F0 m pc ls rest) ⟨lc.cls, 1⟩ #[.ref la, .ref a1], t, T', L, E, ce, rfl, X', hL, e1, e2, hq, hce, hcv, vx_cls X₁.warmed hcl, hstep₁ _ fun acts => st acts⟩
  · generalize hsK : (T.setVm vm₁).calling (F0 m pc ls rest) ⟨lc.cls, 1⟩ #[.ref la, .ref a1] = sK
    have hvK : sK.vm = vm₁ := by rw [← hsK]; rfl
    have hhK : sK.heap = T.heap := by rw [← hsK]; rfl
    have hWK : s.WarmedH sK.vm := by rw [hvK]; exact X₁.warmed
    show W p l e _ sK ⟨lc.cls, 1⟩ #[.ref la, .ref a1] _ methk1 ck1 T.heap [] 0 0 (vx_MQ _ _ _ _ sK mc ms _) _
    rw [← hhK] at hcell hM cut hS ⊢
    have hb' : ck1.code = lm5_C := f8
    have hts' : ∀ w ∈ lw_all, w.before #[.ref la, .ref a1] sK = true := fun w hw => word_at hWK (good_of_word (List.mem_filter.mp hw).2) (hts w hw)
    have hEK : Ev (va_A wc sK.heap.size) sK := hEv A _ s sK hE hWK (fun q h1 h2 => hS.2.1 q h1 h2) cut.2.2.1
    have hK' : va_K D cl tys sK := va_K.moved hWK.alike hKK
    have hP : va_P D cl wc sK.heap := cut.1
    have hD : va_D (va_A wc sK.heap.size) wc := cut.2.1.self
    have hS' : va_S (va_A wc sK.heap.size) sK.heap sK.heap [] := va_S.rf
    have hF' : ∀ vm', sK.WarmedH vm' → lm_F vm' lc.cls lm5_C 1 (fun i_ => 15 + 2 * i_) 23 yX1_lambda_turnBox_5 := lm5_F hts' (hKl.warm hWK)
    have hcell' := hcell
    have cutK : Cut D cl (va_A wc sK.heap.size) wc (fun w => w) sK.heap := Cut.all hP hD hS' (fun q h => Or.inr h)
    have hl := lv_entry [.ref la, .ref a1] (n := 2) (Nat.le_of_ble_eq_true rfl)
    rw [f9, show (#[.ref la, .ref a1] : Array Value) = ([.ref la, .ref a1] : List Value).toArray from rfl, lg_entry_eq]
    generalize (lg_sl ([.ref la, .ref a1]) ++ List.replicate (2 - (lg_sl ([.ref la, .ref a1])).length) Slot.unset).toArray = ls' at hl ⊢
    have hl : lv_has ls' 2 [(0, .ref la), (1, .ref a1)] := hl
    refine lv_aload_n hx hb' lm5_d0 rfl (lv_at hl 0 rfl) ?_
    refine lm_getf (nc := 1) (i := 0) (v := .int x0) hx hb' hF' hcell' (by rw [hlv]; exact fun h => by cases h) (by omega) (by rw [hls]; rfl) lm5_d1 ?_
    refine lv_aload_n hx hb' lm5_d4 rfl (lv_at hl 1 rfl) ?_
    refine vx_calli (A0 := va_A wc sK.heap.size) (lm_runS (bytes := cX1_lambda_turnBox_5) (maxL := 2) (ret := some .int) (n := 2) (As := [.int x0, .ref a1]) (rest := []) (g := F0 ⟨lc.cls, 1⟩ 5 ls' _) hx hb' hF' hM hrc hrs (Nat.le_refl _) (by show 8 + (2 + 11) + rm.locals ≤ rm.locals + 30; omega) (fun w hw a' U hU => ?_) List.mem_cons_self (hts' _ q1280) (hts' _ q79) (hts' _ q1279) (by decide) ?_ (xc_pre hEv hEK hK' hS' cutK) rfl rfl (hl.1.trans f9.symm) rfl (lv_room (Nat.le_of_ble_eq_true rfl)) lm5_d5 ⟨by show 0 + mc ≤ mc; omega, by show 0 + ms ≤ ms; omega⟩) hS' (fun q _ h => h) (fun q h => h) (fun q _ h => h) (fun E ce q9 u t H1 locs1 ht hvm hpx hbx hz hk hS1 hce hcv hcl => ?_) (fun rr u t H1 locs1 ht hvm hpost hB hz hk hS1 => ?_)
    · rcases List.mem_cons.mp hw with e9 | e9
      · rw [e9]; exact word_at hU (good_of_word (List.mem_filter.mp q1280).2) (hts' _ q1280)
      · exact word_at hU (good_of_word (List.mem_filter.mp e9).2) (hts' w e9)
    · intro sig hs
      have e3 : (parseMethodDescriptor yX1_lambda_turnBox_5.desc).map (fun d => d.parameters.length) = some 2 := by decide +kernel
      rw [hs] at e3
      exact (Option.some.inj e3).symm
    · have hex : ck1.exceptionTable.toList = [] := by have h9 := f10; simp only [Array.isEmpty_iff] at h9; rw [h9]
      exact vx_out (fun x hx9 => by rw [hex] at hx9; cases hx9) f11 hce hcv hcl (fun t' ht' hv' => ⟨u, hpx, hBX E u t t' (by rw [ht', ht]) (hvm.symm.trans hv') hbx, hS1.F ht'⟩) (fun z hz9 => hS1.2.2 z hz9) (by omega) (by omega)
    · obtain ⟨hP1, hK1, hD1⟩ := hB
      rw [ht] at hP1
      refine W.widen (k := mc) (n := ms) (by omega) (by omega) (vx_ret ?_)
      exact xe_i u hx hb' f13 f11 hK' hP1 hD1 hS1 hpost lm5_d8
