/-! objects of made classes (lambdas) -/
set_option maxRecDepth 100000
abbrev lm_set : Setting := { classPath := fun _ => none }
/-- what a made class is, at the tables vm: c its number, C its method's code, nc ints captured, the i-th a field by the entry fx i, the target y by the entry mi -/
def lm_F (vm : Vm) (c : ClassId) (C : ByteArray) (nc : Nat) (fx : Nat → Nat) (mi : Nat) (y : MethodName) : Prop :=
  ∃ (k tk : Class) (file : ClassFile) (methk : Method) (ck : Code) (toy : ClassId) (t : MethodId) (ci nt : Nat),
    vm.classes[c]? = some k ∧ k.name = "RosehipCircuits$$Lambda" ∧ k.cf = some file ∧ file.constantPool[mi]? = some (.methodref ci nt) ∧ file.constantPool.nameAndType? nt = some (y.name, y.desc) ∧
    vm.method? ⟨c, 1⟩ = some methk ∧ methk.code = some ck ∧ ck.code = C ∧ ck.maxLocals = 2 ∧ ck.exceptionTable.isEmpty = true ∧ methk.locks = false ∧ methk.accessFlags = 0x0001 ∧ methk.sig.returnType = some .int ∧
    vm.findClass y.cls = some toy ∧ vm.classes[toy]? = some tk ∧ ((methodIn toy y.name y.desc tk.isInterface none).ask lm_set vm).1 = .ok t ∧ vm.methodReady c mi t ∧ vm.classReady c ci toy ∧
    (∀ i, i < nc → ∃ f : Field, vm.fieldReady c (fx i) c f ∧ f.isStatic = false ∧ f.slot = i) ∧ k.instanceTypes.toList = List.replicate nc FieldType.int
section LMG
variable {p : Program} {l : Launch} {e : Env} {R : Room} {s : State} {m : MethodId} {args : Array Value} {below : List Frame} {meth : Method} {c : Code} {H : Heap} {locs : List Loc} {cells slots : Nat} {Q : State → Prop}
theorem lm_in {T : State} (X : Stand p l e R s m args below meth c T locs cells slots) {g : JFrame} (hg : g.method = m) (hsize : g.locals.size = c.maxLocals) {ig : Instr} {len : Nat} (hdg : decode c.code g.pc = .ok (ig, len))
    {mk : MethodId} {methk : Method} {ck : Code} (a : Array Value) {R' : Room} (hmk : T.vm.method? mk = some methk) (hck : methk.code = some ck) (hlk : methk.locks = false) (hpk : T.plainMethod mk)
    (hframes : R'.frames + 1 ≤ R.frames) (hlocals : 2 * g.monitorRoom + (g.stack.map fun v => v.category).sum + (ck.maxLocals + 11) + R'.locals ≤ R.locals) (hcells : cells + R'.cells ≤ R.cells) (hslots : slots + R'.slots ≤ R.slots)
    {Qc : Array Value → State → Outcome → State → Prop} {XC : String → State → State → Prop} {mc ms : Nat} {free : Addr → Prop}
    (body : W p l e R' (T.calling g mk a) mk a (.java g :: below) methk ck T.heap [] 0 0 (vx_MQ (.java g :: below) Qc XC a (T.calling g mk a) mc ms free) (entryFrame mk a ck.maxLocals)) :
    (∃ (v : Option Value) (t T' : State) (L : List Loc), Stand p l e R s m args below meth c T' (locs ++ L) (cells + mc) (slots + ms) ∧ (∀ z ∈ L, free z.base) ∧ T'.heap = t.heap ∧ T'.vm = t.vm ∧ Qc a (T.calling g mk a) (.returned v) t ∧
      ∀ acts, Steps p.tables e below (doInvoke e (T.setTop g) acts mk a).1 (T'.setTop { g with pc := g.pc + len, stack := v.toList ++ g.stack })) ∨
    (∃ (q : Addr) (t T' : State) (L : List Loc) (E : String) (ce : Cell), Stand p l e R s m args below meth c T' (locs ++ L) (cells + mc) (slots + ms) ∧ (∀ z ∈ L, free z.base) ∧ T'.heap = t.heap ∧ T'.vm = t.vm ∧ XC E (T.calling g mk a) t ∧ t.heap[q]? = some ce ∧ ce.vm = .none ∧ T.vm.findClass E = some ce.cls ∧
      ∀ acts, Steps p.tables e below (doInvoke e (T.setTop g) acts mk a).1 ((T'.setTop g).pushFrame (.throwing q))) := by
  obtain ⟨Y₀, hin⟩ := X.into hg hsize hdg a (R' := R') hmk hck hlk hpk hframes hlocals hcells hslots
  generalize hU : (T.setTop g).pushFrame (.java (entryFrame mk a ck.maxLocals)) = U at Y₀ hin
  have hheap : U.heap = T.heap := by rw [← hU]; rfl
  obtain ⟨t, st, o, hrun, hend, hq⟩ := body U hheap Y₀
  have st' : Steps p.tables e below (U.setTop (entryFrame mk a ck.maxLocals)) t := Steps.weaken (mid := [.java g]) st
  rcases hq with ⟨hqc, L, hfe, hL⟩ | ⟨q, rfl, E, ce, L, hx, hce, hcv, hcl, hW, hsm, hL⟩
  · obtain ⟨⟨v, rfl⟩, hW, hsame⟩ := hfe
    obtain ⟨T', X', hW', -, ht⟩ := X.outOf hg hdg hend hW hsame
    have e1 : T'.heap = t.heap := by rw [ht]; rfl
    have e2 : T'.vm = t.vm := by rw [ht]; rfl
    exact Or.inl ⟨v, t, T', L, X', hL, e1, e2, hqc, fun acts => by rw [hin acts, ← ht]; exact st'⟩
  · obtain ⟨T', X', hW', -, ht⟩ := X.outOfThrown hg hend hW hsm
    have e1 : T'.heap = t.heap := by rw [ht]; rfl
    have e2 : T'.vm = t.vm := by rw [ht]; rfl
    exact Or.inr ⟨q, t, T', L, E, ce, X', hL, e1, e2, hx, hce, hcv, hcl, fun acts => by rw [hin acts, ← ht]; exact st'⟩
/-- in the made class's method: a captured int -/
theorem lm_getf {C : ByteArray} {nc : Nat} {fx : Nat → Nat} {mi : Nat} {y : MethodName} (hx : p.tables.exec = Jvm.exec) (hb : c.code = C) (hF : ∀ vm', s.WarmedH vm' → lm_F vm' m.cls C nc fx mi y)
    {a : Nat} {cell : Cell} (hcell : H[a]? = some cell) (hkn : cell.vm ≠ .unknown) {i : Nat} (hi : i < nc) {v : Value} (hv : cell.slots[i]? = some v) {pc : Nat} {ls : Array Slot} {rest : List Value} (hdg : decode C pc = .ok (.getfield (fx i), 3))
    (kk : W p l e R s m args below meth c H locs cells slots Q (F0 m (pc + 3) ls (v :: rest))) : W p l e R s m args below meth c H locs cells slots Q (F0 m pc ls (.ref a :: rest)) := by
  refine W.of (fun T hT X => ⟨T, hT, X, fun tg h => ?_⟩) kk
  obtain ⟨k, tk, file, methk, ck, toy, t, ci, nt, -, -, -, -, -, -, -, -, -, -, -, -, -, -, -, -, -, -, hfs, -⟩ := hF T.vm X.warmed
  obtain ⟨f, hf, hst, hsl⟩ := hfs i hi
  jvm_step X.here [hx, hb, hdg, getfield.wp_ready (e := e) (s := T) (c := m.cls) (field := f) (a := a) (rest := rest) (cell := cell) (v := v) (f := F0 m pc ls (.ref a :: rest)) X.here.top hf hst rfl (by rw [hT]; exact hcell) hkn (by rw [hsl]; exact hv)]
  exact h
theorem lm_target {vm : Vm} {c0 : ClassId} {C : ByteArray} {nc : Nat} {fx : Nat → Nat} {mi : Nat} {y : MethodName} {U : State} {mk : MethodId} (hU : U.vm = vm) (hn : U.methodNamed? y = some mk)
    (hy : y.cls ≠ "java/lang/invoke/MethodHandle" ∧ y.cls ≠ "java/lang/invoke/VarHandle") {toy : ClassId} {tk : Class} {t : MethodId} (h1 : vm.findClass y.cls = some toy) (h2 : vm.classes[toy]? = some tk) (h3 : ((methodIn toy y.name y.desc tk.isInterface none).ask lm_set vm).1 = .ok t) : t = mk := by
  have h := State.methodFound?_of_named hn hy
  subst hU
  simp only [State.methodFound?, h1, h2, Option.bind_eq_bind, Option.bind_some, h3] at h
  exact Option.some.inj h
/-- in the made class's method: the call of the target -/
theorem lm_runS {C : ByteArray} {nc : Nat} {fx : Nat → Nat} {mi : Nat} {y : MethodName} {bytes : ByteArray} {maxL mc ms n : Nat} {ret : Option FieldType} {ws : List Cond} {rm : Room} {Pc : Array Value → State → Prop} {Qc : Array Value → State → Outcome → State → Prop} {XC : String → State → State → Prop} {free : Addr → Prop} {As rest : List Value} {g : JFrame}
    (hx : p.tables.exec = Jvm.exec) (hb : c.code = C) (hF : ∀ vm', s.WarmedH vm' → lm_F vm' m.cls C nc fx mi y) (hM : vx_Met l y ws rm Pc Qc XC mc ms free)
    (hrc : rm.cells = mc) (hrs : rm.slots = ms) (hfr : rm.frames + 1 ≤ R.frames) (hlo : 8 + (maxL + 11) + rm.locals ≤ R.locals) (hws : ∀ w ∈ ws, ∀ (a' : Array Value) (U : State), s.WarmedH U.vm → w.before a' U = true) (hcw : Cond.code y bytes maxL ret ∈ ws)
    (hcode : (Cond.code y bytes maxL ret).before args s = true) (hini : (Cond.initialized y.cls).before args s = true) (hstat : (Cond.static y).before args s = true) (hy : y.cls ≠ "java/lang/invoke/MethodHandle" ∧ y.cls ≠ "java/lang/invoke/VarHandle") (hnl : ∀ sig, parseMethodDescriptor y.desc = some sig → n = sig.parameters.length)
    (hp : PreS s H Pc As) (hg : g.method = m) (hn : As.length = n) (hsize : g.locals.size = c.maxLocals) (hstack : g.stack = As.reverse ++ rest) (hW : 2 * g.monitorRoom + (rest.map fun v => v.category).sum ≤ 8) (hdg : decode C g.pc = .ok (.invokestatic mi, 3)) (hf : cells + mc ≤ R.cells ∧ slots + ms ≤ R.slots) :
    vx_Run p l e R s m args below meth c H locs cells slots mc ms g rest (Qc As.toArray) XC free := by
  have hK : vx_Back l R p e below s args y 3 8 (PreOf R mc ms Pc) (PostOf Qc mc ms free) (vx_Post XC mc ms free) := vx_back (bytes := bytes) (maxL := maxL) (ret := ret) hM hp.1 hrc hrs hfr hlo hws hcw (fun a' U hW => word_at hW (Or.inl (by first | rfl | simp [Cond.onTables, Cond.keeps, Cond.steady])) hini)
  intro T hT X
  obtain ⟨mk, hnamed⟩ := Cond.code_named hcode
  obtain ⟨methM, cM, hmethM, -, -, -, -, -, -, hsigM⟩ := Cond.code_spec hnamed hcode
  have hstatic : methM.isStatic = true := Cond.static_spec hnamed hmethM hstat
  obtain ⟨kP, hkP, hkPn⟩ := className_of_methodNamed hnamed
  have hinitP : kP.init = .initialized := Cond.initialized_spec (findClass_of_methodNamed hnamed) hkP hini
  obtain ⟨k, tk, file, methk, ck, toy, t, ci, nt, f1, -, f3, f4, f5, -, -, -, -, -, -, -, -, f14, f15, f16, f17, f18, -, -⟩ := hF T.vm X.warmed
  have hnT : T.methodNamed? y = some mk := X.named hnamed
  have ht : t = mk := lm_target (U := T) (vm := T.vm) (C := C) (c0 := m.cls) (nc := nc) (fx := fx) (mi := mi) rfl hnT hy f14 f15 f16
  subst ht
  have hmT : T.vm.method? t = some methM := by rw [X.warmed.alike.method?]; exact hmethM
  obtain ⟨kP', hkP', heP⟩ := X.warmed.alike.2.2 _ _ hkP
  have hinitP' : kP'.init = .initialized := by rw [heP]; exact hinitP
  have hnP' : kP'.name = y.cls := by rw [heP]; exact hkPn
  have hpoly : ∀ z, signaturePolymorphic kP' z = false := fun z => by simp [signaturePolymorphic, hnP', hy.1, hy.2]
  obtain ⟨b, hask⟩ := memberRef_ask' (e := e) f1 f3 (Or.inl f4) f5
  have htk : tk = kP' := by
    have h9 := findClass_of_methodNamed hnT
    rw [f14] at h9
    cases h9
    exact Option.some.inj (f15.symm.trans hkP')
  have href : plainRef T e m.cls mi := ⟨ci, y.name, y.desc, b, toy, tk, hask, f18, f15, by rw [htk]; simp [hpoly]⟩
  have hlenA : As.length = methM.sig.parameters.length := hn.trans (hnl _ hsigM)
  have hstep : ∀ target, (∀ acts, Steps p.tables e below (doInvoke e (T.setTop { g with stack := rest }) acts t As.toArray).1 target) → Steps p.tables e below (T.setTop g) target := by
    intro target hrest
    subst hg
    jvm_step X.here [hx, hb, hdg, invokestatic.wp_ready (e := e) (s := T) (m := t) (k := kP') (meth := methM) (args := As) (rest := rest) (f := g) X.here.top href f17 hkP' hmT (hpoly _) hstatic hinitP' hlenA hstack]
    intro acts
    exact hrest acts
  rcases hK m meth c ⟨T, locs, cells, slots⟩ { g with stack := rest } (.invokestatic mi) t As.toArray X hg hsize (by rw [hb]; exact hdg) hW hnT ⟨hf.1, hf.2, hp.2 T hT X.warmed⟩ with ⟨v, ⟨U', l2, c2, s2⟩, X', ⟨g', mk', t', L, e1, e2, hq, h1, hL, h2, h3⟩, hsteps⟩ | ⟨q, ⟨U', l2, c2, s2⟩, X', ⟨g', mk', t', L, E, ce, e1, e2, hq, hce, hcv, hcl, h1, hL, h2, h3⟩, hsteps⟩
  · dsimp only [Pt.U, Pt.locs, Pt.cells, Pt.slots] at X' e1 e2 h1 h2 h3 hsteps
    subst h1; subst h2; subst h3
    exact Or.inl ⟨v, T.calling g' mk' As.toArray, t', U', L, hT, X', hL, e1, e2, hq, fun target h => hstep _ fun acts => by rw [doInvoke_state]; exact hsteps.trans h⟩
  · dsimp only [Pt.U, Pt.locs, Pt.cells, Pt.slots] at X' e1 e2 h1 h2 h3 hsteps hcl
    subst h1; subst h2; subst h3
    exact Or.inr ⟨q, T.calling g' mk' As.toArray, t', U', L, E, ce, hT, X', hL, e1, e2, hq, hce, hcv, by rw [X.warmed.alike.findClass] at hcl; exact hcl, hstep _ fun acts => by rw [doInvoke_state]; exact hsteps⟩
end LMG
