/-! the six sites of lambdas: what their made classes are -/
set_option maxRecDepth 100000
theorem lm_Obj {args : Array Value} {s : State} (hts : ∀ w ∈ lw_all, w.before args s = true) : ∀ (vm' : Vm), s.WarmedH vm' → ∀ o ok, vm'.findClass "java/lang/Object" = some o → vm'.classes[o]? = some ok → ok.instanceTypes.size = 0 := by
  intro vm' hW o ok h1 h2
  obtain ⟨cO, kO, hfO, hkO, -, -, -, hsz⟩ := Cond.instantiable_spec (hts _ q2084)
  rw [hW.alike.findClass, hfO] at h1
  cases h1
  obtain ⟨k', hk', he⟩ := hW.alike.2.2 _ _ hkO
  rw [h2] at hk'
  cases hk'
  rw [he]; exact hsz
theorem lm_m1 {α : Type} {x : Option CpInfo} {f : Nat → Nat → Option α} {r : α} (h : Lambda.shapeOf?.match_19 (fun _ => Option α) x f (fun _ => none) = some r) : ∃ b nt, x = some (.invokeDynamic b nt) ∧ f b nt = some r := by
  split at h <;> first | exact ⟨_, _, rfl, h⟩ | cases h
theorem lm_m2 {α : Type} {x : Option CpInfo} {f : Nat → Option α} {r : α} (h : Lambda.shapeOf?.match_17 (fun _ => Option α) x f (fun _ => none) = some r) : ∃ y, f y = some r := by
  split at h <;> first | exact ⟨_, h⟩ | cases h
theorem lm_m3 {α : Type} {x : Array Nat} {f : Nat → Nat → Nat → Option α} {r : α} (h : Lambda.shapeOf?.match_15 (fun _ => Option α) x f (fun _ => none) = some r) : ∃ a b c, f a b c = some r := by
  obtain ⟨L⟩ := x
  rcases L with _ | ⟨a, _ | ⟨b, _ | ⟨c, _ | ⟨d, L⟩⟩⟩⟩ <;> first | exact ⟨a, b, c, h⟩ | cases h
theorem lm_m4 {α : Type} {x : Option CpInfo} {f : Nat → Option α} {r : α} (h : Lambda.shapeOf?.match_9 (fun _ => Option α) x f (fun _ => none) = some r) : ∃ y, f y = some r := by
  split at h <;> first | exact ⟨_, h⟩ | cases h
theorem lm_m5 {α : Type} {x : Option CpInfo} {f : Nat → Nat → Option α} {r : α} (h : Lambda.shapeOf?.match_12 (fun _ => Option α) x f (fun _ => none) = some r) : ∃ y z, f y z = some r := by
  split at h <;> first | exact ⟨_, _, h⟩ | cases h
theorem lm_m6 {α : Type} {x : Option FieldType} {f : String → Option α} {r : α} (h : Lambda.shapeOf?.match_6 (fun _ => Option α) x f (fun _ => none) = some r) : ∃ y, f y = some r := by
  split at h <;> first | exact ⟨_, h⟩ | cases h
theorem lm_site {cf : ClassFile} {index : Nat} {σ : Lambda.Shape} (h : Lambda.shapeOf? cf index = some σ) :
    ∃ (b nt : Nat) (desc : String) (site : MethodDescriptor), cf.constantPool[index]? = some (.invokeDynamic b nt) ∧ cf.constantPool.nameAndType? nt = some (σ.name, desc) ∧ parseMethodDescriptor desc = some site ∧ site.parameters = σ.captured := by
  unfold Lambda.shapeOf? at h
  obtain ⟨b, nt, hc, h⟩ := lm_m1 h
  obtain ⟨_, -, h⟩ := Option.bind_eq_some_iff.mp h
  obtain ⟨_, -, h⟩ := Option.bind_eq_some_iff.mp h
  obtain ⟨_, h⟩ := lm_m2 h
  obtain ⟨_, -, h⟩ := Option.bind_eq_some_iff.mp h
  obtain ⟨_, _, _, h⟩ := lm_m3 h
  obtain ⟨_, h⟩ := lm_m4 h
  obtain ⟨_, _, h⟩ := lm_m5 h
  obtain ⟨_, h⟩ := lm_m4 h
  obtain ⟨⟨name, desc⟩, hnt, h⟩ := Option.bind_eq_some_iff.mp h
  obtain ⟨site, hsite, h⟩ := Option.bind_eq_some_iff.mp h
  obtain ⟨_, h⟩ := lm_m6 h
  obtain ⟨_, -, h⟩ := Option.bind_eq_some_iff.mp h
  obtain ⟨_, -, h⟩ := Option.bind_eq_some_iff.mp h
  obtain ⟨_, -, h⟩ := Option.bind_eq_some_iff.mp h
  obtain ⟨_, -, h⟩ := Option.bind_eq_some_iff.mp h
  obtain ⟨_, -, h⟩ := Option.bind_eq_some_iff.mp h
  obtain ⟨_, -, h⟩ := Option.bind_eq_some_iff.mp h
  cases h
  exact ⟨b, nt, desc, site, hc, hnt, hsite, rfl⟩
/-- a class that is one made for the shape σ -/
def lm_K (σ : Lambda.Shape) (s : State) (cK : ClassId) : Prop := ∃ (d : ClassId) (dk : Class), s.vm.classes[d]? = some dk ∧ dk.name = "RosehipCircuits" ∧ Lambda.isMade lm_set s.vm d σ cK = true ∧ s.lambdaCallable σ cK = true
theorem lm_call_warm {s U : State} {σ : Lambda.Shape} {c : ClassId} (hW : s.WarmedH U.vm) (h : s.lambdaCallable σ c = true) : U.lambdaCallable σ c = true := by
  have hA := hW.alike
  simp only [State.lambdaCallable, hA.findClass, hA.assignable, hA.superclasses, hA.declaredIn] at h ⊢
  exact h
theorem lm_K.warm {σ : Lambda.Shape} {s U : State} {cK : ClassId} (hW : s.WarmedH U.vm) (h : lm_K σ s cK) : lm_K σ U cK := by
  obtain ⟨d, dk, h1, h2, h3, h4⟩ := h
  obtain ⟨k', hk', he⟩ := hW.alike.2.2 _ _ h1
  exact ⟨d, k', hk', by rw [he]; exact h2, Lambda.isMade_warmer hW h3, lm_call_warm hW h4⟩
/-- a linked site of a lambda -/
def lm_L (x0 : MethodName) (pc idx : Nat) (σ : Lambda.Shape) (A : Nat → Prop) (s : State) : Prop :=
  ∃ (m : MethodId) (k : Class) (cf : ClassFile) (i0 p0 : Nat) (l : Linked) (cK : ClassId), s.methodNamed? x0 = some m ∧ s.vm.classes[m.cls]? = some k ∧ k.name = x0.cls ∧ k.cf = some cf ∧ Lambda.shapeOf? cf idx = some σ ∧
    (k.callSites.find? fun y => y.1 == m.idx && y.2.1 == pc) = some (i0, p0, l) ∧ Lambda.isMade lm_set s.vm m.cls σ cK = true ∧ s.lambdaCallable σ cK = true ∧
    ((∃ a cell, l = .constant a ∧ σ.captured = [] ∧ s.heap[a]? = some cell ∧ cell.cls = cK ∧ cell.vm = .none ∧ cell.slots = #[] ∧ ¬ A a) ∨ (l = .makes cK ∧ σ.captured ≠ []))
theorem lm_L.of {x0 : MethodName} {pc idx : Nat} {σ : Lambda.Shape} {A : Nat → Prop} {s : State} {args : Array Value} (h : (Cond.lambdaSite x0 pc idx σ).before args s = true) (hA : ∀ q, q < s.heap.size → ¬ A q) : lm_L x0 pc idx σ A s := by
  obtain ⟨cK, one, hat⟩ := Cond.lambdaSite_spec h
  obtain ⟨m, k, cf, i0, p0, lk, h1, h2, h3, h4, -, h6, h7, h8, h9⟩ := State.lambdaAt?_spec hat
  obtain ⟨k', hk', hn⟩ := className_of_methodNamed h1
  cases h2.symm.trans hk'
  refine ⟨m, k, cf, i0, p0, lk, cK, h1, h2, hn, h3, h4, h6, h7, h8, ?_⟩
  rcases h9 with ⟨a, cell, e1, -, e3, e4, e5, e6, e7⟩ | ⟨e1, -, e3⟩
  · exact Or.inl ⟨a, cell, e1, e3, e4, e5, e6, e7, hA a (Array.getElem?_eq_some_iff.mp e4).1⟩
  · exact Or.inr ⟨e1, e3⟩
theorem lm_L.ok {x0 : MethodName} {pc idx : Nat} {σ : Lambda.Shape} {A A1 : Nat → Prop} {s U : State} (h : lm_L x0 pc idx σ A s) (hW : s.WarmedH U.vm) (hq : ∀ q : Nat, q < s.heap.size → ¬ A q → U.heap[q]? = s.heap[q]?) (hs : ∀ q, A1 q → A q) : lm_L x0 pc idx σ A1 U := by
  obtain ⟨m, k, cf, i0, p0, lk, cK, h1, h2, hn, h3, h4, h6, h7, h8, h9⟩ := h
  obtain ⟨k', hk', he⟩ := hW.alike.2.2 _ _ h2
  have hm' : U.methodNamed? x0 = some m := by
    have := State.methodNamed?_setVm (s := s) hW.alike x0
    rw [h1] at this
    exact this
  refine ⟨m, k', cf, i0, p0, lk, cK, hm', hk', by rw [he]; exact hn, by rw [he]; exact h3, h4, by rw [he]; exact h6, Lambda.isMade_warmer hW h7, lm_call_warm hW h8, ?_⟩
  rcases h9 with ⟨a, cell, e1, e3, e4, e5, e6, e7, e8⟩ | ⟨e1, e3⟩
  · exact Or.inl ⟨a, cell, e1, e3, by rw [hq a (Array.getElem?_eq_some_iff.mp e4).1 e8]; exact e4, e5, e6, e7, fun z => e8 (hs a z)⟩
  · exact Or.inr ⟨e1, e3⟩
