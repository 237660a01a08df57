/-! rows for methods with handlers -/
set_option maxRecDepth 100000
theorem Met.ofWH {l : Launch} {y : MethodName} {ws ws' : List Cond} {rm : Room} {Pc : Array Value → State → Prop} {Qc : Array Value → State → Outcome → State → Prop} {mc ms : Nat} {free : Addr → Prop} {cc : ByteArray} {maxL : Nat} {ret : Option FieldType} {hh : List (Nat × Nat × Nat × Nat)}
    (hy : plainName y.cls = true) (hw : ws = Cond.codeWith y cc maxL ret hh :: ws')
    (body : ∀ p e s m args below meth c s₁, BodyLoose p l y (headSpec ws rm) cc maxL ret e s m args below meth c s₁ → c.maxLocals = maxL → Pc args s →
      W p l e (headSpec ws rm).room s m args below meth c s.heap [] 0 0 (MQ below Qc args s mc ms free) (entryFrame m args maxL)) : Met l y ws rm Pc Qc mc ms free := by
  refine MetFree.of_bodyS (code := cc) (maxLocals := maxL) (ret := ret) hy ?_ ?_
  · intro args s m h hn
    obtain ⟨m9, meth, c, hn9, h1, h2, h3, h4, -, h5, h6, -⟩ := Cond.codeWith_spec (atoms_spec (ws := ws) h _ (by rw [hw]; exact List.mem_cons_self))
    cases hn.symm.trans hn9
    exact ⟨meth, c, h1, h2, h3, h4, h5, h6⟩
  · intro p e s m args below meth c s₁ B hml hP _
    have hh0 : s₁.heap = s.heap := by rw [B.state]; rfl
    obtain ⟨t, a1, o, b1, b2, b3⟩ := body p e s m args below meth c s₁ B hml hP s₁ hh0 (Stand.of_body B)
    exact ⟨t, o, a1, b1, b2, ⟨b3.1, b3.2⟩⟩
theorem met_goH {l : Launch} {y : MethodName} {cc : ByteArray} {maxL : Nat} {ret : Option FieldType} {hh : List (Nat × Nat × Nat × Nat)} {rm : Room} {Ev : (Nat → Prop) → State → Prop} {D : va_G} {cl : List vw_C} {tys : List (ClassId × FieldType)} {wc : va_W} {av : List Value} {n : Nat} {QA : (Nat → Prop) → Array Value → State → Outcome → State → Prop} {mc ms : Nat} (hy : plainName y.cls = true) (hlen : (lg_sl av).length ≤ maxL)
    (body : ∀ (p : Program) (e : Env) (s : State) (m : MethodId) (below : List Frame) (meth : Method) (c : Code) (A : Nat → Prop) (ls : Array Slot) (QQ : State → Prop), QQ = MQ below (QA A) av.toArray s mc ms A → c.exceptionTable.toList = tableOf hh → meth.name = y.name → s.methodNamed? y = some m → p.tables.exec = Jvm.exec → c.code = cc → meth.sig.returnType = ret → (∀ w ∈ lw_all, w.before av.toArray s = true) → s.vm.findClass y.cls = some m.cls → meth.locks = false → c.maxLocals = maxL → (∀ q : Nat, s.heap.size ≤ q → A q) → va_P D cl wc s.heap → va_K D cl tys s → va_D A wc → Ev A s → lv_has ls maxL (lv_args 0 av) →
      W p l e rm s m av.toArray below meth c s.heap [] 0 0 QQ (F0 m 0 ls [])) : Met l y (wsW_ y cc maxL ret hh) rm (va_Pc av (PreW Ev D cl tys wc n)) (QA (va_A wc n)) mc ms (va_A wc n) := by
  refine Met.ofWH (cc := cc) (maxL := maxL) (ret := ret) (hh := hh) hy rfl ?_
  intro p e s m args below meth c s₁ B hml hv
  obtain ⟨rfl, hsz, hP, hK, hD0, hE⟩ := hv
  subst hsz
  have hts : ∀ w ∈ lw_all, w.before _ s = true := fun w h => atoms_spec (ws := wsW_ y cc maxL ret hh) B.pre w (List.mem_cons_of_mem _ h)
  have htab := vx_table (x := y) B (atoms_spec (ws := wsW_ y cc maxL ret hh) B.pre _ List.mem_cons_self)
  have hl := lv_entry av (n := maxL) hlen
  rw [lg_entry_eq]
  exact body p e s m below meth c (va_A wc s.heap.size) _ _ rfl htab (name_of_methodNamed B.named B.method).1 B.named B.exec B.bytes B.returns hts (findClass_of_methodNamed B.named) B.notSynchronized hml (fun q h => Or.inr h) hP hK hD0.self hE hl
theorem met_goHX {l : Launch} {y : MethodName} {cc : ByteArray} {maxL : Nat} {ret : Option FieldType} {hh : List (Nat × Nat × Nat × Nat)} {rm : Room} {Ev : (Nat → Prop) → State → Prop} {D : va_G} {cl : List vw_C} {tys : List (ClassId × FieldType)} {wc : va_W} {av : List Value} {n : Nat} {QA : (Nat → Prop) → Array Value → State → Outcome → State → Prop} {XA : (Nat → Prop) → String → State → State → Prop} {mc ms : Nat} (hy : plainName y.cls = true) (hlen : (lg_sl av).length ≤ maxL)
    (body : ∀ (p : Program) (e : Env) (s : State) (m : MethodId) (below : List Frame) (meth : Method) (c : Code) (A : Nat → Prop) (ls : Array Slot) (QQ : State → Prop), QQ = vx_MQ below (QA A) (XA A) av.toArray s mc ms A → c.exceptionTable.toList = tableOf hh → meth.name = y.name → s.methodNamed? y = some m → p.tables.exec = Jvm.exec → c.code = cc → meth.sig.returnType = ret → (∀ w ∈ lw_all, w.before av.toArray s = true) → s.vm.findClass y.cls = some m.cls → meth.locks = false → c.maxLocals = maxL → (∀ q : Nat, s.heap.size ≤ q → A q) → va_P D cl wc s.heap → va_K D cl tys s → va_D A wc → Ev A s → lv_has ls maxL (lv_args 0 av) →
      W p l e rm s m av.toArray below meth c s.heap [] 0 0 QQ (F0 m 0 ls [])) : vx_Met l y (wsW_ y cc maxL ret hh) rm (va_Pc av (PreW Ev D cl tys wc n)) (QA (va_A wc n)) (XA (va_A wc n)) mc ms (va_A wc n) := by
  refine vx_ofWH (cc := cc) (maxL := maxL) (ret := ret) (hh := hh) hy rfl ?_
  intro p e s m args below meth c s₁ B hml hv
  obtain ⟨rfl, hsz, hP, hK, hD0, hE⟩ := hv
  subst hsz
  have hts : ∀ w ∈ lw_all, w.before _ s = true := fun w h => atoms_spec (ws := wsW_ y cc maxL ret hh) B.pre w (List.mem_cons_of_mem _ h)
  have htab := vx_table (x := y) B (atoms_spec (ws := wsW_ y cc maxL ret hh) B.pre _ List.mem_cons_self)
  have hl := lv_entry av (n := maxL) hlen
  rw [lg_entry_eq]
  exact body p e s m below meth c (va_A wc s.heap.size) _ _ rfl htab (name_of_methodNamed B.named B.method).1 B.named B.exec B.bytes B.returns hts (findClass_of_methodNamed B.named) B.notSynchronized hml (fun q h => Or.inr h) hP hK hD0.self hE hl
section HROWS
variable {p : Program} {l : Launch} {e : Env} {R : Room} {s : State} {m : MethodId} {args : Array Value} {below : List Frame} {meth : Method} {c : Code} {H : Heap} {locs : List Loc} {cells slots : Nat} {Q : State → Prop}
variable {cc : ByteArray} {pc : Nat} {ls : Array Slot} {rest : List Value}
/-- a call that throws, caught here or passed on: what is left is to be shown where the thrown one arrives -/
theorem xt_catch {D : va_G} {cl : List vw_C} {tys : List (ClassId × FieldType)} {A : Nat → Prop} {wc wx : va_W} {J : va_W → va_W} {E0 : String} {mc ms : Nat} {st0 : List Value} {a : Array Value} (hr : vx_Run p l e R s m args below meth c H locs cells slots mc ms (F0 m pc ls st0) rest (QN (va_A wc H.size) a) (vx_X (fun _ : Unit => True) (fun E_ (_ : Unit) t => E_ = E0 ∧ PostW D cl tys (fun (_ : Unit) => wx) (va_A wc H.size) () t) (va_A wc H.size)) (va_A wc H.size))
    (hS : va_S A s.heap H locs) (cut : Cut D cl A wc J H) (kk : ∀ (q9 : Addr) (ce : Cell) (H1 : Heap) (locs1 : List Loc), H1[q9]? = some ce → ce.vm = .none → s.vm.findClass E0 = some ce.cls → va_P D cl (J wx) H1 → va_D A (J wx) → va_S A s.heap H1 locs1 → vx_W p l e R s m args below meth c H1 locs1 (cells + mc) (slots + ms) Q (F0 m pc ls rest) q9) :
    W p l e R s m args below meth c H locs cells slots Q (F0 m pc ls st0) := by
  refine vx_callv (A0 := A) hr hS (fun q _ h => cut.2.2.1 q h) (fun q h => cut.2.2.1 q h) (fun q _ h => cut.2.2.1 q h) (fun E ce q9 u t H1 locs1 ht hvm _ hbx hz hk hS1 hce hcv hcl => ?_) (fun u t H1 locs1 _ _ hf => hf.elim)
  obtain ⟨rfl, hP1, hK1, hD1⟩ := hbx
  rw [ht] at hP1
  obtain ⟨g1, g2⟩ := cut.2.2.2 H1 _ hk hz hP1 hD1
  exact kk q9 ce H1 locs1 hce hcv hcl g1 g2 hS1
theorem xr_SW {Ev : (Nat → Prop) → State → Prop} {D : va_G} {cl : List vw_C} {tys : List (ClassId × FieldType)} {A : Nat → Prop} {wc : va_W} {J : va_W → va_W} {y : MethodName} {bytes : ByteArray} {maxL nL mc ms n index : Nat} {ret : Option FieldType} {hh : List (Nat × Nat × Nat × Nat)} {wy : List Cond} {rm : Room} {Qc : Array Value → State → Outcome → State → Prop} {free : Addr → Prop} {Ts : List Cond} {own : String} {As st0 : List Value} (hM : Met l y wy rm (va_Pc As (PreW Ev D cl tys wc H.size)) Qc mc ms free) (C : CallFix p m c cc nL s args Ts own) (cw : vx_CSW R s args own index y bytes maxL ret hh wy rm mc ms n) (hEv : EvOk Ev) (hE : Ev A s) (hK : va_K D cl tys s) (hS : va_S A s.heap H locs) (cut : Cut D cl A wc J H) (hn : As.length = n) (hsize : ls.size = nL) (hst : st0 = As.reverse ++ rest) (hW : (rest.map fun v => v.category).sum ≤ 8) (hdg : decode cc pc = .ok (.invokestatic index, 3)) (hf : cells + mc ≤ R.cells ∧ slots + ms ≤ R.slots) :
    va_Run p l e R s m args below meth c H locs cells slots mc ms (F0 m pc ls st0) rest (Qc (As).toArray) free :=
  vx_runSW (As := As) (rest := rest) C hM cw (xc_pre hEv hE hK hS cut) rfl hn hsize hst (lv_room hW) hdg hf
theorem xt_SW {Ev : (Nat → Prop) → State → Prop} {D : va_G} {cl : List vw_C} {tys : List (ClassId × FieldType)} {A : Nat → Prop} {wc : va_W} {J : va_W → va_W} {y : MethodName} {bytes : ByteArray} {maxL nL mc ms n index : Nat} {ret : Option FieldType} {hh : List (Nat × Nat × Nat × Nat)} {wy : List Cond} {rm : Room} {Qc : Array Value → State → Outcome → State → Prop} {XC : String → State → State → Prop} {free : Addr → Prop} {Ts : List Cond} {own : String} {As st0 : List Value} (hM : vx_Met l y wy rm (va_Pc As (PreW Ev D cl tys wc H.size)) Qc XC mc ms free) (C : CallFix p m c cc nL s args Ts own) (cw : vx_CSW R s args own index y bytes maxL ret hh wy rm mc ms n) (hEv : EvOk Ev) (hE : Ev A s) (hK : va_K D cl tys s) (hS : va_S A s.heap H locs) (cut : Cut D cl A wc J H) (hn : As.length = n) (hsize : ls.size = nL) (hst : st0 = As.reverse ++ rest) (hW : (rest.map fun v => v.category).sum ≤ 8) (hdg : decode cc pc = .ok (.invokestatic index, 3)) (hf : cells + mc ≤ R.cells ∧ slots + ms ≤ R.slots) :
    vx_Run p l e R s m args below meth c H locs cells slots mc ms (F0 m pc ls st0) rest (Qc (As).toArray) XC free :=
  vx_runSX (As := As) (rest := rest) C hM cw (xc_pre hEv hE hK hS cut) rfl hn hsize hst (lv_room hW) hdg hf
theorem xr_VW {Ev : (Nat → Prop) → State → Prop} {D : va_G} {cl : List vw_C} {tys : List (ClassId × FieldType)} {A : Nat → Prop} {wc : va_W} {J : va_W → va_W} {y : MethodName} {bytes : ByteArray} {maxL nL mc ms n index : Nat} {ret : Option FieldType} {hh : List (Nat × Nat × Nat × Nat)} {wy : List Cond} {rm : Room} {Qc : Array Value → State → Outcome → State → Prop} {free : Addr → Prop} {Ts : List Cond} {own : String} {As st0 : List Value} {C0 : String} {b ci q0 : Nat} {fs : List Value} {T0 : u_T} {N0 : Nat} (hM : Met l y wy rm (va_Pc (.ref b :: As) (PreW Ev D cl tys wc H.size)) Qc mc ms free) (C : CallFix p m c cc nL s args Ts own) (cw : vx_CVW R s args own C0 index y bytes maxL ret hh wy rm mc ms n) (hEv : EvOk Ev) (hE : Ev A s) (hK : va_K D cl tys s) (hS : va_S A s.heap H locs) (cut : Cut D cl A wc J H) (hq : wc[q0]? = some (b, .inr (ci, fs))) (hc : cl[ci]? = some (C0, T0, N0)) (hn : As.length = n) (hsize : ls.size = nL) (hst : st0 = As.reverse ++ .ref b :: rest) (hW : (rest.map fun v => v.category).sum ≤ 8) (hdg : decode cc pc = .ok (.invokevirtual index, 3)) (hf : cells + mc ≤ R.cells ∧ slots + ms ≤ R.slots) :
    va_Run p l e R s m args below meth c H locs cells slots mc ms (F0 m pc ls st0) rest (Qc (Value.ref b :: As).toArray) free :=
  vx_runVW (As := As) (rest := rest) C hM cw ⟨(xc_pre (As := .ref b :: As) hEv hE hK hS cut).1, va_recv hK cut.1 hc hq, (xc_pre hEv hE hK hS cut).2⟩ rfl hn hsize hst (lv_room hW) hdg hf
theorem xt_VW {Ev : (Nat → Prop) → State → Prop} {D : va_G} {cl : List vw_C} {tys : List (ClassId × FieldType)} {A : Nat → Prop} {wc : va_W} {J : va_W → va_W} {y : MethodName} {bytes : ByteArray} {maxL nL mc ms n index : Nat} {ret : Option FieldType} {hh : List (Nat × Nat × Nat × Nat)} {wy : List Cond} {rm : Room} {Qc : Array Value → State → Outcome → State → Prop} {XC : String → State → State → Prop} {free : Addr → Prop} {Ts : List Cond} {own : String} {As st0 : List Value} {C0 : String} {b ci q0 : Nat} {fs : List Value} {T0 : u_T} {N0 : Nat} (hM : vx_Met l y wy rm (va_Pc (.ref b :: As) (PreW Ev D cl tys wc H.size)) Qc XC mc ms free) (C : CallFix p m c cc nL s args Ts own) (cw : vx_CVW R s args own C0 index y bytes maxL ret hh wy rm mc ms n) (hEv : EvOk Ev) (hE : Ev A s) (hK : va_K D cl tys s) (hS : va_S A s.heap H locs) (cut : Cut D cl A wc J H) (hq : wc[q0]? = some (b, .inr (ci, fs))) (hc : cl[ci]? = some (C0, T0, N0)) (hn : As.length = n) (hsize : ls.size = nL) (hst : st0 = As.reverse ++ .ref b :: rest) (hW : (rest.map fun v => v.category).sum ≤ 8) (hdg : decode cc pc = .ok (.invokevirtual index, 3)) (hf : cells + mc ≤ R.cells ∧ slots + ms ≤ R.slots) :
    vx_Run p l e R s m args below meth c H locs cells slots mc ms (F0 m pc ls st0) rest (Qc (Value.ref b :: As).toArray) XC free :=
  vx_runVX (As := As) (rest := rest) C hM cw ⟨(xc_pre (As := .ref b :: As) hEv hE hK hS cut).1, va_recv hK cut.1 hc hq, (xc_pre hEv hE hK hS cut).2⟩ rfl hn hsize hst (lv_room hW) hdg hf
end HROWS
