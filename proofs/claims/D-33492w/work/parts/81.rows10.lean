/-! rows: throwing an object of one's own, catching anything -/
set_option maxRecDepth 100000
section TROWS
variable {p : Program} {l : Launch} {e : Env} {R : Room} {s : State} {m : MethodId} {args : Array Value} {below : List Frame} {meth : Method} {c : Code} {H : Heap} {locs : List Loc} {cells slots : Nat} {Q : State → Prop}
variable {cc : ByteArray} {pc : Nat} {ls : Array Slot} {rest : List Value}
theorem thr_cell {D : va_G} {cl : List vw_C} {a q0 ci : Nat} {q : vw_C} {fs : List Value} {ws : va_W} {tys : List (ClassId × FieldType)} (hK : va_K D cl tys s) (hP : va_P D cl ws H) (hc : cl[ci]? = some q) (he : ws[q0]? = some (a, .inr (ci, fs))) : ∃ cell : Cell, H[a]? = some cell ∧ cell.vm = .none ∧ s.vm.findClass q.1 = some cell.cls := by
  obtain ⟨q', h1, cell, g1, g2, g3, -⟩ := hP q0 _ he
  exact ⟨cell, g1, g3, by rw [g2]; exact (hK.1 ci q hc).2.1⟩
/-- an object of one's own thrown, and nobody here to catch it -/
theorem xa_throw {D : va_G} {cl : List vw_C} {tys : List (ClassId × FieldType)} {A : Nat → Prop} {ws wt : va_W} {E0 : String} {mc0 ms0 : Nat} {Qc : Array Value → State → Outcome → State → Prop} {q ci q0 : Nat} {fs : List Value} {T0 : u_T} {N0 : Nat} (hx : p.tables.exec = Jvm.exec) (hb : c.code = cc) (hdg : decode cc pc = .ok (.athrow, 1)) (hK : va_K D cl tys s) (hP : va_P D cl ws H) (hS : va_S A s.heap H locs) (he : ws[q0]? = some (q, .inr (ci, fs))) (hc0 : cl[ci]? = some (E0, T0, N0)) (hPt : va_P D cl wt H) (hDt : va_D A wt) (hout : ∀ x ∈ c.exceptionTable.toList, covers x pc = false) (hlocks : meth.locks = false) (hc : cells ≤ mc0) (hs : slots ≤ ms0) :
    W p l e R s m args below meth c H locs cells slots (vx_MQ below Qc (XT E0 D cl tys wt A) args s mc0 ms0 A) (F0 m pc ls (.ref q :: rest)) := by
  obtain ⟨ce, h1, h2, h3⟩ := thr_cell hK hP hc0 he
  exact vx_athrow hx hb hdg (vx_out hout hlocks h1 h2 h3 (fun t' ht' hv' => ⟨(), trivial, ⟨rfl, show _ ∧ _ ∧ _ from ⟨by rw [ht']; exact hPt, va_K.moved hv' hK, hDt⟩⟩, hS.F ht'⟩) (fun z h => hS.2.2 z h) hc hs)
/-- what was caught is thrown on -/
theorem xa_on {D : va_G} {cl : List vw_C} {tys : List (ClassId × FieldType)} {A : Nat → Prop} {wt : va_W} {E0 : String} {mc0 ms0 : Nat} {Qc : Array Value → State → Outcome → State → Prop} {q : Nat} {ce : Cell} (hx : p.tables.exec = Jvm.exec) (hb : c.code = cc) (hdg : decode cc pc = .ok (.athrow, 1)) (hK : va_K D cl tys s) (hS : va_S A s.heap H locs) (h1 : H[q]? = some ce) (h2 : ce.vm = .none) (h3 : s.vm.findClass E0 = some ce.cls) (hPt : va_P D cl wt H) (hDt : va_D A wt) (hout : ∀ x ∈ c.exceptionTable.toList, covers x pc = false) (hlocks : meth.locks = false) (hc : cells ≤ mc0) (hs : slots ≤ ms0) :
    W p l e R s m args below meth c H locs cells slots (vx_MQ below Qc (XT E0 D cl tys wt A) args s mc0 ms0 A) (F0 m pc ls (.ref q :: rest)) :=
  vx_athrow hx hb hdg (vx_out hout hlocks h1 h2 h3 (fun t' ht' hv' => ⟨(), trivial, ⟨rfl, show _ ∧ _ ∧ _ from ⟨by rw [ht']; exact hPt, va_K.moved hv' hK, hDt⟩⟩, hS.F ht'⟩) (fun z h => hS.2.2 z h) hc hs)
/-- thrown by a callee, and nobody here to catch it: the world as it is now -/
theorem xo_out {D : va_G} {cl : List vw_C} {tys : List (ClassId × FieldType)} {A : Nat → Prop} {wt : va_W} {E0 : String} {mc0 ms0 : Nat} {Qc : Array Value → State → Outcome → State → Prop} {q : Nat} {ce : Cell} (hout : ∀ x ∈ c.exceptionTable.toList, covers x pc = false) (hlocks : meth.locks = false) (h1 : H[q]? = some ce) (h2 : ce.vm = .none) (h3 : s.vm.findClass E0 = some ce.cls) (hK : va_K D cl tys s) (hPt : va_P D cl wt H) (hDt : va_D A wt) (hS : va_S A s.heap H locs) (hc : cells ≤ mc0) (hs : slots ≤ ms0) :
    vx_W p l e R s m args below meth c H locs cells slots (vx_MQ below Qc (XT E0 D cl tys wt A) args s mc0 ms0 A) (F0 m pc ls rest) q :=
  vx_out hout hlocks h1 h2 h3 (fun t' ht' hv' => ⟨(), trivial, ⟨rfl, show _ ∧ _ ∧ _ from ⟨by rw [ht']; exact hPt, va_K.moved hv' hK, hDt⟩⟩, hS.F ht'⟩) (fun z h => hS.2.2 z h) hc hs
/-- caught by a row that takes all -/
theorem vx_catchAll {own : String} {E : String} {ce : Cell} {q : Addr} (hown : s.vm.findClass own = some m.cls) (x : ExceptionTableEntry) (suf : List ExceptionTableEntry) (hsplit : c.exceptionTable.toList = x :: suf) (hx : covers x pc = true) (h0 : x.catchType = 0) (hcell : H[q]? = some ce) (hv : ce.vm = .none) (hcl : s.vm.findClass E = some ce.cls)
    (kk : W p l e R s m args below meth c H locs cells slots Q (F0 m x.handlerPc ls [.ref q])) : vx_W p l e R s m args below meth c H locs cells slots Q (F0 m pc ls rest) q := by
  intro T hT X
  obtain ⟨vm', X', st⟩ := X.thenCaughtThrough q (g := F0 m pc ls rest) rfl (Steps.refl _) (by rw [hT]; exact hcell) (by rw [hv]; rfl) (by obtain ⟨k9, h9, -⟩ := Vm.findClass_spec hcl; exact ⟨k9, h9⟩) [] x suf hsplit (fun z hz => by cases hz) hx (Or.inl h0)
  obtain ⟨t, a1, b1⟩ := kk (T.setVm vm') hT X'
  exact ⟨t, st.trans a1, b1⟩
/-- a field written; another cell stands as it stood -/
theorem va_putX {D : va_G} {cl : List vw_C} {A : Nat → Prop} {a : Nat} {tys : List (ClassId × FieldType)} {ws : va_W} {H0 : Heap} (hexec : p.tables.exec = Jvm.exec) (hb : c.code = cc) {own ref C : String} {T : u_T} {N ci index : Nat} {Ts : List Cond} (hts : ∀ w ∈ Ts, w.before args s = true) (hin : ∀ w ∈ u_ws C T N, w ∈ Ts) (ty0 : Nat → FieldType) (hty : ∀ k, k < N → parseFieldDescriptor (T k).2.2.1 = some (ty0 k)) (hnm : ∀ a, a < N → ∀ b, b < N → a ≠ b → (T a).2.1 ≠ (T b).2.1) (hown : s.vm.findClass own = some m.cls) (hK : va_K D cl tys s) (hP : va_P D cl ws H) (hD : va_D A ws) (hS0 : va_S A H0 H locs) (q0 : Nat) {fs : List Value} (he : ws[q0]? = some (a, .inr (ci, fs))) (hc : cl[ci]? = some (C, T, N)) (k : Nat) (hk : k < N) (hlink : (Cond.fieldLink own index ref (T k).2.1 (T k).2.2.1).before args s = true) (hsame : ∀ x, s.fieldFound? (T k).1 (T k).2.1 (T k).2.2.1 = some x → s.fieldFound? ref (T k).2.1 (T k).2.2.1 = some x) (hfin : (T k).2.2.2 = false) {ty : FieldType} {v : Value} (hd : parseFieldDescriptor (T k).2.2.1 = some ty) (hn : narrow ty v = v) (hfit : fits ty v = true) (hl : k < fs.length)
    (hdg : decode cc pc = .ok (.putfield index, 3)) {q9 : Nat} {c9 : Cell} {E9 : String} (h91 : H[q9]? = some c9) (h92 : s.vm.findClass E9 = some c9.cls) (h93 : E9 ≠ C) (kk : ∀ (H1 : Heap) (locs1 : List Loc), va_P D cl (ws.set q0 (a, .inr (ci, fs.set k v))) H1 → va_D A (ws.set q0 (a, .inr (ci, fs.set k v))) → va_S A H0 H1 locs1 → H1[q9]? = some c9 → W p l e R s m args below meth c H1 locs1 cells slots Q (F0 m (pc + 3) ls rest)) : W p l e R s m args below meth c H locs cells slots Q (F0 m pc ls (v :: .ref a :: rest)) := by
  have hap := va_apart (own := own) hts hin ty0 hty hnm hK hc
  obtain ⟨r, h1, cell, q1, q2, q3, q4⟩ := hP q0 _ he
  have hr : r = (C, T, N) := Option.some.inj (h1.symm.trans hc)
  subst hr
  obtain ⟨hS, hfc, kC, hkC, hkind⟩ := hK.1 ci _ hc
  obtain ⟨cf, kf, fi, f, hi, hsl⟩ := hS k hk
  have hlay := hts _ (hin _ (u_in_lay hk))
  unfold u_lay at hlay
  rw [if_neg (by rw [hfin]; decide)] at hlay
  have hst := (u_facts hfc hkC (u_lays hts hin hk) hi).1
  have h6 := u_store hfc hkC hkind hlay hi hd hn hfit
  have hne : q9 ≠ a := by
    intro e9
    subst e9
    have ec : c9 = cell := Option.some.inj (h91.symm.trans q1)
    subst ec
    obtain ⟨k1, a1, b1⟩ := Vm.findClass_spec h92
    obtain ⟨k2, a2, b2⟩ := Vm.findClass_spec hfc
    rw [q2] at a1
    cases a1.symm.trans a2
    exact h93 (b1.symm.trans b2)
  refine W.putK hexec hb (f := f) ⟨hown, hlink, ⟨_, _, _, hsame _ hi⟩, hst⟩ (by rw [q2]; exact h6) q1 q3 (by rw [hsl]; exact k2_hasslot (q4 k hk)) rfl rfl hdg fun H' e1 e2 e3 => ?_
  rw [hsl] at e1 ⊢
  exact kk H' _ (hP.set hD he ⟨_, hc, t_OB.to (V := updV (vp_V fs) k v) ⟨_, e1, q2, q3, t_set q4 hap hk v⟩ (fun j _ => vp_updV_set hl v j)⟩ e3) (hD.set he) (hS0.put e2 e3 (hD.2 q0 _ he)) ((e3 q9 hne).trans h91)
end TROWS
