/-! rows for lambdas: invokedynamic -/
set_option maxRecDepth 100000
theorem lm0_new {p : Program} {l : Launch} {e : Env} {R : Room} {s : State} {m : MethodId} {args : Array Value} {below : List Frame} {meth : Method} {c : Code} {H : Heap} {locs : List Loc} {cells slots : Nat} {Q : State → Prop} {ls : Array Slot} {rest : List Value} {D : va_G} {cl : List vw_C} {A : Nat → Prop} {ws : va_W} {x0 : Int32} {x1 : Int32} {x2 : Int32}
    (hx : p.tables.exec = Jvm.exec) (hb : c.code = cX1_addGate) (hts : ∀ w ∈ lw_all, w.before args s = true) (hnm : s.methodNamed? yX1_addGate = some m) (hsz : ls.size = c.maxLocals) (hL : lm_L yX1_addGate 4 230 lm0_S A s) (hP : va_P D cl ws H) (hD : va_D A ws) (hS : va_S A s.heap H locs)
    (hW : (rest.map fun v => v.category).sum ≤ 8) (hR : 3100 ≤ R.locals) (hf : cells + 1 ≤ R.cells ∧ slots + 3 ≤ R.slots) (kk : ∀ (la : Nat) (lc : Cell) (H1 : Heap), lm_K lm0_S s lc.cls → H1[la]? = some lc → lc.vm = .none → lc.slots = #[.int x0, .int x1, .int x2] → la < H1.size → (∀ (k : Nat) (q : Nat × va_E), ws[k]? = some q → q.1 ≠ la) → va_P D cl ws H1 → va_S A s.heap H1 locs → W p l e R s m args below meth c H1 locs (cells + 1) (slots + 3) Q (F0 m 9 ls (.ref la :: rest))) :
    W p l e R s m args below meth c H locs cells slots Q (F0 m 4 ls (.int x2 :: .int x1 :: .int x0 :: rest)) := by
  intro T hT X
  subst hT
  obtain ⟨m', k, cf, i0, p0, lk, cK, h1, h2, h3, h4, h5, h6, h7, h8, h9⟩ := hL
  cases hnm.symm.trans h1
  have hKl : lm_K lm0_S s cK := ⟨m.cls, k, h2, h3, h7, h8⟩
  rcases h9 with ⟨a, cell, e1, e3, -⟩ | ⟨rfl, h9⟩
  · exact absurd e3 (by decide)
  · obtain ⟨bsm, nt, desc, site, hc, hnt, hsite, hpar⟩ := lm_site h5
    obtain ⟨kK, tk, file, methk, ck, toy, t0, ci, nt0, g1, -, -, -, -, -, -, -, -, -, -, -, -, -, -, -, -, -, -, hty⟩ := lm0_F hts hKl s.vm (State.WarmedH.refl s)
    obtain ⟨dk', kK', ok, tk', file', cf', object, iface, t', lay, methods, target, found, -, hk', -, -, -, -, -, -, -, -, -, -, -, ⟨-, hkind, -⟩, -⟩ := Lambda.isMade_spec h7
    cases g1.symm.trans hk'
    have hty2 : kK.instanceTypes = (List.replicate 3 FieldType.int).toArray := by rw [← hty]
    have hslotsE : ((kK.instanceTypes.toList.zip ([.int x0, .int x1, .int x2] : List Value)).map fun (t, z) => narrow t z) = [.int x0, .int x1, .int x2] := by rw [hty]; rfl
    obtain ⟨X1, st1⟩ := X.lambdaMakes hx (g := F0 m 4 ls (.int x2 :: .int x1 :: .int x0 :: rest)) rfl hsz (by rw [hb]; exact dX1_addGate_4) (vals := [.int x0, .int x1, .int x2]) (rest := rest) h2 h6 h4 hc hnt (parseLong_of_parse hsite) (by rw [hpar]; rfl) rfl g1
      (by rw [X.admits.platform]; show 2 * 0 + (1 + (1 + (1 + ((rest.map fun v => v.category).sum)))) + 3072 ≤ R.locals; omega) hf.1 (by rw [hslotsE]; exact hf.2)
      (fun i_ v_ hz => by
        rw [hslotsE] at hz
        rcases i_ with _ | i_
        · simp at hz; subst hz; simp [State.fitsSlot, State.slotType?, g1, hkind, hty2, fits]
        rcases i_ with _ | i_
        · simp at hz; subst hz; simp [State.fitsSlot, State.slotType?, g1, hkind, hty2, fits]
        rcases i_ with _ | i_
        · simp at hz; subst hz; simp [State.fitsSlot, State.slotType?, g1, hkind, hty2, fits]
        simp at hz)
    rw [hslotsE] at X1 st1
    obtain ⟨t, a1, b1⟩ := kk T.heap.size ({ cls := cK, slots := #[.int x0, .int x1, .int x2], vm := .none } : Cell) (T.heap.push ({ cls := cK, slots := #[.int x0, .int x1, .int x2], vm := .none } : Cell)) hKl (by simp) rfl rfl (by simp) (fun k_ q_ hq => by have := (hP k_ q_ hq).lt; omega) (fun k_ q_ hq => (hP k_ q_ hq).kept (by rw [Array.getElem?_push_lt (hP k_ q_ hq).lt]; exact (Array.getElem?_eq_getElem (hP k_ q_ hq).lt).symm))
      ⟨Nat.le_trans hS.1 (by simp), fun q_ hq1 hq2 => by rw [Array.getElem?_push_lt (Nat.lt_of_lt_of_le hq1 hS.1), ← hS.2.1 q_ hq1 hq2]; exact (Array.getElem?_eq_getElem (Nat.lt_of_lt_of_le hq1 hS.1)).symm, hS.2.2⟩ _ (by rfl) X1
    exact ⟨t, st1 _ a1, b1⟩
theorem lm1_new {p : Program} {l : Launch} {e : Env} {R : Room} {s : State} {m : MethodId} {args : Array Value} {below : List Frame} {meth : Method} {c : Code} {H : Heap} {locs : List Loc} {cells slots : Nat} {Q : State → Prop} {ls : Array Slot} {rest : List Value} {D : va_G} {cl : List vw_C} {A : Nat → Prop} {ws : va_W}
    (hx : p.tables.exec = Jvm.exec) (hb : c.code = cX1_dropGate) (hts : ∀ w ∈ lw_all, w.before args s = true) (hnm : s.methodNamed? yX1_dropGate = some m) (hsz : ls.size = c.maxLocals) (hL : lm_L yX1_dropGate 1 237 lm1_S A s) (hP : va_P D cl ws H) (hD : va_D A ws) (hS : va_S A s.heap H locs)
    (hW : (rest.map fun v => v.category).sum ≤ 8) (hR : 3100 ≤ R.locals) (kk : ∀ (la : Nat) (lc : Cell) (H1 : Heap), lm_K lm1_S s lc.cls → H1[la]? = some lc → lc.vm = .none → lc.slots = #[] → la < H1.size → (∀ (k : Nat) (q : Nat × va_E), ws[k]? = some q → q.1 ≠ la) → va_P D cl ws H1 → va_S A s.heap H1 locs → W p l e R s m args below meth c H1 locs cells slots Q (F0 m 6 ls (.ref la :: rest))) :
    W p l e R s m args below meth c H locs cells slots Q (F0 m 1 ls (rest)) := by
  intro T hT X
  subst hT
  obtain ⟨m', k, cf, i0, p0, lk, cK, h1, h2, h3, h4, h5, h6, h7, h8, h9⟩ := hL
  cases hnm.symm.trans h1
  have hKl : lm_K lm1_S s cK := ⟨m.cls, k, h2, h3, h7, h8⟩
  rcases h9 with ⟨a, cell, rfl, e3, e4, e5, e6, e7, e8⟩ | ⟨rfl, h9⟩
  · have hlt := (Array.getElem?_eq_some_iff.mp e4).1
    have hcell : T.heap[a]? = some cell := by rw [hS.2.1 a hlt e8, e4]
    obtain ⟨t, a1, b1⟩ := kk a cell T.heap (e5 ▸ hKl) hcell e6 e7 (Nat.lt_of_lt_of_le hlt hS.1) (fun k_ q_ hq z => e8 (z ▸ hD.2 k_ q_ hq)) hP hS T rfl X
    exact ⟨t, X.lambdaConstant hx (g := F0 m 1 ls rest) rfl hsz (by rw [hb]; exact dX1_dropGate_1) h2 h6 (by rw [X.admits.platform]; show 2 * 0 + (rest.map fun v => v.category).sum + 3072 ≤ R.locals; omega) a1, b1⟩
  · exact absurd rfl h9
theorem lm2_new {p : Program} {l : Launch} {e : Env} {R : Room} {s : State} {m : MethodId} {args : Array Value} {below : List Frame} {meth : Method} {c : Code} {H : Heap} {locs : List Loc} {cells slots : Nat} {Q : State → Prop} {ls : Array Slot} {rest : List Value} {D : va_G} {cl : List vw_C} {A : Nat → Prop} {ws : va_W} {x0 : Int32} {x1 : Int32}
    (hx : p.tables.exec = Jvm.exec) (hb : c.code = cX1_setKind) (hts : ∀ w ∈ lw_all, w.before args s = true) (hnm : s.methodNamed? yX1_setKind = some m) (hsz : ls.size = c.maxLocals) (hL : lm_L yX1_setKind 3 240 lm2_S A s) (hP : va_P D cl ws H) (hD : va_D A ws) (hS : va_S A s.heap H locs)
    (hW : (rest.map fun v => v.category).sum ≤ 8) (hR : 3100 ≤ R.locals) (hf : cells + 1 ≤ R.cells ∧ slots + 2 ≤ R.slots) (kk : ∀ (la : Nat) (lc : Cell) (H1 : Heap), lm_K lm2_S s lc.cls → H1[la]? = some lc → lc.vm = .none → lc.slots = #[.int x0, .int x1] → la < H1.size → (∀ (k : Nat) (q : Nat × va_E), ws[k]? = some q → q.1 ≠ la) → va_P D cl ws H1 → va_S A s.heap H1 locs → W p l e R s m args below meth c H1 locs (cells + 1) (slots + 2) Q (F0 m 8 ls (.ref la :: rest))) :
    W p l e R s m args below meth c H locs cells slots Q (F0 m 3 ls (.int x1 :: .int x0 :: rest)) := by
  intro T hT X
  subst hT
  obtain ⟨m', k, cf, i0, p0, lk, cK, h1, h2, h3, h4, h5, h6, h7, h8, h9⟩ := hL
  cases hnm.symm.trans h1
  have hKl : lm_K lm2_S s cK := ⟨m.cls, k, h2, h3, h7, h8⟩
  rcases h9 with ⟨a, cell, e1, e3, -⟩ | ⟨rfl, h9⟩
  · exact absurd e3 (by decide)
  · obtain ⟨bsm, nt, desc, site, hc, hnt, hsite, hpar⟩ := lm_site h5
    obtain ⟨kK, tk, file, methk, ck, toy, t0, ci, nt0, g1, -, -, -, -, -, -, -, -, -, -, -, -, -, -, -, -, -, -, hty⟩ := lm2_F hts hKl s.vm (State.WarmedH.refl s)
    obtain ⟨dk', kK', ok, tk', file', cf', object, iface, t', lay, methods, target, found, -, hk', -, -, -, -, -, -, -, -, -, -, -, ⟨-, hkind, -⟩, -⟩ := Lambda.isMade_spec h7
    cases g1.symm.trans hk'
    have hty2 : kK.instanceTypes = (List.replicate 2 FieldType.int).toArray := by rw [← hty]
    have hslotsE : ((kK.instanceTypes.toList.zip ([.int x0, .int x1] : List Value)).map fun (t, z) => narrow t z) = [.int x0, .int x1] := by rw [hty]; rfl
    obtain ⟨X1, st1⟩ := X.lambdaMakes hx (g := F0 m 3 ls (.int x1 :: .int x0 :: rest)) rfl hsz (by rw [hb]; exact dX1_setKind_3) (vals := [.int x0, .int x1]) (rest := rest) h2 h6 h4 hc hnt (parseLong_of_parse hsite) (by rw [hpar]; rfl) rfl g1
      (by rw [X.admits.platform]; show 2 * 0 + (1 + (1 + ((rest.map fun v => v.category).sum))) + 3072 ≤ R.locals; omega) hf.1 (by rw [hslotsE]; exact hf.2)
      (fun i_ v_ hz => by
        rw [hslotsE] at hz
        rcases i_ with _ | i_
        · simp at hz; subst hz; simp [State.fitsSlot, State.slotType?, g1, hkind, hty2, fits]
        rcases i_ with _ | i_
        · simp at hz; subst hz; simp [State.fitsSlot, State.slotType?, g1, hkind, hty2, fits]
        simp at hz)
    rw [hslotsE] at X1 st1
    obtain ⟨t, a1, b1⟩ := kk T.heap.size ({ cls := cK, slots := #[.int x0, .int x1], vm := .none } : Cell) (T.heap.push ({ cls := cK, slots := #[.int x0, .int x1], vm := .none } : Cell)) hKl (by simp) rfl rfl (by simp) (fun k_ q_ hq => by have := (hP k_ q_ hq).lt; omega) (fun k_ q_ hq => (hP k_ q_ hq).kept (by rw [Array.getElem?_push_lt (hP k_ q_ hq).lt]; exact (Array.getElem?_eq_getElem (hP k_ q_ hq).lt).symm))
      ⟨Nat.le_trans hS.1 (by simp), fun q_ hq1 hq2 => by rw [Array.getElem?_push_lt (Nat.lt_of_lt_of_le hq1 hS.1), ← hS.2.1 q_ hq1 hq2]; exact (Array.getElem?_eq_getElem (Nat.lt_of_lt_of_le hq1 hS.1)).symm, hS.2.2⟩ _ (by rfl) X1
    exact ⟨t, st1 _ a1, b1⟩
theorem lm3_new {p : Program} {l : Launch} {e : Env} {R : Room} {s : State} {m : MethodId} {args : Array Value} {below : List Frame} {meth : Method} {c : Code} {H : Heap} {locs : List Loc} {cells slots : Nat} {Q : State → Prop} {ls : Array Slot} {rest : List Value} {D : va_G} {cl : List vw_C} {A : Nat → Prop} {ws : va_W} {x0 : Int32} {x1 : Int32} {x2 : Int32}
    (hx : p.tables.exec = Jvm.exec) (hb : c.code = cX1_setSource) (hts : ∀ w ∈ lw_all, w.before args s = true) (hnm : s.methodNamed? yX1_setSource = some m) (hsz : ls.size = c.maxLocals) (hL : lm_L yX1_setSource 4 243 lm3_S A s) (hP : va_P D cl ws H) (hD : va_D A ws) (hS : va_S A s.heap H locs)
    (hW : (rest.map fun v => v.category).sum ≤ 8) (hR : 3100 ≤ R.locals) (hf : cells + 1 ≤ R.cells ∧ slots + 3 ≤ R.slots) (kk : ∀ (la : Nat) (lc : Cell) (H1 : Heap), lm_K lm3_S s lc.cls → H1[la]? = some lc → lc.vm = .none → lc.slots = #[.int x0, .int x1, .int x2] → la < H1.size → (∀ (k : Nat) (q : Nat × va_E), ws[k]? = some q → q.1 ≠ la) → va_P D cl ws H1 → va_S A s.heap H1 locs → W p l e R s m args below meth c H1 locs (cells + 1) (slots + 3) Q (F0 m 9 ls (.ref la :: rest))) :
    W p l e R s m args below meth c H locs cells slots Q (F0 m 4 ls (.int x2 :: .int x1 :: .int x0 :: rest)) := by
  intro T hT X
  subst hT
  obtain ⟨m', k, cf, i0, p0, lk, cK, h1, h2, h3, h4, h5, h6, h7, h8, h9⟩ := hL
  cases hnm.symm.trans h1
  have hKl : lm_K lm3_S s cK := ⟨m.cls, k, h2, h3, h7, h8⟩
  rcases h9 with ⟨a, cell, e1, e3, -⟩ | ⟨rfl, h9⟩
  · exact absurd e3 (by decide)
  · obtain ⟨bsm, nt, desc, site, hc, hnt, hsite, hpar⟩ := lm_site h5
    obtain ⟨kK, tk, file, methk, ck, toy, t0, ci, nt0, g1, -, -, -, -, -, -, -, -, -, -, -, -, -, -, -, -, -, -, hty⟩ := lm3_F hts hKl s.vm (State.WarmedH.refl s)
    obtain ⟨dk', kK', ok, tk', file', cf', object, iface, t', lay, methods, target, found, -, hk', -, -, -, -, -, -, -, -, -, -, -, ⟨-, hkind, -⟩, -⟩ := Lambda.isMade_spec h7
    cases g1.symm.trans hk'
    have hty2 : kK.instanceTypes = (List.replicate 3 FieldType.int).toArray := by rw [← hty]
    have hslotsE : ((kK.instanceTypes.toList.zip ([.int x0, .int x1, .int x2] : List Value)).map fun (t, z) => narrow t z) = [.int x0, .int x1, .int x2] := by rw [hty]; rfl
    obtain ⟨X1, st1⟩ := X.lambdaMakes hx (g := F0 m 4 ls (.int x2 :: .int x1 :: .int x0 :: rest)) rfl hsz (by rw [hb]; exact dX1_setSource_4) (vals := [.int x0, .int x1, .int x2]) (rest := rest) h2 h6 h4 hc hnt (parseLong_of_parse hsite) (by rw [hpar]; rfl) rfl g1
      (by rw [X.admits.platform]; show 2 * 0 + (1 + (1 + (1 + ((rest.map fun v => v.category).sum)))) + 3072 ≤ R.locals; omega) hf.1 (by rw [hslotsE]; exact hf.2)
      (fun i_ v_ hz => by
        rw [hslotsE] at hz
        rcases i_ with _ | i_
        · simp at hz; subst hz; simp [State.fitsSlot, State.slotType?, g1, hkind, hty2, fits]
        rcases i_ with _ | i_
        · simp at hz; subst hz; simp [State.fitsSlot, State.slotType?, g1, hkind, hty2, fits]
        rcases i_ with _ | i_
        · simp at hz; subst hz; simp [State.fitsSlot, State.slotType?, g1, hkind, hty2, fits]
        simp at hz)
    rw [hslotsE] at X1 st1
    obtain ⟨t, a1, b1⟩ := kk T.heap.size ({ cls := cK, slots := #[.int x0, .int x1, .int x2], vm := .none } : Cell) (T.heap.push ({ cls := cK, slots := #[.int x0, .int x1, .int x2], vm := .none } : Cell)) hKl (by simp) rfl rfl (by simp) (fun k_ q_ hq => by have := (hP k_ q_ hq).lt; omega) (fun k_ q_ hq => (hP k_ q_ hq).kept (by rw [Array.getElem?_push_lt (hP k_ q_ hq).lt]; exact (Array.getElem?_eq_getElem (hP k_ q_ hq).lt).symm))
      ⟨Nat.le_trans hS.1 (by simp), fun q_ hq1 hq2 => by rw [Array.getElem?_push_lt (Nat.lt_of_lt_of_le hq1 hS.1), ← hS.2.1 q_ hq1 hq2]; exact (Array.getElem?_eq_getElem (Nat.lt_of_lt_of_le hq1 hS.1)).symm, hS.2.2⟩ _ (by rfl) X1
    exact ⟨t, st1 _ a1, b1⟩
theorem lm4_new {p : Program} {l : Launch} {e : Env} {R : Room} {s : State} {m : MethodId} {args : Array Value} {below : List Frame} {meth : Method} {c : Code} {H : Heap} {locs : List Loc} {cells slots : Nat} {Q : State → Prop} {ls : Array Slot} {rest : List Value} {D : va_G} {cl : List vw_C} {A : Nat → Prop} {ws : va_W} {x0 : Int32}
    (hx : p.tables.exec = Jvm.exec) (hb : c.code = cX1_turnOutput) (hts : ∀ w ∈ lw_all, w.before args s = true) (hnm : s.methodNamed? yX1_turnOutput = some m) (hsz : ls.size = c.maxLocals) (hL : lm_L yX1_turnOutput 2 244 lm4_S A s) (hP : va_P D cl ws H) (hD : va_D A ws) (hS : va_S A s.heap H locs)
    (hW : (rest.map fun v => v.category).sum ≤ 8) (hR : 3100 ≤ R.locals) (hf : cells + 1 ≤ R.cells ∧ slots + 1 ≤ R.slots) (kk : ∀ (la : Nat) (lc : Cell) (H1 : Heap), lm_K lm4_S s lc.cls → H1[la]? = some lc → lc.vm = .none → lc.slots = #[.int x0] → la < H1.size → (∀ (k : Nat) (q : Nat × va_E), ws[k]? = some q → q.1 ≠ la) → va_P D cl ws H1 → va_S A s.heap H1 locs → W p l e R s m args below meth c H1 locs (cells + 1) (slots + 1) Q (F0 m 7 ls (.ref la :: rest))) :
    W p l e R s m args below meth c H locs cells slots Q (F0 m 2 ls (.int x0 :: rest)) := by
  intro T hT X
  subst hT
  obtain ⟨m', k, cf, i0, p0, lk, cK, h1, h2, h3, h4, h5, h6, h7, h8, h9⟩ := hL
  cases hnm.symm.trans h1
  have hKl : lm_K lm4_S s cK := ⟨m.cls, k, h2, h3, h7, h8⟩
  rcases h9 with ⟨a, cell, e1, e3, -⟩ | ⟨rfl, h9⟩
  · exact absurd e3 (by decide)
  · obtain ⟨bsm, nt, desc, site, hc, hnt, hsite, hpar⟩ := lm_site h5
    obtain ⟨kK, tk, file, methk, ck, toy, t0, ci, nt0, g1, -, -, -, -, -, -, -, -, -, -, -, -, -, -, -, -, -, -, hty⟩ := lm4_F hts hKl s.vm (State.WarmedH.refl s)
    obtain ⟨dk', kK', ok, tk', file', cf', object, iface, t', lay, methods, target, found, -, hk', -, -, -, -, -, -, -, -, -, -, -, ⟨-, hkind, -⟩, -⟩ := Lambda.isMade_spec h7
    cases g1.symm.trans hk'
    have hty2 : kK.instanceTypes = (List.replicate 1 FieldType.int).toArray := by rw [← hty]
    have hslotsE : ((kK.instanceTypes.toList.zip ([.int x0] : List Value)).map fun (t, z) => narrow t z) = [.int x0] := by rw [hty]; rfl
    obtain ⟨X1, st1⟩ := X.lambdaMakes hx (g := F0 m 2 ls (.int x0 :: rest)) rfl hsz (by rw [hb]; exact dX1_turnOutput_2) (vals := [.int x0]) (rest := rest) h2 h6 h4 hc hnt (parseLong_of_parse hsite) (by rw [hpar]; rfl) rfl g1
      (by rw [X.admits.platform]; show 2 * 0 + (1 + ((rest.map fun v => v.category).sum)) + 3072 ≤ R.locals; omega) hf.1 (by rw [hslotsE]; exact hf.2)
      (fun i_ v_ hz => by
        rw [hslotsE] at hz
        rcases i_ with _ | i_
        · simp at hz; subst hz; simp [State.fitsSlot, State.slotType?, g1, hkind, hty2, fits]
        simp at hz)
    rw [hslotsE] at X1 st1
    obtain ⟨t, a1, b1⟩ := kk T.heap.size ({ cls := cK, slots := #[.int x0], vm := .none } : Cell) (T.heap.push ({ cls := cK, slots := #[.int x0], vm := .none } : Cell)) hKl (by simp) rfl rfl (by simp) (fun k_ q_ hq => by have := (hP k_ q_ hq).lt; omega) (fun k_ q_ hq => (hP k_ q_ hq).kept (by rw [Array.getElem?_push_lt (hP k_ q_ hq).lt]; exact (Array.getElem?_eq_getElem (hP k_ q_ hq).lt).symm))
      ⟨Nat.le_trans hS.1 (by simp), fun q_ hq1 hq2 => by rw [Array.getElem?_push_lt (Nat.lt_of_lt_of_le hq1 hS.1), ← hS.2.1 q_ hq1 hq2]; exact (Array.getElem?_eq_getElem (Nat.lt_of_lt_of_le hq1 hS.1)).symm, hS.2.2⟩ _ (by rfl) X1
    exact ⟨t, st1 _ a1, b1⟩
theorem lm5_new {p : Program} {l : Launch} {e : Env} {R : Room} {s : State} {m : MethodId} {args : Array Value} {below : List Frame} {meth : Method} {c : Code} {H : Heap} {locs : List Loc} {cells slots : Nat} {Q : State → Prop} {ls : Array Slot} {rest : List Value} {D : va_G} {cl : List vw_C} {A : Nat → Prop} {ws : va_W} {x0 : Int32}
    (hx : p.tables.exec = Jvm.exec) (hb : c.code = cX1_turnBox) (hts : ∀ w ∈ lw_all, w.before args s = true) (hnm : s.methodNamed? yX1_turnBox = some m) (hsz : ls.size = c.maxLocals) (hL : lm_L yX1_turnBox 2 247 lm5_S A s) (hP : va_P D cl ws H) (hD : va_D A ws) (hS : va_S A s.heap H locs)
    (hW : (rest.map fun v => v.category).sum ≤ 8) (hR : 3100 ≤ R.locals) (hf : cells + 1 ≤ R.cells ∧ slots + 1 ≤ R.slots) (kk : ∀ (la : Nat) (lc : Cell) (H1 : Heap), lm_K lm5_S s lc.cls → H1[la]? = some lc → lc.vm = .none → lc.slots = #[.int x0] → la < H1.size → (∀ (k : Nat) (q : Nat × va_E), ws[k]? = some q → q.1 ≠ la) → va_P D cl ws H1 → va_S A s.heap H1 locs → W p l e R s m args below meth c H1 locs (cells + 1) (slots + 1) Q (F0 m 7 ls (.ref la :: rest))) :
    W p l e R s m args below meth c H locs cells slots Q (F0 m 2 ls (.int x0 :: rest)) := by
  intro T hT X
  subst hT
  obtain ⟨m', k, cf, i0, p0, lk, cK, h1, h2, h3, h4, h5, h6, h7, h8, h9⟩ := hL
  cases hnm.symm.trans h1
  have hKl : lm_K lm5_S s cK := ⟨m.cls, k, h2, h3, h7, h8⟩
  rcases h9 with ⟨a, cell, e1, e3, -⟩ | ⟨rfl, h9⟩
  · exact absurd e3 (by decide)
  · obtain ⟨bsm, nt, desc, site, hc, hnt, hsite, hpar⟩ := lm_site h5
    obtain ⟨kK, tk, file, methk, ck, toy, t0, ci, nt0, g1, -, -, -, -, -, -, -, -, -, -, -, -, -, -, -, -, -, -, hty⟩ := lm5_F hts hKl s.vm (State.WarmedH.refl s)
    obtain ⟨dk', kK', ok, tk', file', cf', object, iface, t', lay, methods, target, found, -, hk', -, -, -, -, -, -, -, -, -, -, -, ⟨-, hkind, -⟩, -⟩ := Lambda.isMade_spec h7
    cases g1.symm.trans hk'
    have hty2 : kK.instanceTypes = (List.replicate 1 FieldType.int).toArray := by rw [← hty]
    have hslotsE : ((kK.instanceTypes.toList.zip ([.int x0] : List Value)).map fun (t, z) => narrow t z) = [.int x0] := by rw [hty]; rfl
    obtain ⟨X1, st1⟩ := X.lambdaMakes hx (g := F0 m 2 ls (.int x0 :: rest)) rfl hsz (by rw [hb]; exact dX1_turnBox_2) (vals := [.int x0]) (rest := rest) h2 h6 h4 hc hnt (parseLong_of_parse hsite) (by rw [hpar]; rfl) rfl g1
      (by rw [X.admits.platform]; show 2 * 0 + (1 + ((rest.map fun v => v.category).sum)) + 3072 ≤ R.locals; omega) hf.1 (by rw [hslotsE]; exact hf.2)
      (fun i_ v_ hz => by
        rw [hslotsE] at hz
        rcases i_ with _ | i_
        · simp at hz; subst hz; simp [State.fitsSlot, State.slotType?, g1, hkind, hty2, fits]
        simp at hz)
    rw [hslotsE] at X1 st1
    obtain ⟨t, a1, b1⟩ := kk T.heap.size ({ cls := cK, slots := #[.int x0], vm := .none } : Cell) (T.heap.push ({ cls := cK, slots := #[.int x0], vm := .none } : Cell)) hKl (by simp) rfl rfl (by simp) (fun k_ q_ hq => by have := (hP k_ q_ hq).lt; omega) (fun k_ q_ hq => (hP k_ q_ hq).kept (by rw [Array.getElem?_push_lt (hP k_ q_ hq).lt]; exact (Array.getElem?_eq_getElem (hP k_ q_ hq).lt).symm))
      ⟨Nat.le_trans hS.1 (by simp), fun q_ hq1 hq2 => by rw [Array.getElem?_push_lt (Nat.lt_of_lt_of_le hq1 hS.1), ← hS.2.1 q_ hq1 hq2]; exact (Array.getElem?_eq_getElem (Nat.lt_of_lt_of_le hq1 hS.1)).symm, hS.2.2⟩ _ (by rfl) X1
    exact ⟨t, st1 _ a1, b1⟩
