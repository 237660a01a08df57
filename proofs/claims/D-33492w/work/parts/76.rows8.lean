/-! rows for changes through lambdas -/
set_option maxRecDepth 100000
theorem Met.vx {l : Launch} {y : MethodName} {ws : List Cond} {rm : Room} {Pc : Array Value → State → Prop} {Qc : Array Value → State → Outcome → State → Prop} {XC : String → State → State → Prop} {mc ms : Nat} {free : Addr → Prop} (h : Met l y ws rm Pc Qc mc ms free) : vx_Met l y ws rm Pc Qc XC mc ms free := by
  intro p e h1 h2 h3 s m args below h4 h5 h6 h7
  obtain ⟨n, o, g1, g2, g3, g4⟩ := h p e h1 h2 h3 s m args below h4 h5 h6 h7
  exact ⟨n, o, g1, g2, g3, Or.inl g4⟩
theorem vx_Met.q {l : Launch} {y : MethodName} {ws : List Cond} {rm : Room} {Pc : Array Value → State → Prop} {Qc Qc' : Array Value → State → Outcome → State → Prop} {XC : String → State → State → Prop} {mc ms : Nat} {free : Addr → Prop} (hq : ∀ a s o t, Qc a s o t → Qc' a s o t) (h : vx_Met l y ws rm Pc Qc XC mc ms free) : vx_Met l y ws rm Pc Qc' XC mc ms free := by
  intro p e h1 h2 h3 s m args below h4 h5 h6 h7
  obtain ⟨n, o, g1, g2, g3, g4⟩ := h p e h1 h2 h3 s m args below h4 h5 h6 h7
  exact ⟨n, o, g1, g2, g3, g4.imp (fun z => ⟨hq _ _ _ _ z.1, z.2⟩) id⟩
theorem vx_Met.r {l : Launch} {y : MethodName} {ws : List Cond} {rm : Room} {Pc : Array Value → State → Prop} {Qc : Array Value → State → Outcome → State → Prop} {XC : String → State → State → Prop} {mc ms : Nat} {free : Addr → Prop} {A : Nat → Prop} (h : vx_Met l y ws rm Pc (QN A) XC mc ms free) : vx_Met l y ws rm Pc Qc XC mc ms free := vx_Met.q (fun _ _ _ _ z => by obtain ⟨⟨_, _, q, _⟩, _⟩ := z; exact q.elim) h
/-- the surroundings of 'change': the object that the lambda is stands at la -/
def EvC (σ : Lambda.Shape) (la : Nat) (vs : Array Value) (A : Nat → Prop) (s : State) : Prop := EvY A s ∧ ¬ A la ∧ ∃ lc : Cell, lm_K σ s lc.cls ∧ s.heap[la]? = some lc ∧ lc.vm = .none ∧ lc.slots = vs
theorem EvC_ok (σ : Lambda.Shape) (la : Nat) (vs : Array Value) : EvOk (EvC σ la vs) := by
  intro A A1 s U hE hW hq hs
  obtain ⟨h1, h2, lc, h3, h4, h5, h6⟩ := hE
  exact ⟨EvY_ok A A1 s U h1 hW hq hs, fun z => h2 (hs _ z), lc, h3.warm hW, (hq la (Array.getElem?_eq_some_iff.mp h4).1 h2).trans h4, h5, h6⟩
section CROWS
variable {p : Program} {l : Launch} {e : Env} {R : Room} {s : State} {m : MethodId} {args : Array Value} {below : List Frame} {meth : Method} {c : Code} {H : Heap} {locs : List Loc} {cells slots : Nat} {Q : State → Prop}
variable {cc : ByteArray} {pc : Nat} {ls : Array Slot} {rest : List Value}
theorem xc5_i {S : Type} {D : va_G} {cl : List vw_C} {tys : List (ClassId × FieldType)} {A : Nat → Prop} {wc : va_W} {J : va_W → va_W} {wf : S → va_W} {mc ms : Nat} {a : Array Value} {st0 : List Value} {post : Int32 → S → Prop} {BX : String → Unit → State → Prop} (hr : vx_Run5 p l e R s m args below meth c H locs cells slots mc ms (F0 m pc ls st0) rest (va_Qi post (PostW D cl tys wf (va_A wc H.size)) (va_A wc H.size) a) (vx_X (fun _ : Unit => False) BX (va_A wc H.size)) (va_A wc H.size)) (hS : va_S A s.heap H locs) (cut : Cut D cl A wc J H)
    (kk : ∀ (r : Int32) (u : S) (H1 : Heap) (locs1 : List Loc), post r u → va_P D cl (J (wf u)) H1 → va_D A (J (wf u)) → va_S A s.heap H1 locs1 → W p l e R s m args below meth c H1 locs1 (cells + mc) (slots + ms) Q (F0 m (pc + 5) ls (.int r :: rest))) : W p l e R s m args below meth c H locs cells slots Q (F0 m pc ls st0) :=
  vx_callFi hr hS (fun q _ h => cut.2.2.1 q h) cut.2.2.1 (fun q _ h => cut.2.2.1 q h) (fun _ _ _ _ _ _ _ _ _ z => z.elim) (fun r u t H1 locs1 ht hvm hp hB hz hk hS1 => by
    obtain ⟨hP1, hK1, hD1⟩ := hB
    rw [ht] at hP1
    obtain ⟨g1, g2⟩ := cut.2.2.2 H1 _ hk hz hP1 hD1
    exact kk r u H1 locs1 hp g1 g2 hS1)
theorem xt5_out {S : Type} {D : va_G} {cl : List vw_C} {tys : List (ClassId × FieldType)} {A : Nat → Prop} {wc wt : va_W} {J : va_W → va_W} {E0 : String} {mc ms mc0 ms0 : Nat} {st0 : List Value} {a : Array Value} {Qc : Array Value → State → Outcome → State → Prop} {B : S → State → Prop} {A1 : Nat → Prop} (hA1 : A1 = va_A wc H.size) (hr : vx_Run5 p l e R s m args below meth c H locs cells slots mc ms (F0 m pc ls st0) rest (va_Qi (fun (_ : Int32) (_ : S) => False) B A1 a) (XT E0 D cl tys wc (va_A wc H.size)) (va_A wc H.size))
    (hS : va_S A s.heap H locs) (cut : Cut D cl A wc J H) (hsub : ∀ H1 : Heap, va_P D cl (J wc) H1 → va_D A (J wc) → va_P D cl wt H1 ∧ va_D A wt) (hex : ∀ x ∈ c.exceptionTable.toList, False) (hlocks : meth.locks = false) (hK : va_K D cl tys s) (hc : cells + mc ≤ mc0) (hs : slots + ms ≤ ms0) :
    W p l e R s m args below meth c H locs cells slots (vx_MQ below Qc (XT E0 D cl tys wt A) args s mc0 ms0 A) (F0 m pc ls st0) := by
  subst hA1
  refine vx_callFi (A0 := A) hr hS (fun q _ h => cut.2.2.1 q h) (fun q h => cut.2.2.1 q h) (fun q _ h => cut.2.2.1 q h) (fun E ce q9 u t H1 locs1 ht hvm _ hbx hz hk hS1 hce hcv hcl => ?_) (fun r u t H1 locs1 _ _ hf => hf.elim)
  obtain ⟨rfl, hP1, hK1, hD1⟩ := hbx
  rw [ht] at hP1
  obtain ⟨g1, g2⟩ := cut.2.2.2 H1 _ hk hz hP1 hD1
  obtain ⟨k1, k2⟩ := hsub H1 g1 g2
  exact vx_out (fun x h => (hex x h).elim) hlocks hce hcv hcl (fun t' ht' hv' => ⟨(), trivial, ⟨rfl, by rw [ht']; exact k1, va_K.moved hv' hK, k2⟩, hS1.F ht'⟩) (fun z h => hS1.2.2 z h) hc hs
theorem xc_preC {D : va_G} {cl : List vw_C} {tys : List (ClassId × FieldType)} {A : Nat → Prop} {wc : va_W} {J : va_W → va_W} {As : List Value} {σ : Lambda.Shape} {la : Nat} {vs : Array Value} {lc : Cell} (hE : EvY A s) (hK : va_K D cl tys s) (hS : va_S A s.heap H locs) (cut : Cut D cl A wc J H) (h1 : lm_K σ s lc.cls) (h2 : H[la]? = some lc) (h3 : lc.vm = .none) (h4 : lc.slots = vs) (h5 : ∀ (k : Nat) (q : Nat × va_E), wc[k]? = some q → q.1 ≠ la) : PreS s H (va_Pc As (PreW (EvC σ la vs) D cl tys wc H.size)) As := by
  refine ⟨fun a U g mk q => ?_, fun U hU hW => ⟨rfl, by rw [hU], by rw [hU]; exact cut.1, va_K.moved hW.alike hK, cut.2.1, EvY_ok A _ s U hE hW (fun q h1 h2 => by rw [hU]; exact hS.2.1 q h1 h2) cut.2.2.1, ?_, lc, h1.warm hW, by rw [hU]; exact h2, h3, h4⟩⟩
  · obtain ⟨q0, q1, qP, qK, qD, qE⟩ := q
    exact ⟨q0, q1, qP, va_K.moved (u := U) (U := U.calling g mk a) (Vm.Alike.refl U.vm) qK, qD, EvC_ok _ _ _ _ _ U _ qE (State.WarmedH.refl U) (fun _ _ _ => rfl) (fun _ h => h)⟩
  · rintro (⟨k, e0, h⟩ | h)
    · exact h5 k _ h rfl
    · have := (Array.getElem?_eq_some_iff.mp h2).1; omega
theorem xr_VC {D : va_G} {cl : List vw_C} {tys : List (ClassId × FieldType)} {A : Nat → Prop} {wc : va_W} {J : va_W → va_W} {y : MethodName} {bytes : ByteArray} {maxL nL mc ms n index : Nat} {ret : Option FieldType} {wy : List Cond} {rm : Room} {Qc : Array Value → State → Outcome → State → Prop} {free : Addr → Prop} {Ts : List Cond} {own C0 : String} {As st0 : List Value} {b ci q0 : Nat} {fs : List Value} {T0 : u_T} {N0 : Nat} {σ : Lambda.Shape} {la : Nat} {vs : Array Value} {lc : Cell} (hM : Met l y wy rm (va_Pc (.ref b :: As) (PreW (EvC σ la vs) D cl tys wc H.size)) Qc mc ms free) (C : CallFix p m c cc nL s args Ts own) (cw : CallW R s args own C0 index y bytes maxL ret wy rm mc ms n) (hE : EvY A s) (hK : va_K D cl tys s) (hS : va_S A s.heap H locs) (cut : Cut D cl A wc J H) (h1 : lm_K σ s lc.cls) (h2 : H[la]? = some lc) (h3 : lc.vm = .none) (h4 : lc.slots = vs) (h5 : ∀ (k : Nat) (q : Nat × va_E), wc[k]? = some q → q.1 ≠ la) (hq : wc[q0]? = some (b, .inr (ci, fs))) (hc : cl[ci]? = some (C0, T0, N0)) (hn : As.length = n) (hsize : ls.size = nL) (hst : st0 = As.reverse ++ .ref b :: rest) (hW : (rest.map fun v => v.category).sum ≤ 8) (hdg : decode cc pc = .ok (.invokevirtual index, 3)) (hf : cells + mc ≤ R.cells ∧ slots + ms ≤ R.slots) :
    va_Run p l e R s m args below meth c H locs cells slots mc ms (F0 m pc ls st0) rest (Qc (Value.ref b :: As).toArray) free :=
  va_runV (As := As) (rest := rest) C hM cw ⟨(xc_preC (As := .ref b :: As) hE hK hS cut h1 h2 h3 h4 h5).1, va_recv hK cut.1 hc hq, (xc_preC hE hK hS cut h1 h2 h3 h4 h5).2⟩ rfl hn hsize hst (lv_room hW) hdg hf
theorem xt_VC {D : va_G} {cl : List vw_C} {tys : List (ClassId × FieldType)} {A : Nat → Prop} {wc : va_W} {J : va_W → va_W} {y : MethodName} {bytes : ByteArray} {maxL nL mc ms n index : Nat} {ret : Option FieldType} {wy : List Cond} {rm : Room} {Qc : Array Value → State → Outcome → State → Prop} {XC : String → State → State → Prop} {free : Addr → Prop} {Ts : List Cond} {own C0 : String} {As st0 : List Value} {b ci q0 : Nat} {fs : List Value} {T0 : u_T} {N0 : Nat} {σ : Lambda.Shape} {la : Nat} {vs : Array Value} {lc : Cell} (hM : vx_Met l y wy rm (va_Pc (.ref b :: As) (PreW (EvC σ la vs) D cl tys wc H.size)) Qc XC mc ms free) (C : CallFix p m c cc nL s args Ts own) (cw : CallW R s args own C0 index y bytes maxL ret wy rm mc ms n) (hE : EvY A s) (hK : va_K D cl tys s) (hS : va_S A s.heap H locs) (cut : Cut D cl A wc J H) (h1 : lm_K σ s lc.cls) (h2 : H[la]? = some lc) (h3 : lc.vm = .none) (h4 : lc.slots = vs) (h5 : ∀ (k : Nat) (q : Nat × va_E), wc[k]? = some q → q.1 ≠ la) (hq : wc[q0]? = some (b, .inr (ci, fs))) (hc : cl[ci]? = some (C0, T0, N0)) (hn : As.length = n) (hsize : ls.size = nL) (hst : st0 = As.reverse ++ .ref b :: rest) (hW : (rest.map fun v => v.category).sum ≤ 8) (hdg : decode cc pc = .ok (.invokevirtual index, 3)) (hf : cells + mc ≤ R.cells ∧ slots + ms ≤ R.slots) :
    vx_Run p l e R s m args below meth c H locs cells slots mc ms (F0 m pc ls st0) rest (Qc (Value.ref b :: As).toArray) XC free :=
  vx_runV (As := As) (rest := rest) C hM cw ⟨(xc_preC (As := .ref b :: As) hE hK hS cut h1 h2 h3 h4 h5).1, va_recv hK cut.1 hc hq, (xc_preC hE hK hS cut h1 h2 h3 h4 h5).2⟩ rfl hn hsize hst (lv_room hW) hdg hf
end CROWS
