/-! surroundings where lists are made; calls through interfaces -/
set_option maxRecDepth 100000
def EvFw (s : State) : Prop := va_Fw "java/util/ArrayList" ⟨"java/util/List", "add", "(Ljava/lang/Object;)Z"⟩ yJ22_add s ∧ va_Fw "java/util/ArrayList" ⟨"java/util/List", "size", "()I"⟩ yJ22_size s ∧ va_Fw "java/util/ArrayList" ⟨"java/util/List", "get", "(I)Ljava/lang/Object;"⟩ yJ22_get s
/-- where lists are made -/
def EvL (A : Nat → Prop) (s : State) : Prop := EvZ A s ∧ (∃ mi : Nat, va_Mi "[Ljava/lang/Object;" mi s) ∧ va_Dc s ∧ EvFw s
theorem EvL_ok : EvOk EvL := by
  intro A A1 s U hE hW hq hs
  obtain ⟨h1, ⟨mi, h2⟩, h3, h4, h5, h6⟩ := hE
  exact ⟨EvZ_ok A A1 s U h1 hW hq hs, ⟨mi, h2.moved hW.alike⟩, h3.moved hW.alike, h4.moved (by decide) hW.alike, h5.moved (by decide) hW.alike, h6.moved (by decide) hW.alike⟩
theorem lw_F {own : String} {idx : Nat} {C : String} {x y : MethodName} {b : ByteArray} {L : Nat} {r : Option FieldType} (h1 : Cond.methodLink own idx x ∈ lw_all) (h3 : Cond.selects C x y ∈ lw_all) (h4 : Cond.instanceMethod y ∈ lw_all) (h5 : Cond.initialized y.cls ∈ lw_all) (h6 : Cond.code y b L r ∈ lw_all) : GoodIn lw_all (va_wsF own idx C x y (ws_ y b L r)) := by
  refine lw_app ?_ (lw_meth h6)
  intro w hw
  simp only [List.mem_cons, List.not_mem_nil, or_false] at hw
  rcases hw with e | e | e | e <;> (rw [e]; assumption)
section FROWS
variable {p : Program} {l : Launch} {e : Env} {R : Room} {s : State} {m : MethodId} {args : Array Value} {below : List Frame} {meth : Method} {c : Code} {H : Heap} {locs : List Loc} {cells slots : Nat} {Q : State → Prop}
variable {cc : ByteArray} {pc : Nat} {ls : Array Slot} {rest : List Value}
theorem xr_F {Ev : (Nat → Prop) → State → Prop} {D : va_G} {cl : List vw_C} {tys : List (ClassId × FieldType)} {A : Nat → Prop} {wc : va_W} {J : va_W → va_W} {x y : MethodName} {bytes : ByteArray} {maxL nL mc ms n index count : Nat} {ret : Option FieldType} {wy : List Cond} {rm : Room} {Qc : Array Value → State → Outcome → State → Prop} {free : Addr → Prop} {Ts : List Cond} {own C0 : String} {As st0 : List Value} {b ci q0 : Nat} {fs : List Value} {T0 : u_T} {N0 : Nat}
    (hM : Met l y wy rm (va_Pc (.ref b :: As) (PreW Ev D cl tys wc H.size)) Qc mc ms free) (C : CallFix p m c cc nL s args Ts own) (cw : va_CI R s args own C0 index x y bytes maxL ret wy rm mc ms n) (hEv : EvOk Ev) (hE : Ev A s) (hK : va_K D cl tys s) (hS : va_S A s.heap H locs) (cut : Cut D cl A wc J H)
    (hq : wc[q0]? = some (b, .inr (ci, fs))) (hc : cl[ci]? = some (C0, T0, N0)) (hn : As.length = n) (hsize : ls.size = nL) (hst : st0 = As.reverse ++ .ref b :: rest) (hW : (rest.map fun v => v.category).sum ≤ 8) (hdg : decode cc pc = .ok (.invokeinterface index count, 5)) (hf : cells + mc ≤ R.cells ∧ slots + ms ≤ R.slots) :
    va_Run5 p l e R s m args below meth c H locs cells slots mc ms (F0 m pc ls st0) rest (Qc (Value.ref b :: As).toArray) free :=
  va_runF (As := As) (rest := rest) (hK.1 ci _ hc).2 C hM cw ⟨(xc_pre (As := .ref b :: As) hEv hE hK hS cut).1, va_recv hK cut.1 hc hq, (xc_pre hEv hE hK hS cut).2⟩ rfl hn hsize hst (lv_room hW) hdg hf
theorem xf_i {S : Type} {D : va_G} {cl : List vw_C} {tys : List (ClassId × FieldType)} {A : Nat → Prop} {wc : va_W} {J : va_W → va_W} {wf : S → va_W} {mc ms : Nat} {a : Array Value} {st0 : List Value} {post : Int32 → S → Prop} (hr : va_Run5 p l e R s m args below meth c H locs cells slots mc ms (F0 m pc ls st0) rest (va_Qi post (PostW D cl tys wf (va_A wc H.size)) (va_A wc H.size) a) (va_A wc H.size)) (hS : va_S A s.heap H locs) (cut : Cut D cl A wc J H)
    (kk : ∀ (r : Int32) (u : S) (H1 : Heap) (locs1 : List Loc), post r u → va_P D cl (J (wf u)) H1 → va_D A (J (wf u)) → va_S A s.heap H1 locs1 → W p l e R s m args below meth c H1 locs1 (cells + mc) (slots + ms) Q (F0 m (pc + 5) ls (.int r :: rest))) : W p l e R s m args below meth c H locs cells slots Q (F0 m pc ls (st0)) :=
  va_callFi hr hS (fun q _ h => cut.2.2.1 q h) cut.2.2.1 (fun r u t H1 locs1 ht hvm hp hB hz hk hS1 => by
    obtain ⟨hP1, hK1, hD1⟩ := hB
    rw [ht] at hP1
    obtain ⟨g1, g2⟩ := cut.2.2.2 H1 _ hk hz hP1 hD1
    exact kk r u H1 locs1 hp g1 g2 hS1)
theorem xf_r {S : Type} {D : va_G} {cl : List vw_C} {tys : List (ClassId × FieldType)} {A : Nat → Prop} {wc : va_W} {J : va_W → va_W} {wf : S → va_W} {mc ms : Nat} {a : Array Value} {st0 : List Value} {post : S → Prop} {ad : S → Nat} (hr : va_Run5 p l e R s m args below meth c H locs cells slots mc ms (F0 m pc ls st0) rest (va_Qr post (fun u r t => r = ad u ∧ PostW D cl tys wf (va_A wc H.size) u t) (va_A wc H.size) a) (va_A wc H.size)) (hS : va_S A s.heap H locs) (cut : Cut D cl A wc J H)
    (kk : ∀ (u : S) (H1 : Heap) (locs1 : List Loc), post u → va_P D cl (J (wf u)) H1 → va_D A (J (wf u)) → va_S A s.heap H1 locs1 → W p l e R s m args below meth c H1 locs1 (cells + mc) (slots + ms) Q (F0 m (pc + 5) ls (.ref (ad u) :: rest))) : W p l e R s m args below meth c H locs cells slots Q (F0 m pc ls (st0)) :=
  va_callFr hr hS (fun q _ h => cut.2.2.1 q h) cut.2.2.1 (fun u r t H1 locs1 ht hvm hp hB hz hk hS1 => by
    obtain ⟨rfl, hP1, hK1, hD1⟩ := hB
    rw [ht] at hP1
    obtain ⟨g1, g2⟩ := cut.2.2.2 H1 _ hk hz hP1 hD1
    exact kk u H1 locs1 hp g1 g2 hS1)
end FROWS
