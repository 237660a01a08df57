/-! the widest surroundings (EvZ); rows for bytes, chars -/
set_option maxRecDepth 100000
def EvSt (A : Nat → Prop) (s : State) : Prop := ∃ adK adV : Nat → Nat, vk_S 2 [8, 4] [[65, 79, 88, 78, 82, 83, 73, 67], [62, 35, 63, 37]] adK adV A s s.heap ∧ vk_R "RosehipCircuits$Reader" 47 "AOXNRSIC" (adK 0) s ∧ vk_R "RosehipCircuits$Reader" 55 ">#?%" (adK 1) s ∧ vk_R "RosehipCircuits" 313 "AOXNRSIC" (adK 0) s
def EvDe (A : Nat → Prop) (s : State) : Prop := ∃ t : Nat, va_Z "java/util/ArrayList" "DEFAULTCAPACITY_EMPTY_ELEMENTDATA" "[Ljava/lang/Object;" (.ref t) A s s.heap ∧ va_T (.object "java/lang/Object") t 0 (fun _ => .null) A s s.heap
/-- private methods of the builder's superclass are what is run -/
def EvPr (s : State) : Prop := (Cond.selects RJ3 yJ2_ensureCapacityInternal yJ2_ensureCapacityInternal).before #[] s = true ∧ (Cond.selects RJ3 yJ2_newCapacity yJ2_newCapacity).before #[] s = true
theorem EvPr.warm {s U : State} (h : EvPr s) (hW : s.WarmedH U.vm) : EvPr U := ⟨word_at hW (Or.inl rfl) h.1, word_at hW (Or.inl rfl) h.2⟩
/-- which handlers do not catch what -/
def EvNc (s : State) : Prop := va_Nc "java/lang/IllegalArgumentException" "java/lang/IndexOutOfBoundsException" s ∧ va_Nc "java/lang/IllegalStateException" "java/lang/IndexOutOfBoundsException" s ∧ va_Nc "java/lang/IllegalStateException" "java/lang/IllegalArgumentException" s
/-- what holds where the component's text is read, where its objects are made -/
def EvZ (A : Nat → Prop) (s : State) : Prop := EvY A s ∧ va_AO "java/lang/Object" s ∧ va_Z "java/lang/String" "COMPACT_STRINGS" "Z" (.int 1) A s s.heap ∧ va_Zq "jdk/internal/util/Preconditions" "SIOOBE_FORMATTER" "Ljava/util/function/BiFunction;" A s s.heap ∧ EvDe A s ∧ EvSt A s ∧ EvPr s ∧ EvNc s
theorem EvZ_ok : EvOk EvZ := by
  intro A A1 s U hE hW hq hs
  obtain ⟨h1, h2, h3, h4, ⟨t, h5, h6⟩, ⟨adK, adV, h7, h8, h9, h10⟩, h11, h12, h13, h14⟩ := hE
  exact ⟨EvY_ok A A1 s U h1 hW hq hs, h2.moved hW.alike, ((h3.kept hq).moved hW.alike).narrow hs, ((h4.kept hq).moved hW.alike).narrow hs, ⟨t, ((h5.kept hq).moved hW.alike).narrow hs, ((h6.kept hq).moved hW.alike).narrow hs⟩,
    ⟨adK, adV, ((h7.kept hq).moved hW.alike).narrow hs, h8.warm hW, h9.warm hW, h10.warm hW⟩, h11.warm hW, h12.moved hW.alike, h13.moved hW.alike, h14.moved hW.alike⟩
section ZROWS
variable {p : Program} {l : Launch} {e : Env} {R : Room} {s : State} {m : MethodId} {args : Array Value} {below : List Frame} {meth : Method} {c : Code} {H : Heap} {locs : List Loc} {cells slots : Nat} {Q : State → Prop}
variable {cc : ByteArray} {pc : Nat} {ls : Array Slot} {rest : List Value}
theorem va_KsameB {D : va_G} {cl : List vw_C} {tys : List (ClassId × FieldType)} {c1 c2 : ClassId} (t0 : Nat) (ht : tys[t0]? = some (c1, .byte)) (h : va_K D cl (tys ++ [(c2, .byte)]) s) : c2 = c1 := by
  have h1 := (h.2 t0 (c1, .byte) (by rw [List.getElem?_append_left (List.getElem?_eq_some_iff.mp ht).1]; exact ht)).2
  have h2 := (h.2 tys.length (c2, .byte) (by simp)).2
  exact Option.some.inj (Eq.trans (Eq.symm (show s.vm.findClass ("[" ++ (FieldType.byte).toString) = some c2 from h2)) h1)
theorem nv_newb {D : va_G} {cl : List vw_C} {A : Nat → Prop} {tys : List (ClassId × FieldType)} {ws : va_W} {H0 : Heap} (hx : p.tables.exec = Jvm.exec) (hb : c.code = cc) (harr : (Cond.arrayClass .byte).before args s = true) (hK : va_K D cl tys s) (hP : va_P D cl ws H) (hD : va_D A ws) (hS : va_S A H0 H locs) (hA : ∀ q, H0.size ≤ q → A q) (t0 : Nat) {cA0 : ClassId} (ht : tys[t0]? = some (cA0, .byte))
    {N : Nat} (hN : N < 2 ^ 31) (hbytes : N * componentBytes .byte ≤ 536870912) (hf : cells + 1 ≤ R.cells ∧ slots + N ≤ R.slots) (hdg : decode cc pc = .ok (.newarray .byte, 2))
    (kk : ∀ (q : Nat) (H1 : Heap), va_P D cl (ws ++ [(q, .inl (cA0, N, .inl (fun _ => 0)))]) H1 → va_D A (ws ++ [(q, .inl (cA0, N, .inl (fun _ => 0)))]) → va_S A H0 H1 locs →
      W p l e R s m args below meth c H1 locs (cells + 1) (slots + N) Q (F0 m (pc + 2) ls (.ref q :: rest))) : W p l e R s m args below meth c H locs cells slots Q (F0 m pc ls (.int (nI N) :: rest)) :=
  va_newa (atype := .byte) (ty := .byte) (a0 := (N, .inl (fun _ => 0))) hx hb harr rfl hK hP hD hS hA (fun _ => rfl) (fun h => by have h := Int32.lt_iff_toInt_lt.mp h; rw [nI_toInt hN] at h; have : (0 : Int32).toInt = 0 := rfl; omega) (nI_clamp hN) hbytes hf.1 hf.2 hdg (fun q cA H1 hK1 hP1 hD1 hS1 => by
    have e := va_KsameB t0 ht hK1
    subst e
    exact kk q H1 hP1 hD1 hS1)
theorem nv_bald {D : va_G} {cl : List vw_C} {a : Nat} {tys : List (ClassId × FieldType)} {ws : va_W} (hx : p.tables.exec = Jvm.exec) (hb : c.code = cc) (hK : va_K D cl tys s) (hP : va_P D cl ws H) (q0 t0 : Nat) {cA : ClassId} {n : Nat} {f : Nat → Int32} (ha : ws[q0]? = some (a, .inl (cA, n, .inl f))) (ht : tys[t0]? = some (cA, .byte)) {i : Nat} (hi : i < n) (hn : n < 2 ^ 31) (hdg : decode cc pc = .ok (.baload, 1)) (k : W p l e R s m args below meth c H locs cells slots Q (F0 m (pc + 1) ls (.int (f i) :: rest))) : W p l e R s m args below meth c H locs cells slots Q (F0 m pc ls (.int (nI i) :: .ref a :: rest)) := va_bald hx hb hK hP q0 t0 ha ht (vp_in_nI hi hn) hdg (by rw [nI_clamp (Nat.lt_trans hi hn)]; exact k)
/-- a byte stored that is one -/
theorem nv_bast {D : va_G} {cl : List vw_C} {A : Nat → Prop} {a : Nat} {tys : List (ClassId × FieldType)} {ws : va_W} {H0 : Heap} (hx : p.tables.exec = Jvm.exec) (hb : c.code = cc) (hK : va_K D cl tys s) (hP : va_P D cl ws H) (hD : va_D A ws) (hS : va_S A H0 H locs) (q0 t0 : Nat) {cA : ClassId} {n : Nat} {f : Nat → Int32} (ha : ws[q0]? = some (a, .inl (cA, n, .inl f))) (ht : tys[t0]? = some (cA, .byte)) {i : Nat} {x : Int32} (hxx : vp_nar .byte x = x) (hi : i < n) (hn : n < 2 ^ 31) (hdg : decode cc pc = .ok (.bastore, 1)) (k : ∀ (H1 : Heap) (locs1 : List Loc), va_P D cl (ws.set q0 (a, .inl (cA, n, .inl (upd f i x)))) H1 → va_D A (ws.set q0 (a, .inl (cA, n, .inl (upd f i x)))) → va_S A H0 H1 locs1 → W p l e R s m args below meth c H1 locs1 cells slots Q (F0 m (pc + 1) ls (rest))) : W p l e R s m args below meth c H locs cells slots Q (F0 m pc ls (.int x :: .int (nI i) :: .ref a :: rest)) := va_bast hx hb hK hP hD hS q0 t0 ha ht (vp_in_nI hi hn) hdg (by rw [nI_clamp (Nat.lt_trans hi hn), hxx]; exact k)
theorem xe_c {S : Type} {D : va_G} {cl : List vw_C} {tys : List (ClassId × FieldType)} {A : Nat → Prop} {wf : S → va_W} {post : Int32 → S → Prop} {v : Int32} (u : S) (hx : p.tables.exec = Jvm.exec) (hb : c.code = cc) (hr : meth.sig.returnType = some .char) (hn : narrow .char (.int v) = .int v) (hlocks : meth.locks = false) (hK : va_K D cl tys s) (hP : va_P D cl (wf u) H) (hD : va_D A (wf u)) (hS : va_S A s.heap H locs) (hpost : post v u) (hdg : decode cc pc = .ok (.ireturn, 1)) : W p l e R s m args below meth c H locs cells slots (MQ below (va_Qi post (PostW D cl tys wf A) A) args s cells slots A) (F0 m pc ls [.int v]) := W.zret hx hb hr hn (fun t ht hW => ⟨⟨v, u, rfl, hpost, by rw [ht]; exact hP, va_K.moved hW.alike hK, hD⟩, hS.F ht⟩) hS.2.2 hdg hlocks
/-- a private method of a superclass, called on an object of the class C -/
theorem va_cwP {own C : String} {index maxL mc ms : Nat} {y : MethodName} {bytes : ByteArray} {ret : Option FieldType} {rm : Room} (n : Nat) (ht : ∀ w ∈ lw_all, w.before args s = true) (h1 : Cond.methodLink own index y ∈ lw_all) (h2 : Cond.sameMethod y.cls y.cls y.name y.desc ∈ lw_all) (h3 : (Cond.selects C y y).before #[] s = true) (h4 : Cond.instanceMethod y ∈ lw_all) (h5 : Cond.initialized y.cls ∈ lw_all) (h6 : Cond.code y bytes maxL ret ∈ lw_all) (hrc : rm.cells = mc) (hrs : rm.slots = ms)
    (hd : y.cls ≠ "java/lang/invoke/MethodHandle" ∧ y.cls ≠ "java/lang/invoke/VarHandle" ∧ (parseMethodDescriptor y.desc).map (fun d => d.parameters.length) = some n) (hR : rm.frames + 1 ≤ R.frames ∧ 8 + (maxL + 11) + rm.locals ≤ R.locals) : va_CU R s args own C y.cls index y y bytes maxL ret (ws_ y bytes maxL ret) rm mc ms n := by
  have hG : GoodIn lw_all (ws_ y bytes maxL ret) := lw_meth h6
  refine ⟨⟨hrc, hrs, hR.1, hR.2, pay_in ht hG, List.mem_cons_self⟩, ht _ h6, ht _ h5, ⟨hd.1, hd.2.1⟩, fun sig h => ?_, ht _ h1, ht _ h2, va_Decl.of (ht _ h4) (ht _ h6), word_at (State.WarmedH.refl s) (Or.inl rfl) h3, ht _ h4⟩
  have h2 := hd.2.2
  rw [h] at h2
  exact (Option.some.inj h2).symm
theorem xe_ra {S : Type} {D : va_G} {cl : List vw_C} {tys : List (ClassId × FieldType)} {A : Nat → Prop} {wf : S → va_W} {post : S → Prop} {ad : S → Nat} {C : FieldType} (u : S) (hx : p.tables.exec = Jvm.exec) (hb : c.code = cc) (hr : meth.sig.returnType = some (.array C)) (hlocks : meth.locks = false) (hK : va_K D cl tys s) (hP : va_P D cl (wf u) H) (hD : va_D A (wf u)) (hS : va_S A s.heap H locs) (hpost : post u) (hdg : decode cc pc = .ok (.areturn, 1)) : W p l e R s m args below meth c H locs cells slots (MQ below (va_Qr post (fun u r t => r = ad u ∧ PostW D cl tys wf A u t) A) args s cells slots A) (F0 m pc ls [.ref (ad u)]) := W.aret hx hb hr (Or.inr ⟨_, rfl⟩) (Or.inr ⟨_, rfl⟩) (fun t ht hW => ⟨⟨u, ad u, rfl, hpost, rfl, by rw [ht]; exact hP, va_K.moved hW.alike hK, hD⟩, hS.F ht⟩) hS.2.2 hdg hlocks
end ZROWS
theorem nI_m1 (i : Nat) : nI i + (-1) = fI i := by unfold fI; grind
theorem fI_ge0 {i : Nat} (h : i < 2 ^ 31) : (0 : Int32) ≤ fI i ↔ i ≠ 0 := by
  rw [Int32.le_iff_toInt_le, fI_toInt h]
  have : (0 : Int32).toInt = 0 := rfl
  omega
/-- a deque's cells: the places of as from hd on -/
def DqOk (es : Nat → Option Nat) (hd tl : Nat) (as : List Nat) : Prop := hd < 17 ∧ tl = (hd + as.length) % 17 ∧ as.length ≤ 6 ∧ ∀ i, i < as.length → es ((hd + i) % 17) = as[i]?
theorem dq_ne {es : Nat → Option Nat} {k j : Nat} {v : Option Nat} (h : ¬ j = k) : va_up es k v j = es j := if_neg h
theorem dq_add {es : Nat → Option Nat} {hd tl a : Nat} {as : List Nat} (h : DqOk es hd tl as) (h5 : as.length ≤ 5) : DqOk (va_up es tl (some a)) hd ((tl + 1) % 17) (as ++ [a]) := by
  obtain ⟨h1, h2, h3, h4⟩ := h
  refine ⟨h1, by rw [List.length_append, List.length_singleton]; omega, by rw [List.length_append, List.length_singleton]; omega, fun i hi => ?_⟩
  rw [List.length_append, List.length_singleton] at hi
  by_cases e : i = as.length
  · subst e
    rw [← h2, va_up_self]; simp
  · rw [dq_ne (by omega), h4 i (by omega), List.getElem?_append_left (by omega)]
theorem dq_fst {es : Nat → Option Nat} {hd tl a : Nat} {as : List Nat} (h : DqOk es hd tl (a :: as)) : es hd = some a := by
  have := h.2.2.2 0 (by simp)
  rw [show (hd + 0) % 17 = hd by have := h.1; omega] at this
  exact this
theorem dq_drop {es : Nat → Option Nat} {hd tl a : Nat} {as : List Nat} (h : DqOk es hd tl (a :: as)) : DqOk (va_up es hd none) ((hd + 1) % 17) tl as := by
  obtain ⟨h1, h2, h3, h4⟩ := h
  rw [List.length_cons] at h2 h3
  refine ⟨by omega, by omega, by omega, fun i hi => ?_⟩
  have h5 := h4 (i + 1) (by rw [List.length_cons]; omega)
  rw [dq_ne (by omega), show ((hd + 1) % 17 + i) % 17 = (hd + (i + 1)) % 17 by omega, h5]
  rfl
theorem dq_last {es : Nat → Option Nat} {hd tl a : Nat} {as : List Nat} (h : DqOk es hd tl (as ++ [a])) : es ((tl + 16) % 17) = some a := by
  obtain ⟨h1, h2, h3, h4⟩ := h
  rw [List.length_append, List.length_singleton] at h2 h3
  have h5 := h4 as.length (by rw [List.length_append, List.length_singleton]; omega)
  rw [show (tl + 16) % 17 = (hd + as.length) % 17 by omega, h5]; simp
theorem dq_pop {es : Nat → Option Nat} {hd tl a : Nat} {as : List Nat} (h : DqOk es hd tl (as ++ [a])) : DqOk (va_up es ((tl + 16) % 17) none) hd ((tl + 16) % 17) as := by
  obtain ⟨h1, h2, h3, h4⟩ := h
  rw [List.length_append, List.length_singleton] at h2 h3
  refine ⟨h1, by omega, by omega, fun i hi => ?_⟩
  rw [dq_ne (by omega), h4 i (by rw [List.length_append, List.length_singleton]; omega), List.getElem?_append_left (by omega)]
theorem dq_tl {es : Nat → Option Nat} {hd tl : Nat} {as : List Nat} (h : DqOk es hd tl as) : hd < 17 ∧ tl < 17 ∧ tl = (hd + as.length) % 17 ∧ as.length ≤ 6 := ⟨h.1, by rw [h.2.1]; omega, h.2.1, h.2.2.1⟩
theorem dq_sub {h t n : Nat} (h1 : h < 17) (hn : n < 17) (ht : t = (h + n) % 17) (hle : ¬ nI t - nI h < 0) : nI t - nI h = nI n := by
  have e := pk_sub_toInt (a := t) (b := h) (by omega) (by omega)
  rw [Int32.lt_iff_toInt_lt, e] at hle
  have z : (0 : Int32).toInt = 0 := rfl
  apply Int32.toInt_inj.mp
  rw [e, nI_toInt (by omega)]; omega
theorem dq_sub2 {h t n : Nat} (h1 : h < 17) (hn : n < 17) (ht : t = (h + n) % 17) (hlt : nI t - nI h < 0) : nI t - nI h + nI 17 = nI n := by
  have e := pk_sub_toInt (a := t) (b := h) (by omega) (by omega)
  rw [Int32.lt_iff_toInt_lt, e] at hlt
  have z : (0 : Int32).toInt = 0 := rfl
  have e2 : nI t - nI h + nI 17 = nI (t + 17) - nI h := by rw [← nI_add]; grind
  rw [e2, pk_sub (by omega)]
  congr 1; omega
