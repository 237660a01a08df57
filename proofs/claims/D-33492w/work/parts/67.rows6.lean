/-! worlds made of chunks; rows for cells made anew, references, calls over chunks -/
set_option maxRecDepth 100000
def fl1 : va_W → List va_W → va_W
  | a, [] => a
  | a, b :: l => a ++ fl1 b l
/-- chunks, one behind another -/
def fl : List va_W → va_W
  | [] => []
  | a :: l => fl1 a l
theorem fl1_flat (a : va_W) (l : List va_W) : fl1 a l = (a :: l).flatten := by
  induction l generalizing a with
  | nil => simp [fl1]
  | cons b l ih => rw [List.flatten_cons, ← ih b]; rfl
theorem fl_flat (l : List va_W) : fl l = l.flatten := by
  cases l with
  | nil => rfl
  | cons a l => exact fl1_flat a l
theorem fl_app (a b : List va_W) : fl (a ++ b) = fl a ++ fl b := by rw [fl_flat, fl_flat, fl_flat, List.flatten_append]
theorem fl_snoc (a : List va_W) (c : va_W) : fl a ++ c = fl (a ++ [c]) := by rw [fl_app]; rfl
theorem fP_iff {D : va_G} {cl : List vw_C} {ws : va_W} {H : Heap} : va_P D cl ws H ↔ ∀ q ∈ ws, va_at D cl q H := by
  constructor
  · intro h q hq
    obtain ⟨k, hk⟩ := List.mem_iff_getElem?.mp hq
    exact h k q hk
  · intro h k q hk
    exact h q (List.mem_of_getElem? hk)
theorem fD_iff {A : Nat → Prop} {ws : va_W} : va_D A ws ↔ ws.Pairwise (fun x y => x.1 ≠ y.1) ∧ ∀ q ∈ ws, A q.1 := by
  constructor
  · intro h
    refine ⟨List.pairwise_iff_getElem.mpr (fun i j hi hj hij e => ?_), fun q hq => ?_⟩
    · have := h.1 i j _ _ (List.getElem?_eq_getElem hi) (List.getElem?_eq_getElem hj) e
      omega
    · obtain ⟨k, hk⟩ := List.mem_iff_getElem?.mp hq
      exact h.2 k q hk
  · rintro ⟨h1, h2⟩
    refine ⟨fun i j x y hi hj e => ?_, fun k q hk => h2 q (List.mem_of_getElem? hk)⟩
    obtain ⟨li, ei⟩ := List.getElem?_eq_some_iff.mp hi
    obtain ⟨lj, ej⟩ := List.getElem?_eq_some_iff.mp hj
    have h3 := List.pairwise_iff_getElem.mp h1
    rcases Nat.lt_trichotomy i j with q | q | q
    · exact absurd (by rw [ei, ej]; exact e) (h3 i j li lj q)
    · exact q
    · exact absurd (by rw [ei, ej]; exact e.symm) (h3 j i lj li q)
theorem fl_mem {L : List va_W} {q : Nat × va_E} : q ∈ fl L ↔ ∃ c ∈ L, q ∈ c := by rw [fl_flat]; exact List.mem_flatten
/-- chunks in another order, some dropped -/
theorem mvP {D : va_G} {cl : List vw_C} {L : List va_W} {H : Heap} (hP : va_P D cl (fl L) H) (ps : List Nat) : va_P D cl (fl (ps.map fun i => L.getD i [])) H := by
  refine fP_iff.mpr fun q hq => ?_
  obtain ⟨c, hc, hqc⟩ := fl_mem.mp hq
  obtain ⟨i, -, rfl⟩ := List.mem_map.mp hc
  refine fP_iff.mp hP q (fl_mem.mpr ⟨_, ?_, hqc⟩)
  rw [List.getD_eq_getElem?_getD] at hqc ⊢
  cases h : L[i]? with
  | none => rw [h] at hqc; cases hqc
  | some c => exact List.mem_of_getElem? h
theorem mvD {A : Nat → Prop} {L : List va_W} (hD : va_D A (fl L)) (ps : List Nat) (hn : ps.Nodup) : va_D A (fl (ps.map fun i => L.getD i [])) := by
  obtain ⟨h1, h2⟩ := fD_iff.mp hD
  rw [fl_flat] at h1
  obtain ⟨h3, h4⟩ := List.pairwise_flatten.mp h1
  have hin : ∀ i, ∀ q ∈ L.getD i [], L.getD i [] ∈ L ∧ i < L.length := by
    intro i q hq
    rw [List.getD_eq_getElem?_getD] at hq ⊢
    cases h : L[i]? with
    | none => rw [h] at hq; cases hq
    | some c => exact ⟨List.mem_of_getElem? h, (List.getElem?_eq_some_iff.mp h).1⟩
  have hlt : ∀ i j, i < j → ∀ x ∈ L.getD i [], ∀ y ∈ L.getD j [], x.1 ≠ y.1 := by
    intro i j hij x hx y hy
    have li := (hin i x hx).2; have lj := (hin j y hy).2
    rw [List.getD_eq_getElem?_getD, List.getElem?_eq_getElem li] at hx
    rw [List.getD_eq_getElem?_getD, List.getElem?_eq_getElem lj] at hy
    exact List.pairwise_iff_getElem.mp h4 i j li lj hij x hx y hy
  refine fD_iff.mpr ⟨?_, fun q hq => ?_⟩
  · rw [fl_flat]
    refine List.pairwise_flatten.mpr ⟨fun c hc => ?_, ?_⟩
    · obtain ⟨i, -, rfl⟩ := List.mem_map.mp hc
      by_cases h : i < L.length
      · rw [List.getD_eq_getElem?_getD, List.getElem?_eq_getElem h]; exact h3 _ (List.getElem_mem h)
      · rw [List.getD_eq_getElem?_getD, List.getElem?_eq_none (by omega)]; exact List.Pairwise.nil
    · refine List.pairwise_map.mpr (hn.imp ?_)
      intro i j hij x hx y hy e
      rcases Nat.lt_or_gt_of_ne hij with q | q
      · exact hlt i j q x hx y hy e
      · exact hlt j i q y hy x hx e.symm
  · obtain ⟨c, hc, hqc⟩ := fl_mem.mp hq
    obtain ⟨i, -, rfl⟩ := List.mem_map.mp hc
    exact h2 q (fl_mem.mpr ⟨_, (hin i q hqc).1, hqc⟩)
theorem Cut.ch {D : va_G} {cl : List vw_C} {A : Nat → Prop} (Lc Lr : List va_W) {H0 H : Heap} {locs : List Loc} (hP : va_P D cl (fl (Lc ++ Lr)) H) (hD : va_D A (fl (Lc ++ Lr))) (hS : va_S A H0 H locs) (hA : ∀ q, H0.size ≤ q → A q) : Cut D cl A (fl Lc) (fun w => w ++ fl Lr) H :=
  Cut.app (by rw [← fl_app]; exact hP) (by rw [← fl_app]; exact hD) hS hA
theorem fl_join {D : va_G} {cl : List vw_C} (La Lb : List va_W) {H : Heap} (h : va_P D cl (fl La ++ fl Lb) H) : va_P D cl (fl (La ++ Lb)) H := by rw [fl_app]; exact h
theorem fl_joinD {A : Nat → Prop} (La Lb : List va_W) (h : va_D A (fl La ++ fl Lb)) : va_D A (fl (La ++ Lb)) := by rw [fl_app]; exact h
theorem fl_pushP {D : va_G} {cl : List vw_C} {L : List va_W} {c : va_W} {H : Heap} (h : va_P D cl (fl L ++ c) H) : va_P D cl (fl (L ++ [c])) H := by rw [← fl_snoc]; exact h
theorem fl_pushD {A : Nat → Prop} {L : List va_W} {c : va_W} (h : va_D A (fl L ++ c)) : va_D A (fl (L ++ [c])) := by rw [← fl_snoc]; exact h
/-- five addresses, in a row -/
def nq5 (a b c d e : Nat) : Nat → Nat := fun i => ([a, b, c, d, e] : List Nat).getD i 0
section YROWS
variable {p : Program} {l : Launch} {e : Env} {R : Room} {s : State} {m : MethodId} {args : Array Value} {below : List Frame} {meth : Method} {c : Code} {H : Heap} {locs : List Loc} {cells slots : Nat} {Q : State → Prop}
variable {cc : ByteArray} {pc : Nat} {ls : Array Slot} {rest : List Value}
theorem met_go2 {l : Launch} {y : MethodName} {cc : ByteArray} {maxL : Nat} {ret : Option FieldType} {rm : Room} {Ev : (Nat → Prop) → State → Prop} {D : va_G} {cl : List vw_C} {tys : List (ClassId × FieldType)} {wc : va_W} {av : List Value} {n : Nat} {QA : (Nat → Prop) → Array Value → State → Outcome → State → Prop} {mc ms : Nat} (hy : plainName y.cls = true) (hlen : (lg_sl av).length ≤ maxL)
    (body : ∀ (p : Program) (e : Env) (s : State) (m : MethodId) (below : List Frame) (meth : Method) (c : Code) (A : Nat → Prop) (ls : Array Slot) (QQ : State → Prop), QQ = MQ below (QA A) av.toArray s mc ms A → meth.name = y.name → s.methodNamed? y = some m → p.tables.exec = Jvm.exec → c.code = cc → meth.sig.returnType = ret → (∀ w ∈ lw_all, w.before av.toArray s = true) → s.vm.findClass y.cls = some m.cls → meth.locks = false → c.maxLocals = maxL → (∀ q : Nat, s.heap.size ≤ q → A q) → va_P D cl wc s.heap → va_K D cl tys s → va_D A wc → Ev A s → lv_has ls maxL (lv_args 0 av) →
      W p l e rm s m av.toArray below meth c s.heap [] 0 0 QQ (F0 m 0 ls [])) : Met l y (ws_ y cc maxL ret) rm (va_Pc av (PreW Ev D cl tys wc n)) (QA (va_A wc n)) mc ms (va_A wc n) := by
  refine Met.ofW (cc := cc) (maxL := maxL) (ret := ret) hy rfl ?_
  intro p e s m args below meth c s₁ B hml hv
  obtain ⟨rfl, hsz, hP, hK, hD0, hE⟩ := hv
  subst hsz
  have hts : ∀ w ∈ lw_all, w.before _ s = true := fun w h => atoms_spec (ws := ws_ y cc maxL ret) B.pre w (List.mem_cons_of_mem _ h)
  have hl := lv_entry av (n := maxL) hlen
  rw [lg_entry_eq]
  exact body p e s m below meth c (va_A wc s.heap.size) _ _ rfl (name_of_methodNamed B.named B.method).1 B.named B.exec B.bytes B.returns hts (findClass_of_methodNamed B.named) B.notSynchronized hml (fun q h => Or.inr h) hP hK hD0.self hE hl
theorem va_KsameO {D : va_G} {cl : List vw_C} {tys : List (ClassId × FieldType)} {c1 c2 : ClassId} {C : String} (t0 : Nat) (ht : tys[t0]? = some (c1, .object C)) (h : va_K D cl (tys ++ [(c2, .object C)]) s) : c2 = c1 := by
  have h1 := (h.2 t0 (c1, .object C) (by rw [List.getElem?_append_left (List.getElem?_eq_some_iff.mp ht).1]; exact ht)).2
  have h2 := (h.2 tys.length (c2, .object C) (by simp)).2
  obtain ⟨k1, comp1, a1, b1, d1, f1⟩ := h1
  obtain ⟨k2, comp2, a2, b2, d2, f2⟩ := h2
  exact Option.some.inj (f2.symm.trans f1)
/-- a new array of references, of a class at hand -/
theorem nv_newq {D : va_G} {cl : List vw_C} {A : Nat → Prop} {tys : List (ClassId × FieldType)} {ws : va_W} {H0 : Heap} (hx : p.tables.exec = Jvm.exec) (hb : c.code = cc) {own C : String} {index : Nat} (hown : s.vm.findClass own = some m.cls) (hclink : (Cond.classLink own index C).before args s = true) (hover : va_AO C s) (hK : va_K D cl tys s) (hP : va_P D cl ws H) (hD : va_D A ws) (hS : va_S A H0 H locs) (hA : ∀ q, H0.size ≤ q → A q) (t0 : Nat) {cA0 : ClassId} (ht : tys[t0]? = some (cA0, .object C))
    {N : Nat} (hN : N < 2 ^ 31) (hbytes : N * 4 ≤ 536870912) (hf : cells + 1 ≤ R.cells ∧ slots + N ≤ R.slots) (hdg : decode cc pc = .ok (.anewarray index, 3))
    (kk : ∀ (q : Nat) (H1 : Heap), va_P D cl (ws ++ [(q, .inl (cA0, N, .inr (.inr (.inr (.inr (fun _ => none))))))]) H1 → va_D A (ws ++ [(q, .inl (cA0, N, .inr (.inr (.inr (.inr (fun _ => none))))))]) → va_S A H0 H1 locs →
      W p l e R s m args below meth c H1 locs (cells + 1) (slots + N) Q (F0 m (pc + 3) ls (.ref q :: rest))) : W p l e R s m args below meth c H locs cells slots Q (F0 m pc ls (.int (nI N) :: rest)) :=
  va_newq hx hb hown hclink hover hK hP hD hS hA (fun h => by have h := Int32.lt_iff_toInt_lt.mp h; rw [nI_toInt hN] at h; have : (0 : Int32).toInt = 0 := rfl; omega) (nI_clamp hN) hbytes hf.1 hf.2 hdg (fun q cA H1 hK1 hP1 hD1 hS1 => by
    have e := va_KsameO t0 ht hK1
    subst e
    exact kk q H1 hP1 hD1 hS1)
/-- a reference read from an array -/
theorem nv_aald {D : va_G} {cl : List vw_C} {tys : List (ClassId × FieldType)} {ws : va_W} {a : Nat} (hx : p.tables.exec = Jvm.exec) (hb : c.code = cc) (hK : va_K D cl tys s) (hP : va_P D cl ws H) (q0 t0 : Nat) {cA : ClassId} {C : String} {n : Nat} {f : Nat → Option Nat} (ha : ws[q0]? = some (a, .inl (cA, n, .inr (.inr (.inr (.inr f)))))) (ht : tys[t0]? = some (cA, .object C)) {i x : Nat} (hi : i < n) (hn : n < 2 ^ 31) (hfx : f i = some x) (hdg : decode cc pc = .ok (.aaload, 1))
    (kk : W p l e R s m args below meth c H locs cells slots Q (F0 m (pc + 1) ls (.ref x :: rest))) : W p l e R s m args below meth c H locs cells slots Q (F0 m pc ls (.int (nI i) :: .ref a :: rest)) :=
  va_aldq hx hb hK hP q0 t0 ha ht (vp_in_nI hi hn) hdg (by rw [nI_clamp (by omega), hfx]; exact kk)
theorem nv_aast {D : va_G} {cl : List vw_C} {A : Nat → Prop} {tys : List (ClassId × FieldType)} {ws : va_W} {H0 : Heap} {a : Nat} (hx : p.tables.exec = Jvm.exec) (hb : c.code = cc) (hK : va_K D cl tys s) (hP : va_P D cl ws H) (hD : va_D A ws) (hS : va_S A H0 H locs) (q0 t0 qk ci : Nat) {E : String} {cA : ClassId} {r : vw_C} {n v : Nat} {vs : List Value} {f : Nat → Option Nat} (ha : ws[q0]? = some (a, .inl (cA, n, .inr (.inr (.inr (.inr f)))))) (ht : tys[t0]? = some (cA, .object E)) (hca : va_Nw (.castable r.1 E) s) (hv : ws[qk]? = some (v, .inr (ci, vs))) (hc : cl[ci]? = some r) {i : Nat} (hi : i < n) (hn : n < 2 ^ 31) (hdg : decode cc pc = .ok (.aastore, 1))
    (kk : ∀ (H1 : Heap) (locs1 : List Loc), va_P D cl (ws.set q0 (a, .inl (cA, n, .inr (.inr (.inr (.inr (va_up f i (some v)))))))) H1 → va_D A (ws.set q0 (a, .inl (cA, n, .inr (.inr (.inr (.inr (va_up f i (some v)))))))) → va_S A H0 H1 locs1 → W p l e R s m args below meth c H1 locs1 cells slots Q (F0 m (pc + 1) ls rest)) : W p l e R s m args below meth c H locs cells slots Q (F0 m pc ls (.ref v :: .int (nI i) :: .ref a :: rest)) :=
  va_astqO hx hb hK hP hD hS q0 t0 qk ci ha ht hca hv hc (vp_in_nI hi hn) hdg (by rw [nI_clamp (by omega)]; exact kk)
theorem nv_aastN {D : va_G} {cl : List vw_C} {A : Nat → Prop} {tys : List (ClassId × FieldType)} {ws : va_W} {H0 : Heap} {a : Nat} (hx : p.tables.exec = Jvm.exec) (hb : c.code = cc) (hK : va_K D cl tys s) (hP : va_P D cl ws H) (hD : va_D A ws) (hS : va_S A H0 H locs) (q0 t0 : Nat) {E : String} {cA : ClassId} {n : Nat} {f : Nat → Option Nat} (ha : ws[q0]? = some (a, .inl (cA, n, .inr (.inr (.inr (.inr f)))))) (ht : tys[t0]? = some (cA, .object E)) {i : Nat} (hi : i < n) (hn : n < 2 ^ 31) (hdg : decode cc pc = .ok (.aastore, 1))
    (kk : ∀ (H1 : Heap) (locs1 : List Loc), va_P D cl (ws.set q0 (a, .inl (cA, n, .inr (.inr (.inr (.inr (va_up f i none))))))) H1 → va_D A (ws.set q0 (a, .inl (cA, n, .inr (.inr (.inr (.inr (va_up f i none))))))) → va_S A H0 H1 locs1 → W p l e R s m args below meth c H1 locs1 cells slots Q (F0 m (pc + 1) ls rest)) : W p l e R s m args below meth c H locs cells slots Q (F0 m pc ls (.null :: .int (nI i) :: .ref a :: rest)) :=
  va_astqN hx hb hK hP hD hS q0 t0 ha ht (vp_in_nI hi hn) hdg (by rw [nI_clamp (by omega)]; exact kk)
theorem xc_r {S : Type} {D : va_G} {cl : List vw_C} {tys : List (ClassId × FieldType)} {A : Nat → Prop} {wc : va_W} {J : va_W → va_W} {wf : S → va_W} {mc ms : Nat} {a : Array Value} {st0 : List Value} {post : S → Prop} {ad : S → Nat} (hr : va_Run p l e R s m args below meth c H locs cells slots mc ms (F0 m pc ls st0) rest (va_Qr post (fun u r t => r = ad u ∧ PostW D cl tys wf (va_A wc H.size) u t) (va_A wc H.size) a) (va_A wc H.size)) (hS : va_S A s.heap H locs) (cut : Cut D cl A wc J H)
    (kk : ∀ (u : S) (H1 : Heap) (locs1 : List Loc), post u → va_P D cl (J (wf u)) H1 → va_D A (J (wf u)) → va_S A s.heap H1 locs1 → W p l e R s m args below meth c H1 locs1 (cells + mc) (slots + ms) Q (F0 m (pc + 3) ls (.ref (ad u) :: rest))) : W p l e R s m args below meth c H locs cells slots Q (F0 m pc ls (st0)) :=
  va_callr hr hS (fun q _ h => cut.2.2.1 q h) cut.2.2.1 (fun u r t H1 locs1 ht hvm hp hB hz hk hS1 => by
    obtain ⟨rfl, hP1, hK1, hD1⟩ := hB
    rw [ht] at hP1
    obtain ⟨g1, g2⟩ := cut.2.2.2 H1 _ hk hz hP1 hD1
    exact kk u H1 locs1 hp g1 g2 hS1)
theorem xe_r {S : Type} {D : va_G} {cl : List vw_C} {tys : List (ClassId × FieldType)} {A : Nat → Prop} {wf : S → va_W} {post : S → Prop} {ad : S → Nat} {C : String} (u : S) (hx : p.tables.exec = Jvm.exec) (hb : c.code = cc) (hr : meth.sig.returnType = some (.object C)) (hlocks : meth.locks = false) (hK : va_K D cl tys s) (hP : va_P D cl (wf u) H) (hD : va_D A (wf u)) (hS : va_S A s.heap H locs) (hpost : post u) (hdg : decode cc pc = .ok (.areturn, 1)) : W p l e R s m args below meth c H locs cells slots (MQ below (va_Qr post (fun u r t => r = ad u ∧ PostW D cl tys wf A u t) A) args s cells slots A) (F0 m pc ls [.ref (ad u)]) := W.aret hx hb hr (Or.inl ⟨_, rfl⟩) (Or.inr ⟨_, rfl⟩) (fun t ht hW => ⟨⟨u, ad u, rfl, hpost, rfl, by rw [ht]; exact hP, va_K.moved hW.alike hK, hD⟩, hS.F ht⟩) hS.2.2 hdg hlocks
end YROWS
