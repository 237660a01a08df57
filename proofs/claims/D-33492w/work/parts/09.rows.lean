/-! rows of my own over the kit's: Nat forms of ints, calls by a cut of the world, ends -/
set_option maxRecDepth 100000
def bI (b : Bool) : Int32 := if b then 1 else 0
theorem bI_eq0 {b : Bool} : bI b = 0 ↔ b = false := by cases b <;> decide
theorem bI_ne0 {b : Bool} : ¬ bI b = 0 ↔ b = true := by cases b <;> decide
theorem bI_t : bI true = nI 1 := rfl
theorem bI_f : bI false = nI 0 := rfl
/-- one less than a number: -1 is fI 0 -/
def fI (n : Nat) : Int32 := nI n - 1
theorem fI_succ (n : Nat) : fI n + 1 = fI (n + 1) := by
  unfold fI; rw [nI_succ]; grind
theorem fI_pos {n : Nat} (h : n ≠ 0) : fI n = nI (n - 1) := by
  unfold fI; obtain ⟨k, rfl⟩ := Nat.exists_eq_succ_of_ne_zero h; exact nI_pred k
theorem fI_S (n : Nat) : nI n = fI (n + 1) := by
  rw [fI_pos (by omega)]; rfl
theorem fI_toInt {n : Nat} (h : n < 2 ^ 31) : (fI n).toInt = (n : Int) - 1 := by
  by_cases h0 : n = 0
  · subst h0; decide
  · rw [fI_pos h0, nI_toInt (by omega)]; omega
theorem fI_eq0 {n : Nat} (h : n < 2 ^ 31) : fI n = fI 0 ↔ n = 0 := by
  constructor
  · intro e
    have := congrArg Int32.toInt e
    rw [fI_toInt h, fI_toInt (by decide)] at this
    omega
  · intro e; rw [e]
theorem bI_nar (b : Bool) : narrow .boolean (.int (bI b)) = .int (bI b) := by cases b <;> rfl
def EvOk (Ev : (Nat → Prop) → State → Prop) : Prop := ∀ (A A1 : Nat → Prop) (s U : State), Ev A s → s.WarmedH U.vm → (∀ q : Nat, q < s.heap.size → ¬ A q → U.heap[q]? = s.heap[q]?) → (∀ q, A1 q → A q) → Ev A1 U
def Ev0 : (Nat → Prop) → State → Prop := fun _ _ => True
theorem Ev0_ok : EvOk Ev0 := fun _ _ _ _ _ _ _ _ => trivial
def PreW (Ev : (Nat → Prop) → State → Prop) (D : va_G) (cl : List vw_C) (tys : List (ClassId × FieldType)) (wc : va_W) (n : Nat) (U : State) : Prop := U.heap.size = n ∧ va_P D cl wc U.heap ∧ va_K D cl tys U ∧ va_D (fun _ => True) wc ∧ Ev (va_A wc n) U
def PostW {S : Type} (D : va_G) (cl : List vw_C) (tys : List (ClassId × FieldType)) (wf : S → va_W) (A : Nat → Prop) (u : S) (t : State) : Prop := va_P D cl (wf u) t.heap ∧ va_K D cl tys t ∧ va_D A (wf u)
/-- a callee's world wc cut out of the caller's; J puts back what it left -/
def Cut (D : va_G) (cl : List vw_C) (A : Nat → Prop) (wc : va_W) (J : va_W → va_W) (H : Heap) : Prop :=
  va_P D cl wc H ∧ va_D (fun _ => True) wc ∧ (∀ q, va_A wc H.size q → A q) ∧ ∀ (H1 : Heap) (w1 : va_W), (∀ q : Nat, q < H.size → ¬ va_A wc H.size q → H1[q]? = H[q]?) → H.size ≤ H1.size → va_P D cl w1 H1 → va_D (va_A wc H.size) w1 → va_P D cl (J w1) H1 ∧ va_D A (J w1)
theorem Cut.all {D : va_G} {cl : List vw_C} {A : Nat → Prop} {ws : va_W} {H0 H : Heap} {locs : List Loc} (hP : va_P D cl ws H) (hD : va_D A ws) (hS : va_S A H0 H locs) (hA : ∀ q, H0.size ≤ q → A q) : Cut D cl A ws (fun w => w) H := by
  have hF : ∀ q, va_A ws H.size q → A q := by
    rintro q (⟨k, e, h⟩ | h)
    · exact hD.2 k (q, e) h
    · exact hA q (Nat.le_trans hS.1 h)
  exact ⟨hP, hD.weaken (fun _ _ _ _ => trivial), hF, fun H1 w1 _ _ h1 h2 => ⟨h1, h2.weaken (fun _ q _ h => hF q.1 h)⟩⟩
theorem Cut.idx {D : va_G} {cl : List vw_C} {A : Nat → Prop} {ws wc wr : va_W} {H0 H : Heap} {locs : List Loc} (hP : va_P D cl ws H) (hD : va_D A ws) (hS : va_S A H0 H locs) (hA : ∀ q, H0.size ≤ q → A q) (isC isR : List Nat) (hC : isC.map (fun i => ws[i]?) = wc.map some) (hR : isR.map (fun i => ws[i]?) = wr.map some) (hnC : va_nd isC = true) (hn : va_nd isR = true) (hdis : ∀ i ∈ isR, i ∉ isC) : Cut D cl A wc (fun w => wr ++ w) H := by
  have hF := va_free (wc := wc) hD hS hA isC hC
  refine ⟨fun k q hk => ?_, (hD.sub isC hnC hC).weaken (fun _ _ _ _ => trivial), hF, fun H1 w1 hk _ h1 h2 => va_join hP hD isC isR hC hR hn hdis hk hF h1 h2⟩
  have h1 : (isC.map (fun i => ws[i]?))[k]? = some (some q) := by rw [hC, List.getElem?_map, hk]; rfl
  rw [List.getElem?_map] at h1
  cases hi : isC[k]? with
  | none => rw [hi] at h1; cases h1
  | some i => rw [hi] at h1; exact hP i q (Option.some.inj h1)
/-- what is cut stands first, whatever the rest is -/
theorem Cut.app {D : va_G} {cl : List vw_C} {A : Nat → Prop} {wc wr : va_W} {H0 H : Heap} {locs : List Loc} (hP : va_P D cl (wc ++ wr) H) (hD : va_D A (wc ++ wr)) (hS : va_S A H0 H locs) (hA : ∀ q, H0.size ≤ q → A q) : Cut D cl A wc (fun w => w ++ wr) H := by
  have hl : ∀ (k : Nat) (q : Nat × va_E), wc[k]? = some q → (wc ++ wr)[k]? = some q := fun k q h => by
    rw [List.getElem?_append_left (List.getElem?_eq_some_iff.mp h).1]; exact h
  have hr : ∀ (k : Nat) (q : Nat × va_E), wr[k]? = some q → (wc ++ wr)[wc.length + k]? = some q := fun k q h => by
    rw [List.getElem?_append_right (by omega), Nat.add_sub_cancel_left]; exact h
  have hF : ∀ q, va_A wc H.size q → A q := by
    rintro q (⟨k, e, h⟩ | h)
    · exact hD.2 k (q, e) (hl k _ h)
    · exact hA q (Nat.le_trans hS.1 h)
  have hap : ∀ (k : Nat) (q : Nat × va_E), wr[k]? = some q → q.1 < H.size ∧ ¬ va_A wc H.size q.1 := by
    intro k q hq
    have h2 := (hP _ q (hr k q hq)).lt
    refine ⟨h2, ?_⟩
    rintro (⟨j, e, h⟩ | h)
    · have h3 := hD.1 _ _ (q.1, e) q (hl j _ h) (hr k q hq) rfl
      have h4 : j < wc.length := (List.getElem?_eq_some_iff.mp h).1
      omega
    · omega
  refine ⟨fun k q hk => hP k q (hl k q hk), ⟨fun i j x y hi hj => hD.1 i j x y (hl i x hi) (hl j y hj), fun _ _ _ => trivial⟩, hF, fun H1 w1 hk _ h1 h2 => ⟨h1.app (fun k q hq => ?_), va_D.app (h2.weaken (fun _ q _ h => hF q.1 h)) ⟨fun i j x y hi hj h => ?_, fun k q hq => hD.2 _ q (hr k q hq)⟩ (fun i j x y hx hy hxy => ?_)⟩⟩
  · obtain ⟨g1, g2⟩ := hap k q hq
    exact (hP _ q (hr k q hq)).kept (hk q.1 g1 g2)
  · have := hD.1 _ _ x y (hr i x hi) (hr j y hj) h
    omega
  · exact (hap j y hy).2 (by rw [← hxy]; exact h2.2 i x hx)
/-- another order of the caller's world behind the call -/
theorem Cut.to {D : va_G} {cl : List vw_C} {A : Nat → Prop} {wc : va_W} {J J' : va_W → va_W} {H : Heap} (h : Cut D cl A wc J H) (hJ : ∀ w, J w = J' w) : Cut D cl A wc J' H := by
  have e : J = J' := funext hJ
  subst e
  exact h
theorem va_P.perm {D : va_G} {cl : List vw_C} {A : Nat → Prop} {ws ws' : va_W} {H : Heap} (hP : va_P D cl ws H) (hD : va_D A ws) (is : List Nat) (hn : va_nd is = true) (hs : is.map (fun i => ws[i]?) = ws'.map some) : va_P D cl ws' H ∧ va_D A ws' := by
  refine ⟨fun k q hk => ?_, hD.sub is hn hs⟩
  have h1 : (is.map (fun i => ws[i]?))[k]? = some (some q) := by rw [hs, List.getElem?_map, hk]; rfl
  rw [List.getElem?_map] at h1
  cases hi : is[k]? with
  | none => rw [hi] at h1; cases h1
  | some i => rw [hi] at h1; exact hP i q (Option.some.inj h1)
section XROWS
variable {p : Program} {l : Launch} {e : Env} {R : Room} {s : State} {m : MethodId} {args : Array Value} {below : List Frame} {meth : Method} {c : Code} {H : Heap} {locs : List Loc} {cells slots : Nat} {Q : State → Prop}
variable {cc : ByteArray} {pc : Nat} {ls : Array Slot} {rest : List Value}
theorem nv_iconst (hx : p.tables.exec = Jvm.exec) (hb : c.code = cc) (n : Nat) (hdg : decode cc pc = .ok (.iconst (n : Int), 1)) (k : W p l e R s m args below meth c H locs cells slots Q (F0 m (pc + 1) ls (.int (nI n) :: rest))) : W p l e R s m args below meth c H locs cells slots Q (F0 m pc ls (rest)) := lv_iconst hx hb hdg (Int32.ofInt_eq_ofNat ▸ rfl : Int32.ofInt (n : Int) = nI n) k
theorem nv_bipush (hx : p.tables.exec = Jvm.exec) (hb : c.code = cc) (n : Nat) {z : Int} (hdg : decode cc pc = .ok (.bipush z, 2)) (hz : (Int8.ofInt z).toInt32 = nI n) (k : W p l e R s m args below meth c H locs cells slots Q (F0 m (pc + 2) ls (.int (nI n) :: rest))) : W p l e R s m args below meth c H locs cells slots Q (F0 m pc ls (rest)) := lv_bipush hx hb hdg hz k
theorem nv_sipush (hx : p.tables.exec = Jvm.exec) (hb : c.code = cc) (n : Nat) {z : Int} (hdg : decode cc pc = .ok (.sipush z, 3)) (hz : (Int16.ofInt z).toInt32 = nI n) (k : W p l e R s m args below meth c H locs cells slots Q (F0 m (pc + 3) ls (.int (nI n) :: rest))) : W p l e R s m args below meth c H locs cells slots Q (F0 m pc ls (rest)) := lv_sipush hx hb hdg hz k
theorem nv_iadd (hx : p.tables.exec = Jvm.exec) (hb : c.code = cc) {a b : Nat} (hdg : decode cc pc = .ok (.iadd, 1)) (k : W p l e R s m args below meth c H locs cells slots Q (F0 m (pc + 1) ls (.int (nI (a + b)) :: rest))) : W p l e R s m args below meth c H locs cells slots Q (F0 m pc ls (.int (nI b) :: .int (nI a) :: rest)) := lv_iadd hx hb hdg (lv_topi (nm_r (nI_add a b) k))
theorem nv_isub (hx : p.tables.exec = Jvm.exec) (hb : c.code = cc) {a b : Nat} (hdg : decode cc pc = .ok (.isub, 1)) (h : b ≤ a) (k : W p l e R s m args below meth c H locs cells slots Q (F0 m (pc + 1) ls (.int (nI (a - b)) :: rest))) : W p l e R s m args below meth c H locs cells slots Q (F0 m pc ls (.int (nI b) :: .int (nI a) :: rest)) := lv_isub hx hb hdg (lv_topi (nm_r (pk_sub h) k))
theorem nv_imul (hx : p.tables.exec = Jvm.exec) (hb : c.code = cc) {a b : Nat} (hdg : decode cc pc = .ok (.imul, 1)) (k : W p l e R s m args below meth c H locs cells slots Q (F0 m (pc + 1) ls (.int (nI (a * b)) :: rest))) : W p l e R s m args below meth c H locs cells slots Q (F0 m pc ls (.int (nI b) :: .int (nI a) :: rest)) := lv_imul hx hb hdg (lv_topi (nm_r (pk_mul a b) k))
theorem nv_idiv (hx : p.tables.exec = Jvm.exec) (hb : c.code = cc) {a b : Nat} (hdg : decode cc pc = .ok (.idiv, 1)) (ha : a < 2 ^ 31) (h0 : 0 < b) (hb2 : b < 2 ^ 31) (k : W p l e R s m args below meth c H locs cells slots Q (F0 m (pc + 1) ls (.int (nI (a / b)) :: rest))) : W p l e R s m args below meth c H locs cells slots Q (F0 m pc ls (.int (nI b) :: .int (nI a) :: rest)) := lv_idiv hx hb hdg (nI_ne0 h0 hb2) (lv_topi (nm_r (pk_div ha h0 hb2) k))
theorem nv_irem (hx : p.tables.exec = Jvm.exec) (hb : c.code = cc) {a b : Nat} (hdg : decode cc pc = .ok (.irem, 1)) (ha : a < 2 ^ 31) (h0 : 0 < b) (hb2 : b < 2 ^ 31) (k : W p l e R s m args below meth c H locs cells slots Q (F0 m (pc + 1) ls (.int (nI (a % b)) :: rest))) : W p l e R s m args below meth c H locs cells slots Q (F0 m pc ls (.int (nI b) :: .int (nI a) :: rest)) := lv_irem hx hb hdg (nI_ne0 h0 hb2) (lv_topi (nm_r (pk_rem ha h0 hb2) k))
theorem nv_smod : ∀ n, n < 32 → ((nI n &&& 31).toBitVec.smod 32).toNat = n := by decide +kernel
theorem nI_and (a b : Nat) : nI a &&& nI b = nI (a &&& b) := by
  apply Int32.toBitVec_inj.mp
  show BitVec.ofNat 32 a &&& BitVec.ofNat 32 b = BitVec.ofNat 32 (a &&& b)
  rw [BitVec.ofNat_and]
theorem nI_or (a b : Nat) : nI a ||| nI b = nI (a ||| b) := by
  apply Int32.toBitVec_inj.mp
  show BitVec.ofNat 32 a ||| BitVec.ofNat 32 b = BitVec.ofNat 32 (a ||| b)
  rw [BitVec.ofNat_or]
theorem nI_xor (a b : Nat) : nI a ^^^ nI b = nI (a ^^^ b) := by
  apply Int32.toBitVec_inj.mp
  show BitVec.ofNat 32 a ^^^ BitVec.ofNat 32 b = BitVec.ofNat 32 (a ^^^ b)
  rw [BitVec.ofNat_xor]
theorem nI_shl {a k : Nat} (hk : k < 32) (h : a * 2 ^ k < 2 ^ 32) : nI a <<< (nI k &&& 31) = nI (a <<< k) := by
  rw [Nat.shiftLeft_eq]; exact pk_shlN _ k (nv_smod k hk) h
theorem nI_shr {a k : Nat} (hk : k < 32) (h : a < 2 ^ 31) : nI a >>> (nI k &&& 31) = nI (a >>> k) := by
  rw [Nat.shiftRight_eq_div_pow]; exact pk_shrN h _ k (nv_smod k hk)
theorem nv_iand (hx : p.tables.exec = Jvm.exec) (hb : c.code = cc) {a b : Nat} (hdg : decode cc pc = .ok (.iand, 1)) (k : W p l e R s m args below meth c H locs cells slots Q (F0 m (pc + 1) ls (.int (nI (a &&& b)) :: rest))) : W p l e R s m args below meth c H locs cells slots Q (F0 m pc ls (.int (nI b) :: .int (nI a) :: rest)) := lv_iand hx hb hdg (lv_topi (nm_r (nI_and a b) k))
theorem nv_ior (hx : p.tables.exec = Jvm.exec) (hb : c.code = cc) {a b : Nat} (hdg : decode cc pc = .ok (.ior, 1)) (k : W p l e R s m args below meth c H locs cells slots Q (F0 m (pc + 1) ls (.int (nI (a ||| b)) :: rest))) : W p l e R s m args below meth c H locs cells slots Q (F0 m pc ls (.int (nI b) :: .int (nI a) :: rest)) := lv_ior hx hb hdg (lv_topi (nm_r (nI_or a b) k))
theorem nv_ixor (hx : p.tables.exec = Jvm.exec) (hb : c.code = cc) {a b : Nat} (hdg : decode cc pc = .ok (.ixor, 1)) (k : W p l e R s m args below meth c H locs cells slots Q (F0 m (pc + 1) ls (.int (nI (a ^^^ b)) :: rest))) : W p l e R s m args below meth c H locs cells slots Q (F0 m pc ls (.int (nI b) :: .int (nI a) :: rest)) := lv_ixor hx hb hdg (lv_topi (nm_r (nI_xor a b) k))
theorem nv_ishl (hx : p.tables.exec = Jvm.exec) (hb : c.code = cc) {a b : Nat} (hdg : decode cc pc = .ok (.ishl, 1)) (hk : b < 32) (h : a * 2 ^ b < 2 ^ 32) (k : W p l e R s m args below meth c H locs cells slots Q (F0 m (pc + 1) ls (.int (nI (a <<< b)) :: rest))) : W p l e R s m args below meth c H locs cells slots Q (F0 m pc ls (.int (nI b) :: .int (nI a) :: rest)) := lv_ishl hx hb hdg (lv_topi (nm_r (nI_shl hk h) k))
theorem nv_ishr (hx : p.tables.exec = Jvm.exec) (hb : c.code = cc) {a b : Nat} (hdg : decode cc pc = .ok (.ishr, 1)) (hk : b < 32) (h : a < 2 ^ 31) (k : W p l e R s m args below meth c H locs cells slots Q (F0 m (pc + 1) ls (.int (nI (a >>> b)) :: rest))) : W p l e R s m args below meth c H locs cells slots Q (F0 m pc ls (.int (nI b) :: .int (nI a) :: rest)) := lv_ishr hx hb hdg (lv_topi (nm_r (nI_shr hk h) k))
theorem nv_icmp_lt (hx : p.tables.exec = Jvm.exec) (hb : c.code = cc) {a b : Nat} {off : Int} {tgt : Nat} (hdg : decode cc pc = .ok (.if_icmp .lt off, 3)) (ht : (pc : Int) + off = (tgt : Int)) (ha : a < 2 ^ 31) (hb2 : b < 2 ^ 31) (kt : a < b → W p l e R s m args below meth c H locs cells slots Q (F0 m tgt ls (rest))) (kf : b ≤ a → W p l e R s m args below meth c H locs cells slots Q (F0 m (pc + 3) ls (rest))) : W p l e R s m args below meth c H locs cells slots Q (F0 m pc ls (.int (nI b) :: .int (nI a) :: rest)) := lv_icmp_lt hx hb hdg ht (fun q => kt ((nI_ltI ha hb2).mp q)) (fun q => kf (Nat.le_of_not_lt fun z => q ((nI_ltI ha hb2).mpr z)))
theorem nv_icmp_ge (hx : p.tables.exec = Jvm.exec) (hb : c.code = cc) {a b : Nat} {off : Int} {tgt : Nat} (hdg : decode cc pc = .ok (.if_icmp .ge off, 3)) (ht : (pc : Int) + off = (tgt : Int)) (ha : a < 2 ^ 31) (hb2 : b < 2 ^ 31) (kt : b ≤ a → W p l e R s m args below meth c H locs cells slots Q (F0 m tgt ls (rest))) (kf : a < b → W p l e R s m args below meth c H locs cells slots Q (F0 m (pc + 3) ls (rest))) : W p l e R s m args below meth c H locs cells slots Q (F0 m pc ls (.int (nI b) :: .int (nI a) :: rest)) := lv_icmp_ge hx hb hdg ht (fun q => kt ((nI_leI hb2 ha).mp q)) (fun q => kf (Nat.lt_of_not_le fun z => q ((nI_leI hb2 ha).mpr z)))
theorem nv_icmp_gt (hx : p.tables.exec = Jvm.exec) (hb : c.code = cc) {a b : Nat} {off : Int} {tgt : Nat} (hdg : decode cc pc = .ok (.if_icmp .gt off, 3)) (ht : (pc : Int) + off = (tgt : Int)) (ha : a < 2 ^ 31) (hb2 : b < 2 ^ 31) (kt : b < a → W p l e R s m args below meth c H locs cells slots Q (F0 m tgt ls (rest))) (kf : a ≤ b → W p l e R s m args below meth c H locs cells slots Q (F0 m (pc + 3) ls (rest))) : W p l e R s m args below meth c H locs cells slots Q (F0 m pc ls (.int (nI b) :: .int (nI a) :: rest)) := lv_icmp_gt hx hb hdg ht (fun q => kt ((nI_ltI hb2 ha).mp q)) (fun q => kf (Nat.le_of_not_lt fun z => q ((nI_ltI hb2 ha).mpr z)))
theorem nv_icmp_le (hx : p.tables.exec = Jvm.exec) (hb : c.code = cc) {a b : Nat} {off : Int} {tgt : Nat} (hdg : decode cc pc = .ok (.if_icmp .le off, 3)) (ht : (pc : Int) + off = (tgt : Int)) (ha : a < 2 ^ 31) (hb2 : b < 2 ^ 31) (kt : a ≤ b → W p l e R s m args below meth c H locs cells slots Q (F0 m tgt ls (rest))) (kf : b < a → W p l e R s m args below meth c H locs cells slots Q (F0 m (pc + 3) ls (rest))) : W p l e R s m args below meth c H locs cells slots Q (F0 m pc ls (.int (nI b) :: .int (nI a) :: rest)) := lv_icmp_le hx hb hdg ht (fun q => kt ((nI_leI ha hb2).mp q)) (fun q => kf (Nat.lt_of_not_le fun z => q ((nI_leI ha hb2).mpr z)))
theorem nv_icmp_eq (hx : p.tables.exec = Jvm.exec) (hb : c.code = cc) {a b : Nat} {off : Int} {tgt : Nat} (hdg : decode cc pc = .ok (.if_icmp .eq off, 3)) (ht : (pc : Int) + off = (tgt : Int)) (ha : a < 2 ^ 31) (hb2 : b < 2 ^ 31) (kt : a = b → W p l e R s m args below meth c H locs cells slots Q (F0 m tgt ls (rest))) (kf : ¬ a = b → W p l e R s m args below meth c H locs cells slots Q (F0 m (pc + 3) ls (rest))) : W p l e R s m args below meth c H locs cells slots Q (F0 m pc ls (.int (nI b) :: .int (nI a) :: rest)) := lv_icmp_eq hx hb hdg ht (fun q => kt ((nI_eq ha hb2).mp q)) (fun q => kf (fun z => q ((nI_eq ha hb2).mpr z)))
theorem nv_icmp_ne (hx : p.tables.exec = Jvm.exec) (hb : c.code = cc) {a b : Nat} {off : Int} {tgt : Nat} (hdg : decode cc pc = .ok (.if_icmp .ne off, 3)) (ht : (pc : Int) + off = (tgt : Int)) (ha : a < 2 ^ 31) (hb2 : b < 2 ^ 31) (kt : ¬ a = b → W p l e R s m args below meth c H locs cells slots Q (F0 m tgt ls (rest))) (kf : a = b → W p l e R s m args below meth c H locs cells slots Q (F0 m (pc + 3) ls (rest))) : W p l e R s m args below meth c H locs cells slots Q (F0 m pc ls (.int (nI b) :: .int (nI a) :: rest)) := lv_icmp_ne hx hb hdg ht (fun q => kt (fun z => q ((nI_eq ha hb2).mpr z))) (fun q => kf ((nI_eq ha hb2).mp q))
theorem nv_icmp_eqf (hx : p.tables.exec = Jvm.exec) (hb : c.code = cc) {a : Nat} {off : Int} {tgt : Nat} (hdg : decode cc pc = .ok (.if_icmp .eq off, 3)) (ht : (pc : Int) + off = (tgt : Int)) (ha : a < 2 ^ 31) (kt : a = 0 → W p l e R s m args below meth c H locs cells slots Q (F0 m tgt ls (rest))) (kf : ¬ a = 0 → W p l e R s m args below meth c H locs cells slots Q (F0 m (pc + 3) ls (rest))) : W p l e R s m args below meth c H locs cells slots Q (F0 m pc ls (.int (fI 0) :: .int (fI a) :: rest)) := lv_icmp_eq hx hb hdg ht (fun q => kt ((fI_eq0 ha).mp q)) (fun q => kf (fun z => q ((fI_eq0 ha).mpr z)))
theorem nv_icmp_nef (hx : p.tables.exec = Jvm.exec) (hb : c.code = cc) {a : Nat} {off : Int} {tgt : Nat} (hdg : decode cc pc = .ok (.if_icmp .ne off, 3)) (ht : (pc : Int) + off = (tgt : Int)) (ha : a < 2 ^ 31) (kt : ¬ a = 0 → W p l e R s m args below meth c H locs cells slots Q (F0 m tgt ls (rest))) (kf : a = 0 → W p l e R s m args below meth c H locs cells slots Q (F0 m (pc + 3) ls (rest))) : W p l e R s m args below meth c H locs cells slots Q (F0 m pc ls (.int (fI 0) :: .int (fI a) :: rest)) := lv_icmp_ne hx hb hdg ht (fun q => kt (fun z => q ((fI_eq0 ha).mpr z))) (fun q => kf ((fI_eq0 ha).mp q))
theorem nv_icmp_gef (hx : p.tables.exec = Jvm.exec) (hb : c.code = cc) {a b : Nat} {off : Int} {tgt : Nat} (hdg : decode cc pc = .ok (.if_icmp .ge off, 3)) (ht : (pc : Int) + off = (tgt : Int)) (ha : a < 2 ^ 31) (hb2 : b < 2 ^ 31) (kt : b < a → W p l e R s m args below meth c H locs cells slots Q (F0 m tgt ls (rest))) (kf : a ≤ b → W p l e R s m args below meth c H locs cells slots Q (F0 m (pc + 3) ls (rest))) : W p l e R s m args below meth c H locs cells slots Q (F0 m pc ls (.int (nI b) :: .int (fI a) :: rest)) := lv_icmp_ge hx hb hdg ht (fun q => kt (by have q := Int32.le_iff_toInt_le.mp q; rw [fI_toInt ha, nI_toInt hb2] at q; omega)) (fun q => kf (Nat.le_of_not_lt fun z => q (Int32.le_iff_toInt_le.mpr (by rw [fI_toInt ha, nI_toInt hb2]; omega))))
theorem nv_if_ltf (hx : p.tables.exec = Jvm.exec) (hb : c.code = cc) {a : Nat} {off : Int} {tgt : Nat} (hdg : decode cc pc = .ok (.ifCond .lt off, 3)) (ht : (pc : Int) + off = (tgt : Int)) (ha : a < 2 ^ 31) (kt : a = 0 → W p l e R s m args below meth c H locs cells slots Q (F0 m tgt ls (rest))) (kf : ¬ a = 0 → W p l e R s m args below meth c H locs cells slots Q (F0 m (pc + 3) ls (rest))) : W p l e R s m args below meth c H locs cells slots Q (F0 m pc ls (.int (fI a) :: rest)) := lv_if_lt hx hb hdg ht (fun q => kt (by have q := Int32.lt_iff_toInt_lt.mp q; rw [fI_toInt ha] at q; have : (0 : Int32).toInt = 0 := rfl; omega)) (fun q => kf (fun z => q (by rw [z]; decide)))
theorem nv_if_eq (hx : p.tables.exec = Jvm.exec) (hb : c.code = cc) {a : Nat} {off : Int} {tgt : Nat} (hdg : decode cc pc = .ok (.ifCond .eq off, 3)) (ht : (pc : Int) + off = (tgt : Int)) (ha : a < 2 ^ 31) (kt : a = 0 → W p l e R s m args below meth c H locs cells slots Q (F0 m tgt ls (rest))) (kf : ¬ a = 0 → W p l e R s m args below meth c H locs cells slots Q (F0 m (pc + 3) ls (rest))) : W p l e R s m args below meth c H locs cells slots Q (F0 m pc ls (.int (nI a) :: rest)) := lv_if_eq hx hb hdg ht (fun q => kt ((nI_eq ha (by decide)).mp q)) (fun q => kf (fun z => q ((nI_eq ha (by decide)).mpr z)))
theorem nv_if_ne (hx : p.tables.exec = Jvm.exec) (hb : c.code = cc) {a : Nat} {off : Int} {tgt : Nat} (hdg : decode cc pc = .ok (.ifCond .ne off, 3)) (ht : (pc : Int) + off = (tgt : Int)) (ha : a < 2 ^ 31) (kt : ¬ a = 0 → W p l e R s m args below meth c H locs cells slots Q (F0 m tgt ls (rest))) (kf : a = 0 → W p l e R s m args below meth c H locs cells slots Q (F0 m (pc + 3) ls (rest))) : W p l e R s m args below meth c H locs cells slots Q (F0 m pc ls (.int (nI a) :: rest)) := lv_if_ne hx hb hdg ht (fun q => kt (fun z => q ((nI_eq ha (by decide)).mpr z))) (fun q => kf ((nI_eq ha (by decide)).mp q))
theorem nv_if_gt (hx : p.tables.exec = Jvm.exec) (hb : c.code = cc) {a : Nat} {off : Int} {tgt : Nat} (hdg : decode cc pc = .ok (.ifCond .gt off, 3)) (ht : (pc : Int) + off = (tgt : Int)) (ha : a < 2 ^ 31) (kt : 0 < a → W p l e R s m args below meth c H locs cells slots Q (F0 m tgt ls (rest))) (kf : a = 0 → W p l e R s m args below meth c H locs cells slots Q (F0 m (pc + 3) ls (rest))) : W p l e R s m args below meth c H locs cells slots Q (F0 m pc ls (.int (nI a) :: rest)) := lv_if_gt hx hb hdg ht (fun q => kt ((nI_ltI (by decide) ha).mp q)) (fun q => kf (Nat.eq_zero_of_not_pos fun z => q ((nI_ltI (by decide) ha).mpr z)))
theorem nv_if_le (hx : p.tables.exec = Jvm.exec) (hb : c.code = cc) {a : Nat} {off : Int} {tgt : Nat} (hdg : decode cc pc = .ok (.ifCond .le off, 3)) (ht : (pc : Int) + off = (tgt : Int)) (ha : a < 2 ^ 31) (kt : a = 0 → W p l e R s m args below meth c H locs cells slots Q (F0 m tgt ls (rest))) (kf : 0 < a → W p l e R s m args below meth c H locs cells slots Q (F0 m (pc + 3) ls (rest))) : W p l e R s m args below meth c H locs cells slots Q (F0 m pc ls (.int (nI a) :: rest)) := lv_if_le hx hb hdg ht (fun q => kt (Nat.eq_zero_of_not_pos fun z => nI_nle z ha q)) (fun q => kf (Nat.pos_of_ne_zero fun z => q (by rw [z]; decide)))
theorem nv_if_lt (hx : p.tables.exec = Jvm.exec) (hb : c.code = cc) {a : Nat} {off : Int} (hdg : decode cc pc = .ok (.ifCond .lt off, 3)) {tgt : Nat} (ht : (pc : Int) + off = (tgt : Int)) (ha : a < 2 ^ 31) (kf : W p l e R s m args below meth c H locs cells slots Q (F0 m (pc + 3) ls (rest))) : W p l e R s m args below meth c H locs cells slots Q (F0 m pc ls (.int (nI a) :: rest)) := lv_if_lt hx hb hdg ht (fun q => absurd q (nI_pos ha)) (fun q => kf)
theorem nv_if_ge (hx : p.tables.exec = Jvm.exec) (hb : c.code = cc) {a : Nat} {off : Int} (hdg : decode cc pc = .ok (.ifCond .ge off, 3)) {tgt : Nat} (ht : (pc : Int) + off = (tgt : Int)) (ha : a < 2 ^ 31) (kt : W p l e R s m args below meth c H locs cells slots Q (F0 m tgt ls (rest))) : W p l e R s m args below meth c H locs cells slots Q (F0 m pc ls (.int (nI a) :: rest)) := lv_if_ge hx hb hdg ht (fun q => kt) (fun q => absurd (nI_pos' ha) q)
theorem nv_ifb_eq (hx : p.tables.exec = Jvm.exec) (hb : c.code = cc) {a : Bool} {off : Int} {tgt : Nat} (hdg : decode cc pc = .ok (.ifCond .eq off, 3)) (ht : (pc : Int) + off = (tgt : Int)) (kt : a = false → W p l e R s m args below meth c H locs cells slots Q (F0 m tgt ls (rest))) (kf : a = true → W p l e R s m args below meth c H locs cells slots Q (F0 m (pc + 3) ls (rest))) : W p l e R s m args below meth c H locs cells slots Q (F0 m pc ls (.int (bI a) :: rest)) := lv_if_eq hx hb hdg ht (fun q => kt (bI_eq0.mp q)) (fun q => kf (bI_ne0.mp q))
theorem nv_ifb_ne (hx : p.tables.exec = Jvm.exec) (hb : c.code = cc) {a : Bool} {off : Int} {tgt : Nat} (hdg : decode cc pc = .ok (.ifCond .ne off, 3)) (ht : (pc : Int) + off = (tgt : Int)) (kt : a = true → W p l e R s m args below meth c H locs cells slots Q (F0 m tgt ls (rest))) (kf : a = false → W p l e R s m args below meth c H locs cells slots Q (F0 m (pc + 3) ls (rest))) : W p l e R s m args below meth c H locs cells slots Q (F0 m pc ls (.int (bI a) :: rest)) := lv_if_ne hx hb hdg ht (fun q => kt (bI_ne0.mp q)) (fun q => kf (bI_eq0.mp q))
theorem nv_lcmp_eq (hx : p.tables.exec = Jvm.exec) (hb : c.code = cc) {x y : Int64} {off : Int} {tgt : Nat} (d1 : decode cc pc = .ok (.lcmp, 1)) (d2 : decode cc (pc + 1) = .ok (.ifCond .eq off, 3)) (ht : ((pc + 1 : Nat) : Int) + off = (tgt : Int)) (kt : x = y → W p l e R s m args below meth c H locs cells slots Q (F0 m tgt ls (rest))) (kf : ¬ x = y → W p l e R s m args below meth c H locs cells slots Q (F0 m (pc + 1 + 3) ls (rest))) : W p l e R s m args below meth c H locs cells slots Q (F0 m pc ls (.long y :: .long x :: rest)) := W.lcmp hx hb d1 (lv_if_eq hx hb d2 ht (fun q => kt ((lg_cmp_eq x y).mp q)) (fun q => kf (fun z => q ((lg_cmp_eq x y).mpr z))))
theorem nv_lcmp_lt (hx : p.tables.exec = Jvm.exec) (hb : c.code = cc) {x y : Int64} {off : Int} {tgt : Nat} (d1 : decode cc pc = .ok (.lcmp, 1)) (d2 : decode cc (pc + 1) = .ok (.ifCond .lt off, 3)) (ht : ((pc + 1 : Nat) : Int) + off = (tgt : Int)) (kt : x < y → W p l e R s m args below meth c H locs cells slots Q (F0 m tgt ls (rest))) (kf : ¬ x < y → W p l e R s m args below meth c H locs cells slots Q (F0 m (pc + 1 + 3) ls (rest))) : W p l e R s m args below meth c H locs cells slots Q (F0 m pc ls (.long y :: .long x :: rest)) := W.lcmp hx hb d1 (lv_if_lt hx hb d2 ht (fun q => kt ((lg_cmp_lt x y).mp q)) (fun q => kf (fun z => q ((lg_cmp_lt x y).mpr z))))
theorem nv_lcmp_ge (hx : p.tables.exec = Jvm.exec) (hb : c.code = cc) {x y : Int64} {off : Int} {tgt : Nat} (d1 : decode cc pc = .ok (.lcmp, 1)) (d2 : decode cc (pc + 1) = .ok (.ifCond .ge off, 3)) (ht : ((pc + 1 : Nat) : Int) + off = (tgt : Int)) (kt : y ≤ x → W p l e R s m args below meth c H locs cells slots Q (F0 m tgt ls (rest))) (kf : ¬ y ≤ x → W p l e R s m args below meth c H locs cells slots Q (F0 m (pc + 1 + 3) ls (rest))) : W p l e R s m args below meth c H locs cells slots Q (F0 m pc ls (.long y :: .long x :: rest)) := W.lcmp hx hb d1 (lv_if_ge hx hb d2 ht (fun q => kt ((lg_cmp_ge x y).mp q)) (fun q => kf (fun z => q ((lg_cmp_ge x y).mpr z))))
theorem nv_lcmp_gt (hx : p.tables.exec = Jvm.exec) (hb : c.code = cc) {x y : Int64} {off : Int} {tgt : Nat} (d1 : decode cc pc = .ok (.lcmp, 1)) (d2 : decode cc (pc + 1) = .ok (.ifCond .gt off, 3)) (ht : ((pc + 1 : Nat) : Int) + off = (tgt : Int)) (kt : y < x → W p l e R s m args below meth c H locs cells slots Q (F0 m tgt ls (rest))) (kf : ¬ y < x → W p l e R s m args below meth c H locs cells slots Q (F0 m (pc + 1 + 3) ls (rest))) : W p l e R s m args below meth c H locs cells slots Q (F0 m pc ls (.long y :: .long x :: rest)) := W.lcmp hx hb d1 (lv_if_gt hx hb d2 ht (fun q => kt ((lg_cmp_gt x y).mp q)) (fun q => kf (fun z => q ((lg_cmp_gt x y).mpr z))))
theorem nv_lcmp_le (hx : p.tables.exec = Jvm.exec) (hb : c.code = cc) {x y : Int64} {off : Int} {tgt : Nat} (d1 : decode cc pc = .ok (.lcmp, 1)) (d2 : decode cc (pc + 1) = .ok (.ifCond .le off, 3)) (ht : ((pc + 1 : Nat) : Int) + off = (tgt : Int)) (kt : x ≤ y → W p l e R s m args below meth c H locs cells slots Q (F0 m tgt ls (rest))) (kf : ¬ x ≤ y → W p l e R s m args below meth c H locs cells slots Q (F0 m (pc + 1 + 3) ls (rest))) : W p l e R s m args below meth c H locs cells slots Q (F0 m pc ls (.long y :: .long x :: rest)) := W.lcmp hx hb d1 (lv_if_le hx hb d2 ht (fun q => kt ((lg_cmp_le x y).mp q)) (fun q => kf (fun z => q ((lg_cmp_le x y).mpr z))))
theorem nv_lcmp_ne (hx : p.tables.exec = Jvm.exec) (hb : c.code = cc) {x y : Int64} {off : Int} {tgt : Nat} (d1 : decode cc pc = .ok (.lcmp, 1)) (d2 : decode cc (pc + 1) = .ok (.ifCond .ne off, 3)) (ht : ((pc + 1 : Nat) : Int) + off = (tgt : Int)) (kt : ¬ x = y → W p l e R s m args below meth c H locs cells slots Q (F0 m tgt ls (rest))) (kf : x = y → W p l e R s m args below meth c H locs cells slots Q (F0 m (pc + 1 + 3) ls (rest))) : W p l e R s m args below meth c H locs cells slots Q (F0 m pc ls (.long y :: .long x :: rest)) := W.lcmp hx hb d1 (lv_if_ne hx hb d2 ht (fun q => kt (fun z => q ((lg_cmp_eq x y).mpr z))) (fun q => kf ((lg_cmp_eq x y).mp q)))
theorem nv_iald {D : va_G} {cl : List vw_C} {a : Nat} {tys : List (ClassId × FieldType)} {ws : va_W} (hx : p.tables.exec = Jvm.exec) (hb : c.code = cc) (hK : va_K D cl tys s) (hP : va_P D cl ws H) (q0 t0 : Nat) {cA : ClassId} {n : Nat} {f : Nat → Int32} (ha : ws[q0]? = some (a, .inl (cA, n, .inl f))) (ht : tys[t0]? = some (cA, .int)) {i : Nat} (hi : i < n) (hn : n < 2 ^ 31) (hdg : decode cc pc = .ok (.iaload, 1)) (k : W p l e R s m args below meth c H locs cells slots Q (F0 m (pc + 1) ls (.int (f i) :: rest))) : W p l e R s m args below meth c H locs cells slots Q (F0 m pc ls (.int (nI i) :: .ref a :: rest)) := va_iald hx hb hK hP q0 t0 ha ht (vp_in_nI hi hn) hdg (by rw [nI_clamp (Nat.lt_trans hi hn)]; exact k)
theorem nv_iast {D : va_G} {cl : List vw_C} {A : Nat → Prop} {a : Nat} {tys : List (ClassId × FieldType)} {ws : va_W} {H0 : Heap} (hx : p.tables.exec = Jvm.exec) (hb : c.code = cc) (hK : va_K D cl tys s) (hP : va_P D cl ws H) (hD : va_D A ws) (hS : va_S A H0 H locs) (q0 t0 : Nat) {cA : ClassId} {n : Nat} {f : Nat → Int32} (ha : ws[q0]? = some (a, .inl (cA, n, .inl f))) (ht : tys[t0]? = some (cA, .int)) {i : Nat} {x : Int32} (hi : i < n) (hn : n < 2 ^ 31) (hdg : decode cc pc = .ok (.iastore, 1)) (k : ∀ (H1 : Heap) (locs1 : List Loc), va_P D cl (ws.set q0 (a, .inl (cA, n, .inl (upd f i x)))) H1 → va_D A (ws.set q0 (a, .inl (cA, n, .inl (upd f i x)))) → va_S A H0 H1 locs1 → W p l e R s m args below meth c H1 locs1 cells slots Q (F0 m (pc + 1) ls (rest))) : W p l e R s m args below meth c H locs cells slots Q (F0 m pc ls (.int x :: .int (nI i) :: .ref a :: rest)) := va_iast hx hb hK hP hD hS q0 t0 ha ht (vp_in_nI hi hn) hdg (by rw [nI_clamp (Nat.lt_trans hi hn)]; exact k)
theorem nv_lald {D : va_G} {cl : List vw_C} {a : Nat} {tys : List (ClassId × FieldType)} {ws : va_W} (hx : p.tables.exec = Jvm.exec) (hb : c.code = cc) (hK : va_K D cl tys s) (hP : va_P D cl ws H) (q0 t0 : Nat) {cA : ClassId} {n : Nat} {f : Nat → Int64} (ha : ws[q0]? = some (a, .inl (cA, n, .inr (.inl f)))) (ht : tys[t0]? = some (cA, .long)) {i : Nat} (hi : i < n) (hn : n < 2 ^ 31) (hdg : decode cc pc = .ok (.laload, 1)) (k : W p l e R s m args below meth c H locs cells slots Q (F0 m (pc + 1) ls (.long (f i) :: rest))) : W p l e R s m args below meth c H locs cells slots Q (F0 m pc ls (.int (nI i) :: .ref a :: rest)) := va_lald hx hb hK hP q0 t0 ha ht (vp_in_nI hi hn) hdg (by rw [nI_clamp (Nat.lt_trans hi hn)]; exact k)
theorem nv_last {D : va_G} {cl : List vw_C} {A : Nat → Prop} {a : Nat} {tys : List (ClassId × FieldType)} {ws : va_W} {H0 : Heap} (hx : p.tables.exec = Jvm.exec) (hb : c.code = cc) (hK : va_K D cl tys s) (hP : va_P D cl ws H) (hD : va_D A ws) (hS : va_S A H0 H locs) (q0 t0 : Nat) {cA : ClassId} {n : Nat} {f : Nat → Int64} (ha : ws[q0]? = some (a, .inl (cA, n, .inr (.inl f)))) (ht : tys[t0]? = some (cA, .long)) {i : Nat} {x : Int64} (hi : i < n) (hn : n < 2 ^ 31) (hdg : decode cc pc = .ok (.lastore, 1)) (k : ∀ (H1 : Heap) (locs1 : List Loc), va_P D cl (ws.set q0 (a, .inl (cA, n, .inr (.inl (vp_updL f i x))))) H1 → va_D A (ws.set q0 (a, .inl (cA, n, .inr (.inl (vp_updL f i x))))) → va_S A H0 H1 locs1 → W p l e R s m args below meth c H1 locs1 cells slots Q (F0 m (pc + 1) ls (rest))) : W p l e R s m args below meth c H locs cells slots Q (F0 m pc ls (.long x :: .int (nI i) :: .ref a :: rest)) := va_last hx hb hK hP hD hS q0 t0 ha ht (vp_in_nI hi hn) hdg (by rw [nI_clamp (Nat.lt_trans hi hn)]; exact k)
theorem xc_i {S : Type} {D : va_G} {cl : List vw_C} {tys : List (ClassId × FieldType)} {A : Nat → Prop} {wc : va_W} {J : va_W → va_W} {wf : S → va_W} {mc ms : Nat} {a : Array Value} {st0 : List Value} {post : Int32 → S → Prop} (hr : va_Run p l e R s m args below meth c H locs cells slots mc ms (F0 m pc ls st0) rest (va_Qi post (PostW D cl tys wf (va_A wc H.size)) (va_A wc H.size) a) (va_A wc H.size)) (hS : va_S A s.heap H locs) (cut : Cut D cl A wc J H)
    (kk : ∀ (r : Int32) (u : S) (H1 : Heap) (locs1 : List Loc), post r u → va_P D cl (J (wf u)) H1 → va_D A (J (wf u)) → va_S A s.heap H1 locs1 → W p l e R s m args below meth c H1 locs1 (cells + mc) (slots + ms) Q (F0 m (pc + 3) ls (.int r :: rest))) : W p l e R s m args below meth c H locs cells slots Q (F0 m pc ls (st0)) :=
  va_calli hr hS (fun q _ h => cut.2.2.1 q h) cut.2.2.1 (fun r u t H1 locs1 ht hvm hp hB hz hk hS1 => by
    obtain ⟨hP1, hK1, hD1⟩ := hB
    rw [ht] at hP1
    obtain ⟨g1, g2⟩ := cut.2.2.2 H1 _ hk hz hP1 hD1
    exact kk r u H1 locs1 hp g1 g2 hS1)
theorem xc_l {S : Type} {D : va_G} {cl : List vw_C} {tys : List (ClassId × FieldType)} {A : Nat → Prop} {wc : va_W} {J : va_W → va_W} {wf : S → va_W} {mc ms : Nat} {a : Array Value} {st0 : List Value} {post : Int64 → S → Prop} (hr : va_Run p l e R s m args below meth c H locs cells slots mc ms (F0 m pc ls st0) rest (va_Ql post (PostW D cl tys wf (va_A wc H.size)) (va_A wc H.size) a) (va_A wc H.size)) (hS : va_S A s.heap H locs) (cut : Cut D cl A wc J H)
    (kk : ∀ (r : Int64) (u : S) (H1 : Heap) (locs1 : List Loc), post r u → va_P D cl (J (wf u)) H1 → va_D A (J (wf u)) → va_S A s.heap H1 locs1 → W p l e R s m args below meth c H1 locs1 (cells + mc) (slots + ms) Q (F0 m (pc + 3) ls (.long r :: rest))) : W p l e R s m args below meth c H locs cells slots Q (F0 m pc ls (st0)) :=
  va_calll hr hS (fun q _ h => cut.2.2.1 q h) cut.2.2.1 (fun r u t H1 locs1 ht hvm hp hB hz hk hS1 => by
    obtain ⟨hP1, hK1, hD1⟩ := hB
    rw [ht] at hP1
    obtain ⟨g1, g2⟩ := cut.2.2.2 H1 _ hk hz hP1 hD1
    exact kk r u H1 locs1 hp g1 g2 hS1)
theorem xc_d {S : Type} {D : va_G} {cl : List vw_C} {tys : List (ClassId × FieldType)} {A : Nat → Prop} {wc : va_W} {J : va_W → va_W} {wf : S → va_W} {mc ms : Nat} {a : Array Value} {st0 : List Value} {post : UInt64 → S → Prop} (hr : va_Run p l e R s m args below meth c H locs cells slots mc ms (F0 m pc ls st0) rest (va_Qd post (PostW D cl tys wf (va_A wc H.size)) (va_A wc H.size) a) (va_A wc H.size)) (hS : va_S A s.heap H locs) (cut : Cut D cl A wc J H)
    (kk : ∀ (r : UInt64) (u : S) (H1 : Heap) (locs1 : List Loc), post r u → va_P D cl (J (wf u)) H1 → va_D A (J (wf u)) → va_S A s.heap H1 locs1 → W p l e R s m args below meth c H1 locs1 (cells + mc) (slots + ms) Q (F0 m (pc + 3) ls (.double r :: rest))) : W p l e R s m args below meth c H locs cells slots Q (F0 m pc ls (st0)) :=
  va_calld hr hS (fun q _ h => cut.2.2.1 q h) cut.2.2.1 (fun r u t H1 locs1 ht hvm hp hB hz hk hS1 => by
    obtain ⟨hP1, hK1, hD1⟩ := hB
    rw [ht] at hP1
    obtain ⟨g1, g2⟩ := cut.2.2.2 H1 _ hk hz hP1 hD1
    exact kk r u H1 locs1 hp g1 g2 hS1)
theorem xc_v {S : Type} {D : va_G} {cl : List vw_C} {tys : List (ClassId × FieldType)} {A : Nat → Prop} {wc : va_W} {J : va_W → va_W} {wf : S → va_W} {mc ms : Nat} {a : Array Value} {st0 : List Value} {post : S → Prop} (hr : va_Run p l e R s m args below meth c H locs cells slots mc ms (F0 m pc ls st0) rest (va_Qv post (PostW D cl tys wf (va_A wc H.size)) (va_A wc H.size) a) (va_A wc H.size)) (hS : va_S A s.heap H locs) (cut : Cut D cl A wc J H)
    (kk : ∀ (u : S) (H1 : Heap) (locs1 : List Loc), post u → va_P D cl (J (wf u)) H1 → va_D A (J (wf u)) → va_S A s.heap H1 locs1 → W p l e R s m args below meth c H1 locs1 (cells + mc) (slots + ms) Q (F0 m (pc + 3) ls (rest))) : W p l e R s m args below meth c H locs cells slots Q (F0 m pc ls (st0)) :=
  va_callv hr hS (fun q _ h => cut.2.2.1 q h) cut.2.2.1 (fun u t H1 locs1 ht hvm hp hB hz hk hS1 => by
    obtain ⟨hP1, hK1, hD1⟩ := hB
    rw [ht] at hP1
    obtain ⟨g1, g2⟩ := cut.2.2.2 H1 _ hk hz hP1 hD1
    exact kk u H1 locs1 hp g1 g2 hS1)
theorem xc_pre {Ev : (Nat → Prop) → State → Prop} {D : va_G} {cl : List vw_C} {tys : List (ClassId × FieldType)} {A : Nat → Prop} {wc : va_W} {J : va_W → va_W} {As : List Value} (hEv : EvOk Ev) (hE : Ev A s) (hK : va_K D cl tys s) (hS : va_S A s.heap H locs) (cut : Cut D cl A wc J H) : PreS s H (va_Pc As (PreW Ev D cl tys wc H.size)) As := by
  refine ⟨fun a U g mk q => ?_, fun U hU hW => ⟨rfl, by rw [hU], by rw [hU]; exact cut.1, va_K.moved hW.alike hK, cut.2.1, hEv A _ s U hE hW (fun q h1 h2 => by rw [hU]; exact hS.2.1 q h1 h2) cut.2.2.1⟩⟩
  obtain ⟨q0, q1, qP, qK, qD, qE⟩ := q
  exact ⟨q0, q1, qP, va_K.moved (u := U) (U := U.calling g mk a) (Vm.Alike.refl U.vm) qK, qD, hEv _ _ U _ qE (State.WarmedH.refl U) (fun _ _ _ => rfl) (fun _ h => h)⟩
theorem xr_S {Ev : (Nat → Prop) → State → Prop} {D : va_G} {cl : List vw_C} {tys : List (ClassId × FieldType)} {A : Nat → Prop} {wc : va_W} {J : va_W → va_W} {y : MethodName} {bytes : ByteArray} {maxL nL mc ms n index : Nat} {ret : Option FieldType} {wy : List Cond} {rm : Room} {Qc : Array Value → State → Outcome → State → Prop} {free : Addr → Prop} {Ts : List Cond} {own : String} {As st0 : List Value}
    (hM : Met l y wy rm (va_Pc As (PreW Ev D cl tys wc H.size)) Qc mc ms free) (C : CallFix p m c cc nL s args Ts own) (cw : CallB R s args own index y bytes maxL ret wy rm mc ms n ∧ (Cond.static y).before args s = true) (hEv : EvOk Ev) (hE : Ev A s) (hK : va_K D cl tys s) (hS : va_S A s.heap H locs) (cut : Cut D cl A wc J H)
    (hn : As.length = n) (hsize : ls.size = nL) (hst : st0 = As.reverse ++ rest) (hW : (rest.map fun v => v.category).sum ≤ 8) (hdg : decode cc pc = .ok (.invokestatic index, 3)) (hf : cells + mc ≤ R.cells ∧ slots + ms ≤ R.slots) :
    va_Run p l e R s m args below meth c H locs cells slots mc ms (F0 m pc ls st0) rest (Qc As.toArray) free :=
  va_runS (As := As) (rest := rest) C hM cw (xc_pre hEv hE hK hS cut) rfl hn hsize hst (lv_room hW) hdg hf
theorem xr_V {Ev : (Nat → Prop) → State → Prop} {D : va_G} {cl : List vw_C} {tys : List (ClassId × FieldType)} {A : Nat → Prop} {wc : va_W} {J : va_W → va_W} {y : MethodName} {bytes : ByteArray} {maxL nL mc ms n index : Nat} {ret : Option FieldType} {wy : List Cond} {rm : Room} {Qc : Array Value → State → Outcome → State → Prop} {free : Addr → Prop} {Ts : List Cond} {own C0 : String} {As st0 : List Value} {b ci q0 : Nat} {fs : List Value} {T0 : u_T} {N0 : Nat}
    (hM : Met l y wy rm (va_Pc (.ref b :: As) (PreW Ev D cl tys wc H.size)) Qc mc ms free) (C : CallFix p m c cc nL s args Ts own) (cw : CallW R s args own C0 index y bytes maxL ret wy rm mc ms n) (hEv : EvOk Ev) (hE : Ev A s) (hK : va_K D cl tys s) (hS : va_S A s.heap H locs) (cut : Cut D cl A wc J H)
    (hq : wc[q0]? = some (b, .inr (ci, fs))) (hc : cl[ci]? = some (C0, T0, N0)) (hn : As.length = n) (hsize : ls.size = nL) (hst : st0 = As.reverse ++ .ref b :: rest) (hW : (rest.map fun v => v.category).sum ≤ 8) (hdg : decode cc pc = .ok (.invokevirtual index, 3)) (hf : cells + mc ≤ R.cells ∧ slots + ms ≤ R.slots) :
    va_Run p l e R s m args below meth c H locs cells slots mc ms (F0 m pc ls st0) rest (Qc (Value.ref b :: As).toArray) free :=
  va_runV (As := As) (rest := rest) C hM cw ⟨(xc_pre (As := .ref b :: As) hEv hE hK hS cut).1, va_recv hK cut.1 hc hq, (xc_pre hEv hE hK hS cut).2⟩ rfl hn hsize hst (lv_room hW) hdg hf
theorem xr_I {Ev : (Nat → Prop) → State → Prop} {D : va_G} {cl : List vw_C} {tys : List (ClassId × FieldType)} {A : Nat → Prop} {wc : va_W} {J : va_W → va_W} {y : MethodName} {bytes : ByteArray} {maxL nL mc ms n index : Nat} {wy : List Cond} {rm : Room} {Qc : Array Value → State → Outcome → State → Prop} {free : Addr → Prop} {Ts : List Cond} {own : String} {As st0 : List Value} {b : Nat}
    (hM : Met l y wy rm (va_Pc (.ref b :: As) (PreW Ev D cl tys wc H.size)) Qc mc ms free) (C : CallFix p m c cc nL s args Ts own) (cw : CallB R s args own index y bytes maxL none wy rm mc ms n ∧ y.name = "<init>" ∧ (Cond.instanceMethod y).before args s = true) (hEv : EvOk Ev) (hE : Ev A s) (hK : va_K D cl tys s) (hS : va_S A s.heap H locs) (cut : Cut D cl A wc J H)
    (hn : As.length = n) (hsize : ls.size = nL) (hst : st0 = As.reverse ++ .ref b :: rest) (hW : (rest.map fun v => v.category).sum ≤ 8) (hdg : decode cc pc = .ok (.invokespecial index, 3)) (hf : cells + mc ≤ R.cells ∧ slots + ms ≤ R.slots) :
    va_Run p l e R s m args below meth c H locs cells slots mc ms (F0 m pc ls st0) rest (Qc (Value.ref b :: As).toArray) free :=
  va_runI (As := As) (rest := rest) C hM cw (xc_pre hEv hE hK hS cut) rfl hn hsize hst (lv_room hW) hdg hf
theorem xe_i {S : Type} {D : va_G} {cl : List vw_C} {tys : List (ClassId × FieldType)} {A : Nat → Prop} {wf : S → va_W} {post : Int32 → S → Prop} {v : Int32} (u : S) (hx : p.tables.exec = Jvm.exec) (hb : c.code = cc) (hr : meth.sig.returnType = some .int) (hlocks : meth.locks = false) (hK : va_K D cl tys s) (hP : va_P D cl (wf u) H) (hD : va_D A (wf u)) (hS : va_S A s.heap H locs) (hpost : post v u) (hdg : decode cc pc = .ok (.ireturn, 1)) : W p l e R s m args below meth c H locs cells slots (MQ below (va_Qi post (PostW D cl tys wf A) A) args s cells slots A) (F0 m pc ls [.int v]) := W.iret hx hb hr (fun t ht hW => ⟨⟨v, u, rfl, hpost, by rw [ht]; exact hP, va_K.moved hW.alike hK, hD⟩, hS.F ht⟩) hS.2.2 hdg hlocks
theorem xe_l {S : Type} {D : va_G} {cl : List vw_C} {tys : List (ClassId × FieldType)} {A : Nat → Prop} {wf : S → va_W} {post : Int64 → S → Prop} {v : Int64} (u : S) (hx : p.tables.exec = Jvm.exec) (hb : c.code = cc) (hr : meth.sig.returnType = some .long) (hlocks : meth.locks = false) (hK : va_K D cl tys s) (hP : va_P D cl (wf u) H) (hD : va_D A (wf u)) (hS : va_S A s.heap H locs) (hpost : post v u) (hdg : decode cc pc = .ok (.lreturn, 1)) : W p l e R s m args below meth c H locs cells slots (MQ below (va_Ql post (PostW D cl tys wf A) A) args s cells slots A) (F0 m pc ls [.long v]) := W.lret hx hb hr (fun t ht hW => ⟨⟨v, u, rfl, hpost, by rw [ht]; exact hP, va_K.moved hW.alike hK, hD⟩, hS.F ht⟩) hS.2.2 hdg hlocks
theorem xe_d {S : Type} {D : va_G} {cl : List vw_C} {tys : List (ClassId × FieldType)} {A : Nat → Prop} {wf : S → va_W} {post : UInt64 → S → Prop} {v : UInt64} (u : S) (hx : p.tables.exec = Jvm.exec) (hb : c.code = cc) (hr : meth.sig.returnType = some .double) (hlocks : meth.locks = false) (hK : va_K D cl tys s) (hP : va_P D cl (wf u) H) (hD : va_D A (wf u)) (hS : va_S A s.heap H locs) (hpost : post v u) (hdg : decode cc pc = .ok (.dreturn, 1)) : W p l e R s m args below meth c H locs cells slots (MQ below (va_Qd post (PostW D cl tys wf A) A) args s cells slots A) (F0 m pc ls [.double v]) := W.dret hx hb hr (fun t ht hW => ⟨⟨v, u, rfl, hpost, by rw [ht]; exact hP, va_K.moved hW.alike hK, hD⟩, hS.F ht⟩) hS.2.2 hdg hlocks
theorem xe_z {S : Type} {D : va_G} {cl : List vw_C} {tys : List (ClassId × FieldType)} {A : Nat → Prop} {wf : S → va_W} {post : Int32 → S → Prop} {b : Bool} (u : S) (hx : p.tables.exec = Jvm.exec) (hb : c.code = cc) (hr : meth.sig.returnType = some .boolean) (hlocks : meth.locks = false) (hK : va_K D cl tys s) (hP : va_P D cl (wf u) H) (hD : va_D A (wf u)) (hS : va_S A s.heap H locs) (hpost : post (bI b) u) (hdg : decode cc pc = .ok (.ireturn, 1)) : W p l e R s m args below meth c H locs cells slots (MQ below (va_Qi post (PostW D cl tys wf A) A) args s cells slots A) (F0 m pc ls [.int (bI b)]) := W.zret hx hb hr (bI_nar b) (fun t ht hW => ⟨⟨bI b, u, rfl, hpost, by rw [ht]; exact hP, va_K.moved hW.alike hK, hD⟩, hS.F ht⟩) hS.2.2 hdg hlocks
theorem xe_v {S : Type} {D : va_G} {cl : List vw_C} {tys : List (ClassId × FieldType)} {A : Nat → Prop} {wf : S → va_W} {post : S → Prop} (u : S) (hx : p.tables.exec = Jvm.exec) (hb : c.code = cc) (hr : meth.sig.returnType = none) (hlocks : meth.locks = false) (hK : va_K D cl tys s) (hP : va_P D cl (wf u) H) (hD : va_D A (wf u)) (hS : va_S A s.heap H locs) (hpost : post u) (hdg : decode cc pc = .ok (.return_, 1)) : W p l e R s m args below meth c H locs cells slots (MQ below (va_Qv post (PostW D cl tys wf A) A) args s cells slots A) (F0 m pc ls []) := W.vret hx hb hr (fun t ht hW => ⟨⟨u, rfl, hpost, by rw [ht]; exact hP, va_K.moved hW.alike hK, hD⟩, hS.F ht⟩) hS.2.2 hdg hlocks
end XROWS
theorem sh1_ok {k : Nat} (h : k < 32) : 1 * 2 ^ k < 2 ^ 32 := by
  rw [Nat.one_mul]; exact Nat.pow_lt_pow_right (by decide) h
theorem arrV_ext {cI : ClassId} {N : Nat} {f g : Nat → Value} (h : ∀ j, j < N → f j = g j) : arrV cI N f = arrV cI N g := by
  unfold arrV
  congr 1
  apply Array.ext
  · simp
  · intro i h1 h2
    simp at h1
    simp [h i h1]
theorem va_cellP {D : va_G} {cl : List vw_C} {ws : va_W} {H : Heap} {a : Nat} {e e' : va_E} (hP : va_P D cl ws H) (q0 : Nat) (he : ws[q0]? = some (a, e)) (h : va_at D cl (a, e) H → va_at D cl (a, e') H) : va_P D cl (ws.set q0 (a, e')) H := by
  intro k q hk
  have hl := (List.getElem?_eq_some_iff.mp he).1
  by_cases hkp : k = q0
  · subst hkp
    rw [List.getElem?_set_self hl] at hk
    cases hk
    exact h (hP k _ he)
  · rw [List.getElem?_set_ne (Ne.symm hkp)] at hk
    exact hP k q hk
theorem va_ext_i {D : va_G} {cl : List vw_C} {H : Heap} {a n : Nat} {cA : ClassId} {f g : Nat → Int32} (h : ∀ k, k < n → f k = g k) : va_at D cl (a, .inl (cA, n, .inl f)) H → va_at D cl (a, .inl (cA, n, .inl g)) H := by
  intro hh
  show H[a]? = some (vp_cell _ _)
  rw [vp_cell_i, ← arrV_ext (f := fun j => .int (f j)) (fun j hj => by rw [h j hj])]
  exact hh
theorem va_ext_l {D : va_G} {cl : List vw_C} {H : Heap} {a n : Nat} {cA : ClassId} {f g : Nat → Int64} (h : ∀ k, k < n → f k = g k) : va_at D cl (a, .inl (cA, n, .inr (.inl f))) H → va_at D cl (a, .inl (cA, n, .inr (.inl g))) H := by
  intro hh
  show H[a]? = some (vp_cell _ _)
  rw [vp_cell_l, ← arrV_ext (f := fun j => .long (f j)) (fun j hj => by rw [h j hj])]
  exact hh
theorem va_ext_q {D : va_G} {cl : List vw_C} {H : Heap} {a n : Nat} {cA : ClassId} {f g : Nat → Option Nat} (h : ∀ k, k < n → f k = g k) : va_at D cl (a, .inl (cA, n, .inr (.inr (.inr (.inr f))))) H → va_at D cl (a, .inl (cA, n, .inr (.inr (.inr (.inr g))))) H := by
  intro hh
  show H[a]? = some (vp_cell _ _)
  rw [vp_cell_q, ← arrV_ext (f := fun j => va_rf (f j)) (fun j hj => by rw [h j hj])]
  exact hh
theorem bI_fit (b : Bool) : fits .boolean (.int (bI b)) = true := by cases b <;> rfl
def shl64 (x : Int64) (k : Nat) : Int64 := x <<< ((nI k).toInt64 &&& 63)
def ush64 (x : Int64) (k : Nat) : Int64 := (x.toUInt64 >>> ((nI k).toInt64.toUInt64 &&& Int64.toUInt64 63)).toInt64
def sar64 (x : Int64) (k : Nat) : Int64 := x >>> ((nI k).toInt64 &&& 63)
def shl64r (x : Int64) (k : Int32) : Int64 := x <<< (k.toInt64 &&& 63)
def ush64r (x : Int64) (k : Int32) : Int64 := (x.toUInt64 >>> (k.toInt64.toUInt64 &&& Int64.toUInt64 63)).toInt64
def sar64r (x : Int64) (k : Int32) : Int64 := x >>> (k.toInt64 &&& 63)
/-- a method's contract by a walk of its body: what stands at its start -/
theorem met_go {l : Launch} {y : MethodName} {cc : ByteArray} {maxL : Nat} {ret : Option FieldType} {rm : Room} {Ev : (Nat → Prop) → State → Prop} {D : va_G} {cl : List vw_C} {tys : List (ClassId × FieldType)} {wc : va_W} {av : List Value} {n : Nat} {QA : (Nat → Prop) → Array Value → State → Outcome → State → Prop} {mc ms : Nat} (hy : plainName y.cls = true) (hlen : (lg_sl av).length ≤ maxL)
    (body : ∀ (p : Program) (e : Env) (s : State) (m : MethodId) (below : List Frame) (meth : Method) (c : Code) (A : Nat → Prop) (ls : Array Slot) (QQ : State → Prop), QQ = MQ below (QA A) av.toArray s mc ms A → p.tables.exec = Jvm.exec → c.code = cc → meth.sig.returnType = ret → (∀ w ∈ lw_all, w.before av.toArray s = true) → s.vm.findClass y.cls = some m.cls → meth.locks = false → c.maxLocals = maxL → (∀ q : Nat, s.heap.size ≤ q → A q) → va_P D cl wc s.heap → va_K D cl tys s → va_D A wc → Ev A s → lv_has ls maxL (lv_args 0 av) →
      W p l e rm s m av.toArray below meth c s.heap [] 0 0 QQ (F0 m 0 ls [])) : Met l y (ws_ y cc maxL ret) rm (va_Pc av (PreW Ev D cl tys wc n)) (QA (va_A wc n)) mc ms (va_A wc n) := by
  refine Met.ofW (cc := cc) (maxL := maxL) (ret := ret) hy rfl ?_
  intro p e s m args below meth c s₁ B hml hv
  obtain ⟨rfl, hsz, hP, hK, hD0, hE⟩ := hv
  subst hsz
  have hts : ∀ w ∈ lw_all, w.before _ s = true := fun w h => atoms_spec (ws := ws_ y cc maxL ret) B.pre w (List.mem_cons_of_mem _ h)
  have hl := lv_entry av (n := maxL) hlen
  rw [lg_entry_eq]
  exact body p e s m below meth c (va_A wc s.heap.size) _ _ rfl B.exec B.bytes B.returns hts (findClass_of_methodNamed B.named) B.notSynchronized hml (fun q h => Or.inr h) hP hK hD0.self hE hl
