/-! tables of lines, answers -/
set_option maxRecDepth 100000
theorem popc_s {l s : Nat} (h : s.testBit l = true) : popc (l + 1) s = popc l s + 1 := by
  show popc l s + (s >>> l &&& 1) = _
  rw [tb_if, if_pos h]
theorem popc_n {l s : Nat} (h : s.testBit l = false) : popc (l + 1) s = popc l s := by
  show popc l s + (s >>> l &&& 1) = _
  rw [tb_if, if_neg (by rw [h]; decide)]; rfl
def inTl : Nat → Nat → Int64
  | 0, _ => lN 0
  | n + 1, k => inTl n k ||| shl64 (lN (n >>> k &&& 1)) n
def inT (k : Nat) : Int64 := inTl 64 k
def not64 (x : Int64) : Int64 := x ^^^ (-1)
def gT (k : Nat) (a b : Int64) : Int64 := if k = 0 then a &&& b else if k = 1 then a ||| b else if k = 2 then a ^^^ b else if k = 3 then not64 (a &&& b) else if k = 4 then not64 (a ||| b) else if k = 5 then not64 (a ^^^ b) else if k = 6 then not64 a else a
def stk (l F : Nat) (v : Int64) : Int64 := if F ≠ 0 ∧ (F - 1) / 2 = l then (if (F - 1) % 2 = 1 then -1 else lN 0) else v
def rk (C : Nat → Nat) (g : Nat) : Nat := popc g (C 38)
def kOf (C : Nat → Nat) (K g : Nat) : Nat := if K ≠ 0 ∧ (C 38).testBit g = true then (K - 1) / 6 ^ (rk C g) % 6 else C (1 + g)
def tbs (C : Nat → Nat) (K F : Nat) : Nat → Nat → Int64
  | 0, l => stk l F (inT l)
  | n + 1, l => if l = 6 + n then stk (6 + n) F (gT (kOf C K n) (tbs C K F n (C (13 + n))) (tbs C K F n (C (25 + n)))) else tbs C K F n l
def tb (C : Nat → Nat) (K F l : Nat) : Int64 := tbs C K F (C 0) l
def fillL (i : Nat) (f g : Nat → Int64) : Nat → Int64 := fun k => if k < i then f k else g k
theorem fillL_0 (f g : Nat → Int64) : fillL 0 f g = g := by funext k; simp [fillL]
theorem fillL_s (i : Nat) (f g : Nat → Int64) : vp_updL (fillL i f g) i (f i) = fillL (i + 1) f g := by
  funext k; simp only [fillL, vp_updL]; (repeat' split)
  all_goals first | rfl | omega | (congr 1; omega)
def smI (C : Nat → Nat) (K g : Nat) : Int32 := if K = 0 then fI 0 else nI ((K - 1) / 6 ^ (rk C g))
theorem smI_0 (C : Nat → Nat) (K : Nat) : fI K = smI C K 0 := by
  unfold smI; split
  · next h => rw [h]
  · next h => rw [fI_pos h]; simp [rk, popc]
theorem smI_pos {C : Nat → Nat} {K g : Nat} (h : ¬ K = 0) : smI C K g = nI ((K - 1) / 6 ^ (rk C g)) := if_neg h
theorem smI_no {C : Nat → Nat} {K g : Nat} (h : K = 0 ∨ (C 38).testBit g = false) : smI C K g = smI C K (g + 1) := by
  unfold smI; split
  · rfl
  · next h0 =>
    have h1 : (C 38).testBit g = false := h.resolve_left h0
    have : rk C (g + 1) = rk C g := popc_n h1
    rw [this]
theorem smI_yes {C : Nat → Nat} {K g : Nat} (h0 : ¬ K = 0) (h1 : (C 38).testBit g = true) : nI ((K - 1) / 6 ^ (rk C g) / 6) = smI C K (g + 1) := by
  rw [smI_pos h0]
  have : rk C (g + 1) = rk C g + 1 := popc_s h1
  rw [this, Nat.pow_succ, Nat.div_div_eq_div_mul]
theorem kOf_no {C : Nat → Nat} {K g : Nat} (h : K = 0 ∨ (C 38).testBit g = false) : nI (C (1 + g)) = nI (kOf C K g) := by
  unfold kOf; rw [if_neg]
  rintro ⟨a, b⟩
  rcases h with h | h
  · exact a h
  · rw [h] at b; cases b
theorem kOf_yes {C : Nat → Nat} {K g : Nat} (h0 : ¬ K = 0) (h1 : (C 38).testBit g = true) : nI ((K - 1) / 6 ^ (rk C g) % 6) = nI (kOf C K g) := by
  unfold kOf; rw [if_pos ⟨h0, h1⟩]
theorem kOf_lt {C : Nat → Nat} {K g : Nat} (h : C (1 + g) < 8) : kOf C K g < 8 := by
  unfold kOf; split
  · have := Nat.mod_lt ((K - 1) / 6 ^ (rk C g)) (show 0 < 6 by decide); omega
  · exact h
theorem tbs_s (C : Nat → Nat) (K F n : Nat) (t : Nat → Int64) : vp_updL (fillL (6 + n) (tbs C K F n) t) (6 + n) (stk (6 + n) F (gT (kOf C K n) (tbs C K F n (C (13 + n))) (tbs C K F n (C (25 + n))))) = fillL (6 + (n + 1)) (tbs C K F (n + 1)) t := by
  funext k; simp only [fillL, vp_updL, tbs]
  by_cases h : k = 6 + n
  · subst h; simp
  · simp only [if_neg h]; (repeat' split)
    all_goals first | rfl | omega
theorem fillL_at {i k : Nat} {f g : Nat → Int64} (h : k < i) : fillL i f g k = f k := if_pos h
def no (C : Nat → Nat) : Nat := popc (6 + C 0) (C 37)
theorem popc_mono {a b s : Nat} (h : a ≤ b) : popc a s ≤ popc b s := by
  induction b with
  | zero => rw [Nat.le_zero.mp h]; exact Nat.le_refl _
  | succ b ih =>
    rcases Nat.lt_or_ge a (b + 1) with q | q
    · exact Nat.le_trans (ih (by omega)) (by simp only [popc]; omega)
    · rw [Nat.le_antisymm h q]; exact Nat.le_refl _
theorem popc_idx {l s n m : Nat} (h : s.testBit l = true) (hl : l < n) (hn : popc n s ≤ m) : popc l s < m := by
  have h1 := popc_s h
  have h2 : popc (l + 1) s ≤ popc n s := popc_mono hl
  omega
def outF (C : Nat → Nat) (T : Nat → Int64) : Nat → (Nat → Int64) → (Nat → Int64)
  | 0, o => o
  | l + 1, o => if (C 37).testBit l = true then vp_updL (outF C T l o) (popc l (C 37)) (T l) else outF C T l o
theorem outF_y {C : Nat → Nat} {T : Nat → Int64} {l : Nat} {o : Nat → Int64} (h : (C 37).testBit l = true) : vp_updL (outF C T l o) (popc l (C 37)) (T l) = outF C T (l + 1) o := by simp only [outF]; rw [if_pos h]
theorem outF_n {C : Nat → Nat} {T : Nat → Int64} {l : Nat} {o : Nat → Int64} (h : (C 37).testBit l = false) : outF C T l o = outF C T (l + 1) o := by simp only [outF]; rw [if_neg (by rw [h]; decide)]
theorem outF_any {C : Nat → Nat} {T : Nat → Int64} {o o' : Nat → Int64} : ∀ {l k : Nat}, k < popc l (C 37) → outF C T l o k = outF C T l o' k := by
  intro l
  induction l with
  | zero => intro k h; exact absurd h (Nat.not_lt_zero _)
  | succ l ih =>
    intro k h
    simp only [outF]
    by_cases hb : (C 37).testBit l = true
    · rw [if_pos hb, if_pos hb]
      simp only [vp_updL]
      split
      · rfl
      · rw [popc_s hb] at h; exact ih (by omega)
    · rw [if_neg hb, if_neg hb]
      rw [popc_n (by simpa using hb)] at h; exact ih h
def ou0 (C : Nat → Nat) (T : Nat → Int64) : Nat → Int64 := outF C T (6 + C 0) (fun _ => lN 0)
theorem ou0_at {C : Nat → Nat} {T : Nat → Int64} {o : Nat → Int64} {k : Nat} (h : k < no C) : outF C T (6 + C 0) o k = ou0 C T k := outF_any h
def anF : Nat → (Nat → Int64) → Nat → Nat
  | 0, _, _ => 0
  | k + 1, X, t => anF k X t ||| (b2n (bit64 (X k) t) <<< k)
theorem anF_eq {n t : Nat} {X Y : Nat → Int64} (h : ∀ k, k < n → X k = Y k) : anF n X t = anF n Y t := by
  induction n with
  | zero => rfl
  | succ n ih => simp only [anF]; rw [ih (fun k hk => h k (by omega)), h n (by omega)]
theorem anF_lt {n t : Nat} {X : Nat → Int64} : anF n X t < 2 ^ n := by
  induction n with
  | zero => exact Nat.one_pos
  | succ n ih =>
    simp only [anF]
    apply Nat.or_lt_two_pow (Nat.lt_of_lt_of_le ih (Nat.pow_le_pow_right (by decide) (by omega)))
    rw [Nat.shiftLeft_eq, Nat.pow_succ, Nat.mul_comm]
    have : b2n (bit64 (X n) t) ≤ 1 := by unfold b2n; split <;> omega
    have h2 := Nat.mul_le_mul_left (2 ^ n) this
    have := Nat.two_pow_pos n
    omega
def anC (C : Nat → Nat) (K F t : Nat) : Nat := anF (no C) (ou0 C (tb C K F)) t
theorem anC_of {C : Nat → Nat} {K F t : Nat} {o : Nat → Int64} : anF (no C) (outF C (tb C K F) (6 + C 0) o) t = anC C K F t := anF_eq (fun k hk => ou0_at hk)
def apF : Nat → (Nat → Int64) → (Nat → Int64) → Int64
  | 0, _, _ => lN 0
  | k + 1, X, Y => apF k X Y ||| (X k ^^^ Y k)
def apC (C : Nat → Nat) (F G : Nat) : Int64 := apF (no C) (ou0 C (tb C 0 F)) (ou0 C (tb C 0 G))
theorem b2n_le (b : Bool) : b2n b ≤ 1 := by unfold b2n; split <;> omega
theorem b2n_shl {b : Bool} {i : Nat} (h : i < 31) : b2n b * 2 ^ i < 2 ^ 32 := by
  have h1 := Nat.mul_le_mul_right (2 ^ i) (b2n_le b)
  have h2 : 2 ^ i ≤ 2 ^ 30 := Nat.pow_le_pow_right (by decide) (by omega)
  omega
