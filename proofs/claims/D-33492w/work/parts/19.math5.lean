/-! looks of faults, inputs by values -/
set_option maxRecDepth 100000
def lkx (C : Nat → Nat) (f e : Nat) : Bool := decide (∀ k, k < no C → ou0 C (tb C 0 (f + 1)) k = ou0 C (tb C 0 (e + 1)) k)
/-- f looks unlike all lower ones up to e -/
def lnw (C : Nat → Nat) (f : Nat) : Nat → Bool
  | 0 => true
  | e + 1 => lnw C f e && !lkx C f e
def lks (C : Nat → Nat) : Nat → Nat
  | 0 => 0
  | n + 1 => lks C n + b2n (lnw C n n)
theorem lks_le {C : Nat → Nat} : ∀ n, lks C n ≤ n := by
  intro n; induction n with
  | zero => exact Nat.le_refl _
  | succ n ih => simp only [lks]; have := b2n_le (lnw C n n); omega
/-- the rows of 'look': four places a fault -/
def lo0 (C : Nat → Nat) (f k : Nat) : Int64 := if k < no C then ou0 C (tb C 0 (f + 1)) k else lN 0
def LoOk (C : Nat → Nat) (n : Nat) (lo : Nat → Int64) : Prop := ∀ f, f < n → ∀ k, k < 4 → lo (4 * f + k) = lo0 C f k
def LoUp (C : Nat → Nat) (f i : Nat) (lo : Nat → Int64) : Prop := LoOk C f lo ∧ ∀ k, k < i → lo (4 * f + k) = lo0 C f k
theorem LoUp_0 {C : Nat → Nat} {f : Nat} {lo : Nat → Int64} (h : LoOk C f lo) : LoUp C f 0 lo := ⟨h, fun k hk => absurd hk (Nat.not_lt_zero _)⟩
theorem LoUp_s {C : Nat → Nat} {f i : Nat} {lo : Nat → Int64} {v : Int64} (h : LoUp C f i lo) (hi : i < 4) (hv : v = lo0 C f i) : LoUp C f (i + 1) (vp_updL lo (4 * f + i) v) := by
  refine ⟨fun e he k hk => ?_, fun k hk => ?_⟩
  · simp only [vp_updL]; rw [if_neg (by omega)]; exact h.1 e he k hk
  · simp only [vp_updL]
    by_cases hki : k = i
    · subst hki; rw [if_pos rfl, hv]
    · rw [if_neg (by omega)]; exact h.2 k (by omega)
theorem LoUp_4 {C : Nat → Nat} {f : Nat} {lo : Nat → Int64} (h : LoUp C f 4 lo) : LoOk C (f + 1) lo := by
  intro e he k hk
  by_cases hef : e = f
  · subst hef; exact h.2 k hk
  · exact h.1 e (by omega) k hk
theorem lkx_4 {C : Nat → Nat} {f e : Nat} (hn : no C ≤ 4) : lkx C f e = true ↔ (lo0 C e 0 = lo0 C f 0 ∧ lo0 C e 1 = lo0 C f 1 ∧ lo0 C e 2 = lo0 C f 2 ∧ lo0 C e 3 = lo0 C f 3) := by
  have key : ∀ k, k < 4 → (lo0 C e k = lo0 C f k ↔ (k < no C → ou0 C (tb C 0 (f + 1)) k = ou0 C (tb C 0 (e + 1)) k)) := by
    intro k hk
    unfold lo0
    by_cases h : k < no C
    · rw [if_pos h, if_pos h]; exact ⟨fun q _ => q.symm, fun q => (q h).symm⟩
    · rw [if_neg h, if_neg h]; exact ⟨fun _ q => absurd q h, fun _ => rfl⟩
  unfold lkx
  rw [decide_eq_true_iff, key 0 (by decide), key 1 (by decide), key 2 (by decide), key 3 (by decide)]
  constructor
  · intro h; exact ⟨h 0, h 1, h 2, h 3⟩
  · rintro ⟨h0, h1, h2, h3⟩ k hk
    have : k = 0 ∨ k = 1 ∨ k = 2 ∨ k = 3 := by omega
    rcases this with rfl | rfl | rfl | rfl
    · exact h0 hk
    · exact h1 hk
    · exact h2 hk
    · exact h3 hk
/-- does the input k matter in the tests below t -/
def ivs (T : Int64) (t k : Nat) : Bool := bit64 T t != bit64 T (t ^^^ (1 <<< k))
def ivK (T : Int64) (t : Nat) (s : Nat) : Nat → Nat
  | 0 => s
  | k + 1 => ivK T t s k ||| (if ivs T t k = true then 1 <<< k else 0)
def ivT (T : Int64) : Nat → Nat
  | 0 => 0
  | t + 1 => ivK T t (ivT T t) 6
theorem ivK_lt {T : Int64} {t s : Nat} : ∀ {k}, k ≤ 6 → s < 2 ^ 6 → ivK T t s k < 2 ^ 6 := by
  intro k; induction k with
  | zero => intro _ h; exact h
  | succ k ih =>
    intro hk h
    simp only [ivK]
    apply Nat.or_lt_two_pow (ih (by omega) h)
    split
    · exact sh_lt (by omega)
    · decide
theorem ivT_lt {T : Int64} : ∀ t, ivT T t < 2 ^ 6 := by
  intro t; induction t with
  | zero => exact (by decide : (0 : Nat) < 2 ^ 6)
  | succ t ih => exact ivK_lt (Nat.le_refl _) ih
theorem tx_lt {t k : Nat} (ht : t < 64) (hk : k < 6) : t ^^^ (1 <<< k) < 64 := Nat.xor_lt_two_pow (n := 6) ht (sh_lt hk)
theorem lN_b2n {a b : Bool} : lN (b2n a) = lN (b2n b) ↔ a = b := by
  constructor
  · intro h
    have h2 : bit64 (lN (b2n a)) 0 = bit64 (lN (b2n b)) 0 := by rw [h]
    rw [bit_lN _ _ (by decide), bit_lN _ _ (by decide)] at h2
    cases a <;> cases b <;> first | rfl | (exact absurd h2 (by decide))
  · intro h; rw [h]
theorem shw_t {b : Bool} (h : lN (b2n b) = lN 1) : bI true = bI b := by rw [(lN_b2n (a := b) (b := true)).mp h]
theorem shw_f {b : Bool} (h : ¬ lN (b2n b) = lN 1) : bI false = bI b := by
  cases b
  · rfl
  · exact absurd rfl h
