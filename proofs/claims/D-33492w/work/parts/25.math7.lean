/-! sets of faults that tests show; choosing; the fewest tests -/
set_option maxRecDepth 100000
theorem lN_adn {a b : Nat} : lN a &&& (lN b ^^^ (-1)) = lN (adN a b) := by
  apply Int64.toBitVec_inj.mp
  show BitVec.ofNat 64 a &&& (BitVec.ofNat 64 b ^^^ BitVec.allOnes 64) = BitVec.ofNat 64 (adN a b)
  unfold adN
  rw [BitVec.ofNat_xor, BitVec.ofNat_and]
  apply BitVec.eq_of_getLsbD_eq
  intro i hi
  rw [BitVec.getLsbD_and, BitVec.getLsbD_xor, BitVec.getLsbD_xor, BitVec.getLsbD_and, BitVec.getLsbD_allOnes]
  cases (BitVec.ofNat 64 a).getLsbD i <;> cases (BitVec.ofNat 64 b).getLsbD i <;> simp [hi]
theorem lN_eq0 {a : Nat} (h : a < 2 ^ 64) : lN a = lN 0 ↔ a = 0 := by
  constructor
  · intro e
    have h2 : (BitVec.ofNat 64 a).toNat = (BitVec.ofNat 64 0).toNat := congrArg (fun x : Int64 => x.toBitVec.toNat) e
    rw [BitVec.toNat_ofNat, BitVec.toNat_ofNat, Nat.mod_eq_of_lt h] at h2
    simpa using h2
  · intro e; rw [e]
theorem lN_inj {a b : Nat} (ha : a < 2 ^ 64) (hb : b < 2 ^ 64) : lN a = lN b ↔ a = b := by
  constructor
  · intro e
    have h2 : (BitVec.ofNat 64 a).toNat = (BitVec.ofNat 64 b).toNat := congrArg (fun x : Int64 => x.toBitVec.toNat) e
    rw [BitVec.toNat_ofNat, BitVec.toNat_ofNat, Nat.mod_eq_of_lt ha, Nat.mod_eq_of_lt hb] at h2
    exact h2
  · intro e; rw [e]
def lNf (X : Nat → Nat) : Nat → Int64 := fun k => lN (X k)
theorem lNf_u (X : Nat → Nat) (k v : Nat) : vp_updL (lNf X) k (lN v) = lNf (updN X k v) := by
  funext j; simp only [vp_updL, lNf, updN]; split <;> rfl
/-- which of the faults below n a test shows -/
def shN (C : Nat → Nat) : Nat → Nat → Nat
  | 0, _ => 0
  | n + 1, t => shN C n t ||| (b2n (bit64 (apC C (n + 1) 0) t) <<< n)
theorem shN_lt {C : Nat → Nat} {t : Nat} : ∀ n, shN C n t < 2 ^ n := by
  intro n; induction n with
  | zero => exact Nat.one_pos
  | succ n ih =>
    simp only [shN]
    apply Nat.or_lt_two_pow (Nat.lt_of_lt_of_le ih (Nat.pow_le_pow_right (by decide) (by omega)))
    rw [Nat.shiftLeft_eq, Nat.pow_succ, Nat.mul_comm]
    have := b2n_le (bit64 (apC C (n + 1) 0) t)
    have h2 := Nat.mul_le_mul_left (2 ^ n) this
    have := Nat.two_pow_pos n
    omega
theorem b2n_sh (b : Bool) (n i : Nat) : (b2n b <<< n).testBit i = (b && decide (n = i)) := by
  cases b
  · simp [b2n]
  · show (1 <<< n).testBit i = _
    rw [tb_sh]; simp
theorem shN_bit {C : Nat → Nat} {t : Nat} : ∀ n i, (shN C n t).testBit i = (decide (i < n) && bit64 (apC C (i + 1) 0) t) := by
  intro n; induction n with
  | zero => intro i; simp [shN]
  | succ n ih =>
    intro i
    simp only [shN]
    rw [Nat.testBit_or, ih, b2n_sh]
    by_cases h : n = i
    · subst h; simp
    · have : decide (i < n + 1) = decide (i < n) := by apply decide_eq_decide.mpr; omega
      rw [this]; simp [h]
theorem opn_bit {C : Nat → Nat} : ∀ n i, (opn C n).testBit i = (decide (i < n) && !decide (apC C (i + 1) 0 = lN 0)) := by
  intro n; induction n with
  | zero => intro i; simp [opn]
  | succ n ih =>
    intro i
    simp only [opn]
    rw [Nat.testBit_or, ih]
    by_cases h : n = i
    · subst h
      by_cases hz : apC C (n + 1) 0 = lN 0
      · rw [if_pos hz]; simp [hz]
      · rw [if_neg hz, tb_sh]; simp [hz]
    · have h1 : decide (i < n + 1) = decide (i < n) := by apply decide_eq_decide.mpr; omega
      rw [h1]
      have h2 : (if apC C (n + 1) 0 = lN 0 then 0 else 1 <<< n).testBit i = false := by
        split
        · simp
        · rw [tb_sh]; simp [h]
      rw [h2]; simp
/-- a step of telling: the tests below t have been told of the fault n -/
def shS (C : Nat → Nat) (n t : Nat) : Nat → Nat := fun k => if k < t then shN C (n + 1) k else shN C n k
theorem shS_s {C : Nat → Nat} {n t : Nat} : updN (shS C n t) t (shN C n t ||| (b2n (bit64 (apC C (n + 1) 0) t) <<< n)) = shS C n (t + 1) := by
  funext k; simp only [updN, shS]; (repeat' split)
  all_goals first | rfl | omega | (subst_vars; rfl)
/-- choosing: the test that shows the most of some faults -/
def stN (X : Nat → Nat) (o : Nat) : Nat → Nat
  | 0 => 0
  | n + 1 => if popl 64 (lN (X (stN X o n) &&& o)) < popl 64 (lN (X (n + 1) &&& o)) then n + 1 else stN X o n
theorem stN_le {X : Nat → Nat} {o : Nat} : ∀ n, stN X o n ≤ n := by
  intro n; induction n with
  | zero => exact Nat.le_refl _
  | succ n ih => simp only [stN]; split <;> omega
theorem stN_max {X : Nat → Nat} {o : Nat} : ∀ n t, t ≤ n → popl 64 (lN (X t &&& o)) ≤ popl 64 (lN (X (stN X o n) &&& o)) := by
  intro n; induction n with
  | zero => intro t h; rw [Nat.le_zero.mp h]; exact Nat.le_refl _
  | succ n ih =>
    intro t h
    simp only [stN]
    by_cases hc : popl 64 (lN (X (stN X o n) &&& o)) < popl 64 (lN (X (n + 1) &&& o))
    · rw [if_pos hc]
      rcases Nat.lt_or_ge t (n + 1) with q | q
      · exact Nat.le_trans (ih t (by omega)) (Nat.le_of_lt hc)
      · rw [Nat.le_antisymm h q]; exact Nat.le_refl _
    · rw [if_neg hc]
      rcases Nat.lt_or_ge t (n + 1) with q | q
      · exact ih t (by omega)
      · rw [Nat.le_antisymm h q]; omega
def stg (X : Nat → Nat) (o : Nat) : Nat := stN X o 63
theorem stg_lt (X : Nat → Nat) (o : Nat) : stg X o < 64 := by have := @stN_le X o 63; unfold stg; omega
theorem popl_pos {s : Int64} {k : Nat} : ∀ n, k < n → bit64 s k = true → 0 < popl n s := by
  intro n; induction n with
  | zero => intro h; exact absurd h (Nat.not_lt_zero _)
  | succ n ih =>
    intro h hb
    simp only [popl]
    by_cases hk : k = n
    · subst hk; rw [hb]; show 0 < _ + 1; omega
    · have := ih (by omega) hb; omega
theorem popl_zero {s : Int64} : ∀ n, (∀ k, k < n → bit64 s k = false) → popl n s = 0 := by
  intro n; induction n with
  | zero => intro _; rfl
  | succ n ih => intro h; simp only [popl]; rw [ih (fun k hk => h k (by omega)), h n (by omega)]; rfl
theorem exists_bit {o : Nat} (h : o ≠ 0) : ∃ f, o.testBit f = true := by
  apply Classical.byContradiction
  intro hn
  apply h
  apply Nat.eq_of_testBit_eq
  intro i
  rw [Nat.zero_testBit]
  cases hb : o.testBit i with
  | false => rfl
  | true => exact absurd ⟨i, hb⟩ hn
theorem bit_small {o f n : Nat} (h : o < 2 ^ n) (hb : o.testBit f = true) : f < n := by
  apply Classical.byContradiction
  intro hn
  rw [Nat.testBit_lt_two_pow (Nat.lt_of_lt_of_le h (Nat.pow_le_pow_right (by decide) (by omega)))] at hb
  cases hb
/-- every fault of o is shown by some test -/
def AllSh (X : Nat → Nat) (o : Nat) : Prop := ∀ f, o.testBit f = true → ∃ t, t < 64 ∧ (X t).testBit f = true
theorem stg_hit {X : Nat → Nat} {o : Nat} (ha : AllSh X o) (h0 : o ≠ 0) (ho : o < 2 ^ 63) : X (stg X o) &&& o ≠ 0 := by
  obtain ⟨f, hf⟩ := exists_bit h0
  obtain ⟨t, ht, hx⟩ := ha f hf
  have hf63 := bit_small ho hf
  have h1 : 0 < popl 64 (lN (X t &&& o)) := popl_pos (k := f) 64 (by omega) (by rw [bit_lN _ _ (by omega), Nat.testBit_and, hx, hf]; rfl)
  have h2 := @stN_max X o 63 t (by omega)
  intro e
  have h3 : popl 64 (lN (X (stN X o 63) &&& o)) = 0 := by
    have : X (stN X o 63) &&& o = 0 := e
    rw [this]
    exact popl_zero 64 (fun k hk => by rw [bit_lN _ _ hk]; exact Nat.zero_testBit k)
  omega
theorem adN_lt {o x : Nat} (h : x &&& o ≠ 0) : adN o x < o := by
  have e : adN o x = adN o x &&& o := by
    apply Nat.eq_of_testBit_eq
    intro i
    rw [Nat.testBit_and, adN_bit]
    cases o.testBit i <;> cases x.testBit i <;> rfl
  have hle : adN o x ≤ o := by rw [e]; exact Nat.and_le_right
  obtain ⟨f, hf⟩ := exists_bit h
  rw [Nat.testBit_and, Bool.and_eq_true] at hf
  apply Nat.lt_of_le_of_ne hle
  intro hc
  have := congrArg (fun z => z.testBit f) hc
  simp only [adN_bit] at this
  rw [hf.1, hf.2] at this
  cases this
theorem adN_le2 {o x n : Nat} (h : o < 2 ^ n) : adN o x < 2 ^ n := by
  apply Nat.lt_pow_two_of_testBit
  intro i hi
  rw [adN_bit, Nat.testBit_lt_two_pow (Nat.lt_of_lt_of_le h (Nat.pow_le_pow_right (by decide) hi))]; rfl
theorem AllSh_ad {X : Nat → Nat} {o x : Nat} (h : AllSh X o) : AllSh X (adN o x) := by
  intro f hf
  rw [adN_bit] at hf
  simp only [Bool.and_eq_true] at hf
  exact h f hf.1
/-- the greedy choice -/
def grd (X : Nat → Nat) : Nat → Nat → List Nat
  | 0, _ => []
  | k + 1, o => if o = 0 then [] else stg X o :: grd X k (adN o (X (stg X o)))
def msk : List Nat → Nat
  | [] => 0
  | t :: l => (1 <<< t) ||| msk l
theorem grd_e {X : Nat → Nat} {k : Nat} : grd X k 0 = [] := by cases k <;> rfl
theorem grd_s {X : Nat → Nat} {k o : Nat} (h : o ≠ 0) : grd X (k + 1) o = stg X o :: grd X k (adN o (X (stg X o))) := by simp only [grd]; rw [if_neg h]
def chs (C : Nat → Nat) : List Nat := grd (shN C (2 * (6 + C 0))) (opn C (2 * (6 + C 0))) (opn C (2 * (6 + C 0)))
theorem AllSh_open {C : Nat → Nat} : AllSh (shN C (2 * (6 + C 0))) (opn C (2 * (6 + C 0))) := by
  intro f hf
  rw [opn_bit] at hf
  simp only [Bool.and_eq_true, decide_eq_true_eq, Bool.not_eq_true', decide_eq_false_iff_not] at hf
  apply Classical.byContradiction
  intro hn
  apply hf.2
  apply i64_ext
  intro t ht
  rw [bit_lN _ _ ht, Nat.zero_testBit]
  cases hb : bit64 (apC C (f + 1) 0) t with
  | false => rfl
  | true => exact absurd ⟨t, ht, by rw [shN_bit]; simp [hf.1, hb]⟩ hn
