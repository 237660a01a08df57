/-! plain mathematics of both sides, first part -/
set_option maxRecDepth 100000
theorem i32_lt {x y : Int32} : x < y ↔ x.toInt < y.toInt := Int32.lt_iff_toInt_lt
theorem i32_le {x y : Int32} : x ≤ y ↔ x.toInt ≤ y.toInt := Int32.le_iff_toInt_le
/-- x is one of 0 .. n-1 -/
def inR (n : Nat) (x : Int32) : Bool := decide (0 ≤ x.toInt ∧ x.toInt < n)
theorem inR_nI {n k : Nat} (hk : k < 2 ^ 31) : inR n (nI k) = decide (k < n) := by
  unfold inR; rw [nI_toInt hk]
  by_cases h : k < n <;> simp [h] <;> omega
theorem inR_of {n : Nat} {x : Int32} (h : inR n x = true) : ∃ k : Nat, k < n ∧ x = nI k ∧ k < 2 ^ 31 := by
  unfold inR at h
  have h1 := of_decide_eq_true h
  have h2 := Int32.toInt_lt x
  refine ⟨x.toInt.toNat, by omega, ?_, by omega⟩
  apply Int32.toInt_inj.mp
  rw [nI_toInt (by omega)]; omega
theorem inR_no {n k : Nat} {x : Int32} (h : inR n x = false) (hk : k < n) : x ≠ nI k ∨ 2 ^ 31 ≤ k := by
  by_cases h2 : k < 2 ^ 31
  · left; intro e; subst e; rw [inR_nI h2] at h; simp [hk] at h
  · right; omega
/-- nI n - 1 as an upper end -/
theorem inR_end {n : Nat} {x : Int32} (hn : n < 2 ^ 31) : decide (nI 0 ≤ x ∧ x ≤ nI n - nI 1) = inR n x := by
  unfold inR
  have h0 : (nI 0).toInt = 0 := rfl
  rcases Nat.eq_zero_or_pos n with h | h
  · subst h
    have h1 : (nI 0 - nI 1).toInt = -1 := by decide
    apply decide_eq_decide.mpr; rw [i32_le, i32_le, h0, h1]; omega
  · have h1 : (nI n - nI 1).toInt = (n : Int) - 1 := by rw [pk_sub h, nI_toInt (by omega)]; omega
    apply decide_eq_decide.mpr; rw [i32_le, i32_le, h0, h1]; omega
theorem inR_lit {n : Nat} {x : Int32} (hn : n < 2 ^ 31) : decide (nI 0 ≤ x ∧ x ≤ nI n) = inR (n + 1) x := by
  unfold inR
  have h0 : (nI 0).toInt = 0 := rfl
  apply decide_eq_decide.mpr; rw [i32_le, i32_le, h0, nI_toInt hn]; omega
theorem tb_1 {s k : Nat} : (s >>> k &&& 1 = 1) ↔ s.testBit k = true := by
  rw [Nat.testBit]
  rw [Nat.and_comm]
  have : s >>> k &&& 1 = 0 ∨ s >>> k &&& 1 = 1 := by rw [Nat.and_one_is_mod]; omega
  rw [Nat.and_comm 1]
  rcases this with h | h <;> simp [h]
theorem tb_le (s k : Nat) : s >>> k &&& 1 ≤ 1 := by rw [Nat.and_one_is_mod]; omega
theorem tb_if (s k : Nat) : s >>> k &&& 1 = if s.testBit k then 1 else 0 := by
  by_cases h : s.testBit k = true
  · rw [if_pos h]; exact tb_1.mpr h
  · rw [if_neg h]; have := tb_le s k; have h2 := mt tb_1.mp h; omega
theorem shr_lt {s k n : Nat} (h : s < n) : s >>> k < n := Nat.lt_of_le_of_lt (by rw [Nat.shiftRight_eq_div_pow]; exact Nat.div_le_self _ _) h
/-- how many of the places below n are set -/
def popc : Nat → Nat → Nat
  | 0, _ => 0
  | n + 1, s => popc n s + (s >>> n &&& 1)
theorem popc_le (n s : Nat) : popc n s ≤ n := by
  induction n with
  | zero => exact Nat.le_refl _
  | succ n ih => have := tb_le s n; simp only [popc]; omega
def bit64 (x : Int64) (k : Nat) : Bool := x.toBitVec.getLsbD k
def b2n (b : Bool) : Nat := if b then 1 else 0
def popl : Nat → Int64 → Nat
  | 0, _ => 0
  | n + 1, s => popl n s + b2n (bit64 s n)
theorem popl_le (n : Nat) (s : Int64) : popl n s ≤ n := by
  induction n with
  | zero => exact Nat.le_refl _
  | succ n ih => simp only [popl]; unfold b2n; split <;> omega
theorem i64_ext {x y : Int64} (h : ∀ k, k < 64 → bit64 x k = bit64 y k) : x = y := by
  apply Int64.toBitVec_inj.mp
  apply BitVec.eq_of_getLsbD_eq
  intro i hi
  exact h i hi
theorem cnt64u : ∀ k, k < 64 → (((nI k).toInt64.toUInt64 &&& Int64.toUInt64 63).toBitVec % 64).toNat = k := by decide +kernel
theorem cnt64s : ∀ k, k < 64 → (((nI k).toInt64 &&& 63).toBitVec.smod 64).toNat = k := by decide +kernel
theorem bit_ush {x : Int64} {k i : Nat} (hk : k < 64) (hi : i < 64) : bit64 (ush64 x k) i = bit64 x (k + i) := by
  unfold bit64 ush64
  show (x.toBitVec >>> (((nI k).toInt64.toUInt64 &&& Int64.toUInt64 63).toBitVec % 64)).getLsbD i = _
  rw [BitVec.ushiftRight_eq', BitVec.getLsbD_ushiftRight, cnt64u k hk]
theorem bit_shl {x : Int64} {k i : Nat} (hk : k < 64) (hi : i < 64) : bit64 (shl64 x k) i = (decide (k ≤ i) && bit64 x (i - k)) := by
  unfold bit64 shl64
  show (x.toBitVec <<< (((nI k).toInt64 &&& 63).toBitVec.smod 64)).getLsbD i = _
  rw [BitVec.shiftLeft_eq', BitVec.getLsbD_shiftLeft, cnt64s k hk]
  by_cases h : i < k <;> simp [hi, h, Nat.not_le.mpr] <;> omega
theorem bit_and (x y : Int64) (i : Nat) : bit64 (x &&& y) i = (bit64 x i && bit64 y i) := by
  unfold bit64; show (x.toBitVec &&& y.toBitVec).getLsbD i = _; rw [BitVec.getLsbD_and]
theorem bit_or (x y : Int64) (i : Nat) : bit64 (x ||| y) i = (bit64 x i || bit64 y i) := by
  unfold bit64; show (x.toBitVec ||| y.toBitVec).getLsbD i = _; rw [BitVec.getLsbD_or]
theorem bit_xor (x y : Int64) (i : Nat) : bit64 (x ^^^ y) i = (bit64 x i ^^ bit64 y i) := by
  unfold bit64; show (x.toBitVec ^^^ y.toBitVec).getLsbD i = _; rw [BitVec.getLsbD_xor]
theorem bit_lN (n i : Nat) (hi : i < 64) : bit64 (lN n) i = n.testBit i := by
  unfold bit64; show (BitVec.ofNat 64 n).getLsbD i = _; rw [BitVec.getLsbD_ofNat]; simp [hi]
theorem bit_m1 : ∀ i, i < 64 → bit64 (-1) i = true := by decide +kernel
theorem lN1_tb : ∀ i, i < 64 → bit64 (lN 1) i = decide (i = 0) := by decide +kernel
/-- the lowest place of x >>> k -/
theorem ush_1 (x : Int64) {k : Nat} (hk : k < 64) : ush64 x k &&& lN 1 = lN (b2n (bit64 x k)) := by
  apply i64_ext
  intro i hi
  rw [bit_and, lN1_tb i hi, bit_ush hk hi, bit_lN _ _ hi]
  by_cases h : i = 0
  · subst h
    cases hb : bit64 x k <;> simp [b2n, hb]
  · have h2 : (b2n (bit64 x k)).testBit i = false := by
      apply Nat.testBit_lt_two_pow
      have : 2 ^ 1 ≤ 2 ^ i := Nat.pow_le_pow_right (by decide) (by omega)
      have : b2n (bit64 x k) ≤ 1 := by unfold b2n; split <;> omega
      omega
    simp [h, h2]
