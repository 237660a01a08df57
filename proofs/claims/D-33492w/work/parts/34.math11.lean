/-! the mean: doubles that are no NaN -/
set_option maxRecDepth 100000
theorem fp_mask {n : Nat} (h : n < 2 ^ 64) (h2 : n % 2 ^ 63 ≤ 2047 * 2 ^ 52) : vf_n64 (UInt64.ofNat n) := by
  unfold vf_n64
  rw [UInt64.le_iff_toNat_le, UInt64.toNat_and]
  have e1 : (0x7fffffffffffffff : UInt64).toNat = 2 ^ 63 - 1 := by decide
  have e2 : (0x7ff0000000000000 : UInt64).toNat = 2047 * 2 ^ 52 := by decide
  rw [e1, e2, Nat.and_two_pow_sub_one_eq_mod, UInt64.toNat_ofNat_of_lt' h]
  exact h2
theorem fp_t : FP.Core.b64.tails = 2 ^ 52 := by decide
theorem fp_e : FP.Core.b64.exps = 2 ^ 11 := by decide
theorem fp_qn : FP.Core.b64.qmin = -1074 := by decide
theorem fp_qx : FP.Core.b64.qmax = 971 := by decide
theorem fp_p : FP.Core.b64.p = 53 := by decide
theorem fp_asm {s : Bool} {e t : Nat} (he : e < 2048) (ht : t < 2 ^ 52) (h : e = 2047 → t = 0) : FP.Core.assemble FP.Core.b64 s e t < 2 ^ 64 ∧ FP.Core.assemble FP.Core.b64 s e t % 2 ^ 63 ≤ 2047 * 2 ^ 52 := by
  unfold FP.Core.assemble
  rw [fp_t, fp_e]
  have hs : s.toNat ≤ 1 := Bool.toNat_le s
  generalize s.toNat = v at *
  have hv : v = 0 ∨ v = 1 := by omega
  rcases hv with rfl | rfl
  · omega
  · omega
theorem fp_bnd {s : Bool} {c : Nat} {q : Int} (hc : c < 2 ^ 53) : FP.Core.encode FP.Core.b64 (FP.Core.bound FP.Core.b64 s c q) < 2 ^ 64 ∧ FP.Core.encode FP.Core.b64 (FP.Core.bound FP.Core.b64 s c q) % 2 ^ 63 ≤ 2047 * 2 ^ 52 := by
  unfold FP.Core.bound
  rw [fp_qx]
  split
  · unfold FP.Core.encode
    simp only
    rw [fp_t, fp_qn]
    split
    · exact fp_asm (by omega) (by omega) (by omega)
    · exact fp_asm (by omega) (by omega) (by omega)
  · unfold FP.Core.encode
    simp only
    rw [fp_e]
    exact fp_asm (by omega) (by omega) (by omega)
theorem fp_rr {s : Bool} {a b : Nat} {e : Int} : vf_n64 (UInt64.ofNat (FP.Core.encode FP.Core.b64 (FP.Core.roundRatio FP.Core.b64 s a b e))) := by
  have h : FP.Core.encode FP.Core.b64 (FP.Core.roundRatio FP.Core.b64 s a b e) < 2 ^ 64 ∧ FP.Core.encode FP.Core.b64 (FP.Core.roundRatio FP.Core.b64 s a b e) % 2 ^ 63 ≤ 2047 * 2 ^ 52 := by
    unfold FP.Core.roundRatio
    split
    · unfold FP.Core.encode
      simp only
      rw [fp_t]
      split
      · exact fp_asm (by omega) (by omega) (by omega)
      · omega
    · unfold FP.Core.roundAt FP.Core.settle
      rw [fp_p, fp_t]
      split
      · exact fp_bnd (by assumption)
      · exact fp_bnd (by omega)
  exact fp_mask h.1 h.2
/-- a whole number as a double -/
theorem fp_i2d {n : Nat} (h0 : 0 < n) (h : n < 2 ^ 31) : ∃ c q, 0 < c ∧ FP.Core.decode FP.Core.b64 (FP.i2d (nI n)).toNat = .fin false c q := by
  have a1 := Nat.log2_self_le (n := n) (by omega)
  have a2 : n < 2 ^ (n.log2 + 1) := Nat.lt_log2_self
  have a3 : n.log2 < 31 := (Nat.log2_lt (by omega)).mpr h
  have b1 : 2 ^ 52 ≤ n * 2 ^ (52 - n.log2) := by
    have := Nat.mul_le_mul_right (2 ^ (52 - n.log2)) a1
    rw [← Nat.pow_add, show n.log2 + (52 - n.log2) = 52 by omega] at this
    exact this
  have b2 : n * 2 ^ (52 - n.log2) < 2 ^ 53 := by
    have := Nat.mul_lt_mul_of_pos_right a2 (Nat.two_pow_pos (52 - n.log2))
    rw [← Nat.pow_add, show n.log2 + 1 + (52 - n.log2) = 53 by omega] at this
    exact this
  have e1 : FP.Core.ofInt (nI n).toInt = .fin false n 0 := by
    rw [nI_toInt h]
    unfold FP.Core.ofInt
    rw [decide_eq_false (by omega)]; rfl
  have e2 : FP.Core.leading n 1 = (n.log2 : Int) := by
    unfold FP.Core.leading
    simp only
    rw [show Nat.log2 1 = 0 by decide, if_pos]
    · simp
    · have : (-((n.log2 : Int) - (0 : Nat))).toNat = 0 := by omega
      rw [this, show ((n.log2 : Int) - (0 : Nat)).toNat = n.log2 by omega]
      omega
  have e3 : FP.Core.quantum FP.Core.b64 n 1 0 = -((52 - n.log2 : Nat) : Int) := by
    unfold FP.Core.quantum
    rw [e2, fp_qn, fp_p]
    omega
  have e4 : FP.Core.round FP.Core.b64 (FP.Core.ofInt (nI n).toInt) = .fin false (n * 2 ^ (52 - n.log2)) (-((52 - n.log2 : Nat) : Int)) := by
    rw [e1]
    show FP.Core.roundRatio FP.Core.b64 false n 1 0 = _
    unfold FP.Core.roundRatio
    rw [if_neg (by omega), e3]
    unfold FP.Core.roundAt FP.Core.unitsNum FP.Core.unitsDen FP.Core.nearest
    rw [show (0 - -((52 - n.log2 : Nat) : Int)).toNat = 52 - n.log2 by omega, show (-((52 - n.log2 : Nat) : Int) - 0).toNat = 0 by omega]
    simp only [Nat.pow_zero, Nat.mul_one, Nat.mod_one, Nat.div_one, Nat.mul_zero, Nat.zero_lt_one, if_true]
    unfold FP.Core.settle FP.Core.bound
    rw [fp_p, fp_qx, if_pos b2, if_pos (by omega)]
  have e5 : FP.Core.fromInt FP.Core.b64 (nI n).toInt = (1075 - (52 - n.log2)) * 2 ^ 52 + (n * 2 ^ (52 - n.log2) - 2 ^ 52) := by
    unfold FP.Core.fromInt
    rw [e4]
    unfold FP.Core.encode
    simp only
    rw [fp_t, fp_qn, if_neg (by omega)]
    unfold FP.Core.assemble
    rw [fp_t, show (false : Bool).toNat = 0 from rfl, show (-((52 - n.log2 : Nat) : Int) - -1074).toNat + 1 = 1075 - (52 - n.log2) by omega]
    omega
  generalize hm : n * 2 ^ (52 - n.log2) = M at *
  generalize hk : 52 - n.log2 = K at *
  have e6 : (FP.i2d (nI n)).toNat = (1075 - K) * 2 ^ 52 + (M - 2 ^ 52) := by
    show (UInt64.ofNat (FP.Core.fromInt FP.Core.b64 (nI n).toInt)).toNat = _
    rw [e5, UInt64.toNat_ofNat_of_lt' (by show _ < 2 ^ 64; omega)]
  rw [e6]
  have f1 : FP.Core.fieldE FP.Core.b64 ((1075 - K) * 2 ^ 52 + (M - 2 ^ 52)) = 1075 - K := by
    unfold FP.Core.fieldE; rw [fp_t, fp_e]; omega
  have f2 : FP.Core.fieldS FP.Core.b64 ((1075 - K) * 2 ^ 52 + (M - 2 ^ 52)) = false := by
    unfold FP.Core.fieldS; rw [fp_t, fp_e]
    rw [show ((1075 - K) * 2 ^ 52 + (M - 2 ^ 52)) / 2 ^ 52 / 2 ^ 11 = 0 by omega]; rfl
  unfold FP.Core.decode
  rw [f1, fp_e, if_neg (by omega), if_neg (by omega), f2, fp_t]
  exact ⟨_, _, by omega, rfl⟩
theorem fp_i2d0 : FP.Core.decode FP.Core.b64 (FP.i2d (nI 0)).toNat = .fin false 0 FP.Core.b64.qmin := by decide +kernel
theorem fp_ddiv {a b : Nat} (ha : a < 2 ^ 31) (hb0 : 0 < b) (hb : b < 2 ^ 31) : vf_n64 (FP.ddiv (FP.i2d (nI a)) (FP.i2d (nI b))) := by
  obtain ⟨d, r, hd, e2⟩ := fp_i2d hb0 hb
  show vf_n64 (UInt64.ofNat (FP.Core.encode FP.Core.b64 (FP.Core.quotient FP.Core.b64 (FP.Core.decode FP.Core.b64 (FP.i2d (nI a)).toNat) (FP.Core.decode FP.Core.b64 (FP.i2d (nI b)).toNat))))
  rw [e2]
  have hq : ∀ (s : Bool) (c : Nat) (q : Int), vf_n64 (UInt64.ofNat (FP.Core.encode FP.Core.b64 (FP.Core.quotient FP.Core.b64 (.fin s c q) (.fin false d r)))) := by
    intro s c q
    have : FP.Core.quotient FP.Core.b64 (.fin s c q) (.fin false d r) = FP.Core.roundRatio FP.Core.b64 (s != false) c d (q - r) := by
      show (if d = 0 then _ else _) = _
      rw [if_neg (by omega)]
    rw [this]; exact fp_rr
  rcases Nat.eq_zero_or_pos a with h0 | h0
  · subst h0; rw [fp_i2d0]; exact hq _ _ _
  · obtain ⟨c, q, _, e1⟩ := fp_i2d h0 ha
    rw [e1]; exact hq _ _ _
theorem fp_l2d {n : Nat} (h : n < 2 ^ 31) : FP.l2d (lN n) = FP.i2d (nI n) := by
  show UInt64.ofNat (FP.Core.fromInt FP.Core.b64 (lN n).toInt) = UInt64.ofNat (FP.Core.fromInt FP.Core.b64 (nI n).toInt)
  rw [nI_toInt h, lN_toInt (by omega)]
/-- the sum of squares of a test's row -/
def sqN (X : Nat → Nat) (t : Nat) : Nat → Nat
  | 0 => 0
  | i + 1 => sqN X t i + X (16 * t + i) * X (16 * t + i)
def mnD (C : Nat → Nat) (t : Nat) : UInt64 := if (cnds C).length = 0 then FP.dconst0 else FP.ddiv (FP.i2d (nI (sqN (tmN C (cnds C)) t 16))) (FP.i2d (nI (cnds C).length))
theorem sqN_le {X : Nat → Nat} {t B : Nat} (h : ∀ k, X k < B) : ∀ i, sqN X t i ≤ i * (B * B) := by
  intro i
  induction i with
  | zero => simp [sqN]
  | succ i ih =>
    have h1 := Nat.mul_le_mul (Nat.le_of_lt (h (16 * t + i))) (Nat.le_of_lt (h (16 * t + i)))
    rw [Nat.succ_mul]; unfold sqN; omega
