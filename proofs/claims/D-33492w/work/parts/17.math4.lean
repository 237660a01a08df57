/-! wires, depths, sets of faults -/
set_option maxRecDepth 100000
theorem tb_sh (k i : Nat) : (1 <<< k).testBit i = decide (k = i) := by
  rw [Nat.testBit_shiftLeft]
  by_cases h : k = i
  · subst h; simp
  · by_cases h2 : k ≤ i
    · obtain ⟨m, hm⟩ : ∃ m, i - k = m + 1 := ⟨i - k - 1, by omega⟩
      rw [hm, Nat.testBit_succ]; simp [h]
    · simp [h, h2]
theorem sh_lt {k n : Nat} (h : k < n) : 1 <<< k < 2 ^ n := by
  rw [Nat.one_shiftLeft]; exact Nat.pow_lt_pow_right (by decide) h
def rdB (C : Nat → Nat) (g l : Nat) : Bool := decide (C (13 + g) = l) || (decide (C (1 + g) < 6) && decide (C (25 + g) = l))
def bi (C : Nat → Nat) (g : Nat) : Nat → Nat → Nat
  | 0, s => s
  | j + 1, s => bi C g j s ||| (if ((bi C g j s).testBit (6 + g) && rdB C g j) = true then 1 <<< j else 0)
def stp (C : Nat → Nat) (g s : Nat) : Nat := if s.testBit (6 + g) = true then s ||| (1 <<< C (13 + g) ||| (if C (1 + g) < 6 then 1 <<< C (25 + g) else 0)) else s
def bo (C : Nat → Nat) : Nat → Nat → Nat
  | 0, s => s
  | n + 1, s => bo C n (stp C n s)
theorem bi_bit (C : Nat → Nat) (g s : Nat) : ∀ j, j ≤ 6 + g → ∀ i, (bi C g j s).testBit i = (s.testBit i || (s.testBit (6 + g) && (decide (i < j) && rdB C g i))) := by
  intro j
  induction j with
  | zero => intro _ i; simp [bi]
  | succ j ih =>
    intro hj i
    have h6 : (bi C g j s).testBit (6 + g) = s.testBit (6 + g) := by
      rw [ih (by omega) (6 + g)]
      have : ¬ 6 + g < j := by omega
      simp [this]
    simp only [bi]
    rw [Nat.testBit_or, ih (by omega) i, h6]
    by_cases hc : (s.testBit (6 + g) && rdB C g j) = true
    · rw [if_pos hc, tb_sh]
      simp only [Bool.and_eq_true] at hc
      by_cases hi : j = i
      · subst hi; simp [hc.1, hc.2]
      · have h2 : decide (i < j + 1) = decide (i < j) := by apply decide_eq_decide.mpr; omega
        rw [h2]; simp [hi]
    · rw [if_neg hc]
      by_cases hi : j = i
      · subst hi
        have : (s.testBit (6 + g) && rdB C g j) = false := by simpa using hc
        simp [this]
      · have h2 : decide (i < j + 1) = decide (i < j) := by apply decide_eq_decide.mpr; omega
        rw [h2]; simp
theorem stp_bit (C : Nat → Nat) (g s i : Nat) : (stp C g s).testBit i = (s.testBit i || (s.testBit (6 + g) && rdB C g i)) := by
  unfold stp rdB
  by_cases hs : s.testBit (6 + g) = true
  · rw [if_pos hs, Nat.testBit_or, Nat.testBit_or, tb_sh]
    by_cases hk : C (1 + g) < 6
    · rw [if_pos hk, tb_sh]; simp [hs, hk]
    · rw [if_neg hk]; simp [hs, hk]
  · rw [if_neg hs]; simp [hs]
theorem bi_st {C : Nat → Nat} {g s : Nat} (h1 : C (13 + g) < 6 + g) (h2 : C (25 + g) < 6 + g) : bi C g (6 + g) s = stp C g s := by
  apply Nat.eq_of_testBit_eq
  intro i
  rw [bi_bit C g s _ (Nat.le_refl _), stp_bit]
  by_cases hi : i < 6 + g
  · simp [hi]
  · have : rdB C g i = false := by
      unfold rdB
      have a : ¬ C (13 + g) = i := by omega
      have b : ¬ C (25 + g) = i := by omega
      simp [a, b]
    simp [this]
theorem bi_lt {C : Nat → Nat} {g s : Nat} : ∀ {j}, j ≤ 18 → s < 2 ^ 18 → bi C g j s < 2 ^ 18 := by
  intro j
  induction j with
  | zero => intro _ h; exact h
  | succ j ih =>
    intro hj h
    simp only [bi]
    apply Nat.or_lt_two_pow (ih (by omega) h)
    split
    · exact sh_lt (by omega)
    · decide
theorem stp_lt {C : Nat → Nat} {g s : Nat} (h1 : C (13 + g) < 18) (h2 : C (25 + g) < 18) (h : s < 2 ^ 18) : stp C g s < 2 ^ 18 := by
  unfold stp; split
  · apply Nat.or_lt_two_pow h
    apply Nat.or_lt_two_pow (sh_lt h1)
    split
    · exact sh_lt h2
    · decide
  · exact h
theorem fI_dec (m : Nat) : nI m + Int32.ofInt (-1) = fI m := by
  show nI m + (-1) = nI m - 1
  grind
def adN (a b : Nat) : Nat := a ^^^ (a &&& b)
theorem adN_bit (a b i : Nat) : (adN a b).testBit i = (a.testBit i && !b.testBit i) := by
  unfold adN; rw [Nat.testBit_xor, Nat.testBit_and]
  cases a.testBit i <;> cases b.testBit i <;> rfl
theorem nI_adn {a b : Nat} : nI a &&& (nI b ^^^ fI 0) = nI (adN a b) := by
  apply Int32.toBitVec_inj.mp
  show BitVec.ofNat 32 a &&& (BitVec.ofNat 32 b ^^^ BitVec.allOnes 32) = BitVec.ofNat 32 (adN a b)
  unfold adN
  rw [BitVec.ofNat_xor, BitVec.ofNat_and]
  apply BitVec.eq_of_getLsbD_eq
  intro i hi
  rw [BitVec.getLsbD_and, BitVec.getLsbD_xor, BitVec.getLsbD_xor, BitVec.getLsbD_and, BitVec.getLsbD_allOnes]
  cases (BitVec.ofNat 32 a).getLsbD i <;> cases (BitVec.ofNat 32 b).getLsbD i <;> simp [hi]
/-- depths -/
def dps (C : Nat → Nat) : Nat → Nat → Nat
  | 0, _ => 0
  | n + 1, l => if l = 6 + n then 1 + max (dps C n (C (13 + n))) (if C (1 + n) < 6 then dps C n (C (25 + n)) else 0) else dps C n l
theorem dps_in {C : Nat → Nat} {l : Nat} (h : l < 6) : ∀ n, dps C n l = 0 := by
  intro n; induction n with
  | zero => rfl
  | succ n ih => simp only [dps]; rw [if_neg (by omega)]; exact ih
theorem dps_le {C : Nat → Nat} : ∀ n l, dps C n l ≤ n := by
  intro n; induction n with
  | zero => intro l; exact Nat.le_refl _
  | succ n ih =>
    intro l; simp only [dps]
    have a := ih (C (13 + n)); have b := ih (C (25 + n)); have c := ih l
    (repeat' split) <;> omega
def mo (C : Nat → Nat) (g : Nat) : Nat → Nat
  | 0 => 0
  | i + 1 => if (rdB C g (6 + i) && decide (mo C g i < dps C g (6 + i))) = true then dps C g (6 + i) else mo C g i
theorem mo_le {C : Nat → Nat} {g : Nat} : ∀ i, mo C g i ≤ g := by
  intro i; induction i with
  | zero => exact Nat.zero_le _
  | succ i ih => simp only [mo]; have := @dps_le C g (6 + i); split <;> omega
theorem mo_spec {C : Nat → Nat} {g : Nat} : ∀ i, (∀ l, 6 ≤ l → l < 6 + i → rdB C g l = true → dps C g l ≤ mo C g i) ∧ (mo C g i = 0 ∨ ∃ l, 6 ≤ l ∧ l < 6 + i ∧ rdB C g l = true ∧ mo C g i = dps C g l) := by
  intro i; induction i with
  | zero => exact ⟨fun l h1 h2 => absurd h2 (by omega), Or.inl rfl⟩
  | succ i ih =>
    obtain ⟨ha, hb⟩ := ih
    simp only [mo]
    by_cases hc : (rdB C g (6 + i) && decide (mo C g i < dps C g (6 + i))) = true
    · rw [if_pos hc]
      simp only [Bool.and_eq_true, decide_eq_true_eq] at hc
      refine ⟨fun l h1 h2 h3 => ?_, Or.inr ⟨6 + i, by omega, by omega, hc.1, rfl⟩⟩
      by_cases hl : l = 6 + i
      · rw [hl]; exact Nat.le_refl _
      · have := ha l h1 (by omega) h3; omega
    · rw [if_neg hc]
      refine ⟨fun l h1 h2 h3 => ?_, ?_⟩
      · by_cases hl : l = 6 + i
        · subst hl
          simp only [h3, Bool.true_and, decide_eq_true_eq] at hc
          omega
        · exact ha l h1 (by omega) h3
      · rcases hb with hb | ⟨l, h1, h2, h3, h4⟩
        · exact Or.inl hb
        · exact Or.inr ⟨l, h1, by omega, h3, h4⟩
theorem mo_eq {C : Nat → Nat} {g : Nat} (h1 : C (13 + g) < 6 + g) (h2 : C (25 + g) < 6 + g) : mo C g g = max (dps C g (C (13 + g))) (if C (1 + g) < 6 then dps C g (C (25 + g)) else 0) := by
  obtain ⟨ha, hb⟩ := mo_spec (C := C) (g := g) g
  have r1 : rdB C g (C (13 + g)) = true := by simp [rdB]
  have k1 : dps C g (C (13 + g)) ≤ mo C g g := by
    by_cases h : 6 ≤ C (13 + g)
    · exact ha _ h h1 r1
    · rw [dps_in (by omega)]; exact Nat.zero_le _
  have k2 : (if C (1 + g) < 6 then dps C g (C (25 + g)) else 0) ≤ mo C g g := by
    split
    · next hk =>
      by_cases h : 6 ≤ C (25 + g)
      · exact ha _ h h2 (by simp [rdB, hk])
      · rw [dps_in (by omega)]; exact Nat.zero_le _
    · exact Nat.zero_le _
  apply Nat.le_antisymm _ (Nat.max_le.mpr ⟨k1, k2⟩)
  rcases hb with hb | ⟨l, q1, q2, q3, q4⟩
  · rw [hb]; exact Nat.zero_le _
  · rw [q4]
    simp only [rdB, Bool.or_eq_true, Bool.and_eq_true, decide_eq_true_eq] at q3
    rcases q3 with q3 | ⟨q3, q5⟩
    · rw [q3]; exact Nat.le_max_left _ _
    · rw [if_pos q3, q5]; exact Nat.le_max_right _ _
def pkd (C : Nat → Nat) : Nat → Nat
  | 0 => 0
  | g + 1 => pkd C g ||| ((mo C g g + 1) <<< (5 * g))
theorem pkd_lt {C : Nat → Nat} : ∀ {g}, g ≤ 12 → pkd C g < 2 ^ (5 * g) := by
  intro g; induction g with
  | zero => intro _; exact Nat.one_pos
  | succ g ih =>
    intro h
    simp only [pkd]
    have e : 5 * (g + 1) = 5 * g + 5 := by omega
    rw [e]
    apply Nat.or_lt_two_pow (Nat.lt_of_lt_of_le (ih (by omega)) (Nat.pow_le_pow_right (by decide) (by omega)))
    rw [Nat.shiftLeft_eq, Nat.pow_add, Nat.mul_comm]
    have := @mo_le C g g
    exact Nat.mul_lt_mul_of_pos_left (by omega) (Nat.two_pow_pos _)
theorem pkd_at {C : Nat → Nat} (hs : ∀ k, k < 12 → C (13 + k) < 6 + k ∧ C (25 + k) < 6 + k) : ∀ {g}, g ≤ 12 → ∀ i, i < g → pkd C g >>> (5 * i) % 32 = dps C g (6 + i) := by
  intro g; induction g with
  | zero => intro _ i hi; exact absurd hi (Nat.not_lt_zero _)
  | succ g ih =>
    intro h i hi
    have hm : mo C g g + 1 < 32 := by have := @mo_le C g g; omega
    have e32 : (32 : Nat) = 2 ^ 5 := rfl
    apply Nat.eq_of_testBit_eq
    intro b
    rw [e32, Nat.testBit_mod_two_pow, Nat.testBit_shiftRight]
    simp only [pkd, dps]
    rw [Nat.testBit_or, Nat.testBit_shiftLeft]
    by_cases hig : i = g
    · subst hig
      rw [if_pos rfl, Nat.testBit_lt_two_pow (Nat.lt_of_lt_of_le (pkd_lt (by omega)) (Nat.pow_le_pow_right (by decide) (Nat.le_add_right _ _)))]
      have a := hs i (by omega)
      rw [← mo_eq a.1 a.2]
      rw [Nat.add_sub_cancel_left, Nat.add_comm 1]
      by_cases hb : b < 5
      · simp [hb]
      · rw [Nat.testBit_lt_two_pow (Nat.lt_of_lt_of_le hm (show 32 ≤ 2 ^ b from Nat.pow_le_pow_right (n := 2) (by decide) (show 5 ≤ b by omega)))]; simp
    · rw [if_neg (by omega)]
      have q := ih (by omega) i (by omega)
      rw [← q, e32, Nat.testBit_mod_two_pow, Nat.testBit_shiftRight]
      by_cases hb : b < 5
      · have : ¬ 5 * g ≤ 5 * i + b := by omega
        simp [hb, this]
      · simp [hb]
theorem lN_and (a b : Nat) : lN a &&& lN b = lN (a &&& b) := by
  apply Int64.toBitVec_inj.mp
  show BitVec.ofNat 64 a &&& BitVec.ofNat 64 b = BitVec.ofNat 64 (a &&& b)
  rw [BitVec.ofNat_and]
theorem lN_or (a b : Nat) : lN a ||| lN b = lN (a ||| b) := by
  apply Int64.toBitVec_inj.mp
  show BitVec.ofNat 64 a ||| BitVec.ofNat 64 b = BitVec.ofNat 64 (a ||| b)
  rw [BitVec.ofNat_or]
theorem lN_xor (a b : Nat) : lN a ^^^ lN b = lN (a ^^^ b) := by
  apply Int64.toBitVec_inj.mp
  show BitVec.ofNat 64 a ^^^ BitVec.ofNat 64 b = BitVec.ofNat 64 (a ^^^ b)
  rw [BitVec.ofNat_xor]
theorem ush_lN {n k : Nat} (hn : n < 2 ^ 64) (hk : k < 64) : ush64 (lN n) k = lN (n >>> k) := by
  apply i64_ext
  intro i hi
  rw [bit_ush hk hi, bit_lN _ _ hi, Nat.testBit_shiftRight]
  by_cases h : k + i < 64
  · rw [bit_lN _ _ h]
  · rw [Nat.testBit_lt_two_pow (Nat.lt_of_lt_of_le hn (Nat.pow_le_pow_right (by decide) (by omega)))]
    unfold bit64; exact BitVec.getLsbD_of_ge _ _ (by omega)
theorem shl_lN {n k : Nat} (hk : k < 64) : shl64 (lN n) k = lN (n <<< k) := by
  apply i64_ext
  intro i hi
  rw [bit_shl hk hi, bit_lN _ _ hi, Nat.testBit_shiftLeft]
  by_cases h : k ≤ i
  · rw [bit_lN _ _ (by omega)]
  · simp [h]
theorem pkd_read {C : Nat → Nat} {g i : Nat} (hs : ∀ k, k < 12 → C (13 + k) < 6 + k ∧ C (25 + k) < 6 + k) (hg : g ≤ 12) (hi : i < g) : ush64 (lN (pkd C g)) (5 * i) &&& 31 = lN (dps C g (6 + i)) := by
  have h1 : pkd C g < 2 ^ 64 := Nat.lt_of_lt_of_le (pkd_lt hg) (Nat.pow_le_pow_right (by decide) (by omega))
  rw [ush_lN h1 (by omega), show (31 : Int64) = lN 31 from rfl, lN_and, show 31 = 2 ^ 5 - 1 from rfl, Nat.and_two_pow_sub_one_eq_mod, show 2 ^ 5 = 32 from rfl, pkd_at hs hg i hi]
theorem pkd_step {C : Nat → Nat} {g : Nat} (hg : g < 12) : lN (pkd C g) ||| shl64 (lN (mo C g g + 1)) (5 * g) = lN (pkd C (g + 1)) := by
  rw [shl_lN (by omega), lN_or]; rfl
/-- sets of faults -/
def opn (C : Nat → Nat) : Nat → Nat
  | 0 => 0
  | n + 1 => opn C n ||| (if apC C (n + 1) 0 = lN 0 then 0 else 1 <<< n)
def hid (C : Nat → Nat) : Nat → Nat
  | 0 => 0
  | n + 1 => hid C n ||| (if apC C (n + 1) 0 = lN 0 then 1 <<< n else 0)
def alk (C : Nat → Nat) (F : Nat) : Nat → Nat
  | 0 => 0
  | n + 1 => alk C F n ||| (if apC C (n + 1) F = lN 0 then 1 <<< n else 0)
def sbn (C : Nat → Nat) (T : Int64) : Nat → Nat
  | 0 => 0
  | n + 1 => sbn C T n + (if apC C (n + 1) 0 &&& T = lN 0 then 0 else 1)
def ndd (C : Nat → Nat) : Nat → Int64
  | 0 => lN 0
  | n + 1 => ndd C n ||| (if popl 64 (apC C (n + 1) 0) = 1 then apC C (n + 1) 0 else lN 0)
theorem opn_lt {C : Nat → Nat} : ∀ n, opn C n < 2 ^ n := by
  intro n; induction n with
  | zero => exact Nat.one_pos
  | succ n ih =>
    simp only [opn]
    apply Nat.or_lt_two_pow (Nat.lt_of_lt_of_le ih (Nat.pow_le_pow_right (by decide) (by omega)))
    split
    · exact Nat.two_pow_pos _
    · exact sh_lt (by omega)
theorem sbn_le {C : Nat → Nat} {T : Int64} : ∀ n, sbn C T n ≤ n := by
  intro n; induction n with
  | zero => exact Nat.le_refl _
  | succ n ih => simp only [sbn]; split <;> omega
def wyh (C : Nat → Nat) (F : Nat) : Nat := if ¬ apC C F 0 = lN 0 then 0 else if (bo C (C 0) (C 37)).testBit ((F - 1) / 2) = false then 1 else if tb C 0 0 ((F - 1) / 2) = (if (F - 1) % 2 = 1 then -1 else lN 0) then 2 else 3
theorem bo_lt {C : Nat → Nat} : ∀ {n s}, n ≤ 12 → (∀ k, k < 12 → C (13 + k) < 6 + k ∧ C (25 + k) < 6 + k) → s < 2 ^ 18 → bo C n s < 2 ^ 18 := by
  intro n; induction n with
  | zero => intro s _ _ h; exact h
  | succ n ih =>
    intro s hn hs h
    have a := hs n (by omega)
    exact ih (by omega) hs (stp_lt (by omega) (by omega) h)
