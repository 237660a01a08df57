/-! all candidates answer alike, by counts -/
set_option maxRecDepth 100000
theorem b2n_tb (b : Bool) (i : Nat) : (b2n b).testBit i = (decide (i = 0) && b) := by
  cases b
  · show (0 : Nat).testBit i = _; rw [Nat.zero_testBit, Bool.and_false]
  · show (1 <<< 0).testBit i = _; rw [tb_sh, Bool.and_true]; exact decide_eq_decide.mpr eq_comm
theorem anF_bit {X : Nat → Int64} {t : Nat} : ∀ n i, (anF n X t).testBit i = (decide (i < n) && bit64 (X i) t) := by
  intro n; induction n with
  | zero => intro i; simp [anF]
  | succ n ih =>
    intro i
    simp only [anF]
    rw [Nat.testBit_or, ih, Nat.testBit_shiftLeft, b2n_tb]
    by_cases e : i = n
    · subst e; simp
    · by_cases h : i < n
      · simp [h, show i < n + 1 by omega, show ¬ n ≤ i by omega]
      · simp [h, show ¬ i < n + 1 by omega, show n ≤ i by omega, show ¬ i - n = 0 by omega]
theorem eq_an {X Y : Nat → Int64} {n : Nat} : eqN X Y n = true ↔ ∀ t, t < 64 → anF n X t = anF n Y t := by
  rw [eqN_iff]
  constructor
  · intro h t _; exact anF_eq h
  · intro h k hk
    apply i64_ext; intro i hi
    have := congrArg (fun z => z.testBit k) (h i hi)
    simpa [anF_bit, hk] using this
theorem wsN_ge {X : Nat → Nat} {t : Nat} : ∀ n i, i < n → X (16 * t + i) ≤ wsN X t n := by
  intro n; induction n with
  | zero => intro i h; exact absurd h (Nat.not_lt_zero i)
  | succ n ih =>
    intro i h
    simp only [wsN]
    by_cases e : i = n
    · subst e; split <;> omega
    · have := ih i (by omega); split <;> omega
theorem wsN_at {X : Nat → Nat} {t : Nat} : ∀ n, wsN X t n = 0 ∨ ∃ i, i < n ∧ wsN X t n = X (16 * t + i) := by
  intro n; induction n with
  | zero => exact Or.inl rfl
  | succ n ih =>
    simp only [wsN]
    split
    · exact Or.inr ⟨n, by omega, rfl⟩
    · rcases ih with h | ⟨i, hi, h⟩
      · exact Or.inl h
      · exact Or.inr ⟨i, by omega, h⟩
theorem tm_at {C : Nat → Nat} {L : List (Nat × Nat)} {t a : Nat} (ha : a < 16) : tmN C L (16 * t + a) = (L.filter (fun c => decide (anC C c.1 c.2 t = a))).length := by
  unfold tmN; rw [show (16 * t + a) / 16 = t by omega, show (16 * t + a) % 16 = a by omega]
theorem wst_len {C : Nat → Nat} (hno : no C ≤ 4) {h : Nat × Nat} {L : List (Nat × Nat)} {t : Nat} : wst (tmN C (h :: L)) t = (h :: L).length ↔ ∀ c, c ∈ h :: L → anC C c.1 c.2 t = anC C h.1 h.2 t := by
  constructor
  · intro hw c hc
    rcases wsN_at (X := tmN C (h :: L)) (t := t) 16 with h0 | ⟨a, ha, hx⟩
    · unfold wst at hw; rw [h0] at hw; simp at hw
    · unfold wst at hw
      rw [hx, tm_at ha, List.length_filter_eq_length_iff] at hw
      have h1 := of_decide_eq_true (hw c hc)
      have h2 := of_decide_eq_true (hw h List.mem_cons_self)
      rw [h1, h2]
  · intro hall
    have h16 : anC C h.1 h.2 t < 16 := anC_lt hno
    apply Nat.le_antisymm
    · rcases wsN_at (X := tmN C (h :: L)) (t := t) 16 with h0 | ⟨a, ha, hx⟩
      · unfold wst; rw [h0]; exact Nat.zero_le _
      · unfold wst; rw [hx]; exact tmN_le
    · have h1 := wsN_ge (X := tmN C (h :: L)) (t := t) 16 _ h16
      rw [tm_at h16, List.length_filter_eq_length_iff.mpr (fun c hc => decide_eq_true (hall c hc))] at h1
      exact h1
theorem al_wst {C : Nat → Nat} (hno : no C ≤ 4) {L : List (Nat × Nat)} : alB C L = true ↔ ∀ t, t < 64 → wst (tmN C L) t = L.length := by
  cases L with
  | nil =>
    refine ⟨fun _ t _ => ?_, fun _ => rfl⟩
    rcases wsN_at (X := tmN C []) (t := t) 16 with h0 | ⟨a, ha, hx⟩
    · exact h0
    · unfold wst; rw [hx]; rfl
  | cons h L =>
    have e : alB C (h :: L) = true ↔ ∀ c, c ∈ h :: L → ∀ t, t < 64 → anC C h.1 h.2 t = anC C c.1 c.2 t := by
      have e0 : alB C (h :: L) = (h :: L).all (fun c => eqN (oc C h) (oc C c) (no C)) := rfl
      rw [e0, List.all_eq_true]
      exact ⟨fun q c hc => eq_an.mp (q c hc), fun q c hc => eq_an.mpr (q c hc)⟩
    rw [e]
    exact ⟨fun q t ht => (wst_len hno).mpr (fun c hc => (q c hc t ht).symm), fun q c hc t ht => ((wst_len hno).mp (q t ht) c hc).symm⟩
