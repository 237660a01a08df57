/-! covers: so many tests show some faults -/
set_option maxRecDepth 100000
def Cv (X : Nat → Nat) : Nat → Nat → Prop
  | 0, S => S = 0
  | k + 1, S => S = 0 ∨ ∃ t, t < 64 ∧ Cv X k (adN S (X t))
noncomputable def cvB (X : Nat → Nat) (k S : Nat) : Bool := @decide (Cv X k S) (Classical.propDecidable _)
theorem cvB_t {X : Nat → Nat} {k S : Nat} (h : Cv X k S) : cvB X k S = true := @decide_eq_true _ (Classical.propDecidable _) h
theorem cvB_f {X : Nat → Nat} {k S : Nat} (h : ¬ Cv X k S) : cvB X k S = false := @decide_eq_false _ (Classical.propDecidable _) h
theorem cvB_iff {X : Nat → Nat} {k S : Nat} : cvB X k S = true ↔ Cv X k S := @decide_eq_true_iff _ (Classical.propDecidable _)
def Sub (a b : Nat) : Prop := ∀ i, a.testBit i = true → b.testBit i = true
theorem adN_0 {a b : Nat} : adN a b = 0 ↔ Sub a b := by
  constructor
  · intro h i hi
    have h2 := adN_bit a b i
    rw [h, Nat.zero_testBit, hi] at h2
    cases hb : b.testBit i with
    | true => rfl
    | false => rw [hb] at h2; cases h2
  · intro h
    apply Nat.eq_of_testBit_eq
    intro i
    rw [adN_bit, Nat.zero_testBit]
    cases ha : a.testBit i with
    | false => rfl
    | true => rw [h i ha]; rfl
theorem Sub_0 {a : Nat} (h : Sub a 0) : a = 0 := by
  apply Nat.eq_of_testBit_eq
  intro i
  rw [Nat.zero_testBit]
  cases ha : a.testBit i with
  | false => rfl
  | true => have := h i ha; rw [Nat.zero_testBit] at this; exact this.symm
theorem Sub_ad {a b x : Nat} (h : Sub a b) : Sub (adN a x) (adN b x) := by
  intro i hi
  rw [adN_bit, Bool.and_eq_true] at hi ⊢
  exact ⟨h i hi.1, hi.2⟩
theorem Sub_ad2 {a x y : Nat} (h : Sub x y) : Sub (adN a y) (adN a x) := by
  intro i hi
  rw [adN_bit, Bool.and_eq_true] at hi ⊢
  refine ⟨hi.1, ?_⟩
  cases hx : x.testBit i with
  | false => rfl
  | true => rw [h i hx] at hi; exact absurd hi.2 (by decide)
theorem adN_comm (s a b : Nat) : adN (adN s a) b = adN (adN s b) a := by
  apply Nat.eq_of_testBit_eq
  intro i
  rw [adN_bit, adN_bit, adN_bit, adN_bit]
  cases s.testBit i <;> cases a.testBit i <;> cases b.testBit i <;> rfl
theorem Cv_0 (X : Nat → Nat) (k : Nat) : Cv X k 0 := by
  cases k with
  | zero => exact rfl
  | succ k => exact Or.inl rfl
theorem Cv_sub {X : Nat → Nat} : ∀ {k S S'}, Cv X k S → Sub S' S → Cv X k S' := by
  intro k; induction k with
  | zero =>
    intro S S' h hs
    have h : S = 0 := h
    subst h
    exact Sub_0 hs
  | succ k ih =>
    intro S S' h hs
    rcases h with h | ⟨t, ht, h⟩
    · subst h; exact Or.inl (Sub_0 hs)
    · exact Or.inr ⟨t, ht, ih h (Sub_ad hs)⟩
theorem Cv_pick {X : Nat → Nat} : ∀ {k S w}, Cv X (k + 1) S → S.testBit w = true → ∃ t, t < 64 ∧ (X t).testBit w = true ∧ Cv X k (adN S (X t)) := by
  intro k; induction k with
  | zero =>
    intro S w h hw
    rcases h with h | ⟨t, ht, h⟩
    · subst h; rw [Nat.zero_testBit] at hw; cases hw
    · refine ⟨t, ht, ?_, h⟩
      have h2 : adN S (X t) = 0 := h
      exact adN_0.mp h2 w hw
  | succ k ih =>
    intro S w h hw
    rcases h with h | ⟨t, ht, h⟩
    · subst h; rw [Nat.zero_testBit] at hw; cases hw
    · by_cases hx : (X t).testBit w = true
      · exact ⟨t, ht, hx, h⟩
      · have h2 : (adN S (X t)).testBit w = true := by rw [adN_bit, hw]; simp [hx]
        obtain ⟨u, hu, hux, hc⟩ := ih h h2
        exact ⟨u, hu, hux, Or.inr ⟨t, ht, by rw [adN_comm]; exact hc⟩⟩
theorem Cv_br {X : Nat → Nat} {k S w : Nat} (hw : S.testBit w = true) : Cv X (k + 1) S ↔ ∃ t, t < 64 ∧ (X t).testBit w = true ∧ Cv X k (adN S (X t)) :=
  ⟨fun h => Cv_pick h hw, fun ⟨t, ht, _, h⟩ => Or.inr ⟨t, ht, h⟩⟩
/-- X1 is X thinned out -/
def Dm (X X1 : Nat → Nat) : Prop := (∀ t, Sub (X1 t) (X t)) ∧ ∀ t, t < 64 → ∃ u, u < 64 ∧ Sub (X t) (X1 u)
theorem Dm_rf (X : Nat → Nat) : Dm X X := ⟨fun _ _ h => h, fun t ht => ⟨t, ht, fun _ h => h⟩⟩
theorem Dm_s {X X1 : Nat → Nat} {t o : Nat} (h : Dm X X1) (ho : o < 64) (hne : o ≠ t) (hs : Sub (X1 t) (X1 o)) : Dm X (updN X1 t 0) := by
  refine ⟨fun u i hi => ?_, fun u hu => ?_⟩
  · simp only [updN] at hi
    split at hi
    · rw [Nat.zero_testBit] at hi; cases hi
    · exact h.1 u i hi
  · obtain ⟨v, hv, hs2⟩ := h.2 u hu
    by_cases hvt : v = t
    · subst hvt
      exact ⟨o, ho, fun i hi => by simp only [updN]; rw [if_neg hne]; exact hs i (hs2 i hi)⟩
    · exact ⟨v, hv, fun i hi => by simp only [updN]; rw [if_neg hvt]; exact hs2 i hi⟩
theorem Cv_dm {X X1 : Nat → Nat} (h : Dm X X1) : ∀ {k S}, Cv X1 k S ↔ Cv X k S := by
  intro k; induction k with
  | zero => intro S; exact Iff.rfl
  | succ k ih =>
    intro S
    constructor
    · rintro (hz | ⟨t, ht, hc⟩)
      · exact Or.inl hz
      · exact Or.inr ⟨t, ht, Cv_sub (ih.mp hc) (Sub_ad2 (h.1 t))⟩
    · rintro (hz | ⟨t, ht, hc⟩)
      · exact Or.inl hz
      · obtain ⟨u, hu, hs⟩ := h.2 t ht
        exact Or.inr ⟨u, hu, Cv_sub (ih.mpr hc) (Sub_ad2 hs)⟩
theorem lN_b1 {b : Bool} : lN (b2n b) = lN 1 ↔ b = true := lN_b2n (b := true)
/-- what the search has left at a place of its stack -/
def Alt (X : Nat → Nat) (k nx w S : Nat) : Prop := ∃ t, nx ≤ t ∧ t < 64 ∧ (X t).testBit w = true ∧ Cv X k (adN S (X t))
def SkI (X : Nat → Nat) (n D : Nat) (S N W : Nat → Nat) (o : Nat) : Prop :=
  D ≤ n + 1 ∧ (∀ i, i < D → S i < 2 ^ 36 ∧ N i ≤ 64 ∧ (S i ≠ 0 → W i ≠ 0 ∧ W i ≤ 36 ∧ (S i).testBit (W i - 1) = true)) ∧ (∀ i, i + 1 < D → S i ≠ 0) ∧
  (Cv X n o ↔ ((D ≠ 0 ∧ S (D - 1) = 0) ∨ ∃ i, i < D ∧ i < n ∧ Alt X (n - i - 1) (N i) (W i - 1) (S i)))
def ArOk (D : Nat) (S N W : Nat → Nat) (le : Nat → Int64) (ne wa : Nat → Int32) : Prop := ∀ i, i < D → le i = lN (S i) ∧ ne i = nI (N i) ∧ wa i = fI (W i)
theorem SkI_end {X : Nat → Nat} {n : Nat} {S N W : Nat → Nat} {o : Nat} (h : SkI X n 0 S N W o) : ¬ Cv X n o := by
  intro hc
  rcases h.2.2.2.mp hc with ⟨a, -⟩ | ⟨i, a, -⟩
  · exact a rfl
  · exact Nat.not_lt_zero _ a
theorem SkI_ret {X : Nat → Nat} {n d : Nat} {S N W : Nat → Nat} {o : Nat} (h : SkI X n (d + 1) S N W o) (h0 : S d = 0) : Cv X n o :=
  h.2.2.2.mpr (Or.inl ⟨by omega, h0⟩)
theorem SkI_pop {X : Nat → Nat} {n d : Nat} {S N W : Nat → Nat} {o : Nat} (h : SkI X n (d + 1) S N W o) (h0 : S d ≠ 0) (hd : d = n ∨ N d = 64) : SkI X n d S N W o := by
  obtain ⟨h1, h2, h3, h4⟩ := h
  refine ⟨by omega, fun i hi => h2 i (by omega), fun i hi => h3 i (by omega), ?_⟩
  rw [h4]
  constructor
  · rintro (⟨-, a⟩ | ⟨i, a, b, c⟩)
    · exact absurd a h0
    · by_cases hid : i = d
      · subst hid
        obtain ⟨t, g1, g2, -⟩ := c
        rcases hd with hd | hd <;> omega
      · exact Or.inr ⟨i, by omega, b, c⟩
  · rintro (⟨a, b⟩ | ⟨i, a, b, c⟩)
    · exact absurd b (h3 (d - 1) (by omega))
    · exact Or.inr ⟨i, by omega, b, c⟩
theorem Alt_next {X : Nat → Nat} {k nx w S : Nat} (hx : nx < 64) : Alt X k nx w S ↔ (((X nx).testBit w = true ∧ Cv X k (adN S (X nx))) ∨ Alt X k (nx + 1) w S) := by
  constructor
  · rintro ⟨t, a, b, c, d⟩
    by_cases h : t = nx
    · subst h; exact Or.inl ⟨c, d⟩
    · exact Or.inr ⟨t, by omega, b, c, d⟩
  · rintro (⟨a, b⟩ | ⟨t, a, b, c, d⟩)
    · exact ⟨nx, Nat.le_refl _, hx, a, b⟩
    · exact ⟨t, by omega, b, c, d⟩
theorem SkI_skip {X : Nat → Nat} {n d : Nat} {S N W : Nat → Nat} {o : Nat} (h : SkI X n (d + 1) S N W o) (hN : N d < 64) (hb : (X (N d)).testBit (W d - 1) = false) : SkI X n (d + 1) S (updN N d (N d + 1)) W o := by
  obtain ⟨h1, h2, h3, h4⟩ := h
  refine ⟨h1, fun i hi => ?_, h3, ?_⟩
  · obtain ⟨a, b, c⟩ := h2 i hi
    refine ⟨a, ?_, c⟩
    simp only [updN]; split <;> omega
  · rw [h4]
    have key : ∀ i, Alt X (n - i - 1) (N i) (W i - 1) (S i) ↔ Alt X (n - i - 1) (updN N d (N d + 1) i) (W i - 1) (S i) := by
      intro i
      simp only [updN]
      split
      · next e =>
        subst e
        rw [Alt_next hN, hb]
        exact ⟨fun q => q.resolve_left (fun z => absurd z.1 (by decide)), Or.inr⟩
      · exact Iff.rfl
    constructor
    · rintro (a | ⟨i, a, b, c⟩)
      · exact Or.inl a
      · exact Or.inr ⟨i, a, b, (key i).mp c⟩
    · rintro (a | ⟨i, a, b, c⟩)
      · exact Or.inl a
      · exact Or.inr ⟨i, a, b, (key i).mpr c⟩
theorem SkI_push {X : Nat → Nat} {n d w1 : Nat} {S N W : Nat → Nat} {o : Nat} (h : SkI X n (d + 1) S N W o) (h0 : S d ≠ 0) (hdn : d < n) (hN : N d < 64) (hb : (X (N d)).testBit (W d - 1) = true)
    (hw : adN (S d) (X (N d)) ≠ 0 → w1 ≠ 0 ∧ w1 ≤ 36 ∧ (adN (S d) (X (N d))).testBit (w1 - 1) = true) : SkI X n (d + 1 + 1) (updN S (d + 1) (adN (S d) (X (N d)))) (updN (updN N d (N d + 1)) (d + 1) 0) (updN W (d + 1) w1) o := by
  obtain ⟨h1, h2, h3, h4⟩ := h
  have eS : ∀ i, i < d + 1 → updN S (d + 1) (adN (S d) (X (N d))) i = S i := fun i hi => by simp only [updN]; rw [if_neg (by omega)]
  have eW : ∀ i, i < d + 1 → updN W (d + 1) w1 i = W i := fun i hi => by simp only [updN]; rw [if_neg (by omega)]
  have eS1 : updN S (d + 1) (adN (S d) (X (N d))) (d + 1) = adN (S d) (X (N d)) := by simp [updN]
  have eW1 : updN W (d + 1) w1 (d + 1) = w1 := by simp [updN]
  have eN1 : updN (updN N d (N d + 1)) (d + 1) 0 (d + 1) = 0 := by simp [updN]
  have eNd : updN (updN N d (N d + 1)) (d + 1) 0 d = N d + 1 := by simp [updN]
  have eN : ∀ i, i < d → updN (updN N d (N d + 1)) (d + 1) 0 i = N i := fun i hi => by simp only [updN]; rw [if_neg (by omega), if_neg (by omega)]
  refine ⟨by omega, fun i hi => ?_, fun i hi => ?_, ?_⟩
  · by_cases e : i = d + 1
    · subst e
      rw [eS1, eW1, eN1]
      exact ⟨adN_le2 (h2 d (by omega)).1, by omega, hw⟩
    · have hid : i < d + 1 := by omega
      obtain ⟨a, b, c⟩ := h2 i hid
      rw [eS i hid, eW i hid]
      refine ⟨a, ?_, c⟩
      by_cases e2 : i = d
      · subst e2; rw [eNd]; omega
      · rw [eN i (by omega)]; exact b
  · rw [eS i (by omega)]
    by_cases e2 : i = d
    · subst e2; exact h0
    · exact h3 i (by omega)
  · rw [h4]
    have hk : n - d - 1 = 0 ∨ ∃ k, n - d - 1 = k + 1 := by
      cases n - d - 1 with
      | zero => exact Or.inl rfl
      | succ k => exact Or.inr ⟨k, rfl⟩
    have top : Cv X (n - d - 1) (adN (S d) (X (N d))) ↔ (adN (S d) (X (N d)) = 0 ∨ (d + 1 < n ∧ Alt X (n - (d + 1) - 1) 0 (w1 - 1) (adN (S d) (X (N d))))) := by
      by_cases hz : adN (S d) (X (N d)) = 0
      · rw [hz]; exact ⟨fun _ => Or.inl rfl, fun _ => Cv_0 _ _⟩
      · obtain ⟨-, -, hwb⟩ := hw hz
        rcases hk with hk | ⟨k, hk⟩
        · rw [hk]
          constructor
          · intro hc; exact absurd hc hz
          · rintro (a | ⟨a, -⟩)
            · exact absurd a hz
            · omega
        · have e : n - (d + 1) - 1 = k := by omega
          rw [hk, e, Cv_br hwb]
          constructor
          · rintro ⟨t, a, b, c⟩; exact Or.inr ⟨by omega, t, Nat.zero_le _, a, b, c⟩
          · rintro (a | ⟨-, t, -, a, b, c⟩)
            · exact absurd a hz
            · exact ⟨t, a, b, c⟩
    constructor
    · rintro (⟨-, a⟩ | ⟨i, a, b, c⟩)
      · exact absurd a h0
      · by_cases e : i = d
        · subst e
          rcases (Alt_next hN).mp c with ⟨-, c1⟩ | c2
          · rcases top.mp c1 with q | ⟨q1, q2⟩
            · refine Or.inl ⟨by omega, ?_⟩
              show updN S (i + 1) (adN (S i) (X (N i))) (i + 1) = 0
              rw [eS1]; exact q
            · refine Or.inr ⟨i + 1, by omega, q1, ?_⟩
              rw [eS1, eW1, eN1]; exact q2
          · refine Or.inr ⟨i, by omega, b, ?_⟩
            rw [eS i (by omega), eW i (by omega), eNd]; exact c2
        · refine Or.inr ⟨i, by omega, b, ?_⟩
          rw [eS i (by omega), eW i (by omega), eN i (by omega)]; exact c
    · rintro (⟨-, a⟩ | ⟨i, a, b, c⟩)
      · have a2 : adN (S d) (X (N d)) = 0 := by rw [← eS1]; exact a
        exact Or.inr ⟨d, by omega, hdn, (Alt_next hN).mpr (Or.inl ⟨hb, top.mpr (Or.inl a2)⟩)⟩
      · by_cases e : i = d + 1
        · subst e
          rw [eS1, eW1, eN1] at c
          exact Or.inr ⟨d, by omega, hdn, (Alt_next hN).mpr (Or.inl ⟨hb, top.mpr (Or.inr ⟨b, c⟩)⟩)⟩
        · by_cases e2 : i = d
          · subst e2
            rw [eS i (by omega), eW i (by omega), eNd] at c
            exact Or.inr ⟨i, by omega, b, (Alt_next hN).mpr (Or.inr c)⟩
          · rw [eS i (by omega), eW i (by omega), eN i (by omega)] at c
            exact Or.inr ⟨i, by omega, b, c⟩
theorem SkI_0 {X : Nat → Nat} {n o w1 : Nat} {S N W : Nat → Nat} (ho : o < 2 ^ 36) (hw : o ≠ 0 → w1 ≠ 0 ∧ w1 ≤ 36 ∧ o.testBit (w1 - 1) = true) : SkI X n 1 (updN S 0 o) (updN N 0 0) (updN W 0 w1) o := by
  refine ⟨by omega, fun i hi => ?_, fun i hi => by omega, ?_⟩
  · have : i = 0 := by omega
    subst this
    exact ⟨ho, Nat.zero_le _, hw⟩
  · constructor
    · intro h
      by_cases hz : o = 0
      · exact Or.inl ⟨by omega, hz⟩
      · obtain ⟨-, -, hb⟩ := hw hz
        cases n with
        | zero => exact absurd h hz
        | succ n =>
          obtain ⟨t, a, b, c⟩ := (Cv_br hb).mp h
          exact Or.inr ⟨0, by omega, by omega, t, Nat.zero_le _, a, b, c⟩
    · rintro (⟨-, a⟩ | ⟨i, a, b, t, -, c1, c2, c3⟩)
      · have a : o = 0 := a
        subst a; exact Cv_0 _ _
      · have : i = 0 := by omega
        subst this
        obtain ⟨m, rfl⟩ : ∃ m, n = m + 1 := ⟨n - 1, by omega⟩
        exact Or.inr ⟨t, c1, c3⟩
/-- a measure of the search -/
def mz (n : Nat) (N : Nat → Nat) : Nat → Nat
  | 0 => 0
  | i + 1 => mz n N i + (65 - N i) * 66 ^ (n + 1 - i)
theorem mz_congr {n : Nat} {N N' : Nat → Nat} : ∀ {i}, (∀ j, j < i → N j = N' j) → mz n N i = mz n N' i := by
  intro i; induction i with
  | zero => intro _; rfl
  | succ i ih => intro h; simp only [mz]; rw [ih (fun j hj => h j (by omega)), h i (by omega)]
theorem mz_pop {n d : Nat} {N : Nat → Nat} (h : N d ≤ 64) : mz n N d < mz n N (d + 1) := by
  simp only [mz]
  have h1 : 0 < 66 ^ (n + 1 - d) := Nat.pow_pos (by decide)
  have h2 : 0 < (65 - N d) * 66 ^ (n + 1 - d) := Nat.mul_pos (by omega) h1
  omega
theorem mz_skip {n d : Nat} {N : Nat → Nat} (h : N d < 64) : mz n (updN N d (N d + 1)) (d + 1) < mz n N (d + 1) := by
  simp only [mz]
  rw [mz_congr (N := updN N d (N d + 1)) (N' := N) (fun j hj => by simp only [updN]; rw [if_neg (by omega)])]
  have e : updN N d (N d + 1) d = N d + 1 := by simp [updN]
  rw [e]
  have h1 : 0 < 66 ^ (n + 1 - d) := Nat.pow_pos (by decide)
  have := Nat.mul_lt_mul_of_pos_right (show 65 - (N d + 1) < 65 - N d by omega) h1
  omega
theorem mz_push {n d : Nat} {N : Nat → Nat} (h : N d < 64) (hd : d ≤ n) : mz n (updN (updN N d (N d + 1)) (d + 1) 0) (d + 1 + 1) < mz n N (d + 1) := by
  simp only [mz]
  rw [mz_congr (N := updN (updN N d (N d + 1)) (d + 1) 0) (N' := N) (fun j hj => by simp only [updN]; rw [if_neg (by omega), if_neg (by omega)])]
  have e1 : updN (updN N d (N d + 1)) (d + 1) 0 d = N d + 1 := by simp [updN]
  have e2 : updN (updN N d (N d + 1)) (d + 1) 0 (d + 1) = 0 := by simp [updN]
  rw [e1, e2]
  have e3 : n + 1 - d = (n + 1 - (d + 1)) + 1 := by omega
  rw [e3, Nat.pow_succ]
  have hP : 0 < 66 ^ (n + 1 - (d + 1)) := Nat.pow_pos (by decide)
  generalize 66 ^ (n + 1 - (d + 1)) = P at hP ⊢
  have h1 : (65 - N d) * (P * 66) = (65 - (N d + 1)) * (P * 66) + P * 66 := by
    have : 65 - N d = (65 - (N d + 1)) + 1 := by omega
    rw [this, Nat.add_mul, Nat.one_mul]
  omega
