/-! candidates -/
set_option maxRecDepth 100000
def cdN (C : Nat → Nat) (K F : Nat) : Nat → Bool
  | 0 => true
  | n + 1 => cdN C K F n && decide (anC C K F (C (42 + n)) = C (54 + n))
theorem cdN_no {C : Nat → Nat} {K F i n : Nat} (h : cdN C K F i = false) (hi : i ≤ n) : cdN C K F n = false := by
  induction n with
  | zero => rw [Nat.le_zero.mp hi] at h; exact h
  | succ n ih =>
    rcases Nat.lt_or_ge i (n + 1) with q | q
    · simp only [cdN]; rw [ih (by omega)]; rfl
    · rw [Nat.le_antisymm hi q] at h; exact h
def candB (C : Nat → Nat) (K F : Nat) : Bool := cdN C K F (C 41)
def fa (C : Nat → Nat) : Nat := if C 40 = 1 then 2 * (6 + C 0) else 0
theorem fa_le {C : Nat → Nat} (h : C 0 ≤ 12) : fa C ≤ 36 := by unfold fa; split <;> omega
def clF (C : Nat → Nat) (K : Nat) : Nat → List (Nat × Nat)
  | 0 => []
  | n + 1 => clF C K n ++ (if candB C K n = true then [(K, n)] else [])
def clK (C : Nat → Nat) : Nat → List (Nat × Nat)
  | 0 => []
  | m + 1 => clK C m ++ clF C (m + 1) (fa C + 1)
def ksm (C : Nat → Nat) : Nat := 6 ^ (rk C (C 0))
def cnds (C : Nat → Nat) : List (Nat × Nat) := clK C (ksm C)
theorem rk_le {C : Nat → Nat} {g n : Nat} (hg : g ≤ 18) (h : popc 18 (C 38) ≤ n) : rk C g ≤ n := Nat.le_trans (popc_mono hg) h
theorem ksm_le {C : Nat → Nat} (h0 : C 0 ≤ 12) (h : popc 18 (C 38) ≤ 3) : ksm C ≤ 216 := by
  have := @rk_le C (C 0) 3 (by omega) h
  exact Nat.pow_le_pow_right (n := 6) (by decide) this
theorem ksm_pos (C : Nat → Nat) : 0 < ksm C := Nat.pow_pos (by decide)
theorem clF_len {C : Nat → Nat} {K : Nat} : ∀ n, (clF C K n).length ≤ n := by
  intro n; induction n with
  | zero => exact Nat.le_refl _
  | succ n ih => simp only [clF]; rw [List.length_append]; split <;> simp <;> omega
theorem clK_len {C : Nat → Nat} (h0 : C 0 ≤ 12) : ∀ m, (clK C m).length ≤ m * 37 := by
  intro m; induction m with
  | zero => simp [clK]
  | succ m ih =>
    simp only [clK]; rw [List.length_append]
    have a := clF_len (C := C) (K := m + 1) (fa C + 1); have b := fa_le h0
    rw [Nat.succ_mul]; omega
theorem cll {C : Nat → Nat} (h0 : C 0 ≤ 12) {kk n : Nat} (hk : kk ≤ 216) (hn : n ≤ 37) : (clK C kk ++ clF C (kk + 1) n).length < 10000 := by
  rw [List.length_append]
  have a := clK_len h0 kk; have b := clF_len (C := C) (K := kk + 1) n
  have c := Nat.mul_le_mul_right 37 hk
  omega
theorem clF_y {C : Nat → Nat} {kk n : Nat} (h : candB C (kk + 1) n = true) : clK C kk ++ clF C (kk + 1) n ++ [(kk + 1, n)] = clK C kk ++ clF C (kk + 1) (n + 1) := by
  simp only [clF]; rw [if_pos h, List.append_assoc]
theorem clF_n {C : Nat → Nat} {kk n : Nat} (h : candB C (kk + 1) n = false) : clK C kk ++ clF C (kk + 1) n = clK C kk ++ clF C (kk + 1) (n + 1) := by
  simp only [clF]; rw [if_neg (by rw [h]; decide), List.append_nil]
/-- the number of the candidate in a place (P: the place + 1, 0 for none) -/
def nuI (P : Nat) (L : List (Nat × Nat)) : Int32 := if P = 0 then fI 0 else match L[P - 1]? with
  | some c => nI (37 * (c.1 - 1) + c.2)
  | none => fI 0
theorem nuI_0 (P : Nat) : fI 0 = nuI P [] := by unfold nuI; split <;> simp
theorem nuI_y {P : Nat} {L : List (Nat × Nat)} {c : Nat × Nat} (h : L.length + 1 = P) : nI (37 * (c.1 - 1) + c.2) = nuI P (L ++ [c]) := by
  unfold nuI; rw [if_neg (by omega), ← h, Nat.add_sub_cancel, List.getElem?_append_right (Nat.le_refl _), Nat.sub_self]; rfl
theorem nuI_n {P : Nat} {L : List (Nat × Nat)} {c : Nat × Nat} (h : ¬ L.length + 1 = P) : nuI P L = nuI P (L ++ [c]) := by
  unfold nuI
  by_cases hP : P = 0
  · rw [if_pos hP, if_pos hP]
  · rw [if_neg hP, if_neg hP]
    by_cases hl : P - 1 < L.length
    · rw [List.getElem?_append_left hl]
    · rw [List.getElem?_eq_none (by omega), List.getElem?_eq_none (by simp; omega)]
theorem nI_fI {n P : Nat} (hn : n < 2 ^ 31) (hP : P ≤ 2 ^ 31) : nI n = fI P ↔ n + 1 = P := by
  by_cases h : P = 0
  · subst h
    constructor
    · intro e
      have := congrArg Int32.toInt e
      rw [nI_toInt hn] at this
      have h2 : (fI 0).toInt = -1 := by decide
      omega
    · intro e; omega
  · rw [fI_pos h, nI_eq hn (by omega)]; omega
def eqN (X Y : Nat → Int64) : Nat → Bool
  | 0 => true
  | k + 1 => eqN X Y k && decide (X k = Y k)
theorem eqN_iff {X Y : Nat → Int64} : ∀ {n}, eqN X Y n = true ↔ ∀ k, k < n → X k = Y k := by
  intro n; induction n with
  | zero => exact ⟨fun _ k hk => absurd hk (Nat.not_lt_zero _), fun _ => rfl⟩
  | succ n ih =>
    simp only [eqN, Bool.and_eq_true, decide_eq_true_eq]
    rw [ih]
    constructor
    · rintro ⟨a, b⟩ k hk
      by_cases h : k = n
      · rw [h]; exact b
      · exact a k (by omega)
    · intro h; exact ⟨fun k hk => h k (by omega), h n (by omega)⟩
theorem eqN_congr {X X' Y Y' : Nat → Int64} {n : Nat} (h1 : ∀ k, k < n → X k = X' k) (h2 : ∀ k, k < n → Y k = Y' k) : eqN X Y n = eqN X' Y' n := by
  rw [Bool.eq_iff_iff, eqN_iff, eqN_iff]
  constructor
  · intro h k hk; rw [← h1 k hk, ← h2 k hk]; exact h k hk
  · intro h k hk; rw [h1 k hk, h2 k hk]; exact h k hk
def oc (C : Nat → Nat) (c : Nat × Nat) : Nat → Int64 := ou0 C (tb C c.1 c.2)
def alB (C : Nat → Nat) (L : List (Nat × Nat)) : Bool := match L with
  | [] => true
  | h :: _ => L.all (fun c => eqN (oc C h) (oc C c) (no C))
def PlOk (C : Nat → Nat) (L : List (Nat × Nat)) (pl : Nat → Int64) : Prop := ∀ h, L.head? = some h → ∀ k, k < no C → pl k = oc C h k
def plP (L : List (Nat × Nat)) (X pl : Nat → Int64) : Nat → Int64 := fun k => if L.length = 0 then X k else pl k
theorem Pl_add {C : Nat → Nat} {L : List (Nat × Nat)} {c : Nat × Nat} {pl o : Nat → Int64} (h : PlOk C L pl) : PlOk C (L ++ [c]) (fillL (no C) (plP L (outF C (tb C c.1 c.2) (6 + C 0) o) pl) pl) := by
  intro h0 hh k hk
  rw [fillL_at hk]
  unfold plP
  cases L with
  | nil =>
    simp at hh
    subst hh
    rw [if_pos List.length_nil]
    exact ou0_at hk
  | cons a t =>
    rw [if_neg (by simp)]
    exact h h0 (by simpa using hh) k hk
theorem al_add {C : Nat → Nat} {L : List (Nat × Nat)} {c : Nat × Nat} {pl o : Nat → Int64} (h : PlOk C L pl) : (alB C L && eqN (plP L (outF C (tb C c.1 c.2) (6 + C 0) o) pl) (outF C (tb C c.1 c.2) (6 + C 0) o) (no C)) = alB C (L ++ [c]) := by
  cases L with
  | nil =>
    have : eqN (plP [] (outF C (tb C c.1 c.2) (6 + C 0) o) pl) (outF C (tb C c.1 c.2) (6 + C 0) o) (no C) = true := eqN_iff.mpr (fun k _ => rfl)
    have h2 : eqN (oc C c) (oc C c) (no C) = true := eqN_iff.mpr (fun _ _ => rfl)
    rw [this]; simp [alB, h2]
  | cons a t =>
    have : eqN (plP (a :: t) (outF C (tb C c.1 c.2) (6 + C 0) o) pl) (outF C (tb C c.1 c.2) (6 + C 0) o) (no C) = eqN (oc C a) (oc C c) (no C) := by
      apply eqN_congr
      · intro k hk; unfold plP; rw [if_neg (by simp)]; exact h a rfl k hk
      · intro k hk; exact ou0_at hk
    rw [this]
    simp only [alB, List.cons_append, List.all_cons, List.all_append, List.all_nil, Bool.and_true]
    rw [Bool.and_assoc]
def nIf (X : Nat → Nat) : Nat → Int32 := fun k => nI (X k)
def tmN (C : Nat → Nat) (L : List (Nat × Nat)) : Nat → Nat := fun k => (L.filter (fun c => decide (anC C c.1 c.2 (k / 16) = k % 16))).length
def tmT (C : Nat → Nat) (c : Nat × Nat) (i : Nat) (X : Nat → Nat) : Nat → Nat := fun k => X k + (if k / 16 < i ∧ anC C c.1 c.2 (k / 16) = k % 16 then 1 else 0)
theorem tmT_0 {C : Nat → Nat} {c : Nat × Nat} {X : Nat → Nat} : tmT C c 0 X = X := by
  funext k; unfold tmT; rw [if_neg (fun h => Nat.not_lt_zero _ h.1)]; rfl
theorem tmT_s {C : Nat → Nat} {c : Nat × Nat} {i : Nat} {X : Nat → Nat} (ha : anC C c.1 c.2 i < 16) : upd (nIf (tmT C c i X)) (16 * i + anC C c.1 c.2 i) (nI (tmT C c i X (16 * i + anC C c.1 c.2 i) + 1)) = nIf (tmT C c (i + 1) X) := by
  funext k
  simp only [upd, nIf]
  by_cases hk : k = 16 * i + anC C c.1 c.2 i
  · subst hk
    rw [if_pos rfl]
    have e1 : (16 * i + anC C c.1 c.2 i) / 16 = i := by omega
    have e2 : (16 * i + anC C c.1 c.2 i) % 16 = anC C c.1 c.2 i := by omega
    unfold tmT
    rw [e1, e2, if_neg (by omega), if_pos ⟨by omega, rfl⟩]
  · rw [if_neg hk]
    congr 1
    unfold tmT
    congr 1
    by_cases h1 : k / 16 < i ∧ anC C c.1 c.2 (k / 16) = k % 16
    · rw [if_pos h1, if_pos ⟨by omega, h1.2⟩]
    · rw [if_neg h1, if_neg]
      rintro ⟨a, b⟩
      by_cases hi : k / 16 = i
      · rw [hi] at b; apply hk; omega
      · exact h1 ⟨by omega, b⟩
theorem tm_add {C : Nat → Nat} {L : List (Nat × Nat)} {c : Nat × Nat} {k : Nat} (hk : k < 1024) : tmT C c 64 (tmN C L) k = tmN C (L ++ [c]) k := by
  unfold tmT tmN
  rw [List.filter_append, List.length_append]
  congr 1
  by_cases h : anC C c.1 c.2 (k / 16) = k % 16
  · rw [if_pos ⟨by omega, h⟩]; simp [h]
  · rw [if_neg (fun q => h q.2)]; simp [h]
theorem tmN_le {C : Nat → Nat} {L : List (Nat × Nat)} {k : Nat} : tmN C L k ≤ L.length := List.length_filter_le _ _
theorem anC_lt {C : Nat → Nat} {K F t : Nat} (h : no C ≤ 4) : anC C K F t < 16 := Nat.lt_of_lt_of_le anF_lt (Nat.pow_le_pow_right (n := 2) (by decide) h)
def wsN (X : Nat → Nat) (t : Nat) : Nat → Nat
  | 0 => 0
  | i + 1 => if wsN X t i < X (16 * t + i) then X (16 * t + i) else wsN X t i
def wst (X : Nat → Nat) (t : Nat) : Nat := wsN X t 16
theorem wsN_lt {X : Nat → Nat} {t b : Nat} (hb : 0 < b) (h : ∀ k, X k < b) : ∀ i, wsN X t i < b := by
  intro i; induction i with
  | zero => exact hb
  | succ i ih => simp only [wsN]; split; exact h _; exact ih
def bsN (X : Nat → Nat) : Nat → Nat
  | 0 => 0
  | n + 1 => if wst X (n + 1) < wst X (bsN X n) then n + 1 else bsN X n
theorem bsN_le {X : Nat → Nat} : ∀ n, bsN X n ≤ n := by
  intro n; induction n with
  | zero => exact Nat.le_refl _
  | succ n ih => simp only [bsN]; split <;> omega
def bst (C : Nat → Nat) : Nat := bsN (tmN C (cnds C)) 63
theorem bst_lt (C : Nat → Nat) : bst C < 64 := by have := @bsN_le (tmN C (cnds C)) 63; unfold bst; omega
def abF : Nat → (Nat → Nat) → (Nat → Nat)
  | 0, C => C
  | k + 1, C => if C 41 < 12 ∧ alB C (cnds C) = false then abF k (askC C (bst C) (anC C 0 (C 39) (bst C))) else C
def abN : Nat → (Nat → Nat) → Nat
  | 0, _ => 0
  | k + 1, C => if C 41 < 12 ∧ alB C (cnds C) = false then 1 + abN k (askC C (bst C) (anC C 0 (C 39) (bst C))) else 0
/-- same circuit, other asks -/
def Sm (C X : Nat → Nat) : Prop := (∀ k, k < 41 ∨ 66 ≤ k → X k = C k) ∧ X 41 ≤ 12 ∧ ∀ k, k < 12 → X (42 + k) < 64
theorem Sm_ask {C X : Nat → Nat} {t a : Nat} (h : Sm C X) (h41 : X 41 < 12) (ht : t < 64) : Sm C (askC X t a) := by
  obtain ⟨h1, h2, h3⟩ := h
  refine ⟨fun k hk => ?_, ?_, fun k hk => ?_⟩
  · simp only [askC, updN]; (repeat' split)
    all_goals first | omega | exact h1 k hk
  · simp only [askC, updN]; (repeat' split) <;> omega
  · simp only [askC, updN]; (repeat' split)
    all_goals first | omega | exact h3 k hk
theorem abF_s {k : Nat} {C : Nat → Nat} (h1 : C 41 < 12) (h2 : alB C (cnds C) = false) : abF (k + 1) C = abF k (askC C (bst C) (anC C 0 (C 39) (bst C))) := by simp only [abF]; rw [if_pos ⟨h1, h2⟩]
theorem abN_s {k : Nat} {C : Nat → Nat} (h1 : C 41 < 12) (h2 : alB C (cnds C) = false) : abN (k + 1) C = 1 + abN k (askC C (bst C) (anC C 0 (C 39) (bst C))) := by simp only [abN]; rw [if_pos ⟨h1, h2⟩]
theorem abF_e {k : Nat} {C : Nat → Nat} (h : ¬ C 41 < 12 ∨ alB C (cnds C) = true) : abF k C = C := by
  cases k with
  | zero => rfl
  | succ k => simp only [abF]; rw [if_neg]; rintro ⟨a, b⟩; rcases h with h | h; exact h a; rw [h] at b; cases b
theorem abN_e {k : Nat} {C : Nat → Nat} (h : ¬ C 41 < 12 ∨ alB C (cnds C) = true) : abN k C = 0 := by
  cases k with
  | zero => rfl
  | succ k => simp only [abN]; rw [if_neg]; rintro ⟨a, b⟩; rcases h with h | h; exact h a; rw [h] at b; cases b
theorem nuv (a n : Nat) : nI a + fI n + nI 1 = nI (a + n) := by
  rw [← nI_add]; unfold fI
  have : nI 1 = 1 := rfl
  rw [this]; grind
theorem in1_ok {n k : Nat} (h1 : 1 ≤ k) (hk : k ≤ n) (h : n < 2 ^ 31) : decide (nI 1 ≤ nI k ∧ nI k ≤ nI n) = true :=
  decide_eq_true ⟨nI_le h1 (by omega), nI_le hk h⟩
theorem ask16 {X : Nat → Nat} {t a : Nat} (h : ∀ k, k < 12 → X (54 + k) < 16) (h41 : X 41 < 12) (ha : a < 16) : ∀ k, k < 12 → askC X t a (54 + k) < 16 := by
  intro k hk
  simp only [askC, updN]; (repeat' split)
  all_goals first | omega | exact h k hk
theorem tm_lim {C : Nat → Nat} (h0 : C 0 ≤ 12) (hnb : popc 18 (C 38) ≤ 3) (k : Nat) : tmN C (cnds C) k < 100000 :=
  Nat.lt_of_le_of_lt tmN_le (Nat.lt_of_le_of_lt (clK_len h0 _) (by have := ksm_le h0 hnb; omega))
