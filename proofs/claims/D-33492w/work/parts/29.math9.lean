/-! the fewest tests; the text and its orders -/
set_option maxRecDepth 100000
noncomputable def fwF (X : Nat → Nat) (o : Nat) : Nat → Nat → Nat
  | 0, n => n
  | k + 1, n => if cvB X n o = true then n else fwF X o k (n + 1)
theorem fwF_y {X : Nat → Nat} {o k n : Nat} (h : cvB X n o = true) : fwF X o k n = n := by
  cases k with
  | zero => rfl
  | succ k => simp only [fwF]; rw [if_pos h]
theorem fwF_n {X : Nat → Nat} {o k n : Nat} (h : cvB X n o = false) : fwF X o (k + 1) n = fwF X o k (n + 1) := by
  simp only [fwF]; rw [if_neg (by rw [h]; decide)]
noncomputable def fws (C : Nat → Nat) : Nat := fwF (shN C (2 * (6 + C 0))) (opn C (2 * (6 + C 0))) 7 0
theorem cvB_dm {X X1 : Nat → Nat} (h : Dm X X1) {k S : Nat} : cvB X1 k S = cvB X k S := by
  rw [Bool.eq_iff_iff, cvB_iff, cvB_iff]; exact Cv_dm h
def TeOk (T : List Nat) (te : Nat → Int32) : Prop := ∀ k, k < T.length → te k = nI (T.getD k 0)
def TxOk (T : List Nat) : Prop := T.length ≤ 60 ∧ ∀ k, T.getD k 0 ≤ 126
theorem TeOk_add {T : List Nat} {te : Nat → Int32} {c : Nat} (h : TeOk T te) : TeOk (T ++ [c]) (upd te T.length (nI c)) := by
  intro k hk
  rw [List.length_append, List.length_singleton] at hk
  simp only [upd]
  by_cases e : k = T.length
  · subst e; rw [if_pos rfl]; simp
  · rw [if_neg e, h k (by omega)]
    congr 1
    rw [List.getD_eq_getElem?_getD, List.getD_eq_getElem?_getD, List.getElem?_append_left (by omega)]
theorem TxOk_add {T : List Nat} {c : Nat} (h : TxOk T) (hl : T.length < 60) (hc : c ≤ 126) : TxOk (T ++ [c]) := by
  refine ⟨by simp; omega, fun k => ?_⟩
  by_cases e : k < T.length
  · rw [List.getD_eq_getElem?_getD, List.getElem?_append_left e, ← List.getD_eq_getElem?_getD]; exact h.2 k
  · by_cases e2 : k = T.length
    · subst e2; simp; exact hc
    · rw [List.getD_eq_getElem?_getD, List.getElem?_eq_none (by simp; omega)]; simp
theorem getD_no {T : List Nat} {k : Nat} (h : T.length ≤ k) : T.getD k 0 = 0 := by
  rw [List.getD_eq_getElem?_getD, List.getElem?_eq_none h]; rfl
/-- the kind + 1 that a letter stands for, 0 for none -/
def kf (c : Nat) : Nat := if c = 65 then 1 else if c = 79 then 2 else if c = 88 then 3 else if c = 78 then 4 else if c = 82 then 5 else if c = 83 then 6 else if c = 73 then 7 else if c = 67 then 8 else 0
theorem kf_le (c : Nat) : kf c ≤ 8 := by unfold kf; (repeat' split) <;> omega
def sgB (c : Nat) : Bool := decide (c = 62) || decide (c = 35) || decide (c = 63) || decide (c = 37)
def lnB (c : Nat) : Bool := decide (97 ≤ c ∧ c ≤ 114)
def dgB (c : Nat) : Bool := decide (48 ≤ c ∧ c ≤ 57)
/-- has the test at p two digits -/
def tw (T : List Nat) (p : Nat) : Bool := decide (48 < T.getD p 0) && (dgB (T.getD (p + 1) 0) && decide (10 * (T.getD p 0 - 48) + T.getD (p + 1) 0 < 112))
def tsV (T : List Nat) (p : Nat) : Nat := if tw T p = true then 10 * (T.getD p 0 - 48) + T.getD (p + 1) 0 - 48 else T.getD p 0 - 48
def tsP (T : List Nat) (p : Nat) : Nat := if tw T p = true then p + 2 else p + 1
theorem tsV_lt {T : List Nat} {p : Nat} (h : dgB (T.getD p 0) = true) : tsV T p < 64 := by
  unfold dgB at h; simp only [decide_eq_true_eq] at h
  unfold tsV tw dgB
  split
  · next q => simp only [Bool.and_eq_true, decide_eq_true_eq] at q; omega
  · omega
/-- an order: its sign, one, two; where it ends or is wrong -/
def orB (T : List Nat) (p : Nat) : Bool :=
  let h := T.getD p 0
  if kf h ≠ 0 then lnB (T.getD (p + 1) 0) && lnB (T.getD (p + 2) 0)
  else if h = 62 ∨ h = 35 then lnB (T.getD (p + 1) 0)
  else if h = 63 then dgB (T.getD (p + 1) 0)
  else decide (h = 37)
def orP (T : List Nat) (p : Nat) : Nat :=
  let h := T.getD p 0
  if kf h ≠ 0 then (if lnB (T.getD (p + 1) 0) = true then (if lnB (T.getD (p + 2) 0) = true then p + 3 else p + 2) else p + 1)
  else if h = 62 ∨ h = 35 then (if lnB (T.getD (p + 1) 0) = true then p + 2 else p + 1)
  else if h = 63 then (if dgB (T.getD (p + 1) 0) = true then tsP T (p + 1) else p + 1)
  else if h = 37 then p + 1 else p
def orO (T : List Nat) (p : Nat) : Nat × Nat × Nat :=
  let h := T.getD p 0
  if kf h ≠ 0 then (h, T.getD (p + 1) 0 - 97, T.getD (p + 2) 0 - 97)
  else if h = 62 ∨ h = 35 then (h, T.getD (p + 1) 0 - 97, 0)
  else if h = 63 then (h, tsV T (p + 1), 0)
  else (h, 0, 0)
/-- reading orders from p on -/
def prsB (T : List Nat) : Nat → Nat → Bool
  | 0, _ => false
  | f + 1, p => orB T p && (decide (T.length ≤ orP T p) || (decide (T.getD (orP T p) 0 = 44) && prsB T f (orP T p + 1)))
def prsP (T : List Nat) : Nat → Nat → Nat
  | 0, p => p
  | f + 1, p => if orB T p = true then (if T.length ≤ orP T p then orP T p else if T.getD (orP T p) 0 = 44 then prsP T f (orP T p + 1) else orP T p) else orP T p
def prsL (T : List Nat) : Nat → Nat → List (Nat × Nat × Nat)
  | 0, _ => []
  | f + 1, p => if orB T p = true then orO T p :: (if T.length ≤ orP T p then [] else if T.getD (orP T p) 0 = 44 then prsL T f (orP T p + 1) else []) else []
theorem orP_gt {T : List Nat} {p : Nat} (h : orB T p = true) : p < orP T p := by
  unfold orB at h; unfold orP tsP
  simp only at h ⊢
  (repeat' split) <;> first | omega | (simp_all; done)
theorem orP_ge {T : List Nat} {p : Nat} : p ≤ orP T p := by
  unfold orP tsP
  simp only
  (repeat' split) <;> omega
theorem orP_le {T : List Nat} {p : Nat} : orP T p ≤ p + 3 := by
  unfold orP tsP
  simp only
  (repeat' split) <;> omega
def orn (o : Nat × Nat × Nat) : Prop := (kf o.1 ≠ 0 ∧ o.2.1 < 18 ∧ o.2.2 < 18) ∨ (kf o.1 = 0 ∧ (o.1 = 62 ∨ o.1 = 35) ∧ o.2.1 < 18) ∨ (o.1 = 63 ∧ o.2.1 < 64) ∨ o.1 = 37
theorem orO_ok {T : List Nat} {p : Nat} (h : orB T p = true) : orn (orO T p) := by
  unfold orB at h; unfold orO orn
  simp only at h ⊢
  by_cases hk : kf (T.getD p 0) ≠ 0
  · rw [if_pos hk] at h ⊢
    simp only [Bool.and_eq_true, lnB, decide_eq_true_eq] at h
    exact Or.inl ⟨hk, by show _ - 97 < 18; omega, by show _ - 97 < 18; omega⟩
  · rw [if_neg hk] at h ⊢
    by_cases h2 : T.getD p 0 = 62 ∨ T.getD p 0 = 35
    · rw [if_pos h2] at h ⊢
      simp only [lnB, decide_eq_true_eq] at h
      exact Or.inr (Or.inl ⟨by simpa using hk, h2, by show _ - 97 < 18; omega⟩)
    · rw [if_neg h2] at h ⊢
      by_cases h3 : T.getD p 0 = 63
      · rw [if_pos h3] at h ⊢
        exact Or.inr (Or.inr (Or.inl ⟨h3, tsV_lt h⟩))
      · rw [if_neg h3] at h ⊢
        exact Or.inr (Or.inr (Or.inr (by simpa using h)))
def lnG (w : Bool) (T : List Nat) (p : Nat) : Bool := !w && lnB (T.getD p 0)
def dgG (w : Bool) (T : List Nat) (p : Nat) : Bool := !w && dgB (T.getD p 0)
theorem in_rng {a b x : Nat} (ha : a < 2 ^ 31) (hb : b < 2 ^ 31) (hx : x < 2 ^ 31) : decide (nI a ≤ nI x ∧ nI x ≤ nI b) = decide (a ≤ x ∧ x ≤ b) := by
  apply decide_eq_decide.mpr; rw [nI_leI ha hx, nI_leI hx hb]
theorem dg_in {h : Nat} (hh : h ≤ 126) : decide (nI 0 ≤ nI h - nI 48 ∧ nI h - nI 48 ≤ nI 9) = dgB h := by
  unfold dgB
  apply decide_eq_decide.mpr
  rw [i32_le, i32_le, pk_sub_toInt (by omega) (by decide)]
  have h0 : (nI 0).toInt = 0 := rfl
  have h9 : (nI 9).toInt = 9 := rfl
  rw [h0, h9]; omega
