/-! the mathematical row C of a circuit, and what changes it -/
set_option maxRecDepth 100000
def forgetC (C : Nat → Nat) : Nat → Nat := fun k => if 41 ≤ k ∧ k < 66 then 0 else C k
def fgt (i : Nat) (C : Nat → Nat) : Nat → Nat := fun k => if (42 ≤ k ∧ k < 42 + i) ∨ (54 ≤ k ∧ k < 54 + i) then 0 else C k
theorem fgt_0 (C : Nat → Nat) : fgt 0 C = C := by
  funext k; unfold fgt; split <;> first | rfl | omega
theorem fgt_s (C : Nat → Nat) (i : Nat) (hi : i < 12) : updN (updN (fgt i C) (42 + i) 0) (54 + i) 0 = fgt (i + 1) C := by
  funext k; unfold updN fgt; repeat' split
  all_goals first | rfl | omega
theorem fgt_12 (C : Nat → Nat) : fgt 12 (updN C 41 0) = forgetC C := by
  funext k; unfold forgetC fgt updN; repeat' split
  all_goals first | rfl | omega
def changedC (C : Nat → Nat) : Nat → Nat := updN (updN (forgetC C) 66 0) 39 (if C 39 ≤ 2 * (6 + C 0) then C 39 else 0)
theorem zOf_66 {C : Nat → Nat} {n : Nat} : upd (upd (zOf C) 66 (lo32 n)) 67 (hi32 n) = zOf (updN C 66 n) := by
  funext j
  simp only [upd, zOf, updN]
  by_cases h1 : j = 67
  · subst h1; simp
  · by_cases h2 : j = 66
    · subst h2; simp
    · by_cases h3 : j = 39
      · subst h3; simp
      · simp [h1, h2, h3]
theorem zOf_66z {C : Nat → Nat} : upd (upd (zOf C) 66 (nI 0)) 67 (nI 0) = zOf (updN C 66 0) := zOf_66 (n := 0)
def clrN (s k : Nat) : Nat := s ^^^ (s &&& 1 <<< k)
theorem clrN_bit (s k i : Nat) : (clrN s k).testBit i = (s.testBit i && !decide (i = k)) := by
  unfold clrN
  rw [Nat.testBit_xor, Nat.testBit_and, Nat.testBit_shiftLeft]
  by_cases h : i = k
  · subst h; simp
  · have : (decide (i ≥ k) && Nat.testBit 1 (i - k)) = false := by
      by_cases h2 : k ≤ i
      · obtain ⟨m, hm⟩ : ∃ m, i - k = m + 1 := ⟨i - k - 1, by omega⟩
        rw [hm, Nat.testBit_succ]; simp
      · simp [h2]
    rw [this]; simp [h]
theorem clrN_lt {s k n : Nat} (h : s < 2 ^ n) : clrN s k < 2 ^ n := by
  apply Nat.lt_pow_two_of_testBit
  intro i hi
  rw [clrN_bit, Nat.testBit_lt_two_pow (Nat.lt_of_lt_of_le h (Nat.pow_le_pow_right (by decide) hi))]; rfl
theorem nI_clr {s k : Nat} : nI s &&& (nI (1 <<< k) ^^^ fI 0) = nI (clrN s k) := by
  apply Int32.toBitVec_inj.mp
  show BitVec.ofNat 32 s &&& (BitVec.ofNat 32 (1 <<< k) ^^^ BitVec.allOnes 32) = BitVec.ofNat 32 (clrN s k)
  unfold clrN
  rw [BitVec.ofNat_xor, BitVec.ofNat_and]
  apply BitVec.eq_of_getLsbD_eq
  intro i hi
  rw [BitVec.getLsbD_and, BitVec.getLsbD_xor, BitVec.getLsbD_xor, BitVec.getLsbD_and, BitVec.getLsbD_allOnes]
  cases (BitVec.ofNat 32 s).getLsbD i <;> cases (BitVec.ofNat 32 (1 <<< k)).getLsbD i <;> simp [hi]
/-- the codes of what is thrown -/
def ncode (C : Nat → Nat) (k f s : Int32) : Nat := if !(inR (6 + C 0) f) || !(inR (6 + C 0) s) then 1 else if !(inR 8 k) then 2 else if C 0 = 12 then 3 else 0
def addsC (C : Nat → Nat) (k f s : Nat) : Nat → Nat := changedC (updN (updN (updN (updN C (1 + C 0) k) (13 + C 0) f) (25 + C 0) s) 0 (C 0 + 1))
def dropC (C : Nat → Nat) : Nat → Nat := changedC (updN (updN (updN C 0 (C 0 - 1)) 37 (clrN (C 37) (6 + (C 0 - 1)))) 38 (clrN (C 38) (C 0 - 1)))
def setKindC (C : Nat → Nat) (g k : Nat) : Nat → Nat := changedC (updN C (1 + g) k)
def setSourceC (C : Nat → Nat) (g w l : Nat) : Nat → Nat := changedC (updN C ((if w = 0 then 13 else 25) + g) l)
def turnOutC (C : Nat → Nat) (l : Nat) : Nat → Nat := changedC (updN C 37 (C 37 ^^^ (1 <<< l)))
def turnBoxC (C : Nat → Nat) (g : Nat) : Nat → Nat := changedC (updN C 38 (C 38 ^^^ (1 <<< g)))
def setSecretC (C : Nat → Nat) (x : Nat) : Nat → Nat := forgetC (updN C 39 x)
def suspectC (C : Nat → Nat) : Nat → Nat := forgetC (updN C 40 (1 - C 40))
def askC (C : Nat → Nat) (t a : Nat) : Nat → Nat := updN (updN (updN C (42 + C 41) t) (54 + C 41) a) 41 (C 41 + 1)
def outcode (C : Nat → Nat) (l : Int32) : Nat := if !(inR (6 + C 0) l) then 1 else if !((C 37).testBit l.toNatClampNeg) && decide (popc 18 (C 37) = 4) then 2 else 0
def boxcode (C : Nat → Nat) (g : Int32) : Nat := if !(inR (C 0) g) then 1 else if !((C 38).testBit g.toNatClampNeg) && (decide (popc 18 (C 38) = 3) || decide (5 < C (1 + g.toNatClampNeg))) then 2 else 0
/-- histories -/
def BeOk (L : List (Nat → Nat)) (be : Nat → Int32) : Prop := ∀ (j : Nat) (C : Nat → Nat), L[j]? = some C → ∀ k, k < 68 → be (68 * j + k) = zOf C k
def pushL (L : List (Nat → Nat)) (C : Nat → Nat) : List (Nat → Nat) := (if L.length = 5 then L.tail else L) ++ [C]
theorem pushL_len {L : List (Nat → Nat)} {C : Nat → Nat} (h : L.length ≤ 5) : (pushL L C).length ≤ 5 := by
  unfold pushL; split <;> simp <;> omega
theorem inR_fI {n F : Nat} (hF : F < 2 ^ 31) : inR n (fI F) = decide (F ≠ 0 ∧ F ≤ n) := by
  unfold inR; apply decide_eq_decide.mpr; rw [fI_toInt hF]; omega
theorem chg_t {C : Nat → Nat} (h39 : C 39 ≤ 64) (h : inR (2 * (6 + (updN (forgetC C) 66 0) 0)) (fI ((updN (forgetC C) 66 0) 39)) = false) : updN (updN (forgetC C) 66 0) 39 0 = changedC C := by
  have e0 : (updN (forgetC C) 66 0) 0 = C 0 := rfl
  have e1 : (updN (forgetC C) 66 0) 39 = C 39 := rfl
  rw [e0, e1, inR_fI (by omega)] at h
  unfold changedC
  congr 1
  have := of_decide_eq_false h
  split <;> omega
theorem chg_f {C : Nat → Nat} (h39 : C 39 ≤ 64) (h : inR (2 * (6 + (updN (forgetC C) 66 0) 0)) (fI ((updN (forgetC C) 66 0) 39)) = true) : updN (updN (forgetC C) 66 0) 39 ((updN (forgetC C) 66 0) 39) = changedC C := by
  have e0 : (updN (forgetC C) 66 0) 0 = C 0 := rfl
  have e1 : (updN (forgetC C) 66 0) 39 = C 39 := rfl
  rw [e0, e1, inR_fI (by omega)] at h
  unfold changedC
  congr 1
  have := of_decide_eq_true h
  rw [if_pos this.2]; rfl
def shiftF (i : Nat) (be : Nat → Int32) : Nat → Int32 := fun k => if k < i then be (68 + k) else be k
theorem shiftF_0 (be : Nat → Int32) : shiftF 0 be = be := by funext k; simp [shiftF]
theorem shiftF_s (i : Nat) (be : Nat → Int32) : upd (shiftF i be) i (shiftF i be (68 + i)) = shiftF (i + 1) be := by
  funext k; simp only [shiftF, upd]; (repeat' split)
  all_goals first | rfl | omega | (congr 1; omega)
def fillA (m i : Nat) (f : Nat → Int32) (be : Nat → Int32) : Nat → Int32 := fun k => if 68 * m ≤ k ∧ k < 68 * m + i then f (k - 68 * m) else be k
theorem fillA_0 (m : Nat) (f be : Nat → Int32) : fillA m 0 f be = be := by
  funext k; unfold fillA; split
  · omega
  · rfl
theorem fillA_s (m i : Nat) (f be : Nat → Int32) : upd (fillA m i f be) (68 * m + i) (f i) = fillA m (i + 1) f be := by
  funext k; simp only [fillA, upd]; (repeat' split)
  all_goals first | rfl | omega | (congr 1; omega)
theorem BeOk_shift {L : List (Nat → Nat)} {be : Nat → Int32} (hl : L.length = 5) (h : BeOk L be) : BeOk L.tail (shiftF 272 be) := by
  intro j C hj k hk
  have hj2 : j < 4 := by have := (List.getElem?_eq_some_iff.mp hj).1; simp at this; omega
  have h2 : L[j + 1]? = some C := by rw [← List.getElem?_tail]; exact hj
  have h3 := h (j + 1) C h2 k hk
  unfold shiftF
  rw [if_pos (by omega), ← h3]; congr 1; omega
theorem BeOk_add {M : List (Nat → Nat)} {b : Nat → Int32} {C : Nat → Nat} (h : BeOk M b) : BeOk (M ++ [C]) (fillA M.length 68 (zOf C) b) := by
  intro j D hj k hk
  by_cases hl : j < M.length
  · rw [List.getElem?_append_left hl] at hj
    unfold fillA
    rw [if_neg (by omega)]; exact h j D hj k hk
  · rw [List.getElem?_append_right (by omega)] at hj
    have : j - M.length < 1 := (List.getElem?_eq_some_iff.mp hj).1
    have e : j = M.length := by omega
    subst e
    rw [Nat.sub_self] at hj
    cases hj
    unfold fillA
    rw [if_pos (by omega)]; congr 1; omega
def fillF (i : Nat) (f g : Nat → Int32) : Nat → Int32 := fun k => if k < i then f k else g k
theorem fillF_0 (f g : Nat → Int32) : fillF 0 f g = g := by funext k; simp [fillF]
theorem fillF_s (i : Nat) (f g : Nat → Int32) : upd (fillF i f g) i (f i) = fillF (i + 1) f g := by
  funext k; simp only [fillF, upd]; (repeat' split)
  all_goals first | rfl | omega | (congr 1; omega)
theorem nI_ne {a b : Nat} (ha : a < 2 ^ 31) (hb : b < 2 ^ 31) (h : a ≠ b) : ¬ nI a = nI b := fun q => h ((nI_eq ha hb).mp q)
theorem pop_last {L : List (Nat → Nat)} {be : Nat → Int32} (h : BeOk L be) {C : Nat → Nat} {m : Nat} (hl : L.length = m + 1) (hC : L[m]? = some C) : ∀ k, k < 68 → be (68 * m + k) = zOf C k := fun k hk => h m C hC k hk
theorem BeOk_take {L : List (Nat → Nat)} {be : Nat → Int32} (h : BeOk L be) (m : Nat) : BeOk (L.take m) be := by
  intro j C hj k hk
  rw [List.getElem?_take] at hj
  split at hj
  · exact h j C hj k hk
  · cases hj
theorem inR_ok {n k : Nat} (hk : k < n) (h2 : k < 2 ^ 31) : inR n (nI k) = true := by rw [inR_nI h2]; exact decide_eq_true hk
theorem in_ok {n k : Nat} (hk : k ≤ n) (h : n < 2 ^ 31) : decide (nI 0 ≤ nI k ∧ nI k ≤ nI n) = true := by
  rw [inR_lit h]; exact inR_ok (by omega) (by omega)
theorem ncode_ok {C : Nat → Nat} {k f s : Nat} (hg : C 0 < 12) (hk : k < 8) (hf : f < 6 + C 0) (hs : s < 6 + C 0) : ncode C (nI k) (nI f) (nI s) = 0 := by
  unfold ncode
  rw [inR_ok hk (by omega), inR_ok hf (by omega), inR_ok hs (by omega)]
  simp; omega
theorem toI_nI {j : Nat} (h : j < 2 ^ 31) : (nI j).toNatClampNeg = j := nI_clamp h
def skcode (C : Nat → Nat) (g k : Int32) : Nat := if !(inR (C 0) g) then 1 else if !(inR 8 k) then 2 else if (C 38).testBit g.toNatClampNeg && decide (5 < k.toNatClampNeg) then 3 else 0
def sscode (C : Nat → Nat) (g w l : Int32) : Nat := if !(inR (C 0) g) || !(inR (6 + C 0) l) then 1 else if !(inR 2 w) || decide (6 + g.toNatClampNeg ≤ l.toNatClampNeg) then 2 else 0
theorem ncode_le (C : Nat → Nat) (k f s : Int32) : ncode C k f s ≤ 3 := by unfold ncode; (repeat' split) <;> omega
theorem skcode_le (C : Nat → Nat) (g k : Int32) : skcode C g k ≤ 3 := by unfold skcode; (repeat' split) <;> omega
theorem sscode_le (C : Nat → Nat) (g w l : Int32) : sscode C g w l ≤ 3 := by unfold sscode; (repeat' split) <;> omega
theorem outcode_le (C : Nat → Nat) (l : Int32) : outcode C l ≤ 3 := by unfold outcode; (repeat' split) <;> omega
theorem boxcode_le (C : Nat → Nat) (l : Int32) : boxcode C l ≤ 3 := by unfold boxcode; (repeat' split) <;> omega
