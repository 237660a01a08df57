/-! carrying orders out -/
set_option maxRecDepth 100000
theorem kf_sg {h : Nat} (hk : kf h ≠ 0) : h ≠ 62 ∧ h ≠ 35 ∧ h ≠ 63 ∧ h ≠ 37 := by
  unfold kf at hk
  refine ⟨?_, ?_, ?_, ?_⟩ <;> (intro e; subst e; exact hk rfl)
/-- an order carried out on the row C; none if it can't be -/
def dosC (C : Nat → Nat) (o : Nat × Nat × Nat) : Option (Nat → Nat) :=
  if kf o.1 ≠ 0 then (if ncode C (nI (kf o.1 - 1)) (nI o.2.1) (nI o.2.2) = 0 then some (addsC C (kf o.1 - 1) o.2.1 o.2.2) else none)
  else if o.1 = 62 then (if outcode C (nI o.2.1) = 0 then some (turnOutC C o.2.1) else none)
  else if o.1 = 35 then (if boxcode C (nI o.2.1 - nI 6) = 0 then some (turnBoxC C (o.2.1 - 6)) else none)
  else if o.1 = 63 then (if C 41 < 12 then some (askC C o.2.1 (anC C 0 (C 39) o.2.1)) else none)
  else some (suspectC C)
def runC (C : Nat → Nat) : List (Nat × Nat × Nat) → (Nat → Nat)
  | [] => C
  | o :: l => match dosC C o with
    | none => C
    | some D => runC D l
def runN (C : Nat → Nat) : List (Nat × Nat × Nat) → Nat
  | [] => 0
  | o :: l => match dosC C o with
    | none => 0
    | some D => 1 + runN D l
/-- what holds of the row of a circuit -/
def Inv (C : Nat → Nat) : Prop := C 0 ≤ 12 ∧ (∀ k, k < 12 → C (1 + k) < 8) ∧ (∀ k, k < 12 → C (13 + k) < 6 + k ∧ C (25 + k) < 6 + k) ∧ C 37 < 2 ^ (6 + C 0) ∧ C 38 < 2 ^ C 0 ∧ popc 18 (C 37) ≤ 4 ∧ popc 18 (C 38) ≤ 3 ∧
  (∀ k, k < 12 → (C 38).testBit k = true → C (1 + k) < 6) ∧ C 39 ≤ 2 * (6 + C 0) ∧ C 40 ≤ 1 ∧ C 41 ≤ 12 ∧ (∀ k, k < 12 → C (42 + k) < 64) ∧ (∀ k, k < 12 → C (54 + k) < 16) ∧ C 66 < 2 ^ 64
theorem Inv.ho {C : Nat → Nat} (h : Inv C) : C 37 < 2 ^ 18 := Nat.lt_of_lt_of_le h.2.2.2.1 (Nat.pow_le_pow_right (by decide) (by have := h.1; omega))
theorem Inv.hbx {C : Nat → Nat} (h : Inv C) : C 38 < 2 ^ 18 := Nat.lt_of_lt_of_le h.2.2.2.2.1 (Nat.pow_le_pow_right (by decide) (by have := h.1; omega))
theorem Inv.h39 {C : Nat → Nat} (h : Inv C) : C 39 ≤ 64 := by have := h.1; have := h.2.2.2.2.2.2.2.2.1; omega
theorem Inv.hno {C : Nat → Nat} (h : Inv C) : no C ≤ 4 := Nat.le_trans (popc_mono (by have := h.1; omega)) h.2.2.2.2.2.1
theorem forget_at {C : Nat → Nat} {k : Nat} (h : k < 41 ∨ 66 ≤ k) : forgetC C k = C k := by unfold forgetC; rw [if_neg (by omega)]
theorem forget_0 {C : Nat → Nat} {k : Nat} (h : 41 ≤ k ∧ k < 66) : forgetC C k = 0 := if_pos h
theorem Inv_forget {C : Nat → Nat} (h : Inv C) : Inv (forgetC C) := by
  obtain ⟨a0, a1, a2, a3, a4, a5, a6, a7, a8, a9, a10, a11, a12, a13⟩ := h
  unfold Inv
  rw [forget_at (k := 0) (by omega), forget_at (k := 37) (by omega), forget_at (k := 38) (by omega), forget_at (k := 39) (by omega), forget_at (k := 40) (by omega), forget_0 (k := 41) (by omega), forget_at (k := 66) (by omega)]
  refine ⟨a0, fun k hk => ?_, fun k hk => ?_, a3, a4, a5, a6, fun k hk hb => ?_, a8, a9, by omega, fun k hk => ?_, fun k hk => ?_, a13⟩
  · rw [forget_at (by omega)]; exact a1 k hk
  · rw [forget_at (by omega), forget_at (by omega)]; exact a2 k hk
  · rw [forget_at (by omega)]; exact a7 k hk hb
  · rw [forget_0 (by omega)]; decide
  · rw [forget_0 (by omega)]; decide
/-- what 'changed' needs: all but the secret and the asks -/
def InvC (C : Nat → Nat) : Prop := C 0 ≤ 12 ∧ (∀ k, k < 12 → C (1 + k) < 8) ∧ (∀ k, k < 12 → C (13 + k) < 6 + k ∧ C (25 + k) < 6 + k) ∧ C 37 < 2 ^ (6 + C 0) ∧ C 38 < 2 ^ C 0 ∧ popc 18 (C 37) ≤ 4 ∧ popc 18 (C 38) ≤ 3 ∧
  (∀ k, k < 12 → (C 38).testBit k = true → C (1 + k) < 6) ∧ C 40 ≤ 1
theorem changed_at {C : Nat → Nat} {k : Nat} (h : k < 39 ∨ k = 40 ∨ 67 ≤ k) : changedC C k = C k := by
  unfold changedC; simp only [updN]
  rw [if_neg (by omega), if_neg (by omega)]; exact forget_at (by omega)
theorem changed_0 {C : Nat → Nat} {k : Nat} (h : 41 ≤ k ∧ k ≤ 66) : changedC C k = 0 := by
  unfold changedC; simp only [updN]
  rw [if_neg (by omega)]
  split
  · rfl
  · exact forget_0 (by omega)
theorem changed_39 {C : Nat → Nat} : changedC C 39 = if C 39 ≤ 2 * (6 + C 0) then C 39 else 0 := by
  unfold changedC; simp only [updN]; rfl
theorem Inv_changed {C : Nat → Nat} (h : InvC C) : Inv (changedC C) := by
  obtain ⟨a0, a1, a2, a3, a4, a5, a6, a7, a8⟩ := h
  unfold Inv
  rw [changed_at (k := 0) (by omega), changed_at (k := 37) (by omega), changed_at (k := 38) (by omega), changed_39, changed_at (k := 40) (by omega), changed_0 (k := 41) (by omega), changed_0 (k := 66) (by omega)]
  refine ⟨a0, fun k hk => ?_, fun k hk => ?_, a3, a4, a5, a6, fun k hk hb => ?_, by split <;> omega, a8, by omega, fun k hk => ?_, fun k hk => ?_, by decide⟩
  · rw [changed_at (by omega)]; exact a1 k hk
  · rw [changed_at (by omega), changed_at (by omega)]; exact a2 k hk
  · rw [changed_at (by omega)]; exact a7 k hk hb
  · rw [changed_0 (by omega)]; decide
  · rw [changed_0 (by omega)]; decide
theorem Inv.c {C : Nat → Nat} (h : Inv C) : InvC C := by
  obtain ⟨a0, a1, a2, a3, a4, a5, a6, a7, a8, a9, a10, a11, a12, a13⟩ := h
  exact ⟨a0, a1, a2, a3, a4, a5, a6, a7, a9⟩
theorem tb_out {n s k : Nat} (h : s < 2 ^ n) (hk : n ≤ k) : s.testBit k = false := Nat.testBit_lt_two_pow (Nat.lt_of_lt_of_le h (Nat.pow_le_pow_right (by decide) hk))
theorem Inv_adds {C : Nat → Nat} {k f s : Nat} (h : Inv C) (hg : C 0 < 12) (hk : k < 8) (hf : f < 6 + C 0) (hs : s < 6 + C 0) : Inv (addsC C k f s) := by
  apply Inv_changed
  obtain ⟨a0, a1, a2, a3, a4, a5, a6, a7, a8⟩ := h.c
  have e0 : (updN (updN (updN (updN C (1 + C 0) k) (13 + C 0) f) (25 + C 0) s) 0 (C 0 + 1)) 0 = C 0 + 1 := rfl
  have e37 : (updN (updN (updN (updN C (1 + C 0) k) (13 + C 0) f) (25 + C 0) s) 0 (C 0 + 1)) 37 = C 37 := by simp only [updN]; (repeat' split) <;> omega
  have e38 : (updN (updN (updN (updN C (1 + C 0) k) (13 + C 0) f) (25 + C 0) s) 0 (C 0 + 1)) 38 = C 38 := by simp only [updN]; (repeat' split) <;> omega
  have e40 : (updN (updN (updN (updN C (1 + C 0) k) (13 + C 0) f) (25 + C 0) s) 0 (C 0 + 1)) 40 = C 40 := by simp only [updN]; (repeat' split) <;> omega
  unfold InvC
  rw [e0, e37, e38, e40]
  refine ⟨by omega, fun j hj => ?_, fun j hj => ?_, ?_, ?_, a5, a6, fun j hj hb => ?_, a8⟩
  · have := a1 j hj; simp only [updN]; (repeat' split) <;> omega
  · have := a2 j hj; constructor <;> (simp only [updN]; (repeat' split) <;> omega)
  · exact Nat.lt_of_lt_of_le a3 (Nat.pow_le_pow_right (by decide) (by omega))
  · exact Nat.lt_of_lt_of_le a4 (Nat.pow_le_pow_right (by decide) (by omega))
  · have h1 := a7 j hj hb
    by_cases e : j = C 0
    · subst e; rw [tb_out a4 (Nat.le_refl _)] at hb; cases hb
    · simp only [updN]; (repeat' split) <;> omega
theorem popc_zero {n s : Nat} (h : ∀ k, k < n → s.testBit k = false) : popc n s = 0 := by
  induction n with
  | zero => rfl
  | succ n ih => rw [popc_n (h n (by omega))]; exact ih (fun k hk => h k (by omega))
theorem popc_congr {n s t : Nat} (h : ∀ k, k < n → s.testBit k = t.testBit k) : popc n s = popc n t := by
  induction n with
  | zero => rfl
  | succ n ih =>
    have e := ih (fun k hk => h k (by omega))
    cases hb : t.testBit n with
    | true => rw [popc_s hb, popc_s (by rw [h n (by omega)]; exact hb), e]
    | false => rw [popc_n hb, popc_n (by rw [h n (by omega)]; exact hb), e]
/-- one place less -/
theorem popc_clr {n s l : Nat} (hl : l < n) (hb : s.testBit l = true) : popc n (s ^^^ 1 <<< l) + 1 = popc n s := by
  induction n with
  | zero => omega
  | succ n ih =>
    have hx : ∀ k, (s ^^^ 1 <<< l).testBit k = (s.testBit k ^^ decide (l = k)) := fun k => by rw [Nat.testBit_xor, tb_sh]
    by_cases e : l = n
    · subst e
      rw [popc_s hb, popc_n (by rw [hx, hb]; simp)]
      congr 1
      exact popc_congr (fun k hk => by rw [hx]; have : ¬ l = k := by omega
                                       simp [this])
    · have h2 := ih (by omega)
      have h3 : (s ^^^ 1 <<< l).testBit n = s.testBit n := by rw [hx]; simp [e]
      cases hn : s.testBit n with
      | true => rw [popc_s hn, popc_s (by rw [h3]; exact hn)]; omega
      | false => rw [popc_n hn, popc_n (by rw [h3]; exact hn)]; exact h2
theorem popc_set {n s l : Nat} (hl : l < n) (hb : s.testBit l = false) : popc n (s ^^^ 1 <<< l) = popc n s + 1 := by
  have h1 : (s ^^^ 1 <<< l).testBit l = true := by rw [Nat.testBit_xor, tb_sh, hb]; simp
  have h2 := popc_clr hl h1
  rw [Nat.xor_assoc, Nat.xor_self, Nat.xor_zero] at h2
  omega
theorem Inv_turnOut {C : Nat → Nat} {l : Nat} (h : Inv C) (hl : l < 6 + C 0) (hc : outcode C (nI l) = 0) : Inv (turnOutC C l) := by
  apply Inv_changed
  obtain ⟨a0, a1, a2, a3, a4, a5, a6, a7, a8⟩ := h.c
  refine ⟨a0, fun k hk => by have := a1 k hk; simp only [updN]; (repeat' split) <;> omega, fun k hk => by have := a2 k hk; constructor <;> (simp only [updN]; (repeat' split) <;> omega), ?_, a4, ?_, a6, fun k hk hb => by have := a7 k hk hb; simp only [updN]; (repeat' split) <;> omega, a8⟩
  · exact Nat.xor_lt_two_pow a3 (sh_lt hl)
  · show popc 18 (C 37 ^^^ 1 <<< l) ≤ 4
    cases hb : (C 37).testBit l with
    | true => have := popc_clr (n := 18) (by omega) hb; omega
    | false =>
      rw [popc_set (by omega) hb]
      unfold outcode at hc
      rw [inR_ok hl (by omega), toI_nI (by omega), hb] at hc
      simp at hc
      omega
theorem Inv_turnBox {C : Nat → Nat} {g : Nat} (h : Inv C) (hg : g < C 0) (hc : boxcode C (nI g) = 0) : Inv (turnBoxC C g) := by
  apply Inv_changed
  obtain ⟨a0, a1, a2, a3, a4, a5, a6, a7, a8⟩ := h.c
  have hcc : (C 38).testBit g = false → popc 18 (C 38) ≠ 3 ∧ C (1 + g) ≤ 5 := by
    intro hb
    unfold boxcode at hc
    rw [inR_ok hg (by omega), toI_nI (by omega), hb] at hc
    simp at hc
    omega
  refine ⟨a0, fun k hk => by have := a1 k hk; simp only [updN]; (repeat' split) <;> omega, fun k hk => by have := a2 k hk; constructor <;> (simp only [updN]; (repeat' split) <;> omega), a3, ?_, a5, ?_, ?_, a8⟩
  · exact Nat.xor_lt_two_pow a4 (sh_lt hg)
  · show popc 18 (C 38 ^^^ 1 <<< g) ≤ 3
    cases hb : (C 38).testBit g with
    | true => have := popc_clr (n := 18) (by omega) hb; omega
    | false => rw [popc_set (by omega) hb]; have := (hcc hb).1; omega
  · intro k hk hb
    have hb : (C 38 ^^^ 1 <<< g).testBit k = true := hb
    rw [Nat.testBit_xor, tb_sh] at hb
    have hu : updN C 38 (C 38 ^^^ 1 <<< g) (1 + k) = C (1 + k) := by simp only [updN]; (repeat' split) <;> omega
    rw [hu]
    by_cases e : g = k
    · subst e
      cases hb2 : (C 38).testBit g with
      | true => exact a7 g hk hb2
      | false => have := (hcc hb2).2; show C (1 + g) < 6; omega
    · simp [e] at hb
      exact a7 k hk hb
theorem Inv_suspect {C : Nat → Nat} (h : Inv C) : Inv (suspectC C) := by
  apply Inv_forget
  obtain ⟨a0, a1, a2, a3, a4, a5, a6, a7, a8, a9, a10, a11, a12, a13⟩ := h
  refine ⟨a0, fun k hk => ?_, fun k hk => ?_, a3, a4, a5, a6, fun k hk hb => ?_, a8, ?_, a10, fun k hk => ?_, fun k hk => ?_, a13⟩
  · have := a1 k hk; simp only [updN]; (repeat' split) <;> omega
  · have := a2 k hk; constructor <;> (simp only [updN]; (repeat' split) <;> omega)
  · have := a7 k hk hb; simp only [updN]; (repeat' split) <;> omega
  · show 1 - C 40 ≤ 1; omega
  · have := a11 k hk; simp only [updN]; (repeat' split) <;> omega
  · have := a12 k hk; simp only [updN]; (repeat' split) <;> omega
theorem Inv_ask {C : Nat → Nat} {t a : Nat} (h : Inv C) (h41 : C 41 < 12) (ht : t < 64) (ha : a < 16) : Inv (askC C t a) := by
  obtain ⟨a0, a1, a2, a3, a4, a5, a6, a7, a8, a9, a10, a11, a12, a13⟩ := h
  have e : ∀ k, k < 41 ∨ 66 ≤ k → askC C t a k = C k := fun k hk => by simp only [askC, updN]; (repeat' split) <;> omega
  unfold Inv
  rw [e 0 (by omega), e 37 (by omega), e 38 (by omega), e 39 (by omega), e 40 (by omega), e 66 (by omega)]
  refine ⟨a0, fun k hk => ?_, fun k hk => ?_, a3, a4, a5, a6, fun k hk hb => ?_, a8, a9, ?_, fun k hk => ?_, fun k hk => ?_, a13⟩
  · rw [e _ (by omega)]; exact a1 k hk
  · rw [e _ (by omega), e _ (by omega)]; exact a2 k hk
  · rw [e _ (by omega)]; exact a7 k hk hb
  · show C 41 + 1 ≤ 12; omega
  · have := a11 k hk; simp only [askC, updN]; (repeat' split) <;> omega
  · have := a12 k hk; simp only [askC, updN]; (repeat' split) <;> omega
theorem ncode_0 {C : Nat → Nat} {k f s : Nat} (hk : k < 2 ^ 31) (hf : f < 2 ^ 31) (hs : s < 2 ^ 31) (h0 : C 0 ≤ 12) (h : ncode C (nI k) (nI f) (nI s) = 0) : k < 8 ∧ f < 6 + C 0 ∧ s < 6 + C 0 ∧ C 0 < 12 := by
  unfold ncode at h
  rw [inR_nI hk, inR_nI hf, inR_nI hs] at h
  by_cases a : f < 6 + C 0
  · by_cases b : s < 6 + C 0
    · by_cases c : k < 8
      · rw [decide_eq_true a, decide_eq_true b, decide_eq_true c] at h
        have h' : (if C 0 = 12 then 3 else 0) = 0 := h
        split at h'
        · omega
        · exact ⟨c, a, b, by omega⟩
      · rw [decide_eq_true a, decide_eq_true b, decide_eq_false c] at h
        have h' : (2 : Nat) = 0 := h
        omega
    · rw [decide_eq_true a, decide_eq_false b] at h
      have h' : (1 : Nat) = 0 := h
      omega
  · rw [decide_eq_false a] at h
    have h' : (1 : Nat) = 0 := h
    omega
theorem outcode_0 {C : Nat → Nat} {l : Nat} (hl : l < 2 ^ 31) (h : outcode C (nI l) = 0) : l < 6 + C 0 := by
  unfold outcode at h
  rw [inR_nI hl] at h
  by_cases a : l < 6 + C 0
  · exact a
  · simp [a] at h
theorem boxcode_0 {C : Nat → Nat} {l : Nat} (hl : l < 1000) (h0 : C 0 ≤ 12) (h : boxcode C (nI l - nI 6) = 0) : 6 ≤ l ∧ l - 6 < C 0 := by
  have h1 : inR (C 0) (nI l - nI 6) = true := by
    cases hb : inR (C 0) (nI l - nI 6) with
    | true => rfl
    | false => unfold boxcode at h; rw [hb] at h; simp at h
  unfold inR at h1
  have h2 := of_decide_eq_true h1
  rw [pk_sub_toInt (by omega) (by decide)] at h2
  omega
theorem Inv_dos {C D : Nat → Nat} {o : Nat × Nat × Nat} (h : Inv C) (ho : orn o) (hd : dosC C o = some D) : Inv D := by
  have h0 := h.1
  have hkl := kf_le o.1
  unfold dosC at hd
  by_cases hk : kf o.1 ≠ 0
  · rw [if_pos hk] at hd
    split at hd
    · next hn =>
      cases hd
      have hb : o.2.1 < 18 ∧ o.2.2 < 18 := by
        rcases ho with ho | ho | ho | ho
        · exact ho.2
        · exact absurd ho.1 hk
        · have := kf_sg hk; omega
        · have := kf_sg hk; omega
      obtain ⟨b1, b2, b3, b4⟩ := ncode_0 (by omega) (by omega) (by omega) h0 hn
      exact Inv_adds h b4 b1 b2 b3
    · cases hd
  · rw [if_neg hk] at hd
    have hk0 : kf o.1 = 0 := by simpa using hk
    by_cases h62 : o.1 = 62
    · rw [if_pos h62] at hd
      have hb : o.2.1 < 18 := by
        rcases ho with ho | ho | ho | ho
        · exact absurd hk0 ho.1
        · exact ho.2.2
        · omega
        · omega
      split at hd
      · next hn => cases hd; exact Inv_turnOut h (outcode_0 (by omega) hn) hn
      · cases hd
    · rw [if_neg h62] at hd
      by_cases h35 : o.1 = 35
      · rw [if_pos h35] at hd
        have hb : o.2.1 < 18 := by
          rcases ho with ho | ho | ho | ho
          · exact absurd hk0 ho.1
          · exact ho.2.2
          · omega
          · omega
        split at hd
        · next hn =>
          cases hd
          obtain ⟨b1, b2⟩ := boxcode_0 (by omega) h0 hn
          refine Inv_turnBox h b2 ?_
          rw [← pk_sub b1]; exact hn
        · cases hd
      · rw [if_neg h35] at hd
        by_cases h63 : o.1 = 63
        · rw [if_pos h63] at hd
          have hb : o.2.1 < 64 := by
            rcases ho with ho | ho | ho | ho
            · exact absurd hk0 ho.1
            · omega
            · exact ho.2
            · omega
          split at hd
          · next hn => cases hd; exact Inv_ask h hn hb (anC_lt h.hno)
          · cases hd
        · rw [if_neg h63] at hd
          cases hd
          exact Inv_suspect h
