/-! counting bits in parallel -/
set_option maxRecDepth 100000
def dgs (w : Nat) (f : Nat → Nat) : Nat → Nat → Nat
  | 0, _ => 0
  | m + 1, n => f (n % 2 ^ w) + 2 ^ w * dgs w f m (n / 2 ^ w)
theorem dgs_lt {w : Nat} {f : Nat → Nat} (hf : ∀ d, d < 2 ^ w → f d < 2 ^ w) : ∀ m n, dgs w f m n < 2 ^ (w * m) := by
  intro m; induction m with
  | zero => intro n; simp [dgs]
  | succ m ih =>
    intro n
    have h1 := ih (n / 2 ^ w)
    have h2 := hf _ (Nat.mod_lt n (Nat.two_pow_pos w))
    show f (n % 2 ^ w) + 2 ^ w * dgs w f m (n / 2 ^ w) < 2 ^ (w * (m + 1))
    rw [Nat.mul_succ, Nat.pow_add, Nat.mul_comm (2 ^ (w * m))]
    have h3 : 2 ^ w * (dgs w f m (n / 2 ^ w) + 1) ≤ 2 ^ w * 2 ^ (w * m) := Nat.mul_le_mul_left _ h1
    rw [Nat.mul_succ] at h3
    omega
theorem dgs_mod {w : Nat} {f : Nat → Nat} (hf : ∀ d, d < 2 ^ w → f d < 2 ^ w) (m n : Nat) : dgs w f (m + 1) n % 2 ^ w = f (n % 2 ^ w) ∧ dgs w f (m + 1) n / 2 ^ w = dgs w f m (n / 2 ^ w) := by
  have h2 := hf _ (Nat.mod_lt n (Nat.two_pow_pos w))
  have hp := Nat.two_pow_pos w
  constructor
  · show (f (n % 2 ^ w) + 2 ^ w * dgs w f m (n / 2 ^ w)) % 2 ^ w = _
    rw [Nat.add_mul_mod_self_left, Nat.mod_eq_of_lt h2]
  · show (f (n % 2 ^ w) + 2 ^ w * dgs w f m (n / 2 ^ w)) / 2 ^ w = _
    rw [Nat.add_mul_div_left _ _ hp, Nat.div_eq_of_lt h2, Nat.zero_add]
theorem dgs_id {w : Nat} : ∀ m n, n < 2 ^ (w * m) → dgs w (fun d => d) m n = n := by
  intro m; induction m with
  | zero => intro n h; simp at h; simp [dgs, h]
  | succ m ih =>
    intro n h
    show n % 2 ^ w + 2 ^ w * dgs w (fun d => d) m (n / 2 ^ w) = n
    rw [ih _ (by rw [Nat.div_lt_iff_lt_mul (Nat.two_pow_pos w), ← Nat.pow_add]; rw [Nat.mul_succ] at h; exact h)]
    exact Nat.mod_add_div n (2 ^ w)
theorem dgs_add {w : Nat} {f g : Nat → Nat} : ∀ m n, dgs w f m n + dgs w g m n = dgs w (fun d => f d + g d) m n := by
  intro m; induction m with
  | zero => intro n; rfl
  | succ m ih =>
    intro n
    show f _ + _ * dgs w f m _ + (g _ + _ * dgs w g m _) = f _ + g _ + _ * dgs w _ m _
    rw [← ih, Nat.mul_add]; omega
theorem dgs_cong {w : Nat} {f g : Nat → Nat} (h : ∀ d, d < 2 ^ w → f d = g d) : ∀ m n, dgs w f m n = dgs w g m n := by
  intro m; induction m with
  | zero => intro n; rfl
  | succ m ih =>
    intro n
    show f _ + _ * dgs w f m _ = g _ + _ * dgs w g m _
    rw [h _ (Nat.mod_lt n (Nat.two_pow_pos w)), ih]
theorem dgs_comp {w : Nat} {f g : Nat → Nat} (hf : ∀ d, d < 2 ^ w → f d < 2 ^ w) : ∀ m n, dgs w g m (dgs w f m n) = dgs w (fun d => g (f d)) m n := by
  intro m; induction m with
  | zero => intro n; rfl
  | succ m ih =>
    intro n
    obtain ⟨h1, h2⟩ := dgs_mod hf m n
    show g (dgs w f (m + 1) n % 2 ^ w) + 2 ^ w * dgs w g m (dgs w f (m + 1) n / 2 ^ w) = _
    rw [h1, h2, ih]; rfl
theorem dgs_two {w : Nat} {f : Nat → Nat} : ∀ m n, dgs w f (2 * m) n = dgs (2 * w) (fun d => f (d % 2 ^ w) + 2 ^ w * f (d / 2 ^ w)) m n := by
  have hw : 2 ^ (2 * w) = 2 ^ w * 2 ^ w := by rw [← Nat.pow_add]; congr 1; omega
  intro m; induction m with
  | zero => intro n; rfl
  | succ m ih =>
    intro n
    show f (n % 2 ^ w) + 2 ^ w * (f (n / 2 ^ w % 2 ^ w) + 2 ^ w * dgs w f (2 * m) (n / 2 ^ w / 2 ^ w)) = f (n % 2 ^ (2 * w) % 2 ^ w) + 2 ^ w * f (n % 2 ^ (2 * w) / 2 ^ w) + 2 ^ (2 * w) * dgs (2 * w) _ m (n / 2 ^ (2 * w))
    rw [ih, hw, Nat.div_div_eq_div_mul, Nat.mod_mul_right_mod, Nat.mod_mul_right_div_self, Nat.mul_add, Nat.mul_assoc]
    omega
/-- a mask of m digits, each of t ones -/
def rep (w t m : Nat) : Nat := dgs w (fun _ => 2 ^ t - 1) m 0
theorem rep_s {w t m : Nat} : rep w t (m + 1) = (2 ^ t - 1) + 2 ^ w * rep w t m := by
  unfold rep; show _ + 2 ^ w * dgs w _ m (0 / 2 ^ w) = _; rw [Nat.zero_div]
theorem rep_mod {w t m : Nat} (ht : t ≤ w) : rep w t (m + 1) % 2 ^ w = 2 ^ t - 1 ∧ rep w t (m + 1) / 2 ^ w = rep w t m := by
  have h1 : 2 ^ t ≤ 2 ^ w := Nat.pow_le_pow_right (by decide) ht
  have h2 := Nat.two_pow_pos t
  rw [rep_s]
  constructor
  · rw [Nat.add_mul_mod_self_left, Nat.mod_eq_of_lt (by omega)]
  · rw [Nat.add_mul_div_left _ _ (Nat.two_pow_pos w), Nat.div_eq_of_lt (by omega), Nat.zero_add]
theorem and_split (w a b : Nat) : a &&& b = (a % 2 ^ w &&& b % 2 ^ w) + 2 ^ w * (a / 2 ^ w &&& b / 2 ^ w) := by
  rw [← Nat.and_mod_two_pow, ← Nat.and_div_two_pow]
  exact (Nat.mod_add_div _ _).symm
/-- a shift under a mask works digit by digit -/
theorem dgs_mask {w s t : Nat} (h : s + t ≤ w) : ∀ m n, (n >>> s) &&& rep w t m = dgs w (fun d => (d >>> s) % 2 ^ t) m n := by
  have hw : 2 ^ w = 2 ^ s * 2 ^ (w - s) := by rw [← Nat.pow_add]; congr 1; omega
  have hws : 2 ^ (w - s) = 2 ^ t * 2 ^ (w - s - t) := by rw [← Nat.pow_add]; congr 1; omega
  intro m; induction m with
  | zero => intro n; simp [rep, dgs]
  | succ m ih =>
    intro n
    obtain ⟨r1, r2⟩ := rep_mod (w := w) (t := t) (m := m) (by omega)
    rw [and_split w, r1, r2]
    have e1 : n >>> s / 2 ^ w = (n / 2 ^ w) >>> s := by
      rw [Nat.shiftRight_eq_div_pow, Nat.shiftRight_eq_div_pow, Nat.div_div_eq_div_mul, Nat.div_div_eq_div_mul, Nat.mul_comm]
    rw [e1, ih, Nat.and_two_pow_sub_one_eq_mod]
    show _ = (n % 2 ^ w) >>> s % 2 ^ t + 2 ^ w * dgs w _ m (n / 2 ^ w)
    congr 1
    rw [Nat.shiftRight_eq_div_pow, Nat.shiftRight_eq_div_pow]
    have e2 : n / 2 ^ s % 2 ^ w % 2 ^ t = n / 2 ^ s % 2 ^ t := Nat.mod_mod_of_dvd _ (Nat.pow_dvd_pow 2 (by omega))
    rw [e2, hw, Nat.mod_mul_right_div_self, hws, Nat.mod_mul_right_mod]
theorem dgs_sub {w : Nat} {f g : Nat → Nat} (h : ∀ d, d < 2 ^ w → g d ≤ f d) (m n : Nat) : dgs w f m n - dgs w g m n = dgs w (fun d => f d - g d) m n := by
  have h1 : dgs w (fun d => f d - g d) m n + dgs w g m n = dgs w f m n := by
    rw [dgs_add]; exact dgs_cong (fun d hd => Nat.sub_add_cancel (h d hd)) m n
  omega
/-- two bits, four, eight: the counts -/
def p2 (d : Nat) : Nat := d - (d >>> 1) % 2 ^ 1
def p4 (d : Nat) : Nat := (p2 (d % 2 ^ 2) + 2 ^ 2 * p2 (d / 2 ^ 2)) % 2 ^ 2 + ((p2 (d % 2 ^ 2) + 2 ^ 2 * p2 (d / 2 ^ 2)) >>> 2) % 2 ^ 2
def f8 (d : Nat) : Nat := p4 (d % 2 ^ 4) + 2 ^ 4 * p4 (d / 2 ^ 4)
theorem sw_1 {m n : Nat} (h : n < 2 ^ (2 * m)) : n - ((n >>> 1) &&& rep 2 1 m) = dgs 2 p2 m n := by
  rw [dgs_mask (by decide)]
  have e : n - dgs 2 (fun d => (d >>> 1) % 2 ^ 1) m n = dgs 2 (fun d => d) m n - dgs 2 (fun d => (d >>> 1) % 2 ^ 1) m n := by rw [dgs_id m n h]
  rw [e, dgs_sub (by decide)]; rfl
theorem p2_lt : ∀ d, d < 2 ^ 2 → p2 d < 2 ^ 2 := by decide
theorem f4_lt : ∀ d, d < 2 ^ (2 * 2) → p2 (d % 2 ^ 2) + 2 ^ 2 * p2 (d / 2 ^ 2) < 2 ^ (2 * 2) := by decide
theorem p4_le : ∀ d, d < 2 ^ 4 → p4 d ≤ 4 := by decide
theorem sw_2 {m n : Nat} : (dgs 2 p2 (2 * m) n &&& rep 4 2 m) + ((dgs 2 p2 (2 * m) n >>> 2) &&& rep 4 2 m) = dgs 4 p4 m n := by
  rw [dgs_two]
  have e : ∀ x, x &&& rep 4 2 m = dgs 4 (fun d => (d >>> 0) % 2 ^ 2) m x := fun x => dgs_mask (s := 0) (by decide) m x
  rw [e, dgs_mask (w := 4) (s := 2) (t := 2) (by decide), show 2 * 2 = 4 from rfl, dgs_comp (w := 4) f4_lt, dgs_comp (w := 4) f4_lt, dgs_add]
  rfl
theorem f8_ok : ∀ d, d < 2 ^ 8 → f8 d < 2 ^ 8 ∧ f8 d % 16 ≤ 4 ∧ f8 d / 16 ≤ 4 := by decide +kernel
def g8 (d : Nat) : Nat := f8 d % 16 + f8 d / 16
theorem g8_p : ∀ d, d < 2 ^ 8 → g8 d = popc 8 d := by decide +kernel
theorem dgs8_lo {m n : Nat} : dgs 8 f8 m n % 16 ≤ 4 := by
  cases m with
  | zero => simp [dgs]
  | succ m =>
    have h := f8_ok (n % 2 ^ 8) (Nat.mod_lt _ (by decide))
    show (f8 (n % 2 ^ 8) + 2 ^ 8 * dgs 8 f8 m (n / 2 ^ 8)) % 16 ≤ 4
    omega
theorem sw_3 : ∀ m n, (dgs 8 f8 m n + (dgs 8 f8 m n >>> 4)) &&& rep 8 4 m = dgs 8 g8 m n := by
  intro m; induction m with
  | zero => intro n; simp [rep, dgs]
  | succ m ih =>
    intro n
    obtain ⟨r1, r2⟩ := rep_mod (w := 8) (t := 4) (m := m) (by decide)
    have h := f8_ok (n % 2 ^ 8) (Nat.mod_lt _ (by decide))
    have hl := dgs8_lo (m := m) (n := n / 2 ^ 8)
    rw [and_split 8, r1, r2]
    show _ = g8 (n % 2 ^ 8) + 2 ^ 8 * dgs 8 g8 m (n / 2 ^ 8)
    rw [← ih]
    show ((f8 (n % 2 ^ 8) + 2 ^ 8 * dgs 8 f8 m (n / 2 ^ 8) + (f8 (n % 2 ^ 8) + 2 ^ 8 * dgs 8 f8 m (n / 2 ^ 8)) >>> 4) % 2 ^ 8 &&& 2 ^ 4 - 1) + 2 ^ 8 * ((f8 (n % 2 ^ 8) + 2 ^ 8 * dgs 8 f8 m (n / 2 ^ 8) + (f8 (n % 2 ^ 8) + 2 ^ 8 * dgs 8 f8 m (n / 2 ^ 8)) >>> 4) / 2 ^ 8 &&& rep 8 4 m) = _
    generalize dgs 8 f8 m (n / 2 ^ 8) = R at *
    generalize hF : f8 (n % 2 ^ 8) = F at *
    have hg : g8 (n % 2 ^ 8) = F % 16 + F / 16 := by unfold g8; rw [hF]
    rw [hg, Nat.shiftRight_eq_div_pow, Nat.shiftRight_eq_div_pow]
    have e1 : (F + 2 ^ 8 * R + (F + 2 ^ 8 * R) / 2 ^ 4) / 2 ^ 8 = R + R / 2 ^ 4 := by omega
    rw [e1, Nat.and_two_pow_sub_one_eq_mod]
    congr 1
    omega
theorem popc_add : ∀ b a n, popc (a + b) n = popc a n + popc b (n >>> a) := by
  intro b; induction b with
  | zero => intro a n; rfl
  | succ b ih =>
    intro a n
    have h : (n >>> a).testBit b = n.testBit (a + b) := by rw [Nat.testBit_shiftRight]
    have e := ih a n
    cases hb : n.testBit (a + b) with
    | true => rw [show a + (b + 1) = (a + b) + 1 from rfl, popc_s hb, popc_s (by rw [h]; exact hb), e]; omega
    | false => rw [show a + (b + 1) = (a + b) + 1 from rfl, popc_n hb, popc_n (by rw [h]; exact hb), e]
theorem popc_lo (k : Nat) (n : Nat) : popc k (n % 2 ^ k) = popc k n := popc_congr (fun i hi => by rw [Nat.testBit_mod_two_pow]; simp [hi])
/-- the sum of the bytes' counts -/
def sm8 : Nat → Nat → Nat
  | 0, _ => 0
  | m + 1, n => g8 (n % 2 ^ 8) + sm8 m (n / 2 ^ 8)
theorem sm8_p : ∀ m n, sm8 m n = popc (8 * m) n := by
  intro m; induction m with
  | zero => intro n; rfl
  | succ m ih =>
    intro n
    show g8 _ + sm8 m _ = _
    rw [ih, show 8 * (m + 1) = 8 + 8 * m by omega, popc_add, Nat.shiftRight_eq_div_pow, g8_p _ (Nat.mod_lt _ (by decide)), popc_lo]
theorem g8_le : ∀ d, d < 2 ^ 8 → g8 d ≤ 8 := by decide +kernel
theorem g8m (n : Nat) : g8 (n % 2 ^ 8) ≤ 8 := g8_le _ (Nat.mod_lt _ (by decide))
/-- 32 bits -/
def bc32 (n : Nat) : Nat :=
  let a := n - ((n >>> 1) &&& 1431655765)
  let b := (a &&& 858993459) + ((a >>> 2) &&& 858993459)
  let c := (b + (b >>> 4)) &&& 252645135
  let d := c + (c >>> 8)
  let e := d + (d >>> 16)
  e &&& 63
theorem bc32_ok {n : Nat} (h : n < 2 ^ 32) : bc32 n = popc 32 n := by
  have e1 : n - ((n >>> 1) &&& 1431655765) = dgs 2 p2 (2 * 8) n := sw_1 (m := 16) h
  have e2 : (dgs 2 p2 (2 * 8) n &&& 858993459) + ((dgs 2 p2 (2 * 8) n >>> 2) &&& 858993459) = dgs 4 p4 (2 * 4) n := sw_2 (m := 8)
  have e3 : dgs 4 p4 (2 * 4) n = dgs 8 f8 4 n := dgs_two 4 n
  have e4 : (dgs 8 f8 4 n + (dgs 8 f8 4 n >>> 4)) &&& 252645135 = dgs 8 g8 4 n := sw_3 4 n
  have e5 : sm8 4 n = popc 32 n := sm8_p 4 n
  unfold bc32
  simp only [e1, e2, e3, e4]
  rw [← e5, show (63 : Nat) = 2 ^ 6 - 1 from rfl, Nat.and_two_pow_sub_one_eq_mod]
  simp only [dgs, sm8, Nat.shiftRight_eq_div_pow]
  have h0 := g8m n; have h1 := g8m (n / 2 ^ 8); have h2 := g8m (n / 2 ^ 8 / 2 ^ 8); have h3 := g8m (n / 2 ^ 8 / 2 ^ 8 / 2 ^ 8)
  generalize g8 (n % 2 ^ 8) = C0 at *
  generalize g8 (n / 2 ^ 8 % 2 ^ 8) = C1 at *
  generalize g8 (n / 2 ^ 8 / 2 ^ 8 % 2 ^ 8) = C2 at *
  generalize g8 (n / 2 ^ 8 / 2 ^ 8 / 2 ^ 8 % 2 ^ 8) = C3 at *
  clear e1 e2 e3 e4 e5 h
  have d1 : (C0 + 2 ^ 8 * (C1 + 2 ^ 8 * (C2 + 2 ^ 8 * (C3 + 2 ^ 8 * 0)))) / 2 ^ 8 = C1 + 256 * C2 + 65536 * C3 := by omega
  rw [d1]
  have d2 : (C0 + 2 ^ 8 * (C1 + 2 ^ 8 * (C2 + 2 ^ 8 * (C3 + 2 ^ 8 * 0))) + (C1 + 256 * C2 + 65536 * C3)) / 2 ^ 16 = C2 + C3 + 256 * C3 := by omega
  rw [d2]
  omega
/-- numbers by their bytes -/
def vl (D : Nat → Nat) : Nat → Nat
  | 0 => 0
  | m + 1 => D 0 + 256 * vl (fun j => D (j + 1)) m
def smD (D : Nat → Nat) : Nat → Nat
  | 0 => 0
  | m + 1 => D 0 + smD (fun j => D (j + 1)) m
theorem vl_cong : ∀ {m : Nat} {D E : Nat → Nat}, (∀ j, j < m → D j = E j) → vl D m = vl E m := by
  intro m; induction m with
  | zero => intros; rfl
  | succ m ih =>
    intro D E h
    show D 0 + 256 * vl _ m = E 0 + 256 * vl _ m
    rw [h 0 (by omega), ih (fun j hj => h (j + 1) (by omega))]
theorem smD_cong : ∀ {m : Nat} {D E : Nat → Nat}, (∀ j, j < m → D j = E j) → smD D m = smD E m := by
  intro m; induction m with
  | zero => intros; rfl
  | succ m ih =>
    intro D E h
    show D 0 + smD _ m = E 0 + smD _ m
    rw [h 0 (by omega), ih (fun j hj => h (j + 1) (by omega))]
theorem vl_add : ∀ (m : Nat) (D E : Nat → Nat), vl D m + vl E m = vl (fun j => D j + E j) m := by
  intro m; induction m with
  | zero => intros; rfl
  | succ m ih =>
    intro D E
    show D 0 + 256 * vl _ m + (E 0 + 256 * vl _ m) = D 0 + E 0 + 256 * vl _ m
    rw [← ih]; omega
theorem vl_ext : ∀ (m : Nat) (D : Nat → Nat), D m = 0 → vl D (m + 1) = vl D m := by
  intro m; induction m with
  | zero => intro D h; show D 0 + 256 * 0 = 0; omega
  | succ m ih =>
    intro D h
    show D 0 + 256 * vl (fun j => D (j + 1)) (m + 1) = D 0 + 256 * vl (fun j => D (j + 1)) m
    rw [ih _ h]
theorem vl_1 {m : Nat} {D : Nat → Nat} (h : ∀ j, D j < 256) (hz : ∀ j, m ≤ j → D j = 0) : vl D m / 256 = vl (fun j => D (j + 1)) m := by
  cases m with
  | zero => show 0 / 256 = 0; rfl
  | succ m =>
    rw [vl_ext m (fun j => D (j + 1)) (hz (m + 1) (by omega))]
    show (D 0 + 256 * vl (fun j => D (j + 1)) m) / 256 = _
    have := h 0
    omega
theorem vl_k {m : Nat} : ∀ (k : Nat) {D : Nat → Nat}, (∀ j, D j < 256) → (∀ j, m ≤ j → D j = 0) → vl D m / 256 ^ k = vl (fun j => D (j + k)) m := by
  intro k; induction k with
  | zero => intro D _ _; simp
  | succ k ih =>
    intro D h hz
    rw [Nat.pow_succ, ← Nat.div_div_eq_div_mul, ih h hz, vl_1 (fun j => h _) (fun j hj => hz _ (by omega))]
    exact vl_cong (fun j _ => by show D (j + 1 + k) = D (j + (k + 1)); congr 1; omega)
theorem dgs_vl {g : Nat → Nat} : ∀ (m n : Nat), dgs 8 g m n = vl (fun j => g (n / 256 ^ j % 2 ^ 8)) m := by
  intro m; induction m with
  | zero => intro n; rfl
  | succ m ih =>
    intro n
    show g (n % 2 ^ 8) + 2 ^ 8 * dgs 8 g m (n / 2 ^ 8) = g (n / 256 ^ 0 % 2 ^ 8) + 256 * vl (fun j => g (n / 256 ^ (j + 1) % 2 ^ 8)) m
    rw [ih, Nat.pow_zero, Nat.div_one]
    congr 2
    exact vl_cong (fun j _ => by rw [Nat.div_div_eq_div_mul, show 2 ^ 8 * 256 ^ j = 256 ^ (j + 1) from (Nat.mul_comm 256 (256 ^ j)).trans (Nat.pow_succ (n := 256) (m := j)).symm])
theorem sm8_sm : ∀ (m n : Nat), sm8 m n = smD (fun j => g8 (n / 256 ^ j % 2 ^ 8)) m := by
  intro m; induction m with
  | zero => intro n; rfl
  | succ m ih =>
    intro n
    show g8 (n % 2 ^ 8) + sm8 m (n / 2 ^ 8) = g8 (n / 256 ^ 0 % 2 ^ 8) + smD (fun j => g8 (n / 256 ^ (j + 1) % 2 ^ 8)) m
    rw [ih, Nat.pow_zero, Nat.div_one]
    congr 1
    exact smD_cong (fun j _ => by rw [Nat.div_div_eq_div_mul, show 2 ^ 8 * 256 ^ j = 256 ^ (j + 1) from (Nat.mul_comm 256 (256 ^ j)).trans (Nat.pow_succ (n := 256) (m := j)).symm])
theorem vl_mod {m : Nat} {D : Nat → Nat} : vl D (m + 1) % 128 = D 0 % 128 := by
  show (D 0 + 256 * vl _ m) % 128 = _
  omega
theorem bc_fin {D : Nat → Nat} (h : ∀ j, D j ≤ 8) (hz : ∀ j, 8 ≤ j → D j = 0) :
    (vl D 8 + vl D 8 / 2 ^ 8 + (vl D 8 + vl D 8 / 2 ^ 8) / 2 ^ 16 + (vl D 8 + vl D 8 / 2 ^ 8 + (vl D 8 + vl D 8 / 2 ^ 8) / 2 ^ 16) / 2 ^ 32) % 128 = smD D 8 := by
  have e1 : vl D 8 + vl D 8 / 2 ^ 8 = vl (fun j => D j + D (j + 1)) 8 := by
    rw [show (2 ^ 8 : Nat) = 256 ^ 1 from rfl, vl_k 1 (fun j => by have := h j; omega) hz, vl_add]
  rw [e1]
  have e2 : vl (fun j => D j + D (j + 1)) 8 + vl (fun j => D j + D (j + 1)) 8 / 2 ^ 16 = vl (fun j => D j + D (j + 1) + (D (j + 2) + D (j + 2 + 1))) 8 := by
    rw [show (2 ^ 16 : Nat) = 256 ^ 2 from rfl, vl_k 2 (fun j => by have := h j; have := h (j + 1); omega) (fun j hj => by rw [hz j hj, hz (j + 1) (by omega)]), vl_add]
  rw [e2]
  have e3 : vl (fun j => D j + D (j + 1) + (D (j + 2) + D (j + 2 + 1))) 8 + vl (fun j => D j + D (j + 1) + (D (j + 2) + D (j + 2 + 1))) 8 / 2 ^ 32 = vl (fun j => D j + D (j + 1) + (D (j + 2) + D (j + 2 + 1)) + (D (j + 4) + D (j + 4 + 1) + (D (j + 4 + 2) + D (j + 4 + 2 + 1)))) 8 := by
    rw [show (2 ^ 32 : Nat) = 256 ^ 4 from by decide, vl_k 4 (fun j => by have := h j; have := h (j + 1); have := h (j + 2); have := h (j + 2 + 1); omega) (fun j hj => by rw [hz j hj, hz (j + 1) (by omega), hz (j + 2) (by omega), hz (j + 2 + 1) (by omega)]), vl_add]
  rw [e3, vl_mod]
  have h0 := h 0; have h1 := h 1; have h2 := h 2; have h3 := h 3; have h4 := h 4; have h5 := h 5; have h6 := h 6; have h7 := h 7
  show (D 0 + D 1 + (D 2 + D 3) + (D 4 + D 5 + (D 6 + D 7))) % 128 = D 0 + (D 1 + (D 2 + (D 3 + (D 4 + (D 5 + (D 6 + (D 7 + 0)))))))
  omega
/-- 64 bits -/
def bc64 (n : Nat) : Nat :=
  let a := n - ((n >>> 1) &&& 6148914691236517205)
  let b := (a &&& 3689348814741910323) + ((a >>> 2) &&& 3689348814741910323)
  let c := (b + (b >>> 4)) &&& 1085102592571150095
  let d := c + (c >>> 8)
  let e := d + (d >>> 16)
  let f := e + (e >>> 32)
  f % 2 ^ 32 &&& 127
theorem bc64_ok {n : Nat} (h : n < 2 ^ 64) : bc64 n = popc 64 n := by
  have r1 : rep 2 1 (2 * 16) = 6148914691236517205 := by decide +kernel
  have r2 : rep 4 2 (2 * 8) = 3689348814741910323 := by decide +kernel
  have r3 : rep 8 4 8 = 1085102592571150095 := by decide +kernel
  have e1 := sw_1 (m := 2 * 16) (n := n) h
  have e2 := sw_2 (m := 2 * 8) (n := n)
  have e3 := dgs_two (w := 4) (f := p4) 8 n
  have e4 := sw_3 8 n
  rw [r1] at e1
  rw [r2] at e2
  rw [r3] at e4
  have e5 : sm8 8 n = popc 64 n := sm8_p 8 n
  have e3 : dgs 4 p4 (2 * 8) n = dgs 8 f8 8 n := e3
  unfold bc64
  simp only [e1]
  rw [show 2 * 16 = 2 * (2 * 8) from rfl]
  simp only [e2, e3, e4]
  have hD : dgs 8 g8 8 n = vl (fun j => if j < 8 then g8 (n / 256 ^ j % 2 ^ 8) else 0) 8 := by
    rw [dgs_vl]; exact vl_cong (fun j hj => by rw [if_pos hj])
  have hS : sm8 8 n = smD (fun j => if j < 8 then g8 (n / 256 ^ j % 2 ^ 8) else 0) 8 := by
    rw [sm8_sm]; exact smD_cong (fun j hj => by rw [if_pos hj])
  rw [← e5, hS, hD, show (127 : Nat) = 2 ^ 7 - 1 from rfl, Nat.and_two_pow_sub_one_eq_mod]
  simp only [Nat.shiftRight_eq_div_pow]
  rw [Nat.mod_mod_of_dvd _ (show 2 ^ 7 ∣ 2 ^ 32 from Nat.pow_dvd_pow 2 (by decide))]
  exact bc_fin (fun j => by split; exact g8_le _ (Nat.mod_lt _ (by decide)); omega) (fun j hj => if_neg (by omega))
