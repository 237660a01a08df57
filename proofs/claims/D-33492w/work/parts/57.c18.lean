/-! the component: looks by collecting, depths, inputs, simple tellings -/
set_option maxRecDepth 100000
theorem low_ad {n k : Nat} (h1 : n.testBit k = true) (h0 : ∀ j, j < k → n.testBit j = false) : adN (n - 1) n = 2 ^ k - 1 := by
  have e0 : n % 2 ^ k = 0 := by
    apply Nat.eq_of_testBit_eq; intro i
    rw [Nat.testBit_mod_two_pow, Nat.zero_testBit]
    by_cases h : i < k
    · rw [h0 i h]; simp
    · simp [h]
  have e1 : (n / 2 ^ k) % 2 = 1 := by
    have := h1
    rw [Nat.testBit, Nat.shiftRight_eq_div_pow] at this
    have h2 : 1 &&& (n / 2 ^ k) = (n / 2 ^ k) % 2 := by rw [Nat.and_comm]; exact Nat.and_one_is_mod _
    rw [h2] at this
    simp at this
    omega
  obtain ⟨m, hm⟩ : ∃ m, n / 2 ^ k = 2 * m + 1 := ⟨n / 2 ^ k / 2, by omega⟩
  have en : n = 2 ^ k * (2 * m + 1) + 0 := by
    have := Nat.div_add_mod n (2 ^ k)
    rw [e0, hm] at this; omega
  have hp : 0 < 2 ^ k := Nat.two_pow_pos k
  have en1 : n - 1 = 2 ^ k * (2 * m) + (2 ^ k - 1) := by
    rw [en, Nat.mul_add, Nat.mul_one]; omega
  apply Nat.eq_of_testBit_eq; intro i
  rw [adN_bit, en1, en, Nat.testBit_two_pow_mul_add _ (by omega), Nat.testBit_two_pow_mul_add _ hp, Nat.testBit_two_pow_sub_one]
  by_cases h : i < k
  · simp [h, Nat.testBit_two_pow_sub_one]
  · simp only [h, if_false]
    cases hj : i - k with
    | zero => simp
    | succ j => simp [Nat.testBit_succ, show 2 * m / 2 = m by omega, show (2 * m + 1) / 2 = m by omega]
theorem low_nI {n k : Nat} (h1 : n.testBit k = true) (h0 : ∀ j, j < k → n.testBit j = false) : (nI n ^^^ fI 0) &&& (nI n - nI 1) = nI (2 ^ k - 1) := by
  have hn : 1 ≤ n := by
    rcases Nat.eq_zero_or_pos n with e | e
    · subst e; rw [Nat.zero_testBit] at h1; cases h1
    · exact e
  rw [pk_sub hn, Int32.and_comm, nI_adn, low_ad h1 h0]
theorem low_lt {n k : Nat} (h1 : n.testBit k = true) (h0 : ∀ j, j < k → n.testBit j = false) (hz : ¬ nI n = 0) : k < 32 := by
  apply Classical.byContradiction; intro hk
  apply hz
  apply Int32.toBitVec_inj.mp
  apply BitVec.eq_of_getLsbD_eq
  intro i hi
  show (BitVec.ofNat 32 n).getLsbD i = (0#32).getLsbD i
  rw [BitVec.getLsbD_ofNat, h0 i (by omega)]; simp
theorem low_ge {n k : Nat} (h1 : n.testBit k = true) (hz : nI n = 0) : 32 ≤ k := by
  apply Classical.byContradiction; intro hk
  have h2 : (BitVec.ofNat 32 n).getLsbD k = (0#32).getLsbD k := congrArg (fun z : Int32 => z.toBitVec.getLsbD k) hz
  rw [BitVec.getLsbD_ofNat, h1] at h2
  simp at h2
  omega
theorem low_ex {n : Nat} (h : n ≠ 0) : ∃ k, n.testBit k = true ∧ ∀ j, j < k → n.testBit j = false := by
  obtain ⟨f, hf⟩ := exists_bit h
  have key : ∀ m f, f ≤ m → n.testBit f = true → ∃ k, n.testBit k = true ∧ ∀ j, j < k → n.testBit j = false := by
    intro m; induction m with
    | zero => intro f hf h1; exact ⟨f, h1, fun j hj => absurd hj (by omega)⟩
    | succ m ih =>
      intro f hf h1
      by_cases q : ∃ g, g < f ∧ n.testBit g = true
      · obtain ⟨g, a, b⟩ := q; exact ih g (by omega) b
      · refine ⟨f, h1, fun j hj => ?_⟩
        cases hb : n.testBit j with
        | false => rfl
        | true => exact absurd ⟨j, hj, hb⟩ q
  exact key f f (Nat.le_refl _) hf
set_option maxHeartbeats 4000000 in
set_option maxRecDepth 100000 in
theorem mt_J15_numberOfTrailingZeros (l : Launch) (D : va_G) (ca : Nat → ClassId) (k_ : Nat) (x_ : Int32) (hk : k_ < 32) (hx_ : (x_ ^^^ fI 0) &&& (x_ - nI 1) = nI (2 ^ k_ - 1)) (nn : Nat) : Met l yJ15_numberOfTrailingZeros (ws_ yJ15_numberOfTrailingZeros cJ15_numberOfTrailingZeros 2 (Option.some Jvm.ClassFile.FieldType.int)) ({ frames := 0, cells := 0, slots := 0, locals := 0 } : Room) (va_Pc [.int x_] (PreW Ev0 D vwCl (TY ca) ([] : va_W) nn)) (va_Qi (fun (r_ : Int32) (_ : Unit) => r_ = nI k_) (PostW D vwCl (TY ca) (fun (_ : Unit) => ([] : va_W)) (va_A ([] : va_W) nn)) (va_A ([] : va_W) nn)) 0 0 (va_A ([] : va_W) nn) := by
  refine met_go (QA := fun A => va_Qi (fun (r_ : Int32) (_ : Unit) => r_ = nI k_) (PostW D vwCl (TY ca) (fun (_ : Unit) => ([] : va_W)) A) A) (by decide) (Nat.le_of_ble_eq_true rfl) (fun p e s m below meth c A ls QQ hQQ hx hb hr hts hown hlocks hml hA hP hK hD hE hl => ?_)
  have hown : s.vm.findClass RJ15 = some m.cls := hown
  have hS : va_S A s.heap s.heap [] := va_S.rf
  have hl : lv_has ls 2 [(0, .int x_)] := hl
  generalize hHe : s.heap = H at hP ⊢
  have hS : va_S A s.heap H [] := hHe ▸ hS
  generalize ([] : List Loc) = locs at hS ⊢
  refine lv_iload_n hx hb dJ15_numberOfTrailingZeros_0 rfl (lv_at hl 0 rfl) ?_
  refine lv_iconst (v := fI 0) hx hb dJ15_numberOfTrailingZeros_1 (by decide) ?_
  refine lv_ixor hx hb dJ15_numberOfTrailingZeros_2 ?_
  refine lv_iload_n hx hb dJ15_numberOfTrailingZeros_3 rfl (lv_at hl 0 rfl) ?_
  refine lv_iconst (v := nI 1) hx hb dJ15_numberOfTrailingZeros_4 (by decide) ?_
  refine lv_isub hx hb dJ15_numberOfTrailingZeros_5 ?_
  refine lv_iand hx hb dJ15_numberOfTrailingZeros_6 ?_
  refine lv_topi (nm_r (e' := nI (2 ^ k_ - 1)) (hx_) ?_)
  refine lv_istore_n (lv' := [(0, .int (nI (2 ^ k_ - 1)))]) hx hb dJ15_numberOfTrailingZeros_7 rfl hl (by decide) rfl (fun ls hl => ?_)
  refine lv_iload_n hx hb dJ15_numberOfTrailingZeros_8 rfl (lv_at hl 0 rfl) ?_
  refine nv_if_gt (tgt := 17) hx hb dJ15_numberOfTrailingZeros_9 (by decide) (by have h_ : 2 ^ k_ ≤ 2 ^ 31 := Nat.pow_le_pow_right (by decide) (by omega); have h2_ := Nat.shiftRight_le (2 ^ k_ - 1) 16; have h3_ := Nat.shiftRight_le (2 ^ k_ - 1) 8; have h4_ := Nat.shiftRight_le (2 ^ k_ - 1) 4; (try simp only [← Nat.shiftRight_add]); have h5_ : ∀ a, (2 ^ k_ - 1) >>> a ≤ 2 ^ k_ - 1 := fun a => Nat.shiftRight_le _ a; first | omega | (refine Nat.lt_of_le_of_lt (h5_ _) ?_; omega)) (fun c_9 => ?_) (fun c_9 => ?_)
  · skip
    refine lv_iconst (v := nI 1) hx hb dJ15_numberOfTrailingZeros_17 (by decide) ?_
    refine lv_istore_n (lv' := [(1, .int (nI 1)), (0, .int (nI (2 ^ k_ - 1)))]) hx hb dJ15_numberOfTrailingZeros_18 rfl hl (by decide) rfl (fun ls hl => ?_)
    refine lv_iload_n hx hb dJ15_numberOfTrailingZeros_19 rfl (lv_at hl 1 rfl) ?_
    refine lv_ldcw (v := nI 65536) hx hb hown (hts _ q1035) dJ15_numberOfTrailingZeros_20 ?_
    refine nv_icmp_le (tgt := 34) hx hb dJ15_numberOfTrailingZeros_23 (by decide) (by have h_ : 2 ^ k_ ≤ 2 ^ 31 := Nat.pow_le_pow_right (by decide) (by omega); have h2_ := Nat.shiftRight_le (2 ^ k_ - 1) 16; have h3_ := Nat.shiftRight_le (2 ^ k_ - 1) 8; have h4_ := Nat.shiftRight_le (2 ^ k_ - 1) 4; (try simp only [← Nat.shiftRight_add]); have h5_ : ∀ a, (2 ^ k_ - 1) >>> a ≤ 2 ^ k_ - 1 := fun a => Nat.shiftRight_le _ a; first | omega | (refine Nat.lt_of_le_of_lt (h5_ _) ?_; omega)) (by decide) (fun c_23 => ?_) (fun c_23 => ?_)
    · skip
      refine lv_iload_n hx hb dJ15_numberOfTrailingZeros_34 rfl (lv_at hl 1 rfl) ?_
      refine lv_sipush (v := nI 256) hx hb dJ15_numberOfTrailingZeros_35 (by decide) ?_
      refine nv_icmp_le (tgt := 49) hx hb dJ15_numberOfTrailingZeros_38 (by decide) (by have h_ : 2 ^ k_ ≤ 2 ^ 31 := Nat.pow_le_pow_right (by decide) (by omega); have h2_ := Nat.shiftRight_le (2 ^ k_ - 1) 16; have h3_ := Nat.shiftRight_le (2 ^ k_ - 1) 8; have h4_ := Nat.shiftRight_le (2 ^ k_ - 1) 4; (try simp only [← Nat.shiftRight_add]); have h5_ : ∀ a, (2 ^ k_ - 1) >>> a ≤ 2 ^ k_ - 1 := fun a => Nat.shiftRight_le _ a; first | omega | (refine Nat.lt_of_le_of_lt (h5_ _) ?_; omega)) (by decide) (fun c_38 => ?_) (fun c_38 => ?_)
      · skip
        refine lv_iload_n hx hb dJ15_numberOfTrailingZeros_49 rfl (lv_at hl 1 rfl) ?_
        refine lv_bipush (v := nI 16) hx hb dJ15_numberOfTrailingZeros_50 (by decide) ?_
        refine nv_icmp_le (tgt := 62) hx hb dJ15_numberOfTrailingZeros_52 (by decide) (by have h_ : 2 ^ k_ ≤ 2 ^ 31 := Nat.pow_le_pow_right (by decide) (by omega); have h2_ := Nat.shiftRight_le (2 ^ k_ - 1) 16; have h3_ := Nat.shiftRight_le (2 ^ k_ - 1) 8; have h4_ := Nat.shiftRight_le (2 ^ k_ - 1) 4; (try simp only [← Nat.shiftRight_add]); have h5_ : ∀ a, (2 ^ k_ - 1) >>> a ≤ 2 ^ k_ - 1 := fun a => Nat.shiftRight_le _ a; first | omega | (refine Nat.lt_of_le_of_lt (h5_ _) ?_; omega)) (by decide) (fun c_52 => ?_) (fun c_52 => ?_)
        · skip
          refine lv_iload_n hx hb dJ15_numberOfTrailingZeros_62 rfl (lv_at hl 1 rfl) ?_
          refine lv_iconst (v := nI 4) hx hb dJ15_numberOfTrailingZeros_63 (by decide) ?_
          refine nv_icmp_le (tgt := 74) hx hb dJ15_numberOfTrailingZeros_64 (by decide) (by have h_ : 2 ^ k_ ≤ 2 ^ 31 := Nat.pow_le_pow_right (by decide) (by omega); have h2_ := Nat.shiftRight_le (2 ^ k_ - 1) 16; have h3_ := Nat.shiftRight_le (2 ^ k_ - 1) 8; have h4_ := Nat.shiftRight_le (2 ^ k_ - 1) 4; (try simp only [← Nat.shiftRight_add]); have h5_ : ∀ a, (2 ^ k_ - 1) >>> a ≤ 2 ^ k_ - 1 := fun a => Nat.shiftRight_le _ a; first | omega | (refine Nat.lt_of_le_of_lt (h5_ _) ?_; omega)) (by decide) (fun c_64 => ?_) (fun c_64 => ?_)
          · skip
            refine lv_iload_n hx hb dJ15_numberOfTrailingZeros_74 rfl (lv_at hl 0 rfl) ?_
            refine lv_iload_n hx hb dJ15_numberOfTrailingZeros_75 rfl (lv_at hl 1 rfl) ?_
            refine lv_iconst (v := nI 1) hx hb dJ15_numberOfTrailingZeros_76 (by decide) ?_
            refine lv_iushr (v := nI ((2 ^ k_ - 1) >>> 1)) hx hb dJ15_numberOfTrailingZeros_77 (nI_ush (by have h_ : 2 ^ k_ ≤ 2 ^ 31 := Nat.pow_le_pow_right (by decide) (by omega); have h2_ := Nat.shiftRight_le (2 ^ k_ - 1) 16; have h3_ := Nat.shiftRight_le (2 ^ k_ - 1) 8; have h4_ := Nat.shiftRight_le (2 ^ k_ - 1) 4; (try simp only [← Nat.shiftRight_add]); have h5_ : ∀ a, (2 ^ k_ - 1) >>> a ≤ 2 ^ k_ - 1 := fun a => Nat.shiftRight_le _ a; first | omega | (refine Nat.lt_of_le_of_lt (h5_ _) ?_; omega)) (by decide)) ?_
            refine nv_iadd hx hb dJ15_numberOfTrailingZeros_78 ?_
            subst hQQ
            exact xe_i (v := nI (1 + ((2 ^ k_ - 1) >>> 1))) () hx hb hr hlocks hK hP hD hS (congrArg nI (by (try revert c_64); (try revert c_52); (try revert c_38); (try revert c_23); revert c_9; revert hk; generalize k_ = k; intro hk; rcases (show k = 0 ∨ k = 1 ∨ k = 2 ∨ k = 3 ∨ k = 4 ∨ k = 5 ∨ k = 6 ∨ k = 7 ∨ k = 8 ∨ k = 9 ∨ k = 10 ∨ k = 11 ∨ k = 12 ∨ k = 13 ∨ k = 14 ∨ k = 15 ∨ k = 16 ∨ k = 17 ∨ k = 18 ∨ k = 19 ∨ k = 20 ∨ k = 21 ∨ k = 22 ∨ k = 23 ∨ k = 24 ∨ k = 25 ∨ k = 26 ∨ k = 27 ∨ k = 28 ∨ k = 29 ∨ k = 30 ∨ k = 31 by omega) with rfl | rfl | rfl | rfl | rfl | rfl | rfl | rfl | rfl | rfl | rfl | rfl | rfl | rfl | rfl | rfl | rfl | rfl | rfl | rfl | rfl | rfl | rfl | rfl | rfl | rfl | rfl | rfl | rfl | rfl | rfl | rfl <;> (intros; omega))) dJ15_numberOfTrailingZeros_79
          · skip
            refine lv_iinc (v := nI (1 + 2)) (lv' := [(1, .int (nI (1 + 2))), (0, .int (nI (2 ^ k_ - 1)))]) hx hb dJ15_numberOfTrailingZeros_67 hl (k := 0) rfl (nI_add 1 2) (by decide) rfl (fun ls hl => ?_)
            refine lv_iload_n hx hb dJ15_numberOfTrailingZeros_70 rfl (lv_at hl 1 rfl) ?_
            refine lv_iconst (v := nI 2) hx hb dJ15_numberOfTrailingZeros_71 (by decide) ?_
            refine lv_iushr (v := nI ((2 ^ k_ - 1) >>> 2)) hx hb dJ15_numberOfTrailingZeros_72 (nI_ush (by have h_ : 2 ^ k_ ≤ 2 ^ 31 := Nat.pow_le_pow_right (by decide) (by omega); have h2_ := Nat.shiftRight_le (2 ^ k_ - 1) 16; have h3_ := Nat.shiftRight_le (2 ^ k_ - 1) 8; have h4_ := Nat.shiftRight_le (2 ^ k_ - 1) 4; (try simp only [← Nat.shiftRight_add]); have h5_ : ∀ a, (2 ^ k_ - 1) >>> a ≤ 2 ^ k_ - 1 := fun a => Nat.shiftRight_le _ a; first | omega | (refine Nat.lt_of_le_of_lt (h5_ _) ?_; omega)) (by decide)) ?_
            refine lv_istore_n (lv' := [(0, .int (nI ((2 ^ k_ - 1) >>> 2))), (1, .int (nI (1 + 2)))]) hx hb dJ15_numberOfTrailingZeros_73 rfl hl (by decide) rfl (fun ls hl => ?_)
            refine lv_iload_n hx hb dJ15_numberOfTrailingZeros_74 rfl (lv_at hl 1 rfl) ?_
            refine lv_iload_n hx hb dJ15_numberOfTrailingZeros_75 rfl (lv_at hl 0 rfl) ?_
            refine lv_iconst (v := nI 1) hx hb dJ15_numberOfTrailingZeros_76 (by decide) ?_
            refine lv_iushr (v := nI (((2 ^ k_ - 1) >>> 2) >>> 1)) hx hb dJ15_numberOfTrailingZeros_77 (nI_ush (by have h_ : 2 ^ k_ ≤ 2 ^ 31 := Nat.pow_le_pow_right (by decide) (by omega); have h2_ := Nat.shiftRight_le (2 ^ k_ - 1) 16; have h3_ := Nat.shiftRight_le (2 ^ k_ - 1) 8; have h4_ := Nat.shiftRight_le (2 ^ k_ - 1) 4; (try simp only [← Nat.shiftRight_add]); have h5_ : ∀ a, (2 ^ k_ - 1) >>> a ≤ 2 ^ k_ - 1 := fun a => Nat.shiftRight_le _ a; first | omega | (refine Nat.lt_of_le_of_lt (h5_ _) ?_; omega)) (by decide)) ?_
            refine nv_iadd hx hb dJ15_numberOfTrailingZeros_78 ?_
            subst hQQ
            exact xe_i (v := nI ((1 + 2) + (((2 ^ k_ - 1) >>> 2) >>> 1))) () hx hb hr hlocks hK hP hD hS (congrArg nI (by (try revert c_64); (try revert c_52); (try revert c_38); (try revert c_23); revert c_9; revert hk; generalize k_ = k; intro hk; rcases (show k = 0 ∨ k = 1 ∨ k = 2 ∨ k = 3 ∨ k = 4 ∨ k = 5 ∨ k = 6 ∨ k = 7 ∨ k = 8 ∨ k = 9 ∨ k = 10 ∨ k = 11 ∨ k = 12 ∨ k = 13 ∨ k = 14 ∨ k = 15 ∨ k = 16 ∨ k = 17 ∨ k = 18 ∨ k = 19 ∨ k = 20 ∨ k = 21 ∨ k = 22 ∨ k = 23 ∨ k = 24 ∨ k = 25 ∨ k = 26 ∨ k = 27 ∨ k = 28 ∨ k = 29 ∨ k = 30 ∨ k = 31 by omega) with rfl | rfl | rfl | rfl | rfl | rfl | rfl | rfl | rfl | rfl | rfl | rfl | rfl | rfl | rfl | rfl | rfl | rfl | rfl | rfl | rfl | rfl | rfl | rfl | rfl | rfl | rfl | rfl | rfl | rfl | rfl | rfl <;> (intros; omega))) dJ15_numberOfTrailingZeros_79
        · skip
          refine lv_iinc (v := nI (1 + 4)) (lv' := [(1, .int (nI (1 + 4))), (0, .int (nI (2 ^ k_ - 1)))]) hx hb dJ15_numberOfTrailingZeros_55 hl (k := 0) rfl (nI_add 1 4) (by decide) rfl (fun ls hl => ?_)
          refine lv_iload_n hx hb dJ15_numberOfTrailingZeros_58 rfl (lv_at hl 1 rfl) ?_
          refine lv_iconst (v := nI 4) hx hb dJ15_numberOfTrailingZeros_59 (by decide) ?_
          refine lv_iushr (v := nI ((2 ^ k_ - 1) >>> 4)) hx hb dJ15_numberOfTrailingZeros_60 (nI_ush (by have h_ : 2 ^ k_ ≤ 2 ^ 31 := Nat.pow_le_pow_right (by decide) (by omega); have h2_ := Nat.shiftRight_le (2 ^ k_ - 1) 16; have h3_ := Nat.shiftRight_le (2 ^ k_ - 1) 8; have h4_ := Nat.shiftRight_le (2 ^ k_ - 1) 4; (try simp only [← Nat.shiftRight_add]); have h5_ : ∀ a, (2 ^ k_ - 1) >>> a ≤ 2 ^ k_ - 1 := fun a => Nat.shiftRight_le _ a; first | omega | (refine Nat.lt_of_le_of_lt (h5_ _) ?_; omega)) (by decide)) ?_
          refine lv_istore_n (lv' := [(0, .int (nI ((2 ^ k_ - 1) >>> 4))), (1, .int (nI (1 + 4)))]) hx hb dJ15_numberOfTrailingZeros_61 rfl hl (by decide) rfl (fun ls hl => ?_)
          refine lv_iload_n hx hb dJ15_numberOfTrailingZeros_62 rfl (lv_at hl 0 rfl) ?_
          refine lv_iconst (v := nI 4) hx hb dJ15_numberOfTrailingZeros_63 (by decide) ?_
          refine nv_icmp_le (tgt := 74) hx hb dJ15_numberOfTrailingZeros_64 (by decide) (by have h_ : 2 ^ k_ ≤ 2 ^ 31 := Nat.pow_le_pow_right (by decide) (by omega); have h2_ := Nat.shiftRight_le (2 ^ k_ - 1) 16; have h3_ := Nat.shiftRight_le (2 ^ k_ - 1) 8; have h4_ := Nat.shiftRight_le (2 ^ k_ - 1) 4; (try simp only [← Nat.shiftRight_add]); have h5_ : ∀ a, (2 ^ k_ - 1) >>> a ≤ 2 ^ k_ - 1 := fun a => Nat.shiftRight_le _ a; first | omega | (refine Nat.lt_of_le_of_lt (h5_ _) ?_; omega)) (by decide) (fun c_64 => ?_) (fun c_64 => ?_)
          · skip
            refine lv_iload_n hx hb dJ15_numberOfTrailingZeros_74 rfl (lv_at hl 1 rfl) ?_
            refine lv_iload_n hx hb dJ15_numberOfTrailingZeros_75 rfl (lv_at hl 0 rfl) ?_
            refine lv_iconst (v := nI 1) hx hb dJ15_numberOfTrailingZeros_76 (by decide) ?_
            refine lv_iushr (v := nI (((2 ^ k_ - 1) >>> 4) >>> 1)) hx hb dJ15_numberOfTrailingZeros_77 (nI_ush (by have h_ : 2 ^ k_ ≤ 2 ^ 31 := Nat.pow_le_pow_right (by decide) (by omega); have h2_ := Nat.shiftRight_le (2 ^ k_ - 1) 16; have h3_ := Nat.shiftRight_le (2 ^ k_ - 1) 8; have h4_ := Nat.shiftRight_le (2 ^ k_ - 1) 4; (try simp only [← Nat.shiftRight_add]); have h5_ : ∀ a, (2 ^ k_ - 1) >>> a ≤ 2 ^ k_ - 1 := fun a => Nat.shiftRight_le _ a; first | omega | (refine Nat.lt_of_le_of_lt (h5_ _) ?_; omega)) (by decide)) ?_
            refine nv_iadd hx hb dJ15_numberOfTrailingZeros_78 ?_
            subst hQQ
            exact xe_i (v := nI ((1 + 4) + (((2 ^ k_ - 1) >>> 4) >>> 1))) () hx hb hr hlocks hK hP hD hS (congrArg nI (by (try revert c_64); (try revert c_52); (try revert c_38); (try revert c_23); revert c_9; revert hk; generalize k_ = k; intro hk; rcases (show k = 0 ∨ k = 1 ∨ k = 2 ∨ k = 3 ∨ k = 4 ∨ k = 5 ∨ k = 6 ∨ k = 7 ∨ k = 8 ∨ k = 9 ∨ k = 10 ∨ k = 11 ∨ k = 12 ∨ k = 13 ∨ k = 14 ∨ k = 15 ∨ k = 16 ∨ k = 17 ∨ k = 18 ∨ k = 19 ∨ k = 20 ∨ k = 21 ∨ k = 22 ∨ k = 23 ∨ k = 24 ∨ k = 25 ∨ k = 26 ∨ k = 27 ∨ k = 28 ∨ k = 29 ∨ k = 30 ∨ k = 31 by omega) with rfl | rfl | rfl | rfl | rfl | rfl | rfl | rfl | rfl | rfl | rfl | rfl | rfl | rfl | rfl | rfl | rfl | rfl | rfl | rfl | rfl | rfl | rfl | rfl | rfl | rfl | rfl | rfl | rfl | rfl | rfl | rfl <;> (intros; omega))) dJ15_numberOfTrailingZeros_79
          · skip
            refine lv_iinc (v := nI (1 + 4 + 2)) (lv' := [(1, .int (nI (1 + 4 + 2))), (0, .int (nI ((2 ^ k_ - 1) >>> 4)))]) hx hb dJ15_numberOfTrailingZeros_67 hl (k := 1) rfl (nI_add (1 + 4) 2) (by decide) rfl (fun ls hl => ?_)
            refine lv_iload_n hx hb dJ15_numberOfTrailingZeros_70 rfl (lv_at hl 1 rfl) ?_
            refine lv_iconst (v := nI 2) hx hb dJ15_numberOfTrailingZeros_71 (by decide) ?_
            refine lv_iushr (v := nI (((2 ^ k_ - 1) >>> 4) >>> 2)) hx hb dJ15_numberOfTrailingZeros_72 (nI_ush (by have h_ : 2 ^ k_ ≤ 2 ^ 31 := Nat.pow_le_pow_right (by decide) (by omega); have h2_ := Nat.shiftRight_le (2 ^ k_ - 1) 16; have h3_ := Nat.shiftRight_le (2 ^ k_ - 1) 8; have h4_ := Nat.shiftRight_le (2 ^ k_ - 1) 4; (try simp only [← Nat.shiftRight_add]); have h5_ : ∀ a, (2 ^ k_ - 1) >>> a ≤ 2 ^ k_ - 1 := fun a => Nat.shiftRight_le _ a; first | omega | (refine Nat.lt_of_le_of_lt (h5_ _) ?_; omega)) (by decide)) ?_
            refine lv_istore_n (lv' := [(0, .int (nI (((2 ^ k_ - 1) >>> 4) >>> 2))), (1, .int (nI (1 + 4 + 2)))]) hx hb dJ15_numberOfTrailingZeros_73 rfl hl (by decide) rfl (fun ls hl => ?_)
            refine lv_iload_n hx hb dJ15_numberOfTrailingZeros_74 rfl (lv_at hl 1 rfl) ?_
            refine lv_iload_n hx hb dJ15_numberOfTrailingZeros_75 rfl (lv_at hl 0 rfl) ?_
            refine lv_iconst (v := nI 1) hx hb dJ15_numberOfTrailingZeros_76 (by decide) ?_
            refine lv_iushr (v := nI ((((2 ^ k_ - 1) >>> 4) >>> 2) >>> 1)) hx hb dJ15_numberOfTrailingZeros_77 (nI_ush (by have h_ : 2 ^ k_ ≤ 2 ^ 31 := Nat.pow_le_pow_right (by decide) (by omega); have h2_ := Nat.shiftRight_le (2 ^ k_ - 1) 16; have h3_ := Nat.shiftRight_le (2 ^ k_ - 1) 8; have h4_ := Nat.shiftRight_le (2 ^ k_ - 1) 4; (try simp only [← Nat.shiftRight_add]); have h5_ : ∀ a, (2 ^ k_ - 1) >>> a ≤ 2 ^ k_ - 1 := fun a => Nat.shiftRight_le _ a; first | omega | (refine Nat.lt_of_le_of_lt (h5_ _) ?_; omega)) (by decide)) ?_
            refine nv_iadd hx hb dJ15_numberOfTrailingZeros_78 ?_
            subst hQQ
            exact xe_i (v := nI ((1 + 4 + 2) + ((((2 ^ k_ - 1) >>> 4) >>> 2) >>> 1))) () hx hb hr hlocks hK hP hD hS (congrArg nI (by (try revert c_64); (try revert c_52); (try revert c_38); (try revert c_23); revert c_9; revert hk; generalize k_ = k; intro hk; rcases (show k = 0 ∨ k = 1 ∨ k = 2 ∨ k = 3 ∨ k = 4 ∨ k = 5 ∨ k = 6 ∨ k = 7 ∨ k = 8 ∨ k = 9 ∨ k = 10 ∨ k = 11 ∨ k = 12 ∨ k = 13 ∨ k = 14 ∨ k = 15 ∨ k = 16 ∨ k = 17 ∨ k = 18 ∨ k = 19 ∨ k = 20 ∨ k = 21 ∨ k = 22 ∨ k = 23 ∨ k = 24 ∨ k = 25 ∨ k = 26 ∨ k = 27 ∨ k = 28 ∨ k = 29 ∨ k = 30 ∨ k = 31 by omega) with rfl | rfl | rfl | rfl | rfl | rfl | rfl | rfl | rfl | rfl | rfl | rfl | rfl | rfl | rfl | rfl | rfl | rfl | rfl | rfl | rfl | rfl | rfl | rfl | rfl | rfl | rfl | rfl | rfl | rfl | rfl | rfl <;> (intros; omega))) dJ15_numberOfTrailingZeros_79
      · skip
        refine lv_iinc (v := nI (1 + 8)) (lv' := [(1, .int (nI (1 + 8))), (0, .int (nI (2 ^ k_ - 1)))]) hx hb dJ15_numberOfTrailingZeros_41 hl (k := 0) rfl (nI_add 1 8) (by decide) rfl (fun ls hl => ?_)
        refine lv_iload_n hx hb dJ15_numberOfTrailingZeros_44 rfl (lv_at hl 1 rfl) ?_
        refine lv_bipush (v := nI 8) hx hb dJ15_numberOfTrailingZeros_45 (by decide) ?_
        refine lv_iushr (v := nI ((2 ^ k_ - 1) >>> 8)) hx hb dJ15_numberOfTrailingZeros_47 (nI_ush (by have h_ : 2 ^ k_ ≤ 2 ^ 31 := Nat.pow_le_pow_right (by decide) (by omega); have h2_ := Nat.shiftRight_le (2 ^ k_ - 1) 16; have h3_ := Nat.shiftRight_le (2 ^ k_ - 1) 8; have h4_ := Nat.shiftRight_le (2 ^ k_ - 1) 4; (try simp only [← Nat.shiftRight_add]); have h5_ : ∀ a, (2 ^ k_ - 1) >>> a ≤ 2 ^ k_ - 1 := fun a => Nat.shiftRight_le _ a; first | omega | (refine Nat.lt_of_le_of_lt (h5_ _) ?_; omega)) (by decide)) ?_
        refine lv_istore_n (lv' := [(0, .int (nI ((2 ^ k_ - 1) >>> 8))), (1, .int (nI (1 + 8)))]) hx hb dJ15_numberOfTrailingZeros_48 rfl hl (by decide) rfl (fun ls hl => ?_)
        refine lv_iload_n hx hb dJ15_numberOfTrailingZeros_49 rfl (lv_at hl 0 rfl) ?_
        refine lv_bipush (v := nI 16) hx hb dJ15_numberOfTrailingZeros_50 (by decide) ?_
        refine nv_icmp_le (tgt := 62) hx hb dJ15_numberOfTrailingZeros_52 (by decide) (by have h_ : 2 ^ k_ ≤ 2 ^ 31 := Nat.pow_le_pow_right (by decide) (by omega); have h2_ := Nat.shiftRight_le (2 ^ k_ - 1) 16; have h3_ := Nat.shiftRight_le (2 ^ k_ - 1) 8; have h4_ := Nat.shiftRight_le (2 ^ k_ - 1) 4; (try simp only [← Nat.shiftRight_add]); have h5_ : ∀ a, (2 ^ k_ - 1) >>> a ≤ 2 ^ k_ - 1 := fun a => Nat.shiftRight_le _ a; first | omega | (refine Nat.lt_of_le_of_lt (h5_ _) ?_; omega)) (by decide) (fun c_52 => ?_) (fun c_52 => ?_)
        · skip
          refine lv_iload_n hx hb dJ15_numberOfTrailingZeros_62 rfl (lv_at hl 0 rfl) ?_
          refine lv_iconst (v := nI 4) hx hb dJ15_numberOfTrailingZeros_63 (by decide) ?_
          refine nv_icmp_le (tgt := 74) hx hb dJ15_numberOfTrailingZeros_64 (by decide) (by have h_ : 2 ^ k_ ≤ 2 ^ 31 := Nat.pow_le_pow_right (by decide) (by omega); have h2_ := Nat.shiftRight_le (2 ^ k_ - 1) 16; have h3_ := Nat.shiftRight_le (2 ^ k_ - 1) 8; have h4_ := Nat.shiftRight_le (2 ^ k_ - 1) 4; (try simp only [← Nat.shiftRight_add]); have h5_ : ∀ a, (2 ^ k_ - 1) >>> a ≤ 2 ^ k_ - 1 := fun a => Nat.shiftRight_le _ a; first | omega | (refine Nat.lt_of_le_of_lt (h5_ _) ?_; omega)) (by decide) (fun c_64 => ?_) (fun c_64 => ?_)
          · skip
            refine lv_iload_n hx hb dJ15_numberOfTrailingZeros_74 rfl (lv_at hl 1 rfl) ?_
            refine lv_iload_n hx hb dJ15_numberOfTrailingZeros_75 rfl (lv_at hl 0 rfl) ?_
            refine lv_iconst (v := nI 1) hx hb dJ15_numberOfTrailingZeros_76 (by decide) ?_
            refine lv_iushr (v := nI (((2 ^ k_ - 1) >>> 8) >>> 1)) hx hb dJ15_numberOfTrailingZeros_77 (nI_ush (by have h_ : 2 ^ k_ ≤ 2 ^ 31 := Nat.pow_le_pow_right (by decide) (by omega); have h2_ := Nat.shiftRight_le (2 ^ k_ - 1) 16; have h3_ := Nat.shiftRight_le (2 ^ k_ - 1) 8; have h4_ := Nat.shiftRight_le (2 ^ k_ - 1) 4; (try simp only [← Nat.shiftRight_add]); have h5_ : ∀ a, (2 ^ k_ - 1) >>> a ≤ 2 ^ k_ - 1 := fun a => Nat.shiftRight_le _ a; first | omega | (refine Nat.lt_of_le_of_lt (h5_ _) ?_; omega)) (by decide)) ?_
            refine nv_iadd hx hb dJ15_numberOfTrailingZeros_78 ?_
            subst hQQ
            exact xe_i (v := nI ((1 + 8) + (((2 ^ k_ - 1) >>> 8) >>> 1))) () hx hb hr hlocks hK hP hD hS (congrArg nI (by (try revert c_64); (try revert c_52); (try revert c_38); (try revert c_23); revert c_9; revert hk; generalize k_ = k; intro hk; rcases (show k = 0 ∨ k = 1 ∨ k = 2 ∨ k = 3 ∨ k = 4 ∨ k = 5 ∨ k = 6 ∨ k = 7 ∨ k = 8 ∨ k = 9 ∨ k = 10 ∨ k = 11 ∨ k = 12 ∨ k = 13 ∨ k = 14 ∨ k = 15 ∨ k = 16 ∨ k = 17 ∨ k = 18 ∨ k = 19 ∨ k = 20 ∨ k = 21 ∨ k = 22 ∨ k = 23 ∨ k = 24 ∨ k = 25 ∨ k = 26 ∨ k = 27 ∨ k = 28 ∨ k = 29 ∨ k = 30 ∨ k = 31 by omega) with rfl | rfl | rfl | rfl | rfl | rfl | rfl | rfl | rfl | rfl | rfl | rfl | rfl | rfl | rfl | rfl | rfl | rfl | rfl | rfl | rfl | rfl | rfl | rfl | rfl | rfl | rfl | rfl | rfl | rfl | rfl | rfl <;> (intros; omega))) dJ15_numberOfTrailingZeros_79
          · skip
            refine lv_iinc (v := nI (1 + 8 + 2)) (lv' := [(1, .int (nI (1 + 8 + 2))), (0, .int (nI ((2 ^ k_ - 1) >>> 8)))]) hx hb dJ15_numberOfTrailingZeros_67 hl (k := 1) rfl (nI_add (1 + 8) 2) (by decide) rfl (fun ls hl => ?_)
            refine lv_iload_n hx hb dJ15_numberOfTrailingZeros_70 rfl (lv_at hl 1 rfl) ?_
            refine lv_iconst (v := nI 2) hx hb dJ15_numberOfTrailingZeros_71 (by decide) ?_
            refine lv_iushr (v := nI (((2 ^ k_ - 1) >>> 8) >>> 2)) hx hb dJ15_numberOfTrailingZeros_72 (nI_ush (by have h_ : 2 ^ k_ ≤ 2 ^ 31 := Nat.pow_le_pow_right (by decide) (by omega); have h2_ := Nat.shiftRight_le (2 ^ k_ - 1) 16; have h3_ := Nat.shiftRight_le (2 ^ k_ - 1) 8; have h4_ := Nat.shiftRight_le (2 ^ k_ - 1) 4; (try simp only [← Nat.shiftRight_add]); have h5_ : ∀ a, (2 ^ k_ - 1) >>> a ≤ 2 ^ k_ - 1 := fun a => Nat.shiftRight_le _ a; first | omega | (refine Nat.lt_of_le_of_lt (h5_ _) ?_; omega)) (by decide)) ?_
            refine lv_istore_n (lv' := [(0, .int (nI (((2 ^ k_ - 1) >>> 8) >>> 2))), (1, .int (nI (1 + 8 + 2)))]) hx hb dJ15_numberOfTrailingZeros_73 rfl hl (by decide) rfl (fun ls hl => ?_)
            refine lv_iload_n hx hb dJ15_numberOfTrailingZeros_74 rfl (lv_at hl 1 rfl) ?_
            refine lv_iload_n hx hb dJ15_numberOfTrailingZeros_75 rfl (lv_at hl 0 rfl) ?_
            refine lv_iconst (v := nI 1) hx hb dJ15_numberOfTrailingZeros_76 (by decide) ?_
            refine lv_iushr (v := nI ((((2 ^ k_ - 1) >>> 8) >>> 2) >>> 1)) hx hb dJ15_numberOfTrailingZeros_77 (nI_ush (by have h_ : 2 ^ k_ ≤ 2 ^ 31 := Nat.pow_le_pow_right (by decide) (by omega); have h2_ := Nat.shiftRight_le (2 ^ k_ - 1) 16; have h3_ := Nat.shiftRight_le (2 ^ k_ - 1) 8; have h4_ := Nat.shiftRight_le (2 ^ k_ - 1) 4; (try simp only [← Nat.shiftRight_add]); have h5_ : ∀ a, (2 ^ k_ - 1) >>> a ≤ 2 ^ k_ - 1 := fun a => Nat.shiftRight_le _ a; first | omega | (refine Nat.lt_of_le_of_lt (h5_ _) ?_; omega)) (by decide)) ?_
            refine nv_iadd hx hb dJ15_numberOfTrailingZeros_78 ?_
            subst hQQ
            exact xe_i (v := nI ((1 + 8 + 2) + ((((2 ^ k_ - 1) >>> 8) >>> 2) >>> 1))) () hx hb hr hlocks hK hP hD hS (congrArg nI (by (try revert c_64); (try revert c_52); (try revert c_38); (try revert c_23); revert c_9; revert hk; generalize k_ = k; intro hk; rcases (show k = 0 ∨ k = 1 ∨ k = 2 ∨ k = 3 ∨ k = 4 ∨ k = 5 ∨ k = 6 ∨ k = 7 ∨ k = 8 ∨ k = 9 ∨ k = 10 ∨ k = 11 ∨ k = 12 ∨ k = 13 ∨ k = 14 ∨ k = 15 ∨ k = 16 ∨ k = 17 ∨ k = 18 ∨ k = 19 ∨ k = 20 ∨ k = 21 ∨ k = 22 ∨ k = 23 ∨ k = 24 ∨ k = 25 ∨ k = 26 ∨ k = 27 ∨ k = 28 ∨ k = 29 ∨ k = 30 ∨ k = 31 by omega) with rfl | rfl | rfl | rfl | rfl | rfl | rfl | rfl | rfl | rfl | rfl | rfl | rfl | rfl | rfl | rfl | rfl | rfl | rfl | rfl | rfl | rfl | rfl | rfl | rfl | rfl | rfl | rfl | rfl | rfl | rfl | rfl <;> (intros; omega))) dJ15_numberOfTrailingZeros_79
        · skip
          refine lv_iinc (v := nI (1 + 8 + 4)) (lv' := [(1, .int (nI (1 + 8 + 4))), (0, .int (nI ((2 ^ k_ - 1) >>> 8)))]) hx hb dJ15_numberOfTrailingZeros_55 hl (k := 1) rfl (nI_add (1 + 8) 4) (by decide) rfl (fun ls hl => ?_)
          refine lv_iload_n hx hb dJ15_numberOfTrailingZeros_58 rfl (lv_at hl 1 rfl) ?_
          refine lv_iconst (v := nI 4) hx hb dJ15_numberOfTrailingZeros_59 (by decide) ?_
          refine lv_iushr (v := nI (((2 ^ k_ - 1) >>> 8) >>> 4)) hx hb dJ15_numberOfTrailingZeros_60 (nI_ush (by have h_ : 2 ^ k_ ≤ 2 ^ 31 := Nat.pow_le_pow_right (by decide) (by omega); have h2_ := Nat.shiftRight_le (2 ^ k_ - 1) 16; have h3_ := Nat.shiftRight_le (2 ^ k_ - 1) 8; have h4_ := Nat.shiftRight_le (2 ^ k_ - 1) 4; (try simp only [← Nat.shiftRight_add]); have h5_ : ∀ a, (2 ^ k_ - 1) >>> a ≤ 2 ^ k_ - 1 := fun a => Nat.shiftRight_le _ a; first | omega | (refine Nat.lt_of_le_of_lt (h5_ _) ?_; omega)) (by decide)) ?_
          refine lv_istore_n (lv' := [(0, .int (nI (((2 ^ k_ - 1) >>> 8) >>> 4))), (1, .int (nI (1 + 8 + 4)))]) hx hb dJ15_numberOfTrailingZeros_61 rfl hl (by decide) rfl (fun ls hl => ?_)
          refine lv_iload_n hx hb dJ15_numberOfTrailingZeros_62 rfl (lv_at hl 0 rfl) ?_
          refine lv_iconst (v := nI 4) hx hb dJ15_numberOfTrailingZeros_63 (by decide) ?_
          refine nv_icmp_le (tgt := 74) hx hb dJ15_numberOfTrailingZeros_64 (by decide) (by have h_ : 2 ^ k_ ≤ 2 ^ 31 := Nat.pow_le_pow_right (by decide) (by omega); have h2_ := Nat.shiftRight_le (2 ^ k_ - 1) 16; have h3_ := Nat.shiftRight_le (2 ^ k_ - 1) 8; have h4_ := Nat.shiftRight_le (2 ^ k_ - 1) 4; (try simp only [← Nat.shiftRight_add]); have h5_ : ∀ a, (2 ^ k_ - 1) >>> a ≤ 2 ^ k_ - 1 := fun a => Nat.shiftRight_le _ a; first | omega | (refine Nat.lt_of_le_of_lt (h5_ _) ?_; omega)) (by decide) (fun c_64 => ?_) (fun c_64 => ?_)
          · skip
            refine lv_iload_n hx hb dJ15_numberOfTrailingZeros_74 rfl (lv_at hl 1 rfl) ?_
            refine lv_iload_n hx hb dJ15_numberOfTrailingZeros_75 rfl (lv_at hl 0 rfl) ?_
            refine lv_iconst (v := nI 1) hx hb dJ15_numberOfTrailingZeros_76 (by decide) ?_
            refine lv_iushr (v := nI ((((2 ^ k_ - 1) >>> 8) >>> 4) >>> 1)) hx hb dJ15_numberOfTrailingZeros_77 (nI_ush (by have h_ : 2 ^ k_ ≤ 2 ^ 31 := Nat.pow_le_pow_right (by decide) (by omega); have h2_ := Nat.shiftRight_le (2 ^ k_ - 1) 16; have h3_ := Nat.shiftRight_le (2 ^ k_ - 1) 8; have h4_ := Nat.shiftRight_le (2 ^ k_ - 1) 4; (try simp only [← Nat.shiftRight_add]); have h5_ : ∀ a, (2 ^ k_ - 1) >>> a ≤ 2 ^ k_ - 1 := fun a => Nat.shiftRight_le _ a; first | omega | (refine Nat.lt_of_le_of_lt (h5_ _) ?_; omega)) (by decide)) ?_
            refine nv_iadd hx hb dJ15_numberOfTrailingZeros_78 ?_
            subst hQQ
            exact xe_i (v := nI ((1 + 8 + 4) + ((((2 ^ k_ - 1) >>> 8) >>> 4) >>> 1))) () hx hb hr hlocks hK hP hD hS (congrArg nI (by (try revert c_64); (try revert c_52); (try revert c_38); (try revert c_23); revert c_9; revert hk; generalize k_ = k; intro hk; rcases (show k = 0 ∨ k = 1 ∨ k = 2 ∨ k = 3 ∨ k = 4 ∨ k = 5 ∨ k = 6 ∨ k = 7 ∨ k = 8 ∨ k = 9 ∨ k = 10 ∨ k = 11 ∨ k = 12 ∨ k = 13 ∨ k = 14 ∨ k = 15 ∨ k = 16 ∨ k = 17 ∨ k = 18 ∨ k = 19 ∨ k = 20 ∨ k = 21 ∨ k = 22 ∨ k = 23 ∨ k = 24 ∨ k = 25 ∨ k = 26 ∨ k = 27 ∨ k = 28 ∨ k = 29 ∨ k = 30 ∨ k = 31 by omega) with rfl | rfl | rfl | rfl | rfl | rfl | rfl | rfl | rfl | rfl | rfl | rfl | rfl | rfl | rfl | rfl | rfl | rfl | rfl | rfl | rfl | rfl | rfl | rfl | rfl | rfl | rfl | rfl | rfl | rfl | rfl | rfl <;> (intros; omega))) dJ15_numberOfTrailingZeros_79
          · skip
            refine lv_iinc (v := nI (1 + 8 + 4 + 2)) (lv' := [(1, .int (nI (1 + 8 + 4 + 2))), (0, .int (nI (((2 ^ k_ - 1) >>> 8) >>> 4)))]) hx hb dJ15_numberOfTrailingZeros_67 hl (k := 1) rfl (nI_add (1 + 8 + 4) 2) (by decide) rfl (fun ls hl => ?_)
            refine lv_iload_n hx hb dJ15_numberOfTrailingZeros_70 rfl (lv_at hl 1 rfl) ?_
            refine lv_iconst (v := nI 2) hx hb dJ15_numberOfTrailingZeros_71 (by decide) ?_
            refine lv_iushr (v := nI ((((2 ^ k_ - 1) >>> 8) >>> 4) >>> 2)) hx hb dJ15_numberOfTrailingZeros_72 (nI_ush (by have h_ : 2 ^ k_ ≤ 2 ^ 31 := Nat.pow_le_pow_right (by decide) (by omega); have h2_ := Nat.shiftRight_le (2 ^ k_ - 1) 16; have h3_ := Nat.shiftRight_le (2 ^ k_ - 1) 8; have h4_ := Nat.shiftRight_le (2 ^ k_ - 1) 4; (try simp only [← Nat.shiftRight_add]); have h5_ : ∀ a, (2 ^ k_ - 1) >>> a ≤ 2 ^ k_ - 1 := fun a => Nat.shiftRight_le _ a; first | omega | (refine Nat.lt_of_le_of_lt (h5_ _) ?_; omega)) (by decide)) ?_
            refine lv_istore_n (lv' := [(0, .int (nI ((((2 ^ k_ - 1) >>> 8) >>> 4) >>> 2))), (1, .int (nI (1 + 8 + 4 + 2)))]) hx hb dJ15_numberOfTrailingZeros_73 rfl hl (by decide) rfl (fun ls hl => ?_)
            refine lv_iload_n hx hb dJ15_numberOfTrailingZeros_74 rfl (lv_at hl 1 rfl) ?_
            refine lv_iload_n hx hb dJ15_numberOfTrailingZeros_75 rfl (lv_at hl 0 rfl) ?_
            refine lv_iconst (v := nI 1) hx hb dJ15_numberOfTrailingZeros_76 (by decide) ?_
            refine lv_iushr (v := nI (((((2 ^ k_ - 1) >>> 8) >>> 4) >>> 2) >>> 1)) hx hb dJ15_numberOfTrailingZeros_77 (nI_ush (by have h_ : 2 ^ k_ ≤ 2 ^ 31 := Nat.pow_le_pow_right (by decide) (by omega); have h2_ := Nat.shiftRight_le (2 ^ k_ - 1) 16; have h3_ := Nat.shiftRight_le (2 ^ k_ - 1) 8; have h4_ := Nat.shiftRight_le (2 ^ k_ - 1) 4; (try simp only [← Nat.shiftRight_add]); have h5_ : ∀ a, (2 ^ k_ - 1) >>> a ≤ 2 ^ k_ - 1 := fun a => Nat.shiftRight_le _ a; first | omega | (refine Nat.lt_of_le_of_lt (h5_ _) ?_; omega)) (by decide)) ?_
            refine nv_iadd hx hb dJ15_numberOfTrailingZeros_78 ?_
            subst hQQ
            exact xe_i (v := nI ((1 + 8 + 4 + 2) + (((((2 ^ k_ - 1) >>> 8) >>> 4) >>> 2) >>> 1))) () hx hb hr hlocks hK hP hD hS (congrArg nI (by (try revert c_64); (try revert c_52); (try revert c_38); (try revert c_23); revert c_9; revert hk; generalize k_ = k; intro hk; rcases (show k = 0 ∨ k = 1 ∨ k = 2 ∨ k = 3 ∨ k = 4 ∨ k = 5 ∨ k = 6 ∨ k = 7 ∨ k = 8 ∨ k = 9 ∨ k = 10 ∨ k = 11 ∨ k = 12 ∨ k = 13 ∨ k = 14 ∨ k = 15 ∨ k = 16 ∨ k = 17 ∨ k = 18 ∨ k = 19 ∨ k = 20 ∨ k = 21 ∨ k = 22 ∨ k = 23 ∨ k = 24 ∨ k = 25 ∨ k = 26 ∨ k = 27 ∨ k = 28 ∨ k = 29 ∨ k = 30 ∨ k = 31 by omega) with rfl | rfl | rfl | rfl | rfl | rfl | rfl | rfl | rfl | rfl | rfl | rfl | rfl | rfl | rfl | rfl | rfl | rfl | rfl | rfl | rfl | rfl | rfl | rfl | rfl | rfl | rfl | rfl | rfl | rfl | rfl | rfl <;> (intros; omega))) dJ15_numberOfTrailingZeros_79
    · skip
      refine lv_iinc (v := nI (1 + 16)) (lv' := [(1, .int (nI (1 + 16))), (0, .int (nI (2 ^ k_ - 1)))]) hx hb dJ15_numberOfTrailingZeros_26 hl (k := 0) rfl (nI_add 1 16) (by decide) rfl (fun ls hl => ?_)
      refine lv_iload_n hx hb dJ15_numberOfTrailingZeros_29 rfl (lv_at hl 1 rfl) ?_
      refine lv_bipush (v := nI 16) hx hb dJ15_numberOfTrailingZeros_30 (by decide) ?_
      refine lv_iushr (v := nI ((2 ^ k_ - 1) >>> 16)) hx hb dJ15_numberOfTrailingZeros_32 (nI_ush (by have h_ : 2 ^ k_ ≤ 2 ^ 31 := Nat.pow_le_pow_right (by decide) (by omega); have h2_ := Nat.shiftRight_le (2 ^ k_ - 1) 16; have h3_ := Nat.shiftRight_le (2 ^ k_ - 1) 8; have h4_ := Nat.shiftRight_le (2 ^ k_ - 1) 4; (try simp only [← Nat.shiftRight_add]); have h5_ : ∀ a, (2 ^ k_ - 1) >>> a ≤ 2 ^ k_ - 1 := fun a => Nat.shiftRight_le _ a; first | omega | (refine Nat.lt_of_le_of_lt (h5_ _) ?_; omega)) (by decide)) ?_
      refine lv_istore_n (lv' := [(0, .int (nI ((2 ^ k_ - 1) >>> 16))), (1, .int (nI (1 + 16)))]) hx hb dJ15_numberOfTrailingZeros_33 rfl hl (by decide) rfl (fun ls hl => ?_)
      refine lv_iload_n hx hb dJ15_numberOfTrailingZeros_34 rfl (lv_at hl 0 rfl) ?_
      refine lv_sipush (v := nI 256) hx hb dJ15_numberOfTrailingZeros_35 (by decide) ?_
      refine nv_icmp_le (tgt := 49) hx hb dJ15_numberOfTrailingZeros_38 (by decide) (by have h_ : 2 ^ k_ ≤ 2 ^ 31 := Nat.pow_le_pow_right (by decide) (by omega); have h2_ := Nat.shiftRight_le (2 ^ k_ - 1) 16; have h3_ := Nat.shiftRight_le (2 ^ k_ - 1) 8; have h4_ := Nat.shiftRight_le (2 ^ k_ - 1) 4; (try simp only [← Nat.shiftRight_add]); have h5_ : ∀ a, (2 ^ k_ - 1) >>> a ≤ 2 ^ k_ - 1 := fun a => Nat.shiftRight_le _ a; first | omega | (refine Nat.lt_of_le_of_lt (h5_ _) ?_; omega)) (by decide) (fun c_38 => ?_) (fun c_38 => ?_)
      · skip
        refine lv_iload_n hx hb dJ15_numberOfTrailingZeros_49 rfl (lv_at hl 0 rfl) ?_
        refine lv_bipush (v := nI 16) hx hb dJ15_numberOfTrailingZeros_50 (by decide) ?_
        refine nv_icmp_le (tgt := 62) hx hb dJ15_numberOfTrailingZeros_52 (by decide) (by have h_ : 2 ^ k_ ≤ 2 ^ 31 := Nat.pow_le_pow_right (by decide) (by omega); have h2_ := Nat.shiftRight_le (2 ^ k_ - 1) 16; have h3_ := Nat.shiftRight_le (2 ^ k_ - 1) 8; have h4_ := Nat.shiftRight_le (2 ^ k_ - 1) 4; (try simp only [← Nat.shiftRight_add]); have h5_ : ∀ a, (2 ^ k_ - 1) >>> a ≤ 2 ^ k_ - 1 := fun a => Nat.shiftRight_le _ a; first | omega | (refine Nat.lt_of_le_of_lt (h5_ _) ?_; omega)) (by decide) (fun c_52 => ?_) (fun c_52 => ?_)
        · skip
          refine lv_iload_n hx hb dJ15_numberOfTrailingZeros_62 rfl (lv_at hl 0 rfl) ?_
          refine lv_iconst (v := nI 4) hx hb dJ15_numberOfTrailingZeros_63 (by decide) ?_
          refine nv_icmp_le (tgt := 74) hx hb dJ15_numberOfTrailingZeros_64 (by decide) (by have h_ : 2 ^ k_ ≤ 2 ^ 31 := Nat.pow_le_pow_right (by decide) (by omega); have h2_ := Nat.shiftRight_le (2 ^ k_ - 1) 16; have h3_ := Nat.shiftRight_le (2 ^ k_ - 1) 8; have h4_ := Nat.shiftRight_le (2 ^ k_ - 1) 4; (try simp only [← Nat.shiftRight_add]); have h5_ : ∀ a, (2 ^ k_ - 1) >>> a ≤ 2 ^ k_ - 1 := fun a => Nat.shiftRight_le _ a; first | omega | (refine Nat.lt_of_le_of_lt (h5_ _) ?_; omega)) (by decide) (fun c_64 => ?_) (fun c_64 => ?_)
          · skip
            refine lv_iload_n hx hb dJ15_numberOfTrailingZeros_74 rfl (lv_at hl 1 rfl) ?_
            refine lv_iload_n hx hb dJ15_numberOfTrailingZeros_75 rfl (lv_at hl 0 rfl) ?_
            refine lv_iconst (v := nI 1) hx hb dJ15_numberOfTrailingZeros_76 (by decide) ?_
            refine lv_iushr (v := nI (((2 ^ k_ - 1) >>> 16) >>> 1)) hx hb dJ15_numberOfTrailingZeros_77 (nI_ush (by have h_ : 2 ^ k_ ≤ 2 ^ 31 := Nat.pow_le_pow_right (by decide) (by omega); have h2_ := Nat.shiftRight_le (2 ^ k_ - 1) 16; have h3_ := Nat.shiftRight_le (2 ^ k_ - 1) 8; have h4_ := Nat.shiftRight_le (2 ^ k_ - 1) 4; (try simp only [← Nat.shiftRight_add]); have h5_ : ∀ a, (2 ^ k_ - 1) >>> a ≤ 2 ^ k_ - 1 := fun a => Nat.shiftRight_le _ a; first | omega | (refine Nat.lt_of_le_of_lt (h5_ _) ?_; omega)) (by decide)) ?_
            refine nv_iadd hx hb dJ15_numberOfTrailingZeros_78 ?_
            subst hQQ
            exact xe_i (v := nI ((1 + 16) + (((2 ^ k_ - 1) >>> 16) >>> 1))) () hx hb hr hlocks hK hP hD hS (congrArg nI (by (try revert c_64); (try revert c_52); (try revert c_38); (try revert c_23); revert c_9; revert hk; generalize k_ = k; intro hk; rcases (show k = 0 ∨ k = 1 ∨ k = 2 ∨ k = 3 ∨ k = 4 ∨ k = 5 ∨ k = 6 ∨ k = 7 ∨ k = 8 ∨ k = 9 ∨ k = 10 ∨ k = 11 ∨ k = 12 ∨ k = 13 ∨ k = 14 ∨ k = 15 ∨ k = 16 ∨ k = 17 ∨ k = 18 ∨ k = 19 ∨ k = 20 ∨ k = 21 ∨ k = 22 ∨ k = 23 ∨ k = 24 ∨ k = 25 ∨ k = 26 ∨ k = 27 ∨ k = 28 ∨ k = 29 ∨ k = 30 ∨ k = 31 by omega) with rfl | rfl | rfl | rfl | rfl | rfl | rfl | rfl | rfl | rfl | rfl | rfl | rfl | rfl | rfl | rfl | rfl | rfl | rfl | rfl | rfl | rfl | rfl | rfl | rfl | rfl | rfl | rfl | rfl | rfl | rfl | rfl <;> (intros; omega))) dJ15_numberOfTrailingZeros_79
          · skip
            refine lv_iinc (v := nI (1 + 16 + 2)) (lv' := [(1, .int (nI (1 + 16 + 2))), (0, .int (nI ((2 ^ k_ - 1) >>> 16)))]) hx hb dJ15_numberOfTrailingZeros_67 hl (k := 1) rfl (nI_add (1 + 16) 2) (by decide) rfl (fun ls hl => ?_)
            refine lv_iload_n hx hb dJ15_numberOfTrailingZeros_70 rfl (lv_at hl 1 rfl) ?_
            refine lv_iconst (v := nI 2) hx hb dJ15_numberOfTrailingZeros_71 (by decide) ?_
            refine lv_iushr (v := nI (((2 ^ k_ - 1) >>> 16) >>> 2)) hx hb dJ15_numberOfTrailingZeros_72 (nI_ush (by have h_ : 2 ^ k_ ≤ 2 ^ 31 := Nat.pow_le_pow_right (by decide) (by omega); have h2_ := Nat.shiftRight_le (2 ^ k_ - 1) 16; have h3_ := Nat.shiftRight_le (2 ^ k_ - 1) 8; have h4_ := Nat.shiftRight_le (2 ^ k_ - 1) 4; (try simp only [← Nat.shiftRight_add]); have h5_ : ∀ a, (2 ^ k_ - 1) >>> a ≤ 2 ^ k_ - 1 := fun a => Nat.shiftRight_le _ a; first | omega | (refine Nat.lt_of_le_of_lt (h5_ _) ?_; omega)) (by decide)) ?_
            refine lv_istore_n (lv' := [(0, .int (nI (((2 ^ k_ - 1) >>> 16) >>> 2))), (1, .int (nI (1 + 16 + 2)))]) hx hb dJ15_numberOfTrailingZeros_73 rfl hl (by decide) rfl (fun ls hl => ?_)
            refine lv_iload_n hx hb dJ15_numberOfTrailingZeros_74 rfl (lv_at hl 1 rfl) ?_
            refine lv_iload_n hx hb dJ15_numberOfTrailingZeros_75 rfl (lv_at hl 0 rfl) ?_
            refine lv_iconst (v := nI 1) hx hb dJ15_numberOfTrailingZeros_76 (by decide) ?_
            refine lv_iushr (v := nI ((((2 ^ k_ - 1) >>> 16) >>> 2) >>> 1)) hx hb dJ15_numberOfTrailingZeros_77 (nI_ush (by have h_ : 2 ^ k_ ≤ 2 ^ 31 := Nat.pow_le_pow_right (by decide) (by omega); have h2_ := Nat.shiftRight_le (2 ^ k_ - 1) 16; have h3_ := Nat.shiftRight_le (2 ^ k_ - 1) 8; have h4_ := Nat.shiftRight_le (2 ^ k_ - 1) 4; (try simp only [← Nat.shiftRight_add]); have h5_ : ∀ a, (2 ^ k_ - 1) >>> a ≤ 2 ^ k_ - 1 := fun a => Nat.shiftRight_le _ a; first | omega | (refine Nat.lt_of_le_of_lt (h5_ _) ?_; omega)) (by decide)) ?_
            refine nv_iadd hx hb dJ15_numberOfTrailingZeros_78 ?_
            subst hQQ
            exact xe_i (v := nI ((1 + 16 + 2) + ((((2 ^ k_ - 1) >>> 16) >>> 2) >>> 1))) () hx hb hr hlocks hK hP hD hS (congrArg nI (by (try revert c_64); (try revert c_52); (try revert c_38); (try revert c_23); revert c_9; revert hk; generalize k_ = k; intro hk; rcases (show k = 0 ∨ k = 1 ∨ k = 2 ∨ k = 3 ∨ k = 4 ∨ k = 5 ∨ k = 6 ∨ k = 7 ∨ k = 8 ∨ k = 9 ∨ k = 10 ∨ k = 11 ∨ k = 12 ∨ k = 13 ∨ k = 14 ∨ k = 15 ∨ k = 16 ∨ k = 17 ∨ k = 18 ∨ k = 19 ∨ k = 20 ∨ k = 21 ∨ k = 22 ∨ k = 23 ∨ k = 24 ∨ k = 25 ∨ k = 26 ∨ k = 27 ∨ k = 28 ∨ k = 29 ∨ k = 30 ∨ k = 31 by omega) with rfl | rfl | rfl | rfl | rfl | rfl | rfl | rfl | rfl | rfl | rfl | rfl | rfl | rfl | rfl | rfl | rfl | rfl | rfl | rfl | rfl | rfl | rfl | rfl | rfl | rfl | rfl | rfl | rfl | rfl | rfl | rfl <;> (intros; omega))) dJ15_numberOfTrailingZeros_79
        · skip
          refine lv_iinc (v := nI (1 + 16 + 4)) (lv' := [(1, .int (nI (1 + 16 + 4))), (0, .int (nI ((2 ^ k_ - 1) >>> 16)))]) hx hb dJ15_numberOfTrailingZeros_55 hl (k := 1) rfl (nI_add (1 + 16) 4) (by decide) rfl (fun ls hl => ?_)
          refine lv_iload_n hx hb dJ15_numberOfTrailingZeros_58 rfl (lv_at hl 1 rfl) ?_
          refine lv_iconst (v := nI 4) hx hb dJ15_numberOfTrailingZeros_59 (by decide) ?_
          refine lv_iushr (v := nI (((2 ^ k_ - 1) >>> 16) >>> 4)) hx hb dJ15_numberOfTrailingZeros_60 (nI_ush (by have h_ : 2 ^ k_ ≤ 2 ^ 31 := Nat.pow_le_pow_right (by decide) (by omega); have h2_ := Nat.shiftRight_le (2 ^ k_ - 1) 16; have h3_ := Nat.shiftRight_le (2 ^ k_ - 1) 8; have h4_ := Nat.shiftRight_le (2 ^ k_ - 1) 4; (try simp only [← Nat.shiftRight_add]); have h5_ : ∀ a, (2 ^ k_ - 1) >>> a ≤ 2 ^ k_ - 1 := fun a => Nat.shiftRight_le _ a; first | omega | (refine Nat.lt_of_le_of_lt (h5_ _) ?_; omega)) (by decide)) ?_
          refine lv_istore_n (lv' := [(0, .int (nI (((2 ^ k_ - 1) >>> 16) >>> 4))), (1, .int (nI (1 + 16 + 4)))]) hx hb dJ15_numberOfTrailingZeros_61 rfl hl (by decide) rfl (fun ls hl => ?_)
          refine lv_iload_n hx hb dJ15_numberOfTrailingZeros_62 rfl (lv_at hl 0 rfl) ?_
          refine lv_iconst (v := nI 4) hx hb dJ15_numberOfTrailingZeros_63 (by decide) ?_
          refine nv_icmp_le (tgt := 74) hx hb dJ15_numberOfTrailingZeros_64 (by decide) (by have h_ : 2 ^ k_ ≤ 2 ^ 31 := Nat.pow_le_pow_right (by decide) (by omega); have h2_ := Nat.shiftRight_le (2 ^ k_ - 1) 16; have h3_ := Nat.shiftRight_le (2 ^ k_ - 1) 8; have h4_ := Nat.shiftRight_le (2 ^ k_ - 1) 4; (try simp only [← Nat.shiftRight_add]); have h5_ : ∀ a, (2 ^ k_ - 1) >>> a ≤ 2 ^ k_ - 1 := fun a => Nat.shiftRight_le _ a; first | omega | (refine Nat.lt_of_le_of_lt (h5_ _) ?_; omega)) (by decide) (fun c_64 => ?_) (fun c_64 => ?_)
          · skip
            refine lv_iload_n hx hb dJ15_numberOfTrailingZeros_74 rfl (lv_at hl 1 rfl) ?_
            refine lv_iload_n hx hb dJ15_numberOfTrailingZeros_75 rfl (lv_at hl 0 rfl) ?_
            refine lv_iconst (v := nI 1) hx hb dJ15_numberOfTrailingZeros_76 (by decide) ?_
            refine lv_iushr (v := nI ((((2 ^ k_ - 1) >>> 16) >>> 4) >>> 1)) hx hb dJ15_numberOfTrailingZeros_77 (nI_ush (by have h_ : 2 ^ k_ ≤ 2 ^ 31 := Nat.pow_le_pow_right (by decide) (by omega); have h2_ := Nat.shiftRight_le (2 ^ k_ - 1) 16; have h3_ := Nat.shiftRight_le (2 ^ k_ - 1) 8; have h4_ := Nat.shiftRight_le (2 ^ k_ - 1) 4; (try simp only [← Nat.shiftRight_add]); have h5_ : ∀ a, (2 ^ k_ - 1) >>> a ≤ 2 ^ k_ - 1 := fun a => Nat.shiftRight_le _ a; first | omega | (refine Nat.lt_of_le_of_lt (h5_ _) ?_; omega)) (by decide)) ?_
            refine nv_iadd hx hb dJ15_numberOfTrailingZeros_78 ?_
            subst hQQ
            exact xe_i (v := nI ((1 + 16 + 4) + ((((2 ^ k_ - 1) >>> 16) >>> 4) >>> 1))) () hx hb hr hlocks hK hP hD hS (congrArg nI (by (try revert c_64); (try revert c_52); (try revert c_38); (try revert c_23); revert c_9; revert hk; generalize k_ = k; intro hk; rcases (show k = 0 ∨ k = 1 ∨ k = 2 ∨ k = 3 ∨ k = 4 ∨ k = 5 ∨ k = 6 ∨ k = 7 ∨ k = 8 ∨ k = 9 ∨ k = 10 ∨ k = 11 ∨ k = 12 ∨ k = 13 ∨ k = 14 ∨ k = 15 ∨ k = 16 ∨ k = 17 ∨ k = 18 ∨ k = 19 ∨ k = 20 ∨ k = 21 ∨ k = 22 ∨ k = 23 ∨ k = 24 ∨ k = 25 ∨ k = 26 ∨ k = 27 ∨ k = 28 ∨ k = 29 ∨ k = 30 ∨ k = 31 by omega) with rfl | rfl | rfl | rfl | rfl | rfl | rfl | rfl | rfl | rfl | rfl | rfl | rfl | rfl | rfl | rfl | rfl | rfl | rfl | rfl | rfl | rfl | rfl | rfl | rfl | rfl | rfl | rfl | rfl | rfl | rfl | rfl <;> (intros; omega))) dJ15_numberOfTrailingZeros_79
          · skip
            refine lv_iinc (v := nI (1 + 16 + 4 + 2)) (lv' := [(1, .int (nI (1 + 16 + 4 + 2))), (0, .int (nI (((2 ^ k_ - 1) >>> 16) >>> 4)))]) hx hb dJ15_numberOfTrailingZeros_67 hl (k := 1) rfl (nI_add (1 + 16 + 4) 2) (by decide) rfl (fun ls hl => ?_)
            refine lv_iload_n hx hb dJ15_numberOfTrailingZeros_70 rfl (lv_at hl 1 rfl) ?_
            refine lv_iconst (v := nI 2) hx hb dJ15_numberOfTrailingZeros_71 (by decide) ?_
            refine lv_iushr (v := nI ((((2 ^ k_ - 1) >>> 16) >>> 4) >>> 2)) hx hb dJ15_numberOfTrailingZeros_72 (nI_ush (by have h_ : 2 ^ k_ ≤ 2 ^ 31 := Nat.pow_le_pow_right (by decide) (by omega); have h2_ := Nat.shiftRight_le (2 ^ k_ - 1) 16; have h3_ := Nat.shiftRight_le (2 ^ k_ - 1) 8; have h4_ := Nat.shiftRight_le (2 ^ k_ - 1) 4; (try simp only [← Nat.shiftRight_add]); have h5_ : ∀ a, (2 ^ k_ - 1) >>> a ≤ 2 ^ k_ - 1 := fun a => Nat.shiftRight_le _ a; first | omega | (refine Nat.lt_of_le_of_lt (h5_ _) ?_; omega)) (by decide)) ?_
            refine lv_istore_n (lv' := [(0, .int (nI ((((2 ^ k_ - 1) >>> 16) >>> 4) >>> 2))), (1, .int (nI (1 + 16 + 4 + 2)))]) hx hb dJ15_numberOfTrailingZeros_73 rfl hl (by decide) rfl (fun ls hl => ?_)
            refine lv_iload_n hx hb dJ15_numberOfTrailingZeros_74 rfl (lv_at hl 1 rfl) ?_
            refine lv_iload_n hx hb dJ15_numberOfTrailingZeros_75 rfl (lv_at hl 0 rfl) ?_
            refine lv_iconst (v := nI 1) hx hb dJ15_numberOfTrailingZeros_76 (by decide) ?_
            refine lv_iushr (v := nI (((((2 ^ k_ - 1) >>> 16) >>> 4) >>> 2) >>> 1)) hx hb dJ15_numberOfTrailingZeros_77 (nI_ush (by have h_ : 2 ^ k_ ≤ 2 ^ 31 := Nat.pow_le_pow_right (by decide) (by omega); have h2_ := Nat.shiftRight_le (2 ^ k_ - 1) 16; have h3_ := Nat.shiftRight_le (2 ^ k_ - 1) 8; have h4_ := Nat.shiftRight_le (2 ^ k_ - 1) 4; (try simp only [← Nat.shiftRight_add]); have h5_ : ∀ a, (2 ^ k_ - 1) >>> a ≤ 2 ^ k_ - 1 := fun a => Nat.shiftRight_le _ a; first | omega | (refine Nat.lt_of_le_of_lt (h5_ _) ?_; omega)) (by decide)) ?_
            refine nv_iadd hx hb dJ15_numberOfTrailingZeros_78 ?_
            subst hQQ
            exact xe_i (v := nI ((1 + 16 + 4 + 2) + (((((2 ^ k_ - 1) >>> 16) >>> 4) >>> 2) >>> 1))) () hx hb hr hlocks hK hP hD hS (congrArg nI (by (try revert c_64); (try revert c_52); (try revert c_38); (try revert c_23); revert c_9; revert hk; generalize k_ = k; intro hk; rcases (show k = 0 ∨ k = 1 ∨ k = 2 ∨ k = 3 ∨ k = 4 ∨ k = 5 ∨ k = 6 ∨ k = 7 ∨ k = 8 ∨ k = 9 ∨ k = 10 ∨ k = 11 ∨ k = 12 ∨ k = 13 ∨ k = 14 ∨ k = 15 ∨ k = 16 ∨ k = 17 ∨ k = 18 ∨ k = 19 ∨ k = 20 ∨ k = 21 ∨ k = 22 ∨ k = 23 ∨ k = 24 ∨ k = 25 ∨ k = 26 ∨ k = 27 ∨ k = 28 ∨ k = 29 ∨ k = 30 ∨ k = 31 by omega) with rfl | rfl | rfl | rfl | rfl | rfl | rfl | rfl | rfl | rfl | rfl | rfl | rfl | rfl | rfl | rfl | rfl | rfl | rfl | rfl | rfl | rfl | rfl | rfl | rfl | rfl | rfl | rfl | rfl | rfl | rfl | rfl <;> (intros; omega))) dJ15_numberOfTrailingZeros_79
      · skip
        refine lv_iinc (v := nI (1 + 16 + 8)) (lv' := [(1, .int (nI (1 + 16 + 8))), (0, .int (nI ((2 ^ k_ - 1) >>> 16)))]) hx hb dJ15_numberOfTrailingZeros_41 hl (k := 1) rfl (nI_add (1 + 16) 8) (by decide) rfl (fun ls hl => ?_)
        refine lv_iload_n hx hb dJ15_numberOfTrailingZeros_44 rfl (lv_at hl 1 rfl) ?_
        refine lv_bipush (v := nI 8) hx hb dJ15_numberOfTrailingZeros_45 (by decide) ?_
        refine lv_iushr (v := nI (((2 ^ k_ - 1) >>> 16) >>> 8)) hx hb dJ15_numberOfTrailingZeros_47 (nI_ush (by have h_ : 2 ^ k_ ≤ 2 ^ 31 := Nat.pow_le_pow_right (by decide) (by omega); have h2_ := Nat.shiftRight_le (2 ^ k_ - 1) 16; have h3_ := Nat.shiftRight_le (2 ^ k_ - 1) 8; have h4_ := Nat.shiftRight_le (2 ^ k_ - 1) 4; (try simp only [← Nat.shiftRight_add]); have h5_ : ∀ a, (2 ^ k_ - 1) >>> a ≤ 2 ^ k_ - 1 := fun a => Nat.shiftRight_le _ a; first | omega | (refine Nat.lt_of_le_of_lt (h5_ _) ?_; omega)) (by decide)) ?_
        refine lv_istore_n (lv' := [(0, .int (nI (((2 ^ k_ - 1) >>> 16) >>> 8))), (1, .int (nI (1 + 16 + 8)))]) hx hb dJ15_numberOfTrailingZeros_48 rfl hl (by decide) rfl (fun ls hl => ?_)
        refine lv_iload_n hx hb dJ15_numberOfTrailingZeros_49 rfl (lv_at hl 0 rfl) ?_
        refine lv_bipush (v := nI 16) hx hb dJ15_numberOfTrailingZeros_50 (by decide) ?_
        refine nv_icmp_le (tgt := 62) hx hb dJ15_numberOfTrailingZeros_52 (by decide) (by have h_ : 2 ^ k_ ≤ 2 ^ 31 := Nat.pow_le_pow_right (by decide) (by omega); have h2_ := Nat.shiftRight_le (2 ^ k_ - 1) 16; have h3_ := Nat.shiftRight_le (2 ^ k_ - 1) 8; have h4_ := Nat.shiftRight_le (2 ^ k_ - 1) 4; (try simp only [← Nat.shiftRight_add]); have h5_ : ∀ a, (2 ^ k_ - 1) >>> a ≤ 2 ^ k_ - 1 := fun a => Nat.shiftRight_le _ a; first | omega | (refine Nat.lt_of_le_of_lt (h5_ _) ?_; omega)) (by decide) (fun c_52 => ?_) (fun c_52 => ?_)
        · skip
          refine lv_iload_n hx hb dJ15_numberOfTrailingZeros_62 rfl (lv_at hl 0 rfl) ?_
          refine lv_iconst (v := nI 4) hx hb dJ15_numberOfTrailingZeros_63 (by decide) ?_
          refine nv_icmp_le (tgt := 74) hx hb dJ15_numberOfTrailingZeros_64 (by decide) (by have h_ : 2 ^ k_ ≤ 2 ^ 31 := Nat.pow_le_pow_right (by decide) (by omega); have h2_ := Nat.shiftRight_le (2 ^ k_ - 1) 16; have h3_ := Nat.shiftRight_le (2 ^ k_ - 1) 8; have h4_ := Nat.shiftRight_le (2 ^ k_ - 1) 4; (try simp only [← Nat.shiftRight_add]); have h5_ : ∀ a, (2 ^ k_ - 1) >>> a ≤ 2 ^ k_ - 1 := fun a => Nat.shiftRight_le _ a; first | omega | (refine Nat.lt_of_le_of_lt (h5_ _) ?_; omega)) (by decide) (fun c_64 => ?_) (fun c_64 => ?_)
          · skip
            refine lv_iload_n hx hb dJ15_numberOfTrailingZeros_74 rfl (lv_at hl 1 rfl) ?_
            refine lv_iload_n hx hb dJ15_numberOfTrailingZeros_75 rfl (lv_at hl 0 rfl) ?_
            refine lv_iconst (v := nI 1) hx hb dJ15_numberOfTrailingZeros_76 (by decide) ?_
            refine lv_iushr (v := nI ((((2 ^ k_ - 1) >>> 16) >>> 8) >>> 1)) hx hb dJ15_numberOfTrailingZeros_77 (nI_ush (by have h_ : 2 ^ k_ ≤ 2 ^ 31 := Nat.pow_le_pow_right (by decide) (by omega); have h2_ := Nat.shiftRight_le (2 ^ k_ - 1) 16; have h3_ := Nat.shiftRight_le (2 ^ k_ - 1) 8; have h4_ := Nat.shiftRight_le (2 ^ k_ - 1) 4; (try simp only [← Nat.shiftRight_add]); have h5_ : ∀ a, (2 ^ k_ - 1) >>> a ≤ 2 ^ k_ - 1 := fun a => Nat.shiftRight_le _ a; first | omega | (refine Nat.lt_of_le_of_lt (h5_ _) ?_; omega)) (by decide)) ?_
            refine nv_iadd hx hb dJ15_numberOfTrailingZeros_78 ?_
            subst hQQ
            exact xe_i (v := nI ((1 + 16 + 8) + ((((2 ^ k_ - 1) >>> 16) >>> 8) >>> 1))) () hx hb hr hlocks hK hP hD hS (congrArg nI (by (try revert c_64); (try revert c_52); (try revert c_38); (try revert c_23); revert c_9; revert hk; generalize k_ = k; intro hk; rcases (show k = 0 ∨ k = 1 ∨ k = 2 ∨ k = 3 ∨ k = 4 ∨ k = 5 ∨ k = 6 ∨ k = 7 ∨ k = 8 ∨ k = 9 ∨ k = 10 ∨ k = 11 ∨ k = 12 ∨ k = 13 ∨ k = 14 ∨ k = 15 ∨ k = 16 ∨ k = 17 ∨ k = 18 ∨ k = 19 ∨ k = 20 ∨ k = 21 ∨ k = 22 ∨ k = 23 ∨ k = 24 ∨ k = 25 ∨ k = 26 ∨ k = 27 ∨ k = 28 ∨ k = 29 ∨ k = 30 ∨ k = 31 by omega) with rfl | rfl | rfl | rfl | rfl | rfl | rfl | rfl | rfl | rfl | rfl | rfl | rfl | rfl | rfl | rfl | rfl | rfl | rfl | rfl | rfl | rfl | rfl | rfl | rfl | rfl | rfl | rfl | rfl | rfl | rfl | rfl <;> (intros; omega))) dJ15_numberOfTrailingZeros_79
          · skip
            refine lv_iinc (v := nI (1 + 16 + 8 + 2)) (lv' := [(1, .int (nI (1 + 16 + 8 + 2))), (0, .int (nI (((2 ^ k_ - 1) >>> 16) >>> 8)))]) hx hb dJ15_numberOfTrailingZeros_67 hl (k := 1) rfl (nI_add (1 + 16 + 8) 2) (by decide) rfl (fun ls hl => ?_)
            refine lv_iload_n hx hb dJ15_numberOfTrailingZeros_70 rfl (lv_at hl 1 rfl) ?_
            refine lv_iconst (v := nI 2) hx hb dJ15_numberOfTrailingZeros_71 (by decide) ?_
            refine lv_iushr (v := nI ((((2 ^ k_ - 1) >>> 16) >>> 8) >>> 2)) hx hb dJ15_numberOfTrailingZeros_72 (nI_ush (by have h_ : 2 ^ k_ ≤ 2 ^ 31 := Nat.pow_le_pow_right (by decide) (by omega); have h2_ := Nat.shiftRight_le (2 ^ k_ - 1) 16; have h3_ := Nat.shiftRight_le (2 ^ k_ - 1) 8; have h4_ := Nat.shiftRight_le (2 ^ k_ - 1) 4; (try simp only [← Nat.shiftRight_add]); have h5_ : ∀ a, (2 ^ k_ - 1) >>> a ≤ 2 ^ k_ - 1 := fun a => Nat.shiftRight_le _ a; first | omega | (refine Nat.lt_of_le_of_lt (h5_ _) ?_; omega)) (by decide)) ?_
            refine lv_istore_n (lv' := [(0, .int (nI ((((2 ^ k_ - 1) >>> 16) >>> 8) >>> 2))), (1, .int (nI (1 + 16 + 8 + 2)))]) hx hb dJ15_numberOfTrailingZeros_73 rfl hl (by decide) rfl (fun ls hl => ?_)
            refine lv_iload_n hx hb dJ15_numberOfTrailingZeros_74 rfl (lv_at hl 1 rfl) ?_
            refine lv_iload_n hx hb dJ15_numberOfTrailingZeros_75 rfl (lv_at hl 0 rfl) ?_
            refine lv_iconst (v := nI 1) hx hb dJ15_numberOfTrailingZeros_76 (by decide) ?_
            refine lv_iushr (v := nI (((((2 ^ k_ - 1) >>> 16) >>> 8) >>> 2) >>> 1)) hx hb dJ15_numberOfTrailingZeros_77 (nI_ush (by have h_ : 2 ^ k_ ≤ 2 ^ 31 := Nat.pow_le_pow_right (by decide) (by omega); have h2_ := Nat.shiftRight_le (2 ^ k_ - 1) 16; have h3_ := Nat.shiftRight_le (2 ^ k_ - 1) 8; have h4_ := Nat.shiftRight_le (2 ^ k_ - 1) 4; (try simp only [← Nat.shiftRight_add]); have h5_ : ∀ a, (2 ^ k_ - 1) >>> a ≤ 2 ^ k_ - 1 := fun a => Nat.shiftRight_le _ a; first | omega | (refine Nat.lt_of_le_of_lt (h5_ _) ?_; omega)) (by decide)) ?_
            refine nv_iadd hx hb dJ15_numberOfTrailingZeros_78 ?_
            subst hQQ
            exact xe_i (v := nI ((1 + 16 + 8 + 2) + (((((2 ^ k_ - 1) >>> 16) >>> 8) >>> 2) >>> 1))) () hx hb hr hlocks hK hP hD hS (congrArg nI (by (try revert c_64); (try revert c_52); (try revert c_38); (try revert c_23); revert c_9; revert hk; generalize k_ = k; intro hk; rcases (show k = 0 ∨ k = 1 ∨ k = 2 ∨ k = 3 ∨ k = 4 ∨ k = 5 ∨ k = 6 ∨ k = 7 ∨ k = 8 ∨ k = 9 ∨ k = 10 ∨ k = 11 ∨ k = 12 ∨ k = 13 ∨ k = 14 ∨ k = 15 ∨ k = 16 ∨ k = 17 ∨ k = 18 ∨ k = 19 ∨ k = 20 ∨ k = 21 ∨ k = 22 ∨ k = 23 ∨ k = 24 ∨ k = 25 ∨ k = 26 ∨ k = 27 ∨ k = 28 ∨ k = 29 ∨ k = 30 ∨ k = 31 by omega) with rfl | rfl | rfl | rfl | rfl | rfl | rfl | rfl | rfl | rfl | rfl | rfl | rfl | rfl | rfl | rfl | rfl | rfl | rfl | rfl | rfl | rfl | rfl | rfl | rfl | rfl | rfl | rfl | rfl | rfl | rfl | rfl <;> (intros; omega))) dJ15_numberOfTrailingZeros_79
        · skip
          refine lv_iinc (v := nI (1 + 16 + 8 + 4)) (lv' := [(1, .int (nI (1 + 16 + 8 + 4))), (0, .int (nI (((2 ^ k_ - 1) >>> 16) >>> 8)))]) hx hb dJ15_numberOfTrailingZeros_55 hl (k := 1) rfl (nI_add (1 + 16 + 8) 4) (by decide) rfl (fun ls hl => ?_)
          refine lv_iload_n hx hb dJ15_numberOfTrailingZeros_58 rfl (lv_at hl 1 rfl) ?_
          refine lv_iconst (v := nI 4) hx hb dJ15_numberOfTrailingZeros_59 (by decide) ?_
          refine lv_iushr (v := nI ((((2 ^ k_ - 1) >>> 16) >>> 8) >>> 4)) hx hb dJ15_numberOfTrailingZeros_60 (nI_ush (by have h_ : 2 ^ k_ ≤ 2 ^ 31 := Nat.pow_le_pow_right (by decide) (by omega); have h2_ := Nat.shiftRight_le (2 ^ k_ - 1) 16; have h3_ := Nat.shiftRight_le (2 ^ k_ - 1) 8; have h4_ := Nat.shiftRight_le (2 ^ k_ - 1) 4; (try simp only [← Nat.shiftRight_add]); have h5_ : ∀ a, (2 ^ k_ - 1) >>> a ≤ 2 ^ k_ - 1 := fun a => Nat.shiftRight_le _ a; first | omega | (refine Nat.lt_of_le_of_lt (h5_ _) ?_; omega)) (by decide)) ?_
          refine lv_istore_n (lv' := [(0, .int (nI ((((2 ^ k_ - 1) >>> 16) >>> 8) >>> 4))), (1, .int (nI (1 + 16 + 8 + 4)))]) hx hb dJ15_numberOfTrailingZeros_61 rfl hl (by decide) rfl (fun ls hl => ?_)
          refine lv_iload_n hx hb dJ15_numberOfTrailingZeros_62 rfl (lv_at hl 0 rfl) ?_
          refine lv_iconst (v := nI 4) hx hb dJ15_numberOfTrailingZeros_63 (by decide) ?_
          refine nv_icmp_le (tgt := 74) hx hb dJ15_numberOfTrailingZeros_64 (by decide) (by have h_ : 2 ^ k_ ≤ 2 ^ 31 := Nat.pow_le_pow_right (by decide) (by omega); have h2_ := Nat.shiftRight_le (2 ^ k_ - 1) 16; have h3_ := Nat.shiftRight_le (2 ^ k_ - 1) 8; have h4_ := Nat.shiftRight_le (2 ^ k_ - 1) 4; (try simp only [← Nat.shiftRight_add]); have h5_ : ∀ a, (2 ^ k_ - 1) >>> a ≤ 2 ^ k_ - 1 := fun a => Nat.shiftRight_le _ a; first | omega | (refine Nat.lt_of_le_of_lt (h5_ _) ?_; omega)) (by decide) (fun c_64 => ?_) (fun c_64 => ?_)
          · skip
            refine lv_iload_n hx hb dJ15_numberOfTrailingZeros_74 rfl (lv_at hl 1 rfl) ?_
            refine lv_iload_n hx hb dJ15_numberOfTrailingZeros_75 rfl (lv_at hl 0 rfl) ?_
            refine lv_iconst (v := nI 1) hx hb dJ15_numberOfTrailingZeros_76 (by decide) ?_
            refine lv_iushr (v := nI (((((2 ^ k_ - 1) >>> 16) >>> 8) >>> 4) >>> 1)) hx hb dJ15_numberOfTrailingZeros_77 (nI_ush (by have h_ : 2 ^ k_ ≤ 2 ^ 31 := Nat.pow_le_pow_right (by decide) (by omega); have h2_ := Nat.shiftRight_le (2 ^ k_ - 1) 16; have h3_ := Nat.shiftRight_le (2 ^ k_ - 1) 8; have h4_ := Nat.shiftRight_le (2 ^ k_ - 1) 4; (try simp only [← Nat.shiftRight_add]); have h5_ : ∀ a, (2 ^ k_ - 1) >>> a ≤ 2 ^ k_ - 1 := fun a => Nat.shiftRight_le _ a; first | omega | (refine Nat.lt_of_le_of_lt (h5_ _) ?_; omega)) (by decide)) ?_
            refine nv_iadd hx hb dJ15_numberOfTrailingZeros_78 ?_
            subst hQQ
            exact xe_i (v := nI ((1 + 16 + 8 + 4) + (((((2 ^ k_ - 1) >>> 16) >>> 8) >>> 4) >>> 1))) () hx hb hr hlocks hK hP hD hS (congrArg nI (by (try revert c_64); (try revert c_52); (try revert c_38); (try revert c_23); revert c_9; revert hk; generalize k_ = k; intro hk; rcases (show k = 0 ∨ k = 1 ∨ k = 2 ∨ k = 3 ∨ k = 4 ∨ k = 5 ∨ k = 6 ∨ k = 7 ∨ k = 8 ∨ k = 9 ∨ k = 10 ∨ k = 11 ∨ k = 12 ∨ k = 13 ∨ k = 14 ∨ k = 15 ∨ k = 16 ∨ k = 17 ∨ k = 18 ∨ k = 19 ∨ k = 20 ∨ k = 21 ∨ k = 22 ∨ k = 23 ∨ k = 24 ∨ k = 25 ∨ k = 26 ∨ k = 27 ∨ k = 28 ∨ k = 29 ∨ k = 30 ∨ k = 31 by omega) with rfl | rfl | rfl | rfl | rfl | rfl | rfl | rfl | rfl | rfl | rfl | rfl | rfl | rfl | rfl | rfl | rfl | rfl | rfl | rfl | rfl | rfl | rfl | rfl | rfl | rfl | rfl | rfl | rfl | rfl | rfl | rfl <;> (intros; omega))) dJ15_numberOfTrailingZeros_79
          · skip
            refine lv_iinc (v := nI (1 + 16 + 8 + 4 + 2)) (lv' := [(1, .int (nI (1 + 16 + 8 + 4 + 2))), (0, .int (nI ((((2 ^ k_ - 1) >>> 16) >>> 8) >>> 4)))]) hx hb dJ15_numberOfTrailingZeros_67 hl (k := 1) rfl (nI_add (1 + 16 + 8 + 4) 2) (by decide) rfl (fun ls hl => ?_)
            refine lv_iload_n hx hb dJ15_numberOfTrailingZeros_70 rfl (lv_at hl 1 rfl) ?_
            refine lv_iconst (v := nI 2) hx hb dJ15_numberOfTrailingZeros_71 (by decide) ?_
            refine lv_iushr (v := nI (((((2 ^ k_ - 1) >>> 16) >>> 8) >>> 4) >>> 2)) hx hb dJ15_numberOfTrailingZeros_72 (nI_ush (by have h_ : 2 ^ k_ ≤ 2 ^ 31 := Nat.pow_le_pow_right (by decide) (by omega); have h2_ := Nat.shiftRight_le (2 ^ k_ - 1) 16; have h3_ := Nat.shiftRight_le (2 ^ k_ - 1) 8; have h4_ := Nat.shiftRight_le (2 ^ k_ - 1) 4; (try simp only [← Nat.shiftRight_add]); have h5_ : ∀ a, (2 ^ k_ - 1) >>> a ≤ 2 ^ k_ - 1 := fun a => Nat.shiftRight_le _ a; first | omega | (refine Nat.lt_of_le_of_lt (h5_ _) ?_; omega)) (by decide)) ?_
            refine lv_istore_n (lv' := [(0, .int (nI (((((2 ^ k_ - 1) >>> 16) >>> 8) >>> 4) >>> 2))), (1, .int (nI (1 + 16 + 8 + 4 + 2)))]) hx hb dJ15_numberOfTrailingZeros_73 rfl hl (by decide) rfl (fun ls hl => ?_)
            refine lv_iload_n hx hb dJ15_numberOfTrailingZeros_74 rfl (lv_at hl 1 rfl) ?_
            refine lv_iload_n hx hb dJ15_numberOfTrailingZeros_75 rfl (lv_at hl 0 rfl) ?_
            refine lv_iconst (v := nI 1) hx hb dJ15_numberOfTrailingZeros_76 (by decide) ?_
            refine lv_iushr (v := nI ((((((2 ^ k_ - 1) >>> 16) >>> 8) >>> 4) >>> 2) >>> 1)) hx hb dJ15_numberOfTrailingZeros_77 (nI_ush (by have h_ : 2 ^ k_ ≤ 2 ^ 31 := Nat.pow_le_pow_right (by decide) (by omega); have h2_ := Nat.shiftRight_le (2 ^ k_ - 1) 16; have h3_ := Nat.shiftRight_le (2 ^ k_ - 1) 8; have h4_ := Nat.shiftRight_le (2 ^ k_ - 1) 4; (try simp only [← Nat.shiftRight_add]); have h5_ : ∀ a, (2 ^ k_ - 1) >>> a ≤ 2 ^ k_ - 1 := fun a => Nat.shiftRight_le _ a; first | omega | (refine Nat.lt_of_le_of_lt (h5_ _) ?_; omega)) (by decide)) ?_
            refine nv_iadd hx hb dJ15_numberOfTrailingZeros_78 ?_
            subst hQQ
            exact xe_i (v := nI ((1 + 16 + 8 + 4 + 2) + ((((((2 ^ k_ - 1) >>> 16) >>> 8) >>> 4) >>> 2) >>> 1))) () hx hb hr hlocks hK hP hD hS (congrArg nI (by (try revert c_64); (try revert c_52); (try revert c_38); (try revert c_23); revert c_9; revert hk; generalize k_ = k; intro hk; rcases (show k = 0 ∨ k = 1 ∨ k = 2 ∨ k = 3 ∨ k = 4 ∨ k = 5 ∨ k = 6 ∨ k = 7 ∨ k = 8 ∨ k = 9 ∨ k = 10 ∨ k = 11 ∨ k = 12 ∨ k = 13 ∨ k = 14 ∨ k = 15 ∨ k = 16 ∨ k = 17 ∨ k = 18 ∨ k = 19 ∨ k = 20 ∨ k = 21 ∨ k = 22 ∨ k = 23 ∨ k = 24 ∨ k = 25 ∨ k = 26 ∨ k = 27 ∨ k = 28 ∨ k = 29 ∨ k = 30 ∨ k = 31 by omega) with rfl | rfl | rfl | rfl | rfl | rfl | rfl | rfl | rfl | rfl | rfl | rfl | rfl | rfl | rfl | rfl | rfl | rfl | rfl | rfl | rfl | rfl | rfl | rfl | rfl | rfl | rfl | rfl | rfl | rfl | rfl | rfl <;> (intros; omega))) dJ15_numberOfTrailingZeros_79
  · skip
    refine lv_iload_n hx hb dJ15_numberOfTrailingZeros_12 rfl (lv_at hl 0 rfl) ?_
    refine lv_bipush (v := nI 32) hx hb dJ15_numberOfTrailingZeros_13 (by decide) ?_
    refine nv_iand hx hb dJ15_numberOfTrailingZeros_15 ?_
    subst hQQ
    exact xe_i (v := nI ((2 ^ k_ - 1) &&& 32)) () hx hb hr hlocks hK hP hD hS (congrArg nI (by (try revert c_64); (try revert c_52); (try revert c_38); (try revert c_23); revert c_9; revert hk; generalize k_ = k; intro hk; rcases (show k = 0 ∨ k = 1 ∨ k = 2 ∨ k = 3 ∨ k = 4 ∨ k = 5 ∨ k = 6 ∨ k = 7 ∨ k = 8 ∨ k = 9 ∨ k = 10 ∨ k = 11 ∨ k = 12 ∨ k = 13 ∨ k = 14 ∨ k = 15 ∨ k = 16 ∨ k = 17 ∨ k = 18 ∨ k = 19 ∨ k = 20 ∨ k = 21 ∨ k = 22 ∨ k = 23 ∨ k = 24 ∨ k = 25 ∨ k = 26 ∨ k = 27 ∨ k = 28 ∨ k = 29 ∨ k = 30 ∨ k = 31 by omega) with rfl | rfl | rfl | rfl | rfl | rfl | rfl | rfl | rfl | rfl | rfl | rfl | rfl | rfl | rfl | rfl | rfl | rfl | rfl | rfl | rfl | rfl | rfl | rfl | rfl | rfl | rfl | rfl | rfl | rfl | rfl | rfl <;> (intros; omega))) dJ15_numberOfTrailingZeros_16
set_option maxHeartbeats 4000000 in
set_option maxRecDepth 100000 in
theorem mt_J16_numberOfTrailingZeros (l : Launch) (D : va_G) (ca : Nat → ClassId) (n_ : Nat) (k_ : Nat) (x_ : Int64) (hx_ : x_ = lN n_) (hn : n_ < 2 ^ 64) (hb1 : n_.testBit k_ = true) (hb0 : ∀ j, j < k_ → n_.testBit j = false) (nn : Nat) : Met l yJ16_numberOfTrailingZeros (ws_ yJ16_numberOfTrailingZeros cJ16_numberOfTrailingZeros 3 (Option.some Jvm.ClassFile.FieldType.int)) ({ frames := 1, cells := 0, slots := 0, locals := 21 } : Room) (va_Pc [.long x_] (PreW Ev0 D vwCl (TY ca) ([] : va_W) nn)) (va_Qi (fun (r_ : Int32) (_ : Unit) => r_ = nI k_) (PostW D vwCl (TY ca) (fun (_ : Unit) => ([] : va_W)) (va_A ([] : va_W) nn)) (va_A ([] : va_W) nn)) 0 0 (va_A ([] : va_W) nn) := by
  refine met_go (QA := fun A => va_Qi (fun (r_ : Int32) (_ : Unit) => r_ = nI k_) (PostW D vwCl (TY ca) (fun (_ : Unit) => ([] : va_W)) A) A) (by decide) (Nat.le_of_ble_eq_true rfl) (fun p e s m below meth c A ls QQ hQQ hx hb hr hts hown hlocks hml hA hP hK hD hE hl => ?_)
  have hown : s.vm.findClass RJ16 = some m.cls := hown
  have hS : va_S A s.heap s.heap [] := va_S.rf
  have hl : lv_has ls 3 [(0, .long x_)] := hl
  generalize hHe : s.heap = H at hP ⊢
  have hS : va_S A s.heap H [] := hHe ▸ hS
  generalize ([] : List Loc) = locs at hS ⊢
  refine lv_lload_n hx hb dJ16_numberOfTrailingZeros_0 rfl (lv_at hl 0 rfl) ?_
  refine lv_l2i hx hb dJ16_numberOfTrailingZeros_1 rfl ?_
  refine lv_topi (nm_r (e' := nI n_) (by rw [hx_]; exact lN_i n_) ?_)
  refine lv_istore_n (lv' := [(2, .int (nI n_)), (0, .long x_)]) hx hb dJ16_numberOfTrailingZeros_2 rfl hl (by decide) rfl (fun ls hl => ?_)
  refine lv_iload_n hx hb dJ16_numberOfTrailingZeros_3 rfl (lv_at hl 0 rfl) ?_
  refine lv_if_ne (tgt := 21) hx hb dJ16_numberOfTrailingZeros_4 (by decide) (fun c_4 => ?_) (fun c_4 => ?_)
  · skip
    have hk2 := low_lt hb1 hb0 c_4
    refine lv_iload_n hx hb dJ16_numberOfTrailingZeros_21 rfl (lv_at hl 0 rfl) ?_
    refine xc_i (xr_S (As := [.int (nI n_)]) (rest := []) (mt_J15_numberOfTrailingZeros l D ca k_ (nI n_) hk2 (low_nI hb1 hb0) H.size) ⟨hx, hb, hml, hown, hts⟩ (va_cwS 1 hts (lw_S q1032 q1033 q99 q1034) rfl rfl rfl (by decide +kernel) ⟨Nat.le_of_ble_eq_true rfl, Nat.le_of_ble_eq_true rfl⟩) Ev0_ok hE hK hS (Cut.app (wc := []) (wr := ([] : va_W)) hP hD hS hA) rfl hl.1 rfl (Nat.le_of_ble_eq_true rfl) dJ16_numberOfTrailingZeros_22 ⟨Nat.le_of_ble_eq_true rfl, Nat.le_of_ble_eq_true rfl⟩) hS (Cut.app (wc := []) (wr := ([] : va_W)) hP hD hS hA) (fun r_2 u_3 H locs hq_22 hP hD hS => ?_)
    have hP : va_P D vwCl ([] : va_W) H := hP
    have hD : va_D A ([] : va_W) := hD
    have hp_22 : r_2 = nI k_ := hq_22
    clear hq_22
    obtain rfl := hp_22
    subst hQQ
    exact xe_i (v := nI k_) () hx hb hr hlocks hK hP hD hS (congrArg nI (by omega)) dJ16_numberOfTrailingZeros_25
  · skip
    have hk2 := low_ge hb1 c_4
    have hk64 : k_ < 64 := bit_small hn hb1
    refine lv_bipush (v := nI 32) hx hb dJ16_numberOfTrailingZeros_7 (by decide) ?_
    refine lv_lload_n hx hb dJ16_numberOfTrailingZeros_9 rfl (lv_at hl 1 rfl) ?_
    refine lv_bipush (v := nI 32) hx hb dJ16_numberOfTrailingZeros_10 (by decide) ?_
    refine lv_lushr (v := ush64 x_ 32) hx hb dJ16_numberOfTrailingZeros_12 rfl ?_
    refine lv_topl (nm_r (e' := lN (n_ >>> 32)) (by rw [hx_]; exact lN_ush hn (by decide)) ?_)
    refine lv_l2i hx hb dJ16_numberOfTrailingZeros_13 rfl ?_
    refine lv_topi (nm_r (e' := nI (n_ >>> 32)) (lN_i _) ?_)
    refine xc_i (xr_S (As := [.int (nI (n_ >>> 32))]) (rest := [.int (nI 32)]) (mt_J15_numberOfTrailingZeros l D ca (k_ - 32) (nI (n_ >>> 32)) (by omega) (low_nI (by rw [Nat.testBit_shiftRight, show 32 + (k_ - 32) = k_ by omega]; exact hb1) (fun j hj => by rw [Nat.testBit_shiftRight]; exact hb0 _ (by omega))) H.size) ⟨hx, hb, hml, hown, hts⟩ (va_cwS 1 hts (lw_S q1032 q1033 q99 q1034) rfl rfl rfl (by decide +kernel) ⟨Nat.le_of_ble_eq_true rfl, Nat.le_of_ble_eq_true rfl⟩) Ev0_ok hE hK hS (Cut.app (wc := []) (wr := ([] : va_W)) hP hD hS hA) rfl hl.1 rfl (Nat.le_of_ble_eq_true rfl) dJ16_numberOfTrailingZeros_14 ⟨Nat.le_of_ble_eq_true rfl, Nat.le_of_ble_eq_true rfl⟩) hS (Cut.app (wc := []) (wr := ([] : va_W)) hP hD hS hA) (fun r_4 u_5 H locs hq_14 hP hD hS => ?_)
    have hP : va_P D vwCl ([] : va_W) H := hP
    have hD : va_D A ([] : va_W) := hD
    have hp_14 : r_4 = nI (k_ - 32) := hq_14
    clear hq_14
    obtain rfl := hp_14
    refine nv_iadd hx hb dJ16_numberOfTrailingZeros_17 ?_
    refine lv_goto (tgt := 25) hx hb dJ16_numberOfTrailingZeros_18 (by decide) ?_
    subst hQQ
    exact xe_i (v := nI (32 + (k_ - 32))) () hx hb hr hlocks hK hP hD hS (congrArg nI (by omega)) dJ16_numberOfTrailingZeros_25
theorem lkx_rf {C : Nat → Nat} {f : Nat} : lkx C f f = true := by unfold lkx; exact decide_eq_true (fun _ _ => rfl)
theorem lkx_tr {C : Nat → Nat} {f g e : Nat} (h1 : lkx C f g = true) (h2 : lkx C g e = true) : lkx C f e = true := by
  unfold lkx at *; exact decide_eq_true (fun k hk => (of_decide_eq_true h1 k hk).trans (of_decide_eq_true h2 k hk))
theorem lkx_sy {C : Nat → Nat} {f g : Nat} (h1 : lkx C f g = true) : lkx C g f = true := by
  unfold lkx at *; exact decide_eq_true (fun k hk => (of_decide_eq_true h1 k hk).symm)
theorem lnw_iff {C : Nat → Nat} {f : Nat} : ∀ n, lnw C f n = true ↔ ∀ e, e < n → lkx C f e = false := by
  intro n; induction n with
  | zero => exact ⟨fun _ e h => absurd h (Nat.not_lt_zero e), fun _ => rfl⟩
  | succ n ih =>
    simp only [lnw, Bool.and_eq_true, Bool.not_eq_true']
    rw [ih]
    constructor
    · rintro ⟨a, b⟩ e he
      by_cases q : e = n
      · subst q; exact b
      · exact a e (by omega)
    · intro a; exact ⟨fun e he => a e (by omega), a n (by omega)⟩
theorem lnw_self {C : Nat → Nat} {f n : Nat} (h : f < n) : lnw C f n = false := by
  cases hb : lnw C f n with
  | false => rfl
  | true =>
    have := (lnw_iff n).mp hb f h
    rw [lkx_rf] at this; cases this
theorem lnw_skip {C : Nat → Nat} {n k g : Nat} (hnk : n ≤ k) (h : ∀ e, n ≤ e → e < k → lnw C e n = false) : lnw C g k = lnw C g n := by
  rw [Bool.eq_iff_iff, lnw_iff, lnw_iff]
  constructor
  · intro a e he; exact a e (by omega)
  · intro a e he
    by_cases q : e < n
    · exact a e q
    · cases hb : lkx C g e with
      | false => rfl
      | true =>
        exfalso
        have h2 := h e (by omega) he
        have h3 : lnw C e n = true := (lnw_iff n).mpr (fun x hx => by
          cases hc : lkx C e x with
          | false => rfl
          | true => have := a x hx; rw [lkx_tr hb hc] at this; cases this)
        rw [h2] at h3; cases h3
theorem lks_gap {C : Nat → Nat} {n : Nat} : ∀ k, n ≤ k → (∀ e, n ≤ e → e < k → lnw C e n = false) → lks C k = lks C n := by
  intro k; induction k with
  | zero => intro h _; rw [Nat.le_zero.mp h]
  | succ k ih =>
    intro h hg
    by_cases q : n = k + 1
    · rw [q]
    · simp only [lks]
      rw [ih (by omega) (fun e a b => hg e a (by omega)), lnw_skip (n := n) (k := k) (by omega) (fun e a b => hg e a (by omega)), hg k (by omega) (by omega)]; rfl
/-- the faults that look unlike all below n -/
def LfOk (C : Nat → Nat) (N n L : Nat) : Prop := L < 2 ^ N ∧ ∀ g, L.testBit g = (decide (g < N) && lnw C g n)
theorem Lf_0 {C : Nat → Nat} {N : Nat} : LfOk C N 0 (1 <<< N - 1) := by
  refine ⟨by rw [Nat.one_shiftLeft]; have := Nat.two_pow_pos N; omega, fun g => ?_⟩
  rw [Nat.one_shiftLeft, Nat.testBit_two_pow_sub_one]; simp [lnw]
theorem Lf_ge {C : Nat → Nat} {N n L k : Nat} (h : LfOk C N n L) (hk : L.testBit k = true) : n ≤ k ∧ k < N := by
  rw [h.2, Bool.and_eq_true, decide_eq_true_eq] at hk
  refine ⟨?_, hk.1⟩
  apply Classical.byContradiction; intro q
  have := lnw_self (C := C) (f := k) (n := n) (by omega)
  rw [this] at hk; exact absurd hk.2 (by decide)
theorem Lf_low {C : Nat → Nat} {N n L k : Nat} (h : LfOk C N n L) (hkN : k < N) (h0 : ∀ j, j < k → L.testBit j = false) : ∀ e, n ≤ e → e < k → lnw C e n = false := by
  intro e _ he
  have := h0 e he
  rw [h.2, decide_eq_true (by omega), Bool.true_and] at this
  exact this
theorem alk_bit {C : Nat → Nat} {F : Nat} : ∀ n i, (alk C F n).testBit i = (decide (i < n) && decide (apC C (i + 1) F = lN 0)) := by
  intro n; induction n with
  | zero => intro i; simp [alk]
  | succ n ih =>
    intro i
    simp only [alk]
    rw [Nat.testBit_or, ih]
    by_cases e : i = n
    · subst e
      by_cases h : apC C (i + 1) F = lN 0
      · rw [if_pos h, tb_sh]; simp [h]
      · rw [if_neg h, Nat.zero_testBit]; simp [h]
    · have h2 : decide (i < n + 1) = decide (i < n) := decide_eq_decide.mpr (by omega)
      rw [h2]
      split
      · rw [tb_sh, decide_eq_false (show ¬ n = i from fun q => e q.symm), Bool.or_false]
      · rw [Nat.zero_testBit, Bool.or_false]
theorem Lf_s {C : Nat → Nat} {N n L k : Nat} (h : LfOk C N n L) (hk : L.testBit k = true) (h0 : ∀ j, j < k → L.testBit j = false) : LfOk C N (k + 1) (adN L (alk C (k + 1) N)) ∧ lks C (k + 1) = lks C n + 1 := by
  obtain ⟨hn, hN⟩ := Lf_ge h hk
  have hl := Lf_low h hN h0
  refine ⟨⟨adN_le2 h.1, fun g => ?_⟩, ?_⟩
  · rw [adN_bit, alk_bit, h.2]
    simp only [lnw]
    rw [lnw_skip hn hl, lkx_ap]
    cases decide (g < N) <;> cases lnw C g n <;> cases decide (apC C (g + 1) (k + 1) = lN 0) <;> rfl
  · simp only [lks]
    rw [lks_gap k hn hl, lnw_skip hn hl]
    rw [h.2, Bool.and_eq_true] at hk
    rw [hk.2]; rfl
theorem Lf_e {C : Nat → Nat} {N n : Nat} (hn : n ≤ N) (h : LfOk C N n 0) : lks C N = lks C n := by
  apply lks_gap N hn
  intro e _ he
  have := h.2 e
  rw [Nat.zero_testBit, decide_eq_true he, Bool.true_and] at this
  exact this.symm
set_option maxHeartbeats 4000000 in
set_option maxRecDepth 100000 in
theorem mt_X1_looksByCollecting (l : Launch) (D : va_G) (ca : Nat → ClassId) (cq : Nat → Nat) (xq : Nat → Nat) (ak : Nat → Int32) (tb_ : Nat → Int64) (va : Nat → Int32) (fy : Nat → Int64) (cn : Nat → Int32) (an : Nat → Int32) (sw : Nat → Int64) (sb : Nat → Int64) (sv : Value) (C : Nat → Nat) (h0 : C 0 ≤ 12) (hkd0 : ∀ k, k < 12 → C (1 + k) < 8) (hse : ∀ k, k < 12 → C (13 + k) < 6 + k ∧ C (25 + k) < 6 + k) (ho : C 37 < 2 ^ 18) (hbx : C 38 < 2 ^ 18) (hno : popc 18 (C 37) ≤ 4) (nn : Nat) : Met l yX1_looksByCollecting (ws_ yX1_looksByCollecting cX1_looksByCollecting 4 (Option.some Jvm.ClassFile.FieldType.int)) ({ frames := 5, cells := 0, slots := 0, locals := 119 } : Room) (va_Pc [.ref (xq 0)] (PreW EvX D vwCl (TY ca) (WT ca cq xq (kdC C) (fsC C) (snC C) ak (nI (C 0)) (nI (C 37)) (nI (C 38)) (fI (C 39)) (nI (C 40)) (lN (C 66)) (nI (C 41)) tb_ va fy cn an sw sb sv) nn)) (va_Qi (fun (r_ : Int32) (u_ : (Nat → Int64) × (Nat → Int64)) => r_ = nI (lks C (2 * (6 + C 0)))) (PostW D vwCl (TY ca) (fun (u_ : (Nat → Int64) × (Nat → Int64)) => (WT ca cq xq (kdC C) (fsC C) (snC C) ak (nI (C 0)) (nI (C 37)) (nI (C 38)) (fI (C 39)) (nI (C 40)) (lN (C 66)) (nI (C 41)) u_.1 va u_.2 cn an sw sb sv)) (va_A (WT ca cq xq (kdC C) (fsC C) (snC C) ak (nI (C 0)) (nI (C 37)) (nI (C 38)) (fI (C 39)) (nI (C 40)) (lN (C 66)) (nI (C 41)) tb_ va fy cn an sw sb sv) nn)) (va_A (WT ca cq xq (kdC C) (fsC C) (snC C) ak (nI (C 0)) (nI (C 37)) (nI (C 38)) (fI (C 39)) (nI (C 40)) (lN (C 66)) (nI (C 41)) tb_ va fy cn an sw sb sv) nn)) 0 0 (va_A (WT ca cq xq (kdC C) (fsC C) (snC C) ak (nI (C 0)) (nI (C 37)) (nI (C 38)) (fI (C 39)) (nI (C 40)) (lN (C 66)) (nI (C 41)) tb_ va fy cn an sw sb sv) nn) := by
  refine met_go (QA := fun A => va_Qi (fun (r_ : Int32) (u_ : (Nat → Int64) × (Nat → Int64)) => r_ = nI (lks C (2 * (6 + C 0)))) (PostW D vwCl (TY ca) (fun (u_ : (Nat → Int64) × (Nat → Int64)) => (WT ca cq xq (kdC C) (fsC C) (snC C) ak (nI (C 0)) (nI (C 37)) (nI (C 38)) (fI (C 39)) (nI (C 40)) (lN (C 66)) (nI (C 41)) u_.1 va u_.2 cn an sw sb sv)) A) A) (by decide) (Nat.le_of_ble_eq_true rfl) (fun p e s m below meth c A ls QQ hQQ hx hb hr hts hown hlocks hml hA hP hK hD hE hl => ?_)
  have hown : s.vm.findClass RX1 = some m.cls := hown
  have hS : va_S A s.heap s.heap [] := va_S.rf
  have hl : lv_has ls 4 [(0, .ref (xq 0))] := hl
  generalize hHe : s.heap = H at hP ⊢
  have hS : va_S A s.heap H [] := hHe ▸ hS
  generalize ([] : List Loc) = locs at hS ⊢
  refine lv_lconst (v := lN 1) hx hb dX1_looksByCollecting_0 (by decide) ?_
  refine lv_aload_n hx hb dX1_looksByCollecting_1 rfl (lv_at hl 0 rfl) ?_
  refine gWT_5_circuit_X1 hx hb hts hown hK hP dX1_looksByCollecting_2 ?_
  refine xc_i (xr_V (b := cq 0) (ci := 1) (q0 := 0) (As := []) (rest := [.long (lN 1)]) (mt_X2_faults l D ca cq (kdC C) (fsC C) (snC C) ak (nI (C 37)) (nI (C 38)) (fI (C 39)) (nI (C 40)) (lN (C 66)) (nI (C 41)) (C 0)  H.size) ⟨hx, hb, hml, hown, hts⟩ (cwV 0 hts (lw_V q439 q440 q441 q80 q442) rfl rfl rfl (by decide +kernel) ⟨Nat.le_of_ble_eq_true rfl, Nat.le_of_ble_eq_true rfl⟩) EvX_ok hE hK hS (Cut.app (wc := (WC ca cq (kdC C) (fsC C) (snC C) ak (nI (C 0)) (nI (C 37)) (nI (C 38)) (fI (C 39)) (nI (C 40)) (lN (C 66)) (nI (C 41)))) (wr := (WTr ca cq xq tb_ va fy cn an sw sb sv)) hP hD hS hA) rfl rfl rfl hl.1 rfl (Nat.le_of_ble_eq_true rfl) dX1_looksByCollecting_5 ⟨Nat.le_of_ble_eq_true rfl, Nat.le_of_ble_eq_true rfl⟩) hS (Cut.app (wc := (WC ca cq (kdC C) (fsC C) (snC C) ak (nI (C 0)) (nI (C 37)) (nI (C 38)) (fI (C 39)) (nI (C 40)) (lN (C 66)) (nI (C 41)))) (wr := (WTr ca cq xq tb_ va fy cn an sw sb sv)) hP hD hS hA) (fun r_1 u_2 H locs hq_5 hP hD hS => ?_)
  have hP : va_P D vwCl (WT ca cq xq (kdC C) (fsC C) (snC C) ak (nI (C 0)) (nI (C 37)) (nI (C 38)) (fI (C 39)) (nI (C 40)) (lN (C 66)) (nI (C 41)) tb_ va fy cn an sw sb sv) H := hP
  have hD : va_D A (WT ca cq xq (kdC C) (fsC C) (snC C) ak (nI (C 0)) (nI (C 37)) (nI (C 38)) (fI (C 39)) (nI (C 40)) (lN (C 66)) (nI (C 41)) tb_ va fy cn an sw sb sv) := hD
  have hp_5 : r_1 = nI (2 * (6 + (C 0))) := hq_5
  clear hq_5
  obtain rfl := hp_5
  refine lv_lshl (v := shl64 (lN 1) (2 * (6 + (C 0)))) hx hb dX1_looksByCollecting_8 rfl ?_
  refine lv_topl (nm_r (e' := lN (1 <<< (2 * (6 + C 0)))) (shl_lN (by omega)) ?_)
  refine lv_lconst (v := lN 1) hx hb dX1_looksByCollecting_9 (by decide) ?_
  refine lv_lsub hx hb dX1_looksByCollecting_10 (lv_topl (nm_r (e' := lN ((1 <<< (2 * (6 + C 0))) - 1)) (klN_sub (by rw [Nat.one_shiftLeft]; exact Nat.two_pow_pos _)) ?_))
  refine lv_lstore_n (lv' := [(1, .long (lN ((1 <<< (2 * (6 + C 0))) - 1))), (0, .ref (xq 0))]) hx hb dX1_looksByCollecting_11 rfl hl (by decide) rfl (fun ls hl => ?_)
  refine lv_iconst (v := nI 0) hx hb dX1_looksByCollecting_12 (by decide) ?_
  refine lv_istore_n (lv' := [(3, .int (nI 0)), (1, .long (lN ((1 <<< (2 * (6 + C 0))) - 1))), (0, .ref (xq 0))]) hx hb dX1_looksByCollecting_13 rfl hl (by decide) rfl (fun ls hl => ?_)
  have lp_14 : ∀ (fu_14 : Nat) (n : Nat) (L_ : Nat) (t_ : Nat → Int64) (y_ : Nat → Int64), 2 * (6 + C 0) - n < fu_14 → (n ≤ 2 * (6 + C 0)) → (LfOk C (2 * (6 + C 0)) n L_) → ∀ (H : Heap) (locs : List Loc), va_P D vwCl (WT ca cq xq (kdC C) (fsC C) (snC C) ak (nI (C 0)) (nI (C 37)) (nI (C 38)) (fI (C 39)) (nI (C 40)) (lN (C 66)) (nI (C 41)) t_ va y_ cn an sw sb sv) H → va_D A (WT ca cq xq (kdC C) (fsC C) (snC C) ak (nI (C 0)) (nI (C 37)) (nI (C 38)) (fI (C 39)) (nI (C 40)) (lN (C 66)) (nI (C 41)) t_ va y_ cn an sw sb sv) → va_S A s.heap H locs → ∀ (ls : Array Slot), lv_has ls 4 [(3, .int (nI (lks C n))), (1, .long (lN L_)), (0, .ref (xq 0))] → W p l e ({ frames := 5, cells := 0, slots := 0, locals := 119 } : Room) s m ([.ref (xq 0)] : List Value).toArray below meth c H locs 0 0 QQ (F0 m 14 ls []) := by
    intro fu_14
    induction fu_14 with
    | zero => intro n L_ t_ y_ hfu; exact absurd hfu (Nat.not_lt_zero _)
    | succ fu_14 ih_14 =>
      intro n L_ t_ y_ hfu hn hL_ H locs hP hD hS ls hl
      refine lv_lload_n hx hb dX1_looksByCollecting_14 rfl (lv_at hl 1 rfl) ?_
      refine lv_lconst (v := lN 0) hx hb dX1_looksByCollecting_15 (by decide) ?_
      refine nv_lcmp_eq (tgt := 41) hx hb dX1_looksByCollecting_16 dX1_looksByCollecting_17 (by decide) (fun c_16 => ?_) (fun c_16 => ?_)
      · skip
        have hL64 : L_ < 2 ^ 64 := Nat.lt_of_lt_of_le hL_.1 (Nat.pow_le_pow_right (by decide) (by omega))
        have hL0 : L_ = 0 := (lN_eq0 hL64).mp c_16
        refine lv_iload_n hx hb dX1_looksByCollecting_41 rfl (lv_at hl 0 rfl) ?_
        subst hQQ
        exact xe_i (v := nI (lks C n)) (t_, y_) hx hb hr hlocks hK hP hD hS (congrArg nI (Lf_e hn (hL0 ▸ hL_)).symm) dX1_looksByCollecting_42
      · skip
        have hL0 : L_ ≠ 0 := fun z => c_16 (by rw [z])
        obtain ⟨k, hk1, hk0⟩ := low_ex hL0
        obtain ⟨hnk, hkN⟩ := Lf_ge hL_ hk1
        have hL64 : L_ < 2 ^ 64 := Nat.lt_of_lt_of_le hL_.1 (Nat.pow_le_pow_right (by decide) (by omega))
        refine lv_lload_n hx hb dX1_looksByCollecting_20 rfl (lv_at hl 1 rfl) ?_
        refine lv_aload_n hx hb dX1_looksByCollecting_21 rfl (lv_at hl 2 rfl) ?_
        refine lv_lload_n hx hb dX1_looksByCollecting_22 rfl (lv_at hl 1 rfl) ?_
        refine xc_i (xr_S (As := [.long (lN L_)]) (rest := [.ref (xq 0), .long (lN L_)]) (mt_J16_numberOfTrailingZeros l D ca L_ k (lN L_) rfl hL64 hk1 hk0 H.size) ⟨hx, hb, hml, hown, hts⟩ (va_cwS 1 hts (lw_S q1029 q1030 q100 q1031) rfl rfl rfl (by decide +kernel) ⟨Nat.le_of_ble_eq_true rfl, Nat.le_of_ble_eq_true rfl⟩) Ev0_ok trivial hK hS (Cut.app (wc := []) (wr := (WT ca cq xq (kdC C) (fsC C) (snC C) ak (nI (C 0)) (nI (C 37)) (nI (C 38)) (fI (C 39)) (nI (C 40)) (lN (C 66)) (nI (C 41)) t_ va y_ cn an sw sb sv)) hP hD hS hA) rfl hl.1 rfl (Nat.le_of_ble_eq_true rfl) dX1_looksByCollecting_23 ⟨Nat.le_of_ble_eq_true rfl, Nat.le_of_ble_eq_true rfl⟩) hS (Cut.app (wc := []) (wr := (WT ca cq xq (kdC C) (fsC C) (snC C) ak (nI (C 0)) (nI (C 37)) (nI (C 38)) (fI (C 39)) (nI (C 40)) (lN (C 66)) (nI (C 41)) t_ va y_ cn an sw sb sv)) hP hD hS hA) (fun r_4 u_5 H locs hq_23 hP hD hS => ?_)
        have hP : va_P D vwCl (WT ca cq xq (kdC C) (fsC C) (snC C) ak (nI (C 0)) (nI (C 37)) (nI (C 38)) (fI (C 39)) (nI (C 40)) (lN (C 66)) (nI (C 41)) t_ va y_ cn an sw sb sv) H := hP
        have hD : va_D A (WT ca cq xq (kdC C) (fsC C) (snC C) ak (nI (C 0)) (nI (C 37)) (nI (C 38)) (fI (C 39)) (nI (C 40)) (lN (C 66)) (nI (C 41)) t_ va y_ cn an sw sb sv) := hD
        have hp_23 : r_4 = nI k := hq_23
        clear hq_23
        obtain rfl := hp_23
        refine lv_topi (nm_r (e' := fI (k + 1)) (fI_S k) ?_)
        refine xc_l (xr_V (b := xq 0) (ci := 0) (q0 := 5) (As := [.int (fI (k + 1))]) (rest := [.long (lN L_)]) (mt_X1_alike_ok l D ca cq xq ak t_ va y_ cn an sw sb sv C (k + 1) (by first | assumption | omega | (simp only [updN, forgetC, changedC]; (repeat' split) <;> omega)) (by first | assumption | omega | (simp only [updN, forgetC, changedC]; (repeat' split) <;> omega)) (by first | assumption | omega | (simp only [updN, forgetC, changedC]; (repeat' split) <;> omega)) (by first | assumption | omega | (simp only [updN, forgetC, changedC]; (repeat' split) <;> omega)) (by first | assumption | omega | (simp only [updN, forgetC, changedC]; (repeat' split) <;> omega)) (by first | assumption | omega | (simp only [updN, forgetC, changedC]; (repeat' split) <;> omega)) (by first | assumption | omega | (simp only [updN, forgetC, changedC]; (repeat' split) <;> omega)) (by first | assumption | omega | (simp only [updN, forgetC, changedC]; (repeat' split) <;> omega)) H.size) ⟨hx, hb, hml, hown, hts⟩ (cwV 1 hts (lw_V q1036 q1037 q1038 q79 q1039) rfl rfl rfl (by decide +kernel) ⟨Nat.le_of_ble_eq_true rfl, Nat.le_of_ble_eq_true rfl⟩) EvX_ok hE hK hS (Cut.all hP hD hS hA) rfl rfl rfl hl.1 rfl (Nat.le_of_ble_eq_true rfl) dX1_looksByCollecting_26 ⟨Nat.le_of_ble_eq_true rfl, Nat.le_of_ble_eq_true rfl⟩) hS (Cut.all hP hD hS hA) (fun r_6 u_7 H locs hq_26 hP hD hS => ?_)
        obtain ⟨tb1_8, fy1_9⟩ := u_7
        have hP : va_P D vwCl (WT ca cq xq (kdC C) (fsC C) (snC C) ak (nI (C 0)) (nI (C 37)) (nI (C 38)) (fI (C 39)) (nI (C 40)) (lN (C 66)) (nI (C 41)) tb1_8 va fy1_9 cn an sw sb sv) H := hP
        have hD : va_D A (WT ca cq xq (kdC C) (fsC C) (snC C) ak (nI (C 0)) (nI (C 37)) (nI (C 38)) (fI (C 39)) (nI (C 40)) (lN (C 66)) (nI (C 41)) tb1_8 va fy1_9 cn an sw sb sv) := hD
        have hp_26 : r_6 = lN (alk C (k + 1) (2 * (6 + C 0))) := hq_26
        clear hq_26
        obtain rfl := hp_26
        refine lv_ldc2 (v := (-1)) hx hb hown (hts _ q476) dX1_looksByCollecting_29 ?_
        refine lv_lxor hx hb dX1_looksByCollecting_32 ?_
        refine lv_land hx hb dX1_looksByCollecting_33 ?_
        refine lv_topl (nm_r (e' := lN (adN L_ (alk C (k + 1) (2 * (6 + C 0))))) (lN_adn) ?_)
        refine lv_lstore_n (lv' := [(1, .long (lN (adN L_ (alk C (k + 1) (2 * (6 + C 0)))))), (3, .int (nI (lks C n))), (0, .ref (xq 0))]) hx hb dX1_looksByCollecting_34 rfl hl (by decide) rfl (fun ls hl => ?_)
        refine lv_iinc (v := nI (lks C n + 1)) (lv' := [(3, .int (nI (lks C n + 1))), (1, .long (lN (adN L_ (alk C (k + 1) (2 * (6 + C 0)))))), (0, .ref (xq 0))]) hx hb dX1_looksByCollecting_35 hl (k := 1) rfl (nI_add (lks C n) 1) (by decide) rfl (fun ls hl => ?_)
        refine lv_goto (tgt := 14) hx hb dX1_looksByCollecting_38 (by decide) ?_
        have hl : lv_has ls 4 [(3, .int (nI (lks C (k + 1)))), (1, .long (lN (adN L_ (alk C (k + 1) (2 * (6 + C 0)))))), (0, .ref (xq 0))] := (congrArg (fun x_ => lv_has ls 4 [(3, .int x_), (1, .long (lN (adN L_ (alk C (k + 1) (2 * (6 + C 0)))))), (0, .ref (xq 0))]) (show nI (lks C n + 1) = nI (lks C (k + 1)) from congrArg nI (Lf_s hL_ hk1 hk0).2.symm)).mp hl
        exact ih_14  (k + 1) (adN L_ (alk C (k + 1) (2 * (6 + C 0)))) tb1_8 fy1_9 (by omega) (by omega) (Lf_s hL_ hk1 hk0).1 _ _ hP hD hS ls (lv_sub hl [0, 1, 2] rfl)
  have hl : lv_has ls 4 [(3, .int (nI (lks C 0))), (1, .long (lN ((1 <<< (2 * (6 + C 0))) - 1))), (0, .ref (xq 0))] := (congrArg (fun x_ => lv_has ls 4 [(3, .int x_), (1, .long (lN ((1 <<< (2 * (6 + C 0))) - 1))), (0, .ref (xq 0))]) (show nI 0 = nI (lks C 0) from rfl)).mp hl
  exact lp_14 (2 * (6 + C 0) - 0 + 1) 0 (1 <<< (2 * (6 + C 0)) - 1) tb_ fy (Nat.lt_succ_self _) (by omega) Lf_0 _ _ hP hD hS ls (lv_sub hl [0, 1, 2] rfl)
set_option maxHeartbeats 4000000 in
set_option maxRecDepth 100000 in
theorem mt_X1_looks (l : Launch) (D : va_G) (ca : Nat → ClassId) (cq : Nat → Nat) (xq : Nat → Nat) (ak : Nat → Int32) (tb_ : Nat → Int64) (va : Nat → Int32) (fy : Nat → Int64) (cn : Nat → Int32) (an : Nat → Int32) (sw : Nat → Int64) (sb : Nat → Int64) (sv : Value) (C : Nat → Nat) (b_ : Bool) (h0 : C 0 ≤ 12) (hkd0 : ∀ k, k < 12 → C (1 + k) < 8) (hse : ∀ k, k < 12 → C (13 + k) < 6 + k ∧ C (25 + k) < 6 + k) (ho : C 37 < 2 ^ 18) (hbx : C 38 < 2 ^ 18) (hno : popc 18 (C 37) ≤ 4) (nn : Nat) : Met l yX1_looks (ws_ yX1_looks cX1_looks 2 (Option.some Jvm.ClassFile.FieldType.int)) ({ frames := 6, cells := 0, slots := 0, locals := 142 } : Room) (va_Pc [.ref (xq 0), .int (bI b_)] (PreW EvX D vwCl (TY ca) (WT ca cq xq (kdC C) (fsC C) (snC C) ak (nI (C 0)) (nI (C 37)) (nI (C 38)) (fI (C 39)) (nI (C 40)) (lN (C 66)) (nI (C 41)) tb_ va fy cn an sw sb sv) nn)) (va_Qi (fun (r_ : Int32) (u_ : (Nat → Int64) × (Nat → Int64)) => r_ = nI (lks C (2 * (6 + C 0)))) (PostW D vwCl (TY ca) (fun (u_ : (Nat → Int64) × (Nat → Int64)) => (WT ca cq xq (kdC C) (fsC C) (snC C) ak (nI (C 0)) (nI (C 37)) (nI (C 38)) (fI (C 39)) (nI (C 40)) (lN (C 66)) (nI (C 41)) u_.1 va u_.2 cn an sw sb sv)) (va_A (WT ca cq xq (kdC C) (fsC C) (snC C) ak (nI (C 0)) (nI (C 37)) (nI (C 38)) (fI (C 39)) (nI (C 40)) (lN (C 66)) (nI (C 41)) tb_ va fy cn an sw sb sv) nn)) (va_A (WT ca cq xq (kdC C) (fsC C) (snC C) ak (nI (C 0)) (nI (C 37)) (nI (C 38)) (fI (C 39)) (nI (C 40)) (lN (C 66)) (nI (C 41)) tb_ va fy cn an sw sb sv) nn)) 0 0 (va_A (WT ca cq xq (kdC C) (fsC C) (snC C) ak (nI (C 0)) (nI (C 37)) (nI (C 38)) (fI (C 39)) (nI (C 40)) (lN (C 66)) (nI (C 41)) tb_ va fy cn an sw sb sv) nn) := by
  refine met_go (QA := fun A => va_Qi (fun (r_ : Int32) (u_ : (Nat → Int64) × (Nat → Int64)) => r_ = nI (lks C (2 * (6 + C 0)))) (PostW D vwCl (TY ca) (fun (u_ : (Nat → Int64) × (Nat → Int64)) => (WT ca cq xq (kdC C) (fsC C) (snC C) ak (nI (C 0)) (nI (C 37)) (nI (C 38)) (fI (C 39)) (nI (C 40)) (lN (C 66)) (nI (C 41)) u_.1 va u_.2 cn an sw sb sv)) A) A) (by decide) (Nat.le_of_ble_eq_true rfl) (fun p e s m below meth c A ls QQ hQQ hx hb hr hts hown hlocks hml hA hP hK hD hE hl => ?_)
  have hown : s.vm.findClass RX1 = some m.cls := hown
  have hS : va_S A s.heap s.heap [] := va_S.rf
  have hl : lv_has ls 2 [(0, .ref (xq 0)), (1, .int (bI b_))] := hl
  generalize hHe : s.heap = H at hP ⊢
  have hS : va_S A s.heap H [] := hHe ▸ hS
  generalize ([] : List Loc) = locs at hS ⊢
  refine lv_iload_n hx hb dX1_looks_0 rfl (lv_at hl 1 rfl) ?_
  refine nv_ifb_eq (tgt := 11) hx hb dX1_looks_1 (by decide) (fun c_1 => ?_) (fun c_1 => ?_)
  · skip
    refine lv_aload_n hx hb dX1_looks_11 rfl (lv_at hl 0 rfl) ?_
    refine xc_i (xr_V (b := xq 0) (ci := 0) (q0 := 5) (As := []) (rest := []) (mt_X1_looksByCollecting l D ca cq xq ak tb_ va fy cn an sw sb sv C (by first | assumption | omega | (simp only [updN, forgetC, changedC]; (repeat' split) <;> omega)) (by first | assumption | omega | (simp only [updN, forgetC, changedC]; (repeat' split) <;> omega)) (by first | assumption | omega | (simp only [updN, forgetC, changedC]; (repeat' split) <;> omega)) (by first | assumption | omega | (simp only [updN, forgetC, changedC]; (repeat' split) <;> omega)) (by first | assumption | omega | (simp only [updN, forgetC, changedC]; (repeat' split) <;> omega)) (by first | assumption | omega | (simp only [updN, forgetC, changedC]; (repeat' split) <;> omega)) H.size) ⟨hx, hb, hml, hown, hts⟩ (cwV 0 hts (lw_V q1025 q1027 qs20 q79 q1028) rfl rfl rfl (by decide +kernel) ⟨Nat.le_of_ble_eq_true rfl, Nat.le_of_ble_eq_true rfl⟩) EvX_ok hE hK hS (Cut.all hP hD hS hA) rfl rfl rfl hl.1 rfl (Nat.le_of_ble_eq_true rfl) dX1_looks_12 ⟨Nat.le_of_ble_eq_true rfl, Nat.le_of_ble_eq_true rfl⟩) hS (Cut.all hP hD hS hA) (fun r_2 u_3 H locs hq_12 hP hD hS => ?_)
    obtain ⟨tb1_4, fy1_5⟩ := u_3
    have hP : va_P D vwCl (WT ca cq xq (kdC C) (fsC C) (snC C) ak (nI (C 0)) (nI (C 37)) (nI (C 38)) (fI (C 39)) (nI (C 40)) (lN (C 66)) (nI (C 41)) tb1_4 va fy1_5 cn an sw sb sv) H := hP
    have hD : va_D A (WT ca cq xq (kdC C) (fsC C) (snC C) ak (nI (C 0)) (nI (C 37)) (nI (C 38)) (fI (C 39)) (nI (C 40)) (lN (C 66)) (nI (C 41)) tb1_4 va fy1_5 cn an sw sb sv) := hD
    have hp_12 : r_2 = nI (lks C (2 * (6 + C 0))) := hq_12
    clear hq_12
    obtain rfl := hp_12
    subst hQQ
    exact xe_i (v := nI (lks C (2 * (6 + C 0)))) (tb1_4, fy1_5) hx hb hr hlocks hK hP hD hS (rfl) dX1_looks_15
  · skip
    refine lv_aload_n hx hb dX1_looks_4 rfl (lv_at hl 0 rfl) ?_
    refine xc_i (xr_V (b := xq 0) (ci := 0) (q0 := 5) (As := []) (rest := []) (mt_X1_looksByPairs l D ca cq xq ak tb_ va fy cn an sw sb sv C (by first | assumption | omega | (simp only [updN, forgetC, changedC]; (repeat' split) <;> omega)) (by first | assumption | omega | (simp only [updN, forgetC, changedC]; (repeat' split) <;> omega)) (by first | assumption | omega | (simp only [updN, forgetC, changedC]; (repeat' split) <;> omega)) (by first | assumption | omega | (simp only [updN, forgetC, changedC]; (repeat' split) <;> omega)) (by first | assumption | omega | (simp only [updN, forgetC, changedC]; (repeat' split) <;> omega)) (by first | assumption | omega | (simp only [updN, forgetC, changedC]; (repeat' split) <;> omega)) H.size) ⟨hx, hb, hml, hown, hts⟩ (cwV 0 hts (lw_V q1021 q1023 qs19 q79 q1024) rfl rfl rfl (by decide +kernel) ⟨Nat.le_of_ble_eq_true rfl, Nat.le_of_ble_eq_true rfl⟩) EvX_ok hE hK hS (Cut.all hP hD hS hA) rfl rfl rfl hl.1 rfl (Nat.le_of_ble_eq_true rfl) dX1_looks_5 ⟨Nat.le_of_ble_eq_true rfl, Nat.le_of_ble_eq_true rfl⟩) hS (Cut.all hP hD hS hA) (fun r_6 u_7 H locs hq_5 hP hD hS => ?_)
    obtain ⟨tb1_8, fy1_9⟩ := u_7
    have hP : va_P D vwCl (WT ca cq xq (kdC C) (fsC C) (snC C) ak (nI (C 0)) (nI (C 37)) (nI (C 38)) (fI (C 39)) (nI (C 40)) (lN (C 66)) (nI (C 41)) tb1_8 va fy1_9 cn an sw sb sv) H := hP
    have hD : va_D A (WT ca cq xq (kdC C) (fsC C) (snC C) ak (nI (C 0)) (nI (C 37)) (nI (C 38)) (fI (C 39)) (nI (C 40)) (lN (C 66)) (nI (C 41)) tb1_8 va fy1_9 cn an sw sb sv) := hD
    have hp_5 : r_6 = nI (lks C (2 * (6 + C 0))) := hq_5
    clear hq_5
    obtain rfl := hp_5
    refine lv_goto (tgt := 15) hx hb dX1_looks_8 (by decide) ?_
    subst hQQ
    exact xe_i (v := nI (lks C (2 * (6 + C 0)))) (tb1_8, fy1_9) hx hb hr hlocks hK hP hD hS (rfl) dX1_looks_15
set_option maxHeartbeats 4000000 in
set_option maxRecDepth 100000 in
theorem mt_X1_candidates (l : Launch) (D : va_G) (ca : Nat → ClassId) (cq : Nat → Nat) (xq : Nat → Nat) (ak : Nat → Int32) (tb_ : Nat → Int64) (va : Nat → Int32) (fy : Nat → Int64) (cn : Nat → Int32) (an : Nat → Int32) (sw : Nat → Int64) (sb : Nat → Int64) (sv : Value) (C : Nat → Nat) (b_ : Bool) (h0 : C 0 ≤ 12) (hkd0 : ∀ k, k < 12 → C (1 + k) < 8) (hse : ∀ k, k < 12 → C (13 + k) < 6 + k ∧ C (25 + k) < 6 + k) (ho : C 37 < 2 ^ 18) (hbx : C 38 < 2 ^ 18) (hno : popc 18 (C 37) ≤ 4) (hnb : popc 18 (C 38) ≤ 3) (hbsz : C 38 < 2 ^ C 0) (h40 : C 40 ≤ 1) (hak : C 41 ≤ 12) (hAk : AkOk C ak) (ha16 : ∀ k, k < 12 → C (54 + k) < 16) (ht64 : ∀ k, k < 12 → C (42 + k) < 64) (nn : Nat) : Met l yX1_candidates (ws_ yX1_candidates cX1_candidates 2 (Option.some Jvm.ClassFile.FieldType.int)) ({ frames := 6, cells := 0, slots := 0, locals := 146 } : Room) (va_Pc [.ref (xq 0), .int (bI b_)] (PreW EvX D vwCl (TY ca) (WT ca cq xq (kdC C) (fsC C) (snC C) ak (nI (C 0)) (nI (C 37)) (nI (C 38)) (fI (C 39)) (nI (C 40)) (lN (C 66)) (nI (C 41)) tb_ va fy cn an sw sb sv) nn)) (va_Qi (fun (r_ : Int32) (u_ : (Nat → Int64) × (Nat → Int32) × (Nat → Int32)) => r_ = nI ((cnds C).length)) (PostW D vwCl (TY ca) (fun (u_ : (Nat → Int64) × (Nat → Int32) × (Nat → Int32)) => (WT ca cq xq (kdC C) (fsC C) (snC C) ak (nI (C 0)) (nI (C 37)) (nI (C 38)) (fI (C 39)) (nI (C 40)) (lN (C 66)) (nI (C 41)) u_.1 u_.2.1 fy cn u_.2.2 sw sb sv)) (va_A (WT ca cq xq (kdC C) (fsC C) (snC C) ak (nI (C 0)) (nI (C 37)) (nI (C 38)) (fI (C 39)) (nI (C 40)) (lN (C 66)) (nI (C 41)) tb_ va fy cn an sw sb sv) nn)) (va_A (WT ca cq xq (kdC C) (fsC C) (snC C) ak (nI (C 0)) (nI (C 37)) (nI (C 38)) (fI (C 39)) (nI (C 40)) (lN (C 66)) (nI (C 41)) tb_ va fy cn an sw sb sv) nn)) 0 0 (va_A (WT ca cq xq (kdC C) (fsC C) (snC C) ak (nI (C 0)) (nI (C 37)) (nI (C 38)) (fI (C 39)) (nI (C 40)) (lN (C 66)) (nI (C 41)) tb_ va fy cn an sw sb sv) nn) := by
  refine met_go (QA := fun A => va_Qi (fun (r_ : Int32) (u_ : (Nat → Int64) × (Nat → Int32) × (Nat → Int32)) => r_ = nI ((cnds C).length)) (PostW D vwCl (TY ca) (fun (u_ : (Nat → Int64) × (Nat → Int32) × (Nat → Int32)) => (WT ca cq xq (kdC C) (fsC C) (snC C) ak (nI (C 0)) (nI (C 37)) (nI (C 38)) (fI (C 39)) (nI (C 40)) (lN (C 66)) (nI (C 41)) u_.1 u_.2.1 fy cn u_.2.2 sw sb sv)) A) A) (by decide) (Nat.le_of_ble_eq_true rfl) (fun p e s m below meth c A ls QQ hQQ hx hb hr hts hown hlocks hml hA hP hK hD hE hl => ?_)
  have hown : s.vm.findClass RX1 = some m.cls := hown
  have hS : va_S A s.heap s.heap [] := va_S.rf
  have hl : lv_has ls 2 [(0, .ref (xq 0)), (1, .int (bI b_))] := hl
  generalize hHe : s.heap = H at hP ⊢
  have hS : va_S A s.heap H [] := hHe ▸ hS
  generalize ([] : List Loc) = locs at hS ⊢
  refine lv_iload_n hx hb dX1_candidates_0 rfl (lv_at hl 1 rfl) ?_
  refine nv_ifb_eq (tgt := 11) hx hb dX1_candidates_1 (by decide) (fun c_1 => ?_) (fun c_1 => ?_)
  · skip
    refine lv_aload_n hx hb dX1_candidates_11 rfl (lv_at hl 0 rfl) ?_
    refine xc_i (xr_V (b := xq 0) (ci := 0) (q0 := 5) (As := []) (rest := []) (mt_X1_candidatesByAsks l D ca cq xq ak tb_ va fy cn an sw sb sv C (by first | assumption | omega | (simp only [updN, forgetC, changedC]; (repeat' split) <;> omega)) (by first | assumption | omega | (simp only [updN, forgetC, changedC]; (repeat' split) <;> omega)) (by first | assumption | omega | (simp only [updN, forgetC, changedC]; (repeat' split) <;> omega)) (by first | assumption | omega | (simp only [updN, forgetC, changedC]; (repeat' split) <;> omega)) (by first | assumption | omega | (simp only [updN, forgetC, changedC]; (repeat' split) <;> omega)) (by first | assumption | omega | (simp only [updN, forgetC, changedC]; (repeat' split) <;> omega)) (by first | assumption | omega | (simp only [updN, forgetC, changedC]; (repeat' split) <;> omega)) (by first | assumption | omega | (simp only [updN, forgetC, changedC]; (repeat' split) <;> omega)) (by first | assumption | omega | (simp only [updN, forgetC, changedC]; (repeat' split) <;> omega)) (by first | assumption | omega | (simp only [updN, forgetC, changedC]; (repeat' split) <;> omega)) (by first | assumption | omega | (simp only [updN, forgetC, changedC]; (repeat' split) <;> omega)) (by first | assumption | omega | (simp only [updN, forgetC, changedC]; (repeat' split) <;> omega)) (by first | assumption | omega | (simp only [updN, forgetC, changedC]; (repeat' split) <;> omega)) H.size) ⟨hx, hb, hml, hown, hts⟩ (cwV 0 hts (lw_V q1115 q1117 qs29 q79 q1118) rfl rfl rfl (by decide +kernel) ⟨Nat.le_of_ble_eq_true rfl, Nat.le_of_ble_eq_true rfl⟩) EvX_ok hE hK hS (Cut.all hP hD hS hA) rfl rfl rfl hl.1 rfl (Nat.le_of_ble_eq_true rfl) dX1_candidates_12 ⟨Nat.le_of_ble_eq_true rfl, Nat.le_of_ble_eq_true rfl⟩) hS (Cut.all hP hD hS hA) (fun r_2 u_3 H locs hq_12 hP hD hS => ?_)
    obtain ⟨va1_4, rfl⟩ : ∃ z_, z_ = u_3 := ⟨_, rfl⟩
    have hP : va_P D vwCl (WT ca cq xq (kdC C) (fsC C) (snC C) ak (nI (C 0)) (nI (C 37)) (nI (C 38)) (fI (C 39)) (nI (C 40)) (lN (C 66)) (nI (C 41)) tb_ va1_4 fy cn an sw sb sv) H := hP
    have hD : va_D A (WT ca cq xq (kdC C) (fsC C) (snC C) ak (nI (C 0)) (nI (C 37)) (nI (C 38)) (fI (C 39)) (nI (C 40)) (lN (C 66)) (nI (C 41)) tb_ va1_4 fy cn an sw sb sv) := hD
    have hp_12 : r_2 = nI ((cnds C).length) := hq_12
    clear hq_12
    obtain rfl := hp_12
    subst hQQ
    exact xe_i (v := nI ((cnds C).length)) (tb_, va1_4, an) hx hb hr hlocks hK hP hD hS (rfl) dX1_candidates_15
  · skip
    refine lv_aload_n hx hb dX1_candidates_4 rfl (lv_at hl 0 rfl) ?_
    refine xc_i (xr_V (b := xq 0) (ci := 0) (q0 := 5) (As := []) (rest := []) (mt_X1_candidatesByTables l D ca cq xq ak tb_ va fy cn an sw sb sv C (by first | assumption | omega | (simp only [updN, forgetC, changedC]; (repeat' split) <;> omega)) (by first | assumption | omega | (simp only [updN, forgetC, changedC]; (repeat' split) <;> omega)) (by first | assumption | omega | (simp only [updN, forgetC, changedC]; (repeat' split) <;> omega)) (by first | assumption | omega | (simp only [updN, forgetC, changedC]; (repeat' split) <;> omega)) (by first | assumption | omega | (simp only [updN, forgetC, changedC]; (repeat' split) <;> omega)) (by first | assumption | omega | (simp only [updN, forgetC, changedC]; (repeat' split) <;> omega)) (by first | assumption | omega | (simp only [updN, forgetC, changedC]; (repeat' split) <;> omega)) (by first | assumption | omega | (simp only [updN, forgetC, changedC]; (repeat' split) <;> omega)) (by first | assumption | omega | (simp only [updN, forgetC, changedC]; (repeat' split) <;> omega)) (by first | assumption | omega | (simp only [updN, forgetC, changedC]; (repeat' split) <;> omega)) (by first | assumption | omega | (simp only [updN, forgetC, changedC]; (repeat' split) <;> omega)) (by first | assumption | omega | (simp only [updN, forgetC, changedC]; (repeat' split) <;> omega)) (by first | assumption | omega | (simp only [updN, forgetC, changedC]; (repeat' split) <;> omega)) H.size) ⟨hx, hb, hml, hown, hts⟩ (cwV 0 hts (lw_V q1103 q1105 qs26 q79 q1106) rfl rfl rfl (by decide +kernel) ⟨Nat.le_of_ble_eq_true rfl, Nat.le_of_ble_eq_true rfl⟩) EvX_ok hE hK hS (Cut.all hP hD hS hA) rfl rfl rfl hl.1 rfl (Nat.le_of_ble_eq_true rfl) dX1_candidates_5 ⟨Nat.le_of_ble_eq_true rfl, Nat.le_of_ble_eq_true rfl⟩) hS (Cut.all hP hD hS hA) (fun r_5 u_6 H locs hq_5 hP hD hS => ?_)
    obtain ⟨tb1_7, an1_8⟩ := u_6
    have hP : va_P D vwCl (WT ca cq xq (kdC C) (fsC C) (snC C) ak (nI (C 0)) (nI (C 37)) (nI (C 38)) (fI (C 39)) (nI (C 40)) (lN (C 66)) (nI (C 41)) tb1_7 va fy cn an1_8 sw sb sv) H := hP
    have hD : va_D A (WT ca cq xq (kdC C) (fsC C) (snC C) ak (nI (C 0)) (nI (C 37)) (nI (C 38)) (fI (C 39)) (nI (C 40)) (lN (C 66)) (nI (C 41)) tb1_7 va fy cn an1_8 sw sb sv) := hD
    have hp_5 : r_5 = nI ((cnds C).length) := hq_5
    clear hq_5
    obtain rfl := hp_5
    refine lv_goto (tgt := 15) hx hb dX1_candidates_8 (by decide) ?_
    subst hQQ
    exact xe_i (v := nI ((cnds C).length)) (tb1_7, va, an1_8) hx hb hr hlocks hK hP hD hS (rfl) dX1_candidates_15
