/-! the component: values of lines in a test -/
set_option maxRecDepth 100000
theorem fillF_at {i k : Nat} {f g : Nat → Int32} (h : k < i) : fillF i f g k = f k := if_pos h
theorem inTl_bit {k : Nat} : ∀ n, n ≤ 64 → ∀ t, t < 64 → bit64 (inTl n k) t = (decide (t < n) && t.testBit k) := by
  intro n; induction n with
  | zero => intro _ t ht; show bit64 (lN 0) t = _; rw [bit_lN _ _ ht, Nat.zero_testBit]; rfl
  | succ n ih =>
    intro h t ht
    show bit64 (inTl n k ||| shl64 (lN (n >>> k &&& 1)) n) t = _
    have e : n >>> k &&& 1 = b2n (n.testBit k) := tb_if n k
    rw [bit_or, ih (by omega) t ht, e, shl_lN (by omega), bit_lN _ _ ht, b2n_sh]
    by_cases q : n = t
    · subst q; simp
    · by_cases q2 : t < n
      · simp [q, q2, show t < n + 1 by omega]
      · simp [q, q2, show ¬ t < n + 1 by omega]
theorem inT_bit {k t : Nat} (ht : t < 64) : bit64 (inT k) t = t.testBit k := by
  unfold inT; rw [inTl_bit 64 (Nat.le_refl _) t ht, decide_eq_true ht, Bool.true_and]
def preT (C : Nat → Nat) (K F l : Nat) : Int64 := if l < 6 then inT l else gT (kOf C K (l - 6)) (tb C K F (C (13 + (l - 6)))) (tb C K F (C (25 + (l - 6))))
theorem tbs_hi {C : Nat → Nat} {K F l n : Nat} (h : l < 6 + n) : ∀ m, n ≤ m → tbs C K F m l = tbs C K F n l := by
  intro m; induction m with
  | zero => intro hm; rw [Nat.le_zero.mp hm]
  | succ m ih =>
    intro hm
    by_cases e : n = m + 1
    · rw [e]
    · show (if l = 6 + m then _ else tbs C K F m l) = _
      rw [if_neg (by omega)]; exact ih (by omega)
theorem tb_pre {C : Nat → Nat} {K F l : Nat} (hse : ∀ k, k < 12 → C (13 + k) < 6 + k ∧ C (25 + k) < 6 + k) (h0 : C 0 ≤ 12) (hl : l < 6 + C 0) : tb C K F l = stk l F (preT C K F l) := by
  by_cases h : l < 6
  · unfold tb preT; rw [if_pos h, tbs_hi (n := 0) (by omega) _ (Nat.zero_le _)]; rfl
  · obtain ⟨g, rfl⟩ := Nat.le.dest (show 6 ≤ l by omega)
    have a := hse g (by omega)
    unfold preT
    rw [if_neg (by omega), show 6 + g - 6 = g by omega]
    unfold tb
    rw [tbs_hi (n := g + 1) (by omega) _ (by omega), tbs_hi (l := C (13 + g)) (n := g) a.1 _ (by omega), tbs_hi (l := C (25 + g)) (n := g) a.2 _ (by omega)]
    show (if 6 + g = 6 + g then _ else _) = _
    rw [if_pos rfl]
def vbN (k a b : Nat) : Nat := if k = 0 then (a + b) / 2 else if k = 1 then (if 0 < a + b then 1 else 0) else if k = 2 then (a + b) % 2 else if k = 3 then 1 - (a + b) / 2 else if k = 4 then (if 0 < a + b then 0 else 1) else if k = 5 then 1 - (a + b) % 2 else if k = 6 then 1 - a else a
def gB (k : Nat) (a b : Bool) : Bool := if k = 0 then a && b else if k = 1 then a || b else if k = 2 then a ^^ b else if k = 3 then !(a && b) else if k = 4 then !(a || b) else if k = 5 then !(a ^^ b) else if k = 6 then !a else a
theorem gB_bit {k t : Nat} {A B : Int64} (ht : t < 64) : bit64 (gT k A B) t = gB k (bit64 A t) (bit64 B t) := by
  unfold gT gB
  (repeat' split) <;> simp only [not64, bit_and, bit_or, bit_xor, bit_m1 t ht, Bool.xor_true]
theorem vbN_gB : ∀ k, k < 8 → ∀ a b : Bool, vbN k (b2n a) (b2n b) = b2n (gB k a b) := by decide
theorem vbN_gT {k t : Nat} {A B : Int64} (hk : k < 8) (ht : t < 64) : vbN k (b2n (bit64 A t)) (b2n (bit64 B t)) = b2n (bit64 (gT k A B) t) := by
  rw [gB_bit ht]; exact vbN_gB k hk _ _
theorem vstk_y {l F t : Nat} {v : Int64} (ht : t < 64) (h0 : ¬ F = 0) (h : (F - 1) / 2 = l) : (F - 1) % 2 = b2n (bit64 (stk l F v) t) := by
  unfold stk; rw [if_pos ⟨h0, h⟩]
  rcases (show (F - 1) % 2 = 0 ∨ (F - 1) % 2 = 1 by omega) with q | q
  · rw [q, if_neg (by decide), bit_lN _ _ ht, Nat.zero_testBit]; rfl
  · rw [q, if_pos rfl, bit_m1 t ht]; rfl
theorem vstk_n {l F : Nat} {v : Int64} (h : ¬ (F ≠ 0 ∧ (F - 1) / 2 = l)) : stk l F v = v := if_neg h
/-- the values of lines in a test -/
def vlF (C : Nat → Nat) (K F t : Nat) : Nat → Int32 := fun l => nI (b2n (bit64 (tb C K F l) t))
set_option maxHeartbeats 4000000 in
set_option maxRecDepth 100000 in
theorem mt_X1_valueBy (l : Launch) (D : va_G) (ca : Nat → ClassId) (k_ : Nat) (a_ : Nat) (b_ : Nat) (hk : k_ < 8) (ha1 : a_ ≤ 1) (hb1 : b_ ≤ 1) (nn : Nat) : Met l yX1_valueBy (ws_ yX1_valueBy cX1_valueBy 4 (Option.some Jvm.ClassFile.FieldType.int)) ({ frames := 0, cells := 0, slots := 0, locals := 0 } : Room) (va_Pc [.int (nI k_), .int (nI a_), .int (nI b_)] (PreW Ev0 D vwCl (TY ca) ([] : va_W) nn)) (va_Qi (fun (r_ : Int32) (_ : Unit) => r_ = nI (vbN k_ a_ b_)) (PostW D vwCl (TY ca) (fun (_ : Unit) => ([] : va_W)) (va_A ([] : va_W) nn)) (va_A ([] : va_W) nn)) 0 0 (va_A ([] : va_W) nn) := by
  refine met_go (QA := fun A => va_Qi (fun (r_ : Int32) (_ : Unit) => r_ = nI (vbN k_ a_ b_)) (PostW D vwCl (TY ca) (fun (_ : Unit) => ([] : va_W)) A) A) (by decide) (Nat.le_of_ble_eq_true rfl) (fun p e s m below meth c A ls QQ hQQ hx hb hr hts hown hlocks hml hA hP hK hD hE hl => ?_)
  have hown : s.vm.findClass RX1 = some m.cls := hown
  have hS : va_S A s.heap s.heap [] := va_S.rf
  have hl : lv_has ls 4 [(0, .int (nI k_)), (1, .int (nI a_)), (2, .int (nI b_))] := hl
  generalize hHe : s.heap = H at hP ⊢
  have hS : va_S A s.heap H [] := hHe ▸ hS
  generalize ([] : List Loc) = locs at hS ⊢
  refine lv_iload_n hx hb dX1_valueBy_0 rfl (lv_at hl 1 rfl) ?_
  refine lv_iload_n hx hb dX1_valueBy_1 rfl (lv_at hl 2 rfl) ?_
  refine nv_iadd hx hb dX1_valueBy_2 ?_
  refine lv_istore_n (lv' := [(3, .int (nI (a_ + b_))), (0, .int (nI k_)), (1, .int (nI a_)), (2, .int (nI b_))]) hx hb dX1_valueBy_3 rfl hl (by decide) rfl (fun ls hl => ?_)
  refine lv_iload_n hx hb dX1_valueBy_4 rfl (lv_at hl 1 rfl) ?_
  by_cases c_5 : k_ = 0
  · skip
    refine lv_tableIn (x := nI k_) (tgt := 48) (off := 43) hx hb dX1_valueBy_5 (by rw [c_5]; decide) (by rw [c_5]; decide) (by rw [c_5]; rfl) (by decide) ?_
    refine lv_iload_n hx hb dX1_valueBy_48 rfl (lv_at hl 0 rfl) ?_
    refine lv_iconst (v := nI 2) hx hb dX1_valueBy_49 (by decide) ?_
    refine nv_idiv hx hb dX1_valueBy_50 (by omega) (by omega) (by omega) ?_
    subst hQQ
    exact xe_i (v := nI ((a_ + b_) / 2)) () hx hb hr hlocks hK hP hD hS (congrArg nI (by unfold vbN; (repeat' split) <;> first | rfl | omega)) dX1_valueBy_51
  have n_5_0 : ¬ k_ = 0 := c_5
  clear c_5
  by_cases c_5 : k_ = 1
  · skip
    refine lv_tableIn (x := nI k_) (tgt := 52) (off := 47) hx hb dX1_valueBy_5 (by rw [c_5]; decide) (by rw [c_5]; decide) (by rw [c_5]; rfl) (by decide) ?_
    refine lv_iload_n hx hb dX1_valueBy_52 rfl (lv_at hl 0 rfl) ?_
    refine nv_if_le (tgt := 60) hx hb dX1_valueBy_53 (by decide) (by omega) (fun c_53 => ?_) (fun c_53 => ?_)
    · skip
      refine lv_iconst (v := nI 0) hx hb dX1_valueBy_60 (by decide) ?_
      subst hQQ
      exact xe_i (v := nI 0) () hx hb hr hlocks hK hP hD hS (congrArg nI (by unfold vbN; (repeat' split) <;> first | rfl | omega)) dX1_valueBy_61
    · skip
      refine lv_iconst (v := nI 1) hx hb dX1_valueBy_56 (by decide) ?_
      refine lv_goto (tgt := 61) hx hb dX1_valueBy_57 (by decide) ?_
      subst hQQ
      exact xe_i (v := nI 1) () hx hb hr hlocks hK hP hD hS (congrArg nI (by unfold vbN; (repeat' split) <;> first | rfl | omega)) dX1_valueBy_61
  have n_5_1 : ¬ k_ = 1 := c_5
  clear c_5
  by_cases c_5 : k_ = 2
  · skip
    refine lv_tableIn (x := nI k_) (tgt := 62) (off := 57) hx hb dX1_valueBy_5 (by rw [c_5]; decide) (by rw [c_5]; decide) (by rw [c_5]; rfl) (by decide) ?_
    refine lv_iload_n hx hb dX1_valueBy_62 rfl (lv_at hl 0 rfl) ?_
    refine lv_iconst (v := nI 2) hx hb dX1_valueBy_63 (by decide) ?_
    refine nv_irem hx hb dX1_valueBy_64 (by omega) (by omega) (by omega) ?_
    subst hQQ
    exact xe_i (v := nI ((a_ + b_) % 2)) () hx hb hr hlocks hK hP hD hS (congrArg nI (by unfold vbN; (repeat' split) <;> first | rfl | omega)) dX1_valueBy_65
  have n_5_2 : ¬ k_ = 2 := c_5
  clear c_5
  by_cases c_5 : k_ = 3
  · skip
    refine lv_tableIn (x := nI k_) (tgt := 66) (off := 61) hx hb dX1_valueBy_5 (by rw [c_5]; decide) (by rw [c_5]; decide) (by rw [c_5]; rfl) (by decide) ?_
    refine lv_iconst (v := nI 1) hx hb dX1_valueBy_66 (by decide) ?_
    refine lv_iload_n hx hb dX1_valueBy_67 rfl (lv_at hl 0 rfl) ?_
    refine lv_iconst (v := nI 2) hx hb dX1_valueBy_68 (by decide) ?_
    refine nv_idiv hx hb dX1_valueBy_69 (by omega) (by omega) (by omega) ?_
    refine nv_isub hx hb dX1_valueBy_70 (by omega) ?_
    subst hQQ
    exact xe_i (v := nI (1 - ((a_ + b_) / 2))) () hx hb hr hlocks hK hP hD hS (congrArg nI (by unfold vbN; (repeat' split) <;> first | rfl | omega)) dX1_valueBy_71
  have n_5_3 : ¬ k_ = 3 := c_5
  clear c_5
  by_cases c_5 : k_ = 4
  · skip
    refine lv_tableIn (x := nI k_) (tgt := 72) (off := 67) hx hb dX1_valueBy_5 (by rw [c_5]; decide) (by rw [c_5]; decide) (by rw [c_5]; rfl) (by decide) ?_
    refine lv_iload_n hx hb dX1_valueBy_72 rfl (lv_at hl 0 rfl) ?_
    refine nv_if_le (tgt := 80) hx hb dX1_valueBy_73 (by decide) (by omega) (fun c_73 => ?_) (fun c_73 => ?_)
    · skip
      refine lv_iconst (v := nI 1) hx hb dX1_valueBy_80 (by decide) ?_
      subst hQQ
      exact xe_i (v := nI 1) () hx hb hr hlocks hK hP hD hS (congrArg nI (by unfold vbN; (repeat' split) <;> first | rfl | omega)) dX1_valueBy_81
    · skip
      refine lv_iconst (v := nI 0) hx hb dX1_valueBy_76 (by decide) ?_
      refine lv_goto (tgt := 81) hx hb dX1_valueBy_77 (by decide) ?_
      subst hQQ
      exact xe_i (v := nI 0) () hx hb hr hlocks hK hP hD hS (congrArg nI (by unfold vbN; (repeat' split) <;> first | rfl | omega)) dX1_valueBy_81
  have n_5_4 : ¬ k_ = 4 := c_5
  clear c_5
  by_cases c_5 : k_ = 5
  · skip
    refine lv_tableIn (x := nI k_) (tgt := 82) (off := 77) hx hb dX1_valueBy_5 (by rw [c_5]; decide) (by rw [c_5]; decide) (by rw [c_5]; rfl) (by decide) ?_
    refine lv_iconst (v := nI 1) hx hb dX1_valueBy_82 (by decide) ?_
    refine lv_iload_n hx hb dX1_valueBy_83 rfl (lv_at hl 0 rfl) ?_
    refine lv_iconst (v := nI 2) hx hb dX1_valueBy_84 (by decide) ?_
    refine nv_irem hx hb dX1_valueBy_85 (by omega) (by omega) (by omega) ?_
    refine nv_isub hx hb dX1_valueBy_86 (by omega) ?_
    subst hQQ
    exact xe_i (v := nI (1 - ((a_ + b_) % 2))) () hx hb hr hlocks hK hP hD hS (congrArg nI (by unfold vbN; (repeat' split) <;> first | rfl | omega)) dX1_valueBy_87
  have n_5_5 : ¬ k_ = 5 := c_5
  clear c_5
  by_cases c_5 : k_ = 6
  · skip
    refine lv_tableIn (x := nI k_) (tgt := 88) (off := 83) hx hb dX1_valueBy_5 (by rw [c_5]; decide) (by rw [c_5]; decide) (by rw [c_5]; rfl) (by decide) ?_
    refine lv_iconst (v := nI 1) hx hb dX1_valueBy_88 (by decide) ?_
    refine lv_iload_n hx hb dX1_valueBy_89 rfl (lv_at hl 2 rfl) ?_
    refine nv_isub hx hb dX1_valueBy_90 (by omega) ?_
    subst hQQ
    exact xe_i (v := nI (1 - a_)) () hx hb hr hlocks hK hP hD hS (congrArg nI (by unfold vbN; (repeat' split) <;> first | rfl | omega)) dX1_valueBy_91
  have n_5_6 : ¬ k_ = 6 := c_5
  clear c_5
  refine lv_tableOut (x := nI k_) (tgt := 92) hx hb dX1_valueBy_5 (by rw [nI_toInt (by omega)]; omega) (by decide) ?_
  refine lv_iload_n hx hb dX1_valueBy_92 rfl (lv_at hl 2 rfl) ?_
  subst hQQ
  exact xe_i (v := nI a_) () hx hb hr hlocks hK hP hD hS (congrArg nI (by unfold vbN; (repeat' split) <;> first | rfl | omega)) dX1_valueBy_93
set_option maxHeartbeats 4000000 in
set_option maxRecDepth 100000 in
theorem mt_X1_layValues (l : Launch) (D : va_G) (ca : Nat → ClassId) (cq : Nat → Nat) (xq : Nat → Nat) (ak : Nat → Int32) (tb_ : Nat → Int64) (va : Nat → Int32) (fy : Nat → Int64) (cn : Nat → Int32) (an : Nat → Int32) (sw : Nat → Int64) (sb : Nat → Int64) (sv : Value) (C : Nat → Nat) (t_ : Nat) (K_ : Nat) (F_ : Nat) (h0 : C 0 ≤ 12) (hkd0 : ∀ k, k < 12 → C (1 + k) < 8) (hse : ∀ k, k < 12 → C (13 + k) < 6 + k ∧ C (25 + k) < 6 + k) (ho : C 37 < 2 ^ 18) (hbx : C 38 < 2 ^ 18) (hno : popc 18 (C 37) ≤ 4) (hK : K_ ≤ 216) (hF : F_ ≤ 100) (ht : t_ < 64) (nn : Nat) : Met l yX1_layValues (ws_ yX1_layValues cX1_layValues 7 (Option.none : Option Jvm.ClassFile.FieldType)) ({ frames := 2, cells := 0, slots := 0, locals := 45 } : Room) (va_Pc [.ref (xq 0), .int (nI t_), .int (fI K_), .int (fI F_)] (PreW EvX D vwCl (TY ca) (WT ca cq xq (kdC C) (fsC C) (snC C) ak (nI (C 0)) (nI (C 37)) (nI (C 38)) (fI (C 39)) (nI (C 40)) (lN (C 66)) (nI (C 41)) tb_ va fy cn an sw sb sv) nn)) (va_Qv (fun (_ : Unit) => True) (PostW D vwCl (TY ca) (fun (_ : Unit) => (WT ca cq xq (kdC C) (fsC C) (snC C) ak (nI (C 0)) (nI (C 37)) (nI (C 38)) (fI (C 39)) (nI (C 40)) (lN (C 66)) (nI (C 41)) tb_ (fillF (6 + C 0) (vlF C K_ F_ t_) va) fy cn an sw sb sv)) (va_A (WT ca cq xq (kdC C) (fsC C) (snC C) ak (nI (C 0)) (nI (C 37)) (nI (C 38)) (fI (C 39)) (nI (C 40)) (lN (C 66)) (nI (C 41)) tb_ va fy cn an sw sb sv) nn)) (va_A (WT ca cq xq (kdC C) (fsC C) (snC C) ak (nI (C 0)) (nI (C 37)) (nI (C 38)) (fI (C 39)) (nI (C 40)) (lN (C 66)) (nI (C 41)) tb_ va fy cn an sw sb sv) nn)) 0 0 (va_A (WT ca cq xq (kdC C) (fsC C) (snC C) ak (nI (C 0)) (nI (C 37)) (nI (C 38)) (fI (C 39)) (nI (C 40)) (lN (C 66)) (nI (C 41)) tb_ va fy cn an sw sb sv) nn) := by
  refine met_go (QA := fun A => va_Qv (fun (_ : Unit) => True) (PostW D vwCl (TY ca) (fun (_ : Unit) => (WT ca cq xq (kdC C) (fsC C) (snC C) ak (nI (C 0)) (nI (C 37)) (nI (C 38)) (fI (C 39)) (nI (C 40)) (lN (C 66)) (nI (C 41)) tb_ (fillF (6 + C 0) (vlF C K_ F_ t_) va) fy cn an sw sb sv)) A) A) (by decide) (Nat.le_of_ble_eq_true rfl) (fun p e s m below meth c A ls QQ hQQ hx hb hr hts hown hlocks hml hA hP hK hD hE hl => ?_)
  have hown : s.vm.findClass RX1 = some m.cls := hown
  have hS : va_S A s.heap s.heap [] := va_S.rf
  have hl : lv_has ls 7 [(0, .ref (xq 0)), (1, .int (nI t_)), (2, .int (fI K_)), (3, .int (fI F_))] := hl
  generalize hHe : s.heap = H at hP ⊢
  have hS : va_S A s.heap H [] := hHe ▸ hS
  generalize ([] : List Loc) = locs at hS ⊢
  refine lv_iconst (v := nI 0) hx hb dX1_layValues_0 (by decide) ?_
  refine lv_istore (lv' := [(4, .int (nI 0)), (0, .ref (xq 0)), (1, .int (nI t_)), (2, .int (fI K_)), (3, .int (fI F_))]) hx hb dX1_layValues_1 hl (by decide) rfl (fun ls hl => ?_)
  have lp_3 : ∀ (fu_3 : Nat) (i : Nat), 6 + C 0 - i < fu_3 → (i ≤ 6 + C 0) → ∀ (H : Heap) (locs : List Loc), va_P D vwCl (WT ca cq xq (kdC C) (fsC C) (snC C) ak (nI (C 0)) (nI (C 37)) (nI (C 38)) (fI (C 39)) (nI (C 40)) (lN (C 66)) (nI (C 41)) tb_ (fillF i (vlF C K_ F_ t_) va) fy cn an sw sb sv) H → va_D A (WT ca cq xq (kdC C) (fsC C) (snC C) ak (nI (C 0)) (nI (C 37)) (nI (C 38)) (fI (C 39)) (nI (C 40)) (lN (C 66)) (nI (C 41)) tb_ (fillF i (vlF C K_ F_ t_) va) fy cn an sw sb sv) → va_S A s.heap H locs → ∀ (ls : Array Slot), lv_has ls 7 [(4, .int (nI i)), (0, .ref (xq 0)), (1, .int (nI t_)), (2, .int (fI K_)), (3, .int (fI F_))] → W p l e ({ frames := 2, cells := 0, slots := 0, locals := 45 } : Room) s m ([.ref (xq 0), .int (nI t_), .int (fI K_), .int (fI F_)] : List Value).toArray below meth c H locs 0 0 QQ (F0 m 3 ls []) := by
    intro fu_3
    induction fu_3 with
    | zero => intro i hfu; exact absurd hfu (Nat.not_lt_zero _)
    | succ fu_3 ih_3 =>
      intro i hfu hi H locs hP hD hS ls hl
      refine lv_iload hx hb dX1_layValues_3 (lv_at hl 0 rfl) ?_
      refine lv_aload_n hx hb dX1_layValues_5 rfl (lv_at hl 1 rfl) ?_
      refine gWT_5_circuit_X1 hx hb hts hown hK hP dX1_layValues_6 ?_
      refine xc_i (xr_V (b := cq 0) (ci := 1) (q0 := 0) (As := []) (rest := [.int (nI i)]) (mt_X2_lines l D ca cq (kdC C) (fsC C) (snC C) ak (nI (C 37)) (nI (C 38)) (fI (C 39)) (nI (C 40)) (lN (C 66)) (nI (C 41)) (C 0)  H.size) ⟨hx, hb, hml, hown, hts⟩ (cwV 0 hts (lw_V q477 q444 q445 q80 q446) rfl rfl rfl (by decide +kernel) ⟨Nat.le_of_ble_eq_true rfl, Nat.le_of_ble_eq_true rfl⟩) EvX_ok hE hK hS (Cut.app (wc := (WC ca cq (kdC C) (fsC C) (snC C) ak (nI (C 0)) (nI (C 37)) (nI (C 38)) (fI (C 39)) (nI (C 40)) (lN (C 66)) (nI (C 41)))) (wr := (WTr ca cq xq tb_ (fillF i (vlF C K_ F_ t_) va) fy cn an sw sb sv)) hP hD hS hA) rfl rfl rfl hl.1 rfl (Nat.le_of_ble_eq_true rfl) dX1_layValues_9 ⟨Nat.le_of_ble_eq_true rfl, Nat.le_of_ble_eq_true rfl⟩) hS (Cut.app (wc := (WC ca cq (kdC C) (fsC C) (snC C) ak (nI (C 0)) (nI (C 37)) (nI (C 38)) (fI (C 39)) (nI (C 40)) (lN (C 66)) (nI (C 41)))) (wr := (WTr ca cq xq tb_ (fillF i (vlF C K_ F_ t_) va) fy cn an sw sb sv)) hP hD hS hA) (fun r_1 u_2 H locs hq_9 hP hD hS => ?_)
      have hP : va_P D vwCl (WT ca cq xq (kdC C) (fsC C) (snC C) ak (nI (C 0)) (nI (C 37)) (nI (C 38)) (fI (C 39)) (nI (C 40)) (lN (C 66)) (nI (C 41)) tb_ (fillF i (vlF C K_ F_ t_) va) fy cn an sw sb sv) H := hP
      have hD : va_D A (WT ca cq xq (kdC C) (fsC C) (snC C) ak (nI (C 0)) (nI (C 37)) (nI (C 38)) (fI (C 39)) (nI (C 40)) (lN (C 66)) (nI (C 41)) tb_ (fillF i (vlF C K_ F_ t_) va) fy cn an sw sb sv) := hD
      have hp_9 : r_1 = nI (6 + (C 0)) := hq_9
      clear hq_9
      obtain rfl := hp_9
      refine nv_icmp_ge (tgt := 114) hx hb dX1_layValues_12 (by decide) (by omega) (by omega) (fun c_12 => ?_) (fun c_12 => ?_)
      · skip
        have e_ : 6 + C 0 = i := Eq.symm (by omega)
        subst e_
        subst hQQ
        exact xe_v () hx hb hr hlocks hK hP hD hS (trivial) dX1_layValues_114
      · skip
        refine lv_iload hx hb dX1_layValues_15 (lv_at hl 0 rfl) ?_
        refine lv_bipush (v := nI 6) hx hb dX1_layValues_17 (by decide) ?_
        refine lv_isub hx hb dX1_layValues_19 ?_
        refine lv_istore (lv' := [(5, .int ((nI i) - (nI 6))), (4, .int (nI i)), (0, .ref (xq 0)), (1, .int (nI t_)), (2, .int (fI K_)), (3, .int (fI F_))]) hx hb dX1_layValues_20 hl (by decide) rfl (fun ls hl => ?_)
        refine lv_iload hx hb dX1_layValues_22 (lv_at hl 1 rfl) ?_
        refine lv_bipush (v := nI 6) hx hb dX1_layValues_24 (by decide) ?_
        refine nv_icmp_ge (tgt := 38) hx hb dX1_layValues_26 (by decide) (by omega) (by omega) (fun c_26 => ?_) (fun c_26 => ?_)
        · skip
          have hl : lv_has ls 7 [(5, .int (nI (i - 6))), (4, .int (nI i)), (0, .ref (xq 0)), (1, .int (nI t_)), (2, .int (fI K_)), (3, .int (fI F_))] := (congrArg (fun x_ => lv_has ls 7 [(5, .int x_), (4, .int (nI i)), (0, .ref (xq 0)), (1, .int (nI t_)), (2, .int (fI K_)), (3, .int (fI F_))]) (show (nI i) - (nI 6) = nI (i - 6) from pk_sub (by omega))).mp hl
          refine lv_aload_n hx hb dX1_layValues_38 rfl (lv_at hl 2 rfl) ?_
          refine lv_iload hx hb dX1_layValues_39 (lv_at hl 0 rfl) ?_
          refine lv_iload_n hx hb dX1_layValues_41 rfl (lv_at hl 4 rfl) ?_
          refine xc_i (xr_V (b := xq 0) (ci := 0) (q0 := 5) (As := [.int (nI (i - 6)), .int (fI K_)]) (rest := []) (mt_X1_kindBy l D ca cq xq ak tb_ (fillF i (vlF C K_ F_ t_) va) fy cn an sw sb sv C (i - 6) K_ (by first | assumption | omega | (simp only [updN, forgetC, changedC]; (repeat' split) <;> omega)) (by first | assumption | omega | (simp only [updN, forgetC, changedC]; (repeat' split) <;> omega)) (by first | assumption | omega | (simp only [updN, forgetC, changedC]; (repeat' split) <;> omega)) (by first | assumption | omega | (simp only [updN, forgetC, changedC]; (repeat' split) <;> omega)) H.size) ⟨hx, hb, hml, hown, hts⟩ (cwV 2 hts (lw_V q460 q462 qs9 q79 q463) rfl rfl rfl (by decide +kernel) ⟨Nat.le_of_ble_eq_true rfl, Nat.le_of_ble_eq_true rfl⟩) EvX_ok hE hK hS (Cut.all hP hD hS hA) rfl rfl rfl hl.1 rfl (Nat.le_of_ble_eq_true rfl) dX1_layValues_42 ⟨Nat.le_of_ble_eq_true rfl, Nat.le_of_ble_eq_true rfl⟩) hS (Cut.all hP hD hS hA) (fun r_5 u_6 H locs hq_42 hP hD hS => ?_)
          have hP : va_P D vwCl (WT ca cq xq (kdC C) (fsC C) (snC C) ak (nI (C 0)) (nI (C 37)) (nI (C 38)) (fI (C 39)) (nI (C 40)) (lN (C 66)) (nI (C 41)) tb_ (fillF i (vlF C K_ F_ t_) va) fy cn an sw sb sv) H := hP
          have hD : va_D A (WT ca cq xq (kdC C) (fsC C) (snC C) ak (nI (C 0)) (nI (C 37)) (nI (C 38)) (fI (C 39)) (nI (C 40)) (lN (C 66)) (nI (C 41)) tb_ (fillF i (vlF C K_ F_ t_) va) fy cn an sw sb sv) := hD
          have hp_42 : r_5 = nI (kOf C K_ (i - 6)) := hq_42
          clear hq_42
          obtain rfl := hp_42
          refine lv_aload_n hx hb dX1_layValues_45 rfl (lv_at hl 2 rfl) ?_
          refine gWT_5_values_X1 hx hb hts hown hK hP dX1_layValues_46 ?_
          refine lv_aload_n hx hb dX1_layValues_49 rfl (lv_at hl 2 rfl) ?_
          refine gWT_5_circuit_X1 hx hb hts hown hK hP dX1_layValues_50 ?_
          refine gWT_0_firsts_X1 hE hx hb hts hown hK hP dX1_layValues_53 ?_
          refine lv_iload hx hb dX1_layValues_56 (lv_at hl 0 rfl) ?_
          refine ldWT_2 hx hb hK hP (by omega) dX1_layValues_58 ?_
          refine lv_topi (nm_r (e' := nI (C (13 + (i - 6)))) (rfl) ?_)
          refine ldWT_7 hx hb hK hP (by have := hse (i - 6) (by omega); omega) dX1_layValues_59 ?_
          refine lv_topi (nm_r (e' := nI (b2n (bit64 (tb C K_ F_ (C (13 + (i - 6)))) t_))) ((fillF_at (by have := hse (i - 6) (by omega); omega))) ?_)
          refine lv_aload_n hx hb dX1_layValues_60 rfl (lv_at hl 2 rfl) ?_
          refine gWT_5_values_X1 hx hb hts hown hK hP dX1_layValues_61 ?_
          refine lv_aload_n hx hb dX1_layValues_64 rfl (lv_at hl 2 rfl) ?_
          refine gWT_5_circuit_X1 hx hb hts hown hK hP dX1_layValues_65 ?_
          refine gWT_0_seconds_X1 hE hx hb hts hown hK hP dX1_layValues_68 ?_
          refine lv_iload hx hb dX1_layValues_71 (lv_at hl 0 rfl) ?_
          refine ldWT_3 hx hb hK hP (by omega) dX1_layValues_73 ?_
          refine lv_topi (nm_r (e' := nI (C (25 + (i - 6)))) (rfl) ?_)
          refine ldWT_7 hx hb hK hP (by have := hse (i - 6) (by omega); omega) dX1_layValues_74 ?_
          refine lv_topi (nm_r (e' := nI (b2n (bit64 (tb C K_ F_ (C (25 + (i - 6)))) t_))) ((fillF_at (by have := hse (i - 6) (by omega); omega))) ?_)
          refine xc_i (xr_S (As := [.int (nI (kOf C K_ (i - 6))), .int (nI (b2n (bit64 (tb C K_ F_ (C (13 + (i - 6)))) t_))), .int (nI (b2n (bit64 (tb C K_ F_ (C (25 + (i - 6)))) t_)))]) (rest := []) (mt_X1_valueBy l D ca (kOf C K_ (i - 6)) (b2n (bit64 (tb C K_ F_ (C (13 + (i - 6)))) t_)) (b2n (bit64 (tb C K_ F_ (C (25 + (i - 6)))) t_)) (kOf_lt (hkd0 _ (by omega))) (b2n_le _) (b2n_le _) H.size) ⟨hx, hb, hml, hown, hts⟩ (va_cwS 3 hts (lw_S q1131 q1132 q79 q1133) rfl rfl rfl (by decide +kernel) ⟨Nat.le_of_ble_eq_true rfl, Nat.le_of_ble_eq_true rfl⟩) Ev0_ok trivial hK hS (Cut.app (wc := []) (wr := (WT ca cq xq (kdC C) (fsC C) (snC C) ak (nI (C 0)) (nI (C 37)) (nI (C 38)) (fI (C 39)) (nI (C 40)) (lN (C 66)) (nI (C 41)) tb_ (fillF i (vlF C K_ F_ t_) va) fy cn an sw sb sv)) hP hD hS hA) rfl hl.1 rfl (Nat.le_of_ble_eq_true rfl) dX1_layValues_75 ⟨Nat.le_of_ble_eq_true rfl, Nat.le_of_ble_eq_true rfl⟩) hS (Cut.app (wc := []) (wr := (WT ca cq xq (kdC C) (fsC C) (snC C) ak (nI (C 0)) (nI (C 37)) (nI (C 38)) (fI (C 39)) (nI (C 40)) (lN (C 66)) (nI (C 41)) tb_ (fillF i (vlF C K_ F_ t_) va) fy cn an sw sb sv)) hP hD hS hA) (fun r_7 u_8 H locs hq_75 hP hD hS => ?_)
          have hP : va_P D vwCl (WT ca cq xq (kdC C) (fsC C) (snC C) ak (nI (C 0)) (nI (C 37)) (nI (C 38)) (fI (C 39)) (nI (C 40)) (lN (C 66)) (nI (C 41)) tb_ (fillF i (vlF C K_ F_ t_) va) fy cn an sw sb sv) H := hP
          have hD : va_D A (WT ca cq xq (kdC C) (fsC C) (snC C) ak (nI (C 0)) (nI (C 37)) (nI (C 38)) (fI (C 39)) (nI (C 40)) (lN (C 66)) (nI (C 41)) tb_ (fillF i (vlF C K_ F_ t_) va) fy cn an sw sb sv) := hD
          have hp_75 : r_7 = nI (vbN (kOf C K_ (i - 6)) (b2n (bit64 (tb C K_ F_ (C (13 + (i - 6)))) t_)) (b2n (bit64 (tb C K_ F_ (C (25 + (i - 6)))) t_))) := hq_75
          clear hq_75
          obtain rfl := hp_75
          refine lv_topi (nm_r (e' := nI (b2n (bit64 (preT C K_ F_ i) t_))) (congrArg nI (by unfold preT; rw [if_neg (by omega)]; exact vbN_gT (kOf_lt (hkd0 _ (by omega))) ht)) ?_)
          refine lv_istore (lv' := [(6, .int (nI (b2n (bit64 (preT C K_ F_ i) t_)))), (5, .int (nI (i - 6))), (4, .int (nI i)), (0, .ref (xq 0)), (1, .int (nI t_)), (2, .int (fI K_)), (3, .int (fI F_))]) hx hb dX1_layValues_78 hl (by decide) rfl (fun ls hl => ?_)
          refine lv_aload_n hx hb dX1_layValues_80 rfl (lv_at hl 3 rfl) ?_
          refine gWT_5_values_X1 hx hb hts hown hK hP dX1_layValues_81 ?_
          refine lv_iload hx hb dX1_layValues_84 (lv_at hl 2 rfl) ?_
          refine lv_iload_n hx hb dX1_layValues_86 rfl (lv_at hl 6 rfl) ?_
          refine lv_iconst (v := fI 0) hx hb dX1_layValues_87 (by decide) ?_
          refine nv_icmp_eqf (tgt := 105) hx hb dX1_layValues_88 (by decide) (by omega) (fun c_88 => ?_) (fun c_88 => ?_)
          · skip
            refine lv_iload hx hb dX1_layValues_105 (lv_at hl 0 rfl) ?_
            refine lv_topi (nm_r (e' := nI (b2n (bit64 (tb C K_ F_ i) t_))) (congrArg nI (by rw [tb_pre hse h0 (by omega), vstk_n (by omega)])) ?_)
            refine stWT_7 hx hb hK hP hD hS (by omega) dX1_layValues_107 (fun H locs hP hD hS => ?_)
            have ew_ : upd (fillF i (vlF C K_ F_ t_) va) i (nI (b2n (bit64 (tb C K_ F_ i) t_))) = fillF (i + 1) (vlF C K_ F_ t_) va := fillF_s _ _ _
            have hP : va_P D vwCl (WT ca cq xq (kdC C) (fsC C) (snC C) ak (nI (C 0)) (nI (C 37)) (nI (C 38)) (fI (C 39)) (nI (C 40)) (lN (C 66)) (nI (C 41)) tb_ (fillF (i + 1) (vlF C K_ F_ t_) va) fy cn an sw sb sv) H := (congrArg (fun x_ => va_P D vwCl (WT ca cq xq (kdC C) (fsC C) (snC C) ak (nI (C 0)) (nI (C 37)) (nI (C 38)) (fI (C 39)) (nI (C 40)) (lN (C 66)) (nI (C 41)) tb_ x_ fy cn an sw sb sv) H) ew_).mp hP
            have hD : va_D A (WT ca cq xq (kdC C) (fsC C) (snC C) ak (nI (C 0)) (nI (C 37)) (nI (C 38)) (fI (C 39)) (nI (C 40)) (lN (C 66)) (nI (C 41)) tb_ (fillF (i + 1) (vlF C K_ F_ t_) va) fy cn an sw sb sv) := (congrArg (fun x_ => va_D A (WT ca cq xq (kdC C) (fsC C) (snC C) ak (nI (C 0)) (nI (C 37)) (nI (C 38)) (fI (C 39)) (nI (C 40)) (lN (C 66)) (nI (C 41)) tb_ x_ fy cn an sw sb sv)) ew_).mp hD
            clear ew_
            refine lv_iinc (v := nI (i + 1)) (lv' := [(4, .int (nI (i + 1))), (6, .int (nI (b2n (bit64 (preT C K_ F_ i) t_)))), (5, .int (nI (i - 6))), (0, .ref (xq 0)), (1, .int (nI t_)), (2, .int (fI K_)), (3, .int (fI F_))]) hx hb dX1_layValues_108 hl (k := 2) rfl (nI_add i 1) (by decide) rfl (fun ls hl => ?_)
            refine lv_goto (tgt := 3) hx hb dX1_layValues_111 (by decide) ?_
            exact ih_3  (i + 1) (by omega) (by omega) _ _ hP hD hS ls (lv_sub hl [0, 3, 4, 5, 6] rfl)
          · skip
            refine lv_iload_n hx hb dX1_layValues_91 rfl (lv_at hl 6 rfl) ?_
            refine lv_topi (nm_r (e' := nI (F_ - 1)) (fI_pos c_88) ?_)
            refine lv_iconst (v := nI 2) hx hb dX1_layValues_92 (by decide) ?_
            refine nv_idiv hx hb dX1_layValues_93 (by omega) (by omega) (by omega) ?_
            refine lv_iload hx hb dX1_layValues_94 (lv_at hl 2 rfl) ?_
            refine nv_icmp_ne (tgt := 105) hx hb dX1_layValues_96 (by decide) (by omega) (by omega) (fun c_96 => ?_) (fun c_96 => ?_)
            · skip
              refine lv_iload hx hb dX1_layValues_105 (lv_at hl 0 rfl) ?_
              refine lv_topi (nm_r (e' := nI (b2n (bit64 (tb C K_ F_ i) t_))) (congrArg nI (by rw [tb_pre hse h0 (by omega), vstk_n (by omega)])) ?_)
              refine stWT_7 hx hb hK hP hD hS (by omega) dX1_layValues_107 (fun H locs hP hD hS => ?_)
              have ew_ : upd (fillF i (vlF C K_ F_ t_) va) i (nI (b2n (bit64 (tb C K_ F_ i) t_))) = fillF (i + 1) (vlF C K_ F_ t_) va := fillF_s _ _ _
              have hP : va_P D vwCl (WT ca cq xq (kdC C) (fsC C) (snC C) ak (nI (C 0)) (nI (C 37)) (nI (C 38)) (fI (C 39)) (nI (C 40)) (lN (C 66)) (nI (C 41)) tb_ (fillF (i + 1) (vlF C K_ F_ t_) va) fy cn an sw sb sv) H := (congrArg (fun x_ => va_P D vwCl (WT ca cq xq (kdC C) (fsC C) (snC C) ak (nI (C 0)) (nI (C 37)) (nI (C 38)) (fI (C 39)) (nI (C 40)) (lN (C 66)) (nI (C 41)) tb_ x_ fy cn an sw sb sv) H) ew_).mp hP
              have hD : va_D A (WT ca cq xq (kdC C) (fsC C) (snC C) ak (nI (C 0)) (nI (C 37)) (nI (C 38)) (fI (C 39)) (nI (C 40)) (lN (C 66)) (nI (C 41)) tb_ (fillF (i + 1) (vlF C K_ F_ t_) va) fy cn an sw sb sv) := (congrArg (fun x_ => va_D A (WT ca cq xq (kdC C) (fsC C) (snC C) ak (nI (C 0)) (nI (C 37)) (nI (C 38)) (fI (C 39)) (nI (C 40)) (lN (C 66)) (nI (C 41)) tb_ x_ fy cn an sw sb sv)) ew_).mp hD
              clear ew_
              refine lv_iinc (v := nI (i + 1)) (lv' := [(4, .int (nI (i + 1))), (6, .int (nI (b2n (bit64 (preT C K_ F_ i) t_)))), (5, .int (nI (i - 6))), (0, .ref (xq 0)), (1, .int (nI t_)), (2, .int (fI K_)), (3, .int (fI F_))]) hx hb dX1_layValues_108 hl (k := 2) rfl (nI_add i 1) (by decide) rfl (fun ls hl => ?_)
              refine lv_goto (tgt := 3) hx hb dX1_layValues_111 (by decide) ?_
              exact ih_3  (i + 1) (by omega) (by omega) _ _ hP hD hS ls (lv_sub hl [0, 3, 4, 5, 6] rfl)
            · skip
              refine lv_iload_n hx hb dX1_layValues_99 rfl (lv_at hl 6 rfl) ?_
              refine lv_topi (nm_r (e' := nI (F_ - 1)) (fI_pos c_88) ?_)
              refine lv_iconst (v := nI 2) hx hb dX1_layValues_100 (by decide) ?_
              refine nv_irem hx hb dX1_layValues_101 (by omega) (by omega) (by omega) ?_
              refine lv_goto (tgt := 107) hx hb dX1_layValues_102 (by decide) ?_
              refine lv_topi (nm_r (e' := nI (b2n (bit64 (tb C K_ F_ i) t_))) (congrArg nI (by rw [tb_pre hse h0 (by omega)]; exact vstk_y ht c_88 c_96)) ?_)
              refine stWT_7 hx hb hK hP hD hS (by omega) dX1_layValues_107 (fun H locs hP hD hS => ?_)
              have ew_ : upd (fillF i (vlF C K_ F_ t_) va) i (nI (b2n (bit64 (tb C K_ F_ i) t_))) = fillF (i + 1) (vlF C K_ F_ t_) va := fillF_s _ _ _
              have hP : va_P D vwCl (WT ca cq xq (kdC C) (fsC C) (snC C) ak (nI (C 0)) (nI (C 37)) (nI (C 38)) (fI (C 39)) (nI (C 40)) (lN (C 66)) (nI (C 41)) tb_ (fillF (i + 1) (vlF C K_ F_ t_) va) fy cn an sw sb sv) H := (congrArg (fun x_ => va_P D vwCl (WT ca cq xq (kdC C) (fsC C) (snC C) ak (nI (C 0)) (nI (C 37)) (nI (C 38)) (fI (C 39)) (nI (C 40)) (lN (C 66)) (nI (C 41)) tb_ x_ fy cn an sw sb sv) H) ew_).mp hP
              have hD : va_D A (WT ca cq xq (kdC C) (fsC C) (snC C) ak (nI (C 0)) (nI (C 37)) (nI (C 38)) (fI (C 39)) (nI (C 40)) (lN (C 66)) (nI (C 41)) tb_ (fillF (i + 1) (vlF C K_ F_ t_) va) fy cn an sw sb sv) := (congrArg (fun x_ => va_D A (WT ca cq xq (kdC C) (fsC C) (snC C) ak (nI (C 0)) (nI (C 37)) (nI (C 38)) (fI (C 39)) (nI (C 40)) (lN (C 66)) (nI (C 41)) tb_ x_ fy cn an sw sb sv)) ew_).mp hD
              clear ew_
              refine lv_iinc (v := nI (i + 1)) (lv' := [(4, .int (nI (i + 1))), (6, .int (nI (b2n (bit64 (preT C K_ F_ i) t_)))), (5, .int (nI (i - 6))), (0, .ref (xq 0)), (1, .int (nI t_)), (2, .int (fI K_)), (3, .int (fI F_))]) hx hb dX1_layValues_108 hl (k := 2) rfl (nI_add i 1) (by decide) rfl (fun ls hl => ?_)
              refine lv_goto (tgt := 3) hx hb dX1_layValues_111 (by decide) ?_
              exact ih_3  (i + 1) (by omega) (by omega) _ _ hP hD hS ls (lv_sub hl [0, 3, 4, 5, 6] rfl)
        · skip
          refine lv_iload_n hx hb dX1_layValues_29 rfl (lv_at hl 3 rfl) ?_
          refine lv_iload hx hb dX1_layValues_30 (lv_at hl 1 rfl) ?_
          refine nv_ishr hx hb dX1_layValues_32 (by omega) (by omega) ?_
          refine lv_iconst (v := nI 1) hx hb dX1_layValues_33 (by decide) ?_
          refine nv_iand hx hb dX1_layValues_34 ?_
          refine lv_goto (tgt := 78) hx hb dX1_layValues_35 (by decide) ?_
          refine lv_topi (nm_r (e' := nI (b2n (bit64 (preT C K_ F_ i) t_))) (congrArg nI (by unfold preT; rw [if_pos (by omega), inT_bit ht]; exact tb_if _ _)) ?_)
          refine lv_istore (lv' := [(6, .int (nI (b2n (bit64 (preT C K_ F_ i) t_)))), (5, .int ((nI i) - (nI 6))), (4, .int (nI i)), (0, .ref (xq 0)), (1, .int (nI t_)), (2, .int (fI K_)), (3, .int (fI F_))]) hx hb dX1_layValues_78 hl (by decide) rfl (fun ls hl => ?_)
          refine lv_aload_n hx hb dX1_layValues_80 rfl (lv_at hl 3 rfl) ?_
          refine gWT_5_values_X1 hx hb hts hown hK hP dX1_layValues_81 ?_
          refine lv_iload hx hb dX1_layValues_84 (lv_at hl 2 rfl) ?_
          refine lv_iload_n hx hb dX1_layValues_86 rfl (lv_at hl 6 rfl) ?_
          refine lv_iconst (v := fI 0) hx hb dX1_layValues_87 (by decide) ?_
          refine nv_icmp_eqf (tgt := 105) hx hb dX1_layValues_88 (by decide) (by omega) (fun c_88 => ?_) (fun c_88 => ?_)
          · skip
            refine lv_iload hx hb dX1_layValues_105 (lv_at hl 0 rfl) ?_
            refine lv_topi (nm_r (e' := nI (b2n (bit64 (tb C K_ F_ i) t_))) (congrArg nI (by rw [tb_pre hse h0 (by omega), vstk_n (by omega)])) ?_)
            refine stWT_7 hx hb hK hP hD hS (by omega) dX1_layValues_107 (fun H locs hP hD hS => ?_)
            have ew_ : upd (fillF i (vlF C K_ F_ t_) va) i (nI (b2n (bit64 (tb C K_ F_ i) t_))) = fillF (i + 1) (vlF C K_ F_ t_) va := fillF_s _ _ _
            have hP : va_P D vwCl (WT ca cq xq (kdC C) (fsC C) (snC C) ak (nI (C 0)) (nI (C 37)) (nI (C 38)) (fI (C 39)) (nI (C 40)) (lN (C 66)) (nI (C 41)) tb_ (fillF (i + 1) (vlF C K_ F_ t_) va) fy cn an sw sb sv) H := (congrArg (fun x_ => va_P D vwCl (WT ca cq xq (kdC C) (fsC C) (snC C) ak (nI (C 0)) (nI (C 37)) (nI (C 38)) (fI (C 39)) (nI (C 40)) (lN (C 66)) (nI (C 41)) tb_ x_ fy cn an sw sb sv) H) ew_).mp hP
            have hD : va_D A (WT ca cq xq (kdC C) (fsC C) (snC C) ak (nI (C 0)) (nI (C 37)) (nI (C 38)) (fI (C 39)) (nI (C 40)) (lN (C 66)) (nI (C 41)) tb_ (fillF (i + 1) (vlF C K_ F_ t_) va) fy cn an sw sb sv) := (congrArg (fun x_ => va_D A (WT ca cq xq (kdC C) (fsC C) (snC C) ak (nI (C 0)) (nI (C 37)) (nI (C 38)) (fI (C 39)) (nI (C 40)) (lN (C 66)) (nI (C 41)) tb_ x_ fy cn an sw sb sv)) ew_).mp hD
            clear ew_
            refine lv_iinc (v := nI (i + 1)) (lv' := [(4, .int (nI (i + 1))), (6, .int (nI (b2n (bit64 (preT C K_ F_ i) t_)))), (5, .int ((nI i) - (nI 6))), (0, .ref (xq 0)), (1, .int (nI t_)), (2, .int (fI K_)), (3, .int (fI F_))]) hx hb dX1_layValues_108 hl (k := 2) rfl (nI_add i 1) (by decide) rfl (fun ls hl => ?_)
            refine lv_goto (tgt := 3) hx hb dX1_layValues_111 (by decide) ?_
            exact ih_3  (i + 1) (by omega) (by omega) _ _ hP hD hS ls (lv_sub hl [0, 3, 4, 5, 6] rfl)
          · skip
            refine lv_iload_n hx hb dX1_layValues_91 rfl (lv_at hl 6 rfl) ?_
            refine lv_topi (nm_r (e' := nI (F_ - 1)) (fI_pos c_88) ?_)
            refine lv_iconst (v := nI 2) hx hb dX1_layValues_92 (by decide) ?_
            refine nv_idiv hx hb dX1_layValues_93 (by omega) (by omega) (by omega) ?_
            refine lv_iload hx hb dX1_layValues_94 (lv_at hl 2 rfl) ?_
            refine nv_icmp_ne (tgt := 105) hx hb dX1_layValues_96 (by decide) (by omega) (by omega) (fun c_96 => ?_) (fun c_96 => ?_)
            · skip
              refine lv_iload hx hb dX1_layValues_105 (lv_at hl 0 rfl) ?_
              refine lv_topi (nm_r (e' := nI (b2n (bit64 (tb C K_ F_ i) t_))) (congrArg nI (by rw [tb_pre hse h0 (by omega), vstk_n (by omega)])) ?_)
              refine stWT_7 hx hb hK hP hD hS (by omega) dX1_layValues_107 (fun H locs hP hD hS => ?_)
              have ew_ : upd (fillF i (vlF C K_ F_ t_) va) i (nI (b2n (bit64 (tb C K_ F_ i) t_))) = fillF (i + 1) (vlF C K_ F_ t_) va := fillF_s _ _ _
              have hP : va_P D vwCl (WT ca cq xq (kdC C) (fsC C) (snC C) ak (nI (C 0)) (nI (C 37)) (nI (C 38)) (fI (C 39)) (nI (C 40)) (lN (C 66)) (nI (C 41)) tb_ (fillF (i + 1) (vlF C K_ F_ t_) va) fy cn an sw sb sv) H := (congrArg (fun x_ => va_P D vwCl (WT ca cq xq (kdC C) (fsC C) (snC C) ak (nI (C 0)) (nI (C 37)) (nI (C 38)) (fI (C 39)) (nI (C 40)) (lN (C 66)) (nI (C 41)) tb_ x_ fy cn an sw sb sv) H) ew_).mp hP
              have hD : va_D A (WT ca cq xq (kdC C) (fsC C) (snC C) ak (nI (C 0)) (nI (C 37)) (nI (C 38)) (fI (C 39)) (nI (C 40)) (lN (C 66)) (nI (C 41)) tb_ (fillF (i + 1) (vlF C K_ F_ t_) va) fy cn an sw sb sv) := (congrArg (fun x_ => va_D A (WT ca cq xq (kdC C) (fsC C) (snC C) ak (nI (C 0)) (nI (C 37)) (nI (C 38)) (fI (C 39)) (nI (C 40)) (lN (C 66)) (nI (C 41)) tb_ x_ fy cn an sw sb sv)) ew_).mp hD
              clear ew_
              refine lv_iinc (v := nI (i + 1)) (lv' := [(4, .int (nI (i + 1))), (6, .int (nI (b2n (bit64 (preT C K_ F_ i) t_)))), (5, .int ((nI i) - (nI 6))), (0, .ref (xq 0)), (1, .int (nI t_)), (2, .int (fI K_)), (3, .int (fI F_))]) hx hb dX1_layValues_108 hl (k := 2) rfl (nI_add i 1) (by decide) rfl (fun ls hl => ?_)
              refine lv_goto (tgt := 3) hx hb dX1_layValues_111 (by decide) ?_
              exact ih_3  (i + 1) (by omega) (by omega) _ _ hP hD hS ls (lv_sub hl [0, 3, 4, 5, 6] rfl)
            · skip
              refine lv_iload_n hx hb dX1_layValues_99 rfl (lv_at hl 6 rfl) ?_
              refine lv_topi (nm_r (e' := nI (F_ - 1)) (fI_pos c_88) ?_)
              refine lv_iconst (v := nI 2) hx hb dX1_layValues_100 (by decide) ?_
              refine nv_irem hx hb dX1_layValues_101 (by omega) (by omega) (by omega) ?_
              refine lv_goto (tgt := 107) hx hb dX1_layValues_102 (by decide) ?_
              refine lv_topi (nm_r (e' := nI (b2n (bit64 (tb C K_ F_ i) t_))) (congrArg nI (by rw [tb_pre hse h0 (by omega)]; exact vstk_y ht c_88 c_96)) ?_)
              refine stWT_7 hx hb hK hP hD hS (by omega) dX1_layValues_107 (fun H locs hP hD hS => ?_)
              have ew_ : upd (fillF i (vlF C K_ F_ t_) va) i (nI (b2n (bit64 (tb C K_ F_ i) t_))) = fillF (i + 1) (vlF C K_ F_ t_) va := fillF_s _ _ _
              have hP : va_P D vwCl (WT ca cq xq (kdC C) (fsC C) (snC C) ak (nI (C 0)) (nI (C 37)) (nI (C 38)) (fI (C 39)) (nI (C 40)) (lN (C 66)) (nI (C 41)) tb_ (fillF (i + 1) (vlF C K_ F_ t_) va) fy cn an sw sb sv) H := (congrArg (fun x_ => va_P D vwCl (WT ca cq xq (kdC C) (fsC C) (snC C) ak (nI (C 0)) (nI (C 37)) (nI (C 38)) (fI (C 39)) (nI (C 40)) (lN (C 66)) (nI (C 41)) tb_ x_ fy cn an sw sb sv) H) ew_).mp hP
              have hD : va_D A (WT ca cq xq (kdC C) (fsC C) (snC C) ak (nI (C 0)) (nI (C 37)) (nI (C 38)) (fI (C 39)) (nI (C 40)) (lN (C 66)) (nI (C 41)) tb_ (fillF (i + 1) (vlF C K_ F_ t_) va) fy cn an sw sb sv) := (congrArg (fun x_ => va_D A (WT ca cq xq (kdC C) (fsC C) (snC C) ak (nI (C 0)) (nI (C 37)) (nI (C 38)) (fI (C 39)) (nI (C 40)) (lN (C 66)) (nI (C 41)) tb_ x_ fy cn an sw sb sv)) ew_).mp hD
              clear ew_
              refine lv_iinc (v := nI (i + 1)) (lv' := [(4, .int (nI (i + 1))), (6, .int (nI (b2n (bit64 (preT C K_ F_ i) t_)))), (5, .int ((nI i) - (nI 6))), (0, .ref (xq 0)), (1, .int (nI t_)), (2, .int (fI K_)), (3, .int (fI F_))]) hx hb dX1_layValues_108 hl (k := 2) rfl (nI_add i 1) (by decide) rfl (fun ls hl => ?_)
              refine lv_goto (tgt := 3) hx hb dX1_layValues_111 (by decide) ?_
              exact ih_3  (i + 1) (by omega) (by omega) _ _ hP hD hS ls (lv_sub hl [0, 3, 4, 5, 6] rfl)
  have ew_ : va = fillF 0 (vlF C K_ F_ t_) va := (fillF_0 _ _).symm
  have hP : va_P D vwCl (WT ca cq xq (kdC C) (fsC C) (snC C) ak (nI (C 0)) (nI (C 37)) (nI (C 38)) (fI (C 39)) (nI (C 40)) (lN (C 66)) (nI (C 41)) tb_ (fillF 0 (vlF C K_ F_ t_) va) fy cn an sw sb sv) H := (congrArg (fun x_ => va_P D vwCl (WT ca cq xq (kdC C) (fsC C) (snC C) ak (nI (C 0)) (nI (C 37)) (nI (C 38)) (fI (C 39)) (nI (C 40)) (lN (C 66)) (nI (C 41)) tb_ x_ fy cn an sw sb sv) H) ew_).mp hP
  have hD : va_D A (WT ca cq xq (kdC C) (fsC C) (snC C) ak (nI (C 0)) (nI (C 37)) (nI (C 38)) (fI (C 39)) (nI (C 40)) (lN (C 66)) (nI (C 41)) tb_ (fillF 0 (vlF C K_ F_ t_) va) fy cn an sw sb sv) := (congrArg (fun x_ => va_D A (WT ca cq xq (kdC C) (fsC C) (snC C) ak (nI (C 0)) (nI (C 37)) (nI (C 38)) (fI (C 39)) (nI (C 40)) (lN (C 66)) (nI (C 41)) tb_ x_ fy cn an sw sb sv)) ew_).mp hD
  clear ew_
  exact lp_3 (6 + C 0 - 0 + 1) 0 (Nat.lt_succ_self _) (by omega) _ _ hP hD hS ls (lv_sub hl [0, 1, 2, 3, 4] rfl)
set_option maxHeartbeats 4000000 in
set_option maxRecDepth 100000 in
theorem mt_X1_answer (l : Launch) (D : va_G) (ca : Nat → ClassId) (cq : Nat → Nat) (xq : Nat → Nat) (ak : Nat → Int32) (tb_ : Nat → Int64) (va : Nat → Int32) (fy : Nat → Int64) (cn : Nat → Int32) (an : Nat → Int32) (sw : Nat → Int64) (sb : Nat → Int64) (sv : Value) (C : Nat → Nat) (t_ : Nat) (K_ : Nat) (F_ : Nat) (h0 : C 0 ≤ 12) (hkd0 : ∀ k, k < 12 → C (1 + k) < 8) (hse : ∀ k, k < 12 → C (13 + k) < 6 + k ∧ C (25 + k) < 6 + k) (ho : C 37 < 2 ^ 18) (hbx : C 38 < 2 ^ 18) (hno : popc 18 (C 37) ≤ 4) (hK : K_ ≤ 216) (hF : F_ ≤ 100) (ht : t_ < 64) (nn : Nat) : Met l yX1_answer (ws_ yX1_answer cX1_answer 7 (Option.some Jvm.ClassFile.FieldType.int)) ({ frames := 3, cells := 0, slots := 0, locals := 71 } : Room) (va_Pc [.ref (xq 0), .int (nI t_), .int (fI K_), .int (fI F_)] (PreW EvX D vwCl (TY ca) (WT ca cq xq (kdC C) (fsC C) (snC C) ak (nI (C 0)) (nI (C 37)) (nI (C 38)) (fI (C 39)) (nI (C 40)) (lN (C 66)) (nI (C 41)) tb_ va fy cn an sw sb sv) nn)) (va_Qi (fun (r_ : Int32) (u_ : (Nat → Int32)) => r_ = nI (anC C K_ F_ t_)) (PostW D vwCl (TY ca) (fun (u_ : (Nat → Int32)) => (WT ca cq xq (kdC C) (fsC C) (snC C) ak (nI (C 0)) (nI (C 37)) (nI (C 38)) (fI (C 39)) (nI (C 40)) (lN (C 66)) (nI (C 41)) tb_ u_ fy cn an sw sb sv)) (va_A (WT ca cq xq (kdC C) (fsC C) (snC C) ak (nI (C 0)) (nI (C 37)) (nI (C 38)) (fI (C 39)) (nI (C 40)) (lN (C 66)) (nI (C 41)) tb_ va fy cn an sw sb sv) nn)) (va_A (WT ca cq xq (kdC C) (fsC C) (snC C) ak (nI (C 0)) (nI (C 37)) (nI (C 38)) (fI (C 39)) (nI (C 40)) (lN (C 66)) (nI (C 41)) tb_ va fy cn an sw sb sv) nn)) 0 0 (va_A (WT ca cq xq (kdC C) (fsC C) (snC C) ak (nI (C 0)) (nI (C 37)) (nI (C 38)) (fI (C 39)) (nI (C 40)) (lN (C 66)) (nI (C 41)) tb_ va fy cn an sw sb sv) nn) := by
  refine met_go (QA := fun A => va_Qi (fun (r_ : Int32) (u_ : (Nat → Int32)) => r_ = nI (anC C K_ F_ t_)) (PostW D vwCl (TY ca) (fun (u_ : (Nat → Int32)) => (WT ca cq xq (kdC C) (fsC C) (snC C) ak (nI (C 0)) (nI (C 37)) (nI (C 38)) (fI (C 39)) (nI (C 40)) (lN (C 66)) (nI (C 41)) tb_ u_ fy cn an sw sb sv)) A) A) (by decide) (Nat.le_of_ble_eq_true rfl) (fun p e s m below meth c A ls QQ hQQ hx hb hr hts hown hlocks hml hA hP hK hD hE hl => ?_)
  have hown : s.vm.findClass RX1 = some m.cls := hown
  have hS : va_S A s.heap s.heap [] := va_S.rf
  have hl : lv_has ls 7 [(0, .ref (xq 0)), (1, .int (nI t_)), (2, .int (fI K_)), (3, .int (fI F_))] := hl
  generalize hHe : s.heap = H at hP ⊢
  have hS : va_S A s.heap H [] := hHe ▸ hS
  generalize ([] : List Loc) = locs at hS ⊢
  refine lv_aload_n hx hb dX1_answer_0 rfl (lv_at hl 0 rfl) ?_
  refine lv_iload_n hx hb dX1_answer_1 rfl (lv_at hl 1 rfl) ?_
  refine lv_iload_n hx hb dX1_answer_2 rfl (lv_at hl 2 rfl) ?_
  refine lv_iload_n hx hb dX1_answer_3 rfl (lv_at hl 3 rfl) ?_
  refine xc_v (xr_V (b := xq 0) (ci := 0) (q0 := 5) (As := [.int (nI t_), .int (fI K_), .int (fI F_)]) (rest := []) (mt_X1_layValues l D ca cq xq ak tb_ va fy cn an sw sb sv C t_ K_ F_ (by first | assumption | omega | (simp only [updN, forgetC, changedC]; (repeat' split) <;> omega)) (by first | assumption | omega | (simp only [updN, forgetC, changedC]; (repeat' split) <;> omega)) (by first | assumption | omega | (simp only [updN, forgetC, changedC]; (repeat' split) <;> omega)) (by first | assumption | omega | (simp only [updN, forgetC, changedC]; (repeat' split) <;> omega)) (by first | assumption | omega | (simp only [updN, forgetC, changedC]; (repeat' split) <;> omega)) (by first | assumption | omega | (simp only [updN, forgetC, changedC]; (repeat' split) <;> omega)) (by first | assumption | omega | (simp only [updN, forgetC, changedC]; (repeat' split) <;> omega)) (by first | assumption | omega | (simp only [updN, forgetC, changedC]; (repeat' split) <;> omega)) (by first | assumption | omega | (simp only [updN, forgetC, changedC]; (repeat' split) <;> omega)) H.size) ⟨hx, hb, hml, hown, hts⟩ (cwV 3 hts (lw_V q1127 q1129 qs32 q79 q1130) rfl rfl rfl (by decide +kernel) ⟨Nat.le_of_ble_eq_true rfl, Nat.le_of_ble_eq_true rfl⟩) EvX_ok hE hK hS (Cut.all hP hD hS hA) rfl rfl rfl hl.1 rfl (Nat.le_of_ble_eq_true rfl) dX1_answer_4 ⟨Nat.le_of_ble_eq_true rfl, Nat.le_of_ble_eq_true rfl⟩) hS (Cut.all hP hD hS hA) (fun u_2 H locs hq_4 hP hD hS => ?_)
  have hP : va_P D vwCl (WT ca cq xq (kdC C) (fsC C) (snC C) ak (nI (C 0)) (nI (C 37)) (nI (C 38)) (fI (C 39)) (nI (C 40)) (lN (C 66)) (nI (C 41)) tb_ (fillF (6 + C 0) (vlF C K_ F_ t_) va) fy cn an sw sb sv) H := hP
  have hD : va_D A (WT ca cq xq (kdC C) (fsC C) (snC C) ak (nI (C 0)) (nI (C 37)) (nI (C 38)) (fI (C 39)) (nI (C 40)) (lN (C 66)) (nI (C 41)) tb_ (fillF (6 + C 0) (vlF C K_ F_ t_) va) fy cn an sw sb sv) := hD
  refine lv_iconst (v := nI 0) hx hb dX1_answer_7 (by decide) ?_
  refine lv_istore (lv' := [(4, .int (nI 0)), (0, .ref (xq 0)), (1, .int (nI t_)), (2, .int (fI K_)), (3, .int (fI F_))]) hx hb dX1_answer_8 hl (by decide) rfl (fun ls hl => ?_)
  refine lv_iconst (v := nI 0) hx hb dX1_answer_10 (by decide) ?_
  refine lv_istore (lv' := [(5, .int (nI 0)), (4, .int (nI 0)), (0, .ref (xq 0)), (1, .int (nI t_)), (2, .int (fI K_)), (3, .int (fI F_))]) hx hb dX1_answer_11 hl (by decide) rfl (fun ls hl => ?_)
  refine lv_iconst (v := nI 0) hx hb dX1_answer_13 (by decide) ?_
  refine lv_istore (lv' := [(6, .int (nI 0)), (5, .int (nI 0)), (4, .int (nI 0)), (0, .ref (xq 0)), (1, .int (nI t_)), (2, .int (fI K_)), (3, .int (fI F_))]) hx hb dX1_answer_14 hl (by decide) rfl (fun ls hl => ?_)
  have lp_16 : ∀ (fu_16 : Nat) (l_ : Nat), 6 + C 0 - l_ < fu_16 → (l_ ≤ 6 + C 0) → ∀ (H : Heap) (locs : List Loc), va_P D vwCl (WT ca cq xq (kdC C) (fsC C) (snC C) ak (nI (C 0)) (nI (C 37)) (nI (C 38)) (fI (C 39)) (nI (C 40)) (lN (C 66)) (nI (C 41)) tb_ (fillF (6 + C 0) (vlF C K_ F_ t_) va) fy cn an sw sb sv) H → va_D A (WT ca cq xq (kdC C) (fsC C) (snC C) ak (nI (C 0)) (nI (C 37)) (nI (C 38)) (fI (C 39)) (nI (C 40)) (lN (C 66)) (nI (C 41)) tb_ (fillF (6 + C 0) (vlF C K_ F_ t_) va) fy cn an sw sb sv) → va_S A s.heap H locs → ∀ (ls : Array Slot), lv_has ls 7 [(6, .int (nI l_)), (5, .int (nI (popc l_ (C 37)))), (4, .int (nI (anL C (tb C K_ F_) t_ l_))), (0, .ref (xq 0)), (1, .int (nI t_)), (2, .int (fI K_)), (3, .int (fI F_))] → W p l e ({ frames := 3, cells := 0, slots := 0, locals := 71 } : Room) s m ([.ref (xq 0), .int (nI t_), .int (fI K_), .int (fI F_)] : List Value).toArray below meth c H locs 0 0 QQ (F0 m 16 ls []) := by
    intro fu_16
    induction fu_16 with
    | zero => intro l_ hfu; exact absurd hfu (Nat.not_lt_zero _)
    | succ fu_16 ih_16 =>
      intro l_ hfu hl_ H locs hP hD hS ls hl
      refine lv_iload hx hb dX1_answer_16 (lv_at hl 0 rfl) ?_
      refine lv_aload_n hx hb dX1_answer_18 rfl (lv_at hl 3 rfl) ?_
      refine gWT_5_circuit_X1 hx hb hts hown hK hP dX1_answer_19 ?_
      refine xc_i (xr_V (b := cq 0) (ci := 1) (q0 := 0) (As := []) (rest := [.int (nI l_)]) (mt_X2_lines l D ca cq (kdC C) (fsC C) (snC C) ak (nI (C 37)) (nI (C 38)) (fI (C 39)) (nI (C 40)) (lN (C 66)) (nI (C 41)) (C 0)  H.size) ⟨hx, hb, hml, hown, hts⟩ (cwV 0 hts (lw_V q477 q444 q445 q80 q446) rfl rfl rfl (by decide +kernel) ⟨Nat.le_of_ble_eq_true rfl, Nat.le_of_ble_eq_true rfl⟩) EvX_ok hE hK hS (Cut.app (wc := (WC ca cq (kdC C) (fsC C) (snC C) ak (nI (C 0)) (nI (C 37)) (nI (C 38)) (fI (C 39)) (nI (C 40)) (lN (C 66)) (nI (C 41)))) (wr := (WTr ca cq xq tb_ (fillF (6 + C 0) (vlF C K_ F_ t_) va) fy cn an sw sb sv)) hP hD hS hA) rfl rfl rfl hl.1 rfl (Nat.le_of_ble_eq_true rfl) dX1_answer_22 ⟨Nat.le_of_ble_eq_true rfl, Nat.le_of_ble_eq_true rfl⟩) hS (Cut.app (wc := (WC ca cq (kdC C) (fsC C) (snC C) ak (nI (C 0)) (nI (C 37)) (nI (C 38)) (fI (C 39)) (nI (C 40)) (lN (C 66)) (nI (C 41)))) (wr := (WTr ca cq xq tb_ (fillF (6 + C 0) (vlF C K_ F_ t_) va) fy cn an sw sb sv)) hP hD hS hA) (fun r_3 u_4 H locs hq_22 hP hD hS => ?_)
      have hP : va_P D vwCl (WT ca cq xq (kdC C) (fsC C) (snC C) ak (nI (C 0)) (nI (C 37)) (nI (C 38)) (fI (C 39)) (nI (C 40)) (lN (C 66)) (nI (C 41)) tb_ (fillF (6 + C 0) (vlF C K_ F_ t_) va) fy cn an sw sb sv) H := hP
      have hD : va_D A (WT ca cq xq (kdC C) (fsC C) (snC C) ak (nI (C 0)) (nI (C 37)) (nI (C 38)) (fI (C 39)) (nI (C 40)) (lN (C 66)) (nI (C 41)) tb_ (fillF (6 + C 0) (vlF C K_ F_ t_) va) fy cn an sw sb sv) := hD
      have hp_22 : r_3 = nI (6 + (C 0)) := hq_22
      clear hq_22
      obtain rfl := hp_22
      refine nv_icmp_ge (tgt := 67) hx hb dX1_answer_25 (by decide) (by omega) (by omega) (fun c_25 => ?_) (fun c_25 => ?_)
      · skip
        have e_ : 6 + C 0 = l_ := Eq.symm (by omega)
        subst e_
        refine lv_iload hx hb dX1_answer_67 (lv_at hl 2 rfl) ?_
        subst hQQ
        exact xe_i (v := nI (anL C (tb C K_ F_) t_ (6 + C 0))) (fillF (6 + C 0) (vlF C K_ F_ t_) va) hx hb hr hlocks hK hP hD hS (congrArg nI anL_all) dX1_answer_69
      · skip
        refine lv_aload_n hx hb dX1_answer_28 rfl (lv_at hl 3 rfl) ?_
        refine gWT_5_circuit_X1 hx hb hts hown hK hP dX1_answer_29 ?_
        refine gWT_0_outputs_X1 hE hx hb hts hown hK hP dX1_answer_32 ?_
        refine lv_iload hx hb dX1_answer_35 (lv_at hl 0 rfl) ?_
        refine xc_i (xr_S (As := [.int (nI (C 37)), .int (nI l_)]) (rest := []) (mt_X1_isIn l D ca (C 37) l_ (by first | assumption | omega | (simp only [updN, forgetC, changedC]; (repeat' split) <;> omega)) (by first | assumption | omega | (simp only [updN, forgetC, changedC]; (repeat' split) <;> omega)) H.size) ⟨hx, hb, hml, hown, hts⟩ (va_cwS 2 hts (lw_S q464 q465 q79 q466) rfl rfl rfl (by decide +kernel) ⟨Nat.le_of_ble_eq_true rfl, Nat.le_of_ble_eq_true rfl⟩) Ev0_ok trivial hK hS (Cut.app (wc := []) (wr := (WT ca cq xq (kdC C) (fsC C) (snC C) ak (nI (C 0)) (nI (C 37)) (nI (C 38)) (fI (C 39)) (nI (C 40)) (lN (C 66)) (nI (C 41)) tb_ (fillF (6 + C 0) (vlF C K_ F_ t_) va) fy cn an sw sb sv)) hP hD hS hA) rfl hl.1 rfl (Nat.le_of_ble_eq_true rfl) dX1_answer_37 ⟨Nat.le_of_ble_eq_true rfl, Nat.le_of_ble_eq_true rfl⟩) hS (Cut.app (wc := []) (wr := (WT ca cq xq (kdC C) (fsC C) (snC C) ak (nI (C 0)) (nI (C 37)) (nI (C 38)) (fI (C 39)) (nI (C 40)) (lN (C 66)) (nI (C 41)) tb_ (fillF (6 + C 0) (vlF C K_ F_ t_) va) fy cn an sw sb sv)) hP hD hS hA) (fun r_6 u_7 H locs hq_37 hP hD hS => ?_)
        have hP : va_P D vwCl (WT ca cq xq (kdC C) (fsC C) (snC C) ak (nI (C 0)) (nI (C 37)) (nI (C 38)) (fI (C 39)) (nI (C 40)) (lN (C 66)) (nI (C 41)) tb_ (fillF (6 + C 0) (vlF C K_ F_ t_) va) fy cn an sw sb sv) H := hP
        have hD : va_D A (WT ca cq xq (kdC C) (fsC C) (snC C) ak (nI (C 0)) (nI (C 37)) (nI (C 38)) (fI (C 39)) (nI (C 40)) (lN (C 66)) (nI (C 41)) tb_ (fillF (6 + C 0) (vlF C K_ F_ t_) va) fy cn an sw sb sv) := hD
        have hp_37 : r_6 = bI ((C 37).testBit l_) := hq_37
        clear hq_37
        obtain rfl := hp_37
        refine nv_ifb_eq (tgt := 61) hx hb dX1_answer_40 (by decide) (fun c_40 => ?_) (fun c_40 => ?_)
        · skip
          refine lv_iinc (v := nI (l_ + 1)) (lv' := [(6, .int (nI (l_ + 1))), (5, .int (nI (popc l_ (C 37)))), (4, .int (nI (anL C (tb C K_ F_) t_ l_))), (0, .ref (xq 0)), (1, .int (nI t_)), (2, .int (fI K_)), (3, .int (fI F_))]) hx hb dX1_answer_61 hl (k := 0) rfl (nI_add l_ 1) (by decide) rfl (fun ls hl => ?_)
          refine lv_goto (tgt := 16) hx hb dX1_answer_64 (by decide) ?_
          have hl : lv_has ls 7 [(6, .int (nI (l_ + 1))), (5, .int (nI (popc l_ (C 37)))), (4, .int (nI (anL C (tb C K_ F_) t_ (l_ + 1)))), (0, .ref (xq 0)), (1, .int (nI t_)), (2, .int (fI K_)), (3, .int (fI F_))] := (congrArg (fun x_ => lv_has ls 7 [(6, .int (nI (l_ + 1))), (5, .int (nI (popc l_ (C 37)))), (4, .int x_), (0, .ref (xq 0)), (1, .int (nI t_)), (2, .int (fI K_)), (3, .int (fI F_))]) (show nI (anL C (tb C K_ F_) t_ l_) = nI (anL C (tb C K_ F_) t_ (l_ + 1)) from congrArg nI (anL_n c_40))).mp hl
          have hl : lv_has ls 7 [(6, .int (nI (l_ + 1))), (5, .int (nI (popc (l_ + 1) (C 37)))), (4, .int (nI (anL C (tb C K_ F_) t_ (l_ + 1)))), (0, .ref (xq 0)), (1, .int (nI t_)), (2, .int (fI K_)), (3, .int (fI F_))] := (congrArg (fun x_ => lv_has ls 7 [(6, .int (nI (l_ + 1))), (5, .int x_), (4, .int (nI (anL C (tb C K_ F_) t_ (l_ + 1)))), (0, .ref (xq 0)), (1, .int (nI t_)), (2, .int (fI K_)), (3, .int (fI F_))]) (show nI (popc l_ (C 37)) = nI (popc (l_ + 1) (C 37)) from congrArg nI (by first | exact (popc_s c_40).symm | exact (popc_n c_40).symm))).mp hl
          exact ih_16  (l_ + 1) (by omega) (by omega) _ _ hP hD hS ls (lv_sub hl [0, 1, 2, 3, 4, 5, 6] rfl)
        · skip
          refine lv_iload hx hb dX1_answer_43 (lv_at hl 2 rfl) ?_
          refine lv_aload_n hx hb dX1_answer_45 rfl (lv_at hl 3 rfl) ?_
          refine gWT_5_values_X1 hx hb hts hown hK hP dX1_answer_46 ?_
          refine lv_iload hx hb dX1_answer_49 (lv_at hl 0 rfl) ?_
          refine ldWT_7 hx hb hK hP (by omega) dX1_answer_51 ?_
          refine lv_topi (nm_r (e' := nI (b2n (bit64 (tb C K_ F_ l_) t_))) ((fillF_at (by omega))) ?_)
          refine lv_iload hx hb dX1_answer_52 (lv_at hl 1 rfl) ?_
          refine nv_ishl hx hb dX1_answer_54 (by have := popc_le l_ (C 37); omega) (b2n_shl (by have := popc_le l_ (C 37); omega)) ?_
          refine nv_ior hx hb dX1_answer_55 ?_
          refine lv_istore (lv' := [(4, .int (nI ((anL C (tb C K_ F_) t_ l_) ||| ((b2n (bit64 (tb C K_ F_ l_) t_)) <<< (popc l_ (C 37)))))), (6, .int (nI l_)), (5, .int (nI (popc l_ (C 37)))), (0, .ref (xq 0)), (1, .int (nI t_)), (2, .int (fI K_)), (3, .int (fI F_))]) hx hb dX1_answer_56 hl (by decide) rfl (fun ls hl => ?_)
          refine lv_iinc (v := nI (popc l_ (C 37) + 1)) (lv' := [(5, .int (nI (popc l_ (C 37) + 1))), (4, .int (nI ((anL C (tb C K_ F_) t_ l_) ||| ((b2n (bit64 (tb C K_ F_ l_) t_)) <<< (popc l_ (C 37)))))), (6, .int (nI l_)), (0, .ref (xq 0)), (1, .int (nI t_)), (2, .int (fI K_)), (3, .int (fI F_))]) hx hb dX1_answer_58 hl (k := 2) rfl (nI_add (popc l_ (C 37)) 1) (by decide) rfl (fun ls hl => ?_)
          refine lv_iinc (v := nI (l_ + 1)) (lv' := [(6, .int (nI (l_ + 1))), (5, .int (nI (popc l_ (C 37) + 1))), (4, .int (nI ((anL C (tb C K_ F_) t_ l_) ||| ((b2n (bit64 (tb C K_ F_ l_) t_)) <<< (popc l_ (C 37)))))), (0, .ref (xq 0)), (1, .int (nI t_)), (2, .int (fI K_)), (3, .int (fI F_))]) hx hb dX1_answer_61 hl (k := 2) rfl (nI_add l_ 1) (by decide) rfl (fun ls hl => ?_)
          refine lv_goto (tgt := 16) hx hb dX1_answer_64 (by decide) ?_
          have hl : lv_has ls 7 [(6, .int (nI (l_ + 1))), (5, .int (nI (popc l_ (C 37) + 1))), (4, .int (nI (anL C (tb C K_ F_) t_ (l_ + 1)))), (0, .ref (xq 0)), (1, .int (nI t_)), (2, .int (fI K_)), (3, .int (fI F_))] := (congrArg (fun x_ => lv_has ls 7 [(6, .int (nI (l_ + 1))), (5, .int (nI (popc l_ (C 37) + 1))), (4, .int x_), (0, .ref (xq 0)), (1, .int (nI t_)), (2, .int (fI K_)), (3, .int (fI F_))]) (show nI ((anL C (tb C K_ F_) t_ l_) ||| ((b2n (bit64 (tb C K_ F_ l_) t_)) <<< (popc l_ (C 37)))) = nI (anL C (tb C K_ F_) t_ (l_ + 1)) from congrArg nI (anL_y c_40))).mp hl
          have hl : lv_has ls 7 [(6, .int (nI (l_ + 1))), (5, .int (nI (popc (l_ + 1) (C 37)))), (4, .int (nI (anL C (tb C K_ F_) t_ (l_ + 1)))), (0, .ref (xq 0)), (1, .int (nI t_)), (2, .int (fI K_)), (3, .int (fI F_))] := (congrArg (fun x_ => lv_has ls 7 [(6, .int (nI (l_ + 1))), (5, .int x_), (4, .int (nI (anL C (tb C K_ F_) t_ (l_ + 1)))), (0, .ref (xq 0)), (1, .int (nI t_)), (2, .int (fI K_)), (3, .int (fI F_))]) (show nI (popc l_ (C 37) + 1) = nI (popc (l_ + 1) (C 37)) from congrArg nI (by first | exact (popc_s c_40).symm | exact (popc_n c_40).symm))).mp hl
          exact ih_16  (l_ + 1) (by omega) (by omega) _ _ hP hD hS ls (lv_sub hl [0, 1, 2, 3, 4, 5, 6] rfl)
  have hl : lv_has ls 7 [(6, .int (nI 0)), (5, .int (nI 0)), (4, .int (nI (anL C (tb C K_ F_) t_ 0))), (0, .ref (xq 0)), (1, .int (nI t_)), (2, .int (fI K_)), (3, .int (fI F_))] := (congrArg (fun x_ => lv_has ls 7 [(6, .int (nI 0)), (5, .int (nI 0)), (4, .int x_), (0, .ref (xq 0)), (1, .int (nI t_)), (2, .int (fI K_)), (3, .int (fI F_))]) (show nI 0 = nI (anL C (tb C K_ F_) t_ 0) from rfl)).mp hl
  have hl : lv_has ls 7 [(6, .int (nI 0)), (5, .int (nI (popc 0 (C 37)))), (4, .int (nI (anL C (tb C K_ F_) t_ 0))), (0, .ref (xq 0)), (1, .int (nI t_)), (2, .int (fI K_)), (3, .int (fI F_))] := (congrArg (fun x_ => lv_has ls 7 [(6, .int (nI 0)), (5, .int x_), (4, .int (nI (anL C (tb C K_ F_) t_ 0))), (0, .ref (xq 0)), (1, .int (nI t_)), (2, .int (fI K_)), (3, .int (fI F_))]) (show nI 0 = nI (popc 0 (C 37)) from rfl)).mp hl
  exact lp_16 (6 + C 0 - 0 + 1) 0 (Nat.lt_succ_self _) (by omega) _ _ hP hD hS ls (lv_sub hl [0, 1, 2, 3, 4, 5, 6] rfl)
set_option maxHeartbeats 4000000 in
set_option maxRecDepth 100000 in
theorem mt_X1_isLeft (l : Launch) (D : va_G) (ca : Nat → ClassId) (cq : Nat → Nat) (xq : Nat → Nat) (ak : Nat → Int32) (tb_ : Nat → Int64) (va : Nat → Int32) (fy : Nat → Int64) (cn : Nat → Int32) (an : Nat → Int32) (sw : Nat → Int64) (sb : Nat → Int64) (sv : Value) (C : Nat → Nat) (K_ : Nat) (F_ : Nat) (h0 : C 0 ≤ 12) (hkd0 : ∀ k, k < 12 → C (1 + k) < 8) (hse : ∀ k, k < 12 → C (13 + k) < 6 + k ∧ C (25 + k) < 6 + k) (ho : C 37 < 2 ^ 18) (hbx : C 38 < 2 ^ 18) (hno : popc 18 (C 37) ≤ 4) (hK : K_ ≤ 216) (hF : F_ ≤ 100) (hak : C 41 ≤ 12) (hAk : AkOk C ak) (ha16 : ∀ k, k < 12 → C (54 + k) < 16) (ht64 : ∀ k, k < 12 → C (42 + k) < 64) (nn : Nat) : Met l yX1_isLeft (ws_ yX1_isLeft cX1_isLeft 5 (Option.some Jvm.ClassFile.FieldType.boolean)) ({ frames := 4, cells := 0, slots := 0, locals := 97 } : Room) (va_Pc [.ref (xq 0), .int (fI K_), .int (nI F_)] (PreW EvX D vwCl (TY ca) (WT ca cq xq (kdC C) (fsC C) (snC C) ak (nI (C 0)) (nI (C 37)) (nI (C 38)) (fI (C 39)) (nI (C 40)) (lN (C 66)) (nI (C 41)) tb_ va fy cn an sw sb sv) nn)) (va_Qi (fun (r_ : Int32) (u_ : (Nat → Int32)) => r_ = bI (candB C K_ F_)) (PostW D vwCl (TY ca) (fun (u_ : (Nat → Int32)) => (WT ca cq xq (kdC C) (fsC C) (snC C) ak (nI (C 0)) (nI (C 37)) (nI (C 38)) (fI (C 39)) (nI (C 40)) (lN (C 66)) (nI (C 41)) tb_ u_ fy cn an sw sb sv)) (va_A (WT ca cq xq (kdC C) (fsC C) (snC C) ak (nI (C 0)) (nI (C 37)) (nI (C 38)) (fI (C 39)) (nI (C 40)) (lN (C 66)) (nI (C 41)) tb_ va fy cn an sw sb sv) nn)) (va_A (WT ca cq xq (kdC C) (fsC C) (snC C) ak (nI (C 0)) (nI (C 37)) (nI (C 38)) (fI (C 39)) (nI (C 40)) (lN (C 66)) (nI (C 41)) tb_ va fy cn an sw sb sv) nn)) 0 0 (va_A (WT ca cq xq (kdC C) (fsC C) (snC C) ak (nI (C 0)) (nI (C 37)) (nI (C 38)) (fI (C 39)) (nI (C 40)) (lN (C 66)) (nI (C 41)) tb_ va fy cn an sw sb sv) nn) := by
  refine met_go (QA := fun A => va_Qi (fun (r_ : Int32) (u_ : (Nat → Int32)) => r_ = bI (candB C K_ F_)) (PostW D vwCl (TY ca) (fun (u_ : (Nat → Int32)) => (WT ca cq xq (kdC C) (fsC C) (snC C) ak (nI (C 0)) (nI (C 37)) (nI (C 38)) (fI (C 39)) (nI (C 40)) (lN (C 66)) (nI (C 41)) tb_ u_ fy cn an sw sb sv)) A) A) (by decide) (Nat.le_of_ble_eq_true rfl) (fun p e s m below meth c A ls QQ hQQ hx hb hr hts hown hlocks hml hA hP hK hD hE hl => ?_)
  have hown : s.vm.findClass RX1 = some m.cls := hown
  have hS : va_S A s.heap s.heap [] := va_S.rf
  have hl : lv_has ls 5 [(0, .ref (xq 0)), (1, .int (fI K_)), (2, .int (nI F_))] := hl
  generalize hHe : s.heap = H at hP ⊢
  have hS : va_S A s.heap H [] := hHe ▸ hS
  generalize ([] : List Loc) = locs at hS ⊢
  refine lv_iconst (v := nI 0) hx hb dX1_isLeft_0 (by decide) ?_
  refine lv_istore_n (lv' := [(3, .int (nI 0)), (0, .ref (xq 0)), (1, .int (fI K_)), (2, .int (nI F_))]) hx hb dX1_isLeft_1 rfl hl (by decide) rfl (fun ls hl => ?_)
  have lp_2 : ∀ (fu_2 : Nat) (k : Nat) (v_ : Nat → Int32), C 41 - k < fu_2 → (k ≤ C 41) → (cdN C K_ F_ k = true) → ∀ (H : Heap) (locs : List Loc), va_P D vwCl (WT ca cq xq (kdC C) (fsC C) (snC C) ak (nI (C 0)) (nI (C 37)) (nI (C 38)) (fI (C 39)) (nI (C 40)) (lN (C 66)) (nI (C 41)) tb_ v_ fy cn an sw sb sv) H → va_D A (WT ca cq xq (kdC C) (fsC C) (snC C) ak (nI (C 0)) (nI (C 37)) (nI (C 38)) (fI (C 39)) (nI (C 40)) (lN (C 66)) (nI (C 41)) tb_ v_ fy cn an sw sb sv) → va_S A s.heap H locs → ∀ (ls : Array Slot), lv_has ls 5 [(3, .int (nI k)), (0, .ref (xq 0)), (1, .int (fI K_)), (2, .int (nI F_))] → W p l e ({ frames := 4, cells := 0, slots := 0, locals := 97 } : Room) s m ([.ref (xq 0), .int (fI K_), .int (nI F_)] : List Value).toArray below meth c H locs 0 0 QQ (F0 m 2 ls []) := by
    intro fu_2
    induction fu_2 with
    | zero => intro k v_ hfu; exact absurd hfu (Nat.not_lt_zero _)
    | succ fu_2 ih_2 =>
      intro k v_ hfu hk hc_ H locs hP hD hS ls hl
      refine lv_iload_n hx hb dX1_isLeft_2 rfl (lv_at hl 0 rfl) ?_
      refine lv_aload_n hx hb dX1_isLeft_3 rfl (lv_at hl 1 rfl) ?_
      refine gWT_5_circuit_X1 hx hb hts hown hK hP dX1_isLeft_4 ?_
      refine gWT_0_asked_X1 hE hx hb hts hown hK hP dX1_isLeft_7 ?_
      refine nv_icmp_ge (tgt := 60) hx hb dX1_isLeft_10 (by decide) (by omega) (by omega) (fun c_10 => ?_) (fun c_10 => ?_)
      · skip
        have e_ : C 41 = k := Eq.symm (by omega)
        subst e_
        refine lv_iconst (v := nI 1) hx hb dX1_isLeft_60 (by decide) ?_
        subst hQQ
        refine (xe_z (b := true) v_ hx hb hr hlocks hK hP hD hS (congrArg bI hc_.symm) dX1_isLeft_61)
      · skip
        refine lv_aload_n hx hb dX1_isLeft_13 rfl (lv_at hl 1 rfl) ?_
        refine gWT_5_circuit_X1 hx hb hts hown hK hP dX1_isLeft_14 ?_
        refine gWT_0_asks_X1 hE hx hb hts hown hK hP dX1_isLeft_17 ?_
        refine lv_iload_n hx hb dX1_isLeft_20 rfl (lv_at hl 0 rfl) ?_
        refine ldWT_4 hx hb hK hP (by omega) dX1_isLeft_21 ?_
        refine lv_topi (nm_r (e' := nI (16 * C (42 + k) + C (54 + k))) (hAk k (by omega)) ?_)
        refine lv_bipush (v := nI 16) hx hb dX1_isLeft_22 (by decide) ?_
        refine nv_idiv hx hb dX1_isLeft_24 (by have := ht64 k (by omega); have := ha16 k (by omega); omega) (by omega) (by omega) ?_
        refine lv_topi (nm_r (e' := nI (C (42 + k))) (congrArg nI (ak_div (ha16 k (by omega)))) ?_)
        refine lv_istore (lv' := [(4, .int (nI (C (42 + k)))), (3, .int (nI k)), (0, .ref (xq 0)), (1, .int (fI K_)), (2, .int (nI F_))]) hx hb dX1_isLeft_25 hl (by decide) rfl (fun ls hl => ?_)
        refine lv_aload_n hx hb dX1_isLeft_27 rfl (lv_at hl 2 rfl) ?_
        refine lv_iload hx hb dX1_isLeft_28 (lv_at hl 0 rfl) ?_
        refine lv_iload_n hx hb dX1_isLeft_30 rfl (lv_at hl 3 rfl) ?_
        refine lv_iload_n hx hb dX1_isLeft_31 rfl (lv_at hl 4 rfl) ?_
        refine lv_iconst (v := nI 1) hx hb dX1_isLeft_32 (by decide) ?_
        refine lv_isub hx hb dX1_isLeft_33 ?_
        refine lv_topi (nm_r (e' := fI F_) (rfl) ?_)
        refine xc_i (xr_V (b := xq 0) (ci := 0) (q0 := 5) (As := [.int (nI (C (42 + k))), .int (fI K_), .int (fI F_)]) (rest := []) (mt_X1_answer l D ca cq xq ak tb_ v_ fy cn an sw sb sv C (C (42 + k)) K_ F_ (by first | assumption | omega | (simp only [updN, forgetC, changedC]; (repeat' split) <;> omega)) (by first | assumption | omega | (simp only [updN, forgetC, changedC]; (repeat' split) <;> omega)) (by first | assumption | omega | (simp only [updN, forgetC, changedC]; (repeat' split) <;> omega)) (by first | assumption | omega | (simp only [updN, forgetC, changedC]; (repeat' split) <;> omega)) (by first | assumption | omega | (simp only [updN, forgetC, changedC]; (repeat' split) <;> omega)) (by first | assumption | omega | (simp only [updN, forgetC, changedC]; (repeat' split) <;> omega)) (by first | assumption | omega | (simp only [updN, forgetC, changedC]; (repeat' split) <;> omega)) (by first | assumption | omega | (simp only [updN, forgetC, changedC]; (repeat' split) <;> omega)) (ht64 k (by omega)) H.size) ⟨hx, hb, hml, hown, hts⟩ (cwV 3 hts (lw_V q1123 q1125 qs31 q79 q1126) rfl rfl rfl (by decide +kernel) ⟨Nat.le_of_ble_eq_true rfl, Nat.le_of_ble_eq_true rfl⟩) EvX_ok hE hK hS (Cut.all hP hD hS hA) rfl rfl rfl hl.1 rfl (Nat.le_of_ble_eq_true rfl) dX1_isLeft_34 ⟨Nat.le_of_ble_eq_true rfl, Nat.le_of_ble_eq_true rfl⟩) hS (Cut.all hP hD hS hA) (fun r_2 u_3 H locs hq_34 hP hD hS => ?_)
        obtain ⟨va1_4, rfl⟩ : ∃ z_, z_ = u_3 := ⟨_, rfl⟩
        have hP : va_P D vwCl (WT ca cq xq (kdC C) (fsC C) (snC C) ak (nI (C 0)) (nI (C 37)) (nI (C 38)) (fI (C 39)) (nI (C 40)) (lN (C 66)) (nI (C 41)) tb_ va1_4 fy cn an sw sb sv) H := hP
        have hD : va_D A (WT ca cq xq (kdC C) (fsC C) (snC C) ak (nI (C 0)) (nI (C 37)) (nI (C 38)) (fI (C 39)) (nI (C 40)) (lN (C 66)) (nI (C 41)) tb_ va1_4 fy cn an sw sb sv) := hD
        have hp_34 : r_2 = nI (anC C K_ F_ (C (42 + k))) := hq_34
        clear hq_34
        obtain rfl := hp_34
        refine lv_aload_n hx hb dX1_isLeft_37 rfl (lv_at hl 2 rfl) ?_
        refine gWT_5_circuit_X1 hx hb hts hown hK hP dX1_isLeft_38 ?_
        refine gWT_0_asks_X1 hE hx hb hts hown hK hP dX1_isLeft_41 ?_
        refine lv_iload_n hx hb dX1_isLeft_44 rfl (lv_at hl 1 rfl) ?_
        refine ldWT_4 hx hb hK hP (by omega) dX1_isLeft_45 ?_
        refine lv_topi (nm_r (e' := nI (16 * C (42 + k) + C (54 + k))) (hAk k (by omega)) ?_)
        refine lv_bipush (v := nI 16) hx hb dX1_isLeft_46 (by decide) ?_
        refine nv_irem hx hb dX1_isLeft_48 (by have := ht64 k (by omega); have := ha16 k (by omega); omega) (by omega) (by omega) ?_
        refine lv_topi (nm_r (e' := nI (C (54 + k))) (congrArg nI (ak_mod (ha16 k (by omega)))) ?_)
        refine nv_icmp_eq (tgt := 54) hx hb dX1_isLeft_49 (by decide) (by have := anC_lt (C := C) (K := K_) (F := F_) (t := C (42 + k)) (Nat.le_trans (popc_mono (by omega)) hno); omega) (by have := ha16 k (by omega); omega) (fun c_49 => ?_) (fun c_49 => ?_)
        · skip
          refine lv_iinc (v := nI (k + 1)) (lv' := [(3, .int (nI (k + 1))), (4, .int (nI (C (42 + k)))), (0, .ref (xq 0)), (1, .int (fI K_)), (2, .int (nI F_))]) hx hb dX1_isLeft_54 hl (k := 1) rfl (nI_add k 1) (by decide) rfl (fun ls hl => ?_)
          refine lv_goto (tgt := 2) hx hb dX1_isLeft_57 (by decide) ?_
          exact ih_2  (k + 1) va1_4 (by omega) (by omega) (by simp only [cdN]; rw [hc_, Bool.true_and]; exact decide_eq_true c_49) _ _ hP hD hS ls (lv_sub hl [0, 2, 3, 4] rfl)
        · skip
          refine lv_iconst (v := nI 0) hx hb dX1_isLeft_52 (by decide) ?_
          subst hQQ
          refine (xe_z (b := false) va1_4 hx hb hr hlocks hK hP hD hS (congrArg bI (cdN_no (i := k + 1) (by simp only [cdN]; rw [decide_eq_false c_49, Bool.and_false]) (by omega)).symm) dX1_isLeft_53)
  exact lp_2 (C 41 - 0 + 1) 0 va (Nat.lt_succ_self _) (by omega) rfl _ _ hP hD hS ls (lv_sub hl [0, 1, 2, 3] rfl)
set_option maxHeartbeats 4000000 in
set_option maxRecDepth 100000 in
theorem mt_X1_candidatesByAsks (l : Launch) (D : va_G) (ca : Nat → ClassId) (cq : Nat → Nat) (xq : Nat → Nat) (ak : Nat → Int32) (tb_ : Nat → Int64) (va : Nat → Int32) (fy : Nat → Int64) (cn : Nat → Int32) (an : Nat → Int32) (sw : Nat → Int64) (sb : Nat → Int64) (sv : Value) (C : Nat → Nat) (h0 : C 0 ≤ 12) (hkd0 : ∀ k, k < 12 → C (1 + k) < 8) (hse : ∀ k, k < 12 → C (13 + k) < 6 + k ∧ C (25 + k) < 6 + k) (ho : C 37 < 2 ^ 18) (hbx : C 38 < 2 ^ 18) (hno : popc 18 (C 37) ≤ 4) (hnb : popc 18 (C 38) ≤ 3) (hbsz : C 38 < 2 ^ C 0) (h40 : C 40 ≤ 1) (hak : C 41 ≤ 12) (hAk : AkOk C ak) (ha16 : ∀ k, k < 12 → C (54 + k) < 16) (ht64 : ∀ k, k < 12 → C (42 + k) < 64) (nn : Nat) : Met l yX1_candidatesByAsks (ws_ yX1_candidatesByAsks cX1_candidatesByAsks 6 (Option.some Jvm.ClassFile.FieldType.int)) ({ frames := 5, cells := 0, slots := 0, locals := 121 } : Room) (va_Pc [.ref (xq 0)] (PreW EvX D vwCl (TY ca) (WT ca cq xq (kdC C) (fsC C) (snC C) ak (nI (C 0)) (nI (C 37)) (nI (C 38)) (fI (C 39)) (nI (C 40)) (lN (C 66)) (nI (C 41)) tb_ va fy cn an sw sb sv) nn)) (va_Qi (fun (r_ : Int32) (u_ : (Nat → Int32)) => r_ = nI ((cnds C).length)) (PostW D vwCl (TY ca) (fun (u_ : (Nat → Int32)) => (WT ca cq xq (kdC C) (fsC C) (snC C) ak (nI (C 0)) (nI (C 37)) (nI (C 38)) (fI (C 39)) (nI (C 40)) (lN (C 66)) (nI (C 41)) tb_ u_ fy cn an sw sb sv)) (va_A (WT ca cq xq (kdC C) (fsC C) (snC C) ak (nI (C 0)) (nI (C 37)) (nI (C 38)) (fI (C 39)) (nI (C 40)) (lN (C 66)) (nI (C 41)) tb_ va fy cn an sw sb sv) nn)) (va_A (WT ca cq xq (kdC C) (fsC C) (snC C) ak (nI (C 0)) (nI (C 37)) (nI (C 38)) (fI (C 39)) (nI (C 40)) (lN (C 66)) (nI (C 41)) tb_ va fy cn an sw sb sv) nn)) 0 0 (va_A (WT ca cq xq (kdC C) (fsC C) (snC C) ak (nI (C 0)) (nI (C 37)) (nI (C 38)) (fI (C 39)) (nI (C 40)) (lN (C 66)) (nI (C 41)) tb_ va fy cn an sw sb sv) nn) := by
  refine met_go (QA := fun A => va_Qi (fun (r_ : Int32) (u_ : (Nat → Int32)) => r_ = nI ((cnds C).length)) (PostW D vwCl (TY ca) (fun (u_ : (Nat → Int32)) => (WT ca cq xq (kdC C) (fsC C) (snC C) ak (nI (C 0)) (nI (C 37)) (nI (C 38)) (fI (C 39)) (nI (C 40)) (lN (C 66)) (nI (C 41)) tb_ u_ fy cn an sw sb sv)) A) A) (by decide) (Nat.le_of_ble_eq_true rfl) (fun p e s m below meth c A ls QQ hQQ hx hb hr hts hown hlocks hml hA hP hK hD hE hl => ?_)
  have hown : s.vm.findClass RX1 = some m.cls := hown
  have hS : va_S A s.heap s.heap [] := va_S.rf
  have hl : lv_has ls 6 [(0, .ref (xq 0))] := hl
  generalize hHe : s.heap = H at hP ⊢
  have hS : va_S A s.heap H [] := hHe ▸ hS
  generalize ([] : List Loc) = locs at hS ⊢
  have hks := ksm_le h0 hnb
  have hfa := fa_le h0
  refine lv_iconst (v := nI 0) hx hb dX1_candidatesByAsks_0 (by decide) ?_
  refine lv_istore_n (lv' := [(1, .int (nI 0)), (0, .ref (xq 0))]) hx hb dX1_candidatesByAsks_1 rfl hl (by decide) rfl (fun ls hl => ?_)
  refine lv_aload_n hx hb dX1_candidatesByAsks_2 rfl (lv_at hl 1 rfl) ?_
  refine xc_i (xr_V (b := xq 0) (ci := 0) (q0 := 5) (As := []) (rest := []) (mt_X1_assignments l D ca cq xq ak tb_ va fy cn an sw sb sv C (by first | assumption | omega | (simp only [updN, forgetC, changedC]; (repeat' split) <;> omega)) (by first | assumption | omega | (simp only [updN, forgetC, changedC]; (repeat' split) <;> omega)) (by first | assumption | omega | (simp only [updN, forgetC, changedC]; (repeat' split) <;> omega)) (by first | assumption | omega | (simp only [updN, forgetC, changedC]; (repeat' split) <;> omega)) H.size) ⟨hx, hb, hml, hown, hts⟩ (cwV 0 hts (lw_V q1091 q1093 qs24 q79 q1094) rfl rfl rfl (by decide +kernel) ⟨Nat.le_of_ble_eq_true rfl, Nat.le_of_ble_eq_true rfl⟩) EvX_ok hE hK hS (Cut.all hP hD hS hA) rfl rfl rfl hl.1 rfl (Nat.le_of_ble_eq_true rfl) dX1_candidatesByAsks_3 ⟨Nat.le_of_ble_eq_true rfl, Nat.le_of_ble_eq_true rfl⟩) hS (Cut.all hP hD hS hA) (fun r_1 u_2 H locs hq_3 hP hD hS => ?_)
  have hP : va_P D vwCl (WT ca cq xq (kdC C) (fsC C) (snC C) ak (nI (C 0)) (nI (C 37)) (nI (C 38)) (fI (C 39)) (nI (C 40)) (lN (C 66)) (nI (C 41)) tb_ va fy cn an sw sb sv) H := hP
  have hD : va_D A (WT ca cq xq (kdC C) (fsC C) (snC C) ak (nI (C 0)) (nI (C 37)) (nI (C 38)) (fI (C 39)) (nI (C 40)) (lN (C 66)) (nI (C 41)) tb_ va fy cn an sw sb sv) := hD
  have hp_3 : r_1 = nI (ksm C) := hq_3
  clear hq_3
  obtain rfl := hp_3
  refine lv_istore_n (lv' := [(2, .int (nI (ksm C))), (1, .int (nI 0)), (0, .ref (xq 0))]) hx hb dX1_candidatesByAsks_6 rfl hl (by decide) rfl (fun ls hl => ?_)
  refine lv_aload_n hx hb dX1_candidatesByAsks_7 rfl (lv_at hl 2 rfl) ?_
  refine xc_i (xr_V (b := xq 0) (ci := 0) (q0 := 5) (As := []) (rest := []) (mt_X1_faultsTold l D ca cq xq ak tb_ va fy cn an sw sb sv C (by first | assumption | omega | (simp only [updN, forgetC, changedC]; (repeat' split) <;> omega)) (by first | assumption | omega | (simp only [updN, forgetC, changedC]; (repeat' split) <;> omega)) H.size) ⟨hx, hb, hml, hown, hts⟩ (cwV 0 hts (lw_V q1095 q1097 qs25 q79 q1098) rfl rfl rfl (by decide +kernel) ⟨Nat.le_of_ble_eq_true rfl, Nat.le_of_ble_eq_true rfl⟩) EvX_ok hE hK hS (Cut.all hP hD hS hA) rfl rfl rfl hl.1 rfl (Nat.le_of_ble_eq_true rfl) dX1_candidatesByAsks_8 ⟨Nat.le_of_ble_eq_true rfl, Nat.le_of_ble_eq_true rfl⟩) hS (Cut.all hP hD hS hA) (fun r_3 u_4 H locs hq_8 hP hD hS => ?_)
  have hP : va_P D vwCl (WT ca cq xq (kdC C) (fsC C) (snC C) ak (nI (C 0)) (nI (C 37)) (nI (C 38)) (fI (C 39)) (nI (C 40)) (lN (C 66)) (nI (C 41)) tb_ va fy cn an sw sb sv) H := hP
  have hD : va_D A (WT ca cq xq (kdC C) (fsC C) (snC C) ak (nI (C 0)) (nI (C 37)) (nI (C 38)) (fI (C 39)) (nI (C 40)) (lN (C 66)) (nI (C 41)) tb_ va fy cn an sw sb sv) := hD
  have hp_8 : r_3 = nI (fa C + 1) := hq_8
  clear hq_8
  obtain rfl := hp_8
  refine lv_istore_n (lv' := [(3, .int (nI (fa C + 1))), (2, .int (nI (ksm C))), (1, .int (nI 0)), (0, .ref (xq 0))]) hx hb dX1_candidatesByAsks_11 rfl hl (by decide) rfl (fun ls hl => ?_)
  refine lv_iconst (v := nI 0) hx hb dX1_candidatesByAsks_12 (by decide) ?_
  refine lv_istore (lv' := [(4, .int (nI 0)), (3, .int (nI (fa C + 1))), (2, .int (nI (ksm C))), (1, .int (nI 0)), (0, .ref (xq 0))]) hx hb dX1_candidatesByAsks_13 hl (by decide) rfl (fun ls hl => ?_)
  have lp_15 : ∀ (fu_15 : Nat) (d : Nat) (v_ : Nat → Int32), ksm C - d < fu_15 → (d ≤ ksm C) → ∀ (H : Heap) (locs : List Loc), va_P D vwCl (WT ca cq xq (kdC C) (fsC C) (snC C) ak (nI (C 0)) (nI (C 37)) (nI (C 38)) (fI (C 39)) (nI (C 40)) (lN (C 66)) (nI (C 41)) tb_ v_ fy cn an sw sb sv) H → va_D A (WT ca cq xq (kdC C) (fsC C) (snC C) ak (nI (C 0)) (nI (C 37)) (nI (C 38)) (fI (C 39)) (nI (C 40)) (lN (C 66)) (nI (C 41)) tb_ v_ fy cn an sw sb sv) → va_S A s.heap H locs → ∀ (ls : Array Slot), lv_has ls 6 [(4, .int (nI d)), (3, .int (nI (fa C + 1))), (2, .int (nI (ksm C))), (1, .int (nI ((clK C d).length))), (0, .ref (xq 0))] → W p l e ({ frames := 5, cells := 0, slots := 0, locals := 121 } : Room) s m ([.ref (xq 0)] : List Value).toArray below meth c H locs 0 0 QQ (F0 m 15 ls []) := by
    intro fu_15
    induction fu_15 with
    | zero => intro d v_ hfu; exact absurd hfu (Nat.not_lt_zero _)
    | succ fu_15 ih_15 =>
      intro d v_ hfu hd H locs hP hD hS ls hl
      refine lv_iload hx hb dX1_candidatesByAsks_15 (lv_at hl 0 rfl) ?_
      refine lv_iload_n hx hb dX1_candidatesByAsks_17 rfl (lv_at hl 2 rfl) ?_
      refine nv_icmp_ge (tgt := 61) hx hb dX1_candidatesByAsks_18 (by decide) (by omega) (by omega) (fun c_18 => ?_) (fun c_18 => ?_)
      · skip
        have e_ : ksm C = d := Eq.symm (by omega)
        subst e_
        refine lv_iload_n hx hb dX1_candidatesByAsks_61 rfl (lv_at hl 3 rfl) ?_
        subst hQQ
        exact xe_i (v := nI ((clK C (ksm C)).length)) v_ hx hb hr hlocks hK hP hD hS (rfl) dX1_candidatesByAsks_62
      · skip
        refine lv_iconst (v := nI 0) hx hb dX1_candidatesByAsks_21 (by decide) ?_
        refine lv_istore (lv' := [(5, .int (nI 0)), (4, .int (nI d)), (3, .int (nI (fa C + 1))), (2, .int (nI (ksm C))), (1, .int (nI ((clK C d).length))), (0, .ref (xq 0))]) hx hb dX1_candidatesByAsks_22 hl (by decide) rfl (fun ls hl => ?_)
        have lp_24 : ∀ (fu_24 : Nat) (f : Nat) (u_ : Nat → Int32), fa C + 1 - f < fu_24 → (f ≤ fa C + 1) → ∀ (H : Heap) (locs : List Loc), va_P D vwCl (WT ca cq xq (kdC C) (fsC C) (snC C) ak (nI (C 0)) (nI (C 37)) (nI (C 38)) (fI (C 39)) (nI (C 40)) (lN (C 66)) (nI (C 41)) tb_ u_ fy cn an sw sb sv) H → va_D A (WT ca cq xq (kdC C) (fsC C) (snC C) ak (nI (C 0)) (nI (C 37)) (nI (C 38)) (fI (C 39)) (nI (C 40)) (lN (C 66)) (nI (C 41)) tb_ u_ fy cn an sw sb sv) → va_S A s.heap H locs → ∀ (ls : Array Slot), lv_has ls 6 [(5, .int (nI f)), (4, .int (nI d)), (3, .int (nI (fa C + 1))), (2, .int (nI (ksm C))), (1, .int (nI ((clK C d).length + (clF C (d + 1) f).length))), (0, .ref (xq 0))] → W p l e ({ frames := 5, cells := 0, slots := 0, locals := 121 } : Room) s m ([.ref (xq 0)] : List Value).toArray below meth c H locs 0 0 QQ (F0 m 24 ls []) := by
          intro fu_24
          induction fu_24 with
          | zero => intro f u_ hfu; exact absurd hfu (Nat.not_lt_zero _)
          | succ fu_24 ih_24 =>
            intro f u_ hfu hf H locs hP hD hS ls hl
            refine lv_iload hx hb dX1_candidatesByAsks_24 (lv_at hl 0 rfl) ?_
            refine lv_iload_n hx hb dX1_candidatesByAsks_26 rfl (lv_at hl 2 rfl) ?_
            refine nv_icmp_ge (tgt := 55) hx hb dX1_candidatesByAsks_27 (by decide) (by omega) (by omega) (fun c_27 => ?_) (fun c_27 => ?_)
            · skip
              have e_ : fa C + 1 = f := Eq.symm (by omega)
              subst e_
              refine lv_iinc (v := nI (d + 1)) (lv' := [(4, .int (nI (d + 1))), (5, .int (nI (fa C + 1))), (3, .int (nI (fa C + 1))), (2, .int (nI (ksm C))), (1, .int (nI ((clK C d).length + (clF C (d + 1) (fa C + 1)).length))), (0, .ref (xq 0))]) hx hb dX1_candidatesByAsks_55 hl (k := 1) rfl (nI_add d 1) (by decide) rfl (fun ls hl => ?_)
              refine lv_goto (tgt := 15) hx hb dX1_candidatesByAsks_58 (by decide) ?_
              have hl : lv_has ls 6 [(4, .int (nI (d + 1))), (5, .int (nI (fa C + 1))), (3, .int (nI (fa C + 1))), (2, .int (nI (ksm C))), (1, .int (nI ((clK C (d + 1)).length))), (0, .ref (xq 0))] := (congrArg (fun x_ => lv_has ls 6 [(4, .int (nI (d + 1))), (5, .int (nI (fa C + 1))), (3, .int (nI (fa C + 1))), (2, .int (nI (ksm C))), (1, .int x_), (0, .ref (xq 0))]) (show nI ((clK C d).length + (clF C (d + 1) (fa C + 1)).length) = nI ((clK C (d + 1)).length) from congrArg nI (List.length_append).symm)).mp hl
              exact ih_15  (d + 1) u_ (by omega) (by omega) _ _ hP hD hS ls (lv_sub hl [0, 2, 3, 4, 5] rfl)
            · skip
              refine lv_iload_n hx hb dX1_candidatesByAsks_30 rfl (lv_at hl 4 rfl) ?_
              refine lv_aload_n hx hb dX1_candidatesByAsks_31 rfl (lv_at hl 5 rfl) ?_
              refine lv_iload hx hb dX1_candidatesByAsks_32 (lv_at hl 1 rfl) ?_
              refine lv_topi (nm_r (e' := fI (d + 1)) (fI_S d) ?_)
              refine lv_iload hx hb dX1_candidatesByAsks_34 (lv_at hl 0 rfl) ?_
              refine xc_i (xr_V (b := xq 0) (ci := 0) (q0 := 5) (As := [.int (fI (d + 1)), .int (nI f)]) (rest := [.int (nI ((clK C d).length + (clF C (d + 1) f).length))]) (mt_X1_isLeft l D ca cq xq ak tb_ u_ fy cn an sw sb sv C (d + 1) f (by first | assumption | omega | (simp only [updN, forgetC, changedC]; (repeat' split) <;> omega)) (by first | assumption | omega | (simp only [updN, forgetC, changedC]; (repeat' split) <;> omega)) (by first | assumption | omega | (simp only [updN, forgetC, changedC]; (repeat' split) <;> omega)) (by first | assumption | omega | (simp only [updN, forgetC, changedC]; (repeat' split) <;> omega)) (by first | assumption | omega | (simp only [updN, forgetC, changedC]; (repeat' split) <;> omega)) (by first | assumption | omega | (simp only [updN, forgetC, changedC]; (repeat' split) <;> omega)) (by first | assumption | omega | (simp only [updN, forgetC, changedC]; (repeat' split) <;> omega)) (by first | assumption | omega | (simp only [updN, forgetC, changedC]; (repeat' split) <;> omega)) (by first | assumption | omega | (simp only [updN, forgetC, changedC]; (repeat' split) <;> omega)) (by first | assumption | omega | (simp only [updN, forgetC, changedC]; (repeat' split) <;> omega)) (by first | assumption | omega | (simp only [updN, forgetC, changedC]; (repeat' split) <;> omega)) (by first | assumption | omega | (simp only [updN, forgetC, changedC]; (repeat' split) <;> omega)) H.size) ⟨hx, hb, hml, hown, hts⟩ (cwV 2 hts (lw_V q1119 q1121 qs30 q79 q1122) rfl rfl rfl (by decide +kernel) ⟨Nat.le_of_ble_eq_true rfl, Nat.le_of_ble_eq_true rfl⟩) EvX_ok hE hK hS (Cut.all hP hD hS hA) rfl rfl rfl hl.1 rfl (Nat.le_of_ble_eq_true rfl) dX1_candidatesByAsks_36 ⟨Nat.le_of_ble_eq_true rfl, Nat.le_of_ble_eq_true rfl⟩) hS (Cut.all hP hD hS hA) (fun r_7 u_8 H locs hq_36 hP hD hS => ?_)
              obtain ⟨va1_9, rfl⟩ : ∃ z_, z_ = u_8 := ⟨_, rfl⟩
              have hP : va_P D vwCl (WT ca cq xq (kdC C) (fsC C) (snC C) ak (nI (C 0)) (nI (C 37)) (nI (C 38)) (fI (C 39)) (nI (C 40)) (lN (C 66)) (nI (C 41)) tb_ va1_9 fy cn an sw sb sv) H := hP
              have hD : va_D A (WT ca cq xq (kdC C) (fsC C) (snC C) ak (nI (C 0)) (nI (C 37)) (nI (C 38)) (fI (C 39)) (nI (C 40)) (lN (C 66)) (nI (C 41)) tb_ va1_9 fy cn an sw sb sv) := hD
              have hp_36 : r_7 = bI (candB C (d + 1) f) := hq_36
              clear hq_36
              obtain rfl := hp_36
              refine nv_ifb_eq (tgt := 46) hx hb dX1_candidatesByAsks_39 (by decide) (fun c_39 => ?_) (fun c_39 => ?_)
              · skip
                refine lv_iconst (v := nI 0) hx hb dX1_candidatesByAsks_46 (by decide) ?_
                refine nv_iadd hx hb dX1_candidatesByAsks_47 ?_
                refine lv_istore_n (lv' := [(1, .int (nI (((clK C d).length + (clF C (d + 1) f).length) + 0))), (5, .int (nI f)), (4, .int (nI d)), (3, .int (nI (fa C + 1))), (2, .int (nI (ksm C))), (0, .ref (xq 0))]) hx hb dX1_candidatesByAsks_48 rfl hl (by decide) rfl (fun ls hl => ?_)
                refine lv_iinc (v := nI (f + 1)) (lv' := [(5, .int (nI (f + 1))), (1, .int (nI (((clK C d).length + (clF C (d + 1) f).length) + 0))), (4, .int (nI d)), (3, .int (nI (fa C + 1))), (2, .int (nI (ksm C))), (0, .ref (xq 0))]) hx hb dX1_candidatesByAsks_49 hl (k := 1) rfl (nI_add f 1) (by decide) rfl (fun ls hl => ?_)
                refine lv_goto (tgt := 24) hx hb dX1_candidatesByAsks_52 (by decide) ?_
                have hl : lv_has ls 6 [(5, .int (nI (f + 1))), (1, .int (nI ((clK C d).length + (clF C (d + 1) (f + 1)).length))), (4, .int (nI d)), (3, .int (nI (fa C + 1))), (2, .int (nI (ksm C))), (0, .ref (xq 0))] := (congrArg (fun x_ => lv_has ls 6 [(5, .int (nI (f + 1))), (1, .int x_), (4, .int (nI d)), (3, .int (nI (fa C + 1))), (2, .int (nI (ksm C))), (0, .ref (xq 0))]) (show nI (((clK C d).length + (clF C (d + 1) f).length) + 0) = nI ((clK C d).length + (clF C (d + 1) (f + 1)).length) from congrArg nI (by simp only [clF]; rw [c_39]; simp [Nat.add_assoc]))).mp hl
                exact ih_24  (f + 1) va1_9 (by omega) (by omega) _ _ hP hD hS ls (lv_sub hl [0, 2, 3, 4, 1, 5] rfl)
              · skip
                refine lv_iconst (v := nI 1) hx hb dX1_candidatesByAsks_42 (by decide) ?_
                refine lv_goto (tgt := 47) hx hb dX1_candidatesByAsks_43 (by decide) ?_
                refine nv_iadd hx hb dX1_candidatesByAsks_47 ?_
                refine lv_istore_n (lv' := [(1, .int (nI (((clK C d).length + (clF C (d + 1) f).length) + 1))), (5, .int (nI f)), (4, .int (nI d)), (3, .int (nI (fa C + 1))), (2, .int (nI (ksm C))), (0, .ref (xq 0))]) hx hb dX1_candidatesByAsks_48 rfl hl (by decide) rfl (fun ls hl => ?_)
                refine lv_iinc (v := nI (f + 1)) (lv' := [(5, .int (nI (f + 1))), (1, .int (nI (((clK C d).length + (clF C (d + 1) f).length) + 1))), (4, .int (nI d)), (3, .int (nI (fa C + 1))), (2, .int (nI (ksm C))), (0, .ref (xq 0))]) hx hb dX1_candidatesByAsks_49 hl (k := 1) rfl (nI_add f 1) (by decide) rfl (fun ls hl => ?_)
                refine lv_goto (tgt := 24) hx hb dX1_candidatesByAsks_52 (by decide) ?_
                have hl : lv_has ls 6 [(5, .int (nI (f + 1))), (1, .int (nI ((clK C d).length + (clF C (d + 1) (f + 1)).length))), (4, .int (nI d)), (3, .int (nI (fa C + 1))), (2, .int (nI (ksm C))), (0, .ref (xq 0))] := (congrArg (fun x_ => lv_has ls 6 [(5, .int (nI (f + 1))), (1, .int x_), (4, .int (nI d)), (3, .int (nI (fa C + 1))), (2, .int (nI (ksm C))), (0, .ref (xq 0))]) (show nI (((clK C d).length + (clF C (d + 1) f).length) + 1) = nI ((clK C d).length + (clF C (d + 1) (f + 1)).length) from congrArg nI (by simp only [clF]; rw [c_39]; simp [Nat.add_assoc]))).mp hl
                exact ih_24  (f + 1) va1_9 (by omega) (by omega) _ _ hP hD hS ls (lv_sub hl [0, 2, 3, 4, 1, 5] rfl)
        have hl : lv_has ls 6 [(5, .int (nI 0)), (4, .int (nI d)), (3, .int (nI (fa C + 1))), (2, .int (nI (ksm C))), (1, .int (nI ((clK C d).length + (clF C (d + 1) 0).length))), (0, .ref (xq 0))] := (congrArg (fun x_ => lv_has ls 6 [(5, .int (nI 0)), (4, .int (nI d)), (3, .int (nI (fa C + 1))), (2, .int (nI (ksm C))), (1, .int x_), (0, .ref (xq 0))]) (show nI ((clK C d).length) = nI ((clK C d).length + (clF C (d + 1) 0).length) from rfl)).mp hl
        exact lp_24 (fa C + 1 - 0 + 1) 0 v_ (Nat.lt_succ_self _) (by omega) _ _ hP hD hS ls (lv_sub hl [0, 1, 2, 3, 4, 5] rfl)
  have hl : lv_has ls 6 [(4, .int (nI 0)), (3, .int (nI (fa C + 1))), (2, .int (nI (ksm C))), (1, .int (nI ((clK C 0).length))), (0, .ref (xq 0))] := (congrArg (fun x_ => lv_has ls 6 [(4, .int (nI 0)), (3, .int (nI (fa C + 1))), (2, .int (nI (ksm C))), (1, .int x_), (0, .ref (xq 0))]) (show nI 0 = nI ((clK C 0).length) from rfl)).mp hl
  exact lp_15 (ksm C - 0 + 1) 0 va (Nat.lt_succ_self _) (by omega) _ _ hP hD hS ls (lv_sub hl [0, 1, 2, 3, 4] rfl)
