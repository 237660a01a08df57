/-! contracts of the model: orders -/
set_option maxRecDepth 100000
theorem or_kB {T : List Nat} {p : Nat} {w : Bool} (hw : w = false) (h : ¬ kf (T.getD p 0) = 0) : (!lnG (!lnG false T (p + 1)) T (if lnG false T (p + 1) = true then (p + 1) + 1 else (p + 1))) = (w || !orB T p) := by
  subst hw; simp only [orB, lnG, ne_eq, h, not_false_eq_true, if_true]
  rcases Bool.eq_false_or_eq_true (lnB (T.getD (p + 1) 0)) with h1 | h1 <;> rw [show T.getD (p + 2) 0 = T.getD (p + 1 + 1) 0 from rfl] <;> simp [-List.getD_eq_getElem?_getD, h1]
theorem or_kP {T : List Nat} {p : Nat} {w : Bool} (hw : w = false) (h : ¬ kf (T.getD p 0) = 0) : (if lnG (!lnG false T (p + 1)) T (if lnG false T (p + 1) = true then (p + 1) + 1 else (p + 1)) = true then (if lnG false T (p + 1) = true then (p + 1) + 1 else (p + 1)) + 1 else (if lnG false T (p + 1) = true then (p + 1) + 1 else (p + 1))) = (if w = true then p else orP T p) := by
  subst hw; simp only [orP, lnG, ne_eq, h, not_false_eq_true, if_true]
  rcases Bool.eq_false_or_eq_true (lnB (T.getD (p + 1) 0)) with h1 | h1 <;> rcases Bool.eq_false_or_eq_true (lnB (T.getD (p + 2) 0)) with h2 | h2 <;> (have h3 := h2; rw [show T.getD (p + 2) 0 = T.getD (p + 1 + 1) 0 from rfl] at h3; simp [-List.getD_eq_getElem?_getD, h1, h2, h3])
theorem or_kO {T : List Nat} {p : Nat} {w : Bool} (hw : w = false) (h : ¬ kf (T.getD p 0) = 0) (ho : (w || !orB T p) = false) : (T.getD p 0 = 37 ∨ nI (if lnG false T (p + 1) = true then T.getD (p + 1) 0 - 97 else 0) = nI (orO T p).2.1) ∧ (kf (T.getD p 0) = 0 ∨ nI (if lnG (!lnG false T (p + 1)) T (if lnG false T (p + 1) = true then (p + 1) + 1 else (p + 1)) = true then T.getD (if lnG false T (p + 1) = true then (p + 1) + 1 else (p + 1)) 0 - 97 else 0) = nI (orO T p).2.2) := by
  subst hw
  simp only [orB, ne_eq, h, not_false_eq_true, if_true] at ho
  simp only [orO, lnG, ne_eq, h, not_false_eq_true, if_true]
  rcases Bool.eq_false_or_eq_true (lnB (T.getD (p + 1) 0)) with h1 | h1 <;> rcases Bool.eq_false_or_eq_true (lnB (T.getD (p + 2) 0)) with h2 | h2 <;> rw [h1, h2] at ho <;> first | exact absurd ho (by decide) | skip
  have h3 := h2; rw [show T.getD (p + 2) 0 = T.getD (p + 1 + 1) 0 from rfl] at h3
  simp [-List.getD_eq_getElem?_getD, h1, h2, h3]
theorem or_lB {T : List Nat} {p : Nat} {w : Bool} (hw : w = false) (h : kf (T.getD p 0) = 0) (hs : T.getD p 0 = 62 ∨ T.getD p 0 = 35) : (!lnG false T (p + 1)) = (w || !orB T p) := by
  subst hw; simp only [orB, lnG, ne_eq, h, not_true, if_false, if_pos hs]; rfl
theorem or_lP {T : List Nat} {p : Nat} {w : Bool} (hw : w = false) (h : kf (T.getD p 0) = 0) (hs : T.getD p 0 = 62 ∨ T.getD p 0 = 35) : (if lnG false T (p + 1) = true then (p + 1) + 1 else (p + 1)) = (if w = true then p else orP T p) := by
  subst hw; simp only [orP, lnG, ne_eq, h, not_true, if_false, if_pos hs]; rfl
theorem or_lO {T : List Nat} {p : Nat} {w : Bool} {b : Int32} (hw : w = false) (h : kf (T.getD p 0) = 0) (hs : T.getD p 0 = 62 ∨ T.getD p 0 = 35) (ho : (w || !orB T p) = false) : (T.getD p 0 = 37 ∨ nI (if lnG false T (p + 1) = true then T.getD (p + 1) 0 - 97 else 0) = nI (orO T p).2.1) ∧ (kf (T.getD p 0) = 0 ∨ b = nI (orO T p).2.2) := by
  subst hw
  refine ⟨Or.inr ?_, Or.inl h⟩
  simp only [orB, ne_eq, h, not_true, if_false, if_pos hs] at ho
  simp only [orO, ne_eq, h, not_true, if_false, if_pos hs, lnG]
  rcases Bool.eq_false_or_eq_true (lnB (T.getD (p + 1) 0)) with h1 | h1
  · simp [-List.getD_eq_getElem?_getD, h1] <;> rfl
  · rw [h1] at ho; cases ho
theorem or_tB {T : List Nat} {p : Nat} {w : Bool} (hw : w = false) (hs : T.getD p 0 = 63) : (!dgG false T (p + 1)) = (w || !orB T p) := by
  subst hw; simp only [orB, dgG, hs]; rfl
theorem or_tP {T : List Nat} {p : Nat} {w : Bool} (hw : w = false) (hs : T.getD p 0 = 63) : (if dgG false T (p + 1) = true then tsP T (p + 1) else (p + 1)) = (if w = true then p else orP T p) := by
  subst hw; simp only [orP, dgG, hs]; rfl
theorem or_tO {T : List Nat} {p : Nat} {w : Bool} {b : Int32} (hw : w = false) (hs : T.getD p 0 = 63) (ho : (w || !orB T p) = false) : (T.getD p 0 = 37 ∨ nI (if dgG false T (p + 1) = true then tsV T (p + 1) else 0) = nI (orO T p).2.1) ∧ (kf (T.getD p 0) = 0 ∨ b = nI (orO T p).2.2) := by
  subst hw
  refine ⟨Or.inr ?_, Or.inl (by rw [hs]; rfl)⟩
  simp only [orB, hs] at ho
  simp only [orO, hs, dgG]
  have ho : (false || !dgB (T.getD (p + 1) 0)) = false := ho
  rcases Bool.eq_false_or_eq_true (dgB (T.getD (p + 1) 0)) with h1 | h1
  · simp [-List.getD_eq_getElem?_getD, h1] <;> rfl
  · rw [h1] at ho; cases ho
theorem or_pB {T : List Nat} {p : Nat} {w : Bool} (hw : w = false) (hs : T.getD p 0 = 37) : false = (w || !orB T p) := by
  subst hw; simp only [orB, hs]; rfl
theorem or_pP {T : List Nat} {p : Nat} {w : Bool} (hw : w = false) (hs : T.getD p 0 = 37) : p + 1 = (if w = true then p else orP T p) := by
  subst hw; simp only [orP, hs]; rfl
theorem or_xB {T : List Nat} {p : Nat} {w : Bool} (h : kf (T.getD p 0) = 0) (h1 : ¬ T.getD p 0 = 62) (h2 : ¬ T.getD p 0 = 35) (h3 : ¬ T.getD p 0 = 63) (h4 : ¬ T.getD p 0 = 37) : orB T p = false := by
  simp only [orB, ne_eq, h, h1, h2, h3, h4, not_true, if_false, or_self]; rfl
theorem or_xP {T : List Nat} {p : Nat} {w : Bool} (hw : w = false) (h : kf (T.getD p 0) = 0) (h1 : ¬ T.getD p 0 = 62) (h2 : ¬ T.getD p 0 = 35) (h3 : ¬ T.getD p 0 = 63) (h4 : ¬ T.getD p 0 = 37) : p + 0 = (if w = true then p else orP T p) := by
  subst hw; simp only [orP, ne_eq, h, h1, h2, h3, h4, not_true, if_false, or_self]; rfl
/-- where the next order begins -/
def nxp (q : Nat) : Nat := if 0 < q then q + 1 else 0
theorem prs_step {T : List Nat} {f p : Nat} (h : prsB T f p = true) : ∃ L, orB T p = true ∧ prsL T f p = orO T p :: L ∧ (T.length ≤ orP T p → L = []) ∧ (orP T p < T.length → prsB T (f - 1) (orP T p + 1) = true ∧ L = prsL T (f - 1) (orP T p + 1)) := by
  cases f with
  | zero => cases h
  | succ f =>
    unfold prsB at h
    rw [Bool.and_eq_true, Bool.or_eq_true, Bool.and_eq_true] at h
    obtain ⟨h1, h2⟩ := h
    refine ⟨_, h1, by unfold prsL; rw [if_pos h1], fun h3 => if_pos h3, fun h3 => ?_⟩
    rcases h2 with h2 | h2
    · exact absurd (of_decide_eq_true h2) (by omega)
    · refine ⟨h2.2, ?_⟩
      rw [if_neg (by omega), if_pos (of_decide_eq_true h2.1)]
      rfl
theorem orO_1 {T : List Nat} {p : Nat} : (orO T p).1 = T.getD p 0 := by
  unfold orO; simp only; (repeat' split) <;> rfl
theorem dosk_s {C D : Nat → Nat} {o : Nat × Nat × Nat} (h : kf o.1 ≠ 0) (hd : dosC C o = some D) : ncode C (nI (kf o.1 - 1)) (nI o.2.1) (nI o.2.2) = 0 ∧ D = addsC C (kf o.1 - 1) o.2.1 o.2.2 := by
  unfold dosC at hd; rw [if_pos h] at hd
  split at hd
  · next q => cases hd; exact ⟨q, rfl⟩
  · cases hd
theorem dosk_n {C : Nat → Nat} {o : Nat × Nat × Nat} (h : kf o.1 ≠ 0) (hd : dosC C o = none) : ncode C (nI (kf o.1 - 1)) (nI o.2.1) (nI o.2.2) ≠ 0 := by
  unfold dosC at hd; rw [if_pos h] at hd
  split at hd
  · cases hd
  · next q => exact q
theorem doso_s {C D : Nat → Nat} {o : Nat × Nat × Nat} (h : kf o.1 = 0) (h2 : o.1 = 62) (hd : dosC C o = some D) : outcode C (nI o.2.1) = 0 ∧ D = turnOutC C o.2.1 := by
  unfold dosC at hd; rw [if_neg (fun q => q h), if_pos h2] at hd
  split at hd
  · next q => cases hd; exact ⟨q, rfl⟩
  · cases hd
theorem doso_n {C : Nat → Nat} {o : Nat × Nat × Nat} (h : kf o.1 = 0) (h2 : o.1 = 62) (hd : dosC C o = none) : outcode C (nI o.2.1) ≠ 0 := by
  unfold dosC at hd; rw [if_neg (fun q => q h), if_pos h2] at hd
  split at hd
  · cases hd
  · next q => exact q
theorem dosb_s {C D : Nat → Nat} {o : Nat × Nat × Nat} (h : kf o.1 = 0) (h2 : o.1 = 35) (hd : dosC C o = some D) : boxcode C (nI o.2.1 - nI 6) = 0 ∧ D = turnBoxC C (o.2.1 - 6) := by
  unfold dosC at hd; rw [if_neg (fun q => q h), if_neg (by omega), if_pos h2] at hd
  split at hd
  · next q => cases hd; exact ⟨q, rfl⟩
  · cases hd
theorem dosb_n {C : Nat → Nat} {o : Nat × Nat × Nat} (h : kf o.1 = 0) (h2 : o.1 = 35) (hd : dosC C o = none) : boxcode C (nI o.2.1 - nI 6) ≠ 0 := by
  unfold dosC at hd; rw [if_neg (fun q => q h), if_neg (by omega), if_pos h2] at hd
  split at hd
  · cases hd
  · next q => exact q
theorem dost_s {C D : Nat → Nat} {o : Nat × Nat × Nat} (h : kf o.1 = 0) (h2 : o.1 = 63) (hd : dosC C o = some D) : C 41 < 12 ∧ D = askC C o.2.1 (anC C 0 (C 39) o.2.1) := by
  unfold dosC at hd; rw [if_neg (fun q => q h), if_neg (by omega), if_neg (by omega), if_pos h2] at hd
  split at hd
  · next q => cases hd; exact ⟨q, rfl⟩
  · cases hd
theorem dost_n {C : Nat → Nat} {o : Nat × Nat × Nat} (h : kf o.1 = 0) (h2 : o.1 = 63) (hd : dosC C o = none) : ¬ C 41 < 12 := by
  unfold dosC at hd; rw [if_neg (fun q => q h), if_neg (by omega), if_neg (by omega), if_pos h2] at hd
  split at hd
  · cases hd
  · next q => exact q
theorem doss_s {C D : Nat → Nat} {o : Nat × Nat × Nat} (h : kf o.1 = 0) (h1 : ¬ o.1 = 62) (h2 : ¬ o.1 = 35) (h3 : ¬ o.1 = 63) (hd : dosC C o = some D) : D = suspectC C := by
  unfold dosC at hd; rw [if_neg (fun q => q h), if_neg h1, if_neg h2, if_neg h3] at hd
  cases hd; rfl
theorem doss_n {C : Nat → Nat} {o : Nat × Nat × Nat} (h : kf o.1 = 0) (h1 : ¬ o.1 = 62) (h2 : ¬ o.1 = 35) (h3 : ¬ o.1 = 63) (hd : dosC C o = none) : False := by
  unfold dosC at hd; rw [if_neg (fun q => q h), if_neg h1, if_neg h2, if_neg h3] at hd
  cases hd
theorem orn_le {o : Nat × Nat × Nat} (h : orn o) : o.1 ≤ 126 := by
  rcases h with h | h | h | h
  · have h := h.1; unfold kf at h; (repeat' split at h) <;> omega
  · omega
  · omega
  · omega
theorem orn_b {o : Nat × Nat × Nat} (h : orn o) (h2 : o.1 = 62 ∨ o.1 = 35 ∨ o.1 = 63) : o.2.1 < 64 := by
  rcases h with h | h | h | h <;> omega
theorem orn_k {o : Nat × Nat × Nat} (h : orn o) (hk : ¬ kf o.1 = 0) : o.2.1 < 18 ∧ o.2.2 < 18 := by
  have := kf_sg hk
  rcases h with h | h | h | h <;> omega
theorem nI_inj {a b : Nat} (ha : a < 2 ^ 31) (hb : b < 2 ^ 31) (h : nI a = nI b) : a = b := by
  have h := congrArg Int32.toInt h; rw [nI_toInt ha, nI_toInt hb] at h; omega
theorem orO_okn {T : List Nat} {p : Nat} (h : orB T p = true) : orn (orO T p) := orO_ok h
theorem runC_c {C : Nat → Nat} {o : Nat × Nat × Nat} {L : List (Nat × Nat × Nat)} : runC C (o :: L) = match dosC C o with | none => C | some D => runC D L := rfl
theorem runN_c {C : Nat → Nat} {o : Nat × Nat × Nat} {L : List (Nat × Nat × Nat)} : runN C (o :: L) = match dosC C o with | none => 0 | some D => 1 + runN D L := rfl
theorem nxp_ge {q : Nat} : q ≤ nxp q := by unfold nxp; split <;> omega
theorem nxp_le {q : Nat} : nxp q ≤ q + 1 := by unfold nxp; split <;> omega
theorem nxp_p {q : Nat} (h : 0 < q) : nxp q = q + 1 := if_pos h
theorem prs_len {T : List Nat} {f : Nat} (h : prsB T f 0 = true) : 0 < T.length := by
  obtain ⟨L, h1, _⟩ := prs_step h
  rcases Nat.eq_zero_or_pos T.length with q | q
  · exfalso
    have : T = [] := List.eq_nil_of_length_eq_zero q
    subst this; exact absurd h1 (by decide)
  · exact q

set_option maxHeartbeats 8000000 in
set_option maxRecDepth 100000 in
theorem mt_X3_order (l : Launch) (D : va_G) (ca : Nat → ClassId) (q : Nat → Nat) (th : Int32) (st : Int32) (ik : Int32) (ou : Int32) (so : Int32) (na : Int32) (nb : Int32) (fo : Int32) (nu : Int32) (al : Int32) (z : Nat → Int32) (be : Nat → Int32) (ke : Nat → Int32) (te : Nat → Int32) (ti : Nat → Int32) (ne : Nat → Int32) (wa : Nat → Int32) (ta : Nat → Int64) (out : Nat → Int64) (pl : Nat → Int64) (lo : Nat → Int64) (sh : Nat → Int64) (le : Nat → Int64) (T_ : List Nat) (p_ : Nat) (w_ : Bool) (hTe : TeOk T_ te) (hTx : TxOk T_) (hp_ : p_ < 800) (nn : Nat) : Met l yX3_order (ws_ yX3_order cX3_order 2 (Option.none : Option Jvm.ClassFile.FieldType)) ({ frames := 2, cells := 0, slots := 0, locals := 43 } : Room) (va_Pc [.ref (q 0)] (PreW Ev0 D vwCl (TY ca) (WM ca q th st ik (nI T_.length) ou (nI p_) (bI w_) so na nb fo nu al z be ke te ti ne wa ta out pl lo sh le) nn)) (va_Qv (fun (u_ : Int32 × Int32) => (w_ || !orB T_ p_) = false → ((T_.getD p_ 0 = 37 ∨ u_.1 = nI (orO T_ p_).2.1) ∧ (kf (T_.getD p_ 0) = 0 ∨ u_.2 = nI (orO T_ p_).2.2))) (PostW D vwCl (TY ca) (fun (u_ : Int32 × Int32) => (WM ca q th st ik (nI T_.length) ou (nI (if w_ = true then p_ else orP T_ p_)) (bI (w_ || !orB T_ p_)) (nI (T_.getD p_ 0)) u_.1 u_.2 fo nu al z be ke te ti ne wa ta out pl lo sh le)) (va_A (WM ca q th st ik (nI T_.length) ou (nI p_) (bI w_) so na nb fo nu al z be ke te ti ne wa ta out pl lo sh le) nn)) (va_A (WM ca q th st ik (nI T_.length) ou (nI p_) (bI w_) so na nb fo nu al z be ke te ti ne wa ta out pl lo sh le) nn)) 0 0 (va_A (WM ca q th st ik (nI T_.length) ou (nI p_) (bI w_) so na nb fo nu al z be ke te ti ne wa ta out pl lo sh le) nn) := by
  refine met_go (QA := fun A => va_Qv (fun (u_ : Int32 × Int32) => (w_ || !orB T_ p_) = false → ((T_.getD p_ 0 = 37 ∨ u_.1 = nI (orO T_ p_).2.1) ∧ (kf (T_.getD p_ 0) = 0 ∨ u_.2 = nI (orO T_ p_).2.2))) (PostW D vwCl (TY ca) (fun (u_ : Int32 × Int32) => (WM ca q th st ik (nI T_.length) ou (nI (if w_ = true then p_ else orP T_ p_)) (bI (w_ || !orB T_ p_)) (nI (T_.getD p_ 0)) u_.1 u_.2 fo nu al z be ke te ti ne wa ta out pl lo sh le)) A) A) (by decide) (Nat.le_of_ble_eq_true rfl) (fun p e s m below meth c A ls QQ hQQ hx hb hr hts hown hlocks hml hA hP hK hD hE hl => ?_)
  have hown : s.vm.findClass RX3 = some m.cls := hown
  have hS : va_S A s.heap s.heap [] := va_S.rf
  have hl : lv_has ls 2 [(0, .ref (q 0))] := hl
  generalize hHe : s.heap = H at hP ⊢
  have hS : va_S A s.heap H [] := hHe ▸ hS
  generalize ([] : List Loc) = locs at hS ⊢
  refine lv_aload_n hx hb dX3_order_0 rfl (lv_at hl 0 rfl) ?_
  refine lv_aload_n hx hb dX3_order_1 rfl (lv_at hl 0 rfl) ?_
  refine xc_i (xr_V (b := q 0) (ci := 2) (q0 := 0) (As := []) (rest := [.ref (q 0)]) (mt_X3_here l D ca q th st ik ou (bI w_) so na nb fo nu al z be ke te ti ne wa ta out pl lo sh le T_ p_ (by first | assumption | omega | (simp only [updN, forgetC, changedC]; (repeat' split) <;> omega)) (by first | assumption | omega | (simp only [updN, forgetC, changedC]; (repeat' split) <;> omega)) (by first | assumption | omega | (simp only [updN, forgetC, changedC]; (repeat' split) <;> omega)) H.size) ⟨hx, hb, hml, hown, hts⟩ (cwV 0 hts (lw_V q1883 q1885 qs72 q87 q1886) rfl rfl rfl (by decide +kernel) ⟨Nat.le_of_ble_eq_true rfl, Nat.le_of_ble_eq_true rfl⟩) Ev0_ok hE hK hS (Cut.all hP hD hS hA) rfl rfl rfl hl.1 rfl (Nat.le_of_ble_eq_true rfl) dX3_order_2 ⟨Nat.le_of_ble_eq_true rfl, Nat.le_of_ble_eq_true rfl⟩) hS (Cut.all hP hD hS hA) (fun r_1 u_2 H locs hq_2 hP hD hS => ?_)
  have hP : va_P D vwCl (WM ca q th st ik (nI T_.length) ou (nI p_) (bI w_) so na nb fo nu al z be ke te ti ne wa ta out pl lo sh le) H := hP
  have hD : va_D A (WM ca q th st ik (nI T_.length) ou (nI p_) (bI w_) so na nb fo nu al z be ke te ti ne wa ta out pl lo sh le) := hD
  have hp_2 : r_1 = nI (T_.getD p_ 0) := hq_2
  clear hq_2
  obtain rfl := hp_2
  refine pWM_0_sort_X3 hx hb hts hown hK hP hD hS dX3_order_5 (fun H locs hP hD hS => ?_)
  refine lv_aload_n hx hb dX3_order_8 rfl (lv_at hl 0 rfl) ?_
  refine gWM_0_sort_X3 hx hb hts hown hK hP dX3_order_9 ?_
  refine xc_i (xr_S (As := [.int (nI (T_.getD p_ 0))]) (rest := []) (mt_X3_kindFor l D ca (T_.getD p_ 0) (hTx.2 p_) H.size) ⟨hx, hb, hml, hown, hts⟩ (va_cwS 1 hts (lw_S q1887 q1888 q87 q1889) rfl rfl rfl (by decide +kernel) ⟨Nat.le_of_ble_eq_true rfl, Nat.le_of_ble_eq_true rfl⟩) Ev0_ok hE hK hS (Cut.app (wc := []) (wr := (WM ca q th st ik (nI T_.length) ou (nI p_) (bI w_) (nI (T_.getD p_ 0)) na nb fo nu al z be ke te ti ne wa ta out pl lo sh le)) hP hD hS hA) rfl hl.1 rfl (Nat.le_of_ble_eq_true rfl) dX3_order_12 ⟨Nat.le_of_ble_eq_true rfl, Nat.le_of_ble_eq_true rfl⟩) hS (Cut.app (wc := []) (wr := (WM ca q th st ik (nI T_.length) ou (nI p_) (bI w_) (nI (T_.getD p_ 0)) na nb fo nu al z be ke te ti ne wa ta out pl lo sh le)) hP hD hS hA) (fun r_3 u_4 H locs hq_12 hP hD hS => ?_)
  have hP : va_P D vwCl (WM ca q th st ik (nI T_.length) ou (nI p_) (bI w_) (nI (T_.getD p_ 0)) na nb fo nu al z be ke te ti ne wa ta out pl lo sh le) H := hP
  have hD : va_D A (WM ca q th st ik (nI T_.length) ou (nI p_) (bI w_) (nI (T_.getD p_ 0)) na nb fo nu al z be ke te ti ne wa ta out pl lo sh le) := hD
  have hp_12 : r_3 = fI (kf (T_.getD p_ 0)) := hq_12
  clear hq_12
  obtain rfl := hp_12
  refine lv_iconst (v := fI 0) hx hb dX3_order_15 (by decide) ?_
  refine nv_icmp_eqf (tgt := 23) hx hb dX3_order_16 (by decide) (by have := kf_le (T_.getD p_ 0); omega) (fun c_16 => ?_) (fun c_16 => ?_)
  · skip
    refine lv_iconst (v := nI 0) hx hb dX3_order_23 (by decide) ?_
    refine lv_istore_n (lv' := [(1, .int (nI 0)), (0, .ref (q 0))]) hx hb dX3_order_24 rfl hl (by decide) rfl (fun ls hl => ?_)
    refine lv_aload_n hx hb dX3_order_25 rfl (lv_at hl 1 rfl) ?_
    refine lv_aload_n hx hb dX3_order_26 rfl (lv_at hl 1 rfl) ?_
    refine gWM_0_isWrong_X3 hx hb hts hown hK hP dX3_order_27 ?_
    refine nv_ifb_ne (tgt := 73) hx hb dX3_order_30 (by decide) (fun c_30 => ?_) (fun c_30 => ?_)
    · skip
      refine lv_iconst (v := nI 1) hx hb dX3_order_73 (by decide) ?_
      refine lv_goto (tgt := 78) hx hb dX3_order_74 (by decide) ?_
      refine pWM_0_isWrong_X3 hx hb hts hown hK hP hD hS rfl rfl dX3_order_78 (fun H locs hP hD hS => ?_)
      refine lv_aload_n hx hb dX3_order_81 rfl (lv_at hl 1 rfl) ?_
      refine lv_dup hx hb dX3_order_82 rfl ?_
      refine gWM_0_at_X3 hx hb hts hown hK hP dX3_order_83 ?_
      refine lv_aload_n hx hb dX3_order_86 rfl (lv_at hl 1 rfl) ?_
      refine gWM_0_isWrong_X3 hx hb hts hown hK hP dX3_order_87 ?_
      refine nv_if_eq (tgt := 97) hx hb dX3_order_90 (by decide) (by omega) (fun c_90 => absurd c_90 (by decide)) (fun c_90 => ?_)
      refine lv_iconst (v := nI 0) hx hb dX3_order_93 (by decide) ?_
      refine lv_goto (tgt := 98) hx hb dX3_order_94 (by decide) ?_
      refine nv_iadd hx hb dX3_order_98 ?_
      refine pWM_0_at_X3 hx hb hts hown hK hP hD hS dX3_order_99 (fun H locs hP hD hS => ?_)
      refine lv_iload_n hx hb dX3_order_102 rfl (lv_at hl 0 rfl) ?_
      refine nv_if_ne (tgt := 124) hx hb dX3_order_103 (by decide) (by omega) (fun c_103 => absurd c_103 (by decide)) (fun c_103 => ?_)
      refine lv_aload_n hx hb dX3_order_106 rfl (lv_at hl 1 rfl) ?_
      refine gWM_0_sort_X3 hx hb hts hown hK hP dX3_order_107 ?_
      refine lv_bipush (v := nI 62) hx hb dX3_order_110 (by decide) ?_
      refine nv_icmp_eq (tgt := 124) hx hb dX3_order_112 (by decide) (by have := hTx.2 p_; omega) (by omega) (fun c_112 => ?_) (fun c_112 => ?_)
      · skip
        refine lv_aload_n hx hb dX3_order_124 rfl (lv_at hl 1 rfl) ?_
        refine lv_aload_n hx hb dX3_order_125 rfl (lv_at hl 1 rfl) ?_
        have ew_ : nI 1 = bI true := rfl
        have hP : va_P D vwCl (WM ca q th st ik (nI T_.length) ou (nI (p_ + 0)) (bI true) (nI (T_.getD p_ 0)) na nb fo nu al z be ke te ti ne wa ta out pl lo sh le) H := (congrArg (fun x_ => va_P D vwCl (WM ca q th st ik (nI T_.length) ou (nI (p_ + 0)) x_ (nI (T_.getD p_ 0)) na nb fo nu al z be ke te ti ne wa ta out pl lo sh le) H) ew_).mp hP
        have hD : va_D A (WM ca q th st ik (nI T_.length) ou (nI (p_ + 0)) (bI true) (nI (T_.getD p_ 0)) na nb fo nu al z be ke te ti ne wa ta out pl lo sh le) := (congrArg (fun x_ => va_D A (WM ca q th st ik (nI T_.length) ou (nI (p_ + 0)) x_ (nI (T_.getD p_ 0)) na nb fo nu al z be ke te ti ne wa ta out pl lo sh le)) ew_).mp hD
        clear ew_
        refine xc_i (xr_V (b := q 0) (ci := 2) (q0 := 0) (As := []) (rest := [.ref (q 0)]) (mt_X3_lineHere l D ca q th st ik ou (nI (T_.getD p_ 0)) na nb fo nu al z be ke te ti ne wa ta out pl lo sh le T_ (p_ + 0) true hTe hTx (by (repeat' split) <;> omega) H.size) ⟨hx, hb, hml, hown, hts⟩ (cwV 0 hts (lw_V q1890 q1892 qs73 q87 q1893) rfl rfl rfl (by decide +kernel) ⟨Nat.le_of_ble_eq_true rfl, Nat.le_of_ble_eq_true rfl⟩) Ev0_ok hE hK hS (Cut.all hP hD hS hA) rfl rfl rfl hl.1 rfl (Nat.le_of_ble_eq_true rfl) dX3_order_126 ⟨Nat.le_of_ble_eq_true rfl, Nat.le_of_ble_eq_true rfl⟩) hS (Cut.all hP hD hS hA) (fun r_8 u_9 H locs hq_126 hP hD hS => ?_)
        have hP : va_P D vwCl (WM ca q th st ik (nI T_.length) ou (nI (if lnG true T_ (p_ + 0) = true then (p_ + 0) + 1 else (p_ + 0))) (bI (!lnG true T_ (p_ + 0))) (nI (T_.getD p_ 0)) na nb fo nu al z be ke te ti ne wa ta out pl lo sh le) H := hP
        have hD : va_D A (WM ca q th st ik (nI T_.length) ou (nI (if lnG true T_ (p_ + 0) = true then (p_ + 0) + 1 else (p_ + 0))) (bI (!lnG true T_ (p_ + 0))) (nI (T_.getD p_ 0)) na nb fo nu al z be ke te ti ne wa ta out pl lo sh le) := hD
        have hp_126 : r_8 = nI (if lnG true T_ (p_ + 0) = true then T_.getD (p_ + 0) 0 - 97 else 0) := hq_126
        clear hq_126
        obtain rfl := hp_126
        have ew_ : bI (!lnG true T_ (p_ + 0)) = bI true := rfl
        have hP : va_P D vwCl (WM ca q th st ik (nI T_.length) ou (nI (if lnG true T_ (p_ + 0) = true then (p_ + 0) + 1 else (p_ + 0))) (bI true) (nI (T_.getD p_ 0)) na nb fo nu al z be ke te ti ne wa ta out pl lo sh le) H := (congrArg (fun x_ => va_P D vwCl (WM ca q th st ik (nI T_.length) ou (nI (if lnG true T_ (p_ + 0) = true then (p_ + 0) + 1 else (p_ + 0))) x_ (nI (T_.getD p_ 0)) na nb fo nu al z be ke te ti ne wa ta out pl lo sh le) H) ew_).mp hP
        have hD : va_D A (WM ca q th st ik (nI T_.length) ou (nI (if lnG true T_ (p_ + 0) = true then (p_ + 0) + 1 else (p_ + 0))) (bI true) (nI (T_.getD p_ 0)) na nb fo nu al z be ke te ti ne wa ta out pl lo sh le) := (congrArg (fun x_ => va_D A (WM ca q th st ik (nI T_.length) ou (nI (if lnG true T_ (p_ + 0) = true then (p_ + 0) + 1 else (p_ + 0))) x_ (nI (T_.getD p_ 0)) na nb fo nu al z be ke te ti ne wa ta out pl lo sh le)) ew_).mp hD
        clear ew_
        have ew_ : nI (if lnG true T_ (p_ + 0) = true then (p_ + 0) + 1 else (p_ + 0)) = nI (p_ + 0) := rfl
        have hP : va_P D vwCl (WM ca q th st ik (nI T_.length) ou (nI (p_ + 0)) (bI true) (nI (T_.getD p_ 0)) na nb fo nu al z be ke te ti ne wa ta out pl lo sh le) H := (congrArg (fun x_ => va_P D vwCl (WM ca q th st ik (nI T_.length) ou x_ (bI true) (nI (T_.getD p_ 0)) na nb fo nu al z be ke te ti ne wa ta out pl lo sh le) H) ew_).mp hP
        have hD : va_D A (WM ca q th st ik (nI T_.length) ou (nI (p_ + 0)) (bI true) (nI (T_.getD p_ 0)) na nb fo nu al z be ke te ti ne wa ta out pl lo sh le) := (congrArg (fun x_ => va_D A (WM ca q th st ik (nI T_.length) ou x_ (bI true) (nI (T_.getD p_ 0)) na nb fo nu al z be ke te ti ne wa ta out pl lo sh le)) ew_).mp hD
        clear ew_
        refine pWM_0_one_X3 hx hb hts hown hK hP hD hS dX3_order_129 (fun H locs hP hD hS => ?_)
        refine lv_iload_n hx hb dX3_order_132 rfl (lv_at hl 0 rfl) ?_
        refine nv_if_eq (tgt := 144) hx hb dX3_order_133 (by decide) (by omega) (fun c_133 => ?_) (fun c_133 => absurd c_133 (by decide))
        refine lv_aload_n hx hb dX3_order_144 rfl (lv_at hl 1 rfl) ?_
        refine gWM_0_sort_X3 hx hb hts hown hK hP dX3_order_145 ?_
        refine lv_bipush (v := nI 63) hx hb dX3_order_148 (by decide) ?_
        refine nv_icmp_ne (tgt := 161) hx hb dX3_order_150 (by decide) (by have := hTx.2 p_; omega) (by omega) (fun c_150 => ?_) (fun c_150 => absurd (c_112.symm.trans c_150) (by decide))
        have ew_ : nI (p_ + 0) = nI (if w_ = true then p_ else orP T_ p_) := congrArg nI (by rw [if_pos c_30]; rfl)
        have hP : va_P D vwCl (WM ca q th st ik (nI T_.length) ou (nI (if w_ = true then p_ else orP T_ p_)) (bI true) (nI (T_.getD p_ 0)) (nI (if lnG true T_ (p_ + 0) = true then T_.getD (p_ + 0) 0 - 97 else 0)) nb fo nu al z be ke te ti ne wa ta out pl lo sh le) H := (congrArg (fun x_ => va_P D vwCl (WM ca q th st ik (nI T_.length) ou x_ (bI true) (nI (T_.getD p_ 0)) (nI (if lnG true T_ (p_ + 0) = true then T_.getD (p_ + 0) 0 - 97 else 0)) nb fo nu al z be ke te ti ne wa ta out pl lo sh le) H) ew_).mp hP
        have hD : va_D A (WM ca q th st ik (nI T_.length) ou (nI (if w_ = true then p_ else orP T_ p_)) (bI true) (nI (T_.getD p_ 0)) (nI (if lnG true T_ (p_ + 0) = true then T_.getD (p_ + 0) 0 - 97 else 0)) nb fo nu al z be ke te ti ne wa ta out pl lo sh le) := (congrArg (fun x_ => va_D A (WM ca q th st ik (nI T_.length) ou x_ (bI true) (nI (T_.getD p_ 0)) (nI (if lnG true T_ (p_ + 0) = true then T_.getD (p_ + 0) 0 - 97 else 0)) nb fo nu al z be ke te ti ne wa ta out pl lo sh le)) ew_).mp hD
        clear ew_
        have ew_ : bI true = bI (w_ || !orB T_ p_) := congrArg bI (by rw [c_30]; rfl)
        have hP : va_P D vwCl (WM ca q th st ik (nI T_.length) ou (nI (if w_ = true then p_ else orP T_ p_)) (bI (w_ || !orB T_ p_)) (nI (T_.getD p_ 0)) (nI (if lnG true T_ (p_ + 0) = true then T_.getD (p_ + 0) 0 - 97 else 0)) nb fo nu al z be ke te ti ne wa ta out pl lo sh le) H := (congrArg (fun x_ => va_P D vwCl (WM ca q th st ik (nI T_.length) ou (nI (if w_ = true then p_ else orP T_ p_)) x_ (nI (T_.getD p_ 0)) (nI (if lnG true T_ (p_ + 0) = true then T_.getD (p_ + 0) 0 - 97 else 0)) nb fo nu al z be ke te ti ne wa ta out pl lo sh le) H) ew_).mp hP
        have hD : va_D A (WM ca q th st ik (nI T_.length) ou (nI (if w_ = true then p_ else orP T_ p_)) (bI (w_ || !orB T_ p_)) (nI (T_.getD p_ 0)) (nI (if lnG true T_ (p_ + 0) = true then T_.getD (p_ + 0) 0 - 97 else 0)) nb fo nu al z be ke te ti ne wa ta out pl lo sh le) := (congrArg (fun x_ => va_D A (WM ca q th st ik (nI T_.length) ou (nI (if w_ = true then p_ else orP T_ p_)) x_ (nI (T_.getD p_ 0)) (nI (if lnG true T_ (p_ + 0) = true then T_.getD (p_ + 0) 0 - 97 else 0)) nb fo nu al z be ke te ti ne wa ta out pl lo sh le)) ew_).mp hD
        clear ew_
        subst hQQ
        exact xe_v (nI (if lnG true T_ (p_ + 0) = true then T_.getD (p_ + 0) 0 - 97 else 0), nb) hx hb hr hlocks hK hP hD hS (fun h_ => by rw [c_30] at h_; cases h_) dX3_order_161
      · skip
        refine lv_aload_n hx hb dX3_order_115 rfl (lv_at hl 1 rfl) ?_
        refine gWM_0_sort_X3 hx hb hts hown hK hP dX3_order_116 ?_
        refine lv_bipush (v := nI 35) hx hb dX3_order_119 (by decide) ?_
        refine nv_icmp_ne (tgt := 132) hx hb dX3_order_121 (by decide) (by have := hTx.2 p_; omega) (by omega) (fun c_121 => ?_) (fun c_121 => ?_)
        · skip
          refine lv_iload_n hx hb dX3_order_132 rfl (lv_at hl 0 rfl) ?_
          refine nv_if_eq (tgt := 144) hx hb dX3_order_133 (by decide) (by omega) (fun c_133 => ?_) (fun c_133 => absurd c_133 (by decide))
          refine lv_aload_n hx hb dX3_order_144 rfl (lv_at hl 1 rfl) ?_
          refine gWM_0_sort_X3 hx hb hts hown hK hP dX3_order_145 ?_
          refine lv_bipush (v := nI 63) hx hb dX3_order_148 (by decide) ?_
          refine nv_icmp_ne (tgt := 161) hx hb dX3_order_150 (by decide) (by have := hTx.2 p_; omega) (by omega) (fun c_150 => ?_) (fun c_150 => ?_)
          · skip
            have ew_ : nI 1 = bI true := rfl
            have hP : va_P D vwCl (WM ca q th st ik (nI T_.length) ou (nI (p_ + 0)) (bI true) (nI (T_.getD p_ 0)) na nb fo nu al z be ke te ti ne wa ta out pl lo sh le) H := (congrArg (fun x_ => va_P D vwCl (WM ca q th st ik (nI T_.length) ou (nI (p_ + 0)) x_ (nI (T_.getD p_ 0)) na nb fo nu al z be ke te ti ne wa ta out pl lo sh le) H) ew_).mp hP
            have hD : va_D A (WM ca q th st ik (nI T_.length) ou (nI (p_ + 0)) (bI true) (nI (T_.getD p_ 0)) na nb fo nu al z be ke te ti ne wa ta out pl lo sh le) := (congrArg (fun x_ => va_D A (WM ca q th st ik (nI T_.length) ou (nI (p_ + 0)) x_ (nI (T_.getD p_ 0)) na nb fo nu al z be ke te ti ne wa ta out pl lo sh le)) ew_).mp hD
            clear ew_
            have ew_ : nI (p_ + 0) = nI (if w_ = true then p_ else orP T_ p_) := congrArg nI (by rw [if_pos c_30]; rfl)
            have hP : va_P D vwCl (WM ca q th st ik (nI T_.length) ou (nI (if w_ = true then p_ else orP T_ p_)) (bI true) (nI (T_.getD p_ 0)) na nb fo nu al z be ke te ti ne wa ta out pl lo sh le) H := (congrArg (fun x_ => va_P D vwCl (WM ca q th st ik (nI T_.length) ou x_ (bI true) (nI (T_.getD p_ 0)) na nb fo nu al z be ke te ti ne wa ta out pl lo sh le) H) ew_).mp hP
            have hD : va_D A (WM ca q th st ik (nI T_.length) ou (nI (if w_ = true then p_ else orP T_ p_)) (bI true) (nI (T_.getD p_ 0)) na nb fo nu al z be ke te ti ne wa ta out pl lo sh le) := (congrArg (fun x_ => va_D A (WM ca q th st ik (nI T_.length) ou x_ (bI true) (nI (T_.getD p_ 0)) na nb fo nu al z be ke te ti ne wa ta out pl lo sh le)) ew_).mp hD
            clear ew_
            have ew_ : bI true = bI (w_ || !orB T_ p_) := congrArg bI (by rw [c_30]; rfl)
            have hP : va_P D vwCl (WM ca q th st ik (nI T_.length) ou (nI (if w_ = true then p_ else orP T_ p_)) (bI (w_ || !orB T_ p_)) (nI (T_.getD p_ 0)) na nb fo nu al z be ke te ti ne wa ta out pl lo sh le) H := (congrArg (fun x_ => va_P D vwCl (WM ca q th st ik (nI T_.length) ou (nI (if w_ = true then p_ else orP T_ p_)) x_ (nI (T_.getD p_ 0)) na nb fo nu al z be ke te ti ne wa ta out pl lo sh le) H) ew_).mp hP
            have hD : va_D A (WM ca q th st ik (nI T_.length) ou (nI (if w_ = true then p_ else orP T_ p_)) (bI (w_ || !orB T_ p_)) (nI (T_.getD p_ 0)) na nb fo nu al z be ke te ti ne wa ta out pl lo sh le) := (congrArg (fun x_ => va_D A (WM ca q th st ik (nI T_.length) ou (nI (if w_ = true then p_ else orP T_ p_)) x_ (nI (T_.getD p_ 0)) na nb fo nu al z be ke te ti ne wa ta out pl lo sh le)) ew_).mp hD
            clear ew_
            subst hQQ
            exact xe_v (na, nb) hx hb hr hlocks hK hP hD hS (fun h_ => by rw [c_30] at h_; cases h_) dX3_order_161
          · skip
            refine lv_aload_n hx hb dX3_order_153 rfl (lv_at hl 1 rfl) ?_
            refine lv_aload_n hx hb dX3_order_154 rfl (lv_at hl 1 rfl) ?_
            have ew_ : nI 1 = bI true := rfl
            have hP : va_P D vwCl (WM ca q th st ik (nI T_.length) ou (nI (p_ + 0)) (bI true) (nI (T_.getD p_ 0)) na nb fo nu al z be ke te ti ne wa ta out pl lo sh le) H := (congrArg (fun x_ => va_P D vwCl (WM ca q th st ik (nI T_.length) ou (nI (p_ + 0)) x_ (nI (T_.getD p_ 0)) na nb fo nu al z be ke te ti ne wa ta out pl lo sh le) H) ew_).mp hP
            have hD : va_D A (WM ca q th st ik (nI T_.length) ou (nI (p_ + 0)) (bI true) (nI (T_.getD p_ 0)) na nb fo nu al z be ke te ti ne wa ta out pl lo sh le) := (congrArg (fun x_ => va_D A (WM ca q th st ik (nI T_.length) ou (nI (p_ + 0)) x_ (nI (T_.getD p_ 0)) na nb fo nu al z be ke te ti ne wa ta out pl lo sh le)) ew_).mp hD
            clear ew_
            refine xc_i (xr_V (b := q 0) (ci := 2) (q0 := 0) (As := []) (rest := [.ref (q 0)]) (mt_X3_testHere l D ca q th st ik ou (nI (T_.getD p_ 0)) na nb fo nu al z be ke te ti ne wa ta out pl lo sh le T_ (p_ + 0) true hTe hTx (by (repeat' split) <;> omega) H.size) ⟨hx, hb, hml, hown, hts⟩ (cwV 0 hts (lw_V q1894 q1896 qs74 q87 q1897) rfl rfl rfl (by decide +kernel) ⟨Nat.le_of_ble_eq_true rfl, Nat.le_of_ble_eq_true rfl⟩) Ev0_ok hE hK hS (Cut.all hP hD hS hA) rfl rfl rfl hl.1 rfl (Nat.le_of_ble_eq_true rfl) dX3_order_155 ⟨Nat.le_of_ble_eq_true rfl, Nat.le_of_ble_eq_true rfl⟩) hS (Cut.all hP hD hS hA) (fun r_12 u_13 H locs hq_155 hP hD hS => ?_)
            have hP : va_P D vwCl (WM ca q th st ik (nI T_.length) ou (nI (if dgG true T_ (p_ + 0) = true then tsP T_ (p_ + 0) else (p_ + 0))) (bI (!dgG true T_ (p_ + 0))) (nI (T_.getD p_ 0)) na nb fo nu al z be ke te ti ne wa ta out pl lo sh le) H := hP
            have hD : va_D A (WM ca q th st ik (nI T_.length) ou (nI (if dgG true T_ (p_ + 0) = true then tsP T_ (p_ + 0) else (p_ + 0))) (bI (!dgG true T_ (p_ + 0))) (nI (T_.getD p_ 0)) na nb fo nu al z be ke te ti ne wa ta out pl lo sh le) := hD
            have hp_155 : r_12 = nI (if dgG true T_ (p_ + 0) = true then tsV T_ (p_ + 0) else 0) := hq_155
            clear hq_155
            obtain rfl := hp_155
            have ew_ : bI (!dgG true T_ (p_ + 0)) = bI true := rfl
            have hP : va_P D vwCl (WM ca q th st ik (nI T_.length) ou (nI (if dgG true T_ (p_ + 0) = true then tsP T_ (p_ + 0) else (p_ + 0))) (bI true) (nI (T_.getD p_ 0)) na nb fo nu al z be ke te ti ne wa ta out pl lo sh le) H := (congrArg (fun x_ => va_P D vwCl (WM ca q th st ik (nI T_.length) ou (nI (if dgG true T_ (p_ + 0) = true then tsP T_ (p_ + 0) else (p_ + 0))) x_ (nI (T_.getD p_ 0)) na nb fo nu al z be ke te ti ne wa ta out pl lo sh le) H) ew_).mp hP
            have hD : va_D A (WM ca q th st ik (nI T_.length) ou (nI (if dgG true T_ (p_ + 0) = true then tsP T_ (p_ + 0) else (p_ + 0))) (bI true) (nI (T_.getD p_ 0)) na nb fo nu al z be ke te ti ne wa ta out pl lo sh le) := (congrArg (fun x_ => va_D A (WM ca q th st ik (nI T_.length) ou (nI (if dgG true T_ (p_ + 0) = true then tsP T_ (p_ + 0) else (p_ + 0))) x_ (nI (T_.getD p_ 0)) na nb fo nu al z be ke te ti ne wa ta out pl lo sh le)) ew_).mp hD
            clear ew_
            have ew_ : nI (if dgG true T_ (p_ + 0) = true then tsP T_ (p_ + 0) else (p_ + 0)) = nI (p_ + 0) := rfl
            have hP : va_P D vwCl (WM ca q th st ik (nI T_.length) ou (nI (p_ + 0)) (bI true) (nI (T_.getD p_ 0)) na nb fo nu al z be ke te ti ne wa ta out pl lo sh le) H := (congrArg (fun x_ => va_P D vwCl (WM ca q th st ik (nI T_.length) ou x_ (bI true) (nI (T_.getD p_ 0)) na nb fo nu al z be ke te ti ne wa ta out pl lo sh le) H) ew_).mp hP
            have hD : va_D A (WM ca q th st ik (nI T_.length) ou (nI (p_ + 0)) (bI true) (nI (T_.getD p_ 0)) na nb fo nu al z be ke te ti ne wa ta out pl lo sh le) := (congrArg (fun x_ => va_D A (WM ca q th st ik (nI T_.length) ou x_ (bI true) (nI (T_.getD p_ 0)) na nb fo nu al z be ke te ti ne wa ta out pl lo sh le)) ew_).mp hD
            clear ew_
            refine pWM_0_one_X3 hx hb hts hown hK hP hD hS dX3_order_158 (fun H locs hP hD hS => ?_)
            have ew_ : nI (p_ + 0) = nI (if w_ = true then p_ else orP T_ p_) := congrArg nI (by rw [if_pos c_30]; rfl)
            have hP : va_P D vwCl (WM ca q th st ik (nI T_.length) ou (nI (if w_ = true then p_ else orP T_ p_)) (bI true) (nI (T_.getD p_ 0)) (nI (if dgG true T_ (p_ + 0) = true then tsV T_ (p_ + 0) else 0)) nb fo nu al z be ke te ti ne wa ta out pl lo sh le) H := (congrArg (fun x_ => va_P D vwCl (WM ca q th st ik (nI T_.length) ou x_ (bI true) (nI (T_.getD p_ 0)) (nI (if dgG true T_ (p_ + 0) = true then tsV T_ (p_ + 0) else 0)) nb fo nu al z be ke te ti ne wa ta out pl lo sh le) H) ew_).mp hP
            have hD : va_D A (WM ca q th st ik (nI T_.length) ou (nI (if w_ = true then p_ else orP T_ p_)) (bI true) (nI (T_.getD p_ 0)) (nI (if dgG true T_ (p_ + 0) = true then tsV T_ (p_ + 0) else 0)) nb fo nu al z be ke te ti ne wa ta out pl lo sh le) := (congrArg (fun x_ => va_D A (WM ca q th st ik (nI T_.length) ou x_ (bI true) (nI (T_.getD p_ 0)) (nI (if dgG true T_ (p_ + 0) = true then tsV T_ (p_ + 0) else 0)) nb fo nu al z be ke te ti ne wa ta out pl lo sh le)) ew_).mp hD
            clear ew_
            have ew_ : bI true = bI (w_ || !orB T_ p_) := congrArg bI (by rw [c_30]; rfl)
            have hP : va_P D vwCl (WM ca q th st ik (nI T_.length) ou (nI (if w_ = true then p_ else orP T_ p_)) (bI (w_ || !orB T_ p_)) (nI (T_.getD p_ 0)) (nI (if dgG true T_ (p_ + 0) = true then tsV T_ (p_ + 0) else 0)) nb fo nu al z be ke te ti ne wa ta out pl lo sh le) H := (congrArg (fun x_ => va_P D vwCl (WM ca q th st ik (nI T_.length) ou (nI (if w_ = true then p_ else orP T_ p_)) x_ (nI (T_.getD p_ 0)) (nI (if dgG true T_ (p_ + 0) = true then tsV T_ (p_ + 0) else 0)) nb fo nu al z be ke te ti ne wa ta out pl lo sh le) H) ew_).mp hP
            have hD : va_D A (WM ca q th st ik (nI T_.length) ou (nI (if w_ = true then p_ else orP T_ p_)) (bI (w_ || !orB T_ p_)) (nI (T_.getD p_ 0)) (nI (if dgG true T_ (p_ + 0) = true then tsV T_ (p_ + 0) else 0)) nb fo nu al z be ke te ti ne wa ta out pl lo sh le) := (congrArg (fun x_ => va_D A (WM ca q th st ik (nI T_.length) ou (nI (if w_ = true then p_ else orP T_ p_)) x_ (nI (T_.getD p_ 0)) (nI (if dgG true T_ (p_ + 0) = true then tsV T_ (p_ + 0) else 0)) nb fo nu al z be ke te ti ne wa ta out pl lo sh le)) ew_).mp hD
            clear ew_
            subst hQQ
            exact xe_v (nI (if dgG true T_ (p_ + 0) = true then tsV T_ (p_ + 0) else 0), nb) hx hb hr hlocks hK hP hD hS (fun h_ => by rw [c_30] at h_; cases h_) dX3_order_161
        · skip
          refine lv_aload_n hx hb dX3_order_124 rfl (lv_at hl 1 rfl) ?_
          refine lv_aload_n hx hb dX3_order_125 rfl (lv_at hl 1 rfl) ?_
          have ew_ : nI 1 = bI true := rfl
          have hP : va_P D vwCl (WM ca q th st ik (nI T_.length) ou (nI (p_ + 0)) (bI true) (nI (T_.getD p_ 0)) na nb fo nu al z be ke te ti ne wa ta out pl lo sh le) H := (congrArg (fun x_ => va_P D vwCl (WM ca q th st ik (nI T_.length) ou (nI (p_ + 0)) x_ (nI (T_.getD p_ 0)) na nb fo nu al z be ke te ti ne wa ta out pl lo sh le) H) ew_).mp hP
          have hD : va_D A (WM ca q th st ik (nI T_.length) ou (nI (p_ + 0)) (bI true) (nI (T_.getD p_ 0)) na nb fo nu al z be ke te ti ne wa ta out pl lo sh le) := (congrArg (fun x_ => va_D A (WM ca q th st ik (nI T_.length) ou (nI (p_ + 0)) x_ (nI (T_.getD p_ 0)) na nb fo nu al z be ke te ti ne wa ta out pl lo sh le)) ew_).mp hD
          clear ew_
          refine xc_i (xr_V (b := q 0) (ci := 2) (q0 := 0) (As := []) (rest := [.ref (q 0)]) (mt_X3_lineHere l D ca q th st ik ou (nI (T_.getD p_ 0)) na nb fo nu al z be ke te ti ne wa ta out pl lo sh le T_ (p_ + 0) true hTe hTx (by (repeat' split) <;> omega) H.size) ⟨hx, hb, hml, hown, hts⟩ (cwV 0 hts (lw_V q1890 q1892 qs73 q87 q1893) rfl rfl rfl (by decide +kernel) ⟨Nat.le_of_ble_eq_true rfl, Nat.le_of_ble_eq_true rfl⟩) Ev0_ok hE hK hS (Cut.all hP hD hS hA) rfl rfl rfl hl.1 rfl (Nat.le_of_ble_eq_true rfl) dX3_order_126 ⟨Nat.le_of_ble_eq_true rfl, Nat.le_of_ble_eq_true rfl⟩) hS (Cut.all hP hD hS hA) (fun r_14 u_15 H locs hq_126 hP hD hS => ?_)
          have hP : va_P D vwCl (WM ca q th st ik (nI T_.length) ou (nI (if lnG true T_ (p_ + 0) = true then (p_ + 0) + 1 else (p_ + 0))) (bI (!lnG true T_ (p_ + 0))) (nI (T_.getD p_ 0)) na nb fo nu al z be ke te ti ne wa ta out pl lo sh le) H := hP
          have hD : va_D A (WM ca q th st ik (nI T_.length) ou (nI (if lnG true T_ (p_ + 0) = true then (p_ + 0) + 1 else (p_ + 0))) (bI (!lnG true T_ (p_ + 0))) (nI (T_.getD p_ 0)) na nb fo nu al z be ke te ti ne wa ta out pl lo sh le) := hD
          have hp_126 : r_14 = nI (if lnG true T_ (p_ + 0) = true then T_.getD (p_ + 0) 0 - 97 else 0) := hq_126
          clear hq_126
          obtain rfl := hp_126
          have ew_ : bI (!lnG true T_ (p_ + 0)) = bI true := rfl
          have hP : va_P D vwCl (WM ca q th st ik (nI T_.length) ou (nI (if lnG true T_ (p_ + 0) = true then (p_ + 0) + 1 else (p_ + 0))) (bI true) (nI (T_.getD p_ 0)) na nb fo nu al z be ke te ti ne wa ta out pl lo sh le) H := (congrArg (fun x_ => va_P D vwCl (WM ca q th st ik (nI T_.length) ou (nI (if lnG true T_ (p_ + 0) = true then (p_ + 0) + 1 else (p_ + 0))) x_ (nI (T_.getD p_ 0)) na nb fo nu al z be ke te ti ne wa ta out pl lo sh le) H) ew_).mp hP
          have hD : va_D A (WM ca q th st ik (nI T_.length) ou (nI (if lnG true T_ (p_ + 0) = true then (p_ + 0) + 1 else (p_ + 0))) (bI true) (nI (T_.getD p_ 0)) na nb fo nu al z be ke te ti ne wa ta out pl lo sh le) := (congrArg (fun x_ => va_D A (WM ca q th st ik (nI T_.length) ou (nI (if lnG true T_ (p_ + 0) = true then (p_ + 0) + 1 else (p_ + 0))) x_ (nI (T_.getD p_ 0)) na nb fo nu al z be ke te ti ne wa ta out pl lo sh le)) ew_).mp hD
          clear ew_
          have ew_ : nI (if lnG true T_ (p_ + 0) = true then (p_ + 0) + 1 else (p_ + 0)) = nI (p_ + 0) := rfl
          have hP : va_P D vwCl (WM ca q th st ik (nI T_.length) ou (nI (p_ + 0)) (bI true) (nI (T_.getD p_ 0)) na nb fo nu al z be ke te ti ne wa ta out pl lo sh le) H := (congrArg (fun x_ => va_P D vwCl (WM ca q th st ik (nI T_.length) ou x_ (bI true) (nI (T_.getD p_ 0)) na nb fo nu al z be ke te ti ne wa ta out pl lo sh le) H) ew_).mp hP
          have hD : va_D A (WM ca q th st ik (nI T_.length) ou (nI (p_ + 0)) (bI true) (nI (T_.getD p_ 0)) na nb fo nu al z be ke te ti ne wa ta out pl lo sh le) := (congrArg (fun x_ => va_D A (WM ca q th st ik (nI T_.length) ou x_ (bI true) (nI (T_.getD p_ 0)) na nb fo nu al z be ke te ti ne wa ta out pl lo sh le)) ew_).mp hD
          clear ew_
          refine pWM_0_one_X3 hx hb hts hown hK hP hD hS dX3_order_129 (fun H locs hP hD hS => ?_)
          refine lv_iload_n hx hb dX3_order_132 rfl (lv_at hl 0 rfl) ?_
          refine nv_if_eq (tgt := 144) hx hb dX3_order_133 (by decide) (by omega) (fun c_133 => ?_) (fun c_133 => absurd c_133 (by decide))
          refine lv_aload_n hx hb dX3_order_144 rfl (lv_at hl 1 rfl) ?_
          refine gWM_0_sort_X3 hx hb hts hown hK hP dX3_order_145 ?_
          refine lv_bipush (v := nI 63) hx hb dX3_order_148 (by decide) ?_
          refine nv_icmp_ne (tgt := 161) hx hb dX3_order_150 (by decide) (by have := hTx.2 p_; omega) (by omega) (fun c_150 => ?_) (fun c_150 => absurd (c_121.symm.trans c_150) (by decide))
          have ew_ : nI (p_ + 0) = nI (if w_ = true then p_ else orP T_ p_) := congrArg nI (by rw [if_pos c_30]; rfl)
          have hP : va_P D vwCl (WM ca q th st ik (nI T_.length) ou (nI (if w_ = true then p_ else orP T_ p_)) (bI true) (nI (T_.getD p_ 0)) (nI (if lnG true T_ (p_ + 0) = true then T_.getD (p_ + 0) 0 - 97 else 0)) nb fo nu al z be ke te ti ne wa ta out pl lo sh le) H := (congrArg (fun x_ => va_P D vwCl (WM ca q th st ik (nI T_.length) ou x_ (bI true) (nI (T_.getD p_ 0)) (nI (if lnG true T_ (p_ + 0) = true then T_.getD (p_ + 0) 0 - 97 else 0)) nb fo nu al z be ke te ti ne wa ta out pl lo sh le) H) ew_).mp hP
          have hD : va_D A (WM ca q th st ik (nI T_.length) ou (nI (if w_ = true then p_ else orP T_ p_)) (bI true) (nI (T_.getD p_ 0)) (nI (if lnG true T_ (p_ + 0) = true then T_.getD (p_ + 0) 0 - 97 else 0)) nb fo nu al z be ke te ti ne wa ta out pl lo sh le) := (congrArg (fun x_ => va_D A (WM ca q th st ik (nI T_.length) ou x_ (bI true) (nI (T_.getD p_ 0)) (nI (if lnG true T_ (p_ + 0) = true then T_.getD (p_ + 0) 0 - 97 else 0)) nb fo nu al z be ke te ti ne wa ta out pl lo sh le)) ew_).mp hD
          clear ew_
          have ew_ : bI true = bI (w_ || !orB T_ p_) := congrArg bI (by rw [c_30]; rfl)
          have hP : va_P D vwCl (WM ca q th st ik (nI T_.length) ou (nI (if w_ = true then p_ else orP T_ p_)) (bI (w_ || !orB T_ p_)) (nI (T_.getD p_ 0)) (nI (if lnG true T_ (p_ + 0) = true then T_.getD (p_ + 0) 0 - 97 else 0)) nb fo nu al z be ke te ti ne wa ta out pl lo sh le) H := (congrArg (fun x_ => va_P D vwCl (WM ca q th st ik (nI T_.length) ou (nI (if w_ = true then p_ else orP T_ p_)) x_ (nI (T_.getD p_ 0)) (nI (if lnG true T_ (p_ + 0) = true then T_.getD (p_ + 0) 0 - 97 else 0)) nb fo nu al z be ke te ti ne wa ta out pl lo sh le) H) ew_).mp hP
          have hD : va_D A (WM ca q th st ik (nI T_.length) ou (nI (if w_ = true then p_ else orP T_ p_)) (bI (w_ || !orB T_ p_)) (nI (T_.getD p_ 0)) (nI (if lnG true T_ (p_ + 0) = true then T_.getD (p_ + 0) 0 - 97 else 0)) nb fo nu al z be ke te ti ne wa ta out pl lo sh le) := (congrArg (fun x_ => va_D A (WM ca q th st ik (nI T_.length) ou (nI (if w_ = true then p_ else orP T_ p_)) x_ (nI (T_.getD p_ 0)) (nI (if lnG true T_ (p_ + 0) = true then T_.getD (p_ + 0) 0 - 97 else 0)) nb fo nu al z be ke te ti ne wa ta out pl lo sh le)) ew_).mp hD
          clear ew_
          subst hQQ
          exact xe_v (nI (if lnG true T_ (p_ + 0) = true then T_.getD (p_ + 0) 0 - 97 else 0), nb) hx hb hr hlocks hK hP hD hS (fun h_ => by rw [c_30] at h_; cases h_) dX3_order_161
    · skip
      refine lv_iload_n hx hb dX3_order_33 rfl (lv_at hl 0 rfl) ?_
      refine nv_if_ne (tgt := 77) hx hb dX3_order_34 (by decide) (by omega) (fun c_34 => absurd c_34 (by decide)) (fun c_34 => ?_)
      refine lv_aload_n hx hb dX3_order_37 rfl (lv_at hl 1 rfl) ?_
      refine gWM_0_sort_X3 hx hb hts hown hK hP dX3_order_38 ?_
      refine lv_bipush (v := nI 62) hx hb dX3_order_41 (by decide) ?_
      refine nv_icmp_eq (tgt := 77) hx hb dX3_order_43 (by decide) (by have := hTx.2 p_; omega) (by omega) (fun c_43 => ?_) (fun c_43 => ?_)
      · skip
        refine lv_iconst (v := nI 0) hx hb dX3_order_77 (by decide) ?_
        refine pWM_0_isWrong_X3 hx hb hts hown hK hP hD hS rfl rfl dX3_order_78 (fun H locs hP hD hS => ?_)
        refine lv_aload_n hx hb dX3_order_81 rfl (lv_at hl 1 rfl) ?_
        refine lv_dup hx hb dX3_order_82 rfl ?_
        refine gWM_0_at_X3 hx hb hts hown hK hP dX3_order_83 ?_
        refine lv_aload_n hx hb dX3_order_86 rfl (lv_at hl 1 rfl) ?_
        refine gWM_0_isWrong_X3 hx hb hts hown hK hP dX3_order_87 ?_
        refine nv_if_eq (tgt := 97) hx hb dX3_order_90 (by decide) (by omega) (fun c_90 => ?_) (fun c_90 => absurd c_90 (by decide))
        refine lv_iconst (v := nI 1) hx hb dX3_order_97 (by decide) ?_
        refine nv_iadd hx hb dX3_order_98 ?_
        refine pWM_0_at_X3 hx hb hts hown hK hP hD hS dX3_order_99 (fun H locs hP hD hS => ?_)
        refine lv_iload_n hx hb dX3_order_102 rfl (lv_at hl 0 rfl) ?_
        refine nv_if_ne (tgt := 124) hx hb dX3_order_103 (by decide) (by omega) (fun c_103 => absurd c_103 (by decide)) (fun c_103 => ?_)
        refine lv_aload_n hx hb dX3_order_106 rfl (lv_at hl 1 rfl) ?_
        refine gWM_0_sort_X3 hx hb hts hown hK hP dX3_order_107 ?_
        refine lv_bipush (v := nI 62) hx hb dX3_order_110 (by decide) ?_
        refine nv_icmp_eq (tgt := 124) hx hb dX3_order_112 (by decide) (by have := hTx.2 p_; omega) (by omega) (fun c_112 => ?_) (fun c_112 => absurd c_43 c_112)
        refine lv_aload_n hx hb dX3_order_124 rfl (lv_at hl 1 rfl) ?_
        refine lv_aload_n hx hb dX3_order_125 rfl (lv_at hl 1 rfl) ?_
        have ew_ : nI 0 = bI false := rfl
        have hP : va_P D vwCl (WM ca q th st ik (nI T_.length) ou (nI (p_ + 1)) (bI false) (nI (T_.getD p_ 0)) na nb fo nu al z be ke te ti ne wa ta out pl lo sh le) H := (congrArg (fun x_ => va_P D vwCl (WM ca q th st ik (nI T_.length) ou (nI (p_ + 1)) x_ (nI (T_.getD p_ 0)) na nb fo nu al z be ke te ti ne wa ta out pl lo sh le) H) ew_).mp hP
        have hD : va_D A (WM ca q th st ik (nI T_.length) ou (nI (p_ + 1)) (bI false) (nI (T_.getD p_ 0)) na nb fo nu al z be ke te ti ne wa ta out pl lo sh le) := (congrArg (fun x_ => va_D A (WM ca q th st ik (nI T_.length) ou (nI (p_ + 1)) x_ (nI (T_.getD p_ 0)) na nb fo nu al z be ke te ti ne wa ta out pl lo sh le)) ew_).mp hD
        clear ew_
        refine xc_i (xr_V (b := q 0) (ci := 2) (q0 := 0) (As := []) (rest := [.ref (q 0)]) (mt_X3_lineHere l D ca q th st ik ou (nI (T_.getD p_ 0)) na nb fo nu al z be ke te ti ne wa ta out pl lo sh le T_ (p_ + 1) false hTe hTx (by (repeat' split) <;> omega) H.size) ⟨hx, hb, hml, hown, hts⟩ (cwV 0 hts (lw_V q1890 q1892 qs73 q87 q1893) rfl rfl rfl (by decide +kernel) ⟨Nat.le_of_ble_eq_true rfl, Nat.le_of_ble_eq_true rfl⟩) Ev0_ok hE hK hS (Cut.all hP hD hS hA) rfl rfl rfl hl.1 rfl (Nat.le_of_ble_eq_true rfl) dX3_order_126 ⟨Nat.le_of_ble_eq_true rfl, Nat.le_of_ble_eq_true rfl⟩) hS (Cut.all hP hD hS hA) (fun r_17 u_18 H locs hq_126 hP hD hS => ?_)
        have hP : va_P D vwCl (WM ca q th st ik (nI T_.length) ou (nI (if lnG false T_ (p_ + 1) = true then (p_ + 1) + 1 else (p_ + 1))) (bI (!lnG false T_ (p_ + 1))) (nI (T_.getD p_ 0)) na nb fo nu al z be ke te ti ne wa ta out pl lo sh le) H := hP
        have hD : va_D A (WM ca q th st ik (nI T_.length) ou (nI (if lnG false T_ (p_ + 1) = true then (p_ + 1) + 1 else (p_ + 1))) (bI (!lnG false T_ (p_ + 1))) (nI (T_.getD p_ 0)) na nb fo nu al z be ke te ti ne wa ta out pl lo sh le) := hD
        have hp_126 : r_17 = nI (if lnG false T_ (p_ + 1) = true then T_.getD (p_ + 1) 0 - 97 else 0) := hq_126
        clear hq_126
        obtain rfl := hp_126
        refine pWM_0_one_X3 hx hb hts hown hK hP hD hS dX3_order_129 (fun H locs hP hD hS => ?_)
        refine lv_iload_n hx hb dX3_order_132 rfl (lv_at hl 0 rfl) ?_
        refine nv_if_eq (tgt := 144) hx hb dX3_order_133 (by decide) (by omega) (fun c_133 => ?_) (fun c_133 => absurd c_133 (by decide))
        refine lv_aload_n hx hb dX3_order_144 rfl (lv_at hl 1 rfl) ?_
        refine gWM_0_sort_X3 hx hb hts hown hK hP dX3_order_145 ?_
        refine lv_bipush (v := nI 63) hx hb dX3_order_148 (by decide) ?_
        refine nv_icmp_ne (tgt := 161) hx hb dX3_order_150 (by decide) (by have := hTx.2 p_; omega) (by omega) (fun c_150 => ?_) (fun c_150 => absurd (c_43.symm.trans c_150) (by decide))
        have ew_ : nI (if lnG false T_ (p_ + 1) = true then (p_ + 1) + 1 else (p_ + 1)) = nI (if w_ = true then p_ else orP T_ p_) := congrArg nI (or_lP c_30 c_16 (Or.inl c_43))
        have hP : va_P D vwCl (WM ca q th st ik (nI T_.length) ou (nI (if w_ = true then p_ else orP T_ p_)) (bI (!lnG false T_ (p_ + 1))) (nI (T_.getD p_ 0)) (nI (if lnG false T_ (p_ + 1) = true then T_.getD (p_ + 1) 0 - 97 else 0)) nb fo nu al z be ke te ti ne wa ta out pl lo sh le) H := (congrArg (fun x_ => va_P D vwCl (WM ca q th st ik (nI T_.length) ou x_ (bI (!lnG false T_ (p_ + 1))) (nI (T_.getD p_ 0)) (nI (if lnG false T_ (p_ + 1) = true then T_.getD (p_ + 1) 0 - 97 else 0)) nb fo nu al z be ke te ti ne wa ta out pl lo sh le) H) ew_).mp hP
        have hD : va_D A (WM ca q th st ik (nI T_.length) ou (nI (if w_ = true then p_ else orP T_ p_)) (bI (!lnG false T_ (p_ + 1))) (nI (T_.getD p_ 0)) (nI (if lnG false T_ (p_ + 1) = true then T_.getD (p_ + 1) 0 - 97 else 0)) nb fo nu al z be ke te ti ne wa ta out pl lo sh le) := (congrArg (fun x_ => va_D A (WM ca q th st ik (nI T_.length) ou x_ (bI (!lnG false T_ (p_ + 1))) (nI (T_.getD p_ 0)) (nI (if lnG false T_ (p_ + 1) = true then T_.getD (p_ + 1) 0 - 97 else 0)) nb fo nu al z be ke te ti ne wa ta out pl lo sh le)) ew_).mp hD
        clear ew_
        have ew_ : bI (!lnG false T_ (p_ + 1)) = bI (w_ || !orB T_ p_) := congrArg bI (or_lB c_30 c_16 (Or.inl c_43))
        have hP : va_P D vwCl (WM ca q th st ik (nI T_.length) ou (nI (if w_ = true then p_ else orP T_ p_)) (bI (w_ || !orB T_ p_)) (nI (T_.getD p_ 0)) (nI (if lnG false T_ (p_ + 1) = true then T_.getD (p_ + 1) 0 - 97 else 0)) nb fo nu al z be ke te ti ne wa ta out pl lo sh le) H := (congrArg (fun x_ => va_P D vwCl (WM ca q th st ik (nI T_.length) ou (nI (if w_ = true then p_ else orP T_ p_)) x_ (nI (T_.getD p_ 0)) (nI (if lnG false T_ (p_ + 1) = true then T_.getD (p_ + 1) 0 - 97 else 0)) nb fo nu al z be ke te ti ne wa ta out pl lo sh le) H) ew_).mp hP
        have hD : va_D A (WM ca q th st ik (nI T_.length) ou (nI (if w_ = true then p_ else orP T_ p_)) (bI (w_ || !orB T_ p_)) (nI (T_.getD p_ 0)) (nI (if lnG false T_ (p_ + 1) = true then T_.getD (p_ + 1) 0 - 97 else 0)) nb fo nu al z be ke te ti ne wa ta out pl lo sh le) := (congrArg (fun x_ => va_D A (WM ca q th st ik (nI T_.length) ou (nI (if w_ = true then p_ else orP T_ p_)) x_ (nI (T_.getD p_ 0)) (nI (if lnG false T_ (p_ + 1) = true then T_.getD (p_ + 1) 0 - 97 else 0)) nb fo nu al z be ke te ti ne wa ta out pl lo sh le)) ew_).mp hD
        clear ew_
        subst hQQ
        exact xe_v (nI (if lnG false T_ (p_ + 1) = true then T_.getD (p_ + 1) 0 - 97 else 0), nb) hx hb hr hlocks hK hP hD hS (fun h_ => or_lO c_30 c_16 (Or.inl c_43) h_) dX3_order_161
      · skip
        refine lv_aload_n hx hb dX3_order_46 rfl (lv_at hl 1 rfl) ?_
        refine gWM_0_sort_X3 hx hb hts hown hK hP dX3_order_47 ?_
        refine lv_bipush (v := nI 35) hx hb dX3_order_50 (by decide) ?_
        refine nv_icmp_eq (tgt := 77) hx hb dX3_order_52 (by decide) (by have := hTx.2 p_; omega) (by omega) (fun c_52 => ?_) (fun c_52 => ?_)
        · skip
          refine lv_iconst (v := nI 0) hx hb dX3_order_77 (by decide) ?_
          refine pWM_0_isWrong_X3 hx hb hts hown hK hP hD hS rfl rfl dX3_order_78 (fun H locs hP hD hS => ?_)
          refine lv_aload_n hx hb dX3_order_81 rfl (lv_at hl 1 rfl) ?_
          refine lv_dup hx hb dX3_order_82 rfl ?_
          refine gWM_0_at_X3 hx hb hts hown hK hP dX3_order_83 ?_
          refine lv_aload_n hx hb dX3_order_86 rfl (lv_at hl 1 rfl) ?_
          refine gWM_0_isWrong_X3 hx hb hts hown hK hP dX3_order_87 ?_
          refine nv_if_eq (tgt := 97) hx hb dX3_order_90 (by decide) (by omega) (fun c_90 => ?_) (fun c_90 => absurd c_90 (by decide))
          refine lv_iconst (v := nI 1) hx hb dX3_order_97 (by decide) ?_
          refine nv_iadd hx hb dX3_order_98 ?_
          refine pWM_0_at_X3 hx hb hts hown hK hP hD hS dX3_order_99 (fun H locs hP hD hS => ?_)
          refine lv_iload_n hx hb dX3_order_102 rfl (lv_at hl 0 rfl) ?_
          refine nv_if_ne (tgt := 124) hx hb dX3_order_103 (by decide) (by omega) (fun c_103 => absurd c_103 (by decide)) (fun c_103 => ?_)
          refine lv_aload_n hx hb dX3_order_106 rfl (lv_at hl 1 rfl) ?_
          refine gWM_0_sort_X3 hx hb hts hown hK hP dX3_order_107 ?_
          refine lv_bipush (v := nI 62) hx hb dX3_order_110 (by decide) ?_
          refine nv_icmp_eq (tgt := 124) hx hb dX3_order_112 (by decide) (by have := hTx.2 p_; omega) (by omega) (fun c_112 => absurd c_112 c_43) (fun c_112 => ?_)
          refine lv_aload_n hx hb dX3_order_115 rfl (lv_at hl 1 rfl) ?_
          refine gWM_0_sort_X3 hx hb hts hown hK hP dX3_order_116 ?_
          refine lv_bipush (v := nI 35) hx hb dX3_order_119 (by decide) ?_
          refine nv_icmp_ne (tgt := 132) hx hb dX3_order_121 (by decide) (by have := hTx.2 p_; omega) (by omega) (fun c_121 => absurd c_52 c_121) (fun c_121 => ?_)
          refine lv_aload_n hx hb dX3_order_124 rfl (lv_at hl 1 rfl) ?_
          refine lv_aload_n hx hb dX3_order_125 rfl (lv_at hl 1 rfl) ?_
          have ew_ : nI 0 = bI false := rfl
          have hP : va_P D vwCl (WM ca q th st ik (nI T_.length) ou (nI (p_ + 1)) (bI false) (nI (T_.getD p_ 0)) na nb fo nu al z be ke te ti ne wa ta out pl lo sh le) H := (congrArg (fun x_ => va_P D vwCl (WM ca q th st ik (nI T_.length) ou (nI (p_ + 1)) x_ (nI (T_.getD p_ 0)) na nb fo nu al z be ke te ti ne wa ta out pl lo sh le) H) ew_).mp hP
          have hD : va_D A (WM ca q th st ik (nI T_.length) ou (nI (p_ + 1)) (bI false) (nI (T_.getD p_ 0)) na nb fo nu al z be ke te ti ne wa ta out pl lo sh le) := (congrArg (fun x_ => va_D A (WM ca q th st ik (nI T_.length) ou (nI (p_ + 1)) x_ (nI (T_.getD p_ 0)) na nb fo nu al z be ke te ti ne wa ta out pl lo sh le)) ew_).mp hD
          clear ew_
          refine xc_i (xr_V (b := q 0) (ci := 2) (q0 := 0) (As := []) (rest := [.ref (q 0)]) (mt_X3_lineHere l D ca q th st ik ou (nI (T_.getD p_ 0)) na nb fo nu al z be ke te ti ne wa ta out pl lo sh le T_ (p_ + 1) false hTe hTx (by (repeat' split) <;> omega) H.size) ⟨hx, hb, hml, hown, hts⟩ (cwV 0 hts (lw_V q1890 q1892 qs73 q87 q1893) rfl rfl rfl (by decide +kernel) ⟨Nat.le_of_ble_eq_true rfl, Nat.le_of_ble_eq_true rfl⟩) Ev0_ok hE hK hS (Cut.all hP hD hS hA) rfl rfl rfl hl.1 rfl (Nat.le_of_ble_eq_true rfl) dX3_order_126 ⟨Nat.le_of_ble_eq_true rfl, Nat.le_of_ble_eq_true rfl⟩) hS (Cut.all hP hD hS hA) (fun r_20 u_21 H locs hq_126 hP hD hS => ?_)
          have hP : va_P D vwCl (WM ca q th st ik (nI T_.length) ou (nI (if lnG false T_ (p_ + 1) = true then (p_ + 1) + 1 else (p_ + 1))) (bI (!lnG false T_ (p_ + 1))) (nI (T_.getD p_ 0)) na nb fo nu al z be ke te ti ne wa ta out pl lo sh le) H := hP
          have hD : va_D A (WM ca q th st ik (nI T_.length) ou (nI (if lnG false T_ (p_ + 1) = true then (p_ + 1) + 1 else (p_ + 1))) (bI (!lnG false T_ (p_ + 1))) (nI (T_.getD p_ 0)) na nb fo nu al z be ke te ti ne wa ta out pl lo sh le) := hD
          have hp_126 : r_20 = nI (if lnG false T_ (p_ + 1) = true then T_.getD (p_ + 1) 0 - 97 else 0) := hq_126
          clear hq_126
          obtain rfl := hp_126
          refine pWM_0_one_X3 hx hb hts hown hK hP hD hS dX3_order_129 (fun H locs hP hD hS => ?_)
          refine lv_iload_n hx hb dX3_order_132 rfl (lv_at hl 0 rfl) ?_
          refine nv_if_eq (tgt := 144) hx hb dX3_order_133 (by decide) (by omega) (fun c_133 => ?_) (fun c_133 => absurd c_133 (by decide))
          refine lv_aload_n hx hb dX3_order_144 rfl (lv_at hl 1 rfl) ?_
          refine gWM_0_sort_X3 hx hb hts hown hK hP dX3_order_145 ?_
          refine lv_bipush (v := nI 63) hx hb dX3_order_148 (by decide) ?_
          refine nv_icmp_ne (tgt := 161) hx hb dX3_order_150 (by decide) (by have := hTx.2 p_; omega) (by omega) (fun c_150 => ?_) (fun c_150 => absurd (c_52.symm.trans c_150) (by decide))
          have ew_ : nI (if lnG false T_ (p_ + 1) = true then (p_ + 1) + 1 else (p_ + 1)) = nI (if w_ = true then p_ else orP T_ p_) := congrArg nI (or_lP c_30 c_16 (Or.inr c_52))
          have hP : va_P D vwCl (WM ca q th st ik (nI T_.length) ou (nI (if w_ = true then p_ else orP T_ p_)) (bI (!lnG false T_ (p_ + 1))) (nI (T_.getD p_ 0)) (nI (if lnG false T_ (p_ + 1) = true then T_.getD (p_ + 1) 0 - 97 else 0)) nb fo nu al z be ke te ti ne wa ta out pl lo sh le) H := (congrArg (fun x_ => va_P D vwCl (WM ca q th st ik (nI T_.length) ou x_ (bI (!lnG false T_ (p_ + 1))) (nI (T_.getD p_ 0)) (nI (if lnG false T_ (p_ + 1) = true then T_.getD (p_ + 1) 0 - 97 else 0)) nb fo nu al z be ke te ti ne wa ta out pl lo sh le) H) ew_).mp hP
          have hD : va_D A (WM ca q th st ik (nI T_.length) ou (nI (if w_ = true then p_ else orP T_ p_)) (bI (!lnG false T_ (p_ + 1))) (nI (T_.getD p_ 0)) (nI (if lnG false T_ (p_ + 1) = true then T_.getD (p_ + 1) 0 - 97 else 0)) nb fo nu al z be ke te ti ne wa ta out pl lo sh le) := (congrArg (fun x_ => va_D A (WM ca q th st ik (nI T_.length) ou x_ (bI (!lnG false T_ (p_ + 1))) (nI (T_.getD p_ 0)) (nI (if lnG false T_ (p_ + 1) = true then T_.getD (p_ + 1) 0 - 97 else 0)) nb fo nu al z be ke te ti ne wa ta out pl lo sh le)) ew_).mp hD
          clear ew_
          have ew_ : bI (!lnG false T_ (p_ + 1)) = bI (w_ || !orB T_ p_) := congrArg bI (or_lB c_30 c_16 (Or.inr c_52))
          have hP : va_P D vwCl (WM ca q th st ik (nI T_.length) ou (nI (if w_ = true then p_ else orP T_ p_)) (bI (w_ || !orB T_ p_)) (nI (T_.getD p_ 0)) (nI (if lnG false T_ (p_ + 1) = true then T_.getD (p_ + 1) 0 - 97 else 0)) nb fo nu al z be ke te ti ne wa ta out pl lo sh le) H := (congrArg (fun x_ => va_P D vwCl (WM ca q th st ik (nI T_.length) ou (nI (if w_ = true then p_ else orP T_ p_)) x_ (nI (T_.getD p_ 0)) (nI (if lnG false T_ (p_ + 1) = true then T_.getD (p_ + 1) 0 - 97 else 0)) nb fo nu al z be ke te ti ne wa ta out pl lo sh le) H) ew_).mp hP
          have hD : va_D A (WM ca q th st ik (nI T_.length) ou (nI (if w_ = true then p_ else orP T_ p_)) (bI (w_ || !orB T_ p_)) (nI (T_.getD p_ 0)) (nI (if lnG false T_ (p_ + 1) = true then T_.getD (p_ + 1) 0 - 97 else 0)) nb fo nu al z be ke te ti ne wa ta out pl lo sh le) := (congrArg (fun x_ => va_D A (WM ca q th st ik (nI T_.length) ou (nI (if w_ = true then p_ else orP T_ p_)) x_ (nI (T_.getD p_ 0)) (nI (if lnG false T_ (p_ + 1) = true then T_.getD (p_ + 1) 0 - 97 else 0)) nb fo nu al z be ke te ti ne wa ta out pl lo sh le)) ew_).mp hD
          clear ew_
          subst hQQ
          exact xe_v (nI (if lnG false T_ (p_ + 1) = true then T_.getD (p_ + 1) 0 - 97 else 0), nb) hx hb hr hlocks hK hP hD hS (fun h_ => or_lO c_30 c_16 (Or.inr c_52) h_) dX3_order_161
        · skip
          refine lv_aload_n hx hb dX3_order_55 rfl (lv_at hl 1 rfl) ?_
          refine gWM_0_sort_X3 hx hb hts hown hK hP dX3_order_56 ?_
          refine lv_bipush (v := nI 63) hx hb dX3_order_59 (by decide) ?_
          refine nv_icmp_eq (tgt := 77) hx hb dX3_order_61 (by decide) (by have := hTx.2 p_; omega) (by omega) (fun c_61 => ?_) (fun c_61 => ?_)
          · skip
            refine lv_iconst (v := nI 0) hx hb dX3_order_77 (by decide) ?_
            refine pWM_0_isWrong_X3 hx hb hts hown hK hP hD hS rfl rfl dX3_order_78 (fun H locs hP hD hS => ?_)
            refine lv_aload_n hx hb dX3_order_81 rfl (lv_at hl 1 rfl) ?_
            refine lv_dup hx hb dX3_order_82 rfl ?_
            refine gWM_0_at_X3 hx hb hts hown hK hP dX3_order_83 ?_
            refine lv_aload_n hx hb dX3_order_86 rfl (lv_at hl 1 rfl) ?_
            refine gWM_0_isWrong_X3 hx hb hts hown hK hP dX3_order_87 ?_
            refine nv_if_eq (tgt := 97) hx hb dX3_order_90 (by decide) (by omega) (fun c_90 => ?_) (fun c_90 => absurd c_90 (by decide))
            refine lv_iconst (v := nI 1) hx hb dX3_order_97 (by decide) ?_
            refine nv_iadd hx hb dX3_order_98 ?_
            refine pWM_0_at_X3 hx hb hts hown hK hP hD hS dX3_order_99 (fun H locs hP hD hS => ?_)
            refine lv_iload_n hx hb dX3_order_102 rfl (lv_at hl 0 rfl) ?_
            refine nv_if_ne (tgt := 124) hx hb dX3_order_103 (by decide) (by omega) (fun c_103 => absurd c_103 (by decide)) (fun c_103 => ?_)
            refine lv_aload_n hx hb dX3_order_106 rfl (lv_at hl 1 rfl) ?_
            refine gWM_0_sort_X3 hx hb hts hown hK hP dX3_order_107 ?_
            refine lv_bipush (v := nI 62) hx hb dX3_order_110 (by decide) ?_
            refine nv_icmp_eq (tgt := 124) hx hb dX3_order_112 (by decide) (by have := hTx.2 p_; omega) (by omega) (fun c_112 => absurd c_112 c_43) (fun c_112 => ?_)
            refine lv_aload_n hx hb dX3_order_115 rfl (lv_at hl 1 rfl) ?_
            refine gWM_0_sort_X3 hx hb hts hown hK hP dX3_order_116 ?_
            refine lv_bipush (v := nI 35) hx hb dX3_order_119 (by decide) ?_
            refine nv_icmp_ne (tgt := 132) hx hb dX3_order_121 (by decide) (by have := hTx.2 p_; omega) (by omega) (fun c_121 => ?_) (fun c_121 => absurd c_121 c_52)
            refine lv_iload_n hx hb dX3_order_132 rfl (lv_at hl 0 rfl) ?_
            refine nv_if_eq (tgt := 144) hx hb dX3_order_133 (by decide) (by omega) (fun c_133 => ?_) (fun c_133 => absurd c_133 (by decide))
            refine lv_aload_n hx hb dX3_order_144 rfl (lv_at hl 1 rfl) ?_
            refine gWM_0_sort_X3 hx hb hts hown hK hP dX3_order_145 ?_
            refine lv_bipush (v := nI 63) hx hb dX3_order_148 (by decide) ?_
            refine nv_icmp_ne (tgt := 161) hx hb dX3_order_150 (by decide) (by have := hTx.2 p_; omega) (by omega) (fun c_150 => absurd c_61 c_150) (fun c_150 => ?_)
            refine lv_aload_n hx hb dX3_order_153 rfl (lv_at hl 1 rfl) ?_
            refine lv_aload_n hx hb dX3_order_154 rfl (lv_at hl 1 rfl) ?_
            have ew_ : nI 0 = bI false := rfl
            have hP : va_P D vwCl (WM ca q th st ik (nI T_.length) ou (nI (p_ + 1)) (bI false) (nI (T_.getD p_ 0)) na nb fo nu al z be ke te ti ne wa ta out pl lo sh le) H := (congrArg (fun x_ => va_P D vwCl (WM ca q th st ik (nI T_.length) ou (nI (p_ + 1)) x_ (nI (T_.getD p_ 0)) na nb fo nu al z be ke te ti ne wa ta out pl lo sh le) H) ew_).mp hP
            have hD : va_D A (WM ca q th st ik (nI T_.length) ou (nI (p_ + 1)) (bI false) (nI (T_.getD p_ 0)) na nb fo nu al z be ke te ti ne wa ta out pl lo sh le) := (congrArg (fun x_ => va_D A (WM ca q th st ik (nI T_.length) ou (nI (p_ + 1)) x_ (nI (T_.getD p_ 0)) na nb fo nu al z be ke te ti ne wa ta out pl lo sh le)) ew_).mp hD
            clear ew_
            refine xc_i (xr_V (b := q 0) (ci := 2) (q0 := 0) (As := []) (rest := [.ref (q 0)]) (mt_X3_testHere l D ca q th st ik ou (nI (T_.getD p_ 0)) na nb fo nu al z be ke te ti ne wa ta out pl lo sh le T_ (p_ + 1) false hTe hTx (by (repeat' split) <;> omega) H.size) ⟨hx, hb, hml, hown, hts⟩ (cwV 0 hts (lw_V q1894 q1896 qs74 q87 q1897) rfl rfl rfl (by decide +kernel) ⟨Nat.le_of_ble_eq_true rfl, Nat.le_of_ble_eq_true rfl⟩) Ev0_ok hE hK hS (Cut.all hP hD hS hA) rfl rfl rfl hl.1 rfl (Nat.le_of_ble_eq_true rfl) dX3_order_155 ⟨Nat.le_of_ble_eq_true rfl, Nat.le_of_ble_eq_true rfl⟩) hS (Cut.all hP hD hS hA) (fun r_23 u_24 H locs hq_155 hP hD hS => ?_)
            have hP : va_P D vwCl (WM ca q th st ik (nI T_.length) ou (nI (if dgG false T_ (p_ + 1) = true then tsP T_ (p_ + 1) else (p_ + 1))) (bI (!dgG false T_ (p_ + 1))) (nI (T_.getD p_ 0)) na nb fo nu al z be ke te ti ne wa ta out pl lo sh le) H := hP
            have hD : va_D A (WM ca q th st ik (nI T_.length) ou (nI (if dgG false T_ (p_ + 1) = true then tsP T_ (p_ + 1) else (p_ + 1))) (bI (!dgG false T_ (p_ + 1))) (nI (T_.getD p_ 0)) na nb fo nu al z be ke te ti ne wa ta out pl lo sh le) := hD
            have hp_155 : r_23 = nI (if dgG false T_ (p_ + 1) = true then tsV T_ (p_ + 1) else 0) := hq_155
            clear hq_155
            obtain rfl := hp_155
            refine pWM_0_one_X3 hx hb hts hown hK hP hD hS dX3_order_158 (fun H locs hP hD hS => ?_)
            have ew_ : nI (if dgG false T_ (p_ + 1) = true then tsP T_ (p_ + 1) else (p_ + 1)) = nI (if w_ = true then p_ else orP T_ p_) := congrArg nI (or_tP c_30 c_61)
            have hP : va_P D vwCl (WM ca q th st ik (nI T_.length) ou (nI (if w_ = true then p_ else orP T_ p_)) (bI (!dgG false T_ (p_ + 1))) (nI (T_.getD p_ 0)) (nI (if dgG false T_ (p_ + 1) = true then tsV T_ (p_ + 1) else 0)) nb fo nu al z be ke te ti ne wa ta out pl lo sh le) H := (congrArg (fun x_ => va_P D vwCl (WM ca q th st ik (nI T_.length) ou x_ (bI (!dgG false T_ (p_ + 1))) (nI (T_.getD p_ 0)) (nI (if dgG false T_ (p_ + 1) = true then tsV T_ (p_ + 1) else 0)) nb fo nu al z be ke te ti ne wa ta out pl lo sh le) H) ew_).mp hP
            have hD : va_D A (WM ca q th st ik (nI T_.length) ou (nI (if w_ = true then p_ else orP T_ p_)) (bI (!dgG false T_ (p_ + 1))) (nI (T_.getD p_ 0)) (nI (if dgG false T_ (p_ + 1) = true then tsV T_ (p_ + 1) else 0)) nb fo nu al z be ke te ti ne wa ta out pl lo sh le) := (congrArg (fun x_ => va_D A (WM ca q th st ik (nI T_.length) ou x_ (bI (!dgG false T_ (p_ + 1))) (nI (T_.getD p_ 0)) (nI (if dgG false T_ (p_ + 1) = true then tsV T_ (p_ + 1) else 0)) nb fo nu al z be ke te ti ne wa ta out pl lo sh le)) ew_).mp hD
            clear ew_
            have ew_ : bI (!dgG false T_ (p_ + 1)) = bI (w_ || !orB T_ p_) := congrArg bI (or_tB c_30 c_61)
            have hP : va_P D vwCl (WM ca q th st ik (nI T_.length) ou (nI (if w_ = true then p_ else orP T_ p_)) (bI (w_ || !orB T_ p_)) (nI (T_.getD p_ 0)) (nI (if dgG false T_ (p_ + 1) = true then tsV T_ (p_ + 1) else 0)) nb fo nu al z be ke te ti ne wa ta out pl lo sh le) H := (congrArg (fun x_ => va_P D vwCl (WM ca q th st ik (nI T_.length) ou (nI (if w_ = true then p_ else orP T_ p_)) x_ (nI (T_.getD p_ 0)) (nI (if dgG false T_ (p_ + 1) = true then tsV T_ (p_ + 1) else 0)) nb fo nu al z be ke te ti ne wa ta out pl lo sh le) H) ew_).mp hP
            have hD : va_D A (WM ca q th st ik (nI T_.length) ou (nI (if w_ = true then p_ else orP T_ p_)) (bI (w_ || !orB T_ p_)) (nI (T_.getD p_ 0)) (nI (if dgG false T_ (p_ + 1) = true then tsV T_ (p_ + 1) else 0)) nb fo nu al z be ke te ti ne wa ta out pl lo sh le) := (congrArg (fun x_ => va_D A (WM ca q th st ik (nI T_.length) ou (nI (if w_ = true then p_ else orP T_ p_)) x_ (nI (T_.getD p_ 0)) (nI (if dgG false T_ (p_ + 1) = true then tsV T_ (p_ + 1) else 0)) nb fo nu al z be ke te ti ne wa ta out pl lo sh le)) ew_).mp hD
            clear ew_
            subst hQQ
            exact xe_v (nI (if dgG false T_ (p_ + 1) = true then tsV T_ (p_ + 1) else 0), nb) hx hb hr hlocks hK hP hD hS (fun h_ => or_tO c_30 c_61 h_) dX3_order_161
          · skip
            refine lv_aload_n hx hb dX3_order_64 rfl (lv_at hl 1 rfl) ?_
            refine gWM_0_sort_X3 hx hb hts hown hK hP dX3_order_65 ?_
            refine lv_bipush (v := nI 37) hx hb dX3_order_68 (by decide) ?_
            refine nv_icmp_eq (tgt := 77) hx hb dX3_order_70 (by decide) (by have := hTx.2 p_; omega) (by omega) (fun c_70 => ?_) (fun c_70 => ?_)
            · skip
              refine lv_iconst (v := nI 0) hx hb dX3_order_77 (by decide) ?_
              refine pWM_0_isWrong_X3 hx hb hts hown hK hP hD hS rfl rfl dX3_order_78 (fun H locs hP hD hS => ?_)
              refine lv_aload_n hx hb dX3_order_81 rfl (lv_at hl 1 rfl) ?_
              refine lv_dup hx hb dX3_order_82 rfl ?_
              refine gWM_0_at_X3 hx hb hts hown hK hP dX3_order_83 ?_
              refine lv_aload_n hx hb dX3_order_86 rfl (lv_at hl 1 rfl) ?_
              refine gWM_0_isWrong_X3 hx hb hts hown hK hP dX3_order_87 ?_
              refine nv_if_eq (tgt := 97) hx hb dX3_order_90 (by decide) (by omega) (fun c_90 => ?_) (fun c_90 => absurd c_90 (by decide))
              refine lv_iconst (v := nI 1) hx hb dX3_order_97 (by decide) ?_
              refine nv_iadd hx hb dX3_order_98 ?_
              refine pWM_0_at_X3 hx hb hts hown hK hP hD hS dX3_order_99 (fun H locs hP hD hS => ?_)
              refine lv_iload_n hx hb dX3_order_102 rfl (lv_at hl 0 rfl) ?_
              refine nv_if_ne (tgt := 124) hx hb dX3_order_103 (by decide) (by omega) (fun c_103 => absurd c_103 (by decide)) (fun c_103 => ?_)
              refine lv_aload_n hx hb dX3_order_106 rfl (lv_at hl 1 rfl) ?_
              refine gWM_0_sort_X3 hx hb hts hown hK hP dX3_order_107 ?_
              refine lv_bipush (v := nI 62) hx hb dX3_order_110 (by decide) ?_
              refine nv_icmp_eq (tgt := 124) hx hb dX3_order_112 (by decide) (by have := hTx.2 p_; omega) (by omega) (fun c_112 => absurd c_112 c_43) (fun c_112 => ?_)
              refine lv_aload_n hx hb dX3_order_115 rfl (lv_at hl 1 rfl) ?_
              refine gWM_0_sort_X3 hx hb hts hown hK hP dX3_order_116 ?_
              refine lv_bipush (v := nI 35) hx hb dX3_order_119 (by decide) ?_
              refine nv_icmp_ne (tgt := 132) hx hb dX3_order_121 (by decide) (by have := hTx.2 p_; omega) (by omega) (fun c_121 => ?_) (fun c_121 => absurd c_121 c_52)
              refine lv_iload_n hx hb dX3_order_132 rfl (lv_at hl 0 rfl) ?_
              refine nv_if_eq (tgt := 144) hx hb dX3_order_133 (by decide) (by omega) (fun c_133 => ?_) (fun c_133 => absurd c_133 (by decide))
              refine lv_aload_n hx hb dX3_order_144 rfl (lv_at hl 1 rfl) ?_
              refine gWM_0_sort_X3 hx hb hts hown hK hP dX3_order_145 ?_
              refine lv_bipush (v := nI 63) hx hb dX3_order_148 (by decide) ?_
              refine nv_icmp_ne (tgt := 161) hx hb dX3_order_150 (by decide) (by have := hTx.2 p_; omega) (by omega) (fun c_150 => ?_) (fun c_150 => absurd c_150 c_61)
              have ew_ : nI 0 = bI false := rfl
              have hP : va_P D vwCl (WM ca q th st ik (nI T_.length) ou (nI (p_ + 1)) (bI false) (nI (T_.getD p_ 0)) na nb fo nu al z be ke te ti ne wa ta out pl lo sh le) H := (congrArg (fun x_ => va_P D vwCl (WM ca q th st ik (nI T_.length) ou (nI (p_ + 1)) x_ (nI (T_.getD p_ 0)) na nb fo nu al z be ke te ti ne wa ta out pl lo sh le) H) ew_).mp hP
              have hD : va_D A (WM ca q th st ik (nI T_.length) ou (nI (p_ + 1)) (bI false) (nI (T_.getD p_ 0)) na nb fo nu al z be ke te ti ne wa ta out pl lo sh le) := (congrArg (fun x_ => va_D A (WM ca q th st ik (nI T_.length) ou (nI (p_ + 1)) x_ (nI (T_.getD p_ 0)) na nb fo nu al z be ke te ti ne wa ta out pl lo sh le)) ew_).mp hD
              clear ew_
              have ew_ : nI (p_ + 1) = nI (if w_ = true then p_ else orP T_ p_) := congrArg nI (or_pP c_30 c_70)
              have hP : va_P D vwCl (WM ca q th st ik (nI T_.length) ou (nI (if w_ = true then p_ else orP T_ p_)) (bI false) (nI (T_.getD p_ 0)) na nb fo nu al z be ke te ti ne wa ta out pl lo sh le) H := (congrArg (fun x_ => va_P D vwCl (WM ca q th st ik (nI T_.length) ou x_ (bI false) (nI (T_.getD p_ 0)) na nb fo nu al z be ke te ti ne wa ta out pl lo sh le) H) ew_).mp hP
              have hD : va_D A (WM ca q th st ik (nI T_.length) ou (nI (if w_ = true then p_ else orP T_ p_)) (bI false) (nI (T_.getD p_ 0)) na nb fo nu al z be ke te ti ne wa ta out pl lo sh le) := (congrArg (fun x_ => va_D A (WM ca q th st ik (nI T_.length) ou x_ (bI false) (nI (T_.getD p_ 0)) na nb fo nu al z be ke te ti ne wa ta out pl lo sh le)) ew_).mp hD
              clear ew_
              have ew_ : bI false = bI (w_ || !orB T_ p_) := congrArg bI (or_pB c_30 c_70)
              have hP : va_P D vwCl (WM ca q th st ik (nI T_.length) ou (nI (if w_ = true then p_ else orP T_ p_)) (bI (w_ || !orB T_ p_)) (nI (T_.getD p_ 0)) na nb fo nu al z be ke te ti ne wa ta out pl lo sh le) H := (congrArg (fun x_ => va_P D vwCl (WM ca q th st ik (nI T_.length) ou (nI (if w_ = true then p_ else orP T_ p_)) x_ (nI (T_.getD p_ 0)) na nb fo nu al z be ke te ti ne wa ta out pl lo sh le) H) ew_).mp hP
              have hD : va_D A (WM ca q th st ik (nI T_.length) ou (nI (if w_ = true then p_ else orP T_ p_)) (bI (w_ || !orB T_ p_)) (nI (T_.getD p_ 0)) na nb fo nu al z be ke te ti ne wa ta out pl lo sh le) := (congrArg (fun x_ => va_D A (WM ca q th st ik (nI T_.length) ou (nI (if w_ = true then p_ else orP T_ p_)) x_ (nI (T_.getD p_ 0)) na nb fo nu al z be ke te ti ne wa ta out pl lo sh le)) ew_).mp hD
              clear ew_
              subst hQQ
              exact xe_v (na, nb) hx hb hr hlocks hK hP hD hS (fun h_ => ⟨Or.inl c_70, Or.inl c_16⟩) dX3_order_161
            · skip
              refine lv_iconst (v := nI 1) hx hb dX3_order_73 (by decide) ?_
              refine lv_goto (tgt := 78) hx hb dX3_order_74 (by decide) ?_
              refine pWM_0_isWrong_X3 hx hb hts hown hK hP hD hS rfl rfl dX3_order_78 (fun H locs hP hD hS => ?_)
              refine lv_aload_n hx hb dX3_order_81 rfl (lv_at hl 1 rfl) ?_
              refine lv_dup hx hb dX3_order_82 rfl ?_
              refine gWM_0_at_X3 hx hb hts hown hK hP dX3_order_83 ?_
              refine lv_aload_n hx hb dX3_order_86 rfl (lv_at hl 1 rfl) ?_
              refine gWM_0_isWrong_X3 hx hb hts hown hK hP dX3_order_87 ?_
              refine nv_if_eq (tgt := 97) hx hb dX3_order_90 (by decide) (by omega) (fun c_90 => absurd c_90 (by decide)) (fun c_90 => ?_)
              refine lv_iconst (v := nI 0) hx hb dX3_order_93 (by decide) ?_
              refine lv_goto (tgt := 98) hx hb dX3_order_94 (by decide) ?_
              refine nv_iadd hx hb dX3_order_98 ?_
              refine pWM_0_at_X3 hx hb hts hown hK hP hD hS dX3_order_99 (fun H locs hP hD hS => ?_)
              refine lv_iload_n hx hb dX3_order_102 rfl (lv_at hl 0 rfl) ?_
              refine nv_if_ne (tgt := 124) hx hb dX3_order_103 (by decide) (by omega) (fun c_103 => absurd c_103 (by decide)) (fun c_103 => ?_)
              refine lv_aload_n hx hb dX3_order_106 rfl (lv_at hl 1 rfl) ?_
              refine gWM_0_sort_X3 hx hb hts hown hK hP dX3_order_107 ?_
              refine lv_bipush (v := nI 62) hx hb dX3_order_110 (by decide) ?_
              refine nv_icmp_eq (tgt := 124) hx hb dX3_order_112 (by decide) (by have := hTx.2 p_; omega) (by omega) (fun c_112 => absurd c_112 c_43) (fun c_112 => ?_)
              refine lv_aload_n hx hb dX3_order_115 rfl (lv_at hl 1 rfl) ?_
              refine gWM_0_sort_X3 hx hb hts hown hK hP dX3_order_116 ?_
              refine lv_bipush (v := nI 35) hx hb dX3_order_119 (by decide) ?_
              refine nv_icmp_ne (tgt := 132) hx hb dX3_order_121 (by decide) (by have := hTx.2 p_; omega) (by omega) (fun c_121 => ?_) (fun c_121 => absurd c_121 c_52)
              refine lv_iload_n hx hb dX3_order_132 rfl (lv_at hl 0 rfl) ?_
              refine nv_if_eq (tgt := 144) hx hb dX3_order_133 (by decide) (by omega) (fun c_133 => ?_) (fun c_133 => absurd c_133 (by decide))
              refine lv_aload_n hx hb dX3_order_144 rfl (lv_at hl 1 rfl) ?_
              refine gWM_0_sort_X3 hx hb hts hown hK hP dX3_order_145 ?_
              refine lv_bipush (v := nI 63) hx hb dX3_order_148 (by decide) ?_
              refine nv_icmp_ne (tgt := 161) hx hb dX3_order_150 (by decide) (by have := hTx.2 p_; omega) (by omega) (fun c_150 => ?_) (fun c_150 => absurd c_150 c_61)
              have ew_ : nI 1 = bI true := rfl
              have hP : va_P D vwCl (WM ca q th st ik (nI T_.length) ou (nI (p_ + 0)) (bI true) (nI (T_.getD p_ 0)) na nb fo nu al z be ke te ti ne wa ta out pl lo sh le) H := (congrArg (fun x_ => va_P D vwCl (WM ca q th st ik (nI T_.length) ou (nI (p_ + 0)) x_ (nI (T_.getD p_ 0)) na nb fo nu al z be ke te ti ne wa ta out pl lo sh le) H) ew_).mp hP
              have hD : va_D A (WM ca q th st ik (nI T_.length) ou (nI (p_ + 0)) (bI true) (nI (T_.getD p_ 0)) na nb fo nu al z be ke te ti ne wa ta out pl lo sh le) := (congrArg (fun x_ => va_D A (WM ca q th st ik (nI T_.length) ou (nI (p_ + 0)) x_ (nI (T_.getD p_ 0)) na nb fo nu al z be ke te ti ne wa ta out pl lo sh le)) ew_).mp hD
              clear ew_
              have ew_ : nI (p_ + 0) = nI (if w_ = true then p_ else orP T_ p_) := congrArg nI (or_xP c_30 c_16 c_43 c_52 c_61 c_70)
              have hP : va_P D vwCl (WM ca q th st ik (nI T_.length) ou (nI (if w_ = true then p_ else orP T_ p_)) (bI true) (nI (T_.getD p_ 0)) na nb fo nu al z be ke te ti ne wa ta out pl lo sh le) H := (congrArg (fun x_ => va_P D vwCl (WM ca q th st ik (nI T_.length) ou x_ (bI true) (nI (T_.getD p_ 0)) na nb fo nu al z be ke te ti ne wa ta out pl lo sh le) H) ew_).mp hP
              have hD : va_D A (WM ca q th st ik (nI T_.length) ou (nI (if w_ = true then p_ else orP T_ p_)) (bI true) (nI (T_.getD p_ 0)) na nb fo nu al z be ke te ti ne wa ta out pl lo sh le) := (congrArg (fun x_ => va_D A (WM ca q th st ik (nI T_.length) ou x_ (bI true) (nI (T_.getD p_ 0)) na nb fo nu al z be ke te ti ne wa ta out pl lo sh le)) ew_).mp hD
              clear ew_
              have ew_ : bI true = bI (w_ || !orB T_ p_) := congrArg bI (by rw [or_xB (w := w_) c_16 c_43 c_52 c_61 c_70]; cases w_ <;> rfl)
              have hP : va_P D vwCl (WM ca q th st ik (nI T_.length) ou (nI (if w_ = true then p_ else orP T_ p_)) (bI (w_ || !orB T_ p_)) (nI (T_.getD p_ 0)) na nb fo nu al z be ke te ti ne wa ta out pl lo sh le) H := (congrArg (fun x_ => va_P D vwCl (WM ca q th st ik (nI T_.length) ou (nI (if w_ = true then p_ else orP T_ p_)) x_ (nI (T_.getD p_ 0)) na nb fo nu al z be ke te ti ne wa ta out pl lo sh le) H) ew_).mp hP
              have hD : va_D A (WM ca q th st ik (nI T_.length) ou (nI (if w_ = true then p_ else orP T_ p_)) (bI (w_ || !orB T_ p_)) (nI (T_.getD p_ 0)) na nb fo nu al z be ke te ti ne wa ta out pl lo sh le) := (congrArg (fun x_ => va_D A (WM ca q th st ik (nI T_.length) ou (nI (if w_ = true then p_ else orP T_ p_)) x_ (nI (T_.getD p_ 0)) na nb fo nu al z be ke te ti ne wa ta out pl lo sh le)) ew_).mp hD
              clear ew_
              subst hQQ
              exact xe_v (na, nb) hx hb hr hlocks hK hP hD hS (fun h_ => by rw [or_xB (w := w_) c_16 c_43 c_52 c_61 c_70] at h_; cases w_ <;> cases h_) dX3_order_161
  · skip
    refine lv_iconst (v := nI 1) hx hb dX3_order_19 (by decide) ?_
    refine lv_goto (tgt := 24) hx hb dX3_order_20 (by decide) ?_
    refine lv_istore_n (lv' := [(1, .int (nI 1)), (0, .ref (q 0))]) hx hb dX3_order_24 rfl hl (by decide) rfl (fun ls hl => ?_)
    refine lv_aload_n hx hb dX3_order_25 rfl (lv_at hl 1 rfl) ?_
    refine lv_aload_n hx hb dX3_order_26 rfl (lv_at hl 1 rfl) ?_
    refine gWM_0_isWrong_X3 hx hb hts hown hK hP dX3_order_27 ?_
    refine nv_ifb_ne (tgt := 73) hx hb dX3_order_30 (by decide) (fun c_30 => ?_) (fun c_30 => ?_)
    · skip
      refine lv_iconst (v := nI 1) hx hb dX3_order_73 (by decide) ?_
      refine lv_goto (tgt := 78) hx hb dX3_order_74 (by decide) ?_
      refine pWM_0_isWrong_X3 hx hb hts hown hK hP hD hS rfl rfl dX3_order_78 (fun H locs hP hD hS => ?_)
      refine lv_aload_n hx hb dX3_order_81 rfl (lv_at hl 1 rfl) ?_
      refine lv_dup hx hb dX3_order_82 rfl ?_
      refine gWM_0_at_X3 hx hb hts hown hK hP dX3_order_83 ?_
      refine lv_aload_n hx hb dX3_order_86 rfl (lv_at hl 1 rfl) ?_
      refine gWM_0_isWrong_X3 hx hb hts hown hK hP dX3_order_87 ?_
      refine nv_if_eq (tgt := 97) hx hb dX3_order_90 (by decide) (by omega) (fun c_90 => absurd c_90 (by decide)) (fun c_90 => ?_)
      refine lv_iconst (v := nI 0) hx hb dX3_order_93 (by decide) ?_
      refine lv_goto (tgt := 98) hx hb dX3_order_94 (by decide) ?_
      refine nv_iadd hx hb dX3_order_98 ?_
      refine pWM_0_at_X3 hx hb hts hown hK hP hD hS dX3_order_99 (fun H locs hP hD hS => ?_)
      refine lv_iload_n hx hb dX3_order_102 rfl (lv_at hl 0 rfl) ?_
      refine nv_if_ne (tgt := 124) hx hb dX3_order_103 (by decide) (by omega) (fun c_103 => ?_) (fun c_103 => absurd c_103 (by decide))
      refine lv_aload_n hx hb dX3_order_124 rfl (lv_at hl 1 rfl) ?_
      refine lv_aload_n hx hb dX3_order_125 rfl (lv_at hl 1 rfl) ?_
      have ew_ : nI 1 = bI true := rfl
      have hP : va_P D vwCl (WM ca q th st ik (nI T_.length) ou (nI (p_ + 0)) (bI true) (nI (T_.getD p_ 0)) na nb fo nu al z be ke te ti ne wa ta out pl lo sh le) H := (congrArg (fun x_ => va_P D vwCl (WM ca q th st ik (nI T_.length) ou (nI (p_ + 0)) x_ (nI (T_.getD p_ 0)) na nb fo nu al z be ke te ti ne wa ta out pl lo sh le) H) ew_).mp hP
      have hD : va_D A (WM ca q th st ik (nI T_.length) ou (nI (p_ + 0)) (bI true) (nI (T_.getD p_ 0)) na nb fo nu al z be ke te ti ne wa ta out pl lo sh le) := (congrArg (fun x_ => va_D A (WM ca q th st ik (nI T_.length) ou (nI (p_ + 0)) x_ (nI (T_.getD p_ 0)) na nb fo nu al z be ke te ti ne wa ta out pl lo sh le)) ew_).mp hD
      clear ew_
      refine xc_i (xr_V (b := q 0) (ci := 2) (q0 := 0) (As := []) (rest := [.ref (q 0)]) (mt_X3_lineHere l D ca q th st ik ou (nI (T_.getD p_ 0)) na nb fo nu al z be ke te ti ne wa ta out pl lo sh le T_ (p_ + 0) true hTe hTx (by (repeat' split) <;> omega) H.size) ⟨hx, hb, hml, hown, hts⟩ (cwV 0 hts (lw_V q1890 q1892 qs73 q87 q1893) rfl rfl rfl (by decide +kernel) ⟨Nat.le_of_ble_eq_true rfl, Nat.le_of_ble_eq_true rfl⟩) Ev0_ok hE hK hS (Cut.all hP hD hS hA) rfl rfl rfl hl.1 rfl (Nat.le_of_ble_eq_true rfl) dX3_order_126 ⟨Nat.le_of_ble_eq_true rfl, Nat.le_of_ble_eq_true rfl⟩) hS (Cut.all hP hD hS hA) (fun r_27 u_28 H locs hq_126 hP hD hS => ?_)
      have hP : va_P D vwCl (WM ca q th st ik (nI T_.length) ou (nI (if lnG true T_ (p_ + 0) = true then (p_ + 0) + 1 else (p_ + 0))) (bI (!lnG true T_ (p_ + 0))) (nI (T_.getD p_ 0)) na nb fo nu al z be ke te ti ne wa ta out pl lo sh le) H := hP
      have hD : va_D A (WM ca q th st ik (nI T_.length) ou (nI (if lnG true T_ (p_ + 0) = true then (p_ + 0) + 1 else (p_ + 0))) (bI (!lnG true T_ (p_ + 0))) (nI (T_.getD p_ 0)) na nb fo nu al z be ke te ti ne wa ta out pl lo sh le) := hD
      have hp_126 : r_27 = nI (if lnG true T_ (p_ + 0) = true then T_.getD (p_ + 0) 0 - 97 else 0) := hq_126
      clear hq_126
      obtain rfl := hp_126
      have ew_ : bI (!lnG true T_ (p_ + 0)) = bI true := rfl
      have hP : va_P D vwCl (WM ca q th st ik (nI T_.length) ou (nI (if lnG true T_ (p_ + 0) = true then (p_ + 0) + 1 else (p_ + 0))) (bI true) (nI (T_.getD p_ 0)) na nb fo nu al z be ke te ti ne wa ta out pl lo sh le) H := (congrArg (fun x_ => va_P D vwCl (WM ca q th st ik (nI T_.length) ou (nI (if lnG true T_ (p_ + 0) = true then (p_ + 0) + 1 else (p_ + 0))) x_ (nI (T_.getD p_ 0)) na nb fo nu al z be ke te ti ne wa ta out pl lo sh le) H) ew_).mp hP
      have hD : va_D A (WM ca q th st ik (nI T_.length) ou (nI (if lnG true T_ (p_ + 0) = true then (p_ + 0) + 1 else (p_ + 0))) (bI true) (nI (T_.getD p_ 0)) na nb fo nu al z be ke te ti ne wa ta out pl lo sh le) := (congrArg (fun x_ => va_D A (WM ca q th st ik (nI T_.length) ou (nI (if lnG true T_ (p_ + 0) = true then (p_ + 0) + 1 else (p_ + 0))) x_ (nI (T_.getD p_ 0)) na nb fo nu al z be ke te ti ne wa ta out pl lo sh le)) ew_).mp hD
      clear ew_
      have ew_ : nI (if lnG true T_ (p_ + 0) = true then (p_ + 0) + 1 else (p_ + 0)) = nI (p_ + 0) := rfl
      have hP : va_P D vwCl (WM ca q th st ik (nI T_.length) ou (nI (p_ + 0)) (bI true) (nI (T_.getD p_ 0)) na nb fo nu al z be ke te ti ne wa ta out pl lo sh le) H := (congrArg (fun x_ => va_P D vwCl (WM ca q th st ik (nI T_.length) ou x_ (bI true) (nI (T_.getD p_ 0)) na nb fo nu al z be ke te ti ne wa ta out pl lo sh le) H) ew_).mp hP
      have hD : va_D A (WM ca q th st ik (nI T_.length) ou (nI (p_ + 0)) (bI true) (nI (T_.getD p_ 0)) na nb fo nu al z be ke te ti ne wa ta out pl lo sh le) := (congrArg (fun x_ => va_D A (WM ca q th st ik (nI T_.length) ou x_ (bI true) (nI (T_.getD p_ 0)) na nb fo nu al z be ke te ti ne wa ta out pl lo sh le)) ew_).mp hD
      clear ew_
      refine pWM_0_one_X3 hx hb hts hown hK hP hD hS dX3_order_129 (fun H locs hP hD hS => ?_)
      refine lv_iload_n hx hb dX3_order_132 rfl (lv_at hl 0 rfl) ?_
      refine nv_if_eq (tgt := 144) hx hb dX3_order_133 (by decide) (by omega) (fun c_133 => absurd c_133 (by decide)) (fun c_133 => ?_)
      refine lv_aload_n hx hb dX3_order_136 rfl (lv_at hl 1 rfl) ?_
      refine lv_aload_n hx hb dX3_order_137 rfl (lv_at hl 1 rfl) ?_
      refine xc_i (xr_V (b := q 0) (ci := 2) (q0 := 0) (As := []) (rest := [.ref (q 0)]) (mt_X3_lineHere l D ca q th st ik ou (nI (T_.getD p_ 0)) (nI (if lnG true T_ (p_ + 0) = true then T_.getD (p_ + 0) 0 - 97 else 0)) nb fo nu al z be ke te ti ne wa ta out pl lo sh le T_ (p_ + 0) true hTe hTx (by (repeat' split) <;> omega) H.size) ⟨hx, hb, hml, hown, hts⟩ (cwV 0 hts (lw_V q1890 q1892 qs73 q87 q1893) rfl rfl rfl (by decide +kernel) ⟨Nat.le_of_ble_eq_true rfl, Nat.le_of_ble_eq_true rfl⟩) Ev0_ok hE hK hS (Cut.all hP hD hS hA) rfl rfl rfl hl.1 rfl (Nat.le_of_ble_eq_true rfl) dX3_order_138 ⟨Nat.le_of_ble_eq_true rfl, Nat.le_of_ble_eq_true rfl⟩) hS (Cut.all hP hD hS hA) (fun r_29 u_30 H locs hq_138 hP hD hS => ?_)
      have hP : va_P D vwCl (WM ca q th st ik (nI T_.length) ou (nI (if lnG true T_ (p_ + 0) = true then (p_ + 0) + 1 else (p_ + 0))) (bI (!lnG true T_ (p_ + 0))) (nI (T_.getD p_ 0)) (nI (if lnG true T_ (p_ + 0) = true then T_.getD (p_ + 0) 0 - 97 else 0)) nb fo nu al z be ke te ti ne wa ta out pl lo sh le) H := hP
      have hD : va_D A (WM ca q th st ik (nI T_.length) ou (nI (if lnG true T_ (p_ + 0) = true then (p_ + 0) + 1 else (p_ + 0))) (bI (!lnG true T_ (p_ + 0))) (nI (T_.getD p_ 0)) (nI (if lnG true T_ (p_ + 0) = true then T_.getD (p_ + 0) 0 - 97 else 0)) nb fo nu al z be ke te ti ne wa ta out pl lo sh le) := hD
      have hp_138 : r_29 = nI (if lnG true T_ (p_ + 0) = true then T_.getD (p_ + 0) 0 - 97 else 0) := hq_138
      clear hq_138
      obtain rfl := hp_138
      have ew_ : bI (!lnG true T_ (p_ + 0)) = bI true := rfl
      have hP : va_P D vwCl (WM ca q th st ik (nI T_.length) ou (nI (if lnG true T_ (p_ + 0) = true then (p_ + 0) + 1 else (p_ + 0))) (bI true) (nI (T_.getD p_ 0)) (nI (if lnG true T_ (p_ + 0) = true then T_.getD (p_ + 0) 0 - 97 else 0)) nb fo nu al z be ke te ti ne wa ta out pl lo sh le) H := (congrArg (fun x_ => va_P D vwCl (WM ca q th st ik (nI T_.length) ou (nI (if lnG true T_ (p_ + 0) = true then (p_ + 0) + 1 else (p_ + 0))) x_ (nI (T_.getD p_ 0)) (nI (if lnG true T_ (p_ + 0) = true then T_.getD (p_ + 0) 0 - 97 else 0)) nb fo nu al z be ke te ti ne wa ta out pl lo sh le) H) ew_).mp hP
      have hD : va_D A (WM ca q th st ik (nI T_.length) ou (nI (if lnG true T_ (p_ + 0) = true then (p_ + 0) + 1 else (p_ + 0))) (bI true) (nI (T_.getD p_ 0)) (nI (if lnG true T_ (p_ + 0) = true then T_.getD (p_ + 0) 0 - 97 else 0)) nb fo nu al z be ke te ti ne wa ta out pl lo sh le) := (congrArg (fun x_ => va_D A (WM ca q th st ik (nI T_.length) ou (nI (if lnG true T_ (p_ + 0) = true then (p_ + 0) + 1 else (p_ + 0))) x_ (nI (T_.getD p_ 0)) (nI (if lnG true T_ (p_ + 0) = true then T_.getD (p_ + 0) 0 - 97 else 0)) nb fo nu al z be ke te ti ne wa ta out pl lo sh le)) ew_).mp hD
      clear ew_
      have ew_ : nI (if lnG true T_ (p_ + 0) = true then (p_ + 0) + 1 else (p_ + 0)) = nI (p_ + 0) := rfl
      have hP : va_P D vwCl (WM ca q th st ik (nI T_.length) ou (nI (p_ + 0)) (bI true) (nI (T_.getD p_ 0)) (nI (if lnG true T_ (p_ + 0) = true then T_.getD (p_ + 0) 0 - 97 else 0)) nb fo nu al z be ke te ti ne wa ta out pl lo sh le) H := (congrArg (fun x_ => va_P D vwCl (WM ca q th st ik (nI T_.length) ou x_ (bI true) (nI (T_.getD p_ 0)) (nI (if lnG true T_ (p_ + 0) = true then T_.getD (p_ + 0) 0 - 97 else 0)) nb fo nu al z be ke te ti ne wa ta out pl lo sh le) H) ew_).mp hP
      have hD : va_D A (WM ca q th st ik (nI T_.length) ou (nI (p_ + 0)) (bI true) (nI (T_.getD p_ 0)) (nI (if lnG true T_ (p_ + 0) = true then T_.getD (p_ + 0) 0 - 97 else 0)) nb fo nu al z be ke te ti ne wa ta out pl lo sh le) := (congrArg (fun x_ => va_D A (WM ca q th st ik (nI T_.length) ou x_ (bI true) (nI (T_.getD p_ 0)) (nI (if lnG true T_ (p_ + 0) = true then T_.getD (p_ + 0) 0 - 97 else 0)) nb fo nu al z be ke te ti ne wa ta out pl lo sh le)) ew_).mp hD
      clear ew_
      refine pWM_0_two_X3 hx hb hts hown hK hP hD hS dX3_order_141 (fun H locs hP hD hS => ?_)
      refine lv_aload_n hx hb dX3_order_144 rfl (lv_at hl 1 rfl) ?_
      refine gWM_0_sort_X3 hx hb hts hown hK hP dX3_order_145 ?_
      refine lv_bipush (v := nI 63) hx hb dX3_order_148 (by decide) ?_
      refine nv_icmp_ne (tgt := 161) hx hb dX3_order_150 (by decide) (by have := hTx.2 p_; omega) (by omega) (fun c_150 => ?_) (fun c_150 => absurd c_150 (kf_sg c_16).2.2.1)
      have ew_ : nI (p_ + 0) = nI (if w_ = true then p_ else orP T_ p_) := congrArg nI (by rw [if_pos c_30]; rfl)
      have hP : va_P D vwCl (WM ca q th st ik (nI T_.length) ou (nI (if w_ = true then p_ else orP T_ p_)) (bI true) (nI (T_.getD p_ 0)) (nI (if lnG true T_ (p_ + 0) = true then T_.getD (p_ + 0) 0 - 97 else 0)) (nI (if lnG true T_ (p_ + 0) = true then T_.getD (p_ + 0) 0 - 97 else 0)) fo nu al z be ke te ti ne wa ta out pl lo sh le) H := (congrArg (fun x_ => va_P D vwCl (WM ca q th st ik (nI T_.length) ou x_ (bI true) (nI (T_.getD p_ 0)) (nI (if lnG true T_ (p_ + 0) = true then T_.getD (p_ + 0) 0 - 97 else 0)) (nI (if lnG true T_ (p_ + 0) = true then T_.getD (p_ + 0) 0 - 97 else 0)) fo nu al z be ke te ti ne wa ta out pl lo sh le) H) ew_).mp hP
      have hD : va_D A (WM ca q th st ik (nI T_.length) ou (nI (if w_ = true then p_ else orP T_ p_)) (bI true) (nI (T_.getD p_ 0)) (nI (if lnG true T_ (p_ + 0) = true then T_.getD (p_ + 0) 0 - 97 else 0)) (nI (if lnG true T_ (p_ + 0) = true then T_.getD (p_ + 0) 0 - 97 else 0)) fo nu al z be ke te ti ne wa ta out pl lo sh le) := (congrArg (fun x_ => va_D A (WM ca q th st ik (nI T_.length) ou x_ (bI true) (nI (T_.getD p_ 0)) (nI (if lnG true T_ (p_ + 0) = true then T_.getD (p_ + 0) 0 - 97 else 0)) (nI (if lnG true T_ (p_ + 0) = true then T_.getD (p_ + 0) 0 - 97 else 0)) fo nu al z be ke te ti ne wa ta out pl lo sh le)) ew_).mp hD
      clear ew_
      have ew_ : bI true = bI (w_ || !orB T_ p_) := congrArg bI (by rw [c_30]; rfl)
      have hP : va_P D vwCl (WM ca q th st ik (nI T_.length) ou (nI (if w_ = true then p_ else orP T_ p_)) (bI (w_ || !orB T_ p_)) (nI (T_.getD p_ 0)) (nI (if lnG true T_ (p_ + 0) = true then T_.getD (p_ + 0) 0 - 97 else 0)) (nI (if lnG true T_ (p_ + 0) = true then T_.getD (p_ + 0) 0 - 97 else 0)) fo nu al z be ke te ti ne wa ta out pl lo sh le) H := (congrArg (fun x_ => va_P D vwCl (WM ca q th st ik (nI T_.length) ou (nI (if w_ = true then p_ else orP T_ p_)) x_ (nI (T_.getD p_ 0)) (nI (if lnG true T_ (p_ + 0) = true then T_.getD (p_ + 0) 0 - 97 else 0)) (nI (if lnG true T_ (p_ + 0) = true then T_.getD (p_ + 0) 0 - 97 else 0)) fo nu al z be ke te ti ne wa ta out pl lo sh le) H) ew_).mp hP
      have hD : va_D A (WM ca q th st ik (nI T_.length) ou (nI (if w_ = true then p_ else orP T_ p_)) (bI (w_ || !orB T_ p_)) (nI (T_.getD p_ 0)) (nI (if lnG true T_ (p_ + 0) = true then T_.getD (p_ + 0) 0 - 97 else 0)) (nI (if lnG true T_ (p_ + 0) = true then T_.getD (p_ + 0) 0 - 97 else 0)) fo nu al z be ke te ti ne wa ta out pl lo sh le) := (congrArg (fun x_ => va_D A (WM ca q th st ik (nI T_.length) ou (nI (if w_ = true then p_ else orP T_ p_)) x_ (nI (T_.getD p_ 0)) (nI (if lnG true T_ (p_ + 0) = true then T_.getD (p_ + 0) 0 - 97 else 0)) (nI (if lnG true T_ (p_ + 0) = true then T_.getD (p_ + 0) 0 - 97 else 0)) fo nu al z be ke te ti ne wa ta out pl lo sh le)) ew_).mp hD
      clear ew_
      subst hQQ
      exact xe_v (nI (if lnG true T_ (p_ + 0) = true then T_.getD (p_ + 0) 0 - 97 else 0), nI (if lnG true T_ (p_ + 0) = true then T_.getD (p_ + 0) 0 - 97 else 0)) hx hb hr hlocks hK hP hD hS (fun h_ => by rw [c_30] at h_; cases h_) dX3_order_161
    · skip
      refine lv_iload_n hx hb dX3_order_33 rfl (lv_at hl 0 rfl) ?_
      refine nv_if_ne (tgt := 77) hx hb dX3_order_34 (by decide) (by omega) (fun c_34 => ?_) (fun c_34 => absurd c_34 (by decide))
      refine lv_iconst (v := nI 0) hx hb dX3_order_77 (by decide) ?_
      refine pWM_0_isWrong_X3 hx hb hts hown hK hP hD hS rfl rfl dX3_order_78 (fun H locs hP hD hS => ?_)
      refine lv_aload_n hx hb dX3_order_81 rfl (lv_at hl 1 rfl) ?_
      refine lv_dup hx hb dX3_order_82 rfl ?_
      refine gWM_0_at_X3 hx hb hts hown hK hP dX3_order_83 ?_
      refine lv_aload_n hx hb dX3_order_86 rfl (lv_at hl 1 rfl) ?_
      refine gWM_0_isWrong_X3 hx hb hts hown hK hP dX3_order_87 ?_
      refine nv_if_eq (tgt := 97) hx hb dX3_order_90 (by decide) (by omega) (fun c_90 => ?_) (fun c_90 => absurd c_90 (by decide))
      refine lv_iconst (v := nI 1) hx hb dX3_order_97 (by decide) ?_
      refine nv_iadd hx hb dX3_order_98 ?_
      refine pWM_0_at_X3 hx hb hts hown hK hP hD hS dX3_order_99 (fun H locs hP hD hS => ?_)
      refine lv_iload_n hx hb dX3_order_102 rfl (lv_at hl 0 rfl) ?_
      refine nv_if_ne (tgt := 124) hx hb dX3_order_103 (by decide) (by omega) (fun c_103 => ?_) (fun c_103 => absurd c_103 (by decide))
      refine lv_aload_n hx hb dX3_order_124 rfl (lv_at hl 1 rfl) ?_
      refine lv_aload_n hx hb dX3_order_125 rfl (lv_at hl 1 rfl) ?_
      have ew_ : nI 0 = bI false := rfl
      have hP : va_P D vwCl (WM ca q th st ik (nI T_.length) ou (nI (p_ + 1)) (bI false) (nI (T_.getD p_ 0)) na nb fo nu al z be ke te ti ne wa ta out pl lo sh le) H := (congrArg (fun x_ => va_P D vwCl (WM ca q th st ik (nI T_.length) ou (nI (p_ + 1)) x_ (nI (T_.getD p_ 0)) na nb fo nu al z be ke te ti ne wa ta out pl lo sh le) H) ew_).mp hP
      have hD : va_D A (WM ca q th st ik (nI T_.length) ou (nI (p_ + 1)) (bI false) (nI (T_.getD p_ 0)) na nb fo nu al z be ke te ti ne wa ta out pl lo sh le) := (congrArg (fun x_ => va_D A (WM ca q th st ik (nI T_.length) ou (nI (p_ + 1)) x_ (nI (T_.getD p_ 0)) na nb fo nu al z be ke te ti ne wa ta out pl lo sh le)) ew_).mp hD
      clear ew_
      refine xc_i (xr_V (b := q 0) (ci := 2) (q0 := 0) (As := []) (rest := [.ref (q 0)]) (mt_X3_lineHere l D ca q th st ik ou (nI (T_.getD p_ 0)) na nb fo nu al z be ke te ti ne wa ta out pl lo sh le T_ (p_ + 1) false hTe hTx (by (repeat' split) <;> omega) H.size) ⟨hx, hb, hml, hown, hts⟩ (cwV 0 hts (lw_V q1890 q1892 qs73 q87 q1893) rfl rfl rfl (by decide +kernel) ⟨Nat.le_of_ble_eq_true rfl, Nat.le_of_ble_eq_true rfl⟩) Ev0_ok hE hK hS (Cut.all hP hD hS hA) rfl rfl rfl hl.1 rfl (Nat.le_of_ble_eq_true rfl) dX3_order_126 ⟨Nat.le_of_ble_eq_true rfl, Nat.le_of_ble_eq_true rfl⟩) hS (Cut.all hP hD hS hA) (fun r_31 u_32 H locs hq_126 hP hD hS => ?_)
      have hP : va_P D vwCl (WM ca q th st ik (nI T_.length) ou (nI (if lnG false T_ (p_ + 1) = true then (p_ + 1) + 1 else (p_ + 1))) (bI (!lnG false T_ (p_ + 1))) (nI (T_.getD p_ 0)) na nb fo nu al z be ke te ti ne wa ta out pl lo sh le) H := hP
      have hD : va_D A (WM ca q th st ik (nI T_.length) ou (nI (if lnG false T_ (p_ + 1) = true then (p_ + 1) + 1 else (p_ + 1))) (bI (!lnG false T_ (p_ + 1))) (nI (T_.getD p_ 0)) na nb fo nu al z be ke te ti ne wa ta out pl lo sh le) := hD
      have hp_126 : r_31 = nI (if lnG false T_ (p_ + 1) = true then T_.getD (p_ + 1) 0 - 97 else 0) := hq_126
      clear hq_126
      obtain rfl := hp_126
      refine pWM_0_one_X3 hx hb hts hown hK hP hD hS dX3_order_129 (fun H locs hP hD hS => ?_)
      refine lv_iload_n hx hb dX3_order_132 rfl (lv_at hl 0 rfl) ?_
      refine nv_if_eq (tgt := 144) hx hb dX3_order_133 (by decide) (by omega) (fun c_133 => absurd c_133 (by decide)) (fun c_133 => ?_)
      refine lv_aload_n hx hb dX3_order_136 rfl (lv_at hl 1 rfl) ?_
      refine lv_aload_n hx hb dX3_order_137 rfl (lv_at hl 1 rfl) ?_
      refine xc_i (xr_V (b := q 0) (ci := 2) (q0 := 0) (As := []) (rest := [.ref (q 0)]) (mt_X3_lineHere l D ca q th st ik ou (nI (T_.getD p_ 0)) (nI (if lnG false T_ (p_ + 1) = true then T_.getD (p_ + 1) 0 - 97 else 0)) nb fo nu al z be ke te ti ne wa ta out pl lo sh le T_ (if lnG false T_ (p_ + 1) = true then (p_ + 1) + 1 else (p_ + 1)) (!lnG false T_ (p_ + 1)) hTe hTx (by (repeat' split) <;> omega) H.size) ⟨hx, hb, hml, hown, hts⟩ (cwV 0 hts (lw_V q1890 q1892 qs73 q87 q1893) rfl rfl rfl (by decide +kernel) ⟨Nat.le_of_ble_eq_true rfl, Nat.le_of_ble_eq_true rfl⟩) Ev0_ok hE hK hS (Cut.all hP hD hS hA) rfl rfl rfl hl.1 rfl (Nat.le_of_ble_eq_true rfl) dX3_order_138 ⟨Nat.le_of_ble_eq_true rfl, Nat.le_of_ble_eq_true rfl⟩) hS (Cut.all hP hD hS hA) (fun r_33 u_34 H locs hq_138 hP hD hS => ?_)
      have hP : va_P D vwCl (WM ca q th st ik (nI T_.length) ou (nI (if lnG (!lnG false T_ (p_ + 1)) T_ (if lnG false T_ (p_ + 1) = true then (p_ + 1) + 1 else (p_ + 1)) = true then (if lnG false T_ (p_ + 1) = true then (p_ + 1) + 1 else (p_ + 1)) + 1 else (if lnG false T_ (p_ + 1) = true then (p_ + 1) + 1 else (p_ + 1)))) (bI (!lnG (!lnG false T_ (p_ + 1)) T_ (if lnG false T_ (p_ + 1) = true then (p_ + 1) + 1 else (p_ + 1)))) (nI (T_.getD p_ 0)) (nI (if lnG false T_ (p_ + 1) = true then T_.getD (p_ + 1) 0 - 97 else 0)) nb fo nu al z be ke te ti ne wa ta out pl lo sh le) H := hP
      have hD : va_D A (WM ca q th st ik (nI T_.length) ou (nI (if lnG (!lnG false T_ (p_ + 1)) T_ (if lnG false T_ (p_ + 1) = true then (p_ + 1) + 1 else (p_ + 1)) = true then (if lnG false T_ (p_ + 1) = true then (p_ + 1) + 1 else (p_ + 1)) + 1 else (if lnG false T_ (p_ + 1) = true then (p_ + 1) + 1 else (p_ + 1)))) (bI (!lnG (!lnG false T_ (p_ + 1)) T_ (if lnG false T_ (p_ + 1) = true then (p_ + 1) + 1 else (p_ + 1)))) (nI (T_.getD p_ 0)) (nI (if lnG false T_ (p_ + 1) = true then T_.getD (p_ + 1) 0 - 97 else 0)) nb fo nu al z be ke te ti ne wa ta out pl lo sh le) := hD
      have hp_138 : r_33 = nI (if lnG (!lnG false T_ (p_ + 1)) T_ (if lnG false T_ (p_ + 1) = true then (p_ + 1) + 1 else (p_ + 1)) = true then T_.getD (if lnG false T_ (p_ + 1) = true then (p_ + 1) + 1 else (p_ + 1)) 0 - 97 else 0) := hq_138
      clear hq_138
      obtain rfl := hp_138
      refine pWM_0_two_X3 hx hb hts hown hK hP hD hS dX3_order_141 (fun H locs hP hD hS => ?_)
      refine lv_aload_n hx hb dX3_order_144 rfl (lv_at hl 1 rfl) ?_
      refine gWM_0_sort_X3 hx hb hts hown hK hP dX3_order_145 ?_
      refine lv_bipush (v := nI 63) hx hb dX3_order_148 (by decide) ?_
      refine nv_icmp_ne (tgt := 161) hx hb dX3_order_150 (by decide) (by have := hTx.2 p_; omega) (by omega) (fun c_150 => ?_) (fun c_150 => absurd c_150 (kf_sg c_16).2.2.1)
      have ew_ : nI (if lnG (!lnG false T_ (p_ + 1)) T_ (if lnG false T_ (p_ + 1) = true then (p_ + 1) + 1 else (p_ + 1)) = true then (if lnG false T_ (p_ + 1) = true then (p_ + 1) + 1 else (p_ + 1)) + 1 else (if lnG false T_ (p_ + 1) = true then (p_ + 1) + 1 else (p_ + 1))) = nI (if w_ = true then p_ else orP T_ p_) := congrArg nI (or_kP c_30 c_16)
      have hP : va_P D vwCl (WM ca q th st ik (nI T_.length) ou (nI (if w_ = true then p_ else orP T_ p_)) (bI (!lnG (!lnG false T_ (p_ + 1)) T_ (if lnG false T_ (p_ + 1) = true then (p_ + 1) + 1 else (p_ + 1)))) (nI (T_.getD p_ 0)) (nI (if lnG false T_ (p_ + 1) = true then T_.getD (p_ + 1) 0 - 97 else 0)) (nI (if lnG (!lnG false T_ (p_ + 1)) T_ (if lnG false T_ (p_ + 1) = true then (p_ + 1) + 1 else (p_ + 1)) = true then T_.getD (if lnG false T_ (p_ + 1) = true then (p_ + 1) + 1 else (p_ + 1)) 0 - 97 else 0)) fo nu al z be ke te ti ne wa ta out pl lo sh le) H := (congrArg (fun x_ => va_P D vwCl (WM ca q th st ik (nI T_.length) ou x_ (bI (!lnG (!lnG false T_ (p_ + 1)) T_ (if lnG false T_ (p_ + 1) = true then (p_ + 1) + 1 else (p_ + 1)))) (nI (T_.getD p_ 0)) (nI (if lnG false T_ (p_ + 1) = true then T_.getD (p_ + 1) 0 - 97 else 0)) (nI (if lnG (!lnG false T_ (p_ + 1)) T_ (if lnG false T_ (p_ + 1) = true then (p_ + 1) + 1 else (p_ + 1)) = true then T_.getD (if lnG false T_ (p_ + 1) = true then (p_ + 1) + 1 else (p_ + 1)) 0 - 97 else 0)) fo nu al z be ke te ti ne wa ta out pl lo sh le) H) ew_).mp hP
      have hD : va_D A (WM ca q th st ik (nI T_.length) ou (nI (if w_ = true then p_ else orP T_ p_)) (bI (!lnG (!lnG false T_ (p_ + 1)) T_ (if lnG false T_ (p_ + 1) = true then (p_ + 1) + 1 else (p_ + 1)))) (nI (T_.getD p_ 0)) (nI (if lnG false T_ (p_ + 1) = true then T_.getD (p_ + 1) 0 - 97 else 0)) (nI (if lnG (!lnG false T_ (p_ + 1)) T_ (if lnG false T_ (p_ + 1) = true then (p_ + 1) + 1 else (p_ + 1)) = true then T_.getD (if lnG false T_ (p_ + 1) = true then (p_ + 1) + 1 else (p_ + 1)) 0 - 97 else 0)) fo nu al z be ke te ti ne wa ta out pl lo sh le) := (congrArg (fun x_ => va_D A (WM ca q th st ik (nI T_.length) ou x_ (bI (!lnG (!lnG false T_ (p_ + 1)) T_ (if lnG false T_ (p_ + 1) = true then (p_ + 1) + 1 else (p_ + 1)))) (nI (T_.getD p_ 0)) (nI (if lnG false T_ (p_ + 1) = true then T_.getD (p_ + 1) 0 - 97 else 0)) (nI (if lnG (!lnG false T_ (p_ + 1)) T_ (if lnG false T_ (p_ + 1) = true then (p_ + 1) + 1 else (p_ + 1)) = true then T_.getD (if lnG false T_ (p_ + 1) = true then (p_ + 1) + 1 else (p_ + 1)) 0 - 97 else 0)) fo nu al z be ke te ti ne wa ta out pl lo sh le)) ew_).mp hD
      clear ew_
      have ew_ : bI (!lnG (!lnG false T_ (p_ + 1)) T_ (if lnG false T_ (p_ + 1) = true then (p_ + 1) + 1 else (p_ + 1))) = bI (w_ || !orB T_ p_) := congrArg bI (or_kB c_30 c_16)
      have hP : va_P D vwCl (WM ca q th st ik (nI T_.length) ou (nI (if w_ = true then p_ else orP T_ p_)) (bI (w_ || !orB T_ p_)) (nI (T_.getD p_ 0)) (nI (if lnG false T_ (p_ + 1) = true then T_.getD (p_ + 1) 0 - 97 else 0)) (nI (if lnG (!lnG false T_ (p_ + 1)) T_ (if lnG false T_ (p_ + 1) = true then (p_ + 1) + 1 else (p_ + 1)) = true then T_.getD (if lnG false T_ (p_ + 1) = true then (p_ + 1) + 1 else (p_ + 1)) 0 - 97 else 0)) fo nu al z be ke te ti ne wa ta out pl lo sh le) H := (congrArg (fun x_ => va_P D vwCl (WM ca q th st ik (nI T_.length) ou (nI (if w_ = true then p_ else orP T_ p_)) x_ (nI (T_.getD p_ 0)) (nI (if lnG false T_ (p_ + 1) = true then T_.getD (p_ + 1) 0 - 97 else 0)) (nI (if lnG (!lnG false T_ (p_ + 1)) T_ (if lnG false T_ (p_ + 1) = true then (p_ + 1) + 1 else (p_ + 1)) = true then T_.getD (if lnG false T_ (p_ + 1) = true then (p_ + 1) + 1 else (p_ + 1)) 0 - 97 else 0)) fo nu al z be ke te ti ne wa ta out pl lo sh le) H) ew_).mp hP
      have hD : va_D A (WM ca q th st ik (nI T_.length) ou (nI (if w_ = true then p_ else orP T_ p_)) (bI (w_ || !orB T_ p_)) (nI (T_.getD p_ 0)) (nI (if lnG false T_ (p_ + 1) = true then T_.getD (p_ + 1) 0 - 97 else 0)) (nI (if lnG (!lnG false T_ (p_ + 1)) T_ (if lnG false T_ (p_ + 1) = true then (p_ + 1) + 1 else (p_ + 1)) = true then T_.getD (if lnG false T_ (p_ + 1) = true then (p_ + 1) + 1 else (p_ + 1)) 0 - 97 else 0)) fo nu al z be ke te ti ne wa ta out pl lo sh le) := (congrArg (fun x_ => va_D A (WM ca q th st ik (nI T_.length) ou (nI (if w_ = true then p_ else orP T_ p_)) x_ (nI (T_.getD p_ 0)) (nI (if lnG false T_ (p_ + 1) = true then T_.getD (p_ + 1) 0 - 97 else 0)) (nI (if lnG (!lnG false T_ (p_ + 1)) T_ (if lnG false T_ (p_ + 1) = true then (p_ + 1) + 1 else (p_ + 1)) = true then T_.getD (if lnG false T_ (p_ + 1) = true then (p_ + 1) + 1 else (p_ + 1)) 0 - 97 else 0)) fo nu al z be ke te ti ne wa ta out pl lo sh le)) ew_).mp hD
      clear ew_
      subst hQQ
      exact xe_v (nI (if lnG false T_ (p_ + 1) = true then T_.getD (p_ + 1) 0 - 97 else 0), nI (if lnG (!lnG false T_ (p_ + 1)) T_ (if lnG false T_ (p_ + 1) = true then (p_ + 1) + 1 else (p_ + 1)) = true then T_.getD (if lnG false T_ (p_ + 1) = true then (p_ + 1) + 1 else (p_ + 1)) 0 - 97 else 0)) hx hb hr hlocks hK hP hD hS (fun h_ => or_kO c_30 c_16 h_) dX3_order_161
set_option maxHeartbeats 8000000 in
set_option maxRecDepth 100000 in
theorem mt_X3_parse (l : Launch) (D : va_G) (ca : Nat → ClassId) (q : Nat → Nat) (th : Int32) (st : Int32) (ik : Int32) (ou : Int32) (pa : Int32) (iw : Int32) (so : Int32) (na : Int32) (nb : Int32) (fo : Int32) (nu : Int32) (al : Int32) (z : Nat → Int32) (be : Nat → Int32) (ke : Nat → Int32) (te : Nat → Int32) (ti : Nat → Int32) (ne : Nat → Int32) (wa : Nat → Int32) (ta : Nat → Int64) (out : Nat → Int64) (pl : Nat → Int64) (lo : Nat → Int64) (sh : Nat → Int64) (le : Nat → Int64) (T_ : List Nat) (hTe : TeOk T_ te) (hTx : TxOk T_) (nn : Nat) : Met l yX3_parse (ws_ yX3_parse cX3_parse 1 (Option.none : Option Jvm.ClassFile.FieldType)) ({ frames := 3, cells := 0, slots := 0, locals := 64 } : Room) (va_Pc [.ref (q 0)] (PreW Ev0 D vwCl (TY ca) (WM ca q th st ik (nI T_.length) ou pa iw so na nb fo nu al z be ke te ti ne wa ta out pl lo sh le) nn)) (va_Qv (fun (u_ : Int32 × Int32 × Int32) => True) (PostW D vwCl (TY ca) (fun (u_ : Int32 × Int32 × Int32) => (WM ca q th st ik (nI T_.length) ou (nI (prsP T_ (T_.length + 1) 0)) (bI (!prsB T_ (T_.length + 1) 0)) u_.1 u_.2.1 u_.2.2 fo nu al z be ke te ti ne wa ta out pl lo sh le)) (va_A (WM ca q th st ik (nI T_.length) ou pa iw so na nb fo nu al z be ke te ti ne wa ta out pl lo sh le) nn)) (va_A (WM ca q th st ik (nI T_.length) ou pa iw so na nb fo nu al z be ke te ti ne wa ta out pl lo sh le) nn)) 0 0 (va_A (WM ca q th st ik (nI T_.length) ou pa iw so na nb fo nu al z be ke te ti ne wa ta out pl lo sh le) nn) := by
  refine met_go (QA := fun A => va_Qv (fun (u_ : Int32 × Int32 × Int32) => True) (PostW D vwCl (TY ca) (fun (u_ : Int32 × Int32 × Int32) => (WM ca q th st ik (nI T_.length) ou (nI (prsP T_ (T_.length + 1) 0)) (bI (!prsB T_ (T_.length + 1) 0)) u_.1 u_.2.1 u_.2.2 fo nu al z be ke te ti ne wa ta out pl lo sh le)) A) A) (by decide) (Nat.le_of_ble_eq_true rfl) (fun p e s m below meth c A ls QQ hQQ hx hb hr hts hown hlocks hml hA hP hK hD hE hl => ?_)
  have hown : s.vm.findClass RX3 = some m.cls := hown
  have hS : va_S A s.heap s.heap [] := va_S.rf
  have hl : lv_has ls 1 [(0, .ref (q 0))] := hl
  generalize hHe : s.heap = H at hP ⊢
  have hS : va_S A s.heap H [] := hHe ▸ hS
  generalize ([] : List Loc) = locs at hS ⊢
  refine lv_aload_n hx hb dX3_parse_0 rfl (lv_at hl 0 rfl) ?_
  refine lv_iconst (v := nI 0) hx hb dX3_parse_1 (by decide) ?_
  refine pWM_0_at_X3 hx hb hts hown hK hP hD hS dX3_parse_2 (fun H locs hP hD hS => ?_)
  refine lv_aload_n hx hb dX3_parse_5 rfl (lv_at hl 0 rfl) ?_
  refine lv_iconst (v := nI 0) hx hb dX3_parse_6 (by decide) ?_
  refine pWM_0_isWrong_X3 hx hb hts hown hK hP hD hS rfl rfl dX3_parse_7 (fun H locs hP hD hS => ?_)
  refine lv_aload_n hx hb dX3_parse_10 rfl (lv_at hl 0 rfl) ?_
  have ew_ : nI 0 = bI false := rfl
  have hP : va_P D vwCl (WM ca q th st ik (nI T_.length) ou (nI 0) (bI false) so na nb fo nu al z be ke te ti ne wa ta out pl lo sh le) H := (congrArg (fun x_ => va_P D vwCl (WM ca q th st ik (nI T_.length) ou (nI 0) x_ so na nb fo nu al z be ke te ti ne wa ta out pl lo sh le) H) ew_).mp hP
  have hD : va_D A (WM ca q th st ik (nI T_.length) ou (nI 0) (bI false) so na nb fo nu al z be ke te ti ne wa ta out pl lo sh le) := (congrArg (fun x_ => va_D A (WM ca q th st ik (nI T_.length) ou (nI 0) x_ so na nb fo nu al z be ke te ti ne wa ta out pl lo sh le)) ew_).mp hD
  clear ew_
  refine xc_v (xr_V (b := q 0) (ci := 2) (q0 := 0) (As := []) (rest := []) (mt_X3_order l D ca q th st ik ou so na nb fo nu al z be ke te ti ne wa ta out pl lo sh le T_ 0 false hTe hTx (by omega) H.size) ⟨hx, hb, hml, hown, hts⟩ (cwV 0 hts (lw_V q1879 q1881 qs71 q87 q1882) rfl rfl rfl (by decide +kernel) ⟨Nat.le_of_ble_eq_true rfl, Nat.le_of_ble_eq_true rfl⟩) Ev0_ok hE hK hS (Cut.all hP hD hS hA) rfl rfl rfl hl.1 rfl (Nat.le_of_ble_eq_true rfl) dX3_parse_11 ⟨Nat.le_of_ble_eq_true rfl, Nat.le_of_ble_eq_true rfl⟩) hS (Cut.all hP hD hS hA) (fun u_2 H locs hq_11 hP hD hS => ?_)
  obtain ⟨na1_3, nb1_4⟩ := u_2
  have hP : va_P D vwCl (WM ca q th st ik (nI T_.length) ou (nI (if false = true then 0 else orP T_ 0)) (bI (false || !orB T_ 0)) (nI (T_.getD 0 0)) na1_3 nb1_4 fo nu al z be ke te ti ne wa ta out pl lo sh le) H := hP
  have hD : va_D A (WM ca q th st ik (nI T_.length) ou (nI (if false = true then 0 else orP T_ 0)) (bI (false || !orB T_ 0)) (nI (T_.getD 0 0)) na1_3 nb1_4 fo nu al z be ke te ti ne wa ta out pl lo sh le) := hD
  have hp_11 : (false || !orB T_ 0) = false → ((T_.getD 0 0 = 37 ∨ na1_3 = nI (orO T_ 0).2.1) ∧ (kf (T_.getD 0 0) = 0 ∨ nb1_4 = nI (orO T_ 0).2.2)) := hq_11
  clear hq_11
  have lp_14 : ∀ (fu_14 : Nat) (b_ : Bool) (q_ : Nat) (f_ : Nat) (so_ : Int32) (na_ : Int32) (nb_ : Int32), 2 * (T_.length - q_) + b_.toNat < fu_14 → (q_ ≤ 70) → (T_.length ≤ q_ + f_) → (prsB T_ (T_.length + 1) 0 = (b_ && (decide (T_.length ≤ q_) || (decide (T_.getD q_ 0 = 44) && prsB T_ f_ (q_ + 1))))) → (prsP T_ (T_.length + 1) 0 = (if b_ = true then (if T_.length ≤ q_ then q_ else if T_.getD q_ 0 = 44 then prsP T_ f_ (q_ + 1) else q_) else q_)) → ∀ (H : Heap) (locs : List Loc), va_P D vwCl (WM ca q th st ik (nI T_.length) ou (nI q_) (bI (!b_)) so_ na_ nb_ fo nu al z be ke te ti ne wa ta out pl lo sh le) H → va_D A (WM ca q th st ik (nI T_.length) ou (nI q_) (bI (!b_)) so_ na_ nb_ fo nu al z be ke te ti ne wa ta out pl lo sh le) → va_S A s.heap H locs → ∀ (ls : Array Slot), lv_has ls 1 [(0, .ref (q 0))] → W p l e ({ frames := 3, cells := 0, slots := 0, locals := 64 } : Room) s m ([.ref (q 0)] : List Value).toArray below meth c H locs 0 0 QQ (F0 m 14 ls []) := by
    intro fu_14
    induction fu_14 with
    | zero => intro b_ q_ f_ so_ na_ nb_ hfu; exact absurd hfu (Nat.not_lt_zero _)
    | succ fu_14 ih_14 =>
      intro b_ q_ f_ so_ na_ nb_ hfu hq hf hPB hPP H locs hP hD hS ls hl
      refine lv_aload_n hx hb dX3_parse_14 rfl (lv_at hl 0 rfl) ?_
      refine gWM_0_isWrong_X3 hx hb hts hown hK hP dX3_parse_15 ?_
      refine nv_ifb_ne (tgt := 78) hx hb dX3_parse_18 (by decide) (fun c_18 => ?_) (fun c_18 => ?_)
      · skip
        have hb_ : b_ = false := by cases b_; rfl; exact absurd c_18 (by decide)
        have ew_ : nI q_ = nI (prsP T_ (T_.length + 1) 0) := congrArg nI (by rw [hPP]; first | (rw [if_neg (by rw [hb_]; decide)]; done) | (rw [if_pos hb_, if_pos c_29]))
        have hP : va_P D vwCl (WM ca q th st ik (nI T_.length) ou (nI (prsP T_ (T_.length + 1) 0)) (bI (!b_)) so_ na_ nb_ fo nu al z be ke te ti ne wa ta out pl lo sh le) H := (congrArg (fun x_ => va_P D vwCl (WM ca q th st ik (nI T_.length) ou x_ (bI (!b_)) so_ na_ nb_ fo nu al z be ke te ti ne wa ta out pl lo sh le) H) ew_).mp hP
        have hD : va_D A (WM ca q th st ik (nI T_.length) ou (nI (prsP T_ (T_.length + 1) 0)) (bI (!b_)) so_ na_ nb_ fo nu al z be ke te ti ne wa ta out pl lo sh le) := (congrArg (fun x_ => va_D A (WM ca q th st ik (nI T_.length) ou x_ (bI (!b_)) so_ na_ nb_ fo nu al z be ke te ti ne wa ta out pl lo sh le)) ew_).mp hD
        clear ew_
        have ew_ : bI (!b_) = bI (!prsB T_ (T_.length + 1) 0) := congrArg bI (by rw [hPB]; first | (rw [hb_]; rfl) | (rw [hb_, decide_eq_true c_29]; rfl))
        have hP : va_P D vwCl (WM ca q th st ik (nI T_.length) ou (nI (prsP T_ (T_.length + 1) 0)) (bI (!prsB T_ (T_.length + 1) 0)) so_ na_ nb_ fo nu al z be ke te ti ne wa ta out pl lo sh le) H := (congrArg (fun x_ => va_P D vwCl (WM ca q th st ik (nI T_.length) ou (nI (prsP T_ (T_.length + 1) 0)) x_ so_ na_ nb_ fo nu al z be ke te ti ne wa ta out pl lo sh le) H) ew_).mp hP
        have hD : va_D A (WM ca q th st ik (nI T_.length) ou (nI (prsP T_ (T_.length + 1) 0)) (bI (!prsB T_ (T_.length + 1) 0)) so_ na_ nb_ fo nu al z be ke te ti ne wa ta out pl lo sh le) := (congrArg (fun x_ => va_D A (WM ca q th st ik (nI T_.length) ou (nI (prsP T_ (T_.length + 1) 0)) x_ so_ na_ nb_ fo nu al z be ke te ti ne wa ta out pl lo sh le)) ew_).mp hD
        clear ew_
        subst hQQ
        exact xe_v (so_, na_, nb_) hx hb hr hlocks hK hP hD hS (trivial) dX3_parse_78
      · skip
        have hb_ : b_ = true := by cases b_; exact absurd c_18 (by decide); rfl
        refine lv_aload_n hx hb dX3_parse_21 rfl (lv_at hl 0 rfl) ?_
        refine gWM_0_at_X3 hx hb hts hown hK hP dX3_parse_22 ?_
        refine lv_aload_n hx hb dX3_parse_25 rfl (lv_at hl 0 rfl) ?_
        refine gWM_0_length_X3 hx hb hts hown hK hP dX3_parse_26 ?_
        refine nv_icmp_ge (tgt := 78) hx hb dX3_parse_29 (by decide) (by omega) (by have := hTx.1; omega) (fun c_29 => ?_) (fun c_29 => ?_)
        · skip
          have ew_ : nI q_ = nI (prsP T_ (T_.length + 1) 0) := congrArg nI (by rw [hPP]; first | (rw [if_neg (by rw [hb_]; decide)]; done) | (rw [if_pos hb_, if_pos c_29]))
          have hP : va_P D vwCl (WM ca q th st ik (nI T_.length) ou (nI (prsP T_ (T_.length + 1) 0)) (bI (!b_)) so_ na_ nb_ fo nu al z be ke te ti ne wa ta out pl lo sh le) H := (congrArg (fun x_ => va_P D vwCl (WM ca q th st ik (nI T_.length) ou x_ (bI (!b_)) so_ na_ nb_ fo nu al z be ke te ti ne wa ta out pl lo sh le) H) ew_).mp hP
          have hD : va_D A (WM ca q th st ik (nI T_.length) ou (nI (prsP T_ (T_.length + 1) 0)) (bI (!b_)) so_ na_ nb_ fo nu al z be ke te ti ne wa ta out pl lo sh le) := (congrArg (fun x_ => va_D A (WM ca q th st ik (nI T_.length) ou x_ (bI (!b_)) so_ na_ nb_ fo nu al z be ke te ti ne wa ta out pl lo sh le)) ew_).mp hD
          clear ew_
          have ew_ : bI (!b_) = bI (!prsB T_ (T_.length + 1) 0) := congrArg bI (by rw [hPB]; first | (rw [hb_]; rfl) | (rw [hb_, decide_eq_true c_29]; rfl))
          have hP : va_P D vwCl (WM ca q th st ik (nI T_.length) ou (nI (prsP T_ (T_.length + 1) 0)) (bI (!prsB T_ (T_.length + 1) 0)) so_ na_ nb_ fo nu al z be ke te ti ne wa ta out pl lo sh le) H := (congrArg (fun x_ => va_P D vwCl (WM ca q th st ik (nI T_.length) ou (nI (prsP T_ (T_.length + 1) 0)) x_ so_ na_ nb_ fo nu al z be ke te ti ne wa ta out pl lo sh le) H) ew_).mp hP
          have hD : va_D A (WM ca q th st ik (nI T_.length) ou (nI (prsP T_ (T_.length + 1) 0)) (bI (!prsB T_ (T_.length + 1) 0)) so_ na_ nb_ fo nu al z be ke te ti ne wa ta out pl lo sh le) := (congrArg (fun x_ => va_D A (WM ca q th st ik (nI T_.length) ou (nI (prsP T_ (T_.length + 1) 0)) x_ so_ na_ nb_ fo nu al z be ke te ti ne wa ta out pl lo sh le)) ew_).mp hD
          clear ew_
          subst hQQ
          exact xe_v (so_, na_, nb_) hx hb hr hlocks hK hP hD hS (trivial) dX3_parse_78
        · skip
          refine lv_aload_n hx hb dX3_parse_32 rfl (lv_at hl 0 rfl) ?_
          refine lv_aload_n hx hb dX3_parse_33 rfl (lv_at hl 0 rfl) ?_
          refine xc_i (xr_V (b := q 0) (ci := 2) (q0 := 0) (As := []) (rest := [.ref (q 0)]) (mt_X3_here l D ca q th st ik ou (bI (!b_)) so_ na_ nb_ fo nu al z be ke te ti ne wa ta out pl lo sh le T_ q_ hTe hTx (by omega) H.size) ⟨hx, hb, hml, hown, hts⟩ (cwV 0 hts (lw_V q1883 q1885 qs72 q87 q1886) rfl rfl rfl (by decide +kernel) ⟨Nat.le_of_ble_eq_true rfl, Nat.le_of_ble_eq_true rfl⟩) Ev0_ok hE hK hS (Cut.all hP hD hS hA) rfl rfl rfl hl.1 rfl (Nat.le_of_ble_eq_true rfl) dX3_parse_34 ⟨Nat.le_of_ble_eq_true rfl, Nat.le_of_ble_eq_true rfl⟩) hS (Cut.all hP hD hS hA) (fun r_7 u_8 H locs hq_34 hP hD hS => ?_)
          have hP : va_P D vwCl (WM ca q th st ik (nI T_.length) ou (nI q_) (bI (!b_)) so_ na_ nb_ fo nu al z be ke te ti ne wa ta out pl lo sh le) H := hP
          have hD : va_D A (WM ca q th st ik (nI T_.length) ou (nI q_) (bI (!b_)) so_ na_ nb_ fo nu al z be ke te ti ne wa ta out pl lo sh le) := hD
          have hp_34 : r_7 = nI (T_.getD q_ 0) := hq_34
          clear hq_34
          obtain rfl := hp_34
          refine lv_bipush (v := nI 44) hx hb dX3_parse_37 (by decide) ?_
          refine nv_icmp_eq (tgt := 46) hx hb dX3_parse_39 (by decide) (by have := hTx.2 q_; omega) (by omega) (fun c_39 => ?_) (fun c_39 => ?_)
          · skip
            refine lv_iconst (v := nI 0) hx hb dX3_parse_46 (by decide) ?_
            refine pWM_0_isWrong_X3 hx hb hts hown hK hP hD hS rfl rfl dX3_parse_47 (fun H locs hP hD hS => ?_)
            refine lv_aload_n hx hb dX3_parse_50 rfl (lv_at hl 0 rfl) ?_
            refine lv_dup hx hb dX3_parse_51 rfl ?_
            refine gWM_0_at_X3 hx hb hts hown hK hP dX3_parse_52 ?_
            refine lv_aload_n hx hb dX3_parse_55 rfl (lv_at hl 0 rfl) ?_
            refine gWM_0_isWrong_X3 hx hb hts hown hK hP dX3_parse_56 ?_
            refine nv_if_eq (tgt := 66) hx hb dX3_parse_59 (by decide) (by omega) (fun c_59 => ?_) (fun c_59 => absurd c_59 (by decide))
            refine lv_iconst (v := nI 1) hx hb dX3_parse_66 (by decide) ?_
            refine nv_iadd hx hb dX3_parse_67 ?_
            refine pWM_0_at_X3 hx hb hts hown hK hP hD hS dX3_parse_68 (fun H locs hP hD hS => ?_)
            refine lv_aload_n hx hb dX3_parse_71 rfl (lv_at hl 0 rfl) ?_
            have ew_ : nI 0 = bI false := rfl
            have hP : va_P D vwCl (WM ca q th st ik (nI T_.length) ou (nI (q_ + 1)) (bI false) so_ na_ nb_ fo nu al z be ke te ti ne wa ta out pl lo sh le) H := (congrArg (fun x_ => va_P D vwCl (WM ca q th st ik (nI T_.length) ou (nI (q_ + 1)) x_ so_ na_ nb_ fo nu al z be ke te ti ne wa ta out pl lo sh le) H) ew_).mp hP
            have hD : va_D A (WM ca q th st ik (nI T_.length) ou (nI (q_ + 1)) (bI false) so_ na_ nb_ fo nu al z be ke te ti ne wa ta out pl lo sh le) := (congrArg (fun x_ => va_D A (WM ca q th st ik (nI T_.length) ou (nI (q_ + 1)) x_ so_ na_ nb_ fo nu al z be ke te ti ne wa ta out pl lo sh le)) ew_).mp hD
            clear ew_
            refine xc_v (xr_V (b := q 0) (ci := 2) (q0 := 0) (As := []) (rest := []) (mt_X3_order l D ca q th st ik ou so_ na_ nb_ fo nu al z be ke te ti ne wa ta out pl lo sh le T_ (q_ + 1) false hTe hTx (by have := hTx.1; omega) H.size) ⟨hx, hb, hml, hown, hts⟩ (cwV 0 hts (lw_V q1879 q1881 qs71 q87 q1882) rfl rfl rfl (by decide +kernel) ⟨Nat.le_of_ble_eq_true rfl, Nat.le_of_ble_eq_true rfl⟩) Ev0_ok hE hK hS (Cut.all hP hD hS hA) rfl rfl rfl hl.1 rfl (Nat.le_of_ble_eq_true rfl) dX3_parse_72 ⟨Nat.le_of_ble_eq_true rfl, Nat.le_of_ble_eq_true rfl⟩) hS (Cut.all hP hD hS hA) (fun u_11 H locs hq_72 hP hD hS => ?_)
            obtain ⟨na1_12, nb1_13⟩ := u_11
            have hP : va_P D vwCl (WM ca q th st ik (nI T_.length) ou (nI (if false = true then (q_ + 1) else orP T_ (q_ + 1))) (bI (false || !orB T_ (q_ + 1))) (nI (T_.getD (q_ + 1) 0)) na1_12 nb1_13 fo nu al z be ke te ti ne wa ta out pl lo sh le) H := hP
            have hD : va_D A (WM ca q th st ik (nI T_.length) ou (nI (if false = true then (q_ + 1) else orP T_ (q_ + 1))) (bI (false || !orB T_ (q_ + 1))) (nI (T_.getD (q_ + 1) 0)) na1_12 nb1_13 fo nu al z be ke te ti ne wa ta out pl lo sh le) := hD
            have hp_72 : (false || !orB T_ (q_ + 1)) = false → ((T_.getD (q_ + 1) 0 = 37 ∨ na1_12 = nI (orO T_ (q_ + 1)).2.1) ∧ (kf (T_.getD (q_ + 1) 0) = 0 ∨ nb1_13 = nI (orO T_ (q_ + 1)).2.2)) := hq_72
            clear hq_72
            refine lv_goto (tgt := 14) hx hb dX3_parse_75 (by decide) ?_
            exact ih_14  (orB T_ (q_ + 1)) (orP T_ (q_ + 1)) (f_ - 1) (nI (T_.getD (q_ + 1) 0)) na1_12 nb1_13 (by have := orP_ge (T := T_) (p := q_ + 1); have := Bool.toNat_le (orB T_ (q_ + 1)); omega) (Nat.le_trans orP_le (by have := hTx.1; omega)) (by have := orP_ge (T := T_) (p := q_ + 1); omega) (by rw [hPB, hb_, c_39, decide_eq_false (by omega)]; cases f_ with | zero => omega | succ f_ => rfl) (by rw [hPP, if_pos hb_, if_neg (by omega), if_pos c_39]; cases f_ with | zero => omega | succ f_ => rfl) _ _ hP hD hS ls (lv_sub hl [0] rfl)
          · skip
            refine lv_iconst (v := nI 1) hx hb dX3_parse_42 (by decide) ?_
            refine lv_goto (tgt := 47) hx hb dX3_parse_43 (by decide) ?_
            refine pWM_0_isWrong_X3 hx hb hts hown hK hP hD hS rfl rfl dX3_parse_47 (fun H locs hP hD hS => ?_)
            refine lv_aload_n hx hb dX3_parse_50 rfl (lv_at hl 0 rfl) ?_
            refine lv_dup hx hb dX3_parse_51 rfl ?_
            refine gWM_0_at_X3 hx hb hts hown hK hP dX3_parse_52 ?_
            refine lv_aload_n hx hb dX3_parse_55 rfl (lv_at hl 0 rfl) ?_
            refine gWM_0_isWrong_X3 hx hb hts hown hK hP dX3_parse_56 ?_
            refine nv_if_eq (tgt := 66) hx hb dX3_parse_59 (by decide) (by omega) (fun c_59 => absurd c_59 (by decide)) (fun c_59 => ?_)
            refine lv_iconst (v := nI 0) hx hb dX3_parse_62 (by decide) ?_
            refine lv_goto (tgt := 67) hx hb dX3_parse_63 (by decide) ?_
            refine nv_iadd hx hb dX3_parse_67 ?_
            refine pWM_0_at_X3 hx hb hts hown hK hP hD hS dX3_parse_68 (fun H locs hP hD hS => ?_)
            refine lv_aload_n hx hb dX3_parse_71 rfl (lv_at hl 0 rfl) ?_
            have ew_ : nI 1 = bI true := rfl
            have hP : va_P D vwCl (WM ca q th st ik (nI T_.length) ou (nI (q_ + 0)) (bI true) so_ na_ nb_ fo nu al z be ke te ti ne wa ta out pl lo sh le) H := (congrArg (fun x_ => va_P D vwCl (WM ca q th st ik (nI T_.length) ou (nI (q_ + 0)) x_ so_ na_ nb_ fo nu al z be ke te ti ne wa ta out pl lo sh le) H) ew_).mp hP
            have hD : va_D A (WM ca q th st ik (nI T_.length) ou (nI (q_ + 0)) (bI true) so_ na_ nb_ fo nu al z be ke te ti ne wa ta out pl lo sh le) := (congrArg (fun x_ => va_D A (WM ca q th st ik (nI T_.length) ou (nI (q_ + 0)) x_ so_ na_ nb_ fo nu al z be ke te ti ne wa ta out pl lo sh le)) ew_).mp hD
            clear ew_
            refine xc_v (xr_V (b := q 0) (ci := 2) (q0 := 0) (As := []) (rest := []) (mt_X3_order l D ca q th st ik ou so_ na_ nb_ fo nu al z be ke te ti ne wa ta out pl lo sh le T_ (q_ + 0) true hTe hTx (by have := hTx.1; omega) H.size) ⟨hx, hb, hml, hown, hts⟩ (cwV 0 hts (lw_V q1879 q1881 qs71 q87 q1882) rfl rfl rfl (by decide +kernel) ⟨Nat.le_of_ble_eq_true rfl, Nat.le_of_ble_eq_true rfl⟩) Ev0_ok hE hK hS (Cut.all hP hD hS hA) rfl rfl rfl hl.1 rfl (Nat.le_of_ble_eq_true rfl) dX3_parse_72 ⟨Nat.le_of_ble_eq_true rfl, Nat.le_of_ble_eq_true rfl⟩) hS (Cut.all hP hD hS hA) (fun u_15 H locs hq_72 hP hD hS => ?_)
            obtain ⟨na1_16, nb1_17⟩ := u_15
            have hP : va_P D vwCl (WM ca q th st ik (nI T_.length) ou (nI (if true = true then (q_ + 0) else orP T_ (q_ + 0))) (bI (true || !orB T_ (q_ + 0))) (nI (T_.getD (q_ + 0) 0)) na1_16 nb1_17 fo nu al z be ke te ti ne wa ta out pl lo sh le) H := hP
            have hD : va_D A (WM ca q th st ik (nI T_.length) ou (nI (if true = true then (q_ + 0) else orP T_ (q_ + 0))) (bI (true || !orB T_ (q_ + 0))) (nI (T_.getD (q_ + 0) 0)) na1_16 nb1_17 fo nu al z be ke te ti ne wa ta out pl lo sh le) := hD
            have hp_72 : (true || !orB T_ (q_ + 0)) = false → ((T_.getD (q_ + 0) 0 = 37 ∨ na1_16 = nI (orO T_ (q_ + 0)).2.1) ∧ (kf (T_.getD (q_ + 0) 0) = 0 ∨ nb1_17 = nI (orO T_ (q_ + 0)).2.2)) := hq_72
            clear hq_72
            refine lv_goto (tgt := 14) hx hb dX3_parse_75 (by decide) ?_
            exact ih_14  false (q_ + 0) f_ (nI (T_.getD (q_ + 0) 0)) na1_16 nb1_17 (by have h1_ : b_.toNat = 1 := (by rw [hb_]; rfl); have h2_ : (false : Bool).toNat = 0 := rfl; omega) (by omega) (by omega) (by rw [hPB, decide_eq_false (by omega), decide_eq_false c_39]; cases b_ <;> rfl) (by rw [hPP, if_pos hb_, if_neg (by omega), if_neg c_39]; rfl) _ _ hP hD hS ls (lv_sub hl [0] rfl)
  exact lp_14 (2 * (T_.length - (orP T_ 0)) + (orB T_ 0).toNat + 1) (orB T_ 0) (orP T_ 0) T_.length (nI (T_.getD 0 0)) na1_3 nb1_4 (Nat.lt_succ_self _) (Nat.le_trans orP_le (by omega)) (by omega) rfl rfl _ _ hP hD hS ls (lv_sub hl [0] rfl)
set_option maxHeartbeats 4000000 in
set_option maxRecDepth 100000 in
theorem mt_X3_fault (l : Launch) (D : va_G) (ca : Nat → ClassId) (q : Nat → Nat) (th : Int32) (st : Int32) (ik : Int32) (ou : Int32) (pa : Int32) (iw : Int32) (so : Int32) (na : Int32) (nb : Int32) (fo : Int32) (nu : Int32) (al : Int32) (z : Nat → Int32) (be : Nat → Int32) (ke : Nat → Int32) (te : Nat → Int32) (ti : Nat → Int32) (ne : Nat → Int32) (wa : Nat → Int32) (ta : Nat → Int64) (out : Nat → Int64) (pl : Nat → Int64) (lo : Nat → Int64) (sh : Nat → Int64) (le : Nat → Int64) (T_ : List Nat) (hTe : TeOk T_ te) (hTx : TxOk T_) (nn : Nat) : Met l yX3_fault (ws_ yX3_fault cX3_fault 1 (Option.some Jvm.ClassFile.FieldType.int)) ({ frames := 4, cells := 0, slots := 0, locals := 84 } : Room) (va_Pc [.ref (q 0)] (PreW Ev0 D vwCl (TY ca) (WM ca q th st ik (nI T_.length) ou pa iw so na nb fo nu al z be ke te ti ne wa ta out pl lo sh le) nn)) (va_Qi (fun (r_ : Int32) (u_ : Int32 × Int32 × Int32) => r_ = fI (if prsB T_ (T_.length + 1) 0 = true then 0 else prsP T_ (T_.length + 1) 0 + 1)) (PostW D vwCl (TY ca) (fun (u_ : Int32 × Int32 × Int32) => (WM ca q (nI 0) st ik (nI T_.length) ou (nI (prsP T_ (T_.length + 1) 0)) (bI (!prsB T_ (T_.length + 1) 0)) u_.1 u_.2.1 u_.2.2 fo nu al z be ke te ti ne wa ta out pl lo sh le)) (va_A (WM ca q th st ik (nI T_.length) ou pa iw so na nb fo nu al z be ke te ti ne wa ta out pl lo sh le) nn)) (va_A (WM ca q th st ik (nI T_.length) ou pa iw so na nb fo nu al z be ke te ti ne wa ta out pl lo sh le) nn)) 0 0 (va_A (WM ca q th st ik (nI T_.length) ou pa iw so na nb fo nu al z be ke te ti ne wa ta out pl lo sh le) nn) := by
  refine met_go (QA := fun A => va_Qi (fun (r_ : Int32) (u_ : Int32 × Int32 × Int32) => r_ = fI (if prsB T_ (T_.length + 1) 0 = true then 0 else prsP T_ (T_.length + 1) 0 + 1)) (PostW D vwCl (TY ca) (fun (u_ : Int32 × Int32 × Int32) => (WM ca q (nI 0) st ik (nI T_.length) ou (nI (prsP T_ (T_.length + 1) 0)) (bI (!prsB T_ (T_.length + 1) 0)) u_.1 u_.2.1 u_.2.2 fo nu al z be ke te ti ne wa ta out pl lo sh le)) A) A) (by decide) (Nat.le_of_ble_eq_true rfl) (fun p e s m below meth c A ls QQ hQQ hx hb hr hts hown hlocks hml hA hP hK hD hE hl => ?_)
  have hown : s.vm.findClass RX3 = some m.cls := hown
  have hS : va_S A s.heap s.heap [] := va_S.rf
  have hl : lv_has ls 1 [(0, .ref (q 0))] := hl
  generalize hHe : s.heap = H at hP ⊢
  have hS : va_S A s.heap H [] := hHe ▸ hS
  generalize ([] : List Loc) = locs at hS ⊢
  refine lv_aload_n hx hb dX3_fault_0 rfl (lv_at hl 0 rfl) ?_
  refine lv_iconst (v := nI 0) hx hb dX3_fault_1 (by decide) ?_
  refine pWM_0_thrown_X3 hx hb hts hown hK hP hD hS dX3_fault_2 (fun H locs hP hD hS => ?_)
  refine lv_aload_n hx hb dX3_fault_5 rfl (lv_at hl 0 rfl) ?_
  refine xc_v (xr_V (b := q 0) (ci := 2) (q0 := 0) (As := []) (rest := []) (mt_X3_parse l D ca q (nI 0) st ik ou pa iw so na nb fo nu al z be ke te ti ne wa ta out pl lo sh le T_ (by first | assumption | omega | (simp only [updN, forgetC, changedC]; (repeat' split) <;> omega)) (by first | assumption | omega | (simp only [updN, forgetC, changedC]; (repeat' split) <;> omega)) H.size) ⟨hx, hb, hml, hown, hts⟩ (cwV 0 hts (lw_V q1875 q1877 qs70 q87 q1878) rfl rfl rfl (by decide +kernel) ⟨Nat.le_of_ble_eq_true rfl, Nat.le_of_ble_eq_true rfl⟩) Ev0_ok hE hK hS (Cut.all hP hD hS hA) rfl rfl rfl hl.1 rfl (Nat.le_of_ble_eq_true rfl) dX3_fault_6 ⟨Nat.le_of_ble_eq_true rfl, Nat.le_of_ble_eq_true rfl⟩) hS (Cut.all hP hD hS hA) (fun u_2 H locs hq_6 hP hD hS => ?_)
  obtain ⟨so1_3, na1_4, nb1_5⟩ := u_2
  have hP : va_P D vwCl (WM ca q (nI 0) st ik (nI T_.length) ou (nI (prsP T_ (T_.length + 1) 0)) (bI (!prsB T_ (T_.length + 1) 0)) so1_3 na1_4 nb1_5 fo nu al z be ke te ti ne wa ta out pl lo sh le) H := hP
  have hD : va_D A (WM ca q (nI 0) st ik (nI T_.length) ou (nI (prsP T_ (T_.length + 1) 0)) (bI (!prsB T_ (T_.length + 1) 0)) so1_3 na1_4 nb1_5 fo nu al z be ke te ti ne wa ta out pl lo sh le) := hD
  have hp_6 : True := hq_6
  clear hq_6
  refine lv_aload_n hx hb dX3_fault_9 rfl (lv_at hl 0 rfl) ?_
  refine gWM_0_isWrong_X3 hx hb hts hown hK hP dX3_fault_10 ?_
  refine nv_ifb_eq (tgt := 23) hx hb dX3_fault_13 (by decide) (fun c_13 => ?_) (fun c_13 => ?_)
  · skip
    refine lv_iconst (v := fI 0) hx hb dX3_fault_23 (by decide) ?_
    subst hQQ
    exact xe_i (v := fI 0) (so1_3, na1_4, nb1_5) hx hb hr hlocks hK hP hD hS (by rw [if_pos (by cases h_ : prsB T_ (T_.length + 1) 0 with | true => rfl | false => rw [h_] at c_13; cases c_13)]) dX3_fault_24
  · skip
    refine lv_aload_n hx hb dX3_fault_16 rfl (lv_at hl 0 rfl) ?_
    refine gWM_0_at_X3 hx hb hts hown hK hP dX3_fault_17 ?_
    refine lv_goto (tgt := 24) hx hb dX3_fault_20 (by decide) ?_
    subst hQQ
    exact xe_i (v := nI (prsP T_ (T_.length + 1) 0)) (so1_3, na1_4, nb1_5) hx hb hr hlocks hK hP hD hS (by rw [if_neg (by intro h_; rw [h_] at c_13; cases c_13)]; exact fI_S _) dX3_fault_24
set_option maxHeartbeats 4000000 in
set_option maxRecDepth 100000 in
theorem mt_X3_does_ok (l : Launch) (D : va_G) (ca : Nat → ClassId) (q : Nat → Nat) (th : Int32) (st : Int32) (ik : Int32) (ln : Int32) (ou : Int32) (pa : Int32) (iw : Int32) (na : Int32) (nb : Int32) (fo : Int32) (nu : Int32) (al : Int32) (be : Nat → Int32) (ke : Nat → Int32) (te : Nat → Int32) (ti : Nat → Int32) (ne : Nat → Int32) (wa : Nat → Int32) (ta : Nat → Int64) (out : Nat → Int64) (pl : Nat → Int64) (lo : Nat → Int64) (sh : Nat → Int64) (le : Nat → Int64) (C : Nat → Nat) (o_ : Nat × Nat × Nat) (D_ : Nat → Nat) (hI : Inv C) (hor : orn o_) (hna : o_.1 = 37 ∨ na = nI o_.2.1) (hnb : kf o_.1 = 0 ∨ nb = nI o_.2.2) (hd : dosC C o_ = some D_) (nn : Nat) : Met l yX3_does (ws_ yX3_does cX3_does 2 (Option.some Jvm.ClassFile.FieldType.boolean)) ({ frames := 4, cells := 0, slots := 0, locals := 87 } : Room) (va_Pc [.ref (q 0)] (PreW Ev0 D vwCl (TY ca) (WM ca q th st ik ln ou pa iw (nI o_.1) na nb fo nu al (zOf C) be ke te ti ne wa ta out pl lo sh le) nn)) (va_Qi (fun (r_ : Int32) (u_ : Int32 × Int32 × (Nat → Int64) × (Nat → Int64) × Int32) => r_ = bI true) (PostW D vwCl (TY ca) (fun (u_ : Int32 × Int32 × (Nat → Int64) × (Nat → Int64) × Int32) => (WM ca q th st ik ln u_.2.2.2.2 pa iw (nI o_.1) u_.1 u_.2.1 fo nu al (zOf D_) be ke te ti ne wa u_.2.2.1 u_.2.2.2.1 pl lo sh le)) (va_A (WM ca q th st ik ln ou pa iw (nI o_.1) na nb fo nu al (zOf C) be ke te ti ne wa ta out pl lo sh le) nn)) (va_A (WM ca q th st ik ln ou pa iw (nI o_.1) na nb fo nu al (zOf C) be ke te ti ne wa ta out pl lo sh le) nn)) 0 0 (va_A (WM ca q th st ik ln ou pa iw (nI o_.1) na nb fo nu al (zOf C) be ke te ti ne wa ta out pl lo sh le) nn) := by
  refine met_go (QA := fun A => va_Qi (fun (r_ : Int32) (u_ : Int32 × Int32 × (Nat → Int64) × (Nat → Int64) × Int32) => r_ = bI true) (PostW D vwCl (TY ca) (fun (u_ : Int32 × Int32 × (Nat → Int64) × (Nat → Int64) × Int32) => (WM ca q th st ik ln u_.2.2.2.2 pa iw (nI o_.1) u_.1 u_.2.1 fo nu al (zOf D_) be ke te ti ne wa u_.2.2.1 u_.2.2.2.1 pl lo sh le)) A) A) (by decide) (Nat.le_of_ble_eq_true rfl) (fun p e s m below meth c A ls QQ hQQ hx hb hr hts hown hlocks hml hA hP hK hD hE hl => ?_)
  have hown : s.vm.findClass RX3 = some m.cls := hown
  have hS : va_S A s.heap s.heap [] := va_S.rf
  have hl : lv_has ls 2 [(0, .ref (q 0))] := hl
  generalize hHe : s.heap = H at hP ⊢
  have hS : va_S A s.heap H [] := hHe ▸ hS
  generalize ([] : List Loc) = locs at hS ⊢
  have hi41 := hI.2.2.2.2.2.2.2.2.2.2.1
  have hol := orn_le hor
  have hi0 := hI.1
  have hik := hI.2.1
  have his := hI.2.2.1
  have hio := hI.ho
  have hib := hI.hbx
  have hi39 := hI.h39
  have hino := hI.hno
  have hi40 := hI.2.2.2.2.2.2.2.2.2.1
  refine lv_aload_n hx hb dX3_does_0 rfl (lv_at hl 0 rfl) ?_
  refine gWM_0_sort_X3 hx hb hts hown hK hP dX3_does_1 ?_
  refine xc_i (xr_S (As := [.int (nI o_.1)]) (rest := []) (mt_X3_kindFor l D ca o_.1 (by have := orn_le hor; omega) H.size) ⟨hx, hb, hml, hown, hts⟩ (va_cwS 1 hts (lw_S q1887 q1888 q87 q1889) rfl rfl rfl (by decide +kernel) ⟨Nat.le_of_ble_eq_true rfl, Nat.le_of_ble_eq_true rfl⟩) Ev0_ok hE hK hS (Cut.app (wc := []) (wr := (WM ca q th st ik ln ou pa iw (nI o_.1) na nb fo nu al (zOf C) be ke te ti ne wa ta out pl lo sh le)) hP hD hS hA) rfl hl.1 rfl (Nat.le_of_ble_eq_true rfl) dX3_does_4 ⟨Nat.le_of_ble_eq_true rfl, Nat.le_of_ble_eq_true rfl⟩) hS (Cut.app (wc := []) (wr := (WM ca q th st ik ln ou pa iw (nI o_.1) na nb fo nu al (zOf C) be ke te ti ne wa ta out pl lo sh le)) hP hD hS hA) (fun r_1 u_2 H locs hq_4 hP hD hS => ?_)
  have hP : va_P D vwCl (WM ca q th st ik ln ou pa iw (nI o_.1) na nb fo nu al (zOf C) be ke te ti ne wa ta out pl lo sh le) H := hP
  have hD : va_D A (WM ca q th st ik ln ou pa iw (nI o_.1) na nb fo nu al (zOf C) be ke te ti ne wa ta out pl lo sh le) := hD
  have hp_4 : r_1 = fI (kf o_.1) := hq_4
  clear hq_4
  obtain rfl := hp_4
  refine lv_istore_n (lv' := [(1, .int (fI (kf o_.1))), (0, .ref (q 0))]) hx hb dX3_does_7 rfl hl (by decide) rfl (fun ls hl => ?_)
  refine lv_iload_n hx hb dX3_does_8 rfl (lv_at hl 0 rfl) ?_
  refine lv_iconst (v := fI 0) hx hb dX3_does_9 (by decide) ?_
  refine nv_icmp_eqf (tgt := 46) hx hb dX3_does_10 (by decide) (by have := kf_le o_.1; omega) (fun c_10 => ?_) (fun c_10 => ?_)
  · skip
    refine lv_aload_n hx hb dX3_does_46 rfl (lv_at hl 1 rfl) ?_
    refine gWM_0_sort_X3 hx hb hts hown hK hP dX3_does_47 ?_
    by_cases c_50 : o_.1 = 35
    · skip
      refine lv_lookup (x := nI o_.1) (tgt := 114) (off := 64) hx hb dX3_does_50 (by decide) (by rw [c_50]; decide) (by decide) ?_
      have ew_ : na = nI o_.2.1 := hna.resolve_left (by omega)
      have hP : va_P D vwCl (WM ca q th st ik ln ou pa iw (nI o_.1) (nI o_.2.1) nb fo nu al (zOf C) be ke te ti ne wa ta out pl lo sh le) H := (congrArg (fun x_ => va_P D vwCl (WM ca q th st ik ln ou pa iw (nI o_.1) x_ nb fo nu al (zOf C) be ke te ti ne wa ta out pl lo sh le) H) ew_).mp hP
      have hD : va_D A (WM ca q th st ik ln ou pa iw (nI o_.1) (nI o_.2.1) nb fo nu al (zOf C) be ke te ti ne wa ta out pl lo sh le) := (congrArg (fun x_ => va_D A (WM ca q th st ik ln ou pa iw (nI o_.1) x_ nb fo nu al (zOf C) be ke te ti ne wa ta out pl lo sh le)) ew_).mp hD
      clear ew_
      have hdd := dosb_s c_10 c_50 hd
      have hbd : o_.2.1 < 64 := orn_b hor (Or.inr (Or.inl c_50))
      refine lv_aload_n hx hb dX3_does_114 rfl (lv_at hl 1 rfl) ?_
      refine lv_aload_n hx hb dX3_does_115 rfl (lv_at hl 1 rfl) ?_
      refine gWM_0_one_X3 hx hb hts hown hK hP dX3_does_116 ?_
      refine lv_bipush (v := nI 6) hx hb dX3_does_119 (by decide) ?_
      refine lv_isub hx hb dX3_does_121 ?_
      refine xc_i (xr_V (b := q 0) (ci := 2) (q0 := 0) (As := [.int ((nI o_.2.1) - (nI 6))]) (rest := []) (mt_X3_noBox l D ca q th st ik ln ou pa iw (nI o_.1) (nI o_.2.1) nb fo nu al be ke te ti ne wa ta out pl lo sh le C ((nI o_.2.1) - (nI 6)) (by first | assumption | omega | (simp only [updN, forgetC, changedC]; (repeat' split) <;> omega)) (by first | assumption | omega | (simp only [updN, forgetC, changedC]; (repeat' split) <;> omega)) (by first | assumption | omega | (simp only [updN, forgetC, changedC]; (repeat' split) <;> omega)) H.size) ⟨hx, hb, hml, hown, hts⟩ (cwV 1 hts (lw_V q1757 q1759 qs53 q87 q1760) rfl rfl rfl (by decide +kernel) ⟨Nat.le_of_ble_eq_true rfl, Nat.le_of_ble_eq_true rfl⟩) Ev0_ok hE hK hS (Cut.all hP hD hS hA) rfl rfl rfl hl.1 rfl (Nat.le_of_ble_eq_true rfl) dX3_does_122 ⟨Nat.le_of_ble_eq_true rfl, Nat.le_of_ble_eq_true rfl⟩) hS (Cut.all hP hD hS hA) (fun r_4 u_5 H locs hq_122 hP hD hS => ?_)
      have hP : va_P D vwCl (WM ca q th st ik ln ou pa iw (nI o_.1) (nI o_.2.1) nb fo nu al (zOf C) be ke te ti ne wa ta out pl lo sh le) H := hP
      have hD : va_D A (WM ca q th st ik ln ou pa iw (nI o_.1) (nI o_.2.1) nb fo nu al (zOf C) be ke te ti ne wa ta out pl lo sh le) := hD
      have hp_122 : r_4 = nI (boxcode C ((nI o_.2.1) - (nI 6))) := hq_122
      clear hq_122
      obtain rfl := hp_122
      refine nv_if_ne (tgt := 148) hx hb dX3_does_125 (by decide) (by have := boxcode_le C (nI o_.2.1 - nI 6); omega) (fun c_125 => absurd hdd.1 c_125) (fun c_125 => ?_)
      have hbx2 := boxcode_0 (by omega) hi0 hdd.1
      refine lv_aload_n hx hb dX3_does_128 rfl (lv_at hl 1 rfl) ?_
      refine lv_bipush (v := nI 38) hx hb dX3_does_129 (by decide) ?_
      refine lv_aload_n hx hb dX3_does_131 rfl (lv_at hl 1 rfl) ?_
      refine gWM_0_one_X3 hx hb hts hown hK hP dX3_does_132 ?_
      refine lv_bipush (v := nI 6) hx hb dX3_does_135 (by decide) ?_
      refine nv_isub hx hb dX3_does_137 hbx2.1 ?_
      refine xc_i (xr_V (b := q 0) (ci := 2) (q0 := 0) (As := [.int (nI 38), .int (nI (o_.2.1 - 6))]) (rest := []) (mt_X3_turns_b l D ca q th st ik ln ou pa iw (nI o_.1) (nI o_.2.1) nb fo nu al be ke te ti ne wa ta out pl lo sh le C (o_.2.1 - 6) hi0 hib hi39 (by omega) H.size) ⟨hx, hb, hml, hown, hts⟩ (cwV 2 hts (lw_V q1749 q1751 qs52 q87 q1752) rfl rfl rfl (by decide +kernel) ⟨Nat.le_of_ble_eq_true rfl, Nat.le_of_ble_eq_true rfl⟩) Ev0_ok hE hK hS (Cut.all hP hD hS hA) rfl rfl rfl hl.1 rfl (Nat.le_of_ble_eq_true rfl) dX3_does_138 ⟨Nat.le_of_ble_eq_true rfl, Nat.le_of_ble_eq_true rfl⟩) hS (Cut.all hP hD hS hA) (fun r_6 u_7 H locs hq_138 hP hD hS => ?_)
      have hP : va_P D vwCl (WM ca q th st ik ln ou pa iw (nI o_.1) (nI o_.2.1) nb fo nu al (zOf (turnBoxC C (o_.2.1 - 6))) be ke te ti ne wa ta out pl lo sh le) H := hP
      have hD : va_D A (WM ca q th st ik ln ou pa iw (nI o_.1) (nI o_.2.1) nb fo nu al (zOf (turnBoxC C (o_.2.1 - 6))) be ke te ti ne wa ta out pl lo sh le) := hD
      have hp_138 : r_6 = nI (popc 18 (C 38 ^^^ (1 <<< (o_.2.1 - 6)))) := hq_138
      clear hq_138
      obtain rfl := hp_138
      refine nv_if_lt hx hb dX3_does_141 (tgt := 148) (by decide) (by have := popc_le 18 (C 38 ^^^ 1 <<< (o_.2.1 - 6)); omega) ?_
      refine lv_iconst (v := nI 1) hx hb dX3_does_144 (by decide) ?_
      refine lv_goto (tgt := 149) hx hb dX3_does_145 (by decide) ?_
      have ew_ : zOf (turnBoxC C (o_.2.1 - 6)) = zOf D_ := congrArg zOf hdd.2.symm
      have hP : va_P D vwCl (WM ca q th st ik ln ou pa iw (nI o_.1) (nI o_.2.1) nb fo nu al (zOf D_) be ke te ti ne wa ta out pl lo sh le) H := (congrArg (fun x_ => va_P D vwCl (WM ca q th st ik ln ou pa iw (nI o_.1) (nI o_.2.1) nb fo nu al x_ be ke te ti ne wa ta out pl lo sh le) H) ew_).mp hP
      have hD : va_D A (WM ca q th st ik ln ou pa iw (nI o_.1) (nI o_.2.1) nb fo nu al (zOf D_) be ke te ti ne wa ta out pl lo sh le) := (congrArg (fun x_ => va_D A (WM ca q th st ik ln ou pa iw (nI o_.1) (nI o_.2.1) nb fo nu al x_ be ke te ti ne wa ta out pl lo sh le)) ew_).mp hD
      clear ew_
      subst hQQ
      refine (xe_z (b := true) (nI o_.2.1, nb, ta, out, ou) hx hb hr hlocks hK hP hD hS (rfl) dX3_does_149)
    have n_50_35 : ¬ o_.1 = 35 := c_50
    clear c_50
    by_cases c_50 : o_.1 = 62
    · skip
      refine lv_lookup (x := nI o_.1) (tgt := 84) (off := 34) hx hb dX3_does_50 (by decide) (by rw [c_50]; decide) (by decide) ?_
      have ew_ : na = nI o_.2.1 := hna.resolve_left (by omega)
      have hP : va_P D vwCl (WM ca q th st ik ln ou pa iw (nI o_.1) (nI o_.2.1) nb fo nu al (zOf C) be ke te ti ne wa ta out pl lo sh le) H := (congrArg (fun x_ => va_P D vwCl (WM ca q th st ik ln ou pa iw (nI o_.1) x_ nb fo nu al (zOf C) be ke te ti ne wa ta out pl lo sh le) H) ew_).mp hP
      have hD : va_D A (WM ca q th st ik ln ou pa iw (nI o_.1) (nI o_.2.1) nb fo nu al (zOf C) be ke te ti ne wa ta out pl lo sh le) := (congrArg (fun x_ => va_D A (WM ca q th st ik ln ou pa iw (nI o_.1) x_ nb fo nu al (zOf C) be ke te ti ne wa ta out pl lo sh le)) ew_).mp hD
      clear ew_
      have hdd := doso_s c_10 c_50 hd
      have hbd : o_.2.1 < 64 := orn_b hor (Or.inl c_50)
      refine lv_aload_n hx hb dX3_does_84 rfl (lv_at hl 1 rfl) ?_
      refine lv_aload_n hx hb dX3_does_85 rfl (lv_at hl 1 rfl) ?_
      refine gWM_0_one_X3 hx hb hts hown hK hP dX3_does_86 ?_
      refine xc_i (xr_V (b := q 0) (ci := 2) (q0 := 0) (As := [.int (nI o_.2.1)]) (rest := []) (mt_X3_noOutput l D ca q th st ik ln ou pa iw (nI o_.1) (nI o_.2.1) nb fo nu al be ke te ti ne wa ta out pl lo sh le C (nI o_.2.1) (by first | assumption | omega | (simp only [updN, forgetC, changedC]; (repeat' split) <;> omega)) (by first | assumption | omega | (simp only [updN, forgetC, changedC]; (repeat' split) <;> omega)) H.size) ⟨hx, hb, hml, hown, hts⟩ (cwV 1 hts (lw_V q1742 q1744 qs51 q87 q1745) rfl rfl rfl (by decide +kernel) ⟨Nat.le_of_ble_eq_true rfl, Nat.le_of_ble_eq_true rfl⟩) Ev0_ok hE hK hS (Cut.all hP hD hS hA) rfl rfl rfl hl.1 rfl (Nat.le_of_ble_eq_true rfl) dX3_does_89 ⟨Nat.le_of_ble_eq_true rfl, Nat.le_of_ble_eq_true rfl⟩) hS (Cut.all hP hD hS hA) (fun r_8 u_9 H locs hq_89 hP hD hS => ?_)
      have hP : va_P D vwCl (WM ca q th st ik ln ou pa iw (nI o_.1) (nI o_.2.1) nb fo nu al (zOf C) be ke te ti ne wa ta out pl lo sh le) H := hP
      have hD : va_D A (WM ca q th st ik ln ou pa iw (nI o_.1) (nI o_.2.1) nb fo nu al (zOf C) be ke te ti ne wa ta out pl lo sh le) := hD
      have hp_89 : r_8 = nI (outcode C (nI o_.2.1)) := hq_89
      clear hq_89
      obtain rfl := hp_89
      refine nv_if_ne (tgt := 112) hx hb dX3_does_92 (by decide) (by have := outcode_le C (nI o_.2.1); omega) (fun c_92 => absurd hdd.1 c_92) (fun c_92 => ?_)
      refine lv_aload_n hx hb dX3_does_95 rfl (lv_at hl 1 rfl) ?_
      refine lv_bipush (v := nI 37) hx hb dX3_does_96 (by decide) ?_
      refine lv_aload_n hx hb dX3_does_98 rfl (lv_at hl 1 rfl) ?_
      refine gWM_0_one_X3 hx hb hts hown hK hP dX3_does_99 ?_
      refine xc_i (xr_V (b := q 0) (ci := 2) (q0 := 0) (As := [.int (nI 37), .int (nI o_.2.1)]) (rest := []) (mt_X3_turns_o l D ca q th st ik ln ou pa iw (nI o_.1) (nI o_.2.1) nb fo nu al be ke te ti ne wa ta out pl lo sh le C o_.2.1 hi0 hio hi39 (by have := outcode_0 (by omega) hdd.1; omega) H.size) ⟨hx, hb, hml, hown, hts⟩ (cwV 2 hts (lw_V q1749 q1751 qs52 q87 q1752) rfl rfl rfl (by decide +kernel) ⟨Nat.le_of_ble_eq_true rfl, Nat.le_of_ble_eq_true rfl⟩) Ev0_ok hE hK hS (Cut.all hP hD hS hA) rfl rfl rfl hl.1 rfl (Nat.le_of_ble_eq_true rfl) dX3_does_102 ⟨Nat.le_of_ble_eq_true rfl, Nat.le_of_ble_eq_true rfl⟩) hS (Cut.all hP hD hS hA) (fun r_10 u_11 H locs hq_102 hP hD hS => ?_)
      have hP : va_P D vwCl (WM ca q th st ik ln ou pa iw (nI o_.1) (nI o_.2.1) nb fo nu al (zOf (turnOutC C o_.2.1)) be ke te ti ne wa ta out pl lo sh le) H := hP
      have hD : va_D A (WM ca q th st ik ln ou pa iw (nI o_.1) (nI o_.2.1) nb fo nu al (zOf (turnOutC C o_.2.1)) be ke te ti ne wa ta out pl lo sh le) := hD
      have hp_102 : r_10 = nI (popc 18 (C 37 ^^^ (1 <<< o_.2.1))) := hq_102
      clear hq_102
      obtain rfl := hp_102
      refine nv_if_lt hx hb dX3_does_105 (tgt := 112) (by decide) (by have := popc_le 18 (C 37 ^^^ 1 <<< o_.2.1); omega) ?_
      refine lv_iconst (v := nI 1) hx hb dX3_does_108 (by decide) ?_
      refine lv_goto (tgt := 113) hx hb dX3_does_109 (by decide) ?_
      have ew_ : zOf (turnOutC C o_.2.1) = zOf D_ := congrArg zOf hdd.2.symm
      have hP : va_P D vwCl (WM ca q th st ik ln ou pa iw (nI o_.1) (nI o_.2.1) nb fo nu al (zOf D_) be ke te ti ne wa ta out pl lo sh le) H := (congrArg (fun x_ => va_P D vwCl (WM ca q th st ik ln ou pa iw (nI o_.1) (nI o_.2.1) nb fo nu al x_ be ke te ti ne wa ta out pl lo sh le) H) ew_).mp hP
      have hD : va_D A (WM ca q th st ik ln ou pa iw (nI o_.1) (nI o_.2.1) nb fo nu al (zOf D_) be ke te ti ne wa ta out pl lo sh le) := (congrArg (fun x_ => va_D A (WM ca q th st ik ln ou pa iw (nI o_.1) (nI o_.2.1) nb fo nu al x_ be ke te ti ne wa ta out pl lo sh le)) ew_).mp hD
      clear ew_
      subst hQQ
      refine (xe_z (b := true) (nI o_.2.1, nb, ta, out, ou) hx hb hr hlocks hK hP hD hS (rfl) dX3_does_113)
    have n_50_62 : ¬ o_.1 = 62 := c_50
    clear c_50
    by_cases c_50 : o_.1 = 63
    · skip
      refine lv_lookup (x := nI o_.1) (tgt := 150) (off := 100) hx hb dX3_does_50 (by decide) (by rw [c_50]; decide) (by decide) ?_
      have ew_ : na = nI o_.2.1 := hna.resolve_left (by omega)
      have hP : va_P D vwCl (WM ca q th st ik ln ou pa iw (nI o_.1) (nI o_.2.1) nb fo nu al (zOf C) be ke te ti ne wa ta out pl lo sh le) H := (congrArg (fun x_ => va_P D vwCl (WM ca q th st ik ln ou pa iw (nI o_.1) x_ nb fo nu al (zOf C) be ke te ti ne wa ta out pl lo sh le) H) ew_).mp hP
      have hD : va_D A (WM ca q th st ik ln ou pa iw (nI o_.1) (nI o_.2.1) nb fo nu al (zOf C) be ke te ti ne wa ta out pl lo sh le) := (congrArg (fun x_ => va_D A (WM ca q th st ik ln ou pa iw (nI o_.1) x_ nb fo nu al (zOf C) be ke te ti ne wa ta out pl lo sh le)) ew_).mp hD
      clear ew_
      have hdd := dost_s c_10 c_50 hd
      have hbd : o_.2.1 < 64 := orn_b hor (Or.inr (Or.inr c_50))
      refine lv_aload_n hx hb dX3_does_150 rfl (lv_at hl 1 rfl) ?_
      refine gWM_0_z_X3 hx hb hts hown hK hP dX3_does_151 ?_
      refine lv_bipush (v := nI 41) hx hb dX3_does_154 (by decide) ?_
      refine ldWM_1 hx hb hK hP (by omega) dX3_does_156 ?_
      refine lv_topi (nm_r (e' := nI (C 41)) (rfl) ?_)
      refine lv_bipush (v := nI 12) hx hb dX3_does_157 (by decide) ?_
      refine nv_icmp_ge (tgt := 177) hx hb dX3_does_159 (by decide) (by omega) (by omega) (fun c_159 => absurd hdd.1 (by omega)) (fun c_159 => ?_)
      refine lv_aload_n hx hb dX3_does_162 rfl (lv_at hl 1 rfl) ?_
      refine lv_aload_n hx hb dX3_does_163 rfl (lv_at hl 1 rfl) ?_
      refine gWM_0_one_X3 hx hb hts hown hK hP dX3_does_164 ?_
      refine xc_i (xr_V (b := q 0) (ci := 2) (q0 := 0) (As := [.int (nI o_.2.1)]) (rest := []) (mt_X3_asks l D ca q th st ik ln ou pa iw (nI o_.1) (nI o_.2.1) nb fo nu al be ke te ti ne wa ta out pl lo sh le C o_.2.1 hi0 hik his hio hib hI.2.2.2.2.2.1 hi39 hdd.1 hbd H.size) ⟨hx, hb, hml, hown, hts⟩ (cwV 1 hts (lw_V q1777 q1779 qs55 q87 q1780) rfl rfl rfl (by decide +kernel) ⟨Nat.le_of_ble_eq_true rfl, Nat.le_of_ble_eq_true rfl⟩) Ev0_ok hE hK hS (Cut.all hP hD hS hA) rfl rfl rfl hl.1 rfl (Nat.le_of_ble_eq_true rfl) dX3_does_167 ⟨Nat.le_of_ble_eq_true rfl, Nat.le_of_ble_eq_true rfl⟩) hS (Cut.all hP hD hS hA) (fun r_12 u_13 H locs hq_167 hP hD hS => ?_)
      obtain ⟨ta1_14, out1_15⟩ := u_13
      have hP : va_P D vwCl (WM ca q th st ik ln (nI (no C)) pa iw (nI o_.1) (nI o_.2.1) nb fo nu al (zOf (askC C o_.2.1 (anC C 0 (C 39) o_.2.1))) be ke te ti ne wa ta1_14 out1_15 pl lo sh le) H := hP
      have hD : va_D A (WM ca q th st ik ln (nI (no C)) pa iw (nI o_.1) (nI o_.2.1) nb fo nu al (zOf (askC C o_.2.1 (anC C 0 (C 39) o_.2.1))) be ke te ti ne wa ta1_14 out1_15 pl lo sh le) := hD
      have hp_167 : r_12 = nI (anC C 0 (C 39) o_.2.1) := hq_167
      clear hq_167
      obtain rfl := hp_167
      refine nv_if_lt hx hb dX3_does_170 (tgt := 177) (by decide) (by have := anC_lt (C := C) (K := 0) (F := C 39) (t := o_.2.1) hino; omega) ?_
      refine lv_iconst (v := nI 1) hx hb dX3_does_173 (by decide) ?_
      refine lv_goto (tgt := 178) hx hb dX3_does_174 (by decide) ?_
      have ew_ : zOf (askC C o_.2.1 (anC C 0 (C 39) o_.2.1)) = zOf D_ := congrArg zOf hdd.2.symm
      have hP : va_P D vwCl (WM ca q th st ik ln (nI (no C)) pa iw (nI o_.1) (nI o_.2.1) nb fo nu al (zOf D_) be ke te ti ne wa ta1_14 out1_15 pl lo sh le) H := (congrArg (fun x_ => va_P D vwCl (WM ca q th st ik ln (nI (no C)) pa iw (nI o_.1) (nI o_.2.1) nb fo nu al x_ be ke te ti ne wa ta1_14 out1_15 pl lo sh le) H) ew_).mp hP
      have hD : va_D A (WM ca q th st ik ln (nI (no C)) pa iw (nI o_.1) (nI o_.2.1) nb fo nu al (zOf D_) be ke te ti ne wa ta1_14 out1_15 pl lo sh le) := (congrArg (fun x_ => va_D A (WM ca q th st ik ln (nI (no C)) pa iw (nI o_.1) (nI o_.2.1) nb fo nu al x_ be ke te ti ne wa ta1_14 out1_15 pl lo sh le)) ew_).mp hD
      clear ew_
      subst hQQ
      refine (xe_z (b := true) (nI o_.2.1, nb, ta1_14, out1_15, nI (no C)) hx hb hr hlocks hK hP hD hS (rfl) dX3_does_178)
    have n_50_63 : ¬ o_.1 = 63 := c_50
    clear c_50
    refine lv_lookup (x := nI o_.1) (tgt := 179) (off := 129) hx hb dX3_does_50 (by decide) ((lv_osw (k := nI 35) (fun h_ => n_50_35 (nI_inj (by omega) (by decide) h_)) rfl).trans ((lv_osw (k := nI 62) (fun h_ => n_50_62 (nI_inj (by omega) (by decide) h_)) rfl).trans ((lv_osw (k := nI 63) (fun h_ => n_50_63 (nI_inj (by omega) (by decide) h_)) rfl).trans rfl))) (by decide) ?_
    have hdd := doss_s c_10 n_50_62 n_50_35 n_50_63 hd
    refine lv_aload_n hx hb dX3_does_179 rfl (lv_at hl 1 rfl) ?_
    refine xc_v (xr_V (b := q 0) (ci := 2) (q0 := 0) (As := []) (rest := []) (mt_X3_suspects l D ca q th st ik ln ou pa iw (nI o_.1) na nb fo nu al be ke te ti ne wa ta out pl lo sh le C (by first | assumption | omega | (simp only [updN, forgetC, changedC]; (repeat' split) <;> omega)) H.size) ⟨hx, hb, hml, hown, hts⟩ (cwV 0 hts (lw_V q1769 q1771 qs54 q87 q1772) rfl rfl rfl (by decide +kernel) ⟨Nat.le_of_ble_eq_true rfl, Nat.le_of_ble_eq_true rfl⟩) Ev0_ok hE hK hS (Cut.all hP hD hS hA) rfl rfl rfl hl.1 rfl (Nat.le_of_ble_eq_true rfl) dX3_does_180 ⟨Nat.le_of_ble_eq_true rfl, Nat.le_of_ble_eq_true rfl⟩) hS (Cut.all hP hD hS hA) (fun u_17 H locs hq_180 hP hD hS => ?_)
    have hP : va_P D vwCl (WM ca q th st ik ln ou pa iw (nI o_.1) na nb fo nu al (zOf (suspectC C)) be ke te ti ne wa ta out pl lo sh le) H := hP
    have hD : va_D A (WM ca q th st ik ln ou pa iw (nI o_.1) na nb fo nu al (zOf (suspectC C)) be ke te ti ne wa ta out pl lo sh le) := hD
    refine lv_iconst (v := nI 1) hx hb dX3_does_183 (by decide) ?_
    have ew_ : zOf (suspectC C) = zOf D_ := congrArg zOf hdd.symm
    have hP : va_P D vwCl (WM ca q th st ik ln ou pa iw (nI o_.1) na nb fo nu al (zOf D_) be ke te ti ne wa ta out pl lo sh le) H := (congrArg (fun x_ => va_P D vwCl (WM ca q th st ik ln ou pa iw (nI o_.1) na nb fo nu al x_ be ke te ti ne wa ta out pl lo sh le) H) ew_).mp hP
    have hD : va_D A (WM ca q th st ik ln ou pa iw (nI o_.1) na nb fo nu al (zOf D_) be ke te ti ne wa ta out pl lo sh le) := (congrArg (fun x_ => va_D A (WM ca q th st ik ln ou pa iw (nI o_.1) na nb fo nu al x_ be ke te ti ne wa ta out pl lo sh le)) ew_).mp hD
    clear ew_
    subst hQQ
    refine (xe_z (b := true) (na, nb, ta, out, ou) hx hb hr hlocks hK hP hD hS (rfl) dX3_does_184)
  · skip
    have hkl := kf_le o_.1
    have hl : lv_has ls 2 [(1, .int (nI (kf o_.1 - 1))), (0, .ref (q 0))] := (congrArg (fun x_ => lv_has ls 2 [(1, .int x_), (0, .ref (q 0))]) (show fI (kf o_.1) = nI (kf o_.1 - 1) from fI_pos c_10)).mp hl
    have ew_ : na = nI o_.2.1 := hna.resolve_left (kf_sg c_10).2.2.2
    have hP : va_P D vwCl (WM ca q th st ik ln ou pa iw (nI o_.1) (nI o_.2.1) nb fo nu al (zOf C) be ke te ti ne wa ta out pl lo sh le) H := (congrArg (fun x_ => va_P D vwCl (WM ca q th st ik ln ou pa iw (nI o_.1) x_ nb fo nu al (zOf C) be ke te ti ne wa ta out pl lo sh le) H) ew_).mp hP
    have hD : va_D A (WM ca q th st ik ln ou pa iw (nI o_.1) (nI o_.2.1) nb fo nu al (zOf C) be ke te ti ne wa ta out pl lo sh le) := (congrArg (fun x_ => va_D A (WM ca q th st ik ln ou pa iw (nI o_.1) x_ nb fo nu al (zOf C) be ke te ti ne wa ta out pl lo sh le)) ew_).mp hD
    clear ew_
    have ew_ : nb = nI o_.2.2 := hnb.resolve_left c_10
    have hP : va_P D vwCl (WM ca q th st ik ln ou pa iw (nI o_.1) (nI o_.2.1) (nI o_.2.2) fo nu al (zOf C) be ke te ti ne wa ta out pl lo sh le) H := (congrArg (fun x_ => va_P D vwCl (WM ca q th st ik ln ou pa iw (nI o_.1) (nI o_.2.1) x_ fo nu al (zOf C) be ke te ti ne wa ta out pl lo sh le) H) ew_).mp hP
    have hD : va_D A (WM ca q th st ik ln ou pa iw (nI o_.1) (nI o_.2.1) (nI o_.2.2) fo nu al (zOf C) be ke te ti ne wa ta out pl lo sh le) := (congrArg (fun x_ => va_D A (WM ca q th st ik ln ou pa iw (nI o_.1) (nI o_.2.1) x_ fo nu al (zOf C) be ke te ti ne wa ta out pl lo sh le)) ew_).mp hD
    clear ew_
    have hdd := dosk_s c_10 hd
    have hkb := orn_k hor c_10
    refine lv_aload_n hx hb dX3_does_13 rfl (lv_at hl 1 rfl) ?_
    refine lv_iload_n hx hb dX3_does_14 rfl (lv_at hl 0 rfl) ?_
    refine lv_aload_n hx hb dX3_does_15 rfl (lv_at hl 1 rfl) ?_
    refine gWM_0_one_X3 hx hb hts hown hK hP dX3_does_16 ?_
    refine lv_aload_n hx hb dX3_does_19 rfl (lv_at hl 1 rfl) ?_
    refine gWM_0_two_X3 hx hb hts hown hK hP dX3_does_20 ?_
    refine xc_i (xr_V (b := q 0) (ci := 2) (q0 := 0) (As := [.int (nI (kf o_.1 - 1)), .int (nI o_.2.1), .int (nI o_.2.2)]) (rest := []) (mt_X3_noGate l D ca q th st ik ln ou pa iw (nI o_.1) (nI o_.2.1) (nI o_.2.2) fo nu al be ke te ti ne wa ta out pl lo sh le C (nI (kf o_.1 - 1)) (nI o_.2.1) (nI o_.2.2) (by first | assumption | omega | (simp only [updN, forgetC, changedC]; (repeat' split) <;> omega)) H.size) ⟨hx, hb, hml, hown, hts⟩ (cwV 3 hts (lw_V q1688 q1690 qs43 q87 q1691) rfl rfl rfl (by decide +kernel) ⟨Nat.le_of_ble_eq_true rfl, Nat.le_of_ble_eq_true rfl⟩) Ev0_ok hE hK hS (Cut.all hP hD hS hA) rfl rfl rfl hl.1 rfl (Nat.le_of_ble_eq_true rfl) dX3_does_23 ⟨Nat.le_of_ble_eq_true rfl, Nat.le_of_ble_eq_true rfl⟩) hS (Cut.all hP hD hS hA) (fun r_18 u_19 H locs hq_23 hP hD hS => ?_)
    have hP : va_P D vwCl (WM ca q th st ik ln ou pa iw (nI o_.1) (nI o_.2.1) (nI o_.2.2) fo nu al (zOf C) be ke te ti ne wa ta out pl lo sh le) H := hP
    have hD : va_D A (WM ca q th st ik ln ou pa iw (nI o_.1) (nI o_.2.1) (nI o_.2.2) fo nu al (zOf C) be ke te ti ne wa ta out pl lo sh le) := hD
    have hp_23 : r_18 = nI (ncode C (nI (kf o_.1 - 1)) (nI o_.2.1) (nI o_.2.2)) := hq_23
    clear hq_23
    obtain rfl := hp_23
    refine nv_if_le (tgt := 31) hx hb dX3_does_26 (by decide) (by have := ncode_le C (nI (kf o_.1 - 1)) (nI o_.2.1) (nI o_.2.2); omega) (fun c_26 => ?_) (fun c_26 => absurd hdd.1 (by omega))
    refine lv_aload_n hx hb dX3_does_31 rfl (lv_at hl 1 rfl) ?_
    refine lv_iload_n hx hb dX3_does_32 rfl (lv_at hl 0 rfl) ?_
    refine lv_aload_n hx hb dX3_does_33 rfl (lv_at hl 1 rfl) ?_
    refine gWM_0_one_X3 hx hb hts hown hK hP dX3_does_34 ?_
    refine lv_aload_n hx hb dX3_does_37 rfl (lv_at hl 1 rfl) ?_
    refine gWM_0_two_X3 hx hb hts hown hK hP dX3_does_38 ?_
    refine xc_v (xr_V (b := q 0) (ci := 2) (q0 := 0) (As := [.int (nI (kf o_.1 - 1)), .int (nI o_.2.1), .int (nI o_.2.2)]) (rest := []) (mt_X3_adds l D ca q th st ik ln ou pa iw (nI o_.1) (nI o_.2.1) (nI o_.2.2) fo nu al be ke te ti ne wa ta out pl lo sh le C (kf o_.1 - 1) o_.2.1 o_.2.2 (ncode_0 (by omega) (by omega) (by omega) hi0 hdd.1).2.2.2 (ncode_0 (by omega) (by omega) (by omega) hi0 hdd.1).1 (ncode_0 (by omega) (by omega) (by omega) hi0 hdd.1).2.1 (ncode_0 (by omega) (by omega) (by omega) hi0 hdd.1).2.2.1 hi39 H.size) ⟨hx, hb, hml, hown, hts⟩ (cwV 3 hts (lw_V q1703 q1705 qs46 q87 q1706) rfl rfl rfl (by decide +kernel) ⟨Nat.le_of_ble_eq_true rfl, Nat.le_of_ble_eq_true rfl⟩) Ev0_ok hE hK hS (Cut.all hP hD hS hA) rfl rfl rfl hl.1 rfl (Nat.le_of_ble_eq_true rfl) dX3_does_41 ⟨Nat.le_of_ble_eq_true rfl, Nat.le_of_ble_eq_true rfl⟩) hS (Cut.all hP hD hS hA) (fun u_21 H locs hq_41 hP hD hS => ?_)
    have hP : va_P D vwCl (WM ca q th st ik ln ou pa iw (nI o_.1) (nI o_.2.1) (nI o_.2.2) fo nu al (zOf (addsC C (kf o_.1 - 1) o_.2.1 o_.2.2)) be ke te ti ne wa ta out pl lo sh le) H := hP
    have hD : va_D A (WM ca q th st ik ln ou pa iw (nI o_.1) (nI o_.2.1) (nI o_.2.2) fo nu al (zOf (addsC C (kf o_.1 - 1) o_.2.1 o_.2.2)) be ke te ti ne wa ta out pl lo sh le) := hD
    refine lv_iconst (v := nI 1) hx hb dX3_does_44 (by decide) ?_
    have ew_ : zOf (addsC C (kf o_.1 - 1) o_.2.1 o_.2.2) = zOf D_ := congrArg zOf hdd.2.symm
    have hP : va_P D vwCl (WM ca q th st ik ln ou pa iw (nI o_.1) (nI o_.2.1) (nI o_.2.2) fo nu al (zOf D_) be ke te ti ne wa ta out pl lo sh le) H := (congrArg (fun x_ => va_P D vwCl (WM ca q th st ik ln ou pa iw (nI o_.1) (nI o_.2.1) (nI o_.2.2) fo nu al x_ be ke te ti ne wa ta out pl lo sh le) H) ew_).mp hP
    have hD : va_D A (WM ca q th st ik ln ou pa iw (nI o_.1) (nI o_.2.1) (nI o_.2.2) fo nu al (zOf D_) be ke te ti ne wa ta out pl lo sh le) := (congrArg (fun x_ => va_D A (WM ca q th st ik ln ou pa iw (nI o_.1) (nI o_.2.1) (nI o_.2.2) fo nu al x_ be ke te ti ne wa ta out pl lo sh le)) ew_).mp hD
    clear ew_
    subst hQQ
    refine (xe_z (b := true) (nI o_.2.1, nI o_.2.2, ta, out, ou) hx hb hr hlocks hK hP hD hS (rfl) dX3_does_45)
set_option maxHeartbeats 4000000 in
set_option maxRecDepth 100000 in
theorem mt_X3_does_no (l : Launch) (D : va_G) (ca : Nat → ClassId) (q : Nat → Nat) (th : Int32) (st : Int32) (ik : Int32) (ln : Int32) (ou : Int32) (pa : Int32) (iw : Int32) (na : Int32) (nb : Int32) (fo : Int32) (nu : Int32) (al : Int32) (be : Nat → Int32) (ke : Nat → Int32) (te : Nat → Int32) (ti : Nat → Int32) (ne : Nat → Int32) (wa : Nat → Int32) (ta : Nat → Int64) (out : Nat → Int64) (pl : Nat → Int64) (lo : Nat → Int64) (sh : Nat → Int64) (le : Nat → Int64) (C : Nat → Nat) (o_ : Nat × Nat × Nat) (hI : Inv C) (hor : orn o_) (hna : o_.1 = 37 ∨ na = nI o_.2.1) (hnb : kf o_.1 = 0 ∨ nb = nI o_.2.2) (hd : dosC C o_ = none) (nn : Nat) : Met l yX3_does (ws_ yX3_does cX3_does 2 (Option.some Jvm.ClassFile.FieldType.boolean)) ({ frames := 3, cells := 0, slots := 0, locals := 66 } : Room) (va_Pc [.ref (q 0)] (PreW Ev0 D vwCl (TY ca) (WM ca q th st ik ln ou pa iw (nI o_.1) na nb fo nu al (zOf C) be ke te ti ne wa ta out pl lo sh le) nn)) (va_Qi (fun (r_ : Int32) (u_ : Int32 × Int32 × (Nat → Int64) × (Nat → Int64) × Int32) => r_ = bI false) (PostW D vwCl (TY ca) (fun (u_ : Int32 × Int32 × (Nat → Int64) × (Nat → Int64) × Int32) => (WM ca q th st ik ln u_.2.2.2.2 pa iw (nI o_.1) u_.1 u_.2.1 fo nu al (zOf C) be ke te ti ne wa u_.2.2.1 u_.2.2.2.1 pl lo sh le)) (va_A (WM ca q th st ik ln ou pa iw (nI o_.1) na nb fo nu al (zOf C) be ke te ti ne wa ta out pl lo sh le) nn)) (va_A (WM ca q th st ik ln ou pa iw (nI o_.1) na nb fo nu al (zOf C) be ke te ti ne wa ta out pl lo sh le) nn)) 0 0 (va_A (WM ca q th st ik ln ou pa iw (nI o_.1) na nb fo nu al (zOf C) be ke te ti ne wa ta out pl lo sh le) nn) := by
  refine met_go (QA := fun A => va_Qi (fun (r_ : Int32) (u_ : Int32 × Int32 × (Nat → Int64) × (Nat → Int64) × Int32) => r_ = bI false) (PostW D vwCl (TY ca) (fun (u_ : Int32 × Int32 × (Nat → Int64) × (Nat → Int64) × Int32) => (WM ca q th st ik ln u_.2.2.2.2 pa iw (nI o_.1) u_.1 u_.2.1 fo nu al (zOf C) be ke te ti ne wa u_.2.2.1 u_.2.2.2.1 pl lo sh le)) A) A) (by decide) (Nat.le_of_ble_eq_true rfl) (fun p e s m below meth c A ls QQ hQQ hx hb hr hts hown hlocks hml hA hP hK hD hE hl => ?_)
  have hown : s.vm.findClass RX3 = some m.cls := hown
  have hS : va_S A s.heap s.heap [] := va_S.rf
  have hl : lv_has ls 2 [(0, .ref (q 0))] := hl
  generalize hHe : s.heap = H at hP ⊢
  have hS : va_S A s.heap H [] := hHe ▸ hS
  generalize ([] : List Loc) = locs at hS ⊢
  have hi41 := hI.2.2.2.2.2.2.2.2.2.2.1
  have hol := orn_le hor
  have hi0 := hI.1
  have hik := hI.2.1
  have his := hI.2.2.1
  have hio := hI.ho
  have hib := hI.hbx
  have hi39 := hI.h39
  have hino := hI.hno
  have hi40 := hI.2.2.2.2.2.2.2.2.2.1
  refine lv_aload_n hx hb dX3_does_0 rfl (lv_at hl 0 rfl) ?_
  refine gWM_0_sort_X3 hx hb hts hown hK hP dX3_does_1 ?_
  refine xc_i (xr_S (As := [.int (nI o_.1)]) (rest := []) (mt_X3_kindFor l D ca o_.1 (by have := orn_le hor; omega) H.size) ⟨hx, hb, hml, hown, hts⟩ (va_cwS 1 hts (lw_S q1887 q1888 q87 q1889) rfl rfl rfl (by decide +kernel) ⟨Nat.le_of_ble_eq_true rfl, Nat.le_of_ble_eq_true rfl⟩) Ev0_ok hE hK hS (Cut.app (wc := []) (wr := (WM ca q th st ik ln ou pa iw (nI o_.1) na nb fo nu al (zOf C) be ke te ti ne wa ta out pl lo sh le)) hP hD hS hA) rfl hl.1 rfl (Nat.le_of_ble_eq_true rfl) dX3_does_4 ⟨Nat.le_of_ble_eq_true rfl, Nat.le_of_ble_eq_true rfl⟩) hS (Cut.app (wc := []) (wr := (WM ca q th st ik ln ou pa iw (nI o_.1) na nb fo nu al (zOf C) be ke te ti ne wa ta out pl lo sh le)) hP hD hS hA) (fun r_1 u_2 H locs hq_4 hP hD hS => ?_)
  have hP : va_P D vwCl (WM ca q th st ik ln ou pa iw (nI o_.1) na nb fo nu al (zOf C) be ke te ti ne wa ta out pl lo sh le) H := hP
  have hD : va_D A (WM ca q th st ik ln ou pa iw (nI o_.1) na nb fo nu al (zOf C) be ke te ti ne wa ta out pl lo sh le) := hD
  have hp_4 : r_1 = fI (kf o_.1) := hq_4
  clear hq_4
  obtain rfl := hp_4
  refine lv_istore_n (lv' := [(1, .int (fI (kf o_.1))), (0, .ref (q 0))]) hx hb dX3_does_7 rfl hl (by decide) rfl (fun ls hl => ?_)
  refine lv_iload_n hx hb dX3_does_8 rfl (lv_at hl 0 rfl) ?_
  refine lv_iconst (v := fI 0) hx hb dX3_does_9 (by decide) ?_
  refine nv_icmp_eqf (tgt := 46) hx hb dX3_does_10 (by decide) (by have := kf_le o_.1; omega) (fun c_10 => ?_) (fun c_10 => ?_)
  · skip
    refine lv_aload_n hx hb dX3_does_46 rfl (lv_at hl 1 rfl) ?_
    refine gWM_0_sort_X3 hx hb hts hown hK hP dX3_does_47 ?_
    by_cases c_50 : o_.1 = 35
    · skip
      refine lv_lookup (x := nI o_.1) (tgt := 114) (off := 64) hx hb dX3_does_50 (by decide) (by rw [c_50]; decide) (by decide) ?_
      have ew_ : na = nI o_.2.1 := hna.resolve_left (by omega)
      have hP : va_P D vwCl (WM ca q th st ik ln ou pa iw (nI o_.1) (nI o_.2.1) nb fo nu al (zOf C) be ke te ti ne wa ta out pl lo sh le) H := (congrArg (fun x_ => va_P D vwCl (WM ca q th st ik ln ou pa iw (nI o_.1) x_ nb fo nu al (zOf C) be ke te ti ne wa ta out pl lo sh le) H) ew_).mp hP
      have hD : va_D A (WM ca q th st ik ln ou pa iw (nI o_.1) (nI o_.2.1) nb fo nu al (zOf C) be ke te ti ne wa ta out pl lo sh le) := (congrArg (fun x_ => va_D A (WM ca q th st ik ln ou pa iw (nI o_.1) x_ nb fo nu al (zOf C) be ke te ti ne wa ta out pl lo sh le)) ew_).mp hD
      clear ew_
      have hdd := dosb_n c_10 c_50 hd
      have hbd : o_.2.1 < 64 := orn_b hor (Or.inr (Or.inl c_50))
      refine lv_aload_n hx hb dX3_does_114 rfl (lv_at hl 1 rfl) ?_
      refine lv_aload_n hx hb dX3_does_115 rfl (lv_at hl 1 rfl) ?_
      refine gWM_0_one_X3 hx hb hts hown hK hP dX3_does_116 ?_
      refine lv_bipush (v := nI 6) hx hb dX3_does_119 (by decide) ?_
      refine lv_isub hx hb dX3_does_121 ?_
      refine xc_i (xr_V (b := q 0) (ci := 2) (q0 := 0) (As := [.int ((nI o_.2.1) - (nI 6))]) (rest := []) (mt_X3_noBox l D ca q th st ik ln ou pa iw (nI o_.1) (nI o_.2.1) nb fo nu al be ke te ti ne wa ta out pl lo sh le C ((nI o_.2.1) - (nI 6)) (by first | assumption | omega | (simp only [updN, forgetC, changedC]; (repeat' split) <;> omega)) (by first | assumption | omega | (simp only [updN, forgetC, changedC]; (repeat' split) <;> omega)) (by first | assumption | omega | (simp only [updN, forgetC, changedC]; (repeat' split) <;> omega)) H.size) ⟨hx, hb, hml, hown, hts⟩ (cwV 1 hts (lw_V q1757 q1759 qs53 q87 q1760) rfl rfl rfl (by decide +kernel) ⟨Nat.le_of_ble_eq_true rfl, Nat.le_of_ble_eq_true rfl⟩) Ev0_ok hE hK hS (Cut.all hP hD hS hA) rfl rfl rfl hl.1 rfl (Nat.le_of_ble_eq_true rfl) dX3_does_122 ⟨Nat.le_of_ble_eq_true rfl, Nat.le_of_ble_eq_true rfl⟩) hS (Cut.all hP hD hS hA) (fun r_4 u_5 H locs hq_122 hP hD hS => ?_)
      have hP : va_P D vwCl (WM ca q th st ik ln ou pa iw (nI o_.1) (nI o_.2.1) nb fo nu al (zOf C) be ke te ti ne wa ta out pl lo sh le) H := hP
      have hD : va_D A (WM ca q th st ik ln ou pa iw (nI o_.1) (nI o_.2.1) nb fo nu al (zOf C) be ke te ti ne wa ta out pl lo sh le) := hD
      have hp_122 : r_4 = nI (boxcode C ((nI o_.2.1) - (nI 6))) := hq_122
      clear hq_122
      obtain rfl := hp_122
      refine nv_if_ne (tgt := 148) hx hb dX3_does_125 (by decide) (by have := boxcode_le C (nI o_.2.1 - nI 6); omega) (fun c_125 => ?_) (fun c_125 => absurd c_125 hdd)
      refine lv_iconst (v := nI 0) hx hb dX3_does_148 (by decide) ?_
      subst hQQ
      refine (xe_z (b := false) (nI o_.2.1, nb, ta, out, ou) hx hb hr hlocks hK hP hD hS (rfl) dX3_does_149)
    have n_50_35 : ¬ o_.1 = 35 := c_50
    clear c_50
    by_cases c_50 : o_.1 = 62
    · skip
      refine lv_lookup (x := nI o_.1) (tgt := 84) (off := 34) hx hb dX3_does_50 (by decide) (by rw [c_50]; decide) (by decide) ?_
      have ew_ : na = nI o_.2.1 := hna.resolve_left (by omega)
      have hP : va_P D vwCl (WM ca q th st ik ln ou pa iw (nI o_.1) (nI o_.2.1) nb fo nu al (zOf C) be ke te ti ne wa ta out pl lo sh le) H := (congrArg (fun x_ => va_P D vwCl (WM ca q th st ik ln ou pa iw (nI o_.1) x_ nb fo nu al (zOf C) be ke te ti ne wa ta out pl lo sh le) H) ew_).mp hP
      have hD : va_D A (WM ca q th st ik ln ou pa iw (nI o_.1) (nI o_.2.1) nb fo nu al (zOf C) be ke te ti ne wa ta out pl lo sh le) := (congrArg (fun x_ => va_D A (WM ca q th st ik ln ou pa iw (nI o_.1) x_ nb fo nu al (zOf C) be ke te ti ne wa ta out pl lo sh le)) ew_).mp hD
      clear ew_
      have hdd := doso_n c_10 c_50 hd
      have hbd : o_.2.1 < 64 := orn_b hor (Or.inl c_50)
      refine lv_aload_n hx hb dX3_does_84 rfl (lv_at hl 1 rfl) ?_
      refine lv_aload_n hx hb dX3_does_85 rfl (lv_at hl 1 rfl) ?_
      refine gWM_0_one_X3 hx hb hts hown hK hP dX3_does_86 ?_
      refine xc_i (xr_V (b := q 0) (ci := 2) (q0 := 0) (As := [.int (nI o_.2.1)]) (rest := []) (mt_X3_noOutput l D ca q th st ik ln ou pa iw (nI o_.1) (nI o_.2.1) nb fo nu al be ke te ti ne wa ta out pl lo sh le C (nI o_.2.1) (by first | assumption | omega | (simp only [updN, forgetC, changedC]; (repeat' split) <;> omega)) (by first | assumption | omega | (simp only [updN, forgetC, changedC]; (repeat' split) <;> omega)) H.size) ⟨hx, hb, hml, hown, hts⟩ (cwV 1 hts (lw_V q1742 q1744 qs51 q87 q1745) rfl rfl rfl (by decide +kernel) ⟨Nat.le_of_ble_eq_true rfl, Nat.le_of_ble_eq_true rfl⟩) Ev0_ok hE hK hS (Cut.all hP hD hS hA) rfl rfl rfl hl.1 rfl (Nat.le_of_ble_eq_true rfl) dX3_does_89 ⟨Nat.le_of_ble_eq_true rfl, Nat.le_of_ble_eq_true rfl⟩) hS (Cut.all hP hD hS hA) (fun r_6 u_7 H locs hq_89 hP hD hS => ?_)
      have hP : va_P D vwCl (WM ca q th st ik ln ou pa iw (nI o_.1) (nI o_.2.1) nb fo nu al (zOf C) be ke te ti ne wa ta out pl lo sh le) H := hP
      have hD : va_D A (WM ca q th st ik ln ou pa iw (nI o_.1) (nI o_.2.1) nb fo nu al (zOf C) be ke te ti ne wa ta out pl lo sh le) := hD
      have hp_89 : r_6 = nI (outcode C (nI o_.2.1)) := hq_89
      clear hq_89
      obtain rfl := hp_89
      refine nv_if_ne (tgt := 112) hx hb dX3_does_92 (by decide) (by have := outcode_le C (nI o_.2.1); omega) (fun c_92 => ?_) (fun c_92 => absurd c_92 hdd)
      refine lv_iconst (v := nI 0) hx hb dX3_does_112 (by decide) ?_
      subst hQQ
      refine (xe_z (b := false) (nI o_.2.1, nb, ta, out, ou) hx hb hr hlocks hK hP hD hS (rfl) dX3_does_113)
    have n_50_62 : ¬ o_.1 = 62 := c_50
    clear c_50
    by_cases c_50 : o_.1 = 63
    · skip
      refine lv_lookup (x := nI o_.1) (tgt := 150) (off := 100) hx hb dX3_does_50 (by decide) (by rw [c_50]; decide) (by decide) ?_
      have ew_ : na = nI o_.2.1 := hna.resolve_left (by omega)
      have hP : va_P D vwCl (WM ca q th st ik ln ou pa iw (nI o_.1) (nI o_.2.1) nb fo nu al (zOf C) be ke te ti ne wa ta out pl lo sh le) H := (congrArg (fun x_ => va_P D vwCl (WM ca q th st ik ln ou pa iw (nI o_.1) x_ nb fo nu al (zOf C) be ke te ti ne wa ta out pl lo sh le) H) ew_).mp hP
      have hD : va_D A (WM ca q th st ik ln ou pa iw (nI o_.1) (nI o_.2.1) nb fo nu al (zOf C) be ke te ti ne wa ta out pl lo sh le) := (congrArg (fun x_ => va_D A (WM ca q th st ik ln ou pa iw (nI o_.1) x_ nb fo nu al (zOf C) be ke te ti ne wa ta out pl lo sh le)) ew_).mp hD
      clear ew_
      have hdd := dost_n c_10 c_50 hd
      have hbd : o_.2.1 < 64 := orn_b hor (Or.inr (Or.inr c_50))
      refine lv_aload_n hx hb dX3_does_150 rfl (lv_at hl 1 rfl) ?_
      refine gWM_0_z_X3 hx hb hts hown hK hP dX3_does_151 ?_
      refine lv_bipush (v := nI 41) hx hb dX3_does_154 (by decide) ?_
      refine ldWM_1 hx hb hK hP (by omega) dX3_does_156 ?_
      refine lv_topi (nm_r (e' := nI (C 41)) (rfl) ?_)
      refine lv_bipush (v := nI 12) hx hb dX3_does_157 (by decide) ?_
      refine nv_icmp_ge (tgt := 177) hx hb dX3_does_159 (by decide) (by omega) (by omega) (fun c_159 => ?_) (fun c_159 => absurd hdd (by omega))
      refine lv_iconst (v := nI 0) hx hb dX3_does_177 (by decide) ?_
      subst hQQ
      refine (xe_z (b := false) (nI o_.2.1, nb, ta, out, ou) hx hb hr hlocks hK hP hD hS (rfl) dX3_does_178)
    have n_50_63 : ¬ o_.1 = 63 := c_50
    clear c_50
    refine lv_lookup (x := nI o_.1) (tgt := 179) (off := 129) hx hb dX3_does_50 (by decide) ((lv_osw (k := nI 35) (fun h_ => n_50_35 (nI_inj (by omega) (by decide) h_)) rfl).trans ((lv_osw (k := nI 62) (fun h_ => n_50_62 (nI_inj (by omega) (by decide) h_)) rfl).trans ((lv_osw (k := nI 63) (fun h_ => n_50_63 (nI_inj (by omega) (by decide) h_)) rfl).trans rfl))) (by decide) ?_
    exact (doss_n c_10 n_50_62 n_50_35 n_50_63 hd).elim
  · skip
    have hkl := kf_le o_.1
    have hl : lv_has ls 2 [(1, .int (nI (kf o_.1 - 1))), (0, .ref (q 0))] := (congrArg (fun x_ => lv_has ls 2 [(1, .int x_), (0, .ref (q 0))]) (show fI (kf o_.1) = nI (kf o_.1 - 1) from fI_pos c_10)).mp hl
    have ew_ : na = nI o_.2.1 := hna.resolve_left (kf_sg c_10).2.2.2
    have hP : va_P D vwCl (WM ca q th st ik ln ou pa iw (nI o_.1) (nI o_.2.1) nb fo nu al (zOf C) be ke te ti ne wa ta out pl lo sh le) H := (congrArg (fun x_ => va_P D vwCl (WM ca q th st ik ln ou pa iw (nI o_.1) x_ nb fo nu al (zOf C) be ke te ti ne wa ta out pl lo sh le) H) ew_).mp hP
    have hD : va_D A (WM ca q th st ik ln ou pa iw (nI o_.1) (nI o_.2.1) nb fo nu al (zOf C) be ke te ti ne wa ta out pl lo sh le) := (congrArg (fun x_ => va_D A (WM ca q th st ik ln ou pa iw (nI o_.1) x_ nb fo nu al (zOf C) be ke te ti ne wa ta out pl lo sh le)) ew_).mp hD
    clear ew_
    have ew_ : nb = nI o_.2.2 := hnb.resolve_left c_10
    have hP : va_P D vwCl (WM ca q th st ik ln ou pa iw (nI o_.1) (nI o_.2.1) (nI o_.2.2) fo nu al (zOf C) be ke te ti ne wa ta out pl lo sh le) H := (congrArg (fun x_ => va_P D vwCl (WM ca q th st ik ln ou pa iw (nI o_.1) (nI o_.2.1) x_ fo nu al (zOf C) be ke te ti ne wa ta out pl lo sh le) H) ew_).mp hP
    have hD : va_D A (WM ca q th st ik ln ou pa iw (nI o_.1) (nI o_.2.1) (nI o_.2.2) fo nu al (zOf C) be ke te ti ne wa ta out pl lo sh le) := (congrArg (fun x_ => va_D A (WM ca q th st ik ln ou pa iw (nI o_.1) (nI o_.2.1) x_ fo nu al (zOf C) be ke te ti ne wa ta out pl lo sh le)) ew_).mp hD
    clear ew_
    have hdd := dosk_n c_10 hd
    have hkb := orn_k hor c_10
    refine lv_aload_n hx hb dX3_does_13 rfl (lv_at hl 1 rfl) ?_
    refine lv_iload_n hx hb dX3_does_14 rfl (lv_at hl 0 rfl) ?_
    refine lv_aload_n hx hb dX3_does_15 rfl (lv_at hl 1 rfl) ?_
    refine gWM_0_one_X3 hx hb hts hown hK hP dX3_does_16 ?_
    refine lv_aload_n hx hb dX3_does_19 rfl (lv_at hl 1 rfl) ?_
    refine gWM_0_two_X3 hx hb hts hown hK hP dX3_does_20 ?_
    refine xc_i (xr_V (b := q 0) (ci := 2) (q0 := 0) (As := [.int (nI (kf o_.1 - 1)), .int (nI o_.2.1), .int (nI o_.2.2)]) (rest := []) (mt_X3_noGate l D ca q th st ik ln ou pa iw (nI o_.1) (nI o_.2.1) (nI o_.2.2) fo nu al be ke te ti ne wa ta out pl lo sh le C (nI (kf o_.1 - 1)) (nI o_.2.1) (nI o_.2.2) (by first | assumption | omega | (simp only [updN, forgetC, changedC]; (repeat' split) <;> omega)) H.size) ⟨hx, hb, hml, hown, hts⟩ (cwV 3 hts (lw_V q1688 q1690 qs43 q87 q1691) rfl rfl rfl (by decide +kernel) ⟨Nat.le_of_ble_eq_true rfl, Nat.le_of_ble_eq_true rfl⟩) Ev0_ok hE hK hS (Cut.all hP hD hS hA) rfl rfl rfl hl.1 rfl (Nat.le_of_ble_eq_true rfl) dX3_does_23 ⟨Nat.le_of_ble_eq_true rfl, Nat.le_of_ble_eq_true rfl⟩) hS (Cut.all hP hD hS hA) (fun r_8 u_9 H locs hq_23 hP hD hS => ?_)
    have hP : va_P D vwCl (WM ca q th st ik ln ou pa iw (nI o_.1) (nI o_.2.1) (nI o_.2.2) fo nu al (zOf C) be ke te ti ne wa ta out pl lo sh le) H := hP
    have hD : va_D A (WM ca q th st ik ln ou pa iw (nI o_.1) (nI o_.2.1) (nI o_.2.2) fo nu al (zOf C) be ke te ti ne wa ta out pl lo sh le) := hD
    have hp_23 : r_8 = nI (ncode C (nI (kf o_.1 - 1)) (nI o_.2.1) (nI o_.2.2)) := hq_23
    clear hq_23
    obtain rfl := hp_23
    refine nv_if_le (tgt := 31) hx hb dX3_does_26 (by decide) (by have := ncode_le C (nI (kf o_.1 - 1)) (nI o_.2.1) (nI o_.2.2); omega) (fun c_26 => absurd hdd (by omega)) (fun c_26 => ?_)
    refine lv_iconst (v := nI 0) hx hb dX3_does_29 (by decide) ?_
    subst hQQ
    refine (xe_z (b := false) (nI o_.2.1, nI o_.2.2, ta, out, ou) hx hb hr hlocks hK hP hD hS (rfl) dX3_does_30)
