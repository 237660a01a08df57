/-! the component: answers by tables -/
set_option maxRecDepth 100000
/-- the answer to a test out of the tables T, lines below n -/
def anL (C : Nat → Nat) (T : Nat → Int64) (t : Nat) : Nat → Nat
  | 0 => 0
  | n + 1 => if (C 37).testBit n = true then anL C T t n ||| (b2n (bit64 (T n) t) <<< popc n (C 37)) else anL C T t n
theorem anL_an {C : Nat → Nat} {T : Nat → Int64} {t : Nat} : ∀ n, n ≤ 6 + C 0 → anL C T t n = anF (popc n (C 37)) (ou0 C T) t := by
  intro n; induction n with
  | zero => intro _; rfl
  | succ n ih =>
    intro h
    simp only [anL]
    cases hb : (C 37).testBit n with
    | true =>
      rw [if_pos rfl, popc_s hb, ih (by omega)]
      show _ = anF _ _ _ ||| (b2n (bit64 (ou0 C T (popc n (C 37))) t) <<< _)
      unfold ou0; rw [outF_pos hb (by omega)]
    | false => rw [if_neg (by decide), popc_n hb, ih (by omega)]
theorem anL_all {C : Nat → Nat} {K F t : Nat} : anL C (tb C K F) t (6 + C 0) = anC C K F t := anL_an _ (Nat.le_refl _)
theorem an_up {C : Nat → Nat} {T : Nat → Int64} {l i : Nat} {b : Nat → Int32} {v : Int32} (hl : ∀ t, t < i → b t = nI (anL C T t (l + 1))) (hr : ∀ t, i ≤ t → t < 64 → b t = nI (anL C T t l)) (hi : i < 64) (hv : v = nI (anL C T i (l + 1))) :
    (∀ t, t < i + 1 → upd b i v t = nI (anL C T t (l + 1))) ∧ ∀ t, i + 1 ≤ t → t < 64 → upd b i v t = nI (anL C T t l) := by
  constructor
  · intro t ht
    simp only [upd]
    split
    · next h => subst h; exact hv
    · exact hl t (by omega)
  · intro t h1 h2
    simp only [upd]
    rw [if_neg (by omega)]; exact hr t (by omega) h2
theorem anL_y {C : Nat → Nat} {T : Nat → Int64} {l t : Nat} (h : (C 37).testBit l = true) : anL C T t l ||| (b2n (bit64 (T l) t) <<< popc l (C 37)) = anL C T t (l + 1) := by simp only [anL]; rw [if_pos h]
theorem anL_n {C : Nat → Nat} {T : Nat → Int64} {l t : Nat} (h : (C 37).testBit l = false) : anL C T t l = anL C T t (l + 1) := by simp only [anL]; rw [if_neg (by rw [h]; decide)]
set_option maxHeartbeats 4000000 in
set_option maxRecDepth 100000 in
theorem mt_X1_layAnswers (l : Launch) (D : va_G) (ca : Nat → ClassId) (cq : Nat → Nat) (xq : Nat → Nat) (ak : Nat → Int32) (va : Nat → Int32) (fy : Nat → Int64) (cn : Nat → Int32) (an : Nat → Int32) (sw : Nat → Int64) (sb : Nat → Int64) (sv : Value) (C : Nat → Nat) (T_ : Nat → Int64) (tq_ : Nat → Int64) (h0 : C 0 ≤ 12) (ho : C 37 < 2 ^ 18) (hno : popc 18 (C 37) ≤ 4) (nn : Nat) : Met l yX1_layAnswers (ws_ yX1_layAnswers cX1_layAnswers 4 (Option.none : Option Jvm.ClassFile.FieldType)) ({ frames := 1, cells := 0, slots := 0, locals := 21 } : Room) (va_Pc [.ref (xq 0)] (PreW EvX D vwCl (TY ca) (WT ca cq xq (kdC C) (fsC C) (snC C) ak (nI (C 0)) (nI (C 37)) (nI (C 38)) (fI (C 39)) (nI (C 40)) (lN (C 66)) (nI (C 41)) (fillL (6 + C 0) T_ tq_) va fy cn an sw sb sv) nn)) (va_Qv (fun (u_ : (Nat → Int32)) => ∀ t, t < 64 → u_ t = nI (anL C T_ t (6 + C 0))) (PostW D vwCl (TY ca) (fun (u_ : (Nat → Int32)) => (WT ca cq xq (kdC C) (fsC C) (snC C) ak (nI (C 0)) (nI (C 37)) (nI (C 38)) (fI (C 39)) (nI (C 40)) (lN (C 66)) (nI (C 41)) (fillL (6 + C 0) T_ tq_) va fy cn u_ sw sb sv)) (va_A (WT ca cq xq (kdC C) (fsC C) (snC C) ak (nI (C 0)) (nI (C 37)) (nI (C 38)) (fI (C 39)) (nI (C 40)) (lN (C 66)) (nI (C 41)) (fillL (6 + C 0) T_ tq_) va fy cn an sw sb sv) nn)) (va_A (WT ca cq xq (kdC C) (fsC C) (snC C) ak (nI (C 0)) (nI (C 37)) (nI (C 38)) (fI (C 39)) (nI (C 40)) (lN (C 66)) (nI (C 41)) (fillL (6 + C 0) T_ tq_) va fy cn an sw sb sv) nn)) 0 0 (va_A (WT ca cq xq (kdC C) (fsC C) (snC C) ak (nI (C 0)) (nI (C 37)) (nI (C 38)) (fI (C 39)) (nI (C 40)) (lN (C 66)) (nI (C 41)) (fillL (6 + C 0) T_ tq_) va fy cn an sw sb sv) nn) := by
  refine met_go (QA := fun A => va_Qv (fun (u_ : (Nat → Int32)) => ∀ t, t < 64 → u_ t = nI (anL C T_ t (6 + C 0))) (PostW D vwCl (TY ca) (fun (u_ : (Nat → Int32)) => (WT ca cq xq (kdC C) (fsC C) (snC C) ak (nI (C 0)) (nI (C 37)) (nI (C 38)) (fI (C 39)) (nI (C 40)) (lN (C 66)) (nI (C 41)) (fillL (6 + C 0) T_ tq_) va fy cn u_ sw sb sv)) A) A) (by decide) (Nat.le_of_ble_eq_true rfl) (fun p e s m below meth c A ls QQ hQQ hx hb hr hts hown hlocks hml hA hP hK hD hE hl => ?_)
  have hown : s.vm.findClass RX1 = some m.cls := hown
  have hS : va_S A s.heap s.heap [] := va_S.rf
  have hl : lv_has ls 4 [(0, .ref (xq 0))] := hl
  generalize hHe : s.heap = H at hP ⊢
  have hS : va_S A s.heap H [] := hHe ▸ hS
  generalize ([] : List Loc) = locs at hS ⊢
  refine lv_iconst (v := nI 0) hx hb dX1_layAnswers_0 (by decide) ?_
  refine lv_istore_n (lv' := [(1, .int (nI 0)), (0, .ref (xq 0))]) hx hb dX1_layAnswers_1 rfl hl (by decide) rfl (fun ls hl => ?_)
  have lp_2 : ∀ (fu_2 : Nat) (i : Nat) (b_ : Nat → Int32), 64 - i < fu_2 → (i ≤ 64) → (∀ t, t < i → b_ t = nI 0) → ∀ (H : Heap) (locs : List Loc), va_P D vwCl (WT ca cq xq (kdC C) (fsC C) (snC C) ak (nI (C 0)) (nI (C 37)) (nI (C 38)) (fI (C 39)) (nI (C 40)) (lN (C 66)) (nI (C 41)) (fillL (6 + C 0) T_ tq_) va fy cn b_ sw sb sv) H → va_D A (WT ca cq xq (kdC C) (fsC C) (snC C) ak (nI (C 0)) (nI (C 37)) (nI (C 38)) (fI (C 39)) (nI (C 40)) (lN (C 66)) (nI (C 41)) (fillL (6 + C 0) T_ tq_) va fy cn b_ sw sb sv) → va_S A s.heap H locs → ∀ (ls : Array Slot), lv_has ls 4 [(1, .int (nI i)), (0, .ref (xq 0))] → W p l e ({ frames := 1, cells := 0, slots := 0, locals := 21 } : Room) s m ([.ref (xq 0)] : List Value).toArray below meth c H locs 0 0 QQ (F0 m 2 ls []) := by
    intro fu_2
    induction fu_2 with
    | zero => intro i b_ hfu; exact absurd hfu (Nat.not_lt_zero _)
    | succ fu_2 ih_2 =>
      intro i b_ hfu hi hb_ H locs hP hD hS ls hl
      refine lv_iload_n hx hb dX1_layAnswers_2 rfl (lv_at hl 0 rfl) ?_
      refine lv_bipush (v := nI 64) hx hb dX1_layAnswers_3 (by decide) ?_
      refine nv_icmp_ge (tgt := 21) hx hb dX1_layAnswers_5 (by decide) (by omega) (by omega) (fun c_5 => ?_) (fun c_5 => ?_)
      · skip
        have e_ : 64 = i := Eq.symm (by omega)
        subst e_
        refine lv_iconst (v := nI 0) hx hb dX1_layAnswers_21 (by decide) ?_
        refine lv_istore_n (lv' := [(1, .int (nI 0)), (0, .ref (xq 0))]) hx hb dX1_layAnswers_22 rfl hl (by decide) rfl (fun ls hl => ?_)
        refine lv_iconst (v := nI 0) hx hb dX1_layAnswers_23 (by decide) ?_
        refine lv_istore_n (lv' := [(2, .int (nI 0)), (1, .int (nI 0)), (0, .ref (xq 0))]) hx hb dX1_layAnswers_24 rfl hl (by decide) rfl (fun ls hl => ?_)
        have lp_25 : ∀ (fu_25 : Nat) (l_ : Nat) (b_ : Nat → Int32), 6 + C 0 - l_ < fu_25 → (l_ ≤ 6 + C 0) → (∀ t, t < 64 → b_ t = nI (anL C T_ t l_)) → ∀ (H : Heap) (locs : List Loc), va_P D vwCl (WT ca cq xq (kdC C) (fsC C) (snC C) ak (nI (C 0)) (nI (C 37)) (nI (C 38)) (fI (C 39)) (nI (C 40)) (lN (C 66)) (nI (C 41)) (fillL (6 + C 0) T_ tq_) va fy cn b_ sw sb sv) H → va_D A (WT ca cq xq (kdC C) (fsC C) (snC C) ak (nI (C 0)) (nI (C 37)) (nI (C 38)) (fI (C 39)) (nI (C 40)) (lN (C 66)) (nI (C 41)) (fillL (6 + C 0) T_ tq_) va fy cn b_ sw sb sv) → va_S A s.heap H locs → ∀ (ls : Array Slot), lv_has ls 4 [(2, .int (nI l_)), (1, .int (nI (popc l_ (C 37)))), (0, .ref (xq 0))] → W p l e ({ frames := 1, cells := 0, slots := 0, locals := 21 } : Room) s m ([.ref (xq 0)] : List Value).toArray below meth c H locs 0 0 QQ (F0 m 25 ls []) := by
          intro fu_25
          induction fu_25 with
          | zero => intro l_ b_ hfu; exact absurd hfu (Nat.not_lt_zero _)
          | succ fu_25 ih_25 =>
            intro l_ b_ hfu hl_ hb_ H locs hP hD hS ls hl
            refine lv_iload_n hx hb dX1_layAnswers_25 rfl (lv_at hl 0 rfl) ?_
            refine lv_aload_n hx hb dX1_layAnswers_26 rfl (lv_at hl 2 rfl) ?_
            refine gWT_5_circuit_X1 hx hb hts hown hK hP dX1_layAnswers_27 ?_
            refine xc_i (xr_V (b := cq 0) (ci := 1) (q0 := 0) (As := []) (rest := [.int (nI l_)]) (mt_X2_lines l D ca cq (kdC C) (fsC C) (snC C) ak (nI (C 37)) (nI (C 38)) (fI (C 39)) (nI (C 40)) (lN (C 66)) (nI (C 41)) (C 0)  H.size) ⟨hx, hb, hml, hown, hts⟩ (cwV 0 hts (lw_V q477 q444 q445 q80 q446) rfl rfl rfl (by decide +kernel) ⟨Nat.le_of_ble_eq_true rfl, Nat.le_of_ble_eq_true rfl⟩) EvX_ok hE hK hS (Cut.app (wc := (WC ca cq (kdC C) (fsC C) (snC C) ak (nI (C 0)) (nI (C 37)) (nI (C 38)) (fI (C 39)) (nI (C 40)) (lN (C 66)) (nI (C 41)))) (wr := (WTr ca cq xq (fillL (6 + C 0) T_ tq_) va fy cn b_ sw sb sv)) hP hD hS hA) rfl rfl rfl hl.1 rfl (Nat.le_of_ble_eq_true rfl) dX1_layAnswers_30 ⟨Nat.le_of_ble_eq_true rfl, Nat.le_of_ble_eq_true rfl⟩) hS (Cut.app (wc := (WC ca cq (kdC C) (fsC C) (snC C) ak (nI (C 0)) (nI (C 37)) (nI (C 38)) (fI (C 39)) (nI (C 40)) (lN (C 66)) (nI (C 41)))) (wr := (WTr ca cq xq (fillL (6 + C 0) T_ tq_) va fy cn b_ sw sb sv)) hP hD hS hA) (fun r_2 u_3 H locs hq_30 hP hD hS => ?_)
            have hP : va_P D vwCl (WT ca cq xq (kdC C) (fsC C) (snC C) ak (nI (C 0)) (nI (C 37)) (nI (C 38)) (fI (C 39)) (nI (C 40)) (lN (C 66)) (nI (C 41)) (fillL (6 + C 0) T_ tq_) va fy cn b_ sw sb sv) H := hP
            have hD : va_D A (WT ca cq xq (kdC C) (fsC C) (snC C) ak (nI (C 0)) (nI (C 37)) (nI (C 38)) (fI (C 39)) (nI (C 40)) (lN (C 66)) (nI (C 41)) (fillL (6 + C 0) T_ tq_) va fy cn b_ sw sb sv) := hD
            have hp_30 : r_2 = nI (6 + (C 0)) := hq_30
            clear hq_30
            obtain rfl := hp_30
            refine nv_icmp_ge (tgt := 95) hx hb dX1_layAnswers_33 (by decide) (by omega) (by omega) (fun c_33 => ?_) (fun c_33 => ?_)
            · skip
              have e_ : 6 + C 0 = l_ := Eq.symm (by omega)
              subst e_
              subst hQQ
              exact xe_v b_ hx hb hr hlocks hK hP hD hS (hb_) dX1_layAnswers_95
            · skip
              refine lv_aload_n hx hb dX1_layAnswers_36 rfl (lv_at hl 2 rfl) ?_
              refine gWT_5_circuit_X1 hx hb hts hown hK hP dX1_layAnswers_37 ?_
              refine gWT_0_outputs_X1 hE hx hb hts hown hK hP dX1_layAnswers_40 ?_
              refine lv_iload_n hx hb dX1_layAnswers_43 rfl (lv_at hl 0 rfl) ?_
              refine xc_i (xr_S (As := [.int (nI (C 37)), .int (nI l_)]) (rest := []) (mt_X1_isIn l D ca (C 37) l_ (by first | assumption | omega | (simp only [updN, forgetC, changedC]; (repeat' split) <;> omega)) (by first | assumption | omega | (simp only [updN, forgetC, changedC]; (repeat' split) <;> omega)) H.size) ⟨hx, hb, hml, hown, hts⟩ (va_cwS 2 hts (lw_S q464 q465 q79 q466) rfl rfl rfl (by decide +kernel) ⟨Nat.le_of_ble_eq_true rfl, Nat.le_of_ble_eq_true rfl⟩) Ev0_ok trivial hK hS (Cut.app (wc := []) (wr := (WT ca cq xq (kdC C) (fsC C) (snC C) ak (nI (C 0)) (nI (C 37)) (nI (C 38)) (fI (C 39)) (nI (C 40)) (lN (C 66)) (nI (C 41)) (fillL (6 + C 0) T_ tq_) va fy cn b_ sw sb sv)) hP hD hS hA) rfl hl.1 rfl (Nat.le_of_ble_eq_true rfl) dX1_layAnswers_44 ⟨Nat.le_of_ble_eq_true rfl, Nat.le_of_ble_eq_true rfl⟩) hS (Cut.app (wc := []) (wr := (WT ca cq xq (kdC C) (fsC C) (snC C) ak (nI (C 0)) (nI (C 37)) (nI (C 38)) (fI (C 39)) (nI (C 40)) (lN (C 66)) (nI (C 41)) (fillL (6 + C 0) T_ tq_) va fy cn b_ sw sb sv)) hP hD hS hA) (fun r_5 u_6 H locs hq_44 hP hD hS => ?_)
              have hP : va_P D vwCl (WT ca cq xq (kdC C) (fsC C) (snC C) ak (nI (C 0)) (nI (C 37)) (nI (C 38)) (fI (C 39)) (nI (C 40)) (lN (C 66)) (nI (C 41)) (fillL (6 + C 0) T_ tq_) va fy cn b_ sw sb sv) H := hP
              have hD : va_D A (WT ca cq xq (kdC C) (fsC C) (snC C) ak (nI (C 0)) (nI (C 37)) (nI (C 38)) (fI (C 39)) (nI (C 40)) (lN (C 66)) (nI (C 41)) (fillL (6 + C 0) T_ tq_) va fy cn b_ sw sb sv) := hD
              have hp_44 : r_5 = bI ((C 37).testBit l_) := hq_44
              clear hq_44
              obtain rfl := hp_44
              refine nv_ifb_eq (tgt := 89) hx hb dX1_layAnswers_47 (by decide) (fun c_47 => ?_) (fun c_47 => ?_)
              · skip
                refine lv_iinc (v := nI (l_ + 1)) (lv' := [(2, .int (nI (l_ + 1))), (1, .int (nI (popc l_ (C 37)))), (0, .ref (xq 0))]) hx hb dX1_layAnswers_89 hl (k := 0) rfl (nI_add l_ 1) (by decide) rfl (fun ls hl => ?_)
                refine lv_goto (tgt := 25) hx hb dX1_layAnswers_92 (by decide) ?_
                have hl : lv_has ls 4 [(2, .int (nI (l_ + 1))), (1, .int (nI (popc (l_ + 1) (C 37)))), (0, .ref (xq 0))] := (congrArg (fun x_ => lv_has ls 4 [(2, .int (nI (l_ + 1))), (1, .int x_), (0, .ref (xq 0))]) (show nI (popc l_ (C 37)) = nI (popc (l_ + 1) (C 37)) from congrArg nI (by first | exact (popc_s c_47).symm | exact (popc_n c_47).symm))).mp hl
                exact ih_25  (l_ + 1) b_ (by omega) (by omega) (fun t ht => by rw [← anL_n c_47]; exact hb_ t ht) _ _ hP hD hS ls (lv_sub hl [0, 1, 2] rfl)
              · skip
                refine lv_iconst (v := nI 0) hx hb dX1_layAnswers_50 (by decide) ?_
                refine lv_istore_n (lv' := [(3, .int (nI 0)), (2, .int (nI l_)), (1, .int (nI (popc l_ (C 37)))), (0, .ref (xq 0))]) hx hb dX1_layAnswers_51 rfl hl (by decide) rfl (fun ls hl => ?_)
                have lp_52 : ∀ (fu_52 : Nat) (i : Nat) (d_ : Nat → Int32), 64 - i < fu_52 → (i ≤ 64) → (∀ t, t < i → d_ t = nI (anL C T_ t (l_ + 1))) → (∀ t, i ≤ t → t < 64 → d_ t = nI (anL C T_ t l_)) → ∀ (H : Heap) (locs : List Loc), va_P D vwCl (WT ca cq xq (kdC C) (fsC C) (snC C) ak (nI (C 0)) (nI (C 37)) (nI (C 38)) (fI (C 39)) (nI (C 40)) (lN (C 66)) (nI (C 41)) (fillL (6 + C 0) T_ tq_) va fy cn d_ sw sb sv) H → va_D A (WT ca cq xq (kdC C) (fsC C) (snC C) ak (nI (C 0)) (nI (C 37)) (nI (C 38)) (fI (C 39)) (nI (C 40)) (lN (C 66)) (nI (C 41)) (fillL (6 + C 0) T_ tq_) va fy cn d_ sw sb sv) → va_S A s.heap H locs → ∀ (ls : Array Slot), lv_has ls 4 [(3, .int (nI i)), (2, .int (nI l_)), (1, .int (nI (popc l_ (C 37)))), (0, .ref (xq 0))] → W p l e ({ frames := 1, cells := 0, slots := 0, locals := 21 } : Room) s m ([.ref (xq 0)] : List Value).toArray below meth c H locs 0 0 QQ (F0 m 52 ls []) := by
                  intro fu_52
                  induction fu_52 with
                  | zero => intro i d_ hfu; exact absurd hfu (Nat.not_lt_zero _)
                  | succ fu_52 ih_52 =>
                    intro i d_ hfu hi hm_ hr_ H locs hP hD hS ls hl
                    refine lv_iload_n hx hb dX1_layAnswers_52 rfl (lv_at hl 0 rfl) ?_
                    refine lv_bipush (v := nI 64) hx hb dX1_layAnswers_53 (by decide) ?_
                    refine nv_icmp_ge (tgt := 86) hx hb dX1_layAnswers_55 (by decide) (by omega) (by omega) (fun c_55 => ?_) (fun c_55 => ?_)
                    · skip
                      have e_ : 64 = i := Eq.symm (by omega)
                      subst e_
                      refine lv_iinc (v := nI (popc l_ (C 37) + 1)) (lv' := [(1, .int (nI (popc l_ (C 37) + 1))), (3, .int (nI 64)), (2, .int (nI l_)), (0, .ref (xq 0))]) hx hb dX1_layAnswers_86 hl (k := 2) rfl (nI_add (popc l_ (C 37)) 1) (by decide) rfl (fun ls hl => ?_)
                      refine lv_iinc (v := nI (l_ + 1)) (lv' := [(2, .int (nI (l_ + 1))), (1, .int (nI (popc l_ (C 37) + 1))), (3, .int (nI 64)), (0, .ref (xq 0))]) hx hb dX1_layAnswers_89 hl (k := 2) rfl (nI_add l_ 1) (by decide) rfl (fun ls hl => ?_)
                      refine lv_goto (tgt := 25) hx hb dX1_layAnswers_92 (by decide) ?_
                      have hl : lv_has ls 4 [(2, .int (nI (l_ + 1))), (1, .int (nI (popc (l_ + 1) (C 37)))), (3, .int (nI 64)), (0, .ref (xq 0))] := (congrArg (fun x_ => lv_has ls 4 [(2, .int (nI (l_ + 1))), (1, .int x_), (3, .int (nI 64)), (0, .ref (xq 0))]) (show nI (popc l_ (C 37) + 1) = nI (popc (l_ + 1) (C 37)) from congrArg nI (by first | exact (popc_s c_47).symm | exact (popc_n c_47).symm))).mp hl
                      exact ih_25  (l_ + 1) d_ (by omega) (by omega) (fun t ht => hm_ t (by omega)) _ _ hP hD hS ls (lv_sub hl [0, 1, 3] rfl)
                    · skip
                      refine lv_aload_n hx hb dX1_layAnswers_58 rfl (lv_at hl 3 rfl) ?_
                      refine gWT_5_answers_X1 hx hb hts hown hK hP dX1_layAnswers_59 ?_
                      refine lv_iload_n hx hb dX1_layAnswers_62 rfl (lv_at hl 0 rfl) ?_
                      refine lv_dup2_11 hx hb dX1_layAnswers_63 rfl rfl ?_
                      refine ldWT_10 hx hb hK hP (by omega) dX1_layAnswers_64 ?_
                      refine lv_topi (nm_r (e' := nI (anL C T_ i l_)) (hr_ i (Nat.le_refl i) (by omega)) ?_)
                      refine lv_aload_n hx hb dX1_layAnswers_65 rfl (lv_at hl 3 rfl) ?_
                      refine gWT_5_tables_X1 hx hb hts hown hK hP dX1_layAnswers_66 ?_
                      refine lv_iload_n hx hb dX1_layAnswers_69 rfl (lv_at hl 1 rfl) ?_
                      refine ldWT_6 hx hb hK hP (by omega) dX1_layAnswers_70 ?_
                      refine lv_topl (nm_r (e' := T_ l_) (fillL_at (by omega)) ?_)
                      refine lv_iload_n hx hb dX1_layAnswers_71 rfl (lv_at hl 0 rfl) ?_
                      refine lv_lshr (v := sar64 (T_ l_) i) hx hb dX1_layAnswers_72 rfl ?_
                      refine lv_lconst (v := lN 1) hx hb dX1_layAnswers_73 (by decide) ?_
                      refine lv_land hx hb dX1_layAnswers_74 ?_
                      refine lv_topl (nm_r (e' := lN (b2n (bit64 (T_ l_) i))) (sar_1 (by omega)) ?_)
                      refine lv_l2i (v := nI (b2n (bit64 (T_ l_) i))) hx hb dX1_layAnswers_75 (lN_i _) ?_
                      refine lv_iload_n hx hb dX1_layAnswers_76 rfl (lv_at hl 2 rfl) ?_
                      refine nv_ishl hx hb dX1_layAnswers_77 (by have := popc_le l_ (C 37); omega) (b2n_shl (by have := popc_le l_ (C 37); omega)) ?_
                      refine nv_ior hx hb dX1_layAnswers_78 ?_
                      refine stWT_10 hx hb hK hP hD hS (by omega) dX1_layAnswers_79 (fun H locs hP hD hS => ?_)
                      refine lv_iinc (v := nI (i + 1)) (lv' := [(3, .int (nI (i + 1))), (2, .int (nI l_)), (1, .int (nI (popc l_ (C 37)))), (0, .ref (xq 0))]) hx hb dX1_layAnswers_80 hl (k := 0) rfl (nI_add i 1) (by decide) rfl (fun ls hl => ?_)
                      refine lv_goto (tgt := 52) hx hb dX1_layAnswers_83 (by decide) ?_
                      exact ih_52  (i + 1) (upd d_ i (nI ((anL C T_ i l_) ||| ((b2n (bit64 (T_ l_) i)) <<< (popc l_ (C 37)))))) (by omega) (by omega) (an_up hm_ hr_ (by omega) (congrArg nI (anL_y c_47))).1 (an_up hm_ hr_ (by omega) (congrArg nI (anL_y c_47))).2 _ _ hP hD hS ls (lv_sub hl [0, 1, 2, 3] rfl)
                exact lp_52 (64 - 0 + 1) 0 b_ (Nat.lt_succ_self _) (by omega) (fun t ht => absurd ht (Nat.not_lt_zero t)) (fun t _ ht => hb_ t ht) _ _ hP hD hS ls (lv_sub hl [0, 1, 2, 3] rfl)
        have hl : lv_has ls 4 [(2, .int (nI 0)), (1, .int (nI (popc 0 (C 37)))), (0, .ref (xq 0))] := (congrArg (fun x_ => lv_has ls 4 [(2, .int (nI 0)), (1, .int x_), (0, .ref (xq 0))]) (show nI 0 = nI (popc 0 (C 37)) from rfl)).mp hl
        exact lp_25 (6 + C 0 - 0 + 1) 0 b_ (Nat.lt_succ_self _) (by omega) (fun t ht => hb_ t (by omega)) _ _ hP hD hS ls (lv_sub hl [0, 1, 2] rfl)
      · skip
        refine lv_aload_n hx hb dX1_layAnswers_8 rfl (lv_at hl 1 rfl) ?_
        refine gWT_5_answers_X1 hx hb hts hown hK hP dX1_layAnswers_9 ?_
        refine lv_iload_n hx hb dX1_layAnswers_12 rfl (lv_at hl 0 rfl) ?_
        refine lv_iconst (v := nI 0) hx hb dX1_layAnswers_13 (by decide) ?_
        refine stWT_10 hx hb hK hP hD hS (by omega) dX1_layAnswers_14 (fun H locs hP hD hS => ?_)
        refine lv_iinc (v := nI (i + 1)) (lv' := [(1, .int (nI (i + 1))), (0, .ref (xq 0))]) hx hb dX1_layAnswers_15 hl (k := 0) rfl (nI_add i 1) (by decide) rfl (fun ls hl => ?_)
        refine lv_goto (tgt := 2) hx hb dX1_layAnswers_18 (by decide) ?_
        exact ih_2  (i + 1) (upd b_ i (nI 0)) (by omega) (by omega) (fun t ht => by simp only [upd]; split; rfl; exact hb_ t (by omega)) _ _ hP hD hS ls (lv_sub hl [0, 1] rfl)
  exact lp_2 (64 - 0 + 1) 0 an (Nat.lt_succ_self _) (by omega) (fun t ht => absurd ht (Nat.not_lt_zero t)) _ _ hP hD hS ls (lv_sub hl [0, 1] rfl)
