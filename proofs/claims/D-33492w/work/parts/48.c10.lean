/-! the component: worst and best test -/
set_option maxRecDepth 100000
theorem mx_nI {a b : Nat} (ha : a < 2 ^ 31) (hb : b < 2 ^ 31) : (if nI a < nI b then nI b else nI a) = nI (if a < b then b else a) := by
  by_cases h : a < b
  · rw [if_pos h, if_pos ((nI_ltI ha hb).mpr h)]
  · rw [if_neg h, if_neg (fun q => h ((nI_ltI ha hb).mp q))]
set_option maxHeartbeats 4000000 in
set_option maxRecDepth 100000 in
theorem mt_X1_worst (l : Launch) (D : va_G) (ca : Nat → ClassId) (cq : Nat → Nat) (xq : Nat → Nat) (kd : Nat → Int32) (fs : Nat → Int32) (sn : Nat → Int32) (ak : Nat → Int32) (ga : Int32) (ot : Int32) (bx : Int32) (se : Int32) (su : Int32) (ch : Int64) (ad : Int32) (tb_ : Nat → Int64) (va : Nat → Int32) (fy : Nat → Int64) (an : Nat → Int32) (sw : Nat → Int64) (sb : Nat → Int64) (sv : Value) (X_ : Nat → Nat) (t_ : Nat) (ht : t_ < 64) (hX : ∀ k, X_ k < 100000) (nn : Nat) : Met l yX1_worst (ws_ yX1_worst cX1_worst 4 (Option.some Jvm.ClassFile.FieldType.int)) ({ frames := 1, cells := 0, slots := 0, locals := 40 } : Room) (va_Pc [.ref (xq 0), .int (nI t_)] (PreW EvX D vwCl (TY ca) (WT ca cq xq kd fs sn ak ga ot bx se su ch ad tb_ va fy (nIf X_) an sw sb sv) nn)) (va_Qi (fun (r_ : Int32) (_ : Unit) => r_ = nI (wst X_ t_)) (PostW D vwCl (TY ca) (fun (_ : Unit) => (WT ca cq xq kd fs sn ak ga ot bx se su ch ad tb_ va fy (nIf X_) an sw sb sv)) (va_A (WT ca cq xq kd fs sn ak ga ot bx se su ch ad tb_ va fy (nIf X_) an sw sb sv) nn)) (va_A (WT ca cq xq kd fs sn ak ga ot bx se su ch ad tb_ va fy (nIf X_) an sw sb sv) nn)) 0 0 (va_A (WT ca cq xq kd fs sn ak ga ot bx se su ch ad tb_ va fy (nIf X_) an sw sb sv) nn) := by
  refine met_go (QA := fun A => va_Qi (fun (r_ : Int32) (_ : Unit) => r_ = nI (wst X_ t_)) (PostW D vwCl (TY ca) (fun (_ : Unit) => (WT ca cq xq kd fs sn ak ga ot bx se su ch ad tb_ va fy (nIf X_) an sw sb sv)) A) A) (by decide) (Nat.le_of_ble_eq_true rfl) (fun p e s m below meth c A ls QQ hQQ hx hb hr hts hown hlocks hml hA hP hK hD hE hl => ?_)
  have hown : s.vm.findClass RX1 = some m.cls := hown
  have hS : va_S A s.heap s.heap [] := va_S.rf
  have hl : lv_has ls 4 [(0, .ref (xq 0)), (1, .int (nI t_))] := hl
  generalize hHe : s.heap = H at hP ⊢
  have hS : va_S A s.heap H [] := hHe ▸ hS
  generalize ([] : List Loc) = locs at hS ⊢
  refine lv_iconst (v := nI 0) hx hb dX1_worst_0 (by decide) ?_
  refine lv_istore_n (lv' := [(2, .int (nI 0)), (0, .ref (xq 0)), (1, .int (nI t_))]) hx hb dX1_worst_1 rfl hl (by decide) rfl (fun ls hl => ?_)
  refine lv_iconst (v := nI 0) hx hb dX1_worst_2 (by decide) ?_
  refine lv_istore_n (lv' := [(3, .int (nI 0)), (2, .int (nI 0)), (0, .ref (xq 0)), (1, .int (nI t_))]) hx hb dX1_worst_3 rfl hl (by decide) rfl (fun ls hl => ?_)
  have lp_4 : ∀ (fu_4 : Nat) (i : Nat), 16 - i < fu_4 → (i ≤ 16) → ∀ (H : Heap) (locs : List Loc), va_P D vwCl (WT ca cq xq kd fs sn ak ga ot bx se su ch ad tb_ va fy (nIf X_) an sw sb sv) H → va_D A (WT ca cq xq kd fs sn ak ga ot bx se su ch ad tb_ va fy (nIf X_) an sw sb sv) → va_S A s.heap H locs → ∀ (ls : Array Slot), lv_has ls 4 [(3, .int (nI i)), (2, .int (nI (wsN X_ t_ i))), (0, .ref (xq 0)), (1, .int (nI t_))] → W p l e ({ frames := 1, cells := 0, slots := 0, locals := 40 } : Room) s m ([.ref (xq 0), .int (nI t_)] : List Value).toArray below meth c H locs 0 0 QQ (F0 m 4 ls []) := by
    intro fu_4
    induction fu_4 with
    | zero => intro i hfu; exact absurd hfu (Nat.not_lt_zero _)
    | succ fu_4 ih_4 =>
      intro i hfu hi H locs hP hD hS ls hl
      refine lv_iload_n hx hb dX1_worst_4 rfl (lv_at hl 0 rfl) ?_
      refine lv_bipush (v := nI 16) hx hb dX1_worst_5 (by decide) ?_
      refine nv_icmp_ge (tgt := 32) hx hb dX1_worst_7 (by decide) (by omega) (by omega) (fun c_7 => ?_) (fun c_7 => ?_)
      · skip
        have e_ : 16 = i := Eq.symm (by omega)
        subst e_
        refine lv_iload_n hx hb dX1_worst_32 rfl (lv_at hl 1 rfl) ?_
        subst hQQ
        exact xe_i (v := nI (wsN X_ t_ 16)) () hx hb hr hlocks hK hP hD hS (rfl) dX1_worst_33
      · skip
        refine lv_iload_n hx hb dX1_worst_10 rfl (lv_at hl 1 rfl) ?_
        refine lv_aload_n hx hb dX1_worst_11 rfl (lv_at hl 2 rfl) ?_
        refine gWT_5_counts_X1 hx hb hts hown hK hP dX1_worst_12 ?_
        refine lv_bipush (v := nI 16) hx hb dX1_worst_15 (by decide) ?_
        refine lv_iload_n hx hb dX1_worst_17 rfl (lv_at hl 3 rfl) ?_
        refine nv_imul hx hb dX1_worst_18 ?_
        refine lv_iload_n hx hb dX1_worst_19 rfl (lv_at hl 0 rfl) ?_
        refine nv_iadd hx hb dX1_worst_20 ?_
        refine ldWT_9 hx hb hK hP (by omega) dX1_worst_21 ?_
        refine lv_topi (nm_r (e' := nI (X_ (16 * t_ + i))) (rfl) ?_)
        refine va_mmax (x := nI (wsN X_ t_ i)) (y := nI (X_ (16 * t_ + i))) hx hb (hml.trans hl.1.symm) hown (hts _ q1146) (hts _ q540) (hts _ q96) (hts _ q541) (Nat.le_of_ble_eq_true rfl) (Nat.le_of_ble_eq_true rfl) (Nat.zero_le _) (Nat.zero_le _) dX1_worst_22 ?_
        refine lv_topi (nm_r (e' := nI (if wsN X_ t_ i < X_ (16 * t_ + i) then X_ (16 * t_ + i) else wsN X_ t_ i)) (mx_nI (by have := wsN_lt (t := t_) (by decide : 0 < 100000) hX i; omega) (by have := hX (16 * t_ + i); omega)) ?_)
        refine lv_istore_n (lv' := [(2, .int (nI (if wsN X_ t_ i < X_ (16 * t_ + i) then X_ (16 * t_ + i) else wsN X_ t_ i))), (3, .int (nI i)), (0, .ref (xq 0)), (1, .int (nI t_))]) hx hb dX1_worst_25 rfl hl (by decide) rfl (fun ls hl => ?_)
        refine lv_iinc (v := nI (i + 1)) (lv' := [(3, .int (nI (i + 1))), (2, .int (nI (if wsN X_ t_ i < X_ (16 * t_ + i) then X_ (16 * t_ + i) else wsN X_ t_ i))), (0, .ref (xq 0)), (1, .int (nI t_))]) hx hb dX1_worst_26 hl (k := 1) rfl (nI_add i 1) (by decide) rfl (fun ls hl => ?_)
        refine lv_goto (tgt := 4) hx hb dX1_worst_29 (by decide) ?_
        have hl : lv_has ls 4 [(3, .int (nI (i + 1))), (2, .int (nI (wsN X_ t_ (i + 1)))), (0, .ref (xq 0)), (1, .int (nI t_))] := (congrArg (fun x_ => lv_has ls 4 [(3, .int (nI (i + 1))), (2, .int x_), (0, .ref (xq 0)), (1, .int (nI t_))]) (show nI (if wsN X_ t_ i < X_ (16 * t_ + i) then X_ (16 * t_ + i) else wsN X_ t_ i) = nI (wsN X_ t_ (i + 1)) from rfl)).mp hl
        exact ih_4  (i + 1) (by omega) (by omega) _ _ hP hD hS ls (lv_sub hl [0, 1, 2, 3] rfl)
  exact lp_4 (16 - 0 + 1) 0 (Nat.lt_succ_self _) (by omega) _ _ hP hD hS ls (lv_sub hl [0, 1, 2, 3] rfl)
set_option maxHeartbeats 4000000 in
set_option maxRecDepth 100000 in
theorem mt_X1_best (l : Launch) (D : va_G) (ca : Nat → ClassId) (cq : Nat → Nat) (xq : Nat → Nat) (kd : Nat → Int32) (fs : Nat → Int32) (sn : Nat → Int32) (ak : Nat → Int32) (ga : Int32) (ot : Int32) (bx : Int32) (se : Int32) (su : Int32) (ch : Int64) (ad : Int32) (tb_ : Nat → Int64) (va : Nat → Int32) (fy : Nat → Int64) (an : Nat → Int32) (sw : Nat → Int64) (sb : Nat → Int64) (sv : Value) (X_ : Nat → Nat) (hX : ∀ k, X_ k < 100000) (nn : Nat) : Met l yX1_best (ws_ yX1_best cX1_best 3 (Option.some Jvm.ClassFile.FieldType.int)) ({ frames := 2, cells := 0, slots := 0, locals := 63 } : Room) (va_Pc [.ref (xq 0)] (PreW EvX D vwCl (TY ca) (WT ca cq xq kd fs sn ak ga ot bx se su ch ad tb_ va fy (nIf X_) an sw sb sv) nn)) (va_Qi (fun (r_ : Int32) (_ : Unit) => r_ = nI (bsN X_ 63)) (PostW D vwCl (TY ca) (fun (_ : Unit) => (WT ca cq xq kd fs sn ak ga ot bx se su ch ad tb_ va fy (nIf X_) an sw sb sv)) (va_A (WT ca cq xq kd fs sn ak ga ot bx se su ch ad tb_ va fy (nIf X_) an sw sb sv) nn)) (va_A (WT ca cq xq kd fs sn ak ga ot bx se su ch ad tb_ va fy (nIf X_) an sw sb sv) nn)) 0 0 (va_A (WT ca cq xq kd fs sn ak ga ot bx se su ch ad tb_ va fy (nIf X_) an sw sb sv) nn) := by
  refine met_go (QA := fun A => va_Qi (fun (r_ : Int32) (_ : Unit) => r_ = nI (bsN X_ 63)) (PostW D vwCl (TY ca) (fun (_ : Unit) => (WT ca cq xq kd fs sn ak ga ot bx se su ch ad tb_ va fy (nIf X_) an sw sb sv)) A) A) (by decide) (Nat.le_of_ble_eq_true rfl) (fun p e s m below meth c A ls QQ hQQ hx hb hr hts hown hlocks hml hA hP hK hD hE hl => ?_)
  have hown : s.vm.findClass RX1 = some m.cls := hown
  have hS : va_S A s.heap s.heap [] := va_S.rf
  have hl : lv_has ls 3 [(0, .ref (xq 0))] := hl
  generalize hHe : s.heap = H at hP ⊢
  have hS : va_S A s.heap H [] := hHe ▸ hS
  generalize ([] : List Loc) = locs at hS ⊢
  refine lv_iconst (v := nI 0) hx hb dX1_best_0 (by decide) ?_
  refine lv_istore_n (lv' := [(1, .int (nI 0)), (0, .ref (xq 0))]) hx hb dX1_best_1 rfl hl (by decide) rfl (fun ls hl => ?_)
  refine lv_iconst (v := nI 1) hx hb dX1_best_2 (by decide) ?_
  refine lv_istore_n (lv' := [(2, .int (nI 1)), (1, .int (nI 0)), (0, .ref (xq 0))]) hx hb dX1_best_3 rfl hl (by decide) rfl (fun ls hl => ?_)
  have lp_4 : ∀ (fu_4 : Nat) (i : Nat), 63 - i < fu_4 → (i ≤ 63) → ∀ (H : Heap) (locs : List Loc), va_P D vwCl (WT ca cq xq kd fs sn ak ga ot bx se su ch ad tb_ va fy (nIf X_) an sw sb sv) H → va_D A (WT ca cq xq kd fs sn ak ga ot bx se su ch ad tb_ va fy (nIf X_) an sw sb sv) → va_S A s.heap H locs → ∀ (ls : Array Slot), lv_has ls 3 [(2, .int (nI (i + 1))), (1, .int (nI (bsN X_ i))), (0, .ref (xq 0))] → W p l e ({ frames := 2, cells := 0, slots := 0, locals := 63 } : Room) s m ([.ref (xq 0)] : List Value).toArray below meth c H locs 0 0 QQ (F0 m 4 ls []) := by
    intro fu_4
    induction fu_4 with
    | zero => intro i hfu; exact absurd hfu (Nat.not_lt_zero _)
    | succ fu_4 ih_4 =>
      intro i hfu hi H locs hP hD hS ls hl
      refine lv_iload_n hx hb dX1_best_4 rfl (lv_at hl 0 rfl) ?_
      refine lv_bipush (v := nI 64) hx hb dX1_best_5 (by decide) ?_
      refine nv_icmp_ge (tgt := 35) hx hb dX1_best_7 (by decide) (by omega) (by omega) (fun c_7 => ?_) (fun c_7 => ?_)
      · skip
        have e_ : 63 = i := Eq.symm (by omega)
        subst e_
        refine lv_iload_n hx hb dX1_best_35 rfl (lv_at hl 1 rfl) ?_
        subst hQQ
        exact xe_i (v := nI (bsN X_ 63)) () hx hb hr hlocks hK hP hD hS (rfl) dX1_best_36
      · skip
        refine lv_aload_n hx hb dX1_best_10 rfl (lv_at hl 2 rfl) ?_
        refine lv_iload_n hx hb dX1_best_11 rfl (lv_at hl 0 rfl) ?_
        refine xc_i (xr_V (b := xq 0) (ci := 0) (q0 := 5) (As := [.int (nI (i + 1))]) (rest := []) (mt_X1_worst l D ca cq xq kd fs sn ak ga ot bx se su ch ad tb_ va fy an sw sb sv X_ (i + 1) (by first | assumption | omega | (simp only [updN, forgetC, changedC]; (repeat' split) <;> omega)) (by first | assumption | omega | (simp only [updN, forgetC, changedC]; (repeat' split) <;> omega)) H.size) ⟨hx, hb, hml, hown, hts⟩ (cwV 1 hts (lw_V q1142 q1144 qs34 q79 q1145) rfl rfl rfl (by decide +kernel) ⟨Nat.le_of_ble_eq_true rfl, Nat.le_of_ble_eq_true rfl⟩) EvX_ok hE hK hS (Cut.all hP hD hS hA) rfl rfl rfl hl.1 rfl (Nat.le_of_ble_eq_true rfl) dX1_best_12 ⟨Nat.le_of_ble_eq_true rfl, Nat.le_of_ble_eq_true rfl⟩) hS (Cut.all hP hD hS hA) (fun r_2 u_3 H locs hq_12 hP hD hS => ?_)
        have hP : va_P D vwCl (WT ca cq xq kd fs sn ak ga ot bx se su ch ad tb_ va fy (nIf X_) an sw sb sv) H := hP
        have hD : va_D A (WT ca cq xq kd fs sn ak ga ot bx se su ch ad tb_ va fy (nIf X_) an sw sb sv) := hD
        have hp_12 : r_2 = nI (wst X_ (i + 1)) := hq_12
        clear hq_12
        obtain rfl := hp_12
        refine lv_aload_n hx hb dX1_best_15 rfl (lv_at hl 2 rfl) ?_
        refine lv_iload_n hx hb dX1_best_16 rfl (lv_at hl 1 rfl) ?_
        refine xc_i (xr_V (b := xq 0) (ci := 0) (q0 := 5) (As := [.int (nI (bsN X_ i))]) (rest := [.int (nI (wst X_ (i + 1)))]) (mt_X1_worst l D ca cq xq kd fs sn ak ga ot bx se su ch ad tb_ va fy an sw sb sv X_ (bsN X_ i) (by have := @bsN_le X_ i; omega) hX H.size) ⟨hx, hb, hml, hown, hts⟩ (cwV 1 hts (lw_V q1142 q1144 qs34 q79 q1145) rfl rfl rfl (by decide +kernel) ⟨Nat.le_of_ble_eq_true rfl, Nat.le_of_ble_eq_true rfl⟩) EvX_ok hE hK hS (Cut.all hP hD hS hA) rfl rfl rfl hl.1 rfl (Nat.le_of_ble_eq_true rfl) dX1_best_17 ⟨Nat.le_of_ble_eq_true rfl, Nat.le_of_ble_eq_true rfl⟩) hS (Cut.all hP hD hS hA) (fun r_4 u_5 H locs hq_17 hP hD hS => ?_)
        have hP : va_P D vwCl (WT ca cq xq kd fs sn ak ga ot bx se su ch ad tb_ va fy (nIf X_) an sw sb sv) H := hP
        have hD : va_D A (WT ca cq xq kd fs sn ak ga ot bx se su ch ad tb_ va fy (nIf X_) an sw sb sv) := hD
        have hp_17 : r_4 = nI (wst X_ (bsN X_ i)) := hq_17
        clear hq_17
        obtain rfl := hp_17
        refine nv_icmp_ge (tgt := 27) hx hb dX1_best_20 (by decide) (by have := wsN_lt (t := i + 1) (by decide : 0 < 100000) hX 16; unfold wst; omega) (by have := wsN_lt (t := bsN X_ i) (by decide : 0 < 100000) hX 16; unfold wst; omega) (fun c_20 => ?_) (fun c_20 => ?_)
        · skip
          refine lv_iload_n hx hb dX1_best_27 rfl (lv_at hl 1 rfl) ?_
          refine lv_topi (nm_r (e' := nI (bsN X_ (i + 1))) (congrArg nI (by simp only [bsN]; rw [if_neg (by omega)])) ?_)
          refine lv_istore_n (lv' := [(1, .int (nI (bsN X_ (i + 1)))), (2, .int (nI (i + 1))), (0, .ref (xq 0))]) hx hb dX1_best_28 rfl hl (by decide) rfl (fun ls hl => ?_)
          refine lv_iinc (v := nI (i + 1 + 1)) (lv' := [(2, .int (nI (i + 1 + 1))), (1, .int (nI (bsN X_ (i + 1)))), (0, .ref (xq 0))]) hx hb dX1_best_29 hl (k := 1) rfl (nI_add (i + 1) 1) (by decide) rfl (fun ls hl => ?_)
          refine lv_goto (tgt := 4) hx hb dX1_best_32 (by decide) ?_
          exact ih_4  (i + 1) (by omega) (by omega) _ _ hP hD hS ls (lv_sub hl [0, 1, 2] rfl)
        · skip
          refine lv_iload_n hx hb dX1_best_23 rfl (lv_at hl 0 rfl) ?_
          refine lv_goto (tgt := 28) hx hb dX1_best_24 (by decide) ?_
          refine lv_topi (nm_r (e' := nI (bsN X_ (i + 1))) (congrArg nI (by simp only [bsN]; rw [if_pos c_20])) ?_)
          refine lv_istore_n (lv' := [(1, .int (nI (bsN X_ (i + 1)))), (2, .int (nI (i + 1))), (0, .ref (xq 0))]) hx hb dX1_best_28 rfl hl (by decide) rfl (fun ls hl => ?_)
          refine lv_iinc (v := nI (i + 1 + 1)) (lv' := [(2, .int (nI (i + 1 + 1))), (1, .int (nI (bsN X_ (i + 1)))), (0, .ref (xq 0))]) hx hb dX1_best_29 hl (k := 1) rfl (nI_add (i + 1) 1) (by decide) rfl (fun ls hl => ?_)
          refine lv_goto (tgt := 4) hx hb dX1_best_32 (by decide) ?_
          exact ih_4  (i + 1) (by omega) (by omega) _ _ hP hD hS ls (lv_sub hl [0, 1, 2] rfl)
  exact lp_4 (63 - 0 + 1) 0 (Nat.lt_succ_self _) (by omega) _ _ hP hD hS ls (lv_sub hl [0, 1, 2] rfl)
