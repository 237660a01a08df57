/-! the component: the shown faults laid -/
set_option maxRecDepth 100000
theorem sar_c : ∀ k, k < 64 → (((nI k).toInt64 &&& 63).toBitVec.smod 64).toNat = k := by decide +kernel
theorem bit_sar {x : Int64} {k : Nat} (hk : k < 64) : bit64 (sar64 x k) 0 = bit64 x k := by
  unfold bit64 sar64
  rw [Int64.toBitVec_shiftRight]
  show (x.toBitVec.sshiftRight (((nI k).toInt64 &&& 63).toBitVec.smod 64).toNat).getLsbD 0 = _
  rw [sar_c k hk, BitVec.getLsbD_sshiftRight]
  simp [hk]
theorem sar_1 {x : Int64} {k : Nat} (hk : k < 64) : sar64 x k &&& lN 1 = lN (b2n (bit64 x k)) := by
  apply i64_ext
  intro i hi
  rw [bit_and, lN1_tb i hi, bit_lN _ _ hi]
  by_cases e : i = 0
  · subst e; rw [bit_sar hk]; cases bit64 x k <;> rfl
  · have h1 : decide (i = 0) = false := decide_eq_false e
    rw [h1, Bool.and_false]
    unfold b2n
    cases bit64 x k
    · exact (Nat.zero_testBit i).symm
    · show false = (1 <<< 0).testBit i
      rw [tb_sh]; exact (decide_eq_false (by omega)).symm
theorem b2L_t {b : Bool} (h : lN (b2n b) = lN 1) : true = b := by cases b; exact absurd h (by decide); rfl
theorem b2L_f {b : Bool} (h : ¬ lN (b2n b) = lN 1) : false = b := by cases b; rfl; exact absurd rfl h
set_option maxHeartbeats 4000000 in
set_option maxRecDepth 100000 in
theorem mt_X1_isIn_2 (l : Launch) (D : va_G) (ca : Nat → ClassId) (set_ : Int64) (k_ : Nat) (hk : k_ < 64) (nn : Nat) : Met l yX1_isIn_2 (ws_ yX1_isIn_2 cX1_isIn_2 3 (Option.some Jvm.ClassFile.FieldType.boolean)) ({ frames := 0, cells := 0, slots := 0, locals := 0 } : Room) (va_Pc [.long set_, .int (nI k_)] (PreW Ev0 D vwCl (TY ca) ([] : va_W) nn)) (va_Qi (fun (r_ : Int32) (_ : Unit) => r_ = bI (bit64 set_ k_)) (PostW D vwCl (TY ca) (fun (_ : Unit) => ([] : va_W)) (va_A ([] : va_W) nn)) (va_A ([] : va_W) nn)) 0 0 (va_A ([] : va_W) nn) := by
  refine met_go (QA := fun A => va_Qi (fun (r_ : Int32) (_ : Unit) => r_ = bI (bit64 set_ k_)) (PostW D vwCl (TY ca) (fun (_ : Unit) => ([] : va_W)) A) A) (by decide) (Nat.le_of_ble_eq_true rfl) (fun p e s m below meth c A ls QQ hQQ hx hb hr hts hown hlocks hml hA hP hK hD hE hl => ?_)
  have hown : s.vm.findClass RX1 = some m.cls := hown
  have hS : va_S A s.heap s.heap [] := va_S.rf
  have hl : lv_has ls 3 [(0, .long set_), (2, .int (nI k_))] := hl
  generalize hHe : s.heap = H at hP ⊢
  have hS : va_S A s.heap H [] := hHe ▸ hS
  generalize ([] : List Loc) = locs at hS ⊢
  refine lv_lload_n hx hb dX1_isIn_2_0 rfl (lv_at hl 0 rfl) ?_
  refine lv_iload_n hx hb dX1_isIn_2_1 rfl (lv_at hl 1 rfl) ?_
  refine lv_lshr (v := sar64 set_ k_) hx hb dX1_isIn_2_2 rfl ?_
  refine lv_lconst (v := lN 1) hx hb dX1_isIn_2_3 (by decide) ?_
  refine lv_land hx hb dX1_isIn_2_4 ?_
  refine lv_topl (nm_r (e' := lN (b2n (bit64 set_ k_))) (sar_1 hk) ?_)
  refine lv_lconst (v := lN 1) hx hb dX1_isIn_2_5 (by decide) ?_
  refine nv_lcmp_ne (tgt := 14) hx hb dX1_isIn_2_6 dX1_isIn_2_7 (by decide) (fun c_6 => ?_) (fun c_6 => ?_)
  · skip
    refine lv_iconst (v := nI 0) hx hb dX1_isIn_2_14 (by decide) ?_
    subst hQQ
    refine (xe_z (b := false) () hx hb hr hlocks hK hP hD hS (congrArg bI (by first | exact b2L_t c_6 | exact b2L_f c_6)) dX1_isIn_2_15)
  · skip
    refine lv_iconst (v := nI 1) hx hb dX1_isIn_2_10 (by decide) ?_
    refine lv_goto (tgt := 15) hx hb dX1_isIn_2_11 (by decide) ?_
    subst hQQ
    refine (xe_z (b := true) () hx hb hr hlocks hK hP hD hS (congrArg bI (by first | exact b2L_t c_6 | exact b2L_f c_6)) dX1_isIn_2_15)
theorem sb_up {C : Nat → Nat} {n i : Nat} {b : Nat → Int64} {v : Int64} (hl : ∀ t, t < i → b t = lN (shN C (n + 1) t)) (hr : ∀ t, i ≤ t → t < 64 → b t = lN (shN C n t)) (hi : i < 64) (hv : v = lN (shN C (n + 1) i)) :
    (∀ t, t < i + 1 → vp_updL b i v t = lN (shN C (n + 1) t)) ∧ ∀ t, i + 1 ≤ t → t < 64 → vp_updL b i v t = lN (shN C n t) := by
  constructor
  · intro t ht
    simp only [vp_updL]
    split
    · next h => subst h; exact hv
    · exact hl t (by omega)
  · intro t h1 h2
    simp only [vp_updL]
    rw [if_neg (by omega)]; exact hr t (by omega) h2
theorem sh_y {C : Nat → Nat} {n i : Nat} (hn : n < 64) (h : bit64 (apC C (n + 1) 0) i = true) : lN (shN C n i) ||| shl64 (lN 1) n = lN (shN C (n + 1) i) := by
  rw [shl_lN hn, lN_or]; simp only [shN]; rw [h]; rfl
theorem sh_n {C : Nat → Nat} {n i : Nat} (h : bit64 (apC C (n + 1) 0) i = false) : lN (shN C n i) ||| lN 0 = lN (shN C (n + 1) i) := by
  rw [lN_or]; simp only [shN]; rw [h]
  show _ = lN (shN C n i ||| 0 <<< n)
  rw [Nat.zero_shiftLeft]
set_option maxHeartbeats 4000000 in
set_option maxRecDepth 100000 in
theorem mt_X1_layShown (l : Launch) (D : va_G) (ca : Nat → ClassId) (cq : Nat → Nat) (xq : Nat → Nat) (ak : Nat → Int32) (tb_ : Nat → Int64) (va : Nat → Int32) (fy : Nat → Int64) (cn : Nat → Int32) (an : Nat → Int32) (sw : Nat → Int64) (sb : Nat → Int64) (sv : Value) (C : Nat → Nat) (h0 : C 0 ≤ 12) (hkd0 : ∀ k, k < 12 → C (1 + k) < 8) (hse : ∀ k, k < 12 → C (13 + k) < 6 + k ∧ C (25 + k) < 6 + k) (ho : C 37 < 2 ^ 18) (hbx : C 38 < 2 ^ 18) (hno : popc 18 (C 37) ≤ 4) (nn : Nat) : Met l yX1_layShown (ws_ yX1_layShown cX1_layShown 5 (Option.some Jvm.ClassFile.FieldType.long)) ({ frames := 4, cells := 0, slots := 0, locals := 95 } : Room) (va_Pc [.ref (xq 0)] (PreW EvX D vwCl (TY ca) (WT ca cq xq (kdC C) (fsC C) (snC C) ak (nI (C 0)) (nI (C 37)) (nI (C 38)) (fI (C 39)) (nI (C 40)) (lN (C 66)) (nI (C 41)) tb_ va fy cn an sw sb sv) nn)) (va_Ql (fun (r_ : Int64) (u_ : (Nat → Int64) × (Nat → Int64) × (Nat → Int64)) => r_ = lN (opn C (2 * (6 + C 0))) ∧ ((∀ t, t < 64 → u_.2.2 t = lN (shN C (2 * (6 + C 0)) t)))) (PostW D vwCl (TY ca) (fun (u_ : (Nat → Int64) × (Nat → Int64) × (Nat → Int64)) => (WT ca cq xq (kdC C) (fsC C) (snC C) ak (nI (C 0)) (nI (C 37)) (nI (C 38)) (fI (C 39)) (nI (C 40)) (lN (C 66)) (nI (C 41)) u_.1 va u_.2.1 cn an (fillL (2 * (6 + C 0)) (fun f => apC C (f + 1) 0) sw) u_.2.2 sv)) (va_A (WT ca cq xq (kdC C) (fsC C) (snC C) ak (nI (C 0)) (nI (C 37)) (nI (C 38)) (fI (C 39)) (nI (C 40)) (lN (C 66)) (nI (C 41)) tb_ va fy cn an sw sb sv) nn)) (va_A (WT ca cq xq (kdC C) (fsC C) (snC C) ak (nI (C 0)) (nI (C 37)) (nI (C 38)) (fI (C 39)) (nI (C 40)) (lN (C 66)) (nI (C 41)) tb_ va fy cn an sw sb sv) nn)) 0 0 (va_A (WT ca cq xq (kdC C) (fsC C) (snC C) ak (nI (C 0)) (nI (C 37)) (nI (C 38)) (fI (C 39)) (nI (C 40)) (lN (C 66)) (nI (C 41)) tb_ va fy cn an sw sb sv) nn) := by
  refine met_go (QA := fun A => va_Ql (fun (r_ : Int64) (u_ : (Nat → Int64) × (Nat → Int64) × (Nat → Int64)) => r_ = lN (opn C (2 * (6 + C 0))) ∧ ((∀ t, t < 64 → u_.2.2 t = lN (shN C (2 * (6 + C 0)) t)))) (PostW D vwCl (TY ca) (fun (u_ : (Nat → Int64) × (Nat → Int64) × (Nat → Int64)) => (WT ca cq xq (kdC C) (fsC C) (snC C) ak (nI (C 0)) (nI (C 37)) (nI (C 38)) (fI (C 39)) (nI (C 40)) (lN (C 66)) (nI (C 41)) u_.1 va u_.2.1 cn an (fillL (2 * (6 + C 0)) (fun f => apC C (f + 1) 0) sw) u_.2.2 sv)) A) A) (by decide) (Nat.le_of_ble_eq_true rfl) (fun p e s m below meth c A ls QQ hQQ hx hb hr hts hown hlocks hml hA hP hK hD hE hl => ?_)
  have hown : s.vm.findClass RX1 = some m.cls := hown
  have hS : va_S A s.heap s.heap [] := va_S.rf
  have hl : lv_has ls 5 [(0, .ref (xq 0))] := hl
  generalize hHe : s.heap = H at hP ⊢
  have hS : va_S A s.heap H [] := hHe ▸ hS
  generalize ([] : List Loc) = locs at hS ⊢
  refine lv_lconst (v := lN 0) hx hb dX1_layShown_0 (by decide) ?_
  refine lv_lstore_n (lv' := [(1, .long (lN 0)), (0, .ref (xq 0))]) hx hb dX1_layShown_1 rfl hl (by decide) rfl (fun ls hl => ?_)
  refine lv_iconst (v := nI 0) hx hb dX1_layShown_2 (by decide) ?_
  refine lv_istore_n (lv' := [(3, .int (nI 0)), (1, .long (lN 0)), (0, .ref (xq 0))]) hx hb dX1_layShown_3 rfl hl (by decide) rfl (fun ls hl => ?_)
  have lp_4 : ∀ (fu_4 : Nat) (i : Nat) (b_ : Nat → Int64), 64 - i < fu_4 → (i ≤ 64) → (∀ t, t < i → b_ t = lN 0) → ∀ (H : Heap) (locs : List Loc), va_P D vwCl (WT ca cq xq (kdC C) (fsC C) (snC C) ak (nI (C 0)) (nI (C 37)) (nI (C 38)) (fI (C 39)) (nI (C 40)) (lN (C 66)) (nI (C 41)) tb_ va fy cn an sw b_ sv) H → va_D A (WT ca cq xq (kdC C) (fsC C) (snC C) ak (nI (C 0)) (nI (C 37)) (nI (C 38)) (fI (C 39)) (nI (C 40)) (lN (C 66)) (nI (C 41)) tb_ va fy cn an sw b_ sv) → va_S A s.heap H locs → ∀ (ls : Array Slot), lv_has ls 5 [(3, .int (nI i)), (1, .long (lN 0)), (0, .ref (xq 0))] → W p l e ({ frames := 4, cells := 0, slots := 0, locals := 95 } : Room) s m ([.ref (xq 0)] : List Value).toArray below meth c H locs 0 0 QQ (F0 m 4 ls []) := by
    intro fu_4
    induction fu_4 with
    | zero => intro i b_ hfu; exact absurd hfu (Nat.not_lt_zero _)
    | succ fu_4 ih_4 =>
      intro i b_ hfu hi hb_ H locs hP hD hS ls hl
      refine lv_iload_n hx hb dX1_layShown_4 rfl (lv_at hl 0 rfl) ?_
      refine lv_bipush (v := nI 64) hx hb dX1_layShown_5 (by decide) ?_
      refine nv_icmp_ge (tgt := 23) hx hb dX1_layShown_7 (by decide) (by omega) (by omega) (fun c_7 => ?_) (fun c_7 => ?_)
      · skip
        have e_ : 64 = i := Eq.symm (by omega)
        subst e_
        refine lv_iconst (v := nI 0) hx hb dX1_layShown_23 (by decide) ?_
        refine lv_istore_n (lv' := [(3, .int (nI 0)), (1, .long (lN 0)), (0, .ref (xq 0))]) hx hb dX1_layShown_24 rfl hl (by decide) rfl (fun ls hl => ?_)
        have lp_25 : ∀ (fu_25 : Nat) (n : Nat) (t_ : Nat → Int64) (y_ : Nat → Int64) (b_ : Nat → Int64), 2 * (6 + C 0) - n < fu_25 → (n ≤ 2 * (6 + C 0)) → (∀ t, t < 64 → b_ t = lN (shN C n t)) → ∀ (H : Heap) (locs : List Loc), va_P D vwCl (WT ca cq xq (kdC C) (fsC C) (snC C) ak (nI (C 0)) (nI (C 37)) (nI (C 38)) (fI (C 39)) (nI (C 40)) (lN (C 66)) (nI (C 41)) t_ va y_ cn an (fillL n (fun f => apC C (f + 1) 0) sw) b_ sv) H → va_D A (WT ca cq xq (kdC C) (fsC C) (snC C) ak (nI (C 0)) (nI (C 37)) (nI (C 38)) (fI (C 39)) (nI (C 40)) (lN (C 66)) (nI (C 41)) t_ va y_ cn an (fillL n (fun f => apC C (f + 1) 0) sw) b_ sv) → va_S A s.heap H locs → ∀ (ls : Array Slot), lv_has ls 5 [(3, .int (nI n)), (1, .long (lN (opn C n))), (0, .ref (xq 0))] → W p l e ({ frames := 4, cells := 0, slots := 0, locals := 95 } : Room) s m ([.ref (xq 0)] : List Value).toArray below meth c H locs 0 0 QQ (F0 m 25 ls []) := by
          intro fu_25
          induction fu_25 with
          | zero => intro n t_ y_ b_ hfu; exact absurd hfu (Nat.not_lt_zero _)
          | succ fu_25 ih_25 =>
            intro n t_ y_ b_ hfu hn hb_ H locs hP hD hS ls hl
            refine lv_iload_n hx hb dX1_layShown_25 rfl (lv_at hl 0 rfl) ?_
            refine lv_aload_n hx hb dX1_layShown_26 rfl (lv_at hl 2 rfl) ?_
            refine gWT_5_circuit_X1 hx hb hts hown hK hP dX1_layShown_27 ?_
            refine xc_i (xr_V (b := cq 0) (ci := 1) (q0 := 0) (As := []) (rest := [.int (nI n)]) (mt_X2_faults l D ca cq (kdC C) (fsC C) (snC C) ak (nI (C 37)) (nI (C 38)) (fI (C 39)) (nI (C 40)) (lN (C 66)) (nI (C 41)) (C 0)  H.size) ⟨hx, hb, hml, hown, hts⟩ (cwV 0 hts (lw_V q439 q440 q441 q80 q442) rfl rfl rfl (by decide +kernel) ⟨Nat.le_of_ble_eq_true rfl, Nat.le_of_ble_eq_true rfl⟩) EvX_ok hE hK hS (Cut.app (wc := (WC ca cq (kdC C) (fsC C) (snC C) ak (nI (C 0)) (nI (C 37)) (nI (C 38)) (fI (C 39)) (nI (C 40)) (lN (C 66)) (nI (C 41)))) (wr := (WTr ca cq xq t_ va y_ cn an (fillL n (fun f => apC C (f + 1) 0) sw) b_ sv)) hP hD hS hA) rfl rfl rfl hl.1 rfl (Nat.le_of_ble_eq_true rfl) dX1_layShown_30 ⟨Nat.le_of_ble_eq_true rfl, Nat.le_of_ble_eq_true rfl⟩) hS (Cut.app (wc := (WC ca cq (kdC C) (fsC C) (snC C) ak (nI (C 0)) (nI (C 37)) (nI (C 38)) (fI (C 39)) (nI (C 40)) (lN (C 66)) (nI (C 41)))) (wr := (WTr ca cq xq t_ va y_ cn an (fillL n (fun f => apC C (f + 1) 0) sw) b_ sv)) hP hD hS hA) (fun r_2 u_3 H locs hq_30 hP hD hS => ?_)
            have hP : va_P D vwCl (WT ca cq xq (kdC C) (fsC C) (snC C) ak (nI (C 0)) (nI (C 37)) (nI (C 38)) (fI (C 39)) (nI (C 40)) (lN (C 66)) (nI (C 41)) t_ va y_ cn an (fillL n (fun f => apC C (f + 1) 0) sw) b_ sv) H := hP
            have hD : va_D A (WT ca cq xq (kdC C) (fsC C) (snC C) ak (nI (C 0)) (nI (C 37)) (nI (C 38)) (fI (C 39)) (nI (C 40)) (lN (C 66)) (nI (C 41)) t_ va y_ cn an (fillL n (fun f => apC C (f + 1) 0) sw) b_ sv) := hD
            have hp_30 : r_2 = nI (2 * (6 + (C 0))) := hq_30
            clear hq_30
            obtain rfl := hp_30
            refine nv_icmp_ge (tgt := 122) hx hb dX1_layShown_33 (by decide) (by omega) (by omega) (fun c_33 => ?_) (fun c_33 => ?_)
            · skip
              have e_ : 2 * (6 + C 0) = n := Eq.symm (by omega)
              subst e_
              refine lv_lload_n hx hb dX1_layShown_122 rfl (lv_at hl 1 rfl) ?_
              subst hQQ
              exact xe_l (v := lN (opn C (2 * (6 + C 0)))) (t_, y_, b_) hx hb hr hlocks hK hP hD hS (⟨rfl, hb_⟩) dX1_layShown_123
            · skip
              refine lv_aload_n hx hb dX1_layShown_36 rfl (lv_at hl 2 rfl) ?_
              refine gWT_5_shown_X1 hx hb hts hown hK hP dX1_layShown_37 ?_
              refine lv_iload_n hx hb dX1_layShown_40 rfl (lv_at hl 0 rfl) ?_
              refine lv_aload_n hx hb dX1_layShown_41 rfl (lv_at hl 2 rfl) ?_
              refine lv_iload_n hx hb dX1_layShown_42 rfl (lv_at hl 0 rfl) ?_
              refine lv_topi (nm_r (e' := fI (n + 1)) (fI_S n) ?_)
              refine lv_iconst (v := fI 0) hx hb dX1_layShown_43 (by decide) ?_
              refine xc_l (xr_V (b := xq 0) (ci := 0) (q0 := 5) (As := [.int (fI (n + 1)), .int (fI 0)]) (rest := [.int (nI n), .ref (xq 6)]) (mt_X1_testsBy l D ca cq xq ak t_ va y_ cn an (fillL n (fun f => apC C (f + 1) 0) sw) b_ sv C (n + 1) 0 (by first | assumption | omega | (simp only [updN, forgetC, changedC]; (repeat' split) <;> omega)) (by first | assumption | omega | (simp only [updN, forgetC, changedC]; (repeat' split) <;> omega)) (by first | assumption | omega | (simp only [updN, forgetC, changedC]; (repeat' split) <;> omega)) (by first | assumption | omega | (simp only [updN, forgetC, changedC]; (repeat' split) <;> omega)) (by first | assumption | omega | (simp only [updN, forgetC, changedC]; (repeat' split) <;> omega)) (by first | assumption | omega | (simp only [updN, forgetC, changedC]; (repeat' split) <;> omega)) (by first | assumption | omega | (simp only [updN, forgetC, changedC]; (repeat' split) <;> omega)) (by first | assumption | omega | (simp only [updN, forgetC, changedC]; (repeat' split) <;> omega)) H.size) ⟨hx, hb, hml, hown, hts⟩ (cwV 2 hts (lw_V q447 q449 qs7 q79 q450) rfl rfl rfl (by decide +kernel) ⟨Nat.le_of_ble_eq_true rfl, Nat.le_of_ble_eq_true rfl⟩) EvX_ok hE hK hS (Cut.all hP hD hS hA) rfl rfl rfl hl.1 rfl (Nat.le_of_ble_eq_true rfl) dX1_layShown_44 ⟨Nat.le_of_ble_eq_true rfl, Nat.le_of_ble_eq_true rfl⟩) hS (Cut.all hP hD hS hA) (fun r_5 u_6 H locs hq_44 hP hD hS => ?_)
              obtain ⟨tb1_7, fy1_8⟩ := u_6
              have hP : va_P D vwCl (WT ca cq xq (kdC C) (fsC C) (snC C) ak (nI (C 0)) (nI (C 37)) (nI (C 38)) (fI (C 39)) (nI (C 40)) (lN (C 66)) (nI (C 41)) tb1_7 va fy1_8 cn an (fillL n (fun f => apC C (f + 1) 0) sw) b_ sv) H := hP
              have hD : va_D A (WT ca cq xq (kdC C) (fsC C) (snC C) ak (nI (C 0)) (nI (C 37)) (nI (C 38)) (fI (C 39)) (nI (C 40)) (lN (C 66)) (nI (C 41)) tb1_7 va fy1_8 cn an (fillL n (fun f => apC C (f + 1) 0) sw) b_ sv) := hD
              have hp_44 : r_5 = apC C (n + 1) 0 := hq_44
              clear hq_44
              obtain rfl := hp_44
              refine stWT_11 hx hb hK hP hD hS (by omega) dX1_layShown_47 (fun H locs hP hD hS => ?_)
              have ew_ : vp_updL (fillL n (fun f => apC C (f + 1) 0) sw) n (apC C (n + 1) 0) = fillL (n + 1) (fun f => apC C (f + 1) 0) sw := fillL_s _ _ _
              have hP : va_P D vwCl (WT ca cq xq (kdC C) (fsC C) (snC C) ak (nI (C 0)) (nI (C 37)) (nI (C 38)) (fI (C 39)) (nI (C 40)) (lN (C 66)) (nI (C 41)) tb1_7 va fy1_8 cn an (fillL (n + 1) (fun f => apC C (f + 1) 0) sw) b_ sv) H := (congrArg (fun x_ => va_P D vwCl (WT ca cq xq (kdC C) (fsC C) (snC C) ak (nI (C 0)) (nI (C 37)) (nI (C 38)) (fI (C 39)) (nI (C 40)) (lN (C 66)) (nI (C 41)) tb1_7 va fy1_8 cn an x_ b_ sv) H) ew_).mp hP
              have hD : va_D A (WT ca cq xq (kdC C) (fsC C) (snC C) ak (nI (C 0)) (nI (C 37)) (nI (C 38)) (fI (C 39)) (nI (C 40)) (lN (C 66)) (nI (C 41)) tb1_7 va fy1_8 cn an (fillL (n + 1) (fun f => apC C (f + 1) 0) sw) b_ sv) := (congrArg (fun x_ => va_D A (WT ca cq xq (kdC C) (fsC C) (snC C) ak (nI (C 0)) (nI (C 37)) (nI (C 38)) (fI (C 39)) (nI (C 40)) (lN (C 66)) (nI (C 41)) tb1_7 va fy1_8 cn an x_ b_ sv)) ew_).mp hD
              clear ew_
              refine lv_lload_n hx hb dX1_layShown_48 rfl (lv_at hl 1 rfl) ?_
              refine lv_aload_n hx hb dX1_layShown_49 rfl (lv_at hl 2 rfl) ?_
              refine gWT_5_shown_X1 hx hb hts hown hK hP dX1_layShown_50 ?_
              refine lv_iload_n hx hb dX1_layShown_53 rfl (lv_at hl 0 rfl) ?_
              refine ldWT_11 hx hb hK hP (by omega) dX1_layShown_54 ?_
              refine lv_topl (nm_r (e' := apC C (n + 1) 0) (fillL_at (by omega)) ?_)
              refine lv_lconst (v := lN 0) hx hb dX1_layShown_55 (by decide) ?_
              refine nv_lcmp_eq (tgt := 66) hx hb dX1_layShown_56 dX1_layShown_57 (by decide) (fun c_56 => ?_) (fun c_56 => ?_)
              · skip
                refine lv_lconst (v := lN 0) hx hb dX1_layShown_66 (by decide) ?_
                refine lv_lor hx hb dX1_layShown_67 ?_
                refine lv_topl (nm_r (e' := lN (opn C (n + 1))) (by rw [lN_or]; simp only [opn]; rw [if_pos c_56, Nat.or_zero]) ?_)
                refine lv_lstore_n (lv' := [(1, .long (lN (opn C (n + 1)))), (3, .int (nI n)), (0, .ref (xq 0))]) hx hb dX1_layShown_68 rfl hl (by decide) rfl (fun ls hl => ?_)
                refine lv_iconst (v := nI 0) hx hb dX1_layShown_69 (by decide) ?_
                refine lv_istore (lv' := [(4, .int (nI 0)), (1, .long (lN (opn C (n + 1)))), (3, .int (nI n)), (0, .ref (xq 0))]) hx hb dX1_layShown_70 hl (by decide) rfl (fun ls hl => ?_)
                have lp_72 : ∀ (fu_72 : Nat) (i : Nat) (c_ : Nat → Int64), 64 - i < fu_72 → (i ≤ 64) → (∀ t, t < i → c_ t = lN (shN C (n + 1) t)) → (∀ t, i ≤ t → t < 64 → c_ t = lN (shN C n t)) → ∀ (H : Heap) (locs : List Loc), va_P D vwCl (WT ca cq xq (kdC C) (fsC C) (snC C) ak (nI (C 0)) (nI (C 37)) (nI (C 38)) (fI (C 39)) (nI (C 40)) (lN (C 66)) (nI (C 41)) tb1_7 va fy1_8 cn an (fillL (n + 1) (fun f => apC C (f + 1) 0) sw) c_ sv) H → va_D A (WT ca cq xq (kdC C) (fsC C) (snC C) ak (nI (C 0)) (nI (C 37)) (nI (C 38)) (fI (C 39)) (nI (C 40)) (lN (C 66)) (nI (C 41)) tb1_7 va fy1_8 cn an (fillL (n + 1) (fun f => apC C (f + 1) 0) sw) c_ sv) → va_S A s.heap H locs → ∀ (ls : Array Slot), lv_has ls 5 [(4, .int (nI i)), (1, .long (lN (opn C (n + 1)))), (3, .int (nI n)), (0, .ref (xq 0))] → W p l e ({ frames := 4, cells := 0, slots := 0, locals := 95 } : Room) s m ([.ref (xq 0)] : List Value).toArray below meth c H locs 0 0 QQ (F0 m 72 ls []) := by
                  intro fu_72
                  induction fu_72 with
                  | zero => intro i c_ hfu; exact absurd hfu (Nat.not_lt_zero _)
                  | succ fu_72 ih_72 =>
                    intro i c_ hfu hi hl_ hr_ H locs hP hD hS ls hl
                    refine lv_iload hx hb dX1_layShown_72 (lv_at hl 0 rfl) ?_
                    refine lv_bipush (v := nI 64) hx hb dX1_layShown_74 (by decide) ?_
                    refine nv_icmp_ge (tgt := 116) hx hb dX1_layShown_76 (by decide) (by omega) (by omega) (fun c_76 => ?_) (fun c_76 => ?_)
                    · skip
                      have e_ : 64 = i := Eq.symm (by omega)
                      subst e_
                      refine lv_iinc (v := nI (n + 1)) (lv' := [(3, .int (nI (n + 1))), (4, .int (nI 64)), (1, .long (lN (opn C (n + 1)))), (0, .ref (xq 0))]) hx hb dX1_layShown_116 hl (k := 2) rfl (nI_add n 1) (by decide) rfl (fun ls hl => ?_)
                      refine lv_goto (tgt := 25) hx hb dX1_layShown_119 (by decide) ?_
                      exact ih_25  (n + 1) tb1_7 fy1_8 c_ (by omega) (by omega) (fun t ht => hl_ t (by omega)) _ _ hP hD hS ls (lv_sub hl [0, 2, 3] rfl)
                    · skip
                      refine lv_aload_n hx hb dX1_layShown_79 rfl (lv_at hl 3 rfl) ?_
                      refine gWT_5_shownBy_X1 hx hb hts hown hK hP dX1_layShown_80 ?_
                      refine lv_iload hx hb dX1_layShown_83 (lv_at hl 0 rfl) ?_
                      refine lv_dup2_11 hx hb dX1_layShown_85 rfl rfl ?_
                      refine ldWT_12 hx hb hK hP (by omega) dX1_layShown_86 ?_
                      refine lv_topl (nm_r (e' := lN (shN C n i)) (hr_ i (Nat.le_refl i) (by omega)) ?_)
                      refine lv_aload_n hx hb dX1_layShown_87 rfl (lv_at hl 3 rfl) ?_
                      refine gWT_5_shown_X1 hx hb hts hown hK hP dX1_layShown_88 ?_
                      refine lv_iload_n hx hb dX1_layShown_91 rfl (lv_at hl 2 rfl) ?_
                      refine ldWT_11 hx hb hK hP (by omega) dX1_layShown_92 ?_
                      refine lv_topl (nm_r (e' := apC C (n + 1) 0) (fillL_at (by omega)) ?_)
                      refine lv_iload hx hb dX1_layShown_93 (lv_at hl 0 rfl) ?_
                      refine xc_i (xr_S (As := [.long (apC C (n + 1) 0), .int (nI i)]) (rest := [.long (lN (shN C n i)), .int (nI i), .ref (xq 7)]) (mt_X1_isIn_2 l D ca (apC C (n + 1) 0) i (by first | assumption | omega | (simp only [updN, forgetC, changedC]; (repeat' split) <;> omega)) H.size) ⟨hx, hb, hml, hown, hts⟩ (va_cwS 2 hts (lw_S q478 q479 q79 q480) rfl rfl rfl (by decide +kernel) ⟨Nat.le_of_ble_eq_true rfl, Nat.le_of_ble_eq_true rfl⟩) Ev0_ok trivial hK hS (Cut.app (wc := []) (wr := (WT ca cq xq (kdC C) (fsC C) (snC C) ak (nI (C 0)) (nI (C 37)) (nI (C 38)) (fI (C 39)) (nI (C 40)) (lN (C 66)) (nI (C 41)) tb1_7 va fy1_8 cn an (fillL (n + 1) (fun f => apC C (f + 1) 0) sw) c_ sv)) hP hD hS hA) rfl hl.1 rfl (Nat.le_of_ble_eq_true rfl) dX1_layShown_95 ⟨Nat.le_of_ble_eq_true rfl, Nat.le_of_ble_eq_true rfl⟩) hS (Cut.app (wc := []) (wr := (WT ca cq xq (kdC C) (fsC C) (snC C) ak (nI (C 0)) (nI (C 37)) (nI (C 38)) (fI (C 39)) (nI (C 40)) (lN (C 66)) (nI (C 41)) tb1_7 va fy1_8 cn an (fillL (n + 1) (fun f => apC C (f + 1) 0) sw) c_ sv)) hP hD hS hA) (fun r_11 u_12 H locs hq_95 hP hD hS => ?_)
                      have hP : va_P D vwCl (WT ca cq xq (kdC C) (fsC C) (snC C) ak (nI (C 0)) (nI (C 37)) (nI (C 38)) (fI (C 39)) (nI (C 40)) (lN (C 66)) (nI (C 41)) tb1_7 va fy1_8 cn an (fillL (n + 1) (fun f => apC C (f + 1) 0) sw) c_ sv) H := hP
                      have hD : va_D A (WT ca cq xq (kdC C) (fsC C) (snC C) ak (nI (C 0)) (nI (C 37)) (nI (C 38)) (fI (C 39)) (nI (C 40)) (lN (C 66)) (nI (C 41)) tb1_7 va fy1_8 cn an (fillL (n + 1) (fun f => apC C (f + 1) 0) sw) c_ sv) := hD
                      have hp_95 : r_11 = bI (bit64 (apC C (n + 1) 0) i) := hq_95
                      clear hq_95
                      obtain rfl := hp_95
                      refine nv_ifb_eq (tgt := 107) hx hb dX1_layShown_98 (by decide) (fun c_98 => ?_) (fun c_98 => ?_)
                      · skip
                        refine lv_lconst (v := lN 0) hx hb dX1_layShown_107 (by decide) ?_
                        refine lv_lor hx hb dX1_layShown_108 ?_
                        refine stWT_12 hx hb hK hP hD hS (by omega) dX1_layShown_109 (fun H locs hP hD hS => ?_)
                        refine lv_iinc (v := nI (i + 1)) (lv' := [(4, .int (nI (i + 1))), (1, .long (lN (opn C (n + 1)))), (3, .int (nI n)), (0, .ref (xq 0))]) hx hb dX1_layShown_110 hl (k := 0) rfl (nI_add i 1) (by decide) rfl (fun ls hl => ?_)
                        refine lv_goto (tgt := 72) hx hb dX1_layShown_113 (by decide) ?_
                        exact ih_72  (i + 1) (vp_updL c_ i ((lN (shN C n i)) ||| (lN 0))) (by omega) (by omega) (sb_up hl_ hr_ (by omega) (sh_n c_98)).1 (sb_up hl_ hr_ (by omega) (sh_n c_98)).2 _ _ hP hD hS ls (lv_sub hl [0, 1, 2, 3] rfl)
                      · skip
                        refine lv_lconst (v := lN 1) hx hb dX1_layShown_101 (by decide) ?_
                        refine lv_iload_n hx hb dX1_layShown_102 rfl (lv_at hl 2 rfl) ?_
                        refine lv_lshl (v := shl64 (lN 1) n) hx hb dX1_layShown_103 rfl ?_
                        refine lv_goto (tgt := 108) hx hb dX1_layShown_104 (by decide) ?_
                        refine lv_lor hx hb dX1_layShown_108 ?_
                        refine stWT_12 hx hb hK hP hD hS (by omega) dX1_layShown_109 (fun H locs hP hD hS => ?_)
                        refine lv_iinc (v := nI (i + 1)) (lv' := [(4, .int (nI (i + 1))), (1, .long (lN (opn C (n + 1)))), (3, .int (nI n)), (0, .ref (xq 0))]) hx hb dX1_layShown_110 hl (k := 0) rfl (nI_add i 1) (by decide) rfl (fun ls hl => ?_)
                        refine lv_goto (tgt := 72) hx hb dX1_layShown_113 (by decide) ?_
                        exact ih_72  (i + 1) (vp_updL c_ i ((lN (shN C n i)) ||| (shl64 (lN 1) n))) (by omega) (by omega) (sb_up hl_ hr_ (by omega) (sh_y (by omega) c_98)).1 (sb_up hl_ hr_ (by omega) (sh_y (by omega) c_98)).2 _ _ hP hD hS ls (lv_sub hl [0, 1, 2, 3] rfl)
                exact lp_72 (64 - 0 + 1) 0 b_ (Nat.lt_succ_self _) (by omega) (fun t ht => absurd ht (Nat.not_lt_zero t)) (fun t _ ht => hb_ t ht) _ _ hP hD hS ls (lv_sub hl [0, 1, 2, 3] rfl)
              · skip
                refine lv_lconst (v := lN 1) hx hb dX1_layShown_60 (by decide) ?_
                refine lv_iload_n hx hb dX1_layShown_61 rfl (lv_at hl 0 rfl) ?_
                refine lv_lshl (v := shl64 (lN 1) n) hx hb dX1_layShown_62 rfl ?_
                refine lv_goto (tgt := 67) hx hb dX1_layShown_63 (by decide) ?_
                refine lv_lor hx hb dX1_layShown_67 ?_
                refine lv_topl (nm_r (e' := lN (opn C (n + 1))) (by rw [shl_lN (by omega), lN_or]; simp only [opn]; rw [if_neg c_56]) ?_)
                refine lv_lstore_n (lv' := [(1, .long (lN (opn C (n + 1)))), (3, .int (nI n)), (0, .ref (xq 0))]) hx hb dX1_layShown_68 rfl hl (by decide) rfl (fun ls hl => ?_)
                refine lv_iconst (v := nI 0) hx hb dX1_layShown_69 (by decide) ?_
                refine lv_istore (lv' := [(4, .int (nI 0)), (1, .long (lN (opn C (n + 1)))), (3, .int (nI n)), (0, .ref (xq 0))]) hx hb dX1_layShown_70 hl (by decide) rfl (fun ls hl => ?_)
                have lp_72 : ∀ (fu_72 : Nat) (i : Nat) (c_ : Nat → Int64), 64 - i < fu_72 → (i ≤ 64) → (∀ t, t < i → c_ t = lN (shN C (n + 1) t)) → (∀ t, i ≤ t → t < 64 → c_ t = lN (shN C n t)) → ∀ (H : Heap) (locs : List Loc), va_P D vwCl (WT ca cq xq (kdC C) (fsC C) (snC C) ak (nI (C 0)) (nI (C 37)) (nI (C 38)) (fI (C 39)) (nI (C 40)) (lN (C 66)) (nI (C 41)) tb1_7 va fy1_8 cn an (fillL (n + 1) (fun f => apC C (f + 1) 0) sw) c_ sv) H → va_D A (WT ca cq xq (kdC C) (fsC C) (snC C) ak (nI (C 0)) (nI (C 37)) (nI (C 38)) (fI (C 39)) (nI (C 40)) (lN (C 66)) (nI (C 41)) tb1_7 va fy1_8 cn an (fillL (n + 1) (fun f => apC C (f + 1) 0) sw) c_ sv) → va_S A s.heap H locs → ∀ (ls : Array Slot), lv_has ls 5 [(4, .int (nI i)), (1, .long (lN (opn C (n + 1)))), (3, .int (nI n)), (0, .ref (xq 0))] → W p l e ({ frames := 4, cells := 0, slots := 0, locals := 95 } : Room) s m ([.ref (xq 0)] : List Value).toArray below meth c H locs 0 0 QQ (F0 m 72 ls []) := by
                  intro fu_72
                  induction fu_72 with
                  | zero => intro i c_ hfu; exact absurd hfu (Nat.not_lt_zero _)
                  | succ fu_72 ih_72 =>
                    intro i c_ hfu hi hl_ hr_ H locs hP hD hS ls hl
                    refine lv_iload hx hb dX1_layShown_72 (lv_at hl 0 rfl) ?_
                    refine lv_bipush (v := nI 64) hx hb dX1_layShown_74 (by decide) ?_
                    refine nv_icmp_ge (tgt := 116) hx hb dX1_layShown_76 (by decide) (by omega) (by omega) (fun c_76 => ?_) (fun c_76 => ?_)
                    · skip
                      have e_ : 64 = i := Eq.symm (by omega)
                      subst e_
                      refine lv_iinc (v := nI (n + 1)) (lv' := [(3, .int (nI (n + 1))), (4, .int (nI 64)), (1, .long (lN (opn C (n + 1)))), (0, .ref (xq 0))]) hx hb dX1_layShown_116 hl (k := 2) rfl (nI_add n 1) (by decide) rfl (fun ls hl => ?_)
                      refine lv_goto (tgt := 25) hx hb dX1_layShown_119 (by decide) ?_
                      exact ih_25  (n + 1) tb1_7 fy1_8 c_ (by omega) (by omega) (fun t ht => hl_ t (by omega)) _ _ hP hD hS ls (lv_sub hl [0, 2, 3] rfl)
                    · skip
                      refine lv_aload_n hx hb dX1_layShown_79 rfl (lv_at hl 3 rfl) ?_
                      refine gWT_5_shownBy_X1 hx hb hts hown hK hP dX1_layShown_80 ?_
                      refine lv_iload hx hb dX1_layShown_83 (lv_at hl 0 rfl) ?_
                      refine lv_dup2_11 hx hb dX1_layShown_85 rfl rfl ?_
                      refine ldWT_12 hx hb hK hP (by omega) dX1_layShown_86 ?_
                      refine lv_topl (nm_r (e' := lN (shN C n i)) (hr_ i (Nat.le_refl i) (by omega)) ?_)
                      refine lv_aload_n hx hb dX1_layShown_87 rfl (lv_at hl 3 rfl) ?_
                      refine gWT_5_shown_X1 hx hb hts hown hK hP dX1_layShown_88 ?_
                      refine lv_iload_n hx hb dX1_layShown_91 rfl (lv_at hl 2 rfl) ?_
                      refine ldWT_11 hx hb hK hP (by omega) dX1_layShown_92 ?_
                      refine lv_topl (nm_r (e' := apC C (n + 1) 0) (fillL_at (by omega)) ?_)
                      refine lv_iload hx hb dX1_layShown_93 (lv_at hl 0 rfl) ?_
                      refine xc_i (xr_S (As := [.long (apC C (n + 1) 0), .int (nI i)]) (rest := [.long (lN (shN C n i)), .int (nI i), .ref (xq 7)]) (mt_X1_isIn_2 l D ca (apC C (n + 1) 0) i (by first | assumption | omega | (simp only [updN, forgetC, changedC]; (repeat' split) <;> omega)) H.size) ⟨hx, hb, hml, hown, hts⟩ (va_cwS 2 hts (lw_S q478 q479 q79 q480) rfl rfl rfl (by decide +kernel) ⟨Nat.le_of_ble_eq_true rfl, Nat.le_of_ble_eq_true rfl⟩) Ev0_ok trivial hK hS (Cut.app (wc := []) (wr := (WT ca cq xq (kdC C) (fsC C) (snC C) ak (nI (C 0)) (nI (C 37)) (nI (C 38)) (fI (C 39)) (nI (C 40)) (lN (C 66)) (nI (C 41)) tb1_7 va fy1_8 cn an (fillL (n + 1) (fun f => apC C (f + 1) 0) sw) c_ sv)) hP hD hS hA) rfl hl.1 rfl (Nat.le_of_ble_eq_true rfl) dX1_layShown_95 ⟨Nat.le_of_ble_eq_true rfl, Nat.le_of_ble_eq_true rfl⟩) hS (Cut.app (wc := []) (wr := (WT ca cq xq (kdC C) (fsC C) (snC C) ak (nI (C 0)) (nI (C 37)) (nI (C 38)) (fI (C 39)) (nI (C 40)) (lN (C 66)) (nI (C 41)) tb1_7 va fy1_8 cn an (fillL (n + 1) (fun f => apC C (f + 1) 0) sw) c_ sv)) hP hD hS hA) (fun r_15 u_16 H locs hq_95 hP hD hS => ?_)
                      have hP : va_P D vwCl (WT ca cq xq (kdC C) (fsC C) (snC C) ak (nI (C 0)) (nI (C 37)) (nI (C 38)) (fI (C 39)) (nI (C 40)) (lN (C 66)) (nI (C 41)) tb1_7 va fy1_8 cn an (fillL (n + 1) (fun f => apC C (f + 1) 0) sw) c_ sv) H := hP
                      have hD : va_D A (WT ca cq xq (kdC C) (fsC C) (snC C) ak (nI (C 0)) (nI (C 37)) (nI (C 38)) (fI (C 39)) (nI (C 40)) (lN (C 66)) (nI (C 41)) tb1_7 va fy1_8 cn an (fillL (n + 1) (fun f => apC C (f + 1) 0) sw) c_ sv) := hD
                      have hp_95 : r_15 = bI (bit64 (apC C (n + 1) 0) i) := hq_95
                      clear hq_95
                      obtain rfl := hp_95
                      refine nv_ifb_eq (tgt := 107) hx hb dX1_layShown_98 (by decide) (fun c_98 => ?_) (fun c_98 => ?_)
                      · skip
                        refine lv_lconst (v := lN 0) hx hb dX1_layShown_107 (by decide) ?_
                        refine lv_lor hx hb dX1_layShown_108 ?_
                        refine stWT_12 hx hb hK hP hD hS (by omega) dX1_layShown_109 (fun H locs hP hD hS => ?_)
                        refine lv_iinc (v := nI (i + 1)) (lv' := [(4, .int (nI (i + 1))), (1, .long (lN (opn C (n + 1)))), (3, .int (nI n)), (0, .ref (xq 0))]) hx hb dX1_layShown_110 hl (k := 0) rfl (nI_add i 1) (by decide) rfl (fun ls hl => ?_)
                        refine lv_goto (tgt := 72) hx hb dX1_layShown_113 (by decide) ?_
                        exact ih_72  (i + 1) (vp_updL c_ i ((lN (shN C n i)) ||| (lN 0))) (by omega) (by omega) (sb_up hl_ hr_ (by omega) (sh_n c_98)).1 (sb_up hl_ hr_ (by omega) (sh_n c_98)).2 _ _ hP hD hS ls (lv_sub hl [0, 1, 2, 3] rfl)
                      · skip
                        refine lv_lconst (v := lN 1) hx hb dX1_layShown_101 (by decide) ?_
                        refine lv_iload_n hx hb dX1_layShown_102 rfl (lv_at hl 2 rfl) ?_
                        refine lv_lshl (v := shl64 (lN 1) n) hx hb dX1_layShown_103 rfl ?_
                        refine lv_goto (tgt := 108) hx hb dX1_layShown_104 (by decide) ?_
                        refine lv_lor hx hb dX1_layShown_108 ?_
                        refine stWT_12 hx hb hK hP hD hS (by omega) dX1_layShown_109 (fun H locs hP hD hS => ?_)
                        refine lv_iinc (v := nI (i + 1)) (lv' := [(4, .int (nI (i + 1))), (1, .long (lN (opn C (n + 1)))), (3, .int (nI n)), (0, .ref (xq 0))]) hx hb dX1_layShown_110 hl (k := 0) rfl (nI_add i 1) (by decide) rfl (fun ls hl => ?_)
                        refine lv_goto (tgt := 72) hx hb dX1_layShown_113 (by decide) ?_
                        exact ih_72  (i + 1) (vp_updL c_ i ((lN (shN C n i)) ||| (shl64 (lN 1) n))) (by omega) (by omega) (sb_up hl_ hr_ (by omega) (sh_y (by omega) c_98)).1 (sb_up hl_ hr_ (by omega) (sh_y (by omega) c_98)).2 _ _ hP hD hS ls (lv_sub hl [0, 1, 2, 3] rfl)
                exact lp_72 (64 - 0 + 1) 0 b_ (Nat.lt_succ_self _) (by omega) (fun t ht => absurd ht (Nat.not_lt_zero t)) (fun t _ ht => hb_ t ht) _ _ hP hD hS ls (lv_sub hl [0, 1, 2, 3] rfl)
        have ew_ : sw = fillL 0 (fun f => apC C (f + 1) 0) sw := (fillL_0 _ _).symm
        have hP : va_P D vwCl (WT ca cq xq (kdC C) (fsC C) (snC C) ak (nI (C 0)) (nI (C 37)) (nI (C 38)) (fI (C 39)) (nI (C 40)) (lN (C 66)) (nI (C 41)) tb_ va fy cn an (fillL 0 (fun f => apC C (f + 1) 0) sw) b_ sv) H := (congrArg (fun x_ => va_P D vwCl (WT ca cq xq (kdC C) (fsC C) (snC C) ak (nI (C 0)) (nI (C 37)) (nI (C 38)) (fI (C 39)) (nI (C 40)) (lN (C 66)) (nI (C 41)) tb_ va fy cn an x_ b_ sv) H) ew_).mp hP
        have hD : va_D A (WT ca cq xq (kdC C) (fsC C) (snC C) ak (nI (C 0)) (nI (C 37)) (nI (C 38)) (fI (C 39)) (nI (C 40)) (lN (C 66)) (nI (C 41)) tb_ va fy cn an (fillL 0 (fun f => apC C (f + 1) 0) sw) b_ sv) := (congrArg (fun x_ => va_D A (WT ca cq xq (kdC C) (fsC C) (snC C) ak (nI (C 0)) (nI (C 37)) (nI (C 38)) (fI (C 39)) (nI (C 40)) (lN (C 66)) (nI (C 41)) tb_ va fy cn an x_ b_ sv)) ew_).mp hD
        clear ew_
        exact lp_25 (2 * (6 + C 0) - 0 + 1) 0 tb_ fy b_ (Nat.lt_succ_self _) (by omega) (fun t ht => hb_ t (by omega)) _ _ hP hD hS ls (lv_sub hl [0, 1, 2] rfl)
      · skip
        refine lv_aload_n hx hb dX1_layShown_10 rfl (lv_at hl 2 rfl) ?_
        refine gWT_5_shownBy_X1 hx hb hts hown hK hP dX1_layShown_11 ?_
        refine lv_iload_n hx hb dX1_layShown_14 rfl (lv_at hl 0 rfl) ?_
        refine lv_lconst (v := lN 0) hx hb dX1_layShown_15 (by decide) ?_
        refine stWT_12 hx hb hK hP hD hS (by omega) dX1_layShown_16 (fun H locs hP hD hS => ?_)
        refine lv_iinc (v := nI (i + 1)) (lv' := [(3, .int (nI (i + 1))), (1, .long (lN 0)), (0, .ref (xq 0))]) hx hb dX1_layShown_17 hl (k := 0) rfl (nI_add i 1) (by decide) rfl (fun ls hl => ?_)
        refine lv_goto (tgt := 4) hx hb dX1_layShown_20 (by decide) ?_
        exact ih_4  (i + 1) (vp_updL b_ i (lN 0)) (by omega) (by omega) (fun t ht => by simp only [vp_updL]; split; rfl; exact hb_ t (by omega)) _ _ hP hD hS ls (lv_sub hl [0, 1, 2] rfl)
  exact lp_4 (64 - 0 + 1) 0 sb (Nat.lt_succ_self _) (by omega) (fun t ht => absurd ht (Nat.not_lt_zero t)) _ _ hP hD hS ls (lv_sub hl [0, 1, 2] rfl)
