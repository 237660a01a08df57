/-! contracts of the model: running orders, means, the chosen -/
set_option maxRecDepth 100000
set_option maxHeartbeats 8000000 in
set_option maxRecDepth 100000 in
theorem mt_X3_run_ok (l : Launch) (D : va_G) (ca : Nat → ClassId) (q : Nat → Nat) (th : Int32) (ik : Int32) (ou : Int32) (pa : Int32) (iw : Int32) (so : Int32) (na : Int32) (nb : Int32) (fo : Int32) (nu : Int32) (al : Int32) (be : Nat → Int32) (ke : Nat → Int32) (te : Nat → Int32) (ti : Nat → Int32) (ne : Nat → Int32) (wa : Nat → Int32) (ta : Nat → Int64) (out : Nat → Int64) (pl : Nat → Int64) (lo : Nat → Int64) (sh : Nat → Int64) (le : Nat → Int64) (T_ : List Nat) (C : Nat → Nat) (L : List (Nat → Nat)) (hI : Inv C) (hTe : TeOk T_ te) (hTx : TxOk T_) (hL : L.length ≤ 5) (hB : BeOk L be) (hp : prsB T_ (T_.length + 1) 0 = true) (nn : Nat) : Met l yX3_run (ws_ yX3_run cX3_run 3 (Option.some Jvm.ClassFile.FieldType.int)) ({ frames := 5, cells := 0, slots := 0, locals := 108 } : Room) (va_Pc [.ref (q 0)] (PreW Ev0 D vwCl (TY ca) (WM ca q th (nI L.length) ik (nI T_.length) ou pa iw so na nb fo nu al (zOf C) be ke te ti ne wa ta out pl lo sh le) nn)) (va_Qi (fun (r_ : Int32) (u_ : (Nat → Int32) × Nat × Int32 × Int32 × Int32 × (Nat → Int64) × (Nat → Int64) × Int32) => r_ = nI (runN C (prsL T_ (T_.length + 1) 0)) ∧ (BeOk (pushL L C) u_.1)) (PostW D vwCl (TY ca) (fun (u_ : (Nat → Int32) × Nat × Int32 × Int32 × Int32 × (Nat → Int64) × (Nat → Int64) × Int32) => (WM ca q (nI 0) (nI (pushL L C).length) ik (nI T_.length) u_.2.2.2.2.2.2.2 (nI u_.2.1) (bI false) u_.2.2.1 u_.2.2.2.1 u_.2.2.2.2.1 fo nu al (zOf (runC C (prsL T_ (T_.length + 1) 0))) u_.1 ke te ti ne wa u_.2.2.2.2.2.1 u_.2.2.2.2.2.2.1 pl lo sh le)) (va_A (WM ca q th (nI L.length) ik (nI T_.length) ou pa iw so na nb fo nu al (zOf C) be ke te ti ne wa ta out pl lo sh le) nn)) (va_A (WM ca q th (nI L.length) ik (nI T_.length) ou pa iw so na nb fo nu al (zOf C) be ke te ti ne wa ta out pl lo sh le) nn)) 0 0 (va_A (WM ca q th (nI L.length) ik (nI T_.length) ou pa iw so na nb fo nu al (zOf C) be ke te ti ne wa ta out pl lo sh le) nn) := by
  refine met_go (QA := fun A => va_Qi (fun (r_ : Int32) (u_ : (Nat → Int32) × Nat × Int32 × Int32 × Int32 × (Nat → Int64) × (Nat → Int64) × Int32) => r_ = nI (runN C (prsL T_ (T_.length + 1) 0)) ∧ (BeOk (pushL L C) u_.1)) (PostW D vwCl (TY ca) (fun (u_ : (Nat → Int32) × Nat × Int32 × Int32 × Int32 × (Nat → Int64) × (Nat → Int64) × Int32) => (WM ca q (nI 0) (nI (pushL L C).length) ik (nI T_.length) u_.2.2.2.2.2.2.2 (nI u_.2.1) (bI false) u_.2.2.1 u_.2.2.2.1 u_.2.2.2.2.1 fo nu al (zOf (runC C (prsL T_ (T_.length + 1) 0))) u_.1 ke te ti ne wa u_.2.2.2.2.2.1 u_.2.2.2.2.2.2.1 pl lo sh le)) A) A) (by decide) (Nat.le_of_ble_eq_true rfl) (fun p e s m below meth c A ls QQ hQQ hx hb hr hts hown hlocks hml hA hP hK hD hE hl => ?_)
  have hown : s.vm.findClass RX3 = some m.cls := hown
  have hS : va_S A s.heap s.heap [] := va_S.rf
  have hl : lv_has ls 3 [(0, .ref (q 0))] := hl
  generalize hHe : s.heap = H at hP ⊢
  have hS : va_S A s.heap H [] := hHe ▸ hS
  generalize ([] : List Loc) = locs at hS ⊢
  refine lv_aload_n hx hb dX3_run_0 rfl (lv_at hl 0 rfl) ?_
  refine xc_v (xr_V (b := q 0) (ci := 2) (q0 := 0) (As := []) (rest := []) (mt_X3_parse l D ca q th (nI L.length) ik ou pa iw so na nb fo nu al (zOf C) be ke te ti ne wa ta out pl lo sh le T_ (by first | assumption | omega | (simp only [updN, forgetC, changedC]; (repeat' split) <;> omega)) (by first | assumption | omega | (simp only [updN, forgetC, changedC]; (repeat' split) <;> omega)) H.size) ⟨hx, hb, hml, hown, hts⟩ (cwV 0 hts (lw_V q1875 q1877 qs70 q87 q1878) rfl rfl rfl (by decide +kernel) ⟨Nat.le_of_ble_eq_true rfl, Nat.le_of_ble_eq_true rfl⟩) Ev0_ok hE hK hS (Cut.all hP hD hS hA) rfl rfl rfl hl.1 rfl (Nat.le_of_ble_eq_true rfl) dX3_run_1 ⟨Nat.le_of_ble_eq_true rfl, Nat.le_of_ble_eq_true rfl⟩) hS (Cut.all hP hD hS hA) (fun u_2 H locs hq_1 hP hD hS => ?_)
  obtain ⟨so1_3, na1_4, nb1_5⟩ := u_2
  have hP : va_P D vwCl (WM ca q th (nI L.length) ik (nI T_.length) ou (nI (prsP T_ (T_.length + 1) 0)) (bI (!prsB T_ (T_.length + 1) 0)) so1_3 na1_4 nb1_5 fo nu al (zOf C) be ke te ti ne wa ta out pl lo sh le) H := hP
  have hD : va_D A (WM ca q th (nI L.length) ik (nI T_.length) ou (nI (prsP T_ (T_.length + 1) 0)) (bI (!prsB T_ (T_.length + 1) 0)) so1_3 na1_4 nb1_5 fo nu al (zOf C) be ke te ti ne wa ta out pl lo sh le) := hD
  have hp_1 : True := hq_1
  clear hq_1
  have ew_ : bI (!prsB T_ (T_.length + 1) 0) = bI false := by rw [hp]; rfl
  have hP : va_P D vwCl (WM ca q th (nI L.length) ik (nI T_.length) ou (nI (prsP T_ (T_.length + 1) 0)) (bI false) so1_3 na1_4 nb1_5 fo nu al (zOf C) be ke te ti ne wa ta out pl lo sh le) H := (congrArg (fun x_ => va_P D vwCl (WM ca q th (nI L.length) ik (nI T_.length) ou (nI (prsP T_ (T_.length + 1) 0)) x_ so1_3 na1_4 nb1_5 fo nu al (zOf C) be ke te ti ne wa ta out pl lo sh le) H) ew_).mp hP
  have hD : va_D A (WM ca q th (nI L.length) ik (nI T_.length) ou (nI (prsP T_ (T_.length + 1) 0)) (bI false) so1_3 na1_4 nb1_5 fo nu al (zOf C) be ke te ti ne wa ta out pl lo sh le) := (congrArg (fun x_ => va_D A (WM ca q th (nI L.length) ik (nI T_.length) ou (nI (prsP T_ (T_.length + 1) 0)) x_ so1_3 na1_4 nb1_5 fo nu al (zOf C) be ke te ti ne wa ta out pl lo sh le)) ew_).mp hD
  clear ew_
  refine lv_aload_n hx hb dX3_run_4 rfl (lv_at hl 0 rfl) ?_
  refine lv_aload_n hx hb dX3_run_5 rfl (lv_at hl 0 rfl) ?_
  refine gWM_0_isWrong_X3 hx hb hts hown hK hP dX3_run_6 ?_
  refine nv_ifb_eq (tgt := 16) hx hb dX3_run_9 (by decide) (fun _ => ?_) (fun q_ => by cases q_)
  refine lv_iconst (v := nI 0) hx hb dX3_run_16 (by decide) ?_
  refine pWM_0_thrown_X3 hx hb hts hown hK hP hD hS dX3_run_17 (fun H locs hP hD hS => ?_)
  refine lv_aload_n hx hb dX3_run_20 rfl (lv_at hl 0 rfl) ?_
  refine gWM_0_thrown_X3 hx hb hts hown hK hP dX3_run_21 ?_
  refine nv_if_le (tgt := 29) hx hb dX3_run_24 (by decide) (by omega) (fun c_24 => ?_) (fun c_24 => absurd c_24 (by decide))
  refine lv_aload_n hx hb dX3_run_29 rfl (lv_at hl 0 rfl) ?_
  refine xc_v (xr_V (b := q 0) (ci := 2) (q0 := 0) (As := []) (rest := []) (mt_X3_record l D ca q (nI 0) ik (nI T_.length) ou (nI (prsP T_ (T_.length + 1) 0)) (bI false) so1_3 na1_4 nb1_5 fo nu al be ke te ti ne wa ta out pl lo sh le C L (by first | assumption | omega | (simp only [updN, forgetC, changedC]; (repeat' split) <;> omega)) (by first | assumption | omega | (simp only [updN, forgetC, changedC]; (repeat' split) <;> omega)) H.size) ⟨hx, hb, hml, hown, hts⟩ (cwV 0 hts (lw_V q1680 q1682 qs42 q87 q1683) rfl rfl rfl (by decide +kernel) ⟨Nat.le_of_ble_eq_true rfl, Nat.le_of_ble_eq_true rfl⟩) Ev0_ok hE hK hS (Cut.all hP hD hS hA) rfl rfl rfl hl.1 rfl (Nat.le_of_ble_eq_true rfl) dX3_run_30 ⟨Nat.le_of_ble_eq_true rfl, Nat.le_of_ble_eq_true rfl⟩) hS (Cut.all hP hD hS hA) (fun u_7 H locs hq_30 hP hD hS => ?_)
  obtain ⟨be1_8, rfl⟩ : ∃ z_, z_ = u_7 := ⟨_, rfl⟩
  have hP : va_P D vwCl (WM ca q (nI 0) (nI (pushL L C).length) ik (nI T_.length) ou (nI (prsP T_ (T_.length + 1) 0)) (bI false) so1_3 na1_4 nb1_5 fo nu al (zOf C) be1_8 ke te ti ne wa ta out pl lo sh le) H := hP
  have hD : va_D A (WM ca q (nI 0) (nI (pushL L C).length) ik (nI T_.length) ou (nI (prsP T_ (T_.length + 1) 0)) (bI false) so1_3 na1_4 nb1_5 fo nu al (zOf C) be1_8 ke te ti ne wa ta out pl lo sh le) := hD
  have hp_30 : BeOk (pushL L C) be1_8 := hq_30
  clear hq_30
  refine lv_iconst (v := nI 0) hx hb dX3_run_33 (by decide) ?_
  refine lv_istore_n (lv' := [(1, .int (nI 0)), (0, .ref (q 0))]) hx hb dX3_run_34 rfl hl (by decide) rfl (fun ls hl => ?_)
  refine lv_iconst (v := nI 1) hx hb dX3_run_35 (by decide) ?_
  refine lv_istore_n (lv' := [(2, .int (nI 1)), (1, .int (nI 0)), (0, .ref (q 0))]) hx hb dX3_run_36 rfl hl (by decide) rfl (fun ls hl => ?_)
  refine lv_aload_n hx hb dX3_run_37 rfl (lv_at hl 2 rfl) ?_
  refine lv_iconst (v := nI 0) hx hb dX3_run_38 (by decide) ?_
  refine pWM_0_at_X3 hx hb hts hown hK hP hD hS dX3_run_39 (fun H locs hP hD hS => ?_)
  have lp_42 : ∀ (fu_42 : Nat) (i_ : Nat) (k_ : Bool) (q_ : Nat) (Dc : Nat → Nat) (Ls : List (Nat × Nat × Nat)) (f_ : Nat) (so_ : Int32) (na_ : Int32) (nb_ : Int32) (ta_ : Nat → Int64) (out_ : Nat → Int64) (ou_ : Int32), T_.length - q_ < fu_42 → (q_ ≤ 70) → ((if k_ = true then i_ + runN Dc Ls else i_) = runN C (prsL T_ (T_.length + 1) 0)) → ((if k_ = true then runC Dc Ls else Dc) = runC C (prsL T_ (T_.length + 1) 0)) → (Inv Dc) → ((T_.length ≤ q_ → Ls = []) ∧ (q_ < T_.length → k_ = true → prsB T_ f_ (nxp q_) = true ∧ Ls = prsL T_ f_ (nxp q_))) → ∀ (H : Heap) (locs : List Loc), va_P D vwCl (WM ca q (nI 0) (nI (pushL L C).length) ik (nI T_.length) ou_ (nI q_) (bI false) so_ na_ nb_ fo nu al (zOf Dc) be1_8 ke te ti ne wa ta_ out_ pl lo sh le) H → va_D A (WM ca q (nI 0) (nI (pushL L C).length) ik (nI T_.length) ou_ (nI q_) (bI false) so_ na_ nb_ fo nu al (zOf Dc) be1_8 ke te ti ne wa ta_ out_ pl lo sh le) → va_S A s.heap H locs → ∀ (ls : Array Slot), lv_has ls 3 [(2, .int (bI k_)), (1, .int (nI i_)), (0, .ref (q 0))] → W p l e ({ frames := 5, cells := 0, slots := 0, locals := 108 } : Room) s m ([.ref (q 0)] : List Value).toArray below meth c H locs 0 0 QQ (F0 m 42 ls []) := by
    intro fu_42
    induction fu_42 with
    | zero => intro i_ k_ q_ Dc Ls f_ so_ na_ nb_ ta_ out_ ou_ hfu; exact absurd hfu (Nat.not_lt_zero _)
    | succ fu_42 ih_42 =>
      intro i_ k_ q_ Dc Ls f_ so_ na_ nb_ ta_ out_ ou_ hfu hq hN hZ hInv hLs H locs hP hD hS ls hl
      refine lv_iload_n hx hb dX3_run_42 rfl (lv_at hl 0 rfl) ?_
      refine nv_ifb_eq (tgt := 102) hx hb dX3_run_43 (by decide) (fun c_43 => ?_) (fun c_43 => ?_)
      · skip
        have hk_ : k_ = false := by cases k_; rfl; exact absurd c_43 (by decide)
        have hfin : i_ = runN C (prsL T_ (T_.length + 1) 0) ∧ Dc = runC C (prsL T_ (T_.length + 1) 0) := by rw [hk_] at hN hZ; exact ⟨hN, hZ⟩
        refine lv_iload_n hx hb dX3_run_102 rfl (lv_at hl 1 rfl) ?_
        have ew_ : zOf Dc = zOf (runC C (prsL T_ (T_.length + 1) 0)) := congrArg zOf hfin.2
        have hP : va_P D vwCl (WM ca q (nI 0) (nI (pushL L C).length) ik (nI T_.length) ou_ (nI q_) (bI false) so_ na_ nb_ fo nu al (zOf (runC C (prsL T_ (T_.length + 1) 0))) be1_8 ke te ti ne wa ta_ out_ pl lo sh le) H := (congrArg (fun x_ => va_P D vwCl (WM ca q (nI 0) (nI (pushL L C).length) ik (nI T_.length) ou_ (nI q_) (bI false) so_ na_ nb_ fo nu al x_ be1_8 ke te ti ne wa ta_ out_ pl lo sh le) H) ew_).mp hP
        have hD : va_D A (WM ca q (nI 0) (nI (pushL L C).length) ik (nI T_.length) ou_ (nI q_) (bI false) so_ na_ nb_ fo nu al (zOf (runC C (prsL T_ (T_.length + 1) 0))) be1_8 ke te ti ne wa ta_ out_ pl lo sh le) := (congrArg (fun x_ => va_D A (WM ca q (nI 0) (nI (pushL L C).length) ik (nI T_.length) ou_ (nI q_) (bI false) so_ na_ nb_ fo nu al x_ be1_8 ke te ti ne wa ta_ out_ pl lo sh le)) ew_).mp hD
        clear ew_
        subst hQQ
        exact xe_i (v := nI i_) (be1_8, q_, so_, na_, nb_, ta_, out_, ou_) hx hb hr hlocks hK hP hD hS (⟨congrArg nI (hfin.1), hp_30⟩) dX3_run_103
      · skip
        have hk_ : k_ = true := by cases k_; exact absurd c_43 (by decide); rfl
        refine lv_aload_n hx hb dX3_run_46 rfl (lv_at hl 2 rfl) ?_
        refine gWM_0_at_X3 hx hb hts hown hK hP dX3_run_47 ?_
        refine lv_aload_n hx hb dX3_run_50 rfl (lv_at hl 2 rfl) ?_
        refine gWM_0_length_X3 hx hb hts hown hK hP dX3_run_51 ?_
        refine nv_icmp_ge (tgt := 102) hx hb dX3_run_54 (by decide) (by omega) (by have := hTx.1; omega) (fun c_54 => ?_) (fun c_54 => ?_)
        · skip
          have hfin : i_ = runN C (prsL T_ (T_.length + 1) 0) ∧ Dc = runC C (prsL T_ (T_.length + 1) 0) := by rw [hk_, hLs.1 c_54] at hN hZ; exact ⟨hN, hZ⟩
          refine lv_iload_n hx hb dX3_run_102 rfl (lv_at hl 1 rfl) ?_
          have ew_ : zOf Dc = zOf (runC C (prsL T_ (T_.length + 1) 0)) := congrArg zOf hfin.2
          have hP : va_P D vwCl (WM ca q (nI 0) (nI (pushL L C).length) ik (nI T_.length) ou_ (nI q_) (bI false) so_ na_ nb_ fo nu al (zOf (runC C (prsL T_ (T_.length + 1) 0))) be1_8 ke te ti ne wa ta_ out_ pl lo sh le) H := (congrArg (fun x_ => va_P D vwCl (WM ca q (nI 0) (nI (pushL L C).length) ik (nI T_.length) ou_ (nI q_) (bI false) so_ na_ nb_ fo nu al x_ be1_8 ke te ti ne wa ta_ out_ pl lo sh le) H) ew_).mp hP
          have hD : va_D A (WM ca q (nI 0) (nI (pushL L C).length) ik (nI T_.length) ou_ (nI q_) (bI false) so_ na_ nb_ fo nu al (zOf (runC C (prsL T_ (T_.length + 1) 0))) be1_8 ke te ti ne wa ta_ out_ pl lo sh le) := (congrArg (fun x_ => va_D A (WM ca q (nI 0) (nI (pushL L C).length) ik (nI T_.length) ou_ (nI q_) (bI false) so_ na_ nb_ fo nu al x_ be1_8 ke te ti ne wa ta_ out_ pl lo sh le)) ew_).mp hD
          clear ew_
          subst hQQ
          exact xe_i (v := nI i_) (be1_8, q_, so_, na_, nb_, ta_, out_, ou_) hx hb hr hlocks hK hP hD hS (⟨congrArg nI (hfin.1), hp_30⟩) dX3_run_103
        · skip
          obtain ⟨hpr, hLq⟩ := hLs.2 (by omega) hk_
          obtain ⟨Lr, hob, hLr, hLe, hLt⟩ := prs_step hpr
          rw [← hLq] at hLr
          have hor_ := orO_ok hob
          have hgt := orP_gt hob
          have hge := nxp_ge (q := q_)
          have hnl := nxp_le (q := q_)
          refine lv_aload_n hx hb dX3_run_57 rfl (lv_at hl 2 rfl) ?_
          refine lv_dup hx hb dX3_run_58 rfl ?_
          refine gWM_0_at_X3 hx hb hts hown hK hP dX3_run_59 ?_
          refine lv_aload_n hx hb dX3_run_62 rfl (lv_at hl 2 rfl) ?_
          refine gWM_0_at_X3 hx hb hts hown hK hP dX3_run_63 ?_
          refine nv_if_le (tgt := 73) hx hb dX3_run_66 (by decide) (by omega) (fun c_66 => ?_) (fun c_66 => ?_)
          · skip
            refine lv_iconst (v := nI 0) hx hb dX3_run_73 (by decide) ?_
            refine nv_iadd hx hb dX3_run_74 ?_
            refine pWM_0_at_X3 hx hb hts hown hK hP hD hS dX3_run_75 (fun H locs hP hD hS => ?_)
            have ew_ : nI (q_ + 0) = nI (nxp q_) := congrArg nI (by unfold nxp; split <;> omega)
            have hP : va_P D vwCl (WM ca q (nI 0) (nI (pushL L C).length) ik (nI T_.length) ou_ (nI (nxp q_)) (bI false) so_ na_ nb_ fo nu al (zOf Dc) be1_8 ke te ti ne wa ta_ out_ pl lo sh le) H := (congrArg (fun x_ => va_P D vwCl (WM ca q (nI 0) (nI (pushL L C).length) ik (nI T_.length) ou_ x_ (bI false) so_ na_ nb_ fo nu al (zOf Dc) be1_8 ke te ti ne wa ta_ out_ pl lo sh le) H) ew_).mp hP
            have hD : va_D A (WM ca q (nI 0) (nI (pushL L C).length) ik (nI T_.length) ou_ (nI (nxp q_)) (bI false) so_ na_ nb_ fo nu al (zOf Dc) be1_8 ke te ti ne wa ta_ out_ pl lo sh le) := (congrArg (fun x_ => va_D A (WM ca q (nI 0) (nI (pushL L C).length) ik (nI T_.length) ou_ x_ (bI false) so_ na_ nb_ fo nu al (zOf Dc) be1_8 ke te ti ne wa ta_ out_ pl lo sh le)) ew_).mp hD
            clear ew_
            refine lv_aload_n hx hb dX3_run_78 rfl (lv_at hl 2 rfl) ?_
            refine xc_v (xr_V (b := q 0) (ci := 2) (q0 := 0) (As := []) (rest := []) (mt_X3_order l D ca q (nI 0) (nI (pushL L C).length) ik ou_ so_ na_ nb_ fo nu al (zOf Dc) be1_8 ke te ti ne wa ta_ out_ pl lo sh le T_ (nxp q_) false hTe hTx (by have := hTx.1; omega) H.size) ⟨hx, hb, hml, hown, hts⟩ (cwV 0 hts (lw_V q1879 q1881 qs71 q87 q1882) rfl rfl rfl (by decide +kernel) ⟨Nat.le_of_ble_eq_true rfl, Nat.le_of_ble_eq_true rfl⟩) Ev0_ok hE hK hS (Cut.all hP hD hS hA) rfl rfl rfl hl.1 rfl (Nat.le_of_ble_eq_true rfl) dX3_run_79 ⟨Nat.le_of_ble_eq_true rfl, Nat.le_of_ble_eq_true rfl⟩) hS (Cut.all hP hD hS hA) (fun u_13 H locs hq_79 hP hD hS => ?_)
            obtain ⟨na1_14, nb1_15⟩ := u_13
            have hP : va_P D vwCl (WM ca q (nI 0) (nI (pushL L C).length) ik (nI T_.length) ou_ (nI (if false = true then (nxp q_) else orP T_ (nxp q_))) (bI (false || !orB T_ (nxp q_))) (nI (T_.getD (nxp q_) 0)) na1_14 nb1_15 fo nu al (zOf Dc) be1_8 ke te ti ne wa ta_ out_ pl lo sh le) H := hP
            have hD : va_D A (WM ca q (nI 0) (nI (pushL L C).length) ik (nI T_.length) ou_ (nI (if false = true then (nxp q_) else orP T_ (nxp q_))) (bI (false || !orB T_ (nxp q_))) (nI (T_.getD (nxp q_) 0)) na1_14 nb1_15 fo nu al (zOf Dc) be1_8 ke te ti ne wa ta_ out_ pl lo sh le) := hD
            have hp_79 : (false || !orB T_ (nxp q_)) = false → ((T_.getD (nxp q_) 0 = 37 ∨ na1_14 = nI (orO T_ (nxp q_)).2.1) ∧ (kf (T_.getD (nxp q_) 0) = 0 ∨ nb1_15 = nI (orO T_ (nxp q_)).2.2)) := hq_79
            clear hq_79
            have hOO := hp_79 (by rw [hob]; rfl)
            have ew_ : bI (false || !orB T_ (nxp q_)) = bI false := by rw [hob]; rfl
            have hP : va_P D vwCl (WM ca q (nI 0) (nI (pushL L C).length) ik (nI T_.length) ou_ (nI (if false = true then (nxp q_) else orP T_ (nxp q_))) (bI false) (nI (T_.getD (nxp q_) 0)) na1_14 nb1_15 fo nu al (zOf Dc) be1_8 ke te ti ne wa ta_ out_ pl lo sh le) H := (congrArg (fun x_ => va_P D vwCl (WM ca q (nI 0) (nI (pushL L C).length) ik (nI T_.length) ou_ (nI (if false = true then (nxp q_) else orP T_ (nxp q_))) x_ (nI (T_.getD (nxp q_) 0)) na1_14 nb1_15 fo nu al (zOf Dc) be1_8 ke te ti ne wa ta_ out_ pl lo sh le) H) ew_).mp hP
            have hD : va_D A (WM ca q (nI 0) (nI (pushL L C).length) ik (nI T_.length) ou_ (nI (if false = true then (nxp q_) else orP T_ (nxp q_))) (bI false) (nI (T_.getD (nxp q_) 0)) na1_14 nb1_15 fo nu al (zOf Dc) be1_8 ke te ti ne wa ta_ out_ pl lo sh le) := (congrArg (fun x_ => va_D A (WM ca q (nI 0) (nI (pushL L C).length) ik (nI T_.length) ou_ (nI (if false = true then (nxp q_) else orP T_ (nxp q_))) x_ (nI (T_.getD (nxp q_) 0)) na1_14 nb1_15 fo nu al (zOf Dc) be1_8 ke te ti ne wa ta_ out_ pl lo sh le)) ew_).mp hD
            clear ew_
            have ew_ : nI (if false = true then (nxp q_) else orP T_ (nxp q_)) = nI (orP T_ (nxp q_)) := rfl
            have hP : va_P D vwCl (WM ca q (nI 0) (nI (pushL L C).length) ik (nI T_.length) ou_ (nI (orP T_ (nxp q_))) (bI false) (nI (T_.getD (nxp q_) 0)) na1_14 nb1_15 fo nu al (zOf Dc) be1_8 ke te ti ne wa ta_ out_ pl lo sh le) H := (congrArg (fun x_ => va_P D vwCl (WM ca q (nI 0) (nI (pushL L C).length) ik (nI T_.length) ou_ x_ (bI false) (nI (T_.getD (nxp q_) 0)) na1_14 nb1_15 fo nu al (zOf Dc) be1_8 ke te ti ne wa ta_ out_ pl lo sh le) H) ew_).mp hP
            have hD : va_D A (WM ca q (nI 0) (nI (pushL L C).length) ik (nI T_.length) ou_ (nI (orP T_ (nxp q_))) (bI false) (nI (T_.getD (nxp q_) 0)) na1_14 nb1_15 fo nu al (zOf Dc) be1_8 ke te ti ne wa ta_ out_ pl lo sh le) := (congrArg (fun x_ => va_D A (WM ca q (nI 0) (nI (pushL L C).length) ik (nI T_.length) ou_ x_ (bI false) (nI (T_.getD (nxp q_) 0)) na1_14 nb1_15 fo nu al (zOf Dc) be1_8 ke te ti ne wa ta_ out_ pl lo sh le)) ew_).mp hD
            clear ew_
            have ew_ : nI (T_.getD (nxp q_) 0) = nI (orO T_ (nxp q_)).1 := congrArg nI orO_1.symm
            have hP : va_P D vwCl (WM ca q (nI 0) (nI (pushL L C).length) ik (nI T_.length) ou_ (nI (orP T_ (nxp q_))) (bI false) (nI (orO T_ (nxp q_)).1) na1_14 nb1_15 fo nu al (zOf Dc) be1_8 ke te ti ne wa ta_ out_ pl lo sh le) H := (congrArg (fun x_ => va_P D vwCl (WM ca q (nI 0) (nI (pushL L C).length) ik (nI T_.length) ou_ (nI (orP T_ (nxp q_))) (bI false) x_ na1_14 nb1_15 fo nu al (zOf Dc) be1_8 ke te ti ne wa ta_ out_ pl lo sh le) H) ew_).mp hP
            have hD : va_D A (WM ca q (nI 0) (nI (pushL L C).length) ik (nI T_.length) ou_ (nI (orP T_ (nxp q_))) (bI false) (nI (orO T_ (nxp q_)).1) na1_14 nb1_15 fo nu al (zOf Dc) be1_8 ke te ti ne wa ta_ out_ pl lo sh le) := (congrArg (fun x_ => va_D A (WM ca q (nI 0) (nI (pushL L C).length) ik (nI T_.length) ou_ (nI (orP T_ (nxp q_))) (bI false) x_ na1_14 nb1_15 fo nu al (zOf Dc) be1_8 ke te ti ne wa ta_ out_ pl lo sh le)) ew_).mp hD
            clear ew_
            rcases hds : dosC Dc (orO T_ (nxp q_)) with _ | E_
            · skip
              refine lv_aload_n hx hb dX3_run_82 rfl (lv_at hl 2 rfl) ?_
              refine xc_i (xr_V (b := q 0) (ci := 2) (q0 := 0) (As := []) (rest := []) (mt_X3_does_no l D ca q (nI 0) (nI (pushL L C).length) ik (nI T_.length) ou_ (nI (orP T_ (nxp q_))) (bI false) na1_14 nb1_15 fo nu al be1_8 ke te ti ne wa ta_ out_ pl lo sh le Dc (orO T_ (nxp q_)) hInv hor_ (hOO.1.imp (fun h_ => orO_1.trans h_) id) (hOO.2.imp (fun h_ => (congrArg kf orO_1).trans h_) id) hds H.size) ⟨hx, hb, hml, hown, hts⟩ (cwV 0 hts (lw_V q1902 q1904 qs75 q87 q1905) rfl rfl rfl (by decide +kernel) ⟨Nat.le_of_ble_eq_true rfl, Nat.le_of_ble_eq_true rfl⟩) Ev0_ok hE hK hS (Cut.all hP hD hS hA) rfl rfl rfl hl.1 rfl (Nat.le_of_ble_eq_true rfl) dX3_run_83 ⟨Nat.le_of_ble_eq_true rfl, Nat.le_of_ble_eq_true rfl⟩) hS (Cut.all hP hD hS hA) (fun r_16 u_17 H locs hq_83 hP hD hS => ?_)
              obtain ⟨na1_18, nb1_19, ta1_20, out1_21, ou1_22⟩ := u_17
              have hP : va_P D vwCl (WM ca q (nI 0) (nI (pushL L C).length) ik (nI T_.length) ou1_22 (nI (orP T_ (nxp q_))) (bI false) (nI (orO T_ (nxp q_)).1) na1_18 nb1_19 fo nu al (zOf Dc) be1_8 ke te ti ne wa ta1_20 out1_21 pl lo sh le) H := hP
              have hD : va_D A (WM ca q (nI 0) (nI (pushL L C).length) ik (nI T_.length) ou1_22 (nI (orP T_ (nxp q_))) (bI false) (nI (orO T_ (nxp q_)).1) na1_18 nb1_19 fo nu al (zOf Dc) be1_8 ke te ti ne wa ta1_20 out1_21 pl lo sh le) := hD
              have hp_83 : r_16 = bI false := hq_83
              clear hq_83
              obtain rfl := hp_83
              refine lv_istore_n (lv' := [(2, .int (bI false)), (1, .int (nI i_)), (0, .ref (q 0))]) hx hb dX3_run_86 rfl hl (by decide) rfl (fun ls hl => ?_)
              refine lv_iload_n hx hb dX3_run_87 rfl (lv_at hl 1 rfl) ?_
              refine lv_iload_n hx hb dX3_run_88 rfl (lv_at hl 0 rfl) ?_
              refine nv_ifb_eq (tgt := 96) hx hb dX3_run_89 (by decide) (fun _ => ?_) (fun q_ => by cases q_)
              refine lv_iconst (v := nI 0) hx hb dX3_run_96 (by decide) ?_
              refine nv_iadd hx hb dX3_run_97 ?_
              refine lv_istore_n (lv' := [(1, .int (nI (i_ + 0))), (2, .int (bI false)), (0, .ref (q 0))]) hx hb dX3_run_98 rfl hl (by decide) rfl (fun ls hl => ?_)
              refine lv_goto (tgt := 42) hx hb dX3_run_99 (by decide) ?_
              exact ih_42  (i_ + 0) false (orP T_ (nxp q_)) Dc Lr (f_ - 1) (nI (orO T_ (nxp q_)).1) na1_18 nb1_19 ta1_20 out1_21 ou1_22 (by omega) (Nat.le_trans orP_le (by have := nxp_le (q := q_); have := hTx.1; omega)) (by rw [if_neg (by decide), ← hN, if_pos hk_, hLr, runN_c, hds]) (by rw [if_neg (by decide), ← hZ, if_pos hk_, hLr, runC_c, hds]) hInv ⟨hLe, fun _ h_ => absurd h_ (by decide)⟩ _ _ hP hD hS ls (lv_sub hl [1, 0, 2] rfl)
            · skip
              refine lv_aload_n hx hb dX3_run_82 rfl (lv_at hl 2 rfl) ?_
              refine xc_i (xr_V (b := q 0) (ci := 2) (q0 := 0) (As := []) (rest := []) (mt_X3_does_ok l D ca q (nI 0) (nI (pushL L C).length) ik (nI T_.length) ou_ (nI (orP T_ (nxp q_))) (bI false) na1_14 nb1_15 fo nu al be1_8 ke te ti ne wa ta_ out_ pl lo sh le Dc (orO T_ (nxp q_)) E_ hInv hor_ (hOO.1.imp (fun h_ => orO_1.trans h_) id) (hOO.2.imp (fun h_ => (congrArg kf orO_1).trans h_) id) hds H.size) ⟨hx, hb, hml, hown, hts⟩ (cwV 0 hts (lw_V q1902 q1904 qs75 q87 q1905) rfl rfl rfl (by decide +kernel) ⟨Nat.le_of_ble_eq_true rfl, Nat.le_of_ble_eq_true rfl⟩) Ev0_ok hE hK hS (Cut.all hP hD hS hA) rfl rfl rfl hl.1 rfl (Nat.le_of_ble_eq_true rfl) dX3_run_83 ⟨Nat.le_of_ble_eq_true rfl, Nat.le_of_ble_eq_true rfl⟩) hS (Cut.all hP hD hS hA) (fun r_23 u_24 H locs hq_83 hP hD hS => ?_)
              obtain ⟨na1_25, nb1_26, ta1_27, out1_28, ou1_29⟩ := u_24
              have hP : va_P D vwCl (WM ca q (nI 0) (nI (pushL L C).length) ik (nI T_.length) ou1_29 (nI (orP T_ (nxp q_))) (bI false) (nI (orO T_ (nxp q_)).1) na1_25 nb1_26 fo nu al (zOf E_) be1_8 ke te ti ne wa ta1_27 out1_28 pl lo sh le) H := hP
              have hD : va_D A (WM ca q (nI 0) (nI (pushL L C).length) ik (nI T_.length) ou1_29 (nI (orP T_ (nxp q_))) (bI false) (nI (orO T_ (nxp q_)).1) na1_25 nb1_26 fo nu al (zOf E_) be1_8 ke te ti ne wa ta1_27 out1_28 pl lo sh le) := hD
              have hp_83 : r_23 = bI true := hq_83
              clear hq_83
              obtain rfl := hp_83
              refine lv_istore_n (lv' := [(2, .int (bI true)), (1, .int (nI i_)), (0, .ref (q 0))]) hx hb dX3_run_86 rfl hl (by decide) rfl (fun ls hl => ?_)
              refine lv_iload_n hx hb dX3_run_87 rfl (lv_at hl 1 rfl) ?_
              refine lv_iload_n hx hb dX3_run_88 rfl (lv_at hl 0 rfl) ?_
              refine nv_ifb_eq (tgt := 96) hx hb dX3_run_89 (by decide) (fun q_ => by cases q_) (fun _ => ?_)
              refine lv_iconst (v := nI 1) hx hb dX3_run_92 (by decide) ?_
              refine lv_goto (tgt := 97) hx hb dX3_run_93 (by decide) ?_
              refine nv_iadd hx hb dX3_run_97 ?_
              refine lv_istore_n (lv' := [(1, .int (nI (i_ + 1))), (2, .int (bI true)), (0, .ref (q 0))]) hx hb dX3_run_98 rfl hl (by decide) rfl (fun ls hl => ?_)
              refine lv_goto (tgt := 42) hx hb dX3_run_99 (by decide) ?_
              exact ih_42  (i_ + 1) true (orP T_ (nxp q_)) E_ Lr (f_ - 1) (nI (orO T_ (nxp q_)).1) na1_25 nb1_26 ta1_27 out1_28 ou1_29 (by omega) (Nat.le_trans orP_le (by have := nxp_le (q := q_); have := hTx.1; omega)) (by rw [if_pos rfl, ← hN, if_pos hk_, hLr, runN_c, hds]; exact Nat.add_assoc _ _ _) (by rw [if_pos rfl, ← hZ, if_pos hk_, hLr, runC_c, hds]) (Inv_dos hInv hor_ hds) ⟨hLe, fun h_ _ => by rw [nxp_p (by omega)]; exact hLt h_⟩ _ _ hP hD hS ls (lv_sub hl [1, 0, 2] rfl)
          · skip
            refine lv_iconst (v := nI 1) hx hb dX3_run_69 (by decide) ?_
            refine lv_goto (tgt := 74) hx hb dX3_run_70 (by decide) ?_
            refine nv_iadd hx hb dX3_run_74 ?_
            refine pWM_0_at_X3 hx hb hts hown hK hP hD hS dX3_run_75 (fun H locs hP hD hS => ?_)
            have ew_ : nI (q_ + 1) = nI (nxp q_) := congrArg nI (by unfold nxp; split <;> omega)
            have hP : va_P D vwCl (WM ca q (nI 0) (nI (pushL L C).length) ik (nI T_.length) ou_ (nI (nxp q_)) (bI false) so_ na_ nb_ fo nu al (zOf Dc) be1_8 ke te ti ne wa ta_ out_ pl lo sh le) H := (congrArg (fun x_ => va_P D vwCl (WM ca q (nI 0) (nI (pushL L C).length) ik (nI T_.length) ou_ x_ (bI false) so_ na_ nb_ fo nu al (zOf Dc) be1_8 ke te ti ne wa ta_ out_ pl lo sh le) H) ew_).mp hP
            have hD : va_D A (WM ca q (nI 0) (nI (pushL L C).length) ik (nI T_.length) ou_ (nI (nxp q_)) (bI false) so_ na_ nb_ fo nu al (zOf Dc) be1_8 ke te ti ne wa ta_ out_ pl lo sh le) := (congrArg (fun x_ => va_D A (WM ca q (nI 0) (nI (pushL L C).length) ik (nI T_.length) ou_ x_ (bI false) so_ na_ nb_ fo nu al (zOf Dc) be1_8 ke te ti ne wa ta_ out_ pl lo sh le)) ew_).mp hD
            clear ew_
            refine lv_aload_n hx hb dX3_run_78 rfl (lv_at hl 2 rfl) ?_
            refine xc_v (xr_V (b := q 0) (ci := 2) (q0 := 0) (As := []) (rest := []) (mt_X3_order l D ca q (nI 0) (nI (pushL L C).length) ik ou_ so_ na_ nb_ fo nu al (zOf Dc) be1_8 ke te ti ne wa ta_ out_ pl lo sh le T_ (nxp q_) false hTe hTx (by have := hTx.1; omega) H.size) ⟨hx, hb, hml, hown, hts⟩ (cwV 0 hts (lw_V q1879 q1881 qs71 q87 q1882) rfl rfl rfl (by decide +kernel) ⟨Nat.le_of_ble_eq_true rfl, Nat.le_of_ble_eq_true rfl⟩) Ev0_ok hE hK hS (Cut.all hP hD hS hA) rfl rfl rfl hl.1 rfl (Nat.le_of_ble_eq_true rfl) dX3_run_79 ⟨Nat.le_of_ble_eq_true rfl, Nat.le_of_ble_eq_true rfl⟩) hS (Cut.all hP hD hS hA) (fun u_31 H locs hq_79 hP hD hS => ?_)
            obtain ⟨na1_32, nb1_33⟩ := u_31
            have hP : va_P D vwCl (WM ca q (nI 0) (nI (pushL L C).length) ik (nI T_.length) ou_ (nI (if false = true then (nxp q_) else orP T_ (nxp q_))) (bI (false || !orB T_ (nxp q_))) (nI (T_.getD (nxp q_) 0)) na1_32 nb1_33 fo nu al (zOf Dc) be1_8 ke te ti ne wa ta_ out_ pl lo sh le) H := hP
            have hD : va_D A (WM ca q (nI 0) (nI (pushL L C).length) ik (nI T_.length) ou_ (nI (if false = true then (nxp q_) else orP T_ (nxp q_))) (bI (false || !orB T_ (nxp q_))) (nI (T_.getD (nxp q_) 0)) na1_32 nb1_33 fo nu al (zOf Dc) be1_8 ke te ti ne wa ta_ out_ pl lo sh le) := hD
            have hp_79 : (false || !orB T_ (nxp q_)) = false → ((T_.getD (nxp q_) 0 = 37 ∨ na1_32 = nI (orO T_ (nxp q_)).2.1) ∧ (kf (T_.getD (nxp q_) 0) = 0 ∨ nb1_33 = nI (orO T_ (nxp q_)).2.2)) := hq_79
            clear hq_79
            have hOO := hp_79 (by rw [hob]; rfl)
            have ew_ : bI (false || !orB T_ (nxp q_)) = bI false := by rw [hob]; rfl
            have hP : va_P D vwCl (WM ca q (nI 0) (nI (pushL L C).length) ik (nI T_.length) ou_ (nI (if false = true then (nxp q_) else orP T_ (nxp q_))) (bI false) (nI (T_.getD (nxp q_) 0)) na1_32 nb1_33 fo nu al (zOf Dc) be1_8 ke te ti ne wa ta_ out_ pl lo sh le) H := (congrArg (fun x_ => va_P D vwCl (WM ca q (nI 0) (nI (pushL L C).length) ik (nI T_.length) ou_ (nI (if false = true then (nxp q_) else orP T_ (nxp q_))) x_ (nI (T_.getD (nxp q_) 0)) na1_32 nb1_33 fo nu al (zOf Dc) be1_8 ke te ti ne wa ta_ out_ pl lo sh le) H) ew_).mp hP
            have hD : va_D A (WM ca q (nI 0) (nI (pushL L C).length) ik (nI T_.length) ou_ (nI (if false = true then (nxp q_) else orP T_ (nxp q_))) (bI false) (nI (T_.getD (nxp q_) 0)) na1_32 nb1_33 fo nu al (zOf Dc) be1_8 ke te ti ne wa ta_ out_ pl lo sh le) := (congrArg (fun x_ => va_D A (WM ca q (nI 0) (nI (pushL L C).length) ik (nI T_.length) ou_ (nI (if false = true then (nxp q_) else orP T_ (nxp q_))) x_ (nI (T_.getD (nxp q_) 0)) na1_32 nb1_33 fo nu al (zOf Dc) be1_8 ke te ti ne wa ta_ out_ pl lo sh le)) ew_).mp hD
            clear ew_
            have ew_ : nI (if false = true then (nxp q_) else orP T_ (nxp q_)) = nI (orP T_ (nxp q_)) := rfl
            have hP : va_P D vwCl (WM ca q (nI 0) (nI (pushL L C).length) ik (nI T_.length) ou_ (nI (orP T_ (nxp q_))) (bI false) (nI (T_.getD (nxp q_) 0)) na1_32 nb1_33 fo nu al (zOf Dc) be1_8 ke te ti ne wa ta_ out_ pl lo sh le) H := (congrArg (fun x_ => va_P D vwCl (WM ca q (nI 0) (nI (pushL L C).length) ik (nI T_.length) ou_ x_ (bI false) (nI (T_.getD (nxp q_) 0)) na1_32 nb1_33 fo nu al (zOf Dc) be1_8 ke te ti ne wa ta_ out_ pl lo sh le) H) ew_).mp hP
            have hD : va_D A (WM ca q (nI 0) (nI (pushL L C).length) ik (nI T_.length) ou_ (nI (orP T_ (nxp q_))) (bI false) (nI (T_.getD (nxp q_) 0)) na1_32 nb1_33 fo nu al (zOf Dc) be1_8 ke te ti ne wa ta_ out_ pl lo sh le) := (congrArg (fun x_ => va_D A (WM ca q (nI 0) (nI (pushL L C).length) ik (nI T_.length) ou_ x_ (bI false) (nI (T_.getD (nxp q_) 0)) na1_32 nb1_33 fo nu al (zOf Dc) be1_8 ke te ti ne wa ta_ out_ pl lo sh le)) ew_).mp hD
            clear ew_
            have ew_ : nI (T_.getD (nxp q_) 0) = nI (orO T_ (nxp q_)).1 := congrArg nI orO_1.symm
            have hP : va_P D vwCl (WM ca q (nI 0) (nI (pushL L C).length) ik (nI T_.length) ou_ (nI (orP T_ (nxp q_))) (bI false) (nI (orO T_ (nxp q_)).1) na1_32 nb1_33 fo nu al (zOf Dc) be1_8 ke te ti ne wa ta_ out_ pl lo sh le) H := (congrArg (fun x_ => va_P D vwCl (WM ca q (nI 0) (nI (pushL L C).length) ik (nI T_.length) ou_ (nI (orP T_ (nxp q_))) (bI false) x_ na1_32 nb1_33 fo nu al (zOf Dc) be1_8 ke te ti ne wa ta_ out_ pl lo sh le) H) ew_).mp hP
            have hD : va_D A (WM ca q (nI 0) (nI (pushL L C).length) ik (nI T_.length) ou_ (nI (orP T_ (nxp q_))) (bI false) (nI (orO T_ (nxp q_)).1) na1_32 nb1_33 fo nu al (zOf Dc) be1_8 ke te ti ne wa ta_ out_ pl lo sh le) := (congrArg (fun x_ => va_D A (WM ca q (nI 0) (nI (pushL L C).length) ik (nI T_.length) ou_ (nI (orP T_ (nxp q_))) (bI false) x_ na1_32 nb1_33 fo nu al (zOf Dc) be1_8 ke te ti ne wa ta_ out_ pl lo sh le)) ew_).mp hD
            clear ew_
            rcases hds : dosC Dc (orO T_ (nxp q_)) with _ | E_
            · skip
              refine lv_aload_n hx hb dX3_run_82 rfl (lv_at hl 2 rfl) ?_
              refine xc_i (xr_V (b := q 0) (ci := 2) (q0 := 0) (As := []) (rest := []) (mt_X3_does_no l D ca q (nI 0) (nI (pushL L C).length) ik (nI T_.length) ou_ (nI (orP T_ (nxp q_))) (bI false) na1_32 nb1_33 fo nu al be1_8 ke te ti ne wa ta_ out_ pl lo sh le Dc (orO T_ (nxp q_)) hInv hor_ (hOO.1.imp (fun h_ => orO_1.trans h_) id) (hOO.2.imp (fun h_ => (congrArg kf orO_1).trans h_) id) hds H.size) ⟨hx, hb, hml, hown, hts⟩ (cwV 0 hts (lw_V q1902 q1904 qs75 q87 q1905) rfl rfl rfl (by decide +kernel) ⟨Nat.le_of_ble_eq_true rfl, Nat.le_of_ble_eq_true rfl⟩) Ev0_ok hE hK hS (Cut.all hP hD hS hA) rfl rfl rfl hl.1 rfl (Nat.le_of_ble_eq_true rfl) dX3_run_83 ⟨Nat.le_of_ble_eq_true rfl, Nat.le_of_ble_eq_true rfl⟩) hS (Cut.all hP hD hS hA) (fun r_34 u_35 H locs hq_83 hP hD hS => ?_)
              obtain ⟨na1_36, nb1_37, ta1_38, out1_39, ou1_40⟩ := u_35
              have hP : va_P D vwCl (WM ca q (nI 0) (nI (pushL L C).length) ik (nI T_.length) ou1_40 (nI (orP T_ (nxp q_))) (bI false) (nI (orO T_ (nxp q_)).1) na1_36 nb1_37 fo nu al (zOf Dc) be1_8 ke te ti ne wa ta1_38 out1_39 pl lo sh le) H := hP
              have hD : va_D A (WM ca q (nI 0) (nI (pushL L C).length) ik (nI T_.length) ou1_40 (nI (orP T_ (nxp q_))) (bI false) (nI (orO T_ (nxp q_)).1) na1_36 nb1_37 fo nu al (zOf Dc) be1_8 ke te ti ne wa ta1_38 out1_39 pl lo sh le) := hD
              have hp_83 : r_34 = bI false := hq_83
              clear hq_83
              obtain rfl := hp_83
              refine lv_istore_n (lv' := [(2, .int (bI false)), (1, .int (nI i_)), (0, .ref (q 0))]) hx hb dX3_run_86 rfl hl (by decide) rfl (fun ls hl => ?_)
              refine lv_iload_n hx hb dX3_run_87 rfl (lv_at hl 1 rfl) ?_
              refine lv_iload_n hx hb dX3_run_88 rfl (lv_at hl 0 rfl) ?_
              refine nv_ifb_eq (tgt := 96) hx hb dX3_run_89 (by decide) (fun _ => ?_) (fun q_ => by cases q_)
              refine lv_iconst (v := nI 0) hx hb dX3_run_96 (by decide) ?_
              refine nv_iadd hx hb dX3_run_97 ?_
              refine lv_istore_n (lv' := [(1, .int (nI (i_ + 0))), (2, .int (bI false)), (0, .ref (q 0))]) hx hb dX3_run_98 rfl hl (by decide) rfl (fun ls hl => ?_)
              refine lv_goto (tgt := 42) hx hb dX3_run_99 (by decide) ?_
              exact ih_42  (i_ + 0) false (orP T_ (nxp q_)) Dc Lr (f_ - 1) (nI (orO T_ (nxp q_)).1) na1_36 nb1_37 ta1_38 out1_39 ou1_40 (by omega) (Nat.le_trans orP_le (by have := nxp_le (q := q_); have := hTx.1; omega)) (by rw [if_neg (by decide), ← hN, if_pos hk_, hLr, runN_c, hds]) (by rw [if_neg (by decide), ← hZ, if_pos hk_, hLr, runC_c, hds]) hInv ⟨hLe, fun _ h_ => absurd h_ (by decide)⟩ _ _ hP hD hS ls (lv_sub hl [1, 0, 2] rfl)
            · skip
              refine lv_aload_n hx hb dX3_run_82 rfl (lv_at hl 2 rfl) ?_
              refine xc_i (xr_V (b := q 0) (ci := 2) (q0 := 0) (As := []) (rest := []) (mt_X3_does_ok l D ca q (nI 0) (nI (pushL L C).length) ik (nI T_.length) ou_ (nI (orP T_ (nxp q_))) (bI false) na1_32 nb1_33 fo nu al be1_8 ke te ti ne wa ta_ out_ pl lo sh le Dc (orO T_ (nxp q_)) E_ hInv hor_ (hOO.1.imp (fun h_ => orO_1.trans h_) id) (hOO.2.imp (fun h_ => (congrArg kf orO_1).trans h_) id) hds H.size) ⟨hx, hb, hml, hown, hts⟩ (cwV 0 hts (lw_V q1902 q1904 qs75 q87 q1905) rfl rfl rfl (by decide +kernel) ⟨Nat.le_of_ble_eq_true rfl, Nat.le_of_ble_eq_true rfl⟩) Ev0_ok hE hK hS (Cut.all hP hD hS hA) rfl rfl rfl hl.1 rfl (Nat.le_of_ble_eq_true rfl) dX3_run_83 ⟨Nat.le_of_ble_eq_true rfl, Nat.le_of_ble_eq_true rfl⟩) hS (Cut.all hP hD hS hA) (fun r_41 u_42 H locs hq_83 hP hD hS => ?_)
              obtain ⟨na1_43, nb1_44, ta1_45, out1_46, ou1_47⟩ := u_42
              have hP : va_P D vwCl (WM ca q (nI 0) (nI (pushL L C).length) ik (nI T_.length) ou1_47 (nI (orP T_ (nxp q_))) (bI false) (nI (orO T_ (nxp q_)).1) na1_43 nb1_44 fo nu al (zOf E_) be1_8 ke te ti ne wa ta1_45 out1_46 pl lo sh le) H := hP
              have hD : va_D A (WM ca q (nI 0) (nI (pushL L C).length) ik (nI T_.length) ou1_47 (nI (orP T_ (nxp q_))) (bI false) (nI (orO T_ (nxp q_)).1) na1_43 nb1_44 fo nu al (zOf E_) be1_8 ke te ti ne wa ta1_45 out1_46 pl lo sh le) := hD
              have hp_83 : r_41 = bI true := hq_83
              clear hq_83
              obtain rfl := hp_83
              refine lv_istore_n (lv' := [(2, .int (bI true)), (1, .int (nI i_)), (0, .ref (q 0))]) hx hb dX3_run_86 rfl hl (by decide) rfl (fun ls hl => ?_)
              refine lv_iload_n hx hb dX3_run_87 rfl (lv_at hl 1 rfl) ?_
              refine lv_iload_n hx hb dX3_run_88 rfl (lv_at hl 0 rfl) ?_
              refine nv_ifb_eq (tgt := 96) hx hb dX3_run_89 (by decide) (fun q_ => by cases q_) (fun _ => ?_)
              refine lv_iconst (v := nI 1) hx hb dX3_run_92 (by decide) ?_
              refine lv_goto (tgt := 97) hx hb dX3_run_93 (by decide) ?_
              refine nv_iadd hx hb dX3_run_97 ?_
              refine lv_istore_n (lv' := [(1, .int (nI (i_ + 1))), (2, .int (bI true)), (0, .ref (q 0))]) hx hb dX3_run_98 rfl hl (by decide) rfl (fun ls hl => ?_)
              refine lv_goto (tgt := 42) hx hb dX3_run_99 (by decide) ?_
              exact ih_42  (i_ + 1) true (orP T_ (nxp q_)) E_ Lr (f_ - 1) (nI (orO T_ (nxp q_)).1) na1_43 nb1_44 ta1_45 out1_46 ou1_47 (by omega) (Nat.le_trans orP_le (by have := nxp_le (q := q_); have := hTx.1; omega)) (by rw [if_pos rfl, ← hN, if_pos hk_, hLr, runN_c, hds]; exact Nat.add_assoc _ _ _) (by rw [if_pos rfl, ← hZ, if_pos hk_, hLr, runC_c, hds]) (Inv_dos hInv hor_ hds) ⟨hLe, fun h_ _ => by rw [nxp_p (by omega)]; exact hLt h_⟩ _ _ hP hD hS ls (lv_sub hl [1, 0, 2] rfl)
  exact lp_42 (T_.length - 0 + 1) 0 true 0 C (prsL T_ (T_.length + 1) 0) (T_.length + 1) so1_3 na1_4 nb1_5 ta out ou (Nat.lt_succ_self _) (by omega) (by rw [if_pos rfl, Nat.zero_add]) (if_pos rfl) hI ⟨fun h_ => absurd (prs_len hp) (by omega), fun _ _ => ⟨hp, rfl⟩⟩ _ _ hP hD hS ls (lv_sub hl [0, 1, 2] rfl)
set_option maxHeartbeats 4000000 in
set_option maxRecDepth 100000 in
theorem mt_X3_run_no (l : Launch) (D : va_G) (ca : Nat → ClassId) (q : Nat → Nat) (th : Int32) (st : Int32) (ik : Int32) (ou : Int32) (pa : Int32) (iw : Int32) (so : Int32) (na : Int32) (nb : Int32) (fo : Int32) (nu : Int32) (al : Int32) (z : Nat → Int32) (be : Nat → Int32) (ke : Nat → Int32) (te : Nat → Int32) (ti : Nat → Int32) (ne : Nat → Int32) (wa : Nat → Int32) (ta : Nat → Int64) (out : Nat → Int64) (pl : Nat → Int64) (lo : Nat → Int64) (sh : Nat → Int64) (le : Nat → Int64) (T_ : List Nat) (hTe : TeOk T_ te) (hTx : TxOk T_) (hp : prsB T_ (T_.length + 1) 0 = false) (nn : Nat) : Met l yX3_run (ws_ yX3_run cX3_run 3 (Option.some Jvm.ClassFile.FieldType.int)) ({ frames := 4, cells := 0, slots := 0, locals := 84 } : Room) (va_Pc [.ref (q 0)] (PreW Ev0 D vwCl (TY ca) (WM ca q th st ik (nI T_.length) ou pa iw so na nb fo nu al z be ke te ti ne wa ta out pl lo sh le) nn)) (va_Qi (fun (r_ : Int32) (u_ : Int32 × Int32 × Int32) => r_ = nI 0) (PostW D vwCl (TY ca) (fun (u_ : Int32 × Int32 × Int32) => (WM ca q (nI 1) st ik (nI T_.length) ou (nI (prsP T_ (T_.length + 1) 0)) (bI true) u_.1 u_.2.1 u_.2.2 fo nu al z be ke te ti ne wa ta out pl lo sh le)) (va_A (WM ca q th st ik (nI T_.length) ou pa iw so na nb fo nu al z be ke te ti ne wa ta out pl lo sh le) nn)) (va_A (WM ca q th st ik (nI T_.length) ou pa iw so na nb fo nu al z be ke te ti ne wa ta out pl lo sh le) nn)) 0 0 (va_A (WM ca q th st ik (nI T_.length) ou pa iw so na nb fo nu al z be ke te ti ne wa ta out pl lo sh le) nn) := by
  refine met_go (QA := fun A => va_Qi (fun (r_ : Int32) (u_ : Int32 × Int32 × Int32) => r_ = nI 0) (PostW D vwCl (TY ca) (fun (u_ : Int32 × Int32 × Int32) => (WM ca q (nI 1) st ik (nI T_.length) ou (nI (prsP T_ (T_.length + 1) 0)) (bI true) u_.1 u_.2.1 u_.2.2 fo nu al z be ke te ti ne wa ta out pl lo sh le)) A) A) (by decide) (Nat.le_of_ble_eq_true rfl) (fun p e s m below meth c A ls QQ hQQ hx hb hr hts hown hlocks hml hA hP hK hD hE hl => ?_)
  have hown : s.vm.findClass RX3 = some m.cls := hown
  have hS : va_S A s.heap s.heap [] := va_S.rf
  have hl : lv_has ls 3 [(0, .ref (q 0))] := hl
  generalize hHe : s.heap = H at hP ⊢
  have hS : va_S A s.heap H [] := hHe ▸ hS
  generalize ([] : List Loc) = locs at hS ⊢
  refine lv_aload_n hx hb dX3_run_0 rfl (lv_at hl 0 rfl) ?_
  refine xc_v (xr_V (b := q 0) (ci := 2) (q0 := 0) (As := []) (rest := []) (mt_X3_parse l D ca q th st ik ou pa iw so na nb fo nu al z be ke te ti ne wa ta out pl lo sh le T_ (by first | assumption | omega | (simp only [updN, forgetC, changedC]; (repeat' split) <;> omega)) (by first | assumption | omega | (simp only [updN, forgetC, changedC]; (repeat' split) <;> omega)) H.size) ⟨hx, hb, hml, hown, hts⟩ (cwV 0 hts (lw_V q1875 q1877 qs70 q87 q1878) rfl rfl rfl (by decide +kernel) ⟨Nat.le_of_ble_eq_true rfl, Nat.le_of_ble_eq_true rfl⟩) Ev0_ok hE hK hS (Cut.all hP hD hS hA) rfl rfl rfl hl.1 rfl (Nat.le_of_ble_eq_true rfl) dX3_run_1 ⟨Nat.le_of_ble_eq_true rfl, Nat.le_of_ble_eq_true rfl⟩) hS (Cut.all hP hD hS hA) (fun u_2 H locs hq_1 hP hD hS => ?_)
  obtain ⟨so1_3, na1_4, nb1_5⟩ := u_2
  have hP : va_P D vwCl (WM ca q th st ik (nI T_.length) ou (nI (prsP T_ (T_.length + 1) 0)) (bI (!prsB T_ (T_.length + 1) 0)) so1_3 na1_4 nb1_5 fo nu al z be ke te ti ne wa ta out pl lo sh le) H := hP
  have hD : va_D A (WM ca q th st ik (nI T_.length) ou (nI (prsP T_ (T_.length + 1) 0)) (bI (!prsB T_ (T_.length + 1) 0)) so1_3 na1_4 nb1_5 fo nu al z be ke te ti ne wa ta out pl lo sh le) := hD
  have hp_1 : True := hq_1
  clear hq_1
  have ew_ : bI (!prsB T_ (T_.length + 1) 0) = bI true := by rw [hp]; rfl
  have hP : va_P D vwCl (WM ca q th st ik (nI T_.length) ou (nI (prsP T_ (T_.length + 1) 0)) (bI true) so1_3 na1_4 nb1_5 fo nu al z be ke te ti ne wa ta out pl lo sh le) H := (congrArg (fun x_ => va_P D vwCl (WM ca q th st ik (nI T_.length) ou (nI (prsP T_ (T_.length + 1) 0)) x_ so1_3 na1_4 nb1_5 fo nu al z be ke te ti ne wa ta out pl lo sh le) H) ew_).mp hP
  have hD : va_D A (WM ca q th st ik (nI T_.length) ou (nI (prsP T_ (T_.length + 1) 0)) (bI true) so1_3 na1_4 nb1_5 fo nu al z be ke te ti ne wa ta out pl lo sh le) := (congrArg (fun x_ => va_D A (WM ca q th st ik (nI T_.length) ou (nI (prsP T_ (T_.length + 1) 0)) x_ so1_3 na1_4 nb1_5 fo nu al z be ke te ti ne wa ta out pl lo sh le)) ew_).mp hD
  clear ew_
  refine lv_aload_n hx hb dX3_run_4 rfl (lv_at hl 0 rfl) ?_
  refine lv_aload_n hx hb dX3_run_5 rfl (lv_at hl 0 rfl) ?_
  refine gWM_0_isWrong_X3 hx hb hts hown hK hP dX3_run_6 ?_
  refine nv_ifb_eq (tgt := 16) hx hb dX3_run_9 (by decide) (fun q_ => by cases q_) (fun _ => ?_)
  refine lv_iconst (v := nI 1) hx hb dX3_run_12 (by decide) ?_
  refine lv_goto (tgt := 17) hx hb dX3_run_13 (by decide) ?_
  refine pWM_0_thrown_X3 hx hb hts hown hK hP hD hS dX3_run_17 (fun H locs hP hD hS => ?_)
  refine lv_aload_n hx hb dX3_run_20 rfl (lv_at hl 0 rfl) ?_
  refine gWM_0_thrown_X3 hx hb hts hown hK hP dX3_run_21 ?_
  refine nv_if_le (tgt := 29) hx hb dX3_run_24 (by decide) (by omega) (fun c_24 => absurd c_24 (by decide)) (fun c_24 => ?_)
  refine lv_iconst (v := nI 0) hx hb dX3_run_27 (by decide) ?_
  subst hQQ
  exact xe_i (v := nI 0) (so1_3, na1_4, nb1_5) hx hb hr hlocks hK hP hD hS (rfl) dX3_run_28
