/-! the component: counts of the candidates' answers -/
set_option maxRecDepth 100000
set_option maxHeartbeats 4000000 in
set_option maxRecDepth 100000 in
theorem mt_X1_layCounts (l : Launch) (D : va_G) (ca : Nat → ClassId) (cq : Nat → Nat) (xq : Nat → Nat) (ak : Nat → Int32) (tb_ : Nat → Int64) (va : Nat → Int32) (fy : Nat → Int64) (cn : Nat → Int32) (an : Nat → Int32) (sw : Nat → Int64) (sb : Nat → Int64) (sv : Value) (C : Nat → Nat) (h0 : C 0 ≤ 12) (hkd0 : ∀ k, k < 12 → C (1 + k) < 8) (hse : ∀ k, k < 12 → C (13 + k) < 6 + k ∧ C (25 + k) < 6 + k) (ho : C 37 < 2 ^ 18) (hbx : C 38 < 2 ^ 18) (hno : popc 18 (C 37) ≤ 4) (hnb : popc 18 (C 38) ≤ 3) (hbsz : C 38 < 2 ^ C 0) (h40 : C 40 ≤ 1) (hak : C 41 ≤ 12) (hAk : AkOk C ak) (ha16 : ∀ k, k < 12 → C (54 + k) < 16) (ht64 : ∀ k, k < 12 → C (42 + k) < 64) (nn : Nat) : Met l yX1_layCounts (ws_ yX1_layCounts cX1_layCounts 7 (Option.some Jvm.ClassFile.FieldType.int)) ({ frames := 4, cells := 0, slots := 0, locals := 94 } : Room) (va_Pc [.ref (xq 0)] (PreW EvX D vwCl (TY ca) (WT ca cq xq (kdC C) (fsC C) (snC C) ak (nI (C 0)) (nI (C 37)) (nI (C 38)) (fI (C 39)) (nI (C 40)) (lN (C 66)) (nI (C 41)) tb_ va fy cn an sw sb sv) nn)) (va_Qi (fun (r_ : Int32) (u_ : (Nat → Int64) × (Nat → Int32)) => r_ = nI ((cnds C).length)) (PostW D vwCl (TY ca) (fun (u_ : (Nat → Int64) × (Nat → Int32)) => (WT ca cq xq (kdC C) (fsC C) (snC C) ak (nI (C 0)) (nI (C 37)) (nI (C 38)) (fI (C 39)) (nI (C 40)) (lN (C 66)) (nI (C 41)) u_.1 va fy (nIf (tmN C (cnds C))) u_.2 sw sb sv)) (va_A (WT ca cq xq (kdC C) (fsC C) (snC C) ak (nI (C 0)) (nI (C 37)) (nI (C 38)) (fI (C 39)) (nI (C 40)) (lN (C 66)) (nI (C 41)) tb_ va fy cn an sw sb sv) nn)) (va_A (WT ca cq xq (kdC C) (fsC C) (snC C) ak (nI (C 0)) (nI (C 37)) (nI (C 38)) (fI (C 39)) (nI (C 40)) (lN (C 66)) (nI (C 41)) tb_ va fy cn an sw sb sv) nn)) 0 0 (va_A (WT ca cq xq (kdC C) (fsC C) (snC C) ak (nI (C 0)) (nI (C 37)) (nI (C 38)) (fI (C 39)) (nI (C 40)) (lN (C 66)) (nI (C 41)) tb_ va fy cn an sw sb sv) nn) := by
  refine met_go (QA := fun A => va_Qi (fun (r_ : Int32) (u_ : (Nat → Int64) × (Nat → Int32)) => r_ = nI ((cnds C).length)) (PostW D vwCl (TY ca) (fun (u_ : (Nat → Int64) × (Nat → Int32)) => (WT ca cq xq (kdC C) (fsC C) (snC C) ak (nI (C 0)) (nI (C 37)) (nI (C 38)) (fI (C 39)) (nI (C 40)) (lN (C 66)) (nI (C 41)) u_.1 va fy (nIf (tmN C (cnds C))) u_.2 sw sb sv)) A) A) (by decide) (Nat.le_of_ble_eq_true rfl) (fun p e s m below meth c A ls QQ hQQ hx hb hr hts hown hlocks hml hA hP hK hD hE hl => ?_)
  have hown : s.vm.findClass RX1 = some m.cls := hown
  have hS : va_S A s.heap s.heap [] := va_S.rf
  have hl : lv_has ls 7 [(0, .ref (xq 0))] := hl
  generalize hHe : s.heap = H at hP ⊢
  have hS : va_S A s.heap H [] := hHe ▸ hS
  generalize ([] : List Loc) = locs at hS ⊢
  have hks := ksm_le h0 hnb
  have hfa := fa_le h0
  have hnc : no C ≤ 4 := Nat.le_trans (popc_mono (by omega)) hno
  refine lv_iconst (v := nI 0) hx hb dX1_layCounts_0 (by decide) ?_
  refine lv_istore_n (lv' := [(1, .int (nI 0)), (0, .ref (xq 0))]) hx hb dX1_layCounts_1 rfl hl (by decide) rfl (fun ls hl => ?_)
  have lp_2 : ∀ (fu_2 : Nat) (i : Nat) (b_ : Nat → Int32), 1024 - i < fu_2 → (i ≤ 1024) → (∀ t, t < i → b_ t = nI 0) → ∀ (H : Heap) (locs : List Loc), va_P D vwCl (WT ca cq xq (kdC C) (fsC C) (snC C) ak (nI (C 0)) (nI (C 37)) (nI (C 38)) (fI (C 39)) (nI (C 40)) (lN (C 66)) (nI (C 41)) tb_ va fy b_ an sw sb sv) H → va_D A (WT ca cq xq (kdC C) (fsC C) (snC C) ak (nI (C 0)) (nI (C 37)) (nI (C 38)) (fI (C 39)) (nI (C 40)) (lN (C 66)) (nI (C 41)) tb_ va fy b_ an sw sb sv) → va_S A s.heap H locs → ∀ (ls : Array Slot), lv_has ls 7 [(1, .int (nI i)), (0, .ref (xq 0))] → W p l e ({ frames := 4, cells := 0, slots := 0, locals := 94 } : Room) s m ([.ref (xq 0)] : List Value).toArray below meth c H locs 0 0 QQ (F0 m 2 ls []) := by
    intro fu_2
    induction fu_2 with
    | zero => intro i b_ hfu; exact absurd hfu (Nat.not_lt_zero _)
    | succ fu_2 ih_2 =>
      intro i b_ hfu hi hb_ H locs hP hD hS ls hl
      refine lv_iload_n hx hb dX1_layCounts_2 rfl (lv_at hl 0 rfl) ?_
      refine lv_sipush (v := nI 1024) hx hb dX1_layCounts_3 (by decide) ?_
      refine nv_icmp_ge (tgt := 22) hx hb dX1_layCounts_6 (by decide) (by omega) (by omega) (fun c_6 => ?_) (fun c_6 => ?_)
      · skip
        have e_ : 1024 = i := Eq.symm (by omega)
        subst e_
        have hP : va_P D vwCl (WT ca cq xq (kdC C) (fsC C) (snC C) ak (nI (C 0)) (nI (C 37)) (nI (C 38)) (fI (C 39)) (nI (C 40)) (lN (C 66)) (nI (C 41)) tb_ va fy (nIf (tmN C [])) an sw sb sv) H := cgWT_9 (fun k hk => hb_ k hk) hP
        have hD : va_D A (WT ca cq xq (kdC C) (fsC C) (snC C) ak (nI (C 0)) (nI (C 37)) (nI (C 38)) (fI (C 39)) (nI (C 40)) (lN (C 66)) (nI (C 41)) tb_ va fy (nIf (tmN C [])) an sw sb sv) := dgWT_9 hD
        refine lv_iconst (v := nI 0) hx hb dX1_layCounts_22 (by decide) ?_
        refine lv_istore_n (lv' := [(1, .int (nI 0)), (0, .ref (xq 0))]) hx hb dX1_layCounts_23 rfl hl (by decide) rfl (fun ls hl => ?_)
        refine lv_aload_n hx hb dX1_layCounts_24 rfl (lv_at hl 1 rfl) ?_
        refine xc_i (xr_V (b := xq 0) (ci := 0) (q0 := 5) (As := []) (rest := []) (mt_X1_assignments l D ca cq xq ak tb_ va fy (nIf (tmN C [])) an sw sb sv C (by first | assumption | omega | (simp only [updN, forgetC, changedC]; (repeat' split) <;> omega)) (by first | assumption | omega | (simp only [updN, forgetC, changedC]; (repeat' split) <;> omega)) (by first | assumption | omega | (simp only [updN, forgetC, changedC]; (repeat' split) <;> omega)) (by first | assumption | omega | (simp only [updN, forgetC, changedC]; (repeat' split) <;> omega)) H.size) ⟨hx, hb, hml, hown, hts⟩ (cwV 0 hts (lw_V q1091 q1093 qs24 q79 q1094) rfl rfl rfl (by decide +kernel) ⟨Nat.le_of_ble_eq_true rfl, Nat.le_of_ble_eq_true rfl⟩) EvX_ok hE hK hS (Cut.all hP hD hS hA) rfl rfl rfl hl.1 rfl (Nat.le_of_ble_eq_true rfl) dX1_layCounts_25 ⟨Nat.le_of_ble_eq_true rfl, Nat.le_of_ble_eq_true rfl⟩) hS (Cut.all hP hD hS hA) (fun r_2 u_3 H locs hq_25 hP hD hS => ?_)
        have hP : va_P D vwCl (WT ca cq xq (kdC C) (fsC C) (snC C) ak (nI (C 0)) (nI (C 37)) (nI (C 38)) (fI (C 39)) (nI (C 40)) (lN (C 66)) (nI (C 41)) tb_ va fy (nIf (tmN C [])) an sw sb sv) H := hP
        have hD : va_D A (WT ca cq xq (kdC C) (fsC C) (snC C) ak (nI (C 0)) (nI (C 37)) (nI (C 38)) (fI (C 39)) (nI (C 40)) (lN (C 66)) (nI (C 41)) tb_ va fy (nIf (tmN C [])) an sw sb sv) := hD
        have hp_25 : r_2 = nI (ksm C) := hq_25
        clear hq_25
        obtain rfl := hp_25
        refine lv_istore_n (lv' := [(2, .int (nI (ksm C))), (1, .int (nI 0)), (0, .ref (xq 0))]) hx hb dX1_layCounts_28 rfl hl (by decide) rfl (fun ls hl => ?_)
        refine lv_aload_n hx hb dX1_layCounts_29 rfl (lv_at hl 2 rfl) ?_
        refine xc_i (xr_V (b := xq 0) (ci := 0) (q0 := 5) (As := []) (rest := []) (mt_X1_faultsTold l D ca cq xq ak tb_ va fy (nIf (tmN C [])) an sw sb sv C (by first | assumption | omega | (simp only [updN, forgetC, changedC]; (repeat' split) <;> omega)) (by first | assumption | omega | (simp only [updN, forgetC, changedC]; (repeat' split) <;> omega)) H.size) ⟨hx, hb, hml, hown, hts⟩ (cwV 0 hts (lw_V q1095 q1097 qs25 q79 q1098) rfl rfl rfl (by decide +kernel) ⟨Nat.le_of_ble_eq_true rfl, Nat.le_of_ble_eq_true rfl⟩) EvX_ok hE hK hS (Cut.all hP hD hS hA) rfl rfl rfl hl.1 rfl (Nat.le_of_ble_eq_true rfl) dX1_layCounts_30 ⟨Nat.le_of_ble_eq_true rfl, Nat.le_of_ble_eq_true rfl⟩) hS (Cut.all hP hD hS hA) (fun r_4 u_5 H locs hq_30 hP hD hS => ?_)
        have hP : va_P D vwCl (WT ca cq xq (kdC C) (fsC C) (snC C) ak (nI (C 0)) (nI (C 37)) (nI (C 38)) (fI (C 39)) (nI (C 40)) (lN (C 66)) (nI (C 41)) tb_ va fy (nIf (tmN C [])) an sw sb sv) H := hP
        have hD : va_D A (WT ca cq xq (kdC C) (fsC C) (snC C) ak (nI (C 0)) (nI (C 37)) (nI (C 38)) (fI (C 39)) (nI (C 40)) (lN (C 66)) (nI (C 41)) tb_ va fy (nIf (tmN C [])) an sw sb sv) := hD
        have hp_30 : r_4 = nI (fa C + 1) := hq_30
        clear hq_30
        obtain rfl := hp_30
        refine lv_istore_n (lv' := [(3, .int (nI (fa C + 1))), (2, .int (nI (ksm C))), (1, .int (nI 0)), (0, .ref (xq 0))]) hx hb dX1_layCounts_33 rfl hl (by decide) rfl (fun ls hl => ?_)
        refine lv_iconst (v := nI 0) hx hb dX1_layCounts_34 (by decide) ?_
        refine lv_istore (lv' := [(4, .int (nI 0)), (3, .int (nI (fa C + 1))), (2, .int (nI (ksm C))), (1, .int (nI 0)), (0, .ref (xq 0))]) hx hb dX1_layCounts_35 hl (by decide) rfl (fun ls hl => ?_)
        have lp_37 : ∀ (fu_37 : Nat) (d : Nat) (t_ : Nat → Int64) (n_ : Nat → Int32), ksm C - d < fu_37 → (d ≤ ksm C) → ∀ (H : Heap) (locs : List Loc), va_P D vwCl (WT ca cq xq (kdC C) (fsC C) (snC C) ak (nI (C 0)) (nI (C 37)) (nI (C 38)) (fI (C 39)) (nI (C 40)) (lN (C 66)) (nI (C 41)) t_ va fy (nIf (tmN C (clK C d))) n_ sw sb sv) H → va_D A (WT ca cq xq (kdC C) (fsC C) (snC C) ak (nI (C 0)) (nI (C 37)) (nI (C 38)) (fI (C 39)) (nI (C 40)) (lN (C 66)) (nI (C 41)) t_ va fy (nIf (tmN C (clK C d))) n_ sw sb sv) → va_S A s.heap H locs → ∀ (ls : Array Slot), lv_has ls 7 [(4, .int (nI d)), (3, .int (nI (fa C + 1))), (2, .int (nI (ksm C))), (1, .int (nI ((clK C d).length))), (0, .ref (xq 0))] → W p l e ({ frames := 4, cells := 0, slots := 0, locals := 94 } : Room) s m ([.ref (xq 0)] : List Value).toArray below meth c H locs 0 0 QQ (F0 m 37 ls []) := by
          intro fu_37
          induction fu_37 with
          | zero => intro d t_ n_ hfu; exact absurd hfu (Nat.not_lt_zero _)
          | succ fu_37 ih_37 =>
            intro d t_ n_ hfu hd H locs hP hD hS ls hl
            refine lv_iload hx hb dX1_layCounts_37 (lv_at hl 0 rfl) ?_
            refine lv_iload_n hx hb dX1_layCounts_39 rfl (lv_at hl 2 rfl) ?_
            refine nv_icmp_ge (tgt := 116) hx hb dX1_layCounts_40 (by decide) (by omega) (by omega) (fun c_40 => ?_) (fun c_40 => ?_)
            · skip
              have e_ : ksm C = d := Eq.symm (by omega)
              subst e_
              have ew_ : nIf (tmN C (clK C (ksm C))) = nIf (tmN C (cnds C)) := rfl
              have hP : va_P D vwCl (WT ca cq xq (kdC C) (fsC C) (snC C) ak (nI (C 0)) (nI (C 37)) (nI (C 38)) (fI (C 39)) (nI (C 40)) (lN (C 66)) (nI (C 41)) t_ va fy (nIf (tmN C (cnds C))) n_ sw sb sv) H := (congrArg (fun x_ => va_P D vwCl (WT ca cq xq (kdC C) (fsC C) (snC C) ak (nI (C 0)) (nI (C 37)) (nI (C 38)) (fI (C 39)) (nI (C 40)) (lN (C 66)) (nI (C 41)) t_ va fy x_ n_ sw sb sv) H) ew_).mp hP
              have hD : va_D A (WT ca cq xq (kdC C) (fsC C) (snC C) ak (nI (C 0)) (nI (C 37)) (nI (C 38)) (fI (C 39)) (nI (C 40)) (lN (C 66)) (nI (C 41)) t_ va fy (nIf (tmN C (cnds C))) n_ sw sb sv) := (congrArg (fun x_ => va_D A (WT ca cq xq (kdC C) (fsC C) (snC C) ak (nI (C 0)) (nI (C 37)) (nI (C 38)) (fI (C 39)) (nI (C 40)) (lN (C 66)) (nI (C 41)) t_ va fy x_ n_ sw sb sv)) ew_).mp hD
              clear ew_
              refine lv_iload_n hx hb dX1_layCounts_116 rfl (lv_at hl 3 rfl) ?_
              subst hQQ
              exact xe_i (v := nI ((clK C (ksm C)).length)) (t_, n_) hx hb hr hlocks hK hP hD hS (rfl) dX1_layCounts_117
            · skip
              refine lv_iconst (v := nI 0) hx hb dX1_layCounts_43 (by decide) ?_
              refine lv_istore (lv' := [(5, .int (nI 0)), (4, .int (nI d)), (3, .int (nI (fa C + 1))), (2, .int (nI (ksm C))), (1, .int (nI ((clK C d).length))), (0, .ref (xq 0))]) hx hb dX1_layCounts_44 hl (by decide) rfl (fun ls hl => ?_)
              have lp_46 : ∀ (fu_46 : Nat) (f : Nat) (u_ : Nat → Int64) (v_ : Nat → Int32), fa C + 1 - f < fu_46 → (f ≤ fa C + 1) → ∀ (H : Heap) (locs : List Loc), va_P D vwCl (WT ca cq xq (kdC C) (fsC C) (snC C) ak (nI (C 0)) (nI (C 37)) (nI (C 38)) (fI (C 39)) (nI (C 40)) (lN (C 66)) (nI (C 41)) u_ va fy (nIf (tmN C (clK C d ++ clF C (d + 1) f))) v_ sw sb sv) H → va_D A (WT ca cq xq (kdC C) (fsC C) (snC C) ak (nI (C 0)) (nI (C 37)) (nI (C 38)) (fI (C 39)) (nI (C 40)) (lN (C 66)) (nI (C 41)) u_ va fy (nIf (tmN C (clK C d ++ clF C (d + 1) f))) v_ sw sb sv) → va_S A s.heap H locs → ∀ (ls : Array Slot), lv_has ls 7 [(5, .int (nI f)), (4, .int (nI d)), (3, .int (nI (fa C + 1))), (2, .int (nI (ksm C))), (1, .int (nI ((clK C d ++ clF C (d + 1) f).length))), (0, .ref (xq 0))] → W p l e ({ frames := 4, cells := 0, slots := 0, locals := 94 } : Room) s m ([.ref (xq 0)] : List Value).toArray below meth c H locs 0 0 QQ (F0 m 46 ls []) := by
                intro fu_46
                induction fu_46 with
                | zero => intro f u_ v_ hfu; exact absurd hfu (Nat.not_lt_zero _)
                | succ fu_46 ih_46 =>
                  intro f u_ v_ hfu hf H locs hP hD hS ls hl
                  refine lv_iload hx hb dX1_layCounts_46 (lv_at hl 0 rfl) ?_
                  refine lv_iload_n hx hb dX1_layCounts_48 rfl (lv_at hl 2 rfl) ?_
                  refine nv_icmp_ge (tgt := 110) hx hb dX1_layCounts_49 (by decide) (by omega) (by omega) (fun c_49 => ?_) (fun c_49 => ?_)
                  · skip
                    have e_ : fa C + 1 = f := Eq.symm (by omega)
                    subst e_
                    refine lv_iinc (v := nI (d + 1)) (lv' := [(4, .int (nI (d + 1))), (5, .int (nI (fa C + 1))), (3, .int (nI (fa C + 1))), (2, .int (nI (ksm C))), (1, .int (nI ((clK C d ++ clF C (d + 1) (fa C + 1)).length))), (0, .ref (xq 0))]) hx hb dX1_layCounts_110 hl (k := 1) rfl (nI_add d 1) (by decide) rfl (fun ls hl => ?_)
                    refine lv_goto (tgt := 37) hx hb dX1_layCounts_113 (by decide) ?_
                    have hl : lv_has ls 7 [(4, .int (nI (d + 1))), (5, .int (nI (fa C + 1))), (3, .int (nI (fa C + 1))), (2, .int (nI (ksm C))), (1, .int (nI ((clK C (d + 1)).length))), (0, .ref (xq 0))] := (congrArg (fun x_ => lv_has ls 7 [(4, .int (nI (d + 1))), (5, .int (nI (fa C + 1))), (3, .int (nI (fa C + 1))), (2, .int (nI (ksm C))), (1, .int x_), (0, .ref (xq 0))]) (show nI ((clK C d ++ clF C (d + 1) (fa C + 1)).length) = nI ((clK C (d + 1)).length) from rfl)).mp hl
                    have ew_ : nIf (tmN C (clK C d ++ clF C (d + 1) (fa C + 1))) = nIf (tmN C (clK C (d + 1))) := rfl
                    have hP : va_P D vwCl (WT ca cq xq (kdC C) (fsC C) (snC C) ak (nI (C 0)) (nI (C 37)) (nI (C 38)) (fI (C 39)) (nI (C 40)) (lN (C 66)) (nI (C 41)) u_ va fy (nIf (tmN C (clK C (d + 1)))) v_ sw sb sv) H := (congrArg (fun x_ => va_P D vwCl (WT ca cq xq (kdC C) (fsC C) (snC C) ak (nI (C 0)) (nI (C 37)) (nI (C 38)) (fI (C 39)) (nI (C 40)) (lN (C 66)) (nI (C 41)) u_ va fy x_ v_ sw sb sv) H) ew_).mp hP
                    have hD : va_D A (WT ca cq xq (kdC C) (fsC C) (snC C) ak (nI (C 0)) (nI (C 37)) (nI (C 38)) (fI (C 39)) (nI (C 40)) (lN (C 66)) (nI (C 41)) u_ va fy (nIf (tmN C (clK C (d + 1)))) v_ sw sb sv) := (congrArg (fun x_ => va_D A (WT ca cq xq (kdC C) (fsC C) (snC C) ak (nI (C 0)) (nI (C 37)) (nI (C 38)) (fI (C 39)) (nI (C 40)) (lN (C 66)) (nI (C 41)) u_ va fy x_ v_ sw sb sv)) ew_).mp hD
                    clear ew_
                    exact ih_37  (d + 1) u_ v_ (by omega) (by omega) _ _ hP hD hS ls (lv_sub hl [0, 2, 3, 4, 5] rfl)
                  · skip
                    refine lv_aload_n hx hb dX1_layCounts_52 rfl (lv_at hl 5 rfl) ?_
                    refine lv_iload hx hb dX1_layCounts_53 (lv_at hl 1 rfl) ?_
                    refine lv_topi (nm_r (e' := fI (d + 1)) (fI_S d) ?_)
                    refine lv_iload hx hb dX1_layCounts_55 (lv_at hl 0 rfl) ?_
                    refine xc_i (xr_V (b := xq 0) (ci := 0) (q0 := 5) (As := [.int (fI (d + 1)), .int (nI f)]) (rest := []) (mt_X1_isCandidate l D ca cq xq ak u_ va fy (nIf (tmN C (clK C d ++ clF C (d + 1) f))) v_ sw sb sv C (d + 1) f (by first | assumption | omega | (simp only [updN, forgetC, changedC]; (repeat' split) <;> omega)) (by first | assumption | omega | (simp only [updN, forgetC, changedC]; (repeat' split) <;> omega)) (by first | assumption | omega | (simp only [updN, forgetC, changedC]; (repeat' split) <;> omega)) (by first | assumption | omega | (simp only [updN, forgetC, changedC]; (repeat' split) <;> omega)) (by first | assumption | omega | (simp only [updN, forgetC, changedC]; (repeat' split) <;> omega)) (by first | assumption | omega | (simp only [updN, forgetC, changedC]; (repeat' split) <;> omega)) (by first | assumption | omega | (simp only [updN, forgetC, changedC]; (repeat' split) <;> omega)) (by first | assumption | omega | (simp only [updN, forgetC, changedC]; (repeat' split) <;> omega)) (by first | assumption | omega | (simp only [updN, forgetC, changedC]; (repeat' split) <;> omega)) (by first | assumption | omega | (simp only [updN, forgetC, changedC]; (repeat' split) <;> omega)) (by first | assumption | omega | (simp only [updN, forgetC, changedC]; (repeat' split) <;> omega)) (by first | assumption | omega | (simp only [updN, forgetC, changedC]; (repeat' split) <;> omega)) H.size) ⟨hx, hb, hml, hown, hts⟩ (cwV 2 hts (lw_V q1107 q1109 qs27 q79 q1110) rfl rfl rfl (by decide +kernel) ⟨Nat.le_of_ble_eq_true rfl, Nat.le_of_ble_eq_true rfl⟩) EvX_ok hE hK hS (Cut.all hP hD hS hA) rfl rfl rfl hl.1 rfl (Nat.le_of_ble_eq_true rfl) dX1_layCounts_57 ⟨Nat.le_of_ble_eq_true rfl, Nat.le_of_ble_eq_true rfl⟩) hS (Cut.all hP hD hS hA) (fun r_8 u_9 H locs hq_57 hP hD hS => ?_)
                    obtain ⟨tb1_10, an1_11⟩ := u_9
                    have hP : va_P D vwCl (WT ca cq xq (kdC C) (fsC C) (snC C) ak (nI (C 0)) (nI (C 37)) (nI (C 38)) (fI (C 39)) (nI (C 40)) (lN (C 66)) (nI (C 41)) tb1_10 va fy (nIf (tmN C (clK C d ++ clF C (d + 1) f))) an1_11 sw sb sv) H := hP
                    have hD : va_D A (WT ca cq xq (kdC C) (fsC C) (snC C) ak (nI (C 0)) (nI (C 37)) (nI (C 38)) (fI (C 39)) (nI (C 40)) (lN (C 66)) (nI (C 41)) tb1_10 va fy (nIf (tmN C (clK C d ++ clF C (d + 1) f))) an1_11 sw sb sv) := hD
                    have hp_57 : r_8 = bI (candB C (d + 1) f) ∧ (∀ t, t < 64 → an1_11 t = nI (anC C (d + 1) f t)) := hq_57
                    clear hq_57
                    obtain ⟨rfl, hp_57⟩ := hp_57
                    refine nv_ifb_eq (tgt := 104) hx hb dX1_layCounts_60 (by decide) (fun c_60 => ?_) (fun c_60 => ?_)
                    · skip
                      refine lv_iinc (v := nI (f + 1)) (lv' := [(5, .int (nI (f + 1))), (4, .int (nI d)), (3, .int (nI (fa C + 1))), (2, .int (nI (ksm C))), (1, .int (nI ((clK C d ++ clF C (d + 1) f).length))), (0, .ref (xq 0))]) hx hb dX1_layCounts_104 hl (k := 0) rfl (nI_add f 1) (by decide) rfl (fun ls hl => ?_)
                      refine lv_goto (tgt := 46) hx hb dX1_layCounts_107 (by decide) ?_
                      have hl : lv_has ls 7 [(5, .int (nI (f + 1))), (4, .int (nI d)), (3, .int (nI (fa C + 1))), (2, .int (nI (ksm C))), (1, .int (nI ((clK C d ++ clF C (d + 1) (f + 1)).length))), (0, .ref (xq 0))] := (congrArg (fun x_ => lv_has ls 7 [(5, .int (nI (f + 1))), (4, .int (nI d)), (3, .int (nI (fa C + 1))), (2, .int (nI (ksm C))), (1, .int x_), (0, .ref (xq 0))]) (show nI ((clK C d ++ clF C (d + 1) f).length) = nI ((clK C d ++ clF C (d + 1) (f + 1)).length) from congrArg nI (by simp only [clF]; rw [c_60]; simp [Nat.add_assoc]))).mp hl
                      have ew_ : nIf (tmN C (clK C d ++ clF C (d + 1) f)) = nIf (tmN C (clK C d ++ clF C (d + 1) (f + 1))) := by rw [clF_n c_60]
                      have hP : va_P D vwCl (WT ca cq xq (kdC C) (fsC C) (snC C) ak (nI (C 0)) (nI (C 37)) (nI (C 38)) (fI (C 39)) (nI (C 40)) (lN (C 66)) (nI (C 41)) tb1_10 va fy (nIf (tmN C (clK C d ++ clF C (d + 1) (f + 1)))) an1_11 sw sb sv) H := (congrArg (fun x_ => va_P D vwCl (WT ca cq xq (kdC C) (fsC C) (snC C) ak (nI (C 0)) (nI (C 37)) (nI (C 38)) (fI (C 39)) (nI (C 40)) (lN (C 66)) (nI (C 41)) tb1_10 va fy x_ an1_11 sw sb sv) H) ew_).mp hP
                      have hD : va_D A (WT ca cq xq (kdC C) (fsC C) (snC C) ak (nI (C 0)) (nI (C 37)) (nI (C 38)) (fI (C 39)) (nI (C 40)) (lN (C 66)) (nI (C 41)) tb1_10 va fy (nIf (tmN C (clK C d ++ clF C (d + 1) (f + 1)))) an1_11 sw sb sv) := (congrArg (fun x_ => va_D A (WT ca cq xq (kdC C) (fsC C) (snC C) ak (nI (C 0)) (nI (C 37)) (nI (C 38)) (fI (C 39)) (nI (C 40)) (lN (C 66)) (nI (C 41)) tb1_10 va fy x_ an1_11 sw sb sv)) ew_).mp hD
                      clear ew_
                      exact ih_46  (f + 1) tb1_10 an1_11 (by omega) (by omega) _ _ hP hD hS ls (lv_sub hl [0, 1, 2, 3, 4, 5] rfl)
                    · skip
                      refine lv_iinc (v := nI ((clK C d ++ clF C (d + 1) f).length + 1)) (lv' := [(1, .int (nI ((clK C d ++ clF C (d + 1) f).length + 1))), (5, .int (nI f)), (4, .int (nI d)), (3, .int (nI (fa C + 1))), (2, .int (nI (ksm C))), (0, .ref (xq 0))]) hx hb dX1_layCounts_63 hl (k := 4) rfl (nI_add ((clK C d ++ clF C (d + 1) f).length) 1) (by decide) rfl (fun ls hl => ?_)
                      refine lv_iconst (v := nI 0) hx hb dX1_layCounts_66 (by decide) ?_
                      refine lv_istore (lv' := [(6, .int (nI 0)), (1, .int (nI ((clK C d ++ clF C (d + 1) f).length + 1))), (5, .int (nI f)), (4, .int (nI d)), (3, .int (nI (fa C + 1))), (2, .int (nI (ksm C))), (0, .ref (xq 0))]) hx hb dX1_layCounts_67 hl (by decide) rfl (fun ls hl => ?_)
                      have lp_69 : ∀ (fu_69 : Nat) (t : Nat), 64 - t < fu_69 → (t ≤ 64) → ∀ (H : Heap) (locs : List Loc), va_P D vwCl (WT ca cq xq (kdC C) (fsC C) (snC C) ak (nI (C 0)) (nI (C 37)) (nI (C 38)) (fI (C 39)) (nI (C 40)) (lN (C 66)) (nI (C 41)) tb1_10 va fy (nIf (tmT C (d + 1, f) t (tmN C (clK C d ++ clF C (d + 1) f)))) an1_11 sw sb sv) H → va_D A (WT ca cq xq (kdC C) (fsC C) (snC C) ak (nI (C 0)) (nI (C 37)) (nI (C 38)) (fI (C 39)) (nI (C 40)) (lN (C 66)) (nI (C 41)) tb1_10 va fy (nIf (tmT C (d + 1, f) t (tmN C (clK C d ++ clF C (d + 1) f)))) an1_11 sw sb sv) → va_S A s.heap H locs → ∀ (ls : Array Slot), lv_has ls 7 [(6, .int (nI t)), (1, .int (nI ((clK C d ++ clF C (d + 1) f).length + 1))), (5, .int (nI f)), (4, .int (nI d)), (3, .int (nI (fa C + 1))), (2, .int (nI (ksm C))), (0, .ref (xq 0))] → W p l e ({ frames := 4, cells := 0, slots := 0, locals := 94 } : Room) s m ([.ref (xq 0)] : List Value).toArray below meth c H locs 0 0 QQ (F0 m 69 ls []) := by
                        intro fu_69
                        induction fu_69 with
                        | zero => intro t hfu; exact absurd hfu (Nat.not_lt_zero _)
                        | succ fu_69 ih_69 =>
                          intro t hfu ht_ H locs hP hD hS ls hl
                          refine lv_iload hx hb dX1_layCounts_69 (lv_at hl 0 rfl) ?_
                          refine lv_bipush (v := nI 64) hx hb dX1_layCounts_71 (by decide) ?_
                          refine nv_icmp_ge (tgt := 104) hx hb dX1_layCounts_73 (by decide) (by omega) (by omega) (fun c_73 => ?_) (fun c_73 => ?_)
                          · skip
                            have e_ : 64 = t := Eq.symm (by omega)
                            subst e_
                            refine lv_iinc (v := nI (f + 1)) (lv' := [(5, .int (nI (f + 1))), (6, .int (nI 64)), (1, .int (nI ((clK C d ++ clF C (d + 1) f).length + 1))), (4, .int (nI d)), (3, .int (nI (fa C + 1))), (2, .int (nI (ksm C))), (0, .ref (xq 0))]) hx hb dX1_layCounts_104 hl (k := 2) rfl (nI_add f 1) (by decide) rfl (fun ls hl => ?_)
                            refine lv_goto (tgt := 46) hx hb dX1_layCounts_107 (by decide) ?_
                            have hl : lv_has ls 7 [(5, .int (nI (f + 1))), (6, .int (nI 64)), (1, .int (nI ((clK C d ++ clF C (d + 1) (f + 1)).length))), (4, .int (nI d)), (3, .int (nI (fa C + 1))), (2, .int (nI (ksm C))), (0, .ref (xq 0))] := (congrArg (fun x_ => lv_has ls 7 [(5, .int (nI (f + 1))), (6, .int (nI 64)), (1, .int x_), (4, .int (nI d)), (3, .int (nI (fa C + 1))), (2, .int (nI (ksm C))), (0, .ref (xq 0))]) (show nI ((clK C d ++ clF C (d + 1) f).length + 1) = nI ((clK C d ++ clF C (d + 1) (f + 1)).length) from congrArg nI (by simp only [clF]; rw [c_60]; simp [Nat.add_assoc]))).mp hl
                            have hP : va_P D vwCl (WT ca cq xq (kdC C) (fsC C) (snC C) ak (nI (C 0)) (nI (C 37)) (nI (C 38)) (fI (C 39)) (nI (C 40)) (lN (C 66)) (nI (C 41)) tb1_10 va fy (nIf (tmN C (clK C d ++ clF C (d + 1) (f + 1)))) an1_11 sw sb sv) H := cgWT_9 (fun k hk => congrArg nI (by rw [← clF_y c_60]; exact tm_add hk)) hP
                            have hD : va_D A (WT ca cq xq (kdC C) (fsC C) (snC C) ak (nI (C 0)) (nI (C 37)) (nI (C 38)) (fI (C 39)) (nI (C 40)) (lN (C 66)) (nI (C 41)) tb1_10 va fy (nIf (tmN C (clK C d ++ clF C (d + 1) (f + 1)))) an1_11 sw sb sv) := dgWT_9 hD
                            exact ih_46  (f + 1) tb1_10 an1_11 (by omega) (by omega) _ _ hP hD hS ls (lv_sub hl [0, 3, 4, 5, 2, 6] rfl)
                          · skip
                            refine lv_aload_n hx hb dX1_layCounts_76 rfl (lv_at hl 6 rfl) ?_
                            refine gWT_5_counts_X1 hx hb hts hown hK hP dX1_layCounts_77 ?_
                            refine lv_bipush (v := nI 16) hx hb dX1_layCounts_80 (by decide) ?_
                            refine lv_iload hx hb dX1_layCounts_82 (lv_at hl 0 rfl) ?_
                            refine nv_imul hx hb dX1_layCounts_84 ?_
                            refine lv_aload_n hx hb dX1_layCounts_85 rfl (lv_at hl 6 rfl) ?_
                            refine gWT_5_answers_X1 hx hb hts hown hK hP dX1_layCounts_86 ?_
                            refine lv_iload hx hb dX1_layCounts_89 (lv_at hl 0 rfl) ?_
                            refine ldWT_10 hx hb hK hP (by omega) dX1_layCounts_91 ?_
                            refine lv_topi (nm_r (e' := nI (anC C (d + 1) f t)) (hp_57 t (by omega)) ?_)
                            refine nv_iadd hx hb dX1_layCounts_92 ?_
                            refine lv_dup2_11 hx hb dX1_layCounts_93 rfl rfl ?_
                            refine ldWT_9 hx hb hK hP (by have := anC_lt (C := C) (K := d + 1) (F := f) (t := t) hnc; omega) dX1_layCounts_94 ?_
                            refine lv_topi (nm_r (e' := nI (tmT C (d + 1, f) t (tmN C (clK C d ++ clF C (d + 1) f)) (16 * t + anC C (d + 1) f t))) (rfl) ?_)
                            refine lv_iconst (v := nI 1) hx hb dX1_layCounts_95 (by decide) ?_
                            refine nv_iadd hx hb dX1_layCounts_96 ?_
                            refine stWT_9 hx hb hK hP hD hS (by have := anC_lt (C := C) (K := d + 1) (F := f) (t := t) hnc; omega) dX1_layCounts_97 (fun H locs hP hD hS => ?_)
                            have ew_ : upd (nIf (tmT C (d + 1, f) t (tmN C (clK C d ++ clF C (d + 1) f)))) ((16 * t) + (anC C (d + 1) f t)) (nI ((tmT C (d + 1, f) t (tmN C (clK C d ++ clF C (d + 1) f)) (16 * t + anC C (d + 1) f t)) + 1)) = nIf (tmT C (d + 1, f) (t + 1) (tmN C (clK C d ++ clF C (d + 1) f))) := tmT_s (c := (d + 1, f)) (anC_lt hnc)
                            have hP : va_P D vwCl (WT ca cq xq (kdC C) (fsC C) (snC C) ak (nI (C 0)) (nI (C 37)) (nI (C 38)) (fI (C 39)) (nI (C 40)) (lN (C 66)) (nI (C 41)) tb1_10 va fy (nIf (tmT C (d + 1, f) (t + 1) (tmN C (clK C d ++ clF C (d + 1) f)))) an1_11 sw sb sv) H := (congrArg (fun x_ => va_P D vwCl (WT ca cq xq (kdC C) (fsC C) (snC C) ak (nI (C 0)) (nI (C 37)) (nI (C 38)) (fI (C 39)) (nI (C 40)) (lN (C 66)) (nI (C 41)) tb1_10 va fy x_ an1_11 sw sb sv) H) ew_).mp hP
                            have hD : va_D A (WT ca cq xq (kdC C) (fsC C) (snC C) ak (nI (C 0)) (nI (C 37)) (nI (C 38)) (fI (C 39)) (nI (C 40)) (lN (C 66)) (nI (C 41)) tb1_10 va fy (nIf (tmT C (d + 1, f) (t + 1) (tmN C (clK C d ++ clF C (d + 1) f)))) an1_11 sw sb sv) := (congrArg (fun x_ => va_D A (WT ca cq xq (kdC C) (fsC C) (snC C) ak (nI (C 0)) (nI (C 37)) (nI (C 38)) (fI (C 39)) (nI (C 40)) (lN (C 66)) (nI (C 41)) tb1_10 va fy x_ an1_11 sw sb sv)) ew_).mp hD
                            clear ew_
                            refine lv_iinc (v := nI (t + 1)) (lv' := [(6, .int (nI (t + 1))), (1, .int (nI ((clK C d ++ clF C (d + 1) f).length + 1))), (5, .int (nI f)), (4, .int (nI d)), (3, .int (nI (fa C + 1))), (2, .int (nI (ksm C))), (0, .ref (xq 0))]) hx hb dX1_layCounts_98 hl (k := 0) rfl (nI_add t 1) (by decide) rfl (fun ls hl => ?_)
                            refine lv_goto (tgt := 69) hx hb dX1_layCounts_101 (by decide) ?_
                            exact ih_69  (t + 1) (by omega) (by omega) _ _ hP hD hS ls (lv_sub hl [0, 1, 2, 3, 4, 5, 6] rfl)
                      have ew_ : nIf (tmN C (clK C d ++ clF C (d + 1) f)) = nIf (tmT C (d + 1, f) 0 (tmN C (clK C d ++ clF C (d + 1) f))) := by rw [tmT_0]
                      have hP : va_P D vwCl (WT ca cq xq (kdC C) (fsC C) (snC C) ak (nI (C 0)) (nI (C 37)) (nI (C 38)) (fI (C 39)) (nI (C 40)) (lN (C 66)) (nI (C 41)) tb1_10 va fy (nIf (tmT C (d + 1, f) 0 (tmN C (clK C d ++ clF C (d + 1) f)))) an1_11 sw sb sv) H := (congrArg (fun x_ => va_P D vwCl (WT ca cq xq (kdC C) (fsC C) (snC C) ak (nI (C 0)) (nI (C 37)) (nI (C 38)) (fI (C 39)) (nI (C 40)) (lN (C 66)) (nI (C 41)) tb1_10 va fy x_ an1_11 sw sb sv) H) ew_).mp hP
                      have hD : va_D A (WT ca cq xq (kdC C) (fsC C) (snC C) ak (nI (C 0)) (nI (C 37)) (nI (C 38)) (fI (C 39)) (nI (C 40)) (lN (C 66)) (nI (C 41)) tb1_10 va fy (nIf (tmT C (d + 1, f) 0 (tmN C (clK C d ++ clF C (d + 1) f)))) an1_11 sw sb sv) := (congrArg (fun x_ => va_D A (WT ca cq xq (kdC C) (fsC C) (snC C) ak (nI (C 0)) (nI (C 37)) (nI (C 38)) (fI (C 39)) (nI (C 40)) (lN (C 66)) (nI (C 41)) tb1_10 va fy x_ an1_11 sw sb sv)) ew_).mp hD
                      clear ew_
                      exact lp_69 (64 - 0 + 1) 0 (Nat.lt_succ_self _) (by omega) _ _ hP hD hS ls (lv_sub hl [0, 1, 2, 3, 4, 5, 6] rfl)
              have hl : lv_has ls 7 [(5, .int (nI 0)), (4, .int (nI d)), (3, .int (nI (fa C + 1))), (2, .int (nI (ksm C))), (1, .int (nI ((clK C d ++ clF C (d + 1) 0).length))), (0, .ref (xq 0))] := (congrArg (fun x_ => lv_has ls 7 [(5, .int (nI 0)), (4, .int (nI d)), (3, .int (nI (fa C + 1))), (2, .int (nI (ksm C))), (1, .int x_), (0, .ref (xq 0))]) (show nI ((clK C d).length) = nI ((clK C d ++ clF C (d + 1) 0).length) from by simp [clF])).mp hl
              have ew_ : nIf (tmN C (clK C d)) = nIf (tmN C (clK C d ++ clF C (d + 1) 0)) := by simp [clF]
              have hP : va_P D vwCl (WT ca cq xq (kdC C) (fsC C) (snC C) ak (nI (C 0)) (nI (C 37)) (nI (C 38)) (fI (C 39)) (nI (C 40)) (lN (C 66)) (nI (C 41)) t_ va fy (nIf (tmN C (clK C d ++ clF C (d + 1) 0))) n_ sw sb sv) H := (congrArg (fun x_ => va_P D vwCl (WT ca cq xq (kdC C) (fsC C) (snC C) ak (nI (C 0)) (nI (C 37)) (nI (C 38)) (fI (C 39)) (nI (C 40)) (lN (C 66)) (nI (C 41)) t_ va fy x_ n_ sw sb sv) H) ew_).mp hP
              have hD : va_D A (WT ca cq xq (kdC C) (fsC C) (snC C) ak (nI (C 0)) (nI (C 37)) (nI (C 38)) (fI (C 39)) (nI (C 40)) (lN (C 66)) (nI (C 41)) t_ va fy (nIf (tmN C (clK C d ++ clF C (d + 1) 0))) n_ sw sb sv) := (congrArg (fun x_ => va_D A (WT ca cq xq (kdC C) (fsC C) (snC C) ak (nI (C 0)) (nI (C 37)) (nI (C 38)) (fI (C 39)) (nI (C 40)) (lN (C 66)) (nI (C 41)) t_ va fy x_ n_ sw sb sv)) ew_).mp hD
              clear ew_
              exact lp_46 (fa C + 1 - 0 + 1) 0 t_ n_ (Nat.lt_succ_self _) (by omega) _ _ hP hD hS ls (lv_sub hl [0, 1, 2, 3, 4, 5] rfl)
        have hl : lv_has ls 7 [(4, .int (nI 0)), (3, .int (nI (fa C + 1))), (2, .int (nI (ksm C))), (1, .int (nI ((clK C 0).length))), (0, .ref (xq 0))] := (congrArg (fun x_ => lv_has ls 7 [(4, .int (nI 0)), (3, .int (nI (fa C + 1))), (2, .int (nI (ksm C))), (1, .int x_), (0, .ref (xq 0))]) (show nI 0 = nI ((clK C 0).length) from rfl)).mp hl
        have ew_ : nIf (tmN C []) = nIf (tmN C (clK C 0)) := rfl
        have hP : va_P D vwCl (WT ca cq xq (kdC C) (fsC C) (snC C) ak (nI (C 0)) (nI (C 37)) (nI (C 38)) (fI (C 39)) (nI (C 40)) (lN (C 66)) (nI (C 41)) tb_ va fy (nIf (tmN C (clK C 0))) an sw sb sv) H := (congrArg (fun x_ => va_P D vwCl (WT ca cq xq (kdC C) (fsC C) (snC C) ak (nI (C 0)) (nI (C 37)) (nI (C 38)) (fI (C 39)) (nI (C 40)) (lN (C 66)) (nI (C 41)) tb_ va fy x_ an sw sb sv) H) ew_).mp hP
        have hD : va_D A (WT ca cq xq (kdC C) (fsC C) (snC C) ak (nI (C 0)) (nI (C 37)) (nI (C 38)) (fI (C 39)) (nI (C 40)) (lN (C 66)) (nI (C 41)) tb_ va fy (nIf (tmN C (clK C 0))) an sw sb sv) := (congrArg (fun x_ => va_D A (WT ca cq xq (kdC C) (fsC C) (snC C) ak (nI (C 0)) (nI (C 37)) (nI (C 38)) (fI (C 39)) (nI (C 40)) (lN (C 66)) (nI (C 41)) tb_ va fy x_ an sw sb sv)) ew_).mp hD
        clear ew_
        exact lp_37 (ksm C - 0 + 1) 0 tb_ an (Nat.lt_succ_self _) (by omega) _ _ hP hD hS ls (lv_sub hl [0, 1, 2, 3, 4] rfl)
      · skip
        refine lv_aload_n hx hb dX1_layCounts_9 rfl (lv_at hl 1 rfl) ?_
        refine gWT_5_counts_X1 hx hb hts hown hK hP dX1_layCounts_10 ?_
        refine lv_iload_n hx hb dX1_layCounts_13 rfl (lv_at hl 0 rfl) ?_
        refine lv_iconst (v := nI 0) hx hb dX1_layCounts_14 (by decide) ?_
        refine stWT_9 hx hb hK hP hD hS (by omega) dX1_layCounts_15 (fun H locs hP hD hS => ?_)
        refine lv_iinc (v := nI (i + 1)) (lv' := [(1, .int (nI (i + 1))), (0, .ref (xq 0))]) hx hb dX1_layCounts_16 hl (k := 0) rfl (nI_add i 1) (by decide) rfl (fun ls hl => ?_)
        refine lv_goto (tgt := 2) hx hb dX1_layCounts_19 (by decide) ?_
        exact ih_2  (i + 1) (upd b_ i (nI 0)) (by omega) (by omega) (fun t ht => by simp only [upd]; split; rfl; exact hb_ t (by omega)) _ _ hP hD hS ls (lv_sub hl [0, 1] rfl)
  exact lp_2 (1024 - 0 + 1) 0 cn (Nat.lt_succ_self _) (by omega) (fun t ht => absurd ht (Nat.not_lt_zero t)) _ _ hP hD hS ls (lv_sub hl [0, 1] rfl)
set_option maxHeartbeats 4000000 in
set_option maxRecDepth 100000 in
theorem mt_X1_worstLeft_ok (l : Launch) (D : va_G) (ca : Nat → ClassId) (cq : Nat → Nat) (xq : Nat → Nat) (ak : Nat → Int32) (tb_ : Nat → Int64) (va : Nat → Int32) (fy : Nat → Int64) (cn : Nat → Int32) (an : Nat → Int32) (sw : Nat → Int64) (sb : Nat → Int64) (sv : Value) (C : Nat → Nat) (t_ : Nat) (h0 : C 0 ≤ 12) (hkd0 : ∀ k, k < 12 → C (1 + k) < 8) (hse : ∀ k, k < 12 → C (13 + k) < 6 + k ∧ C (25 + k) < 6 + k) (ho : C 37 < 2 ^ 18) (hbx : C 38 < 2 ^ 18) (hno : popc 18 (C 37) ≤ 4) (hnb : popc 18 (C 38) ≤ 3) (hbsz : C 38 < 2 ^ C 0) (h40 : C 40 ≤ 1) (hak : C 41 ≤ 12) (hAk : AkOk C ak) (ha16 : ∀ k, k < 12 → C (54 + k) < 16) (ht64 : ∀ k, k < 12 → C (42 + k) < 64) (ht : t_ < 64) (nn : Nat) : Met l yX1_worstLeft (ws_ yX1_worstLeft cX1_worstLeft 2 (Option.some Jvm.ClassFile.FieldType.int)) ({ frames := 5, cells := 0, slots := 0, locals := 120 } : Room) (va_Pc [.ref (xq 0), .int (nI t_)] (PreW EvX D vwCl (TY ca) (WT ca cq xq (kdC C) (fsC C) (snC C) ak (nI (C 0)) (nI (C 37)) (nI (C 38)) (fI (C 39)) (nI (C 40)) (lN (C 66)) (nI (C 41)) tb_ va fy cn an sw sb sv) nn)) (va_Qi (fun (r_ : Int32) (u_ : (Nat → Int64) × (Nat → Int32)) => r_ = nI (wst (tmN C (cnds C)) t_)) (PostW D vwCl (TY ca) (fun (u_ : (Nat → Int64) × (Nat → Int32)) => (WT ca cq xq (kdC C) (fsC C) (snC C) ak (nI (C 0)) (nI (C 37)) (nI (C 38)) (fI (C 39)) (nI (C 40)) (lN (C 66)) (nI (C 41)) u_.1 va fy (nIf (tmN C (cnds C))) u_.2 sw sb sv)) (va_A (WT ca cq xq (kdC C) (fsC C) (snC C) ak (nI (C 0)) (nI (C 37)) (nI (C 38)) (fI (C 39)) (nI (C 40)) (lN (C 66)) (nI (C 41)) tb_ va fy cn an sw sb sv) nn)) (va_A (WT ca cq xq (kdC C) (fsC C) (snC C) ak (nI (C 0)) (nI (C 37)) (nI (C 38)) (fI (C 39)) (nI (C 40)) (lN (C 66)) (nI (C 41)) tb_ va fy cn an sw sb sv) nn)) 0 0 (va_A (WT ca cq xq (kdC C) (fsC C) (snC C) ak (nI (C 0)) (nI (C 37)) (nI (C 38)) (fI (C 39)) (nI (C 40)) (lN (C 66)) (nI (C 41)) tb_ va fy cn an sw sb sv) nn) := by
  refine met_go (QA := fun A => va_Qi (fun (r_ : Int32) (u_ : (Nat → Int64) × (Nat → Int32)) => r_ = nI (wst (tmN C (cnds C)) t_)) (PostW D vwCl (TY ca) (fun (u_ : (Nat → Int64) × (Nat → Int32)) => (WT ca cq xq (kdC C) (fsC C) (snC C) ak (nI (C 0)) (nI (C 37)) (nI (C 38)) (fI (C 39)) (nI (C 40)) (lN (C 66)) (nI (C 41)) u_.1 va fy (nIf (tmN C (cnds C))) u_.2 sw sb sv)) A) A) (by decide) (Nat.le_of_ble_eq_true rfl) (fun p e s m below meth c A ls QQ hQQ hx hb hr hts hown hlocks hml hA hP hK hD hE hl => ?_)
  have hown : s.vm.findClass RX1 = some m.cls := hown
  have hS : va_S A s.heap s.heap [] := va_S.rf
  have hl : lv_has ls 2 [(0, .ref (xq 0)), (1, .int (nI t_))] := hl
  generalize hHe : s.heap = H at hP ⊢
  have hS : va_S A s.heap H [] := hHe ▸ hS
  generalize ([] : List Loc) = locs at hS ⊢
  have hll := tm_lim h0 hnb
  refine lv_iload_n hx hb dX1_worstLeft_0 rfl (lv_at hl 1 rfl) ?_
  refine xc_v (xr_S (As := [.int (nI t_)]) (rest := []) (mt_X1_needTest_ok l D ca t_ (by first | assumption | omega | (simp only [updN, forgetC, changedC]; (repeat' split) <;> omega)) H.size) ⟨hx, hb, hml, hown, hts⟩ (va_cwS 1 hts (lw_S q1299 q1300 q79 q1301) rfl rfl rfl (by decide +kernel) ⟨Nat.le_of_ble_eq_true rfl, Nat.le_of_ble_eq_true rfl⟩) Ev0_ok trivial hK hS (Cut.app (wc := []) (wr := (WT ca cq xq (kdC C) (fsC C) (snC C) ak (nI (C 0)) (nI (C 37)) (nI (C 38)) (fI (C 39)) (nI (C 40)) (lN (C 66)) (nI (C 41)) tb_ va fy cn an sw sb sv)) hP hD hS hA) rfl hl.1 rfl (Nat.le_of_ble_eq_true rfl) dX1_worstLeft_1 ⟨Nat.le_of_ble_eq_true rfl, Nat.le_of_ble_eq_true rfl⟩) hS (Cut.app (wc := []) (wr := (WT ca cq xq (kdC C) (fsC C) (snC C) ak (nI (C 0)) (nI (C 37)) (nI (C 38)) (fI (C 39)) (nI (C 40)) (lN (C 66)) (nI (C 41)) tb_ va fy cn an sw sb sv)) hP hD hS hA) (fun u_2 H locs hq_1 hP hD hS => ?_)
  have hP : va_P D vwCl (WT ca cq xq (kdC C) (fsC C) (snC C) ak (nI (C 0)) (nI (C 37)) (nI (C 38)) (fI (C 39)) (nI (C 40)) (lN (C 66)) (nI (C 41)) tb_ va fy cn an sw sb sv) H := hP
  have hD : va_D A (WT ca cq xq (kdC C) (fsC C) (snC C) ak (nI (C 0)) (nI (C 37)) (nI (C 38)) (fI (C 39)) (nI (C 40)) (lN (C 66)) (nI (C 41)) tb_ va fy cn an sw sb sv) := hD
  refine lv_aload_n hx hb dX1_worstLeft_4 rfl (lv_at hl 0 rfl) ?_
  refine xc_i (xr_V (b := xq 0) (ci := 0) (q0 := 5) (As := []) (rest := []) (mt_X1_layCounts l D ca cq xq ak tb_ va fy cn an sw sb sv C (by first | assumption | omega | (simp only [updN, forgetC, changedC]; (repeat' split) <;> omega)) (by first | assumption | omega | (simp only [updN, forgetC, changedC]; (repeat' split) <;> omega)) (by first | assumption | omega | (simp only [updN, forgetC, changedC]; (repeat' split) <;> omega)) (by first | assumption | omega | (simp only [updN, forgetC, changedC]; (repeat' split) <;> omega)) (by first | assumption | omega | (simp only [updN, forgetC, changedC]; (repeat' split) <;> omega)) (by first | assumption | omega | (simp only [updN, forgetC, changedC]; (repeat' split) <;> omega)) (by first | assumption | omega | (simp only [updN, forgetC, changedC]; (repeat' split) <;> omega)) (by first | assumption | omega | (simp only [updN, forgetC, changedC]; (repeat' split) <;> omega)) (by first | assumption | omega | (simp only [updN, forgetC, changedC]; (repeat' split) <;> omega)) (by first | assumption | omega | (simp only [updN, forgetC, changedC]; (repeat' split) <;> omega)) (by first | assumption | omega | (simp only [updN, forgetC, changedC]; (repeat' split) <;> omega)) (by first | assumption | omega | (simp only [updN, forgetC, changedC]; (repeat' split) <;> omega)) (by first | assumption | omega | (simp only [updN, forgetC, changedC]; (repeat' split) <;> omega)) H.size) ⟨hx, hb, hml, hown, hts⟩ (cwV 0 hts (lw_V q1138 q1140 qs33 q79 q1141) rfl rfl rfl (by decide +kernel) ⟨Nat.le_of_ble_eq_true rfl, Nat.le_of_ble_eq_true rfl⟩) EvX_ok hE hK hS (Cut.all hP hD hS hA) rfl rfl rfl hl.1 rfl (Nat.le_of_ble_eq_true rfl) dX1_worstLeft_5 ⟨Nat.le_of_ble_eq_true rfl, Nat.le_of_ble_eq_true rfl⟩) hS (Cut.all hP hD hS hA) (fun r_3 u_4 H locs hq_5 hP hD hS => ?_)
  obtain ⟨tb1_5, an1_6⟩ := u_4
  have hP : va_P D vwCl (WT ca cq xq (kdC C) (fsC C) (snC C) ak (nI (C 0)) (nI (C 37)) (nI (C 38)) (fI (C 39)) (nI (C 40)) (lN (C 66)) (nI (C 41)) tb1_5 va fy (nIf (tmN C (cnds C))) an1_6 sw sb sv) H := hP
  have hD : va_D A (WT ca cq xq (kdC C) (fsC C) (snC C) ak (nI (C 0)) (nI (C 37)) (nI (C 38)) (fI (C 39)) (nI (C 40)) (lN (C 66)) (nI (C 41)) tb1_5 va fy (nIf (tmN C (cnds C))) an1_6 sw sb sv) := hD
  have hp_5 : r_3 = nI ((cnds C).length) := hq_5
  clear hq_5
  obtain rfl := hp_5
  refine lv_pop hx hb dX1_worstLeft_8 rfl ?_
  refine lv_aload_n hx hb dX1_worstLeft_9 rfl (lv_at hl 0 rfl) ?_
  refine lv_iload_n hx hb dX1_worstLeft_10 rfl (lv_at hl 1 rfl) ?_
  refine xc_i (xr_V (b := xq 0) (ci := 0) (q0 := 5) (As := [.int (nI t_)]) (rest := []) (mt_X1_worst l D ca cq xq (kdC C) (fsC C) (snC C) ak (nI (C 0)) (nI (C 37)) (nI (C 38)) (fI (C 39)) (nI (C 40)) (lN (C 66)) (nI (C 41)) tb1_5 va fy an1_6 sw sb sv (tmN C (cnds C)) t_ ht hll H.size) ⟨hx, hb, hml, hown, hts⟩ (cwV 1 hts (lw_V q1142 q1144 qs34 q79 q1145) rfl rfl rfl (by decide +kernel) ⟨Nat.le_of_ble_eq_true rfl, Nat.le_of_ble_eq_true rfl⟩) EvX_ok hE hK hS (Cut.all hP hD hS hA) rfl rfl rfl hl.1 rfl (Nat.le_of_ble_eq_true rfl) dX1_worstLeft_11 ⟨Nat.le_of_ble_eq_true rfl, Nat.le_of_ble_eq_true rfl⟩) hS (Cut.all hP hD hS hA) (fun r_7 u_8 H locs hq_11 hP hD hS => ?_)
  have hP : va_P D vwCl (WT ca cq xq (kdC C) (fsC C) (snC C) ak (nI (C 0)) (nI (C 37)) (nI (C 38)) (fI (C 39)) (nI (C 40)) (lN (C 66)) (nI (C 41)) tb1_5 va fy (nIf (tmN C (cnds C))) an1_6 sw sb sv) H := hP
  have hD : va_D A (WT ca cq xq (kdC C) (fsC C) (snC C) ak (nI (C 0)) (nI (C 37)) (nI (C 38)) (fI (C 39)) (nI (C 40)) (lN (C 66)) (nI (C 41)) tb1_5 va fy (nIf (tmN C (cnds C))) an1_6 sw sb sv) := hD
  have hp_11 : r_7 = nI (wst (tmN C (cnds C)) t_) := hq_11
  clear hq_11
  obtain rfl := hp_11
  subst hQQ
  exact xe_i (v := nI (wst (tmN C (cnds C)) t_)) (tb1_5, an1_6) hx hb hr hlocks hK hP hD hS (rfl) dX1_worstLeft_14
set_option maxHeartbeats 4000000 in
set_option maxRecDepth 100000 in
theorem mt_X1_bestTest (l : Launch) (D : va_G) (ca : Nat → ClassId) (cq : Nat → Nat) (xq : Nat → Nat) (ak : Nat → Int32) (tb_ : Nat → Int64) (va : Nat → Int32) (fy : Nat → Int64) (cn : Nat → Int32) (an : Nat → Int32) (sw : Nat → Int64) (sb : Nat → Int64) (sv : Value) (C : Nat → Nat) (h0 : C 0 ≤ 12) (hkd0 : ∀ k, k < 12 → C (1 + k) < 8) (hse : ∀ k, k < 12 → C (13 + k) < 6 + k ∧ C (25 + k) < 6 + k) (ho : C 37 < 2 ^ 18) (hbx : C 38 < 2 ^ 18) (hno : popc 18 (C 37) ≤ 4) (hnb : popc 18 (C 38) ≤ 3) (hbsz : C 38 < 2 ^ C 0) (h40 : C 40 ≤ 1) (hak : C 41 ≤ 12) (hAk : AkOk C ak) (ha16 : ∀ k, k < 12 → C (54 + k) < 16) (ht64 : ∀ k, k < 12 → C (42 + k) < 64) (nn : Nat) : Met l yX1_bestTest (ws_ yX1_bestTest cX1_bestTest 1 (Option.some Jvm.ClassFile.FieldType.int)) ({ frames := 5, cells := 0, slots := 0, locals := 120 } : Room) (va_Pc [.ref (xq 0)] (PreW EvX D vwCl (TY ca) (WT ca cq xq (kdC C) (fsC C) (snC C) ak (nI (C 0)) (nI (C 37)) (nI (C 38)) (fI (C 39)) (nI (C 40)) (lN (C 66)) (nI (C 41)) tb_ va fy cn an sw sb sv) nn)) (va_Qi (fun (r_ : Int32) (u_ : (Nat → Int64) × (Nat → Int32)) => r_ = nI (bst C)) (PostW D vwCl (TY ca) (fun (u_ : (Nat → Int64) × (Nat → Int32)) => (WT ca cq xq (kdC C) (fsC C) (snC C) ak (nI (C 0)) (nI (C 37)) (nI (C 38)) (fI (C 39)) (nI (C 40)) (lN (C 66)) (nI (C 41)) u_.1 va fy (nIf (tmN C (cnds C))) u_.2 sw sb sv)) (va_A (WT ca cq xq (kdC C) (fsC C) (snC C) ak (nI (C 0)) (nI (C 37)) (nI (C 38)) (fI (C 39)) (nI (C 40)) (lN (C 66)) (nI (C 41)) tb_ va fy cn an sw sb sv) nn)) (va_A (WT ca cq xq (kdC C) (fsC C) (snC C) ak (nI (C 0)) (nI (C 37)) (nI (C 38)) (fI (C 39)) (nI (C 40)) (lN (C 66)) (nI (C 41)) tb_ va fy cn an sw sb sv) nn)) 0 0 (va_A (WT ca cq xq (kdC C) (fsC C) (snC C) ak (nI (C 0)) (nI (C 37)) (nI (C 38)) (fI (C 39)) (nI (C 40)) (lN (C 66)) (nI (C 41)) tb_ va fy cn an sw sb sv) nn) := by
  refine met_go (QA := fun A => va_Qi (fun (r_ : Int32) (u_ : (Nat → Int64) × (Nat → Int32)) => r_ = nI (bst C)) (PostW D vwCl (TY ca) (fun (u_ : (Nat → Int64) × (Nat → Int32)) => (WT ca cq xq (kdC C) (fsC C) (snC C) ak (nI (C 0)) (nI (C 37)) (nI (C 38)) (fI (C 39)) (nI (C 40)) (lN (C 66)) (nI (C 41)) u_.1 va fy (nIf (tmN C (cnds C))) u_.2 sw sb sv)) A) A) (by decide) (Nat.le_of_ble_eq_true rfl) (fun p e s m below meth c A ls QQ hQQ hx hb hr hts hown hlocks hml hA hP hK hD hE hl => ?_)
  have hown : s.vm.findClass RX1 = some m.cls := hown
  have hS : va_S A s.heap s.heap [] := va_S.rf
  have hl : lv_has ls 1 [(0, .ref (xq 0))] := hl
  generalize hHe : s.heap = H at hP ⊢
  have hS : va_S A s.heap H [] := hHe ▸ hS
  generalize ([] : List Loc) = locs at hS ⊢
  have hll := tm_lim h0 hnb
  refine lv_aload_n hx hb dX1_bestTest_0 rfl (lv_at hl 0 rfl) ?_
  refine xc_i (xr_V (b := xq 0) (ci := 0) (q0 := 5) (As := []) (rest := []) (mt_X1_layCounts l D ca cq xq ak tb_ va fy cn an sw sb sv C (by first | assumption | omega | (simp only [updN, forgetC, changedC]; (repeat' split) <;> omega)) (by first | assumption | omega | (simp only [updN, forgetC, changedC]; (repeat' split) <;> omega)) (by first | assumption | omega | (simp only [updN, forgetC, changedC]; (repeat' split) <;> omega)) (by first | assumption | omega | (simp only [updN, forgetC, changedC]; (repeat' split) <;> omega)) (by first | assumption | omega | (simp only [updN, forgetC, changedC]; (repeat' split) <;> omega)) (by first | assumption | omega | (simp only [updN, forgetC, changedC]; (repeat' split) <;> omega)) (by first | assumption | omega | (simp only [updN, forgetC, changedC]; (repeat' split) <;> omega)) (by first | assumption | omega | (simp only [updN, forgetC, changedC]; (repeat' split) <;> omega)) (by first | assumption | omega | (simp only [updN, forgetC, changedC]; (repeat' split) <;> omega)) (by first | assumption | omega | (simp only [updN, forgetC, changedC]; (repeat' split) <;> omega)) (by first | assumption | omega | (simp only [updN, forgetC, changedC]; (repeat' split) <;> omega)) (by first | assumption | omega | (simp only [updN, forgetC, changedC]; (repeat' split) <;> omega)) (by first | assumption | omega | (simp only [updN, forgetC, changedC]; (repeat' split) <;> omega)) H.size) ⟨hx, hb, hml, hown, hts⟩ (cwV 0 hts (lw_V q1138 q1140 qs33 q79 q1141) rfl rfl rfl (by decide +kernel) ⟨Nat.le_of_ble_eq_true rfl, Nat.le_of_ble_eq_true rfl⟩) EvX_ok hE hK hS (Cut.all hP hD hS hA) rfl rfl rfl hl.1 rfl (Nat.le_of_ble_eq_true rfl) dX1_bestTest_1 ⟨Nat.le_of_ble_eq_true rfl, Nat.le_of_ble_eq_true rfl⟩) hS (Cut.all hP hD hS hA) (fun r_1 u_2 H locs hq_1 hP hD hS => ?_)
  obtain ⟨tb1_3, an1_4⟩ := u_2
  have hP : va_P D vwCl (WT ca cq xq (kdC C) (fsC C) (snC C) ak (nI (C 0)) (nI (C 37)) (nI (C 38)) (fI (C 39)) (nI (C 40)) (lN (C 66)) (nI (C 41)) tb1_3 va fy (nIf (tmN C (cnds C))) an1_4 sw sb sv) H := hP
  have hD : va_D A (WT ca cq xq (kdC C) (fsC C) (snC C) ak (nI (C 0)) (nI (C 37)) (nI (C 38)) (fI (C 39)) (nI (C 40)) (lN (C 66)) (nI (C 41)) tb1_3 va fy (nIf (tmN C (cnds C))) an1_4 sw sb sv) := hD
  have hp_1 : r_1 = nI ((cnds C).length) := hq_1
  clear hq_1
  obtain rfl := hp_1
  refine lv_pop hx hb dX1_bestTest_4 rfl ?_
  refine lv_aload_n hx hb dX1_bestTest_5 rfl (lv_at hl 0 rfl) ?_
  refine xc_i (xr_V (b := xq 0) (ci := 0) (q0 := 5) (As := []) (rest := []) (mt_X1_best l D ca cq xq (kdC C) (fsC C) (snC C) ak (nI (C 0)) (nI (C 37)) (nI (C 38)) (fI (C 39)) (nI (C 40)) (lN (C 66)) (nI (C 41)) tb1_3 va fy an1_4 sw sb sv (tmN C (cnds C)) hll H.size) ⟨hx, hb, hml, hown, hts⟩ (cwV 0 hts (lw_V q1151 q1153 qs35 q79 q1154) rfl rfl rfl (by decide +kernel) ⟨Nat.le_of_ble_eq_true rfl, Nat.le_of_ble_eq_true rfl⟩) EvX_ok hE hK hS (Cut.all hP hD hS hA) rfl rfl rfl hl.1 rfl (Nat.le_of_ble_eq_true rfl) dX1_bestTest_6 ⟨Nat.le_of_ble_eq_true rfl, Nat.le_of_ble_eq_true rfl⟩) hS (Cut.all hP hD hS hA) (fun r_5 u_6 H locs hq_6 hP hD hS => ?_)
  have hP : va_P D vwCl (WT ca cq xq (kdC C) (fsC C) (snC C) ak (nI (C 0)) (nI (C 37)) (nI (C 38)) (fI (C 39)) (nI (C 40)) (lN (C 66)) (nI (C 41)) tb1_3 va fy (nIf (tmN C (cnds C))) an1_4 sw sb sv) H := hP
  have hD : va_D A (WT ca cq xq (kdC C) (fsC C) (snC C) ak (nI (C 0)) (nI (C 37)) (nI (C 38)) (fI (C 39)) (nI (C 40)) (lN (C 66)) (nI (C 41)) tb1_3 va fy (nIf (tmN C (cnds C))) an1_4 sw sb sv) := hD
  have hp_6 : r_5 = nI (bsN (tmN C (cnds C)) 63) := hq_6
  clear hq_6
  obtain rfl := hp_6
  subst hQQ
  exact xe_i (v := nI (bsN (tmN C (cnds C)) 63)) (tb1_3, an1_4) hx hb hr hlocks hK hP hD hS (rfl) dX1_bestTest_9
