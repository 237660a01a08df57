/-! surroundings with exceptions and lambdas; contracts of methods that throw -/
set_option maxRecDepth 100000
theorem nw_tabs {w : Cond} (h : nestW w = true) : w.onTables = true := by cases w <;> first | rfl | cases h
/-- any of the tables' words, of the good ones and of those that the surroundings carry -/
theorem ev_w {A : Nat → Prop} {args : Array Value} {s : State} (hts : ∀ w ∈ lw_all, w.before args s = true) (hE : EvX A s) {w : Cond} (h : w ∈ lw_tbl) (hg : (goodWord w || nestW w) = true) : w.before args s = true := by
  rcases Bool.or_eq_true_iff.mp hg with q | q
  · exact hts w (lw_g h q)
  · exact va_Nw.use (nw_tabs q) (hE.1 w h q)
theorem ev_ws {A : Nat → Prop} {args : Array Value} {s : State} (hts : ∀ w ∈ lw_all, w.before args s = true) (hE : EvX A s) (L : List Cond) (ps : List Nat) (hp : L = ps.filterMap (fun i => lw_tbl[i]?)) (hg : L.all (fun w => goodWord w || nestW w) = true) : ∀ w ∈ L, w.before args s = true := by
  intro w h
  have h1 := List.all_eq_true.mp hg w h
  rw [hp] at h
  obtain ⟨i, -, hi⟩ := List.mem_filterMap.mp h
  exact ev_w hts hE (List.mem_of_getElem? hi) h1
/-- the six linked sites -/
def EvLm (A : Nat → Prop) (s : State) : Prop := lm_L yX1_addGate 4 230 lm0_S A s ∧ lm_L yX1_dropGate 1 237 lm1_S A s ∧ lm_L yX1_setKind 3 240 lm2_S A s ∧ lm_L yX1_setSource 4 243 lm3_S A s ∧ lm_L yX1_turnOutput 2 244 lm4_S A s ∧ lm_L yX1_turnBox 2 247 lm5_S A s
/-- what throwing asks -/
def EvTh (A : Nat → Prop) (s : State) : Prop := vx_Zq Bundle.tN "UNASSIGNED_STACK" Bundle.steD A s s.heap ∧ vx_Zq Bundle.tN "SUPPRESSED_SENTINEL" Bundle.listD A s s.heap ∧ (∃ a_ : Nat, vk_R "RosehipCircuits" 5 "there is none" a_ s) ∧ (∃ a_ : Nat, vk_R "RosehipCircuits" 13 "out of range" a_ s) ∧ (∃ a_ : Nat, vk_R "RosehipCircuits" 18 "not possible" a_ s) ∧ (∃ a_ : Nat, vk_R "RosehipCircuits" 364 "orders" a_ s)
def EvY (A : Nat → Prop) (s : State) : Prop := EvX A s ∧ lm_I s ∧ EvLm A s ∧ EvTh A s
theorem EvY_ok : EvOk EvY := by
  intro A A1 s U hE hW hq hs
  obtain ⟨h1, h2, ⟨l0, l1, l2, l3, l4, l5⟩, t1, t2, ⟨a1, s1⟩, ⟨a2, s2⟩, ⟨a3, s3⟩, ⟨a4, s4⟩⟩ := hE
  exact ⟨EvX_ok A A1 s U h1 hW hq hs, h2.moved hW.alike, ⟨l0.ok hW hq hs, l1.ok hW hq hs, l2.ok hW hq hs, l3.ok hW hq hs, l4.ok hW hq hs, l5.ok hW hq hs⟩,
    ((t1.kept hq).moved hW.alike).narrow hs, ((t2.kept hq).moved hW.alike).narrow hs, ⟨a1, s1.warm hW⟩, ⟨a2, s2.warm hW⟩, ⟨a3, s3.warm hW⟩, ⟨a4, s4.warm hW⟩⟩
/-- thrown: the class E0, the world w as it was -/
abbrev XT (E0 : String) (D : va_G) (cl : List vw_C) (tys : List (ClassId × FieldType)) (w : va_W) (A : Nat → Prop) : String → State → State → Prop := vx_X (fun _ : Unit => True) (fun E_ (_ : Unit) t => E_ = E0 ∧ PostW D cl tys (fun (_ : Unit) => w) A () t) A
abbrev QN (A : Nat → Prop) : Array Value → State → Outcome → State → Prop := va_Qv (fun (_ : Unit) => False) (fun _ _ => True) A
theorem met_goX {l : Launch} {y : MethodName} {cc : ByteArray} {maxL : Nat} {ret : Option FieldType} {rm : Room} {Ev : (Nat → Prop) → State → Prop} {D : va_G} {cl : List vw_C} {tys : List (ClassId × FieldType)} {wc : va_W} {av : List Value} {n : Nat} {QA : (Nat → Prop) → Array Value → State → Outcome → State → Prop} {XA : (Nat → Prop) → String → State → State → Prop} {mc ms : Nat} (hy : plainName y.cls = true) (hlen : (lg_sl av).length ≤ maxL)
    (body : ∀ (p : Program) (e : Env) (s : State) (m : MethodId) (below : List Frame) (meth : Method) (c : Code) (A : Nat → Prop) (ls : Array Slot) (QQ : State → Prop), QQ = vx_MQ below (QA A) (XA A) av.toArray s mc ms A → (∀ x ∈ c.exceptionTable.toList, False) → s.methodNamed? y = some m → p.tables.exec = Jvm.exec → c.code = cc → meth.sig.returnType = ret → (∀ w ∈ lw_all, w.before av.toArray s = true) → s.vm.findClass y.cls = some m.cls → meth.locks = false → c.maxLocals = maxL → (∀ q : Nat, s.heap.size ≤ q → A q) → va_P D cl wc s.heap → va_K D cl tys s → va_D A wc → Ev A s → lv_has ls maxL (lv_args 0 av) →
      W p l e rm s m av.toArray below meth c s.heap [] 0 0 QQ (F0 m 0 ls [])) : vx_Met l y (ws_ y cc maxL ret) rm (va_Pc av (PreW Ev D cl tys wc n)) (QA (va_A wc n)) (XA (va_A wc n)) mc ms (va_A wc n) := by
  refine vx_ofW (cc := cc) (maxL := maxL) (ret := ret) hy rfl ?_
  intro p e s m args below meth c s₁ B hml hex hv
  obtain ⟨rfl, hsz, hP, hK, hD0, hE⟩ := hv
  subst hsz
  have hts : ∀ w ∈ lw_all, w.before _ s = true := fun w h => atoms_spec (ws := ws_ y cc maxL ret) B.pre w (List.mem_cons_of_mem _ h)
  have hl := lv_entry av (n := maxL) hlen
  rw [lg_entry_eq]
  exact body p e s m below meth c (va_A wc s.heap.size) _ _ rfl hex B.named B.exec B.bytes B.returns hts (findClass_of_methodNamed B.named) B.notSynchronized hml (fun q h => Or.inr h) hP hK hD0.self hE hl
section XTROWS
variable {p : Program} {l : Launch} {e : Env} {R : Room} {s : State} {m : MethodId} {args : Array Value} {below : List Frame} {meth : Method} {c : Code} {H : Heap} {locs : List Loc} {cells slots : Nat} {Q : State → Prop}
variable {cc : ByteArray} {pc : Nat} {ls : Array Slot} {rest : List Value}
theorem xt_S {Ev : (Nat → Prop) → State → Prop} {D : va_G} {cl : List vw_C} {tys : List (ClassId × FieldType)} {A : Nat → Prop} {wc : va_W} {J : va_W → va_W} {y : MethodName} {bytes : ByteArray} {maxL nL mc ms n index : Nat} {ret : Option FieldType} {wy : List Cond} {rm : Room} {Qc : Array Value → State → Outcome → State → Prop} {XC : String → State → State → Prop} {free : Addr → Prop} {Ts : List Cond} {own : String} {As st0 : List Value} (hM : vx_Met l y wy rm (va_Pc As (PreW Ev D cl tys wc H.size)) Qc XC mc ms free) (C : CallFix p m c cc nL s args Ts own) (cw : CallB R s args own index y bytes maxL ret wy rm mc ms n ∧ (Cond.static y).before args s = true) (hEv : EvOk Ev) (hE : Ev A s) (hK : va_K D cl tys s) (hS : va_S A s.heap H locs) (cut : Cut D cl A wc J H) (hn : As.length = n) (hsize : ls.size = nL) (hst : st0 = As.reverse ++ rest) (hW : (rest.map fun v => v.category).sum ≤ 8) (hdg : decode cc pc = .ok (.invokestatic index, 3)) (hf : cells + mc ≤ R.cells ∧ slots + ms ≤ R.slots) :
    vx_Run p l e R s m args below meth c H locs cells slots mc ms (F0 m pc ls st0) rest (Qc (As).toArray) XC free :=
  vx_runS (As := As) (rest := rest) C hM cw (xc_pre hEv hE hK hS cut) rfl hn hsize hst (lv_room hW) hdg hf
theorem xt_V {Ev : (Nat → Prop) → State → Prop} {D : va_G} {cl : List vw_C} {tys : List (ClassId × FieldType)} {A : Nat → Prop} {wc : va_W} {J : va_W → va_W} {y : MethodName} {bytes : ByteArray} {maxL nL mc ms n index : Nat} {ret : Option FieldType} {wy : List Cond} {rm : Room} {Qc : Array Value → State → Outcome → State → Prop} {XC : String → State → State → Prop} {free : Addr → Prop} {Ts : List Cond} {own : String} {As st0 : List Value} {C0 : String} {b ci q0 : Nat} {fs : List Value} {T0 : u_T} {N0 : Nat} (hM : vx_Met l y wy rm (va_Pc (.ref b :: As) (PreW Ev D cl tys wc H.size)) Qc XC mc ms free) (C : CallFix p m c cc nL s args Ts own) (cw : CallW R s args own C0 index y bytes maxL ret wy rm mc ms n) (hEv : EvOk Ev) (hE : Ev A s) (hK : va_K D cl tys s) (hS : va_S A s.heap H locs) (cut : Cut D cl A wc J H) (hq : wc[q0]? = some (b, .inr (ci, fs))) (hc : cl[ci]? = some (C0, T0, N0)) (hn : As.length = n) (hsize : ls.size = nL) (hst : st0 = As.reverse ++ .ref b :: rest) (hW : (rest.map fun v => v.category).sum ≤ 8) (hdg : decode cc pc = .ok (.invokevirtual index, 3)) (hf : cells + mc ≤ R.cells ∧ slots + ms ≤ R.slots) :
    vx_Run p l e R s m args below meth c H locs cells slots mc ms (F0 m pc ls st0) rest (Qc (Value.ref b :: As).toArray) XC free :=
  vx_runV (As := As) (rest := rest) C hM cw ⟨(xc_pre (As := .ref b :: As) hEv hE hK hS cut).1, va_recv hK cut.1 hc hq, (xc_pre hEv hE hK hS cut).2⟩ rfl hn hsize hst (lv_room hW) hdg hf
theorem xt_I {Ev : (Nat → Prop) → State → Prop} {D : va_G} {cl : List vw_C} {tys : List (ClassId × FieldType)} {A : Nat → Prop} {wc : va_W} {J : va_W → va_W} {y : MethodName} {bytes : ByteArray} {maxL nL mc ms n index : Nat} {ret : Option FieldType} {wy : List Cond} {rm : Room} {Qc : Array Value → State → Outcome → State → Prop} {XC : String → State → State → Prop} {free : Addr → Prop} {Ts : List Cond} {own : String} {As st0 : List Value} {b : Nat} (hM : vx_Met l y wy rm (va_Pc (.ref b :: As) (PreW Ev D cl tys wc H.size)) Qc XC mc ms free) (C : CallFix p m c cc nL s args Ts own) (cw : CallB R s args own index y bytes maxL none wy rm mc ms n ∧ y.name = "<init>" ∧ (Cond.instanceMethod y).before args s = true) (hEv : EvOk Ev) (hE : Ev A s) (hK : va_K D cl tys s) (hS : va_S A s.heap H locs) (cut : Cut D cl A wc J H) (hn : As.length = n) (hsize : ls.size = nL) (hst : st0 = As.reverse ++ .ref b :: rest) (hW : (rest.map fun v => v.category).sum ≤ 8) (hdg : decode cc pc = .ok (.invokespecial index, 3)) (hf : cells + mc ≤ R.cells ∧ slots + ms ≤ R.slots) :
    vx_Run p l e R s m args below meth c H locs cells slots mc ms (F0 m pc ls st0) rest (Qc (Value.ref b :: As).toArray) XC free :=
  vx_runI (As := As) (rest := rest) C hM cw (xc_pre hEv hE hK hS cut) rfl hn hsize hst (lv_room hW) hdg hf
theorem xt_SN {Ev : (Nat → Prop) → State → Prop} {D : va_G} {cl : List vw_C} {tys : List (ClassId × FieldType)} {A : Nat → Prop} {wc : va_W} {J : va_W → va_W} {y : MethodName} {bytes : ByteArray} {maxL nL mc ms n index : Nat} {ret : Option FieldType} {wy : List Cond} {rm : Room} {Qc : Array Value → State → Outcome → State → Prop} {XC : String → State → State → Prop} {free : Addr → Prop} {Ts : List Cond} {own : String} {As st0 : List Value} {host : String} (hM : vx_Met l y wy rm (va_Pc As (PreW Ev D cl tys wc H.size)) Qc XC mc ms free) (C : CallFix p m c cc nL s args Ts own) (cw : va_CN R s args own index y host bytes maxL ret wy rm mc ms n ∧ (Cond.static y).before args s = true ∧ True) (hEv : EvOk Ev) (hE : Ev A s) (hK : va_K D cl tys s) (hS : va_S A s.heap H locs) (cut : Cut D cl A wc J H) (hn : As.length = n) (hsize : ls.size = nL) (hst : st0 = As.reverse ++ rest) (hW : (rest.map fun v => v.category).sum ≤ 8) (hdg : decode cc pc = .ok (.invokestatic index, 3)) (hf : cells + mc ≤ R.cells ∧ slots + ms ≤ R.slots) :
    vx_Run p l e R s m args below meth c H locs cells slots mc ms (F0 m pc ls st0) rest (Qc (As).toArray) XC free :=
  vx_runSN (As := As) (rest := rest) C hM cw (xc_pre hEv hE hK hS cut) rfl hn hsize hst (lv_room hW) hdg hf
theorem xt_VN {Ev : (Nat → Prop) → State → Prop} {D : va_G} {cl : List vw_C} {tys : List (ClassId × FieldType)} {A : Nat → Prop} {wc : va_W} {J : va_W → va_W} {y : MethodName} {bytes : ByteArray} {maxL nL mc ms n index : Nat} {ret : Option FieldType} {wy : List Cond} {rm : Room} {Qc : Array Value → State → Outcome → State → Prop} {XC : String → State → State → Prop} {free : Addr → Prop} {Ts : List Cond} {own : String} {As st0 : List Value} {host C0 : String} {b ci q0 : Nat} {fs : List Value} {T0 : u_T} {N0 : Nat} (hM : vx_Met l y wy rm (va_Pc (.ref b :: As) (PreW Ev D cl tys wc H.size)) Qc XC mc ms free) (C : CallFix p m c cc nL s args Ts own) (cw : va_CN R s args own index y host bytes maxL ret wy rm mc ms n ∧ (Cond.instanceMethod y).before args s = true ∧ (Cond.selects C0 y y).before args s = true) (hEv : EvOk Ev) (hE : Ev A s) (hK : va_K D cl tys s) (hS : va_S A s.heap H locs) (cut : Cut D cl A wc J H) (hq : wc[q0]? = some (b, .inr (ci, fs))) (hc : cl[ci]? = some (C0, T0, N0)) (hn : As.length = n) (hsize : ls.size = nL) (hst : st0 = As.reverse ++ .ref b :: rest) (hW : (rest.map fun v => v.category).sum ≤ 8) (hdg : decode cc pc = .ok (.invokevirtual index, 3)) (hf : cells + mc ≤ R.cells ∧ slots + ms ≤ R.slots) :
    vx_Run p l e R s m args below meth c H locs cells slots mc ms (F0 m pc ls st0) rest (Qc (Value.ref b :: As).toArray) XC free :=
  vx_runVN (As := As) (rest := rest) C hM cw ⟨(xc_pre (As := .ref b :: As) hEv hE hK hS cut).1, va_recv hK cut.1 hc hq, (xc_pre hEv hE hK hS cut).2⟩ rfl hn hsize hst (lv_room hW) hdg hf
/-- a call that throws, and nobody here to catch it -/
theorem xt_out {D : va_G} {cl : List vw_C} {tys : List (ClassId × FieldType)} {A : Nat → Prop} {wc wt : va_W} {J : va_W → va_W} {E0 : String} {mc ms mc0 ms0 : Nat} {st0 : List Value} {a : Array Value} {Qc : Array Value → State → Outcome → State → Prop} (hr : vx_Run p l e R s m args below meth c H locs cells slots mc ms (F0 m pc ls st0) rest (QN (va_A wc H.size) a) (XT E0 D cl tys wc (va_A wc H.size)) (va_A wc H.size))
    (hS : va_S A s.heap H locs) (cut : Cut D cl A wc J H) (hsub : ∀ H1 : Heap, va_P D cl (J wc) H1 → va_D A (J wc) → va_P D cl wt H1 ∧ va_D A wt) (hex : ∀ x ∈ c.exceptionTable.toList, False) (hlocks : meth.locks = false) (hK : va_K D cl tys s) (hc : cells + mc ≤ mc0) (hs : slots + ms ≤ ms0) :
    W p l e R s m args below meth c H locs cells slots (vx_MQ below Qc (XT E0 D cl tys wt A) args s mc0 ms0 A) (F0 m pc ls st0) := by
  refine vx_callv (A0 := A) hr hS (fun q _ h => cut.2.2.1 q h) (fun q h => cut.2.2.1 q h) (fun q _ h => cut.2.2.1 q h) (fun E ce q9 u t H1 locs1 ht hvm _ hbx hz hk hS1 hce hcv hcl => ?_) (fun u t H1 locs1 _ _ hf => hf.elim)
  obtain ⟨rfl, hP1, hK1, hD1⟩ := hbx
  rw [ht] at hP1
  obtain ⟨g1, g2⟩ := cut.2.2.2 H1 _ hk hz hP1 hD1
  obtain ⟨k1, k2⟩ := hsub H1 g1 g2
  exact vx_out (fun x h => (hex x h).elim) hlocks hce hcv hcl (fun t' ht' hv' => ⟨(), trivial, ⟨rfl, by rw [ht']; exact k1, va_K.moved hv' hK, k2⟩, hS1.F ht'⟩) (fun z h => hS1.2.2 z h) hc hs
theorem xt_same {D : va_G} {cl : List vw_C} {A : Nat → Prop} {w : va_W} : ∀ H1 : Heap, va_P D cl w H1 → va_D A w → va_P D cl w H1 ∧ va_D A w := fun _ a b => ⟨a, b⟩
end XTROWS
set_option maxHeartbeats 4000000 in
theorem mt_X1_needThere_thr (l : Launch) (hlf : l.stackTraces = false) (D : va_G) (ca : Nat → ClassId) (b_ : Bool) (hb_ : b_ = false) (nn : Nat) : vx_Met l yX1_needThere (ws_ yX1_needThere cX1_needThere 1 (Option.none : Option Jvm.ClassFile.FieldType)) ({ frames := 8, cells := 1, slots := 6, locals := 200 } : Room) (va_Pc [.int (bI b_)] (PreW EvY D vwCl (TY ca) ([] : va_W) nn)) (QN (va_A ([] : va_W) nn)) (XT "java/lang/IndexOutOfBoundsException" D vwCl (TY ca) ([] : va_W) (va_A ([] : va_W) nn)) 1 6 (va_A ([] : va_W) nn) := by
  refine met_goX (QA := fun A => QN A) (XA := fun A => XT "java/lang/IndexOutOfBoundsException" D vwCl (TY ca) ([] : va_W) A) (by decide) (Nat.le_of_ble_eq_true rfl) (fun p e s m below meth c A ls QQ hQQ hex hnm hx hb hr hts hown hlocks hml hA hP hK hD hE hl => ?_)
  have hown : s.vm.findClass RX1 = some m.cls := hown
  have hl : lv_has ls 1 [(0, .int (bI b_))] := hl
  subst hQQ
  subst hb_
  refine lv_iload_n hx hb dX1_needThere_0 rfl (lv_at hl 0 rfl) ?_
  refine nv_ifb_ne (tgt := 14) hx hb dX1_needThere_1 (by decide) (fun q_ => by cases q_) (fun _ => ?_)
  obtain ⟨sa, hsa⟩ := hE.2.2.2.2.2.1
  have hat := ev_ws hts hE.1 (vx_atS "RosehipCircuits" 7 "java/lang/IndexOutOfBoundsException" ["java/lang/RuntimeException", "java/lang/Exception"]) [88, 335, 344, 352, 355, 357, 336, 337, 120, 121, 338, 343, 353, 373, 325, 374, 327, 375, 329, 339, 341, 331, 369, 370, 372, 331, 731, 732, 733, 363, 317, 363, 364, 365, 366, 319, 366, 367, 368, 369, 321, 1191, 1182, 1183, 1184, 350, 1185, 1186, 1187, 1188, 334, 333, 1189] (by decide +kernel) (by decide +kernel)
  exact vx_throwS (pc := 4) (text := "there is none") (names := ["java/lang/RuntimeException", "java/lang/Exception"]) hx hb hlf hown (by decide) (by decide) (hts _ q1181) (hts _ q91) hsa hat (by decide +kernel) hE.2.2.2.1 hE.2.2.2.2.1 va_S.rf (hl.1.trans hml.symm) dX1_needThere_4 dX1_needThere_7 dX1_needThere_8 dX1_needThere_10 dX1_needThere_13 (fun x h => (hex x h).elim) (by decide) (by decide) (by decide) (by decide) hlocks
    (fun t hv hz hk => ⟨(), trivial, ⟨rfl, show _ ∧ _ ∧ _ from ⟨fun k_ q_ h_ => by simp at h_, va_K.moved hv hK, hD⟩⟩, hz, fun q_ h1 h2 => hk q_ h1⟩) (fun z h => by cases h) (by decide) (by decide)
set_option maxHeartbeats 4000000 in
theorem mt_X1_needArgument_thr (l : Launch) (hlf : l.stackTraces = false) (D : va_G) (ca : Nat → ClassId) (b_ : Bool) (hb_ : b_ = false) (nn : Nat) : vx_Met l yX1_needArgument (ws_ yX1_needArgument cX1_needArgument 1 (Option.none : Option Jvm.ClassFile.FieldType)) ({ frames := 8, cells := 1, slots := 6, locals := 200 } : Room) (va_Pc [.int (bI b_)] (PreW EvY D vwCl (TY ca) ([] : va_W) nn)) (QN (va_A ([] : va_W) nn)) (XT "java/lang/IllegalArgumentException" D vwCl (TY ca) ([] : va_W) (va_A ([] : va_W) nn)) 1 6 (va_A ([] : va_W) nn) := by
  refine met_goX (QA := fun A => QN A) (XA := fun A => XT "java/lang/IllegalArgumentException" D vwCl (TY ca) ([] : va_W) A) (by decide) (Nat.le_of_ble_eq_true rfl) (fun p e s m below meth c A ls QQ hQQ hex hnm hx hb hr hts hown hlocks hml hA hP hK hD hE hl => ?_)
  have hown : s.vm.findClass RX1 = some m.cls := hown
  have hl : lv_has ls 1 [(0, .int (bI b_))] := hl
  subst hQQ
  subst hb_
  refine lv_iload_n hx hb dX1_needArgument_0 rfl (lv_at hl 0 rfl) ?_
  refine nv_ifb_ne (tgt := 14) hx hb dX1_needArgument_1 (by decide) (fun q_ => by cases q_) (fun _ => ?_)
  obtain ⟨sa, hsa⟩ := hE.2.2.2.2.2.2.1
  have hat := ev_ws hts hE.1 (vx_atS "RosehipCircuits" 15 "java/lang/IllegalArgumentException" ["java/lang/RuntimeException", "java/lang/Exception"]) [88, 335, 344, 352, 355, 357, 336, 337, 120, 121, 338, 343, 353, 373, 325, 374, 327, 375, 329, 339, 341, 331, 369, 370, 372, 331, 701, 702, 703, 363, 317, 363, 364, 365, 366, 319, 366, 367, 368, 369, 321, 1050, 686, 687, 688, 349, 689, 690, 691, 692, 334, 333, 693] (by decide +kernel) (by decide +kernel)
  exact vx_throwS (pc := 4) (text := "out of range") (names := ["java/lang/RuntimeException", "java/lang/Exception"]) hx hb hlf hown (by decide) (by decide) (hts _ q1048) (hts _ q93) hsa hat (by decide +kernel) hE.2.2.2.1 hE.2.2.2.2.1 va_S.rf (hl.1.trans hml.symm) dX1_needArgument_4 dX1_needArgument_7 dX1_needArgument_8 dX1_needArgument_10 dX1_needArgument_13 (fun x h => (hex x h).elim) (by decide) (by decide) (by decide) (by decide) hlocks
    (fun t hv hz hk => ⟨(), trivial, ⟨rfl, show _ ∧ _ ∧ _ from ⟨fun k_ q_ h_ => by simp at h_, va_K.moved hv hK, hD⟩⟩, hz, fun q_ h1 h2 => hk q_ h1⟩) (fun z h => by cases h) (by decide) (by decide)
set_option maxHeartbeats 4000000 in
theorem mt_X1_needState_thr (l : Launch) (hlf : l.stackTraces = false) (D : va_G) (ca : Nat → ClassId) (b_ : Bool) (hb_ : b_ = false) (nn : Nat) : vx_Met l yX1_needState (ws_ yX1_needState cX1_needState 1 (Option.none : Option Jvm.ClassFile.FieldType)) ({ frames := 8, cells := 1, slots := 6, locals := 200 } : Room) (va_Pc [.int (bI b_)] (PreW EvY D vwCl (TY ca) ([] : va_W) nn)) (QN (va_A ([] : va_W) nn)) (XT "java/lang/IllegalStateException" D vwCl (TY ca) ([] : va_W) (va_A ([] : va_W) nn)) 1 6 (va_A ([] : va_W) nn) := by
  refine met_goX (QA := fun A => QN A) (XA := fun A => XT "java/lang/IllegalStateException" D vwCl (TY ca) ([] : va_W) A) (by decide) (Nat.le_of_ble_eq_true rfl) (fun p e s m below meth c A ls QQ hQQ hex hnm hx hb hr hts hown hlocks hml hA hP hK hD hE hl => ?_)
  have hown : s.vm.findClass RX1 = some m.cls := hown
  have hl : lv_has ls 1 [(0, .int (bI b_))] := hl
  subst hQQ
  subst hb_
  refine lv_iload_n hx hb dX1_needState_0 rfl (lv_at hl 0 rfl) ?_
  refine nv_ifb_ne (tgt := 14) hx hb dX1_needState_1 (by decide) (fun q_ => by cases q_) (fun _ => ?_)
  obtain ⟨sa, hsa⟩ := hE.2.2.2.2.2.2.2.1
  have hat := ev_ws hts hE.1 (vx_atS "RosehipCircuits" 20 "java/lang/IllegalStateException" ["java/lang/RuntimeException", "java/lang/Exception"]) [88, 335, 344, 352, 355, 357, 336, 337, 120, 121, 338, 343, 353, 373, 325, 374, 327, 375, 329, 339, 341, 331, 369, 370, 372, 331, 360, 361, 362, 363, 317, 363, 364, 365, 366, 319, 366, 367, 368, 369, 321, 1200, 314, 315, 322, 323, 324, 326, 328, 330, 334, 333, 332] (by decide +kernel) (by decide +kernel)
  exact vx_throwS (pc := 4) (text := "not possible") (names := ["java/lang/RuntimeException", "java/lang/Exception"]) hx hb hlf hown (by decide) (by decide) (hts _ q1198) (hts _ q94) hsa hat (by decide +kernel) hE.2.2.2.1 hE.2.2.2.2.1 va_S.rf (hl.1.trans hml.symm) dX1_needState_4 dX1_needState_7 dX1_needState_8 dX1_needState_10 dX1_needState_13 (fun x h => (hex x h).elim) (by decide) (by decide) (by decide) (by decide) hlocks
    (fun t hv hz hk => ⟨(), trivial, ⟨rfl, show _ ∧ _ ∧ _ from ⟨fun k_ q_ h_ => by simp at h_, va_K.moved hv hK, hD⟩⟩, hz, fun q_ h1 h2 => hk q_ h1⟩) (fun z h => by cases h) (by decide) (by decide)
