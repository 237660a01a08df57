/-! the six sites of lambdas: what their made classes are -/
set_option maxRecDepth 100000
def lm0_S : Lambda.Shape := { iface := "RosehipCircuits$Change", name := "on", sam := ⟨[FieldType.object "RosehipCircuits$Circuit"], some FieldType.int⟩, captured := [FieldType.int, FieldType.int, FieldType.int], kind := 6, implClass := "RosehipCircuits", implName := "lambda$addGate$0", implDesc := ⟨[FieldType.int, FieldType.int, FieldType.int, FieldType.object "RosehipCircuits$Circuit"], some FieldType.int⟩, implItf := false, inst := ⟨[FieldType.object "RosehipCircuits$Circuit"], some FieldType.int⟩ }
def lm0_D : ClassFile := (lm0_S.file "RosehipCircuits").getD { minorVersion := 0, majorVersion := 0, constantPool := #[], accessFlags := 0, thisClass := 0, superClass := 0, interfaces := #[], fields := #[], methods := #[], attributes := #[] }
def lm0_M : Method := ((layoutMethods lm0_D).bind (·[1]?)).getD default
def lm0_Y : Array Field × Array FieldType × Array FieldType := (layoutFields lm0_D 0).getD (#[], #[], #[])
def lm0_C : ByteArray := ⟨#[42, 180, 0, 17, 42, 180, 0, 19, 42, 180, 0, 21, 43, 184, 0, 29, 172]⟩
theorem lm0_file : lm0_S.file "RosehipCircuits" = some lm0_D := by
  have h : (lm0_S.file "RosehipCircuits").isSome = true := by decide +kernel
  obtain ⟨x, hx⟩ := Option.isSome_iff_exists.mp h
  simp [lm0_D, hx]
theorem lm0_second : ∀ ms, layoutMethods lm0_D = some ms → ms[1]? = some lm0_M := by
  intro ms hms
  have h : ((layoutMethods lm0_D).bind (·[1]?)).isSome = true := by decide +kernel
  obtain ⟨x, hx⟩ := Option.isSome_iff_exists.mp h
  have hf : lm0_M = x := by simp [lm0_M, hx]
  rw [hms] at hx
  rw [hf]
  exact hx
theorem lm0_laid : layoutFields lm0_D 0 = some lm0_Y := by
  have h : (layoutFields lm0_D 0).isSome = true := by decide +kernel
  obtain ⟨x, hx⟩ := Option.isSome_iff_exists.mp h
  simp [lm0_Y, hx]
theorem lm0_fc : (lm0_M.code.map fun c => (c.code.data, c.maxLocals)) = some (lm0_C.data, 2) := by decide +kernel
theorem lm0_ff : (lm0_M.accessFlags, lm0_M.sig.returnType) = (0x0001, some FieldType.int) := by decide +kernel
theorem lm0_ty : lm0_Y.2.1.toList = List.replicate 3 FieldType.int := by decide +kernel
theorem lm0_eM : lm0_D.constantPool[29]? = some (.methodref 25 28) ∧ lm0_D.constantPool.className? 25 = some "RosehipCircuits" ∧ lm0_D.constantPool.nameAndType? 28 = some (yX1_lambda_addGate_0.name, yX1_lambda_addGate_0.desc) := by decide +kernel
theorem lm0_eC : lm0_D.constantPool[25]? = some (.class_ 24) ∧ lm0_D.constantPool.string? 24 = some "RosehipCircuits" ∧ 25 ≠ lm0_D.thisClass := by decide +kernel
theorem lm0_eF0 : lm0_D.constantPool[17]? = some (.fieldref 2 16) ∧ lm0_D.constantPool.nameAndType? 16 = some ("arg$1", "I") ∧ lm0_Y.1.findIdx? (·.name == "arg$1") = some 0 ∧ (lm0_Y.1[0]?).map (fun f => (f.isStatic, f.slot)) = some (false, 0) := by decide +kernel
theorem lm0_eF1 : lm0_D.constantPool[19]? = some (.fieldref 2 18) ∧ lm0_D.constantPool.nameAndType? 18 = some ("arg$2", "I") ∧ lm0_Y.1.findIdx? (·.name == "arg$2") = some 1 ∧ (lm0_Y.1[1]?).map (fun f => (f.isStatic, f.slot)) = some (false, 1) := by decide +kernel
theorem lm0_eF2 : lm0_D.constantPool[21]? = some (.fieldref 2 20) ∧ lm0_D.constantPool.nameAndType? 20 = some ("arg$3", "I") ∧ lm0_Y.1.findIdx? (·.name == "arg$3") = some 2 ∧ (lm0_Y.1[2]?).map (fun f => (f.isStatic, f.slot)) = some (false, 2) := by decide +kernel
theorem lm0_d0 : decode lm0_C 0 = .ok (.aload_n 0, 1) := by decide +kernel
theorem lm0_d1 : decode lm0_C 1 = .ok (.getfield 17, 3) := by decide +kernel
theorem lm0_d4 : decode lm0_C 4 = .ok (.aload_n 0, 1) := by decide +kernel
theorem lm0_d5 : decode lm0_C 5 = .ok (.getfield 19, 3) := by decide +kernel
theorem lm0_d8 : decode lm0_C 8 = .ok (.aload_n 0, 1) := by decide +kernel
theorem lm0_d9 : decode lm0_C 9 = .ok (.getfield 21, 3) := by decide +kernel
theorem lm0_d12 : decode lm0_C 12 = .ok (.aload_n 1, 1) := by decide +kernel
theorem lm0_d13 : decode lm0_C 13 = .ok (.invokestatic 29, 3) := by decide +kernel
theorem lm0_d16 : decode lm0_C 16 = .ok (.ireturn, 1) := by decide +kernel
theorem lm0_made {vm : Vm} {d c : ClassId} {dk : Class} (hd : vm.classes[d]? = some dk) (hname : dk.name = "RosehipCircuits") (h : Lambda.isMade lm_set vm d lm0_S c = true)
    (hO : ∀ o ok, vm.findClass "java/lang/Object" = some o → vm.classes[o]? = some ok → ok.instanceTypes.size = 0) : lm_F vm c lm0_C 3 (fun i_ => 17 + 2 * i_) 29 yX1_lambda_addGate_0 := by
  obtain ⟨dk', k, ok, tk, file, cf, object, iface, toy, lay, methods, target, found, hd', hk, hfile, hcf, hobj, -, hok, hlay, hms, ht, htk, hg, -, hrec, -, -, -, hitf, hpool, hmeth, hfields, hty, hres, -⟩ := Lambda.isMade_spec h
  cases hd.symm.trans hd'
  rw [hname, lm0_file] at hcf
  cases hcf
  have hO0 := hO object ok hobj hok
  rw [hO0, lm0_laid] at hlay
  cases hlay
  obtain ⟨b, hb, hsame⟩ := hmeth 1 lm0_M (lm0_second methods hms)
  simp only [Lambda.sameMethod, Bool.and_eq_true, decide_eq_true_eq] at hsame
  obtain ⟨⟨hn, -, hsig, hfl⟩, hcode⟩ := hsame
  have fc := lm0_fc
  have ff := lm0_ff
  simp only [Prod.mk.injEq] at ff
  obtain ⟨g0, hg0, hp0⟩ := Option.map_eq_some_iff.mp lm0_eF0.2.2.2
  simp only [Prod.mk.injEq] at hp0
  obtain ⟨g1, hg1, hp1⟩ := Option.map_eq_some_iff.mp lm0_eF1.2.2.2
  simp only [Prod.mk.injEq] at hp1
  obtain ⟨g2, hg2, hp2⟩ := Option.map_eq_some_iff.mp lm0_eF2.2.2.2
  simp only [Prod.mk.injEq] at hp2
  have hemp : ok.instanceTypes = #[] := Array.eq_empty_of_size_eq_zero hO0
  cases hfc : lm0_M.code with
  | none => rw [hfc] at fc; cases fc
  | some x =>
    cases hbc : b.code with
    | none => simp [hfc, hbc] at hcode
    | some y =>
      simp only [hfc, hbc, Bool.and_eq_true, decide_eq_true_eq] at hcode
      simp only [hfc, Option.map_some, Option.some.injEq, Prod.mk.injEq] at fc
      refine ⟨k, tk, file, b, y, toy, target, 25, 28, hk, by rw [hrec.1, hname]; rfl, hfile, by rw [hpool.2.1]; exact lm0_eM.1, by rw [hpool.2.1]; exact lm0_eM.2.2, by simp [Vm.method?, hk, hb], hbc, ?_, by rw [← hcode.1.1.1.1.2.1]; exact fc.2, hcode.1.1.2, ?_, by rw [← hfl]; exact ff.1, by rw [← hsig]; exact ff.2, ht, htk, hg,
        ⟨k, hk, hres 29 _ (Lambda.resolvedOf_method lm0_eM.1 lm0_eM.2.1 ht htk lm0_eM.2.2 hg)⟩, ⟨k, hk, hres 25 _ (Lambda.resolvedOf_class lm0_eC.1 lm0_eC.2.2 lm0_eC.2.1 ht)⟩, fun i_ hi_ => by
        rcases (show i_ = 0 ∨ i_ = 1 ∨ i_ = 2 by omega) with rfl | rfl | rfl
        · exact ⟨g0, ⟨k, 0, k, hk, hres 17 _ (Lambda.resolvedOf_field lm0_eF0.1 lm0_eF0.2.1 lm0_eF0.2.2.1), hk, hfields 0 _ hg0⟩, hp0.1, hp0.2⟩
        · exact ⟨g1, ⟨k, 1, k, hk, hres 19 _ (Lambda.resolvedOf_field lm0_eF1.1 lm0_eF1.2.1 lm0_eF1.2.2.1), hk, hfields 1 _ hg1⟩, hp1.1, hp1.2⟩
        · exact ⟨g2, ⟨k, 2, k, hk, hres 21 _ (Lambda.resolvedOf_field lm0_eF2.1 lm0_eF2.2.1 lm0_eF2.2.2.1), hk, hfields 2 _ hg2⟩, hp2.1, hp2.2⟩, by rw [hty.1, hemp]; simp [lm0_ty]⟩
      · rw [← hcode.1.1.1.1.2.2]
        exact ByteArray.ext fc.1
      · simp [Method.locks, Method.isSynchronized, ← hfl, ff.1, hasFlag, Acc.synchronized]
theorem lm0_F {s : State} {args : Array Value} {cK : ClassId} (hts : ∀ w ∈ lw_all, w.before args s = true) (hK : lm_K lm0_S s cK) : ∀ vm', s.WarmedH vm' → lm_F vm' cK lm0_C 3 (fun i_ => 17 + 2 * i_) 29 yX1_lambda_addGate_0 := by
  intro vm' hW
  obtain ⟨d, dk, h1, h2, h3, -⟩ := lm_K.warm (U := s.setVm vm') hW hK
  exact lm0_made h1 h2 h3 (lm_Obj hts vm' hW)
def lm1_S : Lambda.Shape := { iface := "RosehipCircuits$Change", name := "on", sam := ⟨[FieldType.object "RosehipCircuits$Circuit"], some FieldType.int⟩, captured := [], kind := 6, implClass := "RosehipCircuits", implName := "lambda$dropGate$1", implDesc := ⟨[FieldType.object "RosehipCircuits$Circuit"], some FieldType.int⟩, implItf := false, inst := ⟨[FieldType.object "RosehipCircuits$Circuit"], some FieldType.int⟩ }
def lm1_D : ClassFile := (lm1_S.file "RosehipCircuits").getD { minorVersion := 0, majorVersion := 0, constantPool := #[], accessFlags := 0, thisClass := 0, superClass := 0, interfaces := #[], fields := #[], methods := #[], attributes := #[] }
def lm1_M : Method := ((layoutMethods lm1_D).bind (·[1]?)).getD default
def lm1_Y : Array Field × Array FieldType × Array FieldType := (layoutFields lm1_D 0).getD (#[], #[], #[])
def lm1_C : ByteArray := ⟨#[43, 184, 0, 17, 172]⟩
theorem lm1_file : lm1_S.file "RosehipCircuits" = some lm1_D := by
  have h : (lm1_S.file "RosehipCircuits").isSome = true := by decide +kernel
  obtain ⟨x, hx⟩ := Option.isSome_iff_exists.mp h
  simp [lm1_D, hx]
theorem lm1_second : ∀ ms, layoutMethods lm1_D = some ms → ms[1]? = some lm1_M := by
  intro ms hms
  have h : ((layoutMethods lm1_D).bind (·[1]?)).isSome = true := by decide +kernel
  obtain ⟨x, hx⟩ := Option.isSome_iff_exists.mp h
  have hf : lm1_M = x := by simp [lm1_M, hx]
  rw [hms] at hx
  rw [hf]
  exact hx
theorem lm1_laid : layoutFields lm1_D 0 = some lm1_Y := by
  have h : (layoutFields lm1_D 0).isSome = true := by decide +kernel
  obtain ⟨x, hx⟩ := Option.isSome_iff_exists.mp h
  simp [lm1_Y, hx]
theorem lm1_fc : (lm1_M.code.map fun c => (c.code.data, c.maxLocals)) = some (lm1_C.data, 2) := by decide +kernel
theorem lm1_ff : (lm1_M.accessFlags, lm1_M.sig.returnType) = (0x0001, some FieldType.int) := by decide +kernel
theorem lm1_ty : lm1_Y.2.1.toList = List.replicate 0 FieldType.int := by decide +kernel
theorem lm1_eM : lm1_D.constantPool[17]? = some (.methodref 14 16) ∧ lm1_D.constantPool.className? 14 = some "RosehipCircuits" ∧ lm1_D.constantPool.nameAndType? 16 = some (yX1_lambda_dropGate_1.name, yX1_lambda_dropGate_1.desc) := by decide +kernel
theorem lm1_eC : lm1_D.constantPool[14]? = some (.class_ 13) ∧ lm1_D.constantPool.string? 13 = some "RosehipCircuits" ∧ 14 ≠ lm1_D.thisClass := by decide +kernel
theorem lm1_d0 : decode lm1_C 0 = .ok (.aload_n 1, 1) := by decide +kernel
theorem lm1_d1 : decode lm1_C 1 = .ok (.invokestatic 17, 3) := by decide +kernel
theorem lm1_d4 : decode lm1_C 4 = .ok (.ireturn, 1) := by decide +kernel
theorem lm1_made {vm : Vm} {d c : ClassId} {dk : Class} (hd : vm.classes[d]? = some dk) (hname : dk.name = "RosehipCircuits") (h : Lambda.isMade lm_set vm d lm1_S c = true)
    (hO : ∀ o ok, vm.findClass "java/lang/Object" = some o → vm.classes[o]? = some ok → ok.instanceTypes.size = 0) : lm_F vm c lm1_C 0 (fun i_ => 0 + 2 * i_) 17 yX1_lambda_dropGate_1 := by
  obtain ⟨dk', k, ok, tk, file, cf, object, iface, toy, lay, methods, target, found, hd', hk, hfile, hcf, hobj, -, hok, hlay, hms, ht, htk, hg, -, hrec, -, -, -, hitf, hpool, hmeth, hfields, hty, hres, -⟩ := Lambda.isMade_spec h
  cases hd.symm.trans hd'
  rw [hname, lm1_file] at hcf
  cases hcf
  have hO0 := hO object ok hobj hok
  rw [hO0, lm1_laid] at hlay
  cases hlay
  obtain ⟨b, hb, hsame⟩ := hmeth 1 lm1_M (lm1_second methods hms)
  simp only [Lambda.sameMethod, Bool.and_eq_true, decide_eq_true_eq] at hsame
  obtain ⟨⟨hn, -, hsig, hfl⟩, hcode⟩ := hsame
  have fc := lm1_fc
  have ff := lm1_ff
  simp only [Prod.mk.injEq] at ff
  have hemp : ok.instanceTypes = #[] := Array.eq_empty_of_size_eq_zero hO0
  cases hfc : lm1_M.code with
  | none => rw [hfc] at fc; cases fc
  | some x =>
    cases hbc : b.code with
    | none => simp [hfc, hbc] at hcode
    | some y =>
      simp only [hfc, hbc, Bool.and_eq_true, decide_eq_true_eq] at hcode
      simp only [hfc, Option.map_some, Option.some.injEq, Prod.mk.injEq] at fc
      refine ⟨k, tk, file, b, y, toy, target, 14, 16, hk, by rw [hrec.1, hname]; rfl, hfile, by rw [hpool.2.1]; exact lm1_eM.1, by rw [hpool.2.1]; exact lm1_eM.2.2, by simp [Vm.method?, hk, hb], hbc, ?_, by rw [← hcode.1.1.1.1.2.1]; exact fc.2, hcode.1.1.2, ?_, by rw [← hfl]; exact ff.1, by rw [← hsig]; exact ff.2, ht, htk, hg,
        ⟨k, hk, hres 17 _ (Lambda.resolvedOf_method lm1_eM.1 lm1_eM.2.1 ht htk lm1_eM.2.2 hg)⟩, ⟨k, hk, hres 14 _ (Lambda.resolvedOf_class lm1_eC.1 lm1_eC.2.2 lm1_eC.2.1 ht)⟩, fun i_ hi_ => absurd hi_ (Nat.not_lt_zero _), by rw [hty.1, hemp]; simp [lm1_ty]⟩
      · rw [← hcode.1.1.1.1.2.2]
        exact ByteArray.ext fc.1
      · simp [Method.locks, Method.isSynchronized, ← hfl, ff.1, hasFlag, Acc.synchronized]
theorem lm1_F {s : State} {args : Array Value} {cK : ClassId} (hts : ∀ w ∈ lw_all, w.before args s = true) (hK : lm_K lm1_S s cK) : ∀ vm', s.WarmedH vm' → lm_F vm' cK lm1_C 0 (fun i_ => 0 + 2 * i_) 17 yX1_lambda_dropGate_1 := by
  intro vm' hW
  obtain ⟨d, dk, h1, h2, h3, -⟩ := lm_K.warm (U := s.setVm vm') hW hK
  exact lm1_made h1 h2 h3 (lm_Obj hts vm' hW)
def lm2_S : Lambda.Shape := { iface := "RosehipCircuits$Change", name := "on", sam := ⟨[FieldType.object "RosehipCircuits$Circuit"], some FieldType.int⟩, captured := [FieldType.int, FieldType.int], kind := 6, implClass := "RosehipCircuits", implName := "lambda$setKind$2", implDesc := ⟨[FieldType.int, FieldType.int, FieldType.object "RosehipCircuits$Circuit"], some FieldType.int⟩, implItf := false, inst := ⟨[FieldType.object "RosehipCircuits$Circuit"], some FieldType.int⟩ }
def lm2_D : ClassFile := (lm2_S.file "RosehipCircuits").getD { minorVersion := 0, majorVersion := 0, constantPool := #[], accessFlags := 0, thisClass := 0, superClass := 0, interfaces := #[], fields := #[], methods := #[], attributes := #[] }
def lm2_M : Method := ((layoutMethods lm2_D).bind (·[1]?)).getD default
def lm2_Y : Array Field × Array FieldType × Array FieldType := (layoutFields lm2_D 0).getD (#[], #[], #[])
def lm2_C : ByteArray := ⟨#[42, 180, 0, 16, 42, 180, 0, 18, 43, 184, 0, 26, 172]⟩
theorem lm2_file : lm2_S.file "RosehipCircuits" = some lm2_D := by
  have h : (lm2_S.file "RosehipCircuits").isSome = true := by decide +kernel
  obtain ⟨x, hx⟩ := Option.isSome_iff_exists.mp h
  simp [lm2_D, hx]
theorem lm2_second : ∀ ms, layoutMethods lm2_D = some ms → ms[1]? = some lm2_M := by
  intro ms hms
  have h : ((layoutMethods lm2_D).bind (·[1]?)).isSome = true := by decide +kernel
  obtain ⟨x, hx⟩ := Option.isSome_iff_exists.mp h
  have hf : lm2_M = x := by simp [lm2_M, hx]
  rw [hms] at hx
  rw [hf]
  exact hx
theorem lm2_laid : layoutFields lm2_D 0 = some lm2_Y := by
  have h : (layoutFields lm2_D 0).isSome = true := by decide +kernel
  obtain ⟨x, hx⟩ := Option.isSome_iff_exists.mp h
  simp [lm2_Y, hx]
theorem lm2_fc : (lm2_M.code.map fun c => (c.code.data, c.maxLocals)) = some (lm2_C.data, 2) := by decide +kernel
theorem lm2_ff : (lm2_M.accessFlags, lm2_M.sig.returnType) = (0x0001, some FieldType.int) := by decide +kernel
theorem lm2_ty : lm2_Y.2.1.toList = List.replicate 2 FieldType.int := by decide +kernel
theorem lm2_eM : lm2_D.constantPool[26]? = some (.methodref 22 25) ∧ lm2_D.constantPool.className? 22 = some "RosehipCircuits" ∧ lm2_D.constantPool.nameAndType? 25 = some (yX1_lambda_setKind_2.name, yX1_lambda_setKind_2.desc) := by decide +kernel
theorem lm2_eC : lm2_D.constantPool[22]? = some (.class_ 21) ∧ lm2_D.constantPool.string? 21 = some "RosehipCircuits" ∧ 22 ≠ lm2_D.thisClass := by decide +kernel
theorem lm2_eF0 : lm2_D.constantPool[16]? = some (.fieldref 2 15) ∧ lm2_D.constantPool.nameAndType? 15 = some ("arg$1", "I") ∧ lm2_Y.1.findIdx? (·.name == "arg$1") = some 0 ∧ (lm2_Y.1[0]?).map (fun f => (f.isStatic, f.slot)) = some (false, 0) := by decide +kernel
theorem lm2_eF1 : lm2_D.constantPool[18]? = some (.fieldref 2 17) ∧ lm2_D.constantPool.nameAndType? 17 = some ("arg$2", "I") ∧ lm2_Y.1.findIdx? (·.name == "arg$2") = some 1 ∧ (lm2_Y.1[1]?).map (fun f => (f.isStatic, f.slot)) = some (false, 1) := by decide +kernel
theorem lm2_d0 : decode lm2_C 0 = .ok (.aload_n 0, 1) := by decide +kernel
theorem lm2_d1 : decode lm2_C 1 = .ok (.getfield 16, 3) := by decide +kernel
theorem lm2_d4 : decode lm2_C 4 = .ok (.aload_n 0, 1) := by decide +kernel
theorem lm2_d5 : decode lm2_C 5 = .ok (.getfield 18, 3) := by decide +kernel
theorem lm2_d8 : decode lm2_C 8 = .ok (.aload_n 1, 1) := by decide +kernel
theorem lm2_d9 : decode lm2_C 9 = .ok (.invokestatic 26, 3) := by decide +kernel
theorem lm2_d12 : decode lm2_C 12 = .ok (.ireturn, 1) := by decide +kernel
theorem lm2_made {vm : Vm} {d c : ClassId} {dk : Class} (hd : vm.classes[d]? = some dk) (hname : dk.name = "RosehipCircuits") (h : Lambda.isMade lm_set vm d lm2_S c = true)
    (hO : ∀ o ok, vm.findClass "java/lang/Object" = some o → vm.classes[o]? = some ok → ok.instanceTypes.size = 0) : lm_F vm c lm2_C 2 (fun i_ => 16 + 2 * i_) 26 yX1_lambda_setKind_2 := by
  obtain ⟨dk', k, ok, tk, file, cf, object, iface, toy, lay, methods, target, found, hd', hk, hfile, hcf, hobj, -, hok, hlay, hms, ht, htk, hg, -, hrec, -, -, -, hitf, hpool, hmeth, hfields, hty, hres, -⟩ := Lambda.isMade_spec h
  cases hd.symm.trans hd'
  rw [hname, lm2_file] at hcf
  cases hcf
  have hO0 := hO object ok hobj hok
  rw [hO0, lm2_laid] at hlay
  cases hlay
  obtain ⟨b, hb, hsame⟩ := hmeth 1 lm2_M (lm2_second methods hms)
  simp only [Lambda.sameMethod, Bool.and_eq_true, decide_eq_true_eq] at hsame
  obtain ⟨⟨hn, -, hsig, hfl⟩, hcode⟩ := hsame
  have fc := lm2_fc
  have ff := lm2_ff
  simp only [Prod.mk.injEq] at ff
  obtain ⟨g0, hg0, hp0⟩ := Option.map_eq_some_iff.mp lm2_eF0.2.2.2
  simp only [Prod.mk.injEq] at hp0
  obtain ⟨g1, hg1, hp1⟩ := Option.map_eq_some_iff.mp lm2_eF1.2.2.2
  simp only [Prod.mk.injEq] at hp1
  have hemp : ok.instanceTypes = #[] := Array.eq_empty_of_size_eq_zero hO0
  cases hfc : lm2_M.code with
  | none => rw [hfc] at fc; cases fc
  | some x =>
    cases hbc : b.code with
    | none => simp [hfc, hbc] at hcode
    | some y =>
      simp only [hfc, hbc, Bool.and_eq_true, decide_eq_true_eq] at hcode
      simp only [hfc, Option.map_some, Option.some.injEq, Prod.mk.injEq] at fc
      refine ⟨k, tk, file, b, y, toy, target, 22, 25, hk, by rw [hrec.1, hname]; rfl, hfile, by rw [hpool.2.1]; exact lm2_eM.1, by rw [hpool.2.1]; exact lm2_eM.2.2, by simp [Vm.method?, hk, hb], hbc, ?_, by rw [← hcode.1.1.1.1.2.1]; exact fc.2, hcode.1.1.2, ?_, by rw [← hfl]; exact ff.1, by rw [← hsig]; exact ff.2, ht, htk, hg,
        ⟨k, hk, hres 26 _ (Lambda.resolvedOf_method lm2_eM.1 lm2_eM.2.1 ht htk lm2_eM.2.2 hg)⟩, ⟨k, hk, hres 22 _ (Lambda.resolvedOf_class lm2_eC.1 lm2_eC.2.2 lm2_eC.2.1 ht)⟩, fun i_ hi_ => by
        rcases (show i_ = 0 ∨ i_ = 1 by omega) with rfl | rfl
        · exact ⟨g0, ⟨k, 0, k, hk, hres 16 _ (Lambda.resolvedOf_field lm2_eF0.1 lm2_eF0.2.1 lm2_eF0.2.2.1), hk, hfields 0 _ hg0⟩, hp0.1, hp0.2⟩
        · exact ⟨g1, ⟨k, 1, k, hk, hres 18 _ (Lambda.resolvedOf_field lm2_eF1.1 lm2_eF1.2.1 lm2_eF1.2.2.1), hk, hfields 1 _ hg1⟩, hp1.1, hp1.2⟩, by rw [hty.1, hemp]; simp [lm2_ty]⟩
      · rw [← hcode.1.1.1.1.2.2]
        exact ByteArray.ext fc.1
      · simp [Method.locks, Method.isSynchronized, ← hfl, ff.1, hasFlag, Acc.synchronized]
theorem lm2_F {s : State} {args : Array Value} {cK : ClassId} (hts : ∀ w ∈ lw_all, w.before args s = true) (hK : lm_K lm2_S s cK) : ∀ vm', s.WarmedH vm' → lm_F vm' cK lm2_C 2 (fun i_ => 16 + 2 * i_) 26 yX1_lambda_setKind_2 := by
  intro vm' hW
  obtain ⟨d, dk, h1, h2, h3, -⟩ := lm_K.warm (U := s.setVm vm') hW hK
  exact lm2_made h1 h2 h3 (lm_Obj hts vm' hW)
def lm3_S : Lambda.Shape := { iface := "RosehipCircuits$Change", name := "on", sam := ⟨[FieldType.object "RosehipCircuits$Circuit"], some FieldType.int⟩, captured := [FieldType.int, FieldType.int, FieldType.int], kind := 6, implClass := "RosehipCircuits", implName := "lambda$setSource$3", implDesc := ⟨[FieldType.int, FieldType.int, FieldType.int, FieldType.object "RosehipCircuits$Circuit"], some FieldType.int⟩, implItf := false, inst := ⟨[FieldType.object "RosehipCircuits$Circuit"], some FieldType.int⟩ }
def lm3_D : ClassFile := (lm3_S.file "RosehipCircuits").getD { minorVersion := 0, majorVersion := 0, constantPool := #[], accessFlags := 0, thisClass := 0, superClass := 0, interfaces := #[], fields := #[], methods := #[], attributes := #[] }
def lm3_M : Method := ((layoutMethods lm3_D).bind (·[1]?)).getD default
def lm3_Y : Array Field × Array FieldType × Array FieldType := (layoutFields lm3_D 0).getD (#[], #[], #[])
def lm3_C : ByteArray := ⟨#[42, 180, 0, 17, 42, 180, 0, 19, 42, 180, 0, 21, 43, 184, 0, 29, 172]⟩
theorem lm3_file : lm3_S.file "RosehipCircuits" = some lm3_D := by
  have h : (lm3_S.file "RosehipCircuits").isSome = true := by decide +kernel
  obtain ⟨x, hx⟩ := Option.isSome_iff_exists.mp h
  simp [lm3_D, hx]
theorem lm3_second : ∀ ms, layoutMethods lm3_D = some ms → ms[1]? = some lm3_M := by
  intro ms hms
  have h : ((layoutMethods lm3_D).bind (·[1]?)).isSome = true := by decide +kernel
  obtain ⟨x, hx⟩ := Option.isSome_iff_exists.mp h
  have hf : lm3_M = x := by simp [lm3_M, hx]
  rw [hms] at hx
  rw [hf]
  exact hx
theorem lm3_laid : layoutFields lm3_D 0 = some lm3_Y := by
  have h : (layoutFields lm3_D 0).isSome = true := by decide +kernel
  obtain ⟨x, hx⟩ := Option.isSome_iff_exists.mp h
  simp [lm3_Y, hx]
theorem lm3_fc : (lm3_M.code.map fun c => (c.code.data, c.maxLocals)) = some (lm3_C.data, 2) := by decide +kernel
theorem lm3_ff : (lm3_M.accessFlags, lm3_M.sig.returnType) = (0x0001, some FieldType.int) := by decide +kernel
theorem lm3_ty : lm3_Y.2.1.toList = List.replicate 3 FieldType.int := by decide +kernel
theorem lm3_eM : lm3_D.constantPool[29]? = some (.methodref 25 28) ∧ lm3_D.constantPool.className? 25 = some "RosehipCircuits" ∧ lm3_D.constantPool.nameAndType? 28 = some (yX1_lambda_setSource_3.name, yX1_lambda_setSource_3.desc) := by decide +kernel
theorem lm3_eC : lm3_D.constantPool[25]? = some (.class_ 24) ∧ lm3_D.constantPool.string? 24 = some "RosehipCircuits" ∧ 25 ≠ lm3_D.thisClass := by decide +kernel
theorem lm3_eF0 : lm3_D.constantPool[17]? = some (.fieldref 2 16) ∧ lm3_D.constantPool.nameAndType? 16 = some ("arg$1", "I") ∧ lm3_Y.1.findIdx? (·.name == "arg$1") = some 0 ∧ (lm3_Y.1[0]?).map (fun f => (f.isStatic, f.slot)) = some (false, 0) := by decide +kernel
theorem lm3_eF1 : lm3_D.constantPool[19]? = some (.fieldref 2 18) ∧ lm3_D.constantPool.nameAndType? 18 = some ("arg$2", "I") ∧ lm3_Y.1.findIdx? (·.name == "arg$2") = some 1 ∧ (lm3_Y.1[1]?).map (fun f => (f.isStatic, f.slot)) = some (false, 1) := by decide +kernel
theorem lm3_eF2 : lm3_D.constantPool[21]? = some (.fieldref 2 20) ∧ lm3_D.constantPool.nameAndType? 20 = some ("arg$3", "I") ∧ lm3_Y.1.findIdx? (·.name == "arg$3") = some 2 ∧ (lm3_Y.1[2]?).map (fun f => (f.isStatic, f.slot)) = some (false, 2) := by decide +kernel
theorem lm3_d0 : decode lm3_C 0 = .ok (.aload_n 0, 1) := by decide +kernel
theorem lm3_d1 : decode lm3_C 1 = .ok (.getfield 17, 3) := by decide +kernel
theorem lm3_d4 : decode lm3_C 4 = .ok (.aload_n 0, 1) := by decide +kernel
theorem lm3_d5 : decode lm3_C 5 = .ok (.getfield 19, 3) := by decide +kernel
theorem lm3_d8 : decode lm3_C 8 = .ok (.aload_n 0, 1) := by decide +kernel
theorem lm3_d9 : decode lm3_C 9 = .ok (.getfield 21, 3) := by decide +kernel
theorem lm3_d12 : decode lm3_C 12 = .ok (.aload_n 1, 1) := by decide +kernel
theorem lm3_d13 : decode lm3_C 13 = .ok (.invokestatic 29, 3) := by decide +kernel
theorem lm3_d16 : decode lm3_C 16 = .ok (.ireturn, 1) := by decide +kernel
theorem lm3_made {vm : Vm} {d c : ClassId} {dk : Class} (hd : vm.classes[d]? = some dk) (hname : dk.name = "RosehipCircuits") (h : Lambda.isMade lm_set vm d lm3_S c = true)
    (hO : ∀ o ok, vm.findClass "java/lang/Object" = some o → vm.classes[o]? = some ok → ok.instanceTypes.size = 0) : lm_F vm c lm3_C 3 (fun i_ => 17 + 2 * i_) 29 yX1_lambda_setSource_3 := by
  obtain ⟨dk', k, ok, tk, file, cf, object, iface, toy, lay, methods, target, found, hd', hk, hfile, hcf, hobj, -, hok, hlay, hms, ht, htk, hg, -, hrec, -, -, -, hitf, hpool, hmeth, hfields, hty, hres, -⟩ := Lambda.isMade_spec h
  cases hd.symm.trans hd'
  rw [hname, lm3_file] at hcf
  cases hcf
  have hO0 := hO object ok hobj hok
  rw [hO0, lm3_laid] at hlay
  cases hlay
  obtain ⟨b, hb, hsame⟩ := hmeth 1 lm3_M (lm3_second methods hms)
  simp only [Lambda.sameMethod, Bool.and_eq_true, decide_eq_true_eq] at hsame
  obtain ⟨⟨hn, -, hsig, hfl⟩, hcode⟩ := hsame
  have fc := lm3_fc
  have ff := lm3_ff
  simp only [Prod.mk.injEq] at ff
  obtain ⟨g0, hg0, hp0⟩ := Option.map_eq_some_iff.mp lm3_eF0.2.2.2
  simp only [Prod.mk.injEq] at hp0
  obtain ⟨g1, hg1, hp1⟩ := Option.map_eq_some_iff.mp lm3_eF1.2.2.2
  simp only [Prod.mk.injEq] at hp1
  obtain ⟨g2, hg2, hp2⟩ := Option.map_eq_some_iff.mp lm3_eF2.2.2.2
  simp only [Prod.mk.injEq] at hp2
  have hemp : ok.instanceTypes = #[] := Array.eq_empty_of_size_eq_zero hO0
  cases hfc : lm3_M.code with
  | none => rw [hfc] at fc; cases fc
  | some x =>
    cases hbc : b.code with
    | none => simp [hfc, hbc] at hcode
    | some y =>
      simp only [hfc, hbc, Bool.and_eq_true, decide_eq_true_eq] at hcode
      simp only [hfc, Option.map_some, Option.some.injEq, Prod.mk.injEq] at fc
      refine ⟨k, tk, file, b, y, toy, target, 25, 28, hk, by rw [hrec.1, hname]; rfl, hfile, by rw [hpool.2.1]; exact lm3_eM.1, by rw [hpool.2.1]; exact lm3_eM.2.2, by simp [Vm.method?, hk, hb], hbc, ?_, by rw [← hcode.1.1.1.1.2.1]; exact fc.2, hcode.1.1.2, ?_, by rw [← hfl]; exact ff.1, by rw [← hsig]; exact ff.2, ht, htk, hg,
        ⟨k, hk, hres 29 _ (Lambda.resolvedOf_method lm3_eM.1 lm3_eM.2.1 ht htk lm3_eM.2.2 hg)⟩, ⟨k, hk, hres 25 _ (Lambda.resolvedOf_class lm3_eC.1 lm3_eC.2.2 lm3_eC.2.1 ht)⟩, fun i_ hi_ => by
        rcases (show i_ = 0 ∨ i_ = 1 ∨ i_ = 2 by omega) with rfl | rfl | rfl
        · exact ⟨g0, ⟨k, 0, k, hk, hres 17 _ (Lambda.resolvedOf_field lm3_eF0.1 lm3_eF0.2.1 lm3_eF0.2.2.1), hk, hfields 0 _ hg0⟩, hp0.1, hp0.2⟩
        · exact ⟨g1, ⟨k, 1, k, hk, hres 19 _ (Lambda.resolvedOf_field lm3_eF1.1 lm3_eF1.2.1 lm3_eF1.2.2.1), hk, hfields 1 _ hg1⟩, hp1.1, hp1.2⟩
        · exact ⟨g2, ⟨k, 2, k, hk, hres 21 _ (Lambda.resolvedOf_field lm3_eF2.1 lm3_eF2.2.1 lm3_eF2.2.2.1), hk, hfields 2 _ hg2⟩, hp2.1, hp2.2⟩, by rw [hty.1, hemp]; simp [lm3_ty]⟩
      · rw [← hcode.1.1.1.1.2.2]
        exact ByteArray.ext fc.1
      · simp [Method.locks, Method.isSynchronized, ← hfl, ff.1, hasFlag, Acc.synchronized]
theorem lm3_F {s : State} {args : Array Value} {cK : ClassId} (hts : ∀ w ∈ lw_all, w.before args s = true) (hK : lm_K lm3_S s cK) : ∀ vm', s.WarmedH vm' → lm_F vm' cK lm3_C 3 (fun i_ => 17 + 2 * i_) 29 yX1_lambda_setSource_3 := by
  intro vm' hW
  obtain ⟨d, dk, h1, h2, h3, -⟩ := lm_K.warm (U := s.setVm vm') hW hK
  exact lm3_made h1 h2 h3 (lm_Obj hts vm' hW)
def lm4_S : Lambda.Shape := { iface := "RosehipCircuits$Change", name := "on", sam := ⟨[FieldType.object "RosehipCircuits$Circuit"], some FieldType.int⟩, captured := [FieldType.int], kind := 6, implClass := "RosehipCircuits", implName := "lambda$turnOutput$4", implDesc := ⟨[FieldType.int, FieldType.object "RosehipCircuits$Circuit"], some FieldType.int⟩, implItf := false, inst := ⟨[FieldType.object "RosehipCircuits$Circuit"], some FieldType.int⟩ }
def lm4_D : ClassFile := (lm4_S.file "RosehipCircuits").getD { minorVersion := 0, majorVersion := 0, constantPool := #[], accessFlags := 0, thisClass := 0, superClass := 0, interfaces := #[], fields := #[], methods := #[], attributes := #[] }
def lm4_M : Method := ((layoutMethods lm4_D).bind (·[1]?)).getD default
def lm4_Y : Array Field × Array FieldType × Array FieldType := (layoutFields lm4_D 0).getD (#[], #[], #[])
def lm4_C : ByteArray := ⟨#[42, 180, 0, 15, 43, 184, 0, 23, 172]⟩
theorem lm4_file : lm4_S.file "RosehipCircuits" = some lm4_D := by
  have h : (lm4_S.file "RosehipCircuits").isSome = true := by decide +kernel
  obtain ⟨x, hx⟩ := Option.isSome_iff_exists.mp h
  simp [lm4_D, hx]
theorem lm4_second : ∀ ms, layoutMethods lm4_D = some ms → ms[1]? = some lm4_M := by
  intro ms hms
  have h : ((layoutMethods lm4_D).bind (·[1]?)).isSome = true := by decide +kernel
  obtain ⟨x, hx⟩ := Option.isSome_iff_exists.mp h
  have hf : lm4_M = x := by simp [lm4_M, hx]
  rw [hms] at hx
  rw [hf]
  exact hx
theorem lm4_laid : layoutFields lm4_D 0 = some lm4_Y := by
  have h : (layoutFields lm4_D 0).isSome = true := by decide +kernel
  obtain ⟨x, hx⟩ := Option.isSome_iff_exists.mp h
  simp [lm4_Y, hx]
theorem lm4_fc : (lm4_M.code.map fun c => (c.code.data, c.maxLocals)) = some (lm4_C.data, 2) := by decide +kernel
theorem lm4_ff : (lm4_M.accessFlags, lm4_M.sig.returnType) = (0x0001, some FieldType.int) := by decide +kernel
theorem lm4_ty : lm4_Y.2.1.toList = List.replicate 1 FieldType.int := by decide +kernel
theorem lm4_eM : lm4_D.constantPool[23]? = some (.methodref 19 22) ∧ lm4_D.constantPool.className? 19 = some "RosehipCircuits" ∧ lm4_D.constantPool.nameAndType? 22 = some (yX1_lambda_turnOutput_4.name, yX1_lambda_turnOutput_4.desc) := by decide +kernel
theorem lm4_eC : lm4_D.constantPool[19]? = some (.class_ 18) ∧ lm4_D.constantPool.string? 18 = some "RosehipCircuits" ∧ 19 ≠ lm4_D.thisClass := by decide +kernel
theorem lm4_eF0 : lm4_D.constantPool[15]? = some (.fieldref 2 14) ∧ lm4_D.constantPool.nameAndType? 14 = some ("arg$1", "I") ∧ lm4_Y.1.findIdx? (·.name == "arg$1") = some 0 ∧ (lm4_Y.1[0]?).map (fun f => (f.isStatic, f.slot)) = some (false, 0) := by decide +kernel
theorem lm4_d0 : decode lm4_C 0 = .ok (.aload_n 0, 1) := by decide +kernel
theorem lm4_d1 : decode lm4_C 1 = .ok (.getfield 15, 3) := by decide +kernel
theorem lm4_d4 : decode lm4_C 4 = .ok (.aload_n 1, 1) := by decide +kernel
theorem lm4_d5 : decode lm4_C 5 = .ok (.invokestatic 23, 3) := by decide +kernel
theorem lm4_d8 : decode lm4_C 8 = .ok (.ireturn, 1) := by decide +kernel
theorem lm4_made {vm : Vm} {d c : ClassId} {dk : Class} (hd : vm.classes[d]? = some dk) (hname : dk.name = "RosehipCircuits") (h : Lambda.isMade lm_set vm d lm4_S c = true)
    (hO : ∀ o ok, vm.findClass "java/lang/Object" = some o → vm.classes[o]? = some ok → ok.instanceTypes.size = 0) : lm_F vm c lm4_C 1 (fun i_ => 15 + 2 * i_) 23 yX1_lambda_turnOutput_4 := by
  obtain ⟨dk', k, ok, tk, file, cf, object, iface, toy, lay, methods, target, found, hd', hk, hfile, hcf, hobj, -, hok, hlay, hms, ht, htk, hg, -, hrec, -, -, -, hitf, hpool, hmeth, hfields, hty, hres, -⟩ := Lambda.isMade_spec h
  cases hd.symm.trans hd'
  rw [hname, lm4_file] at hcf
  cases hcf
  have hO0 := hO object ok hobj hok
  rw [hO0, lm4_laid] at hlay
  cases hlay
  obtain ⟨b, hb, hsame⟩ := hmeth 1 lm4_M (lm4_second methods hms)
  simp only [Lambda.sameMethod, Bool.and_eq_true, decide_eq_true_eq] at hsame
  obtain ⟨⟨hn, -, hsig, hfl⟩, hcode⟩ := hsame
  have fc := lm4_fc
  have ff := lm4_ff
  simp only [Prod.mk.injEq] at ff
  obtain ⟨g0, hg0, hp0⟩ := Option.map_eq_some_iff.mp lm4_eF0.2.2.2
  simp only [Prod.mk.injEq] at hp0
  have hemp : ok.instanceTypes = #[] := Array.eq_empty_of_size_eq_zero hO0
  cases hfc : lm4_M.code with
  | none => rw [hfc] at fc; cases fc
  | some x =>
    cases hbc : b.code with
    | none => simp [hfc, hbc] at hcode
    | some y =>
      simp only [hfc, hbc, Bool.and_eq_true, decide_eq_true_eq] at hcode
      simp only [hfc, Option.map_some, Option.some.injEq, Prod.mk.injEq] at fc
      refine ⟨k, tk, file, b, y, toy, target, 19, 22, hk, by rw [hrec.1, hname]; rfl, hfile, by rw [hpool.2.1]; exact lm4_eM.1, by rw [hpool.2.1]; exact lm4_eM.2.2, by simp [Vm.method?, hk, hb], hbc, ?_, by rw [← hcode.1.1.1.1.2.1]; exact fc.2, hcode.1.1.2, ?_, by rw [← hfl]; exact ff.1, by rw [← hsig]; exact ff.2, ht, htk, hg,
        ⟨k, hk, hres 23 _ (Lambda.resolvedOf_method lm4_eM.1 lm4_eM.2.1 ht htk lm4_eM.2.2 hg)⟩, ⟨k, hk, hres 19 _ (Lambda.resolvedOf_class lm4_eC.1 lm4_eC.2.2 lm4_eC.2.1 ht)⟩, fun i_ hi_ => by
        rcases (show i_ = 0 by omega) with rfl
        · exact ⟨g0, ⟨k, 0, k, hk, hres 15 _ (Lambda.resolvedOf_field lm4_eF0.1 lm4_eF0.2.1 lm4_eF0.2.2.1), hk, hfields 0 _ hg0⟩, hp0.1, hp0.2⟩, by rw [hty.1, hemp]; simp [lm4_ty]⟩
      · rw [← hcode.1.1.1.1.2.2]
        exact ByteArray.ext fc.1
      · simp [Method.locks, Method.isSynchronized, ← hfl, ff.1, hasFlag, Acc.synchronized]
theorem lm4_F {s : State} {args : Array Value} {cK : ClassId} (hts : ∀ w ∈ lw_all, w.before args s = true) (hK : lm_K lm4_S s cK) : ∀ vm', s.WarmedH vm' → lm_F vm' cK lm4_C 1 (fun i_ => 15 + 2 * i_) 23 yX1_lambda_turnOutput_4 := by
  intro vm' hW
  obtain ⟨d, dk, h1, h2, h3, -⟩ := lm_K.warm (U := s.setVm vm') hW hK
  exact lm4_made h1 h2 h3 (lm_Obj hts vm' hW)
def lm5_S : Lambda.Shape := { iface := "RosehipCircuits$Change", name := "on", sam := ⟨[FieldType.object "RosehipCircuits$Circuit"], some FieldType.int⟩, captured := [FieldType.int], kind := 6, implClass := "RosehipCircuits", implName := "lambda$turnBox$5", implDesc := ⟨[FieldType.int, FieldType.object "RosehipCircuits$Circuit"], some FieldType.int⟩, implItf := false, inst := ⟨[FieldType.object "RosehipCircuits$Circuit"], some FieldType.int⟩ }
def lm5_D : ClassFile := (lm5_S.file "RosehipCircuits").getD { minorVersion := 0, majorVersion := 0, constantPool := #[], accessFlags := 0, thisClass := 0, superClass := 0, interfaces := #[], fields := #[], methods := #[], attributes := #[] }
def lm5_M : Method := ((layoutMethods lm5_D).bind (·[1]?)).getD default
def lm5_Y : Array Field × Array FieldType × Array FieldType := (layoutFields lm5_D 0).getD (#[], #[], #[])
def lm5_C : ByteArray := ⟨#[42, 180, 0, 15, 43, 184, 0, 23, 172]⟩
theorem lm5_file : lm5_S.file "RosehipCircuits" = some lm5_D := by
  have h : (lm5_S.file "RosehipCircuits").isSome = true := by decide +kernel
  obtain ⟨x, hx⟩ := Option.isSome_iff_exists.mp h
  simp [lm5_D, hx]
theorem lm5_second : ∀ ms, layoutMethods lm5_D = some ms → ms[1]? = some lm5_M := by
  intro ms hms
  have h : ((layoutMethods lm5_D).bind (·[1]?)).isSome = true := by decide +kernel
  obtain ⟨x, hx⟩ := Option.isSome_iff_exists.mp h
  have hf : lm5_M = x := by simp [lm5_M, hx]
  rw [hms] at hx
  rw [hf]
  exact hx
theorem lm5_laid : layoutFields lm5_D 0 = some lm5_Y := by
  have h : (layoutFields lm5_D 0).isSome = true := by decide +kernel
  obtain ⟨x, hx⟩ := Option.isSome_iff_exists.mp h
  simp [lm5_Y, hx]
theorem lm5_fc : (lm5_M.code.map fun c => (c.code.data, c.maxLocals)) = some (lm5_C.data, 2) := by decide +kernel
theorem lm5_ff : (lm5_M.accessFlags, lm5_M.sig.returnType) = (0x0001, some FieldType.int) := by decide +kernel
theorem lm5_ty : lm5_Y.2.1.toList = List.replicate 1 FieldType.int := by decide +kernel
theorem lm5_eM : lm5_D.constantPool[23]? = some (.methodref 19 22) ∧ lm5_D.constantPool.className? 19 = some "RosehipCircuits" ∧ lm5_D.constantPool.nameAndType? 22 = some (yX1_lambda_turnBox_5.name, yX1_lambda_turnBox_5.desc) := by decide +kernel
theorem lm5_eC : lm5_D.constantPool[19]? = some (.class_ 18) ∧ lm5_D.constantPool.string? 18 = some "RosehipCircuits" ∧ 19 ≠ lm5_D.thisClass := by decide +kernel
theorem lm5_eF0 : lm5_D.constantPool[15]? = some (.fieldref 2 14) ∧ lm5_D.constantPool.nameAndType? 14 = some ("arg$1", "I") ∧ lm5_Y.1.findIdx? (·.name == "arg$1") = some 0 ∧ (lm5_Y.1[0]?).map (fun f => (f.isStatic, f.slot)) = some (false, 0) := by decide +kernel
theorem lm5_d0 : decode lm5_C 0 = .ok (.aload_n 0, 1) := by decide +kernel
theorem lm5_d1 : decode lm5_C 1 = .ok (.getfield 15, 3) := by decide +kernel
theorem lm5_d4 : decode lm5_C 4 = .ok (.aload_n 1, 1) := by decide +kernel
theorem lm5_d5 : decode lm5_C 5 = .ok (.invokestatic 23, 3) := by decide +kernel
theorem lm5_d8 : decode lm5_C 8 = .ok (.ireturn, 1) := by decide +kernel
theorem lm5_made {vm : Vm} {d c : ClassId} {dk : Class} (hd : vm.classes[d]? = some dk) (hname : dk.name = "RosehipCircuits") (h : Lambda.isMade lm_set vm d lm5_S c = true)
    (hO : ∀ o ok, vm.findClass "java/lang/Object" = some o → vm.classes[o]? = some ok → ok.instanceTypes.size = 0) : lm_F vm c lm5_C 1 (fun i_ => 15 + 2 * i_) 23 yX1_lambda_turnBox_5 := by
  obtain ⟨dk', k, ok, tk, file, cf, object, iface, toy, lay, methods, target, found, hd', hk, hfile, hcf, hobj, -, hok, hlay, hms, ht, htk, hg, -, hrec, -, -, -, hitf, hpool, hmeth, hfields, hty, hres, -⟩ := Lambda.isMade_spec h
  cases hd.symm.trans hd'
  rw [hname, lm5_file] at hcf
  cases hcf
  have hO0 := hO object ok hobj hok
  rw [hO0, lm5_laid] at hlay
  cases hlay
  obtain ⟨b, hb, hsame⟩ := hmeth 1 lm5_M (lm5_second methods hms)
  simp only [Lambda.sameMethod, Bool.and_eq_true, decide_eq_true_eq] at hsame
  obtain ⟨⟨hn, -, hsig, hfl⟩, hcode⟩ := hsame
  have fc := lm5_fc
  have ff := lm5_ff
  simp only [Prod.mk.injEq] at ff
  obtain ⟨g0, hg0, hp0⟩ := Option.map_eq_some_iff.mp lm5_eF0.2.2.2
  simp only [Prod.mk.injEq] at hp0
  have hemp : ok.instanceTypes = #[] := Array.eq_empty_of_size_eq_zero hO0
  cases hfc : lm5_M.code with
  | none => rw [hfc] at fc; cases fc
  | some x =>
    cases hbc : b.code with
    | none => simp [hfc, hbc] at hcode
    | some y =>
      simp only [hfc, hbc, Bool.and_eq_true, decide_eq_true_eq] at hcode
      simp only [hfc, Option.map_some, Option.some.injEq, Prod.mk.injEq] at fc
      refine ⟨k, tk, file, b, y, toy, target, 19, 22, hk, by rw [hrec.1, hname]; rfl, hfile, by rw [hpool.2.1]; exact lm5_eM.1, by rw [hpool.2.1]; exact lm5_eM.2.2, by simp [Vm.method?, hk, hb], hbc, ?_, by rw [← hcode.1.1.1.1.2.1]; exact fc.2, hcode.1.1.2, ?_, by rw [← hfl]; exact ff.1, by rw [← hsig]; exact ff.2, ht, htk, hg,
        ⟨k, hk, hres 23 _ (Lambda.resolvedOf_method lm5_eM.1 lm5_eM.2.1 ht htk lm5_eM.2.2 hg)⟩, ⟨k, hk, hres 19 _ (Lambda.resolvedOf_class lm5_eC.1 lm5_eC.2.2 lm5_eC.2.1 ht)⟩, fun i_ hi_ => by
        rcases (show i_ = 0 by omega) with rfl
        · exact ⟨g0, ⟨k, 0, k, hk, hres 15 _ (Lambda.resolvedOf_field lm5_eF0.1 lm5_eF0.2.1 lm5_eF0.2.2.1), hk, hfields 0 _ hg0⟩, hp0.1, hp0.2⟩, by rw [hty.1, hemp]; simp [lm5_ty]⟩
      · rw [← hcode.1.1.1.1.2.2]
        exact ByteArray.ext fc.1
      · simp [Method.locks, Method.isSynchronized, ← hfl, ff.1, hasFlag, Acc.synchronized]
theorem lm5_F {s : State} {args : Array Value} {cK : ClassId} (hts : ∀ w ∈ lw_all, w.before args s = true) (hK : lm_K lm5_S s cK) : ∀ vm', s.WarmedH vm' → lm_F vm' cK lm5_C 1 (fun i_ => 15 + 2 * i_) 23 yX1_lambda_turnBox_5 := by
  intro vm' hW
  obtain ⟨d, dk, h1, h2, h3, -⟩ := lm_K.warm (U := s.setVm vm') hW hK
  exact lm5_made h1 h2 h3 (lm_Obj hts vm' hW)
