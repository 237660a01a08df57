/-! RosehipCircuits -/
set_option maxRecDepth 100000
def RX1 : String := "RosehipCircuits"
def TX1 : u_T := fun k => match k with
  | 0 => ("RosehipCircuits", "tables", "[J", true)
  | 1 => ("RosehipCircuits", "values", "[I", true)
  | 2 => ("RosehipCircuits", "faulty", "[J", true)
  | 3 => ("RosehipCircuits", "counts", "[I", true)
  | 4 => ("RosehipCircuits", "answers", "[I", true)
  | 5 => ("RosehipCircuits", "shown", "[J", true)
  | 6 => ("RosehipCircuits", "shownBy", "[J", true)
  | 7 => ("RosehipCircuits", "circuit", "LRosehipCircuits$Circuit;", false)
  | 8 => ("RosehipCircuits", "snapshot", "LRosehipCircuits$Circuit;", false)
  | 9 => ("RosehipCircuits", "saved", "Ljava/util/ArrayDeque;", true)
  | _ => ("RosehipCircuits", "text", "Ljava/lang/StringBuilder;", true)
def tyX1 : Nat → FieldType := fun k => match k with
  | 0 => .array .long
  | 1 => .array .int
  | 2 => .array .long
  | 3 => .array .int
  | 4 => .array .int
  | 5 => .array .long
  | 6 => .array .long
  | 7 => .object "RosehipCircuits$Circuit"
  | 8 => .object "RosehipCircuits$Circuit"
  | 9 => .object "java/util/ArrayDeque"
  | _ => .object "java/lang/StringBuilder"
abbrev wsX10 : List Cond := u_ws RX1 TX1 11
theorem nmX1 : ∀ a, a < 11 → ∀ b, b < 11 → a ≠ b → (TX1 a).2.1 ≠ (TX1 b).2.1 := by decide +kernel
theorem tyX1_ok : ∀ k, k < 11 → parseFieldDescriptor (TX1 k).2.2.1 = some (tyX1 k) := by decide +kernel
abbrev cX1_init : ByteArray := prog_1_method_34_code
def yX1_init : MethodName := ⟨RX1, "<init>", "()V"⟩
def dkwX1_init_4 : List UInt8 := [181, 0, 203, 177]
abbrev dktX1_init_4 : List UInt8 := dkwX1_init_4 ++ []
def dkwX1_init_3 : List UInt8 := [181, 0, 23, 42, 187, 0, 193, 89, 183, 0, 195, 181, 0, 196, 42, 187, 0, 200, 89, 183, 0, 202]
abbrev dktX1_init_3 : List UInt8 := dkwX1_init_3 ++ dktX1_init_4
def dkwX1_init_2 : List UInt8 := [16, 36, 188, 11, 181, 0, 119, 42, 16, 64, 188, 11, 181, 0, 113, 42, 187, 0, 28, 89, 183, 0, 192]
abbrev dktX1_init_2 : List UInt8 := dkwX1_init_2 ++ dktX1_init_3
def dkwX1_init_1 : List UInt8 := [188, 11, 181, 0, 110, 42, 17, 4, 0, 188, 10, 181, 0, 177, 42, 16, 64, 188, 10, 181, 0, 79, 42]
abbrev dktX1_init_1 : List UInt8 := dkwX1_init_1 ++ dktX1_init_2
def dkwX1_init_0 : List UInt8 := [42, 183, 0, 188, 42, 16, 18, 188, 11, 181, 0, 47, 42, 16, 18, 188, 10, 181, 0, 89, 42, 16, 36]
abbrev dktX1_init_0 : List UInt8 := dkwX1_init_0 ++ dktX1_init_1
theorem dksX1_init_0 : cX1_init.data.toList.drop 0 = dktX1_init_0 := by decide +kernel
theorem dksX1_init_1 : cX1_init.data.toList.drop 23 = dktX1_init_1 := dk_seg dksX1_init_0 23 rfl rfl
theorem dksX1_init_2 : cX1_init.data.toList.drop 46 = dktX1_init_2 := dk_seg dksX1_init_1 23 rfl rfl
theorem dksX1_init_3 : cX1_init.data.toList.drop 69 = dktX1_init_3 := dk_seg dksX1_init_2 23 rfl rfl
theorem dksX1_init_4 : cX1_init.data.toList.drop 91 = dktX1_init_4 := dk_seg dksX1_init_3 22 rfl rfl
theorem dX1_init_0 : decode cX1_init 0 = .ok (.aload_n 0, 1) := dk_42 (dk_at dksX1_init_0 0 rfl rfl)
theorem dX1_init_1 : decode cX1_init 1 = .ok (.invokespecial 188, 3) := dk_183 0 188 (dk_at dksX1_init_0 1 rfl rfl)
theorem dX1_init_4 : decode cX1_init 4 = .ok (.aload_n 0, 1) := dk_42 (dk_at dksX1_init_0 4 rfl rfl)
theorem dX1_init_5 : decode cX1_init 5 = .ok (.bipush 18, 2) := dk_16 18 (dk_at dksX1_init_0 5 rfl rfl)
theorem dX1_init_7 : decode cX1_init 7 = .ok (.newarray .long, 2) := dk_188_11 (dk_at dksX1_init_0 7 rfl rfl)
theorem dX1_init_9 : decode cX1_init 9 = .ok (.putfield 47, 3) := dk_181 0 47 (dk_at dksX1_init_0 9 rfl rfl)
theorem dX1_init_12 : decode cX1_init 12 = .ok (.aload_n 0, 1) := dk_42 (dk_at dksX1_init_0 12 rfl rfl)
theorem dX1_init_13 : decode cX1_init 13 = .ok (.bipush 18, 2) := dk_16 18 (dk_at dksX1_init_0 13 rfl rfl)
theorem dX1_init_15 : decode cX1_init 15 = .ok (.newarray .int, 2) := dk_188_10 (dk_at dksX1_init_0 15 rfl rfl)
theorem dX1_init_17 : decode cX1_init 17 = .ok (.putfield 89, 3) := dk_181 0 89 (dk_at dksX1_init_0 17 rfl rfl)
theorem dX1_init_20 : decode cX1_init 20 = .ok (.aload_n 0, 1) := dk_42 (dk_at dksX1_init_0 20 rfl rfl)
theorem dX1_init_21 : decode cX1_init 21 = .ok (.bipush 36, 2) := dk_16 36 (dk_at dksX1_init_0 21 rfl rfl)
theorem dX1_init_23 : decode cX1_init 23 = .ok (.newarray .long, 2) := dk_188_11 (dk_at dksX1_init_1 0 rfl rfl)
theorem dX1_init_25 : decode cX1_init 25 = .ok (.putfield 110, 3) := dk_181 0 110 (dk_at dksX1_init_1 2 rfl rfl)
theorem dX1_init_28 : decode cX1_init 28 = .ok (.aload_n 0, 1) := dk_42 (dk_at dksX1_init_1 5 rfl rfl)
theorem dX1_init_29 : decode cX1_init 29 = .ok (.sipush 1024, 3) := dk_17 4 0 (dk_at dksX1_init_1 6 rfl rfl)
theorem dX1_init_32 : decode cX1_init 32 = .ok (.newarray .int, 2) := dk_188_10 (dk_at dksX1_init_1 9 rfl rfl)
theorem dX1_init_34 : decode cX1_init 34 = .ok (.putfield 177, 3) := dk_181 0 177 (dk_at dksX1_init_1 11 rfl rfl)
theorem dX1_init_37 : decode cX1_init 37 = .ok (.aload_n 0, 1) := dk_42 (dk_at dksX1_init_1 14 rfl rfl)
theorem dX1_init_38 : decode cX1_init 38 = .ok (.bipush 64, 2) := dk_16 64 (dk_at dksX1_init_1 15 rfl rfl)
theorem dX1_init_40 : decode cX1_init 40 = .ok (.newarray .int, 2) := dk_188_10 (dk_at dksX1_init_1 17 rfl rfl)
theorem dX1_init_42 : decode cX1_init 42 = .ok (.putfield 79, 3) := dk_181 0 79 (dk_at dksX1_init_1 19 rfl rfl)
theorem dX1_init_45 : decode cX1_init 45 = .ok (.aload_n 0, 1) := dk_42 (dk_at dksX1_init_1 22 rfl rfl)
theorem dX1_init_46 : decode cX1_init 46 = .ok (.bipush 36, 2) := dk_16 36 (dk_at dksX1_init_2 0 rfl rfl)
theorem dX1_init_48 : decode cX1_init 48 = .ok (.newarray .long, 2) := dk_188_11 (dk_at dksX1_init_2 2 rfl rfl)
theorem dX1_init_50 : decode cX1_init 50 = .ok (.putfield 119, 3) := dk_181 0 119 (dk_at dksX1_init_2 4 rfl rfl)
theorem dX1_init_53 : decode cX1_init 53 = .ok (.aload_n 0, 1) := dk_42 (dk_at dksX1_init_2 7 rfl rfl)
theorem dX1_init_54 : decode cX1_init 54 = .ok (.bipush 64, 2) := dk_16 64 (dk_at dksX1_init_2 8 rfl rfl)
theorem dX1_init_56 : decode cX1_init 56 = .ok (.newarray .long, 2) := dk_188_11 (dk_at dksX1_init_2 10 rfl rfl)
theorem dX1_init_58 : decode cX1_init 58 = .ok (.putfield 113, 3) := dk_181 0 113 (dk_at dksX1_init_2 12 rfl rfl)
theorem dX1_init_61 : decode cX1_init 61 = .ok (.aload_n 0, 1) := dk_42 (dk_at dksX1_init_2 15 rfl rfl)
theorem dX1_init_62 : decode cX1_init 62 = .ok (.new 28, 3) := dk_187 0 28 (dk_at dksX1_init_2 16 rfl rfl)
theorem dX1_init_65 : decode cX1_init 65 = .ok (.dup, 1) := dk_89 (dk_at dksX1_init_2 19 rfl rfl)
theorem dX1_init_66 : decode cX1_init 66 = .ok (.invokespecial 192, 3) := dk_183 0 192 (dk_at dksX1_init_2 20 rfl rfl)
theorem dX1_init_69 : decode cX1_init 69 = .ok (.putfield 23, 3) := dk_181 0 23 (dk_at dksX1_init_3 0 rfl rfl)
theorem dX1_init_72 : decode cX1_init 72 = .ok (.aload_n 0, 1) := dk_42 (dk_at dksX1_init_3 3 rfl rfl)
theorem dX1_init_73 : decode cX1_init 73 = .ok (.new 193, 3) := dk_187 0 193 (dk_at dksX1_init_3 4 rfl rfl)
theorem dX1_init_76 : decode cX1_init 76 = .ok (.dup, 1) := dk_89 (dk_at dksX1_init_3 7 rfl rfl)
theorem dX1_init_77 : decode cX1_init 77 = .ok (.invokespecial 195, 3) := dk_183 0 195 (dk_at dksX1_init_3 8 rfl rfl)
theorem dX1_init_80 : decode cX1_init 80 = .ok (.putfield 196, 3) := dk_181 0 196 (dk_at dksX1_init_3 11 rfl rfl)
theorem dX1_init_83 : decode cX1_init 83 = .ok (.aload_n 0, 1) := dk_42 (dk_at dksX1_init_3 14 rfl rfl)
theorem dX1_init_84 : decode cX1_init 84 = .ok (.new 200, 3) := dk_187 0 200 (dk_at dksX1_init_3 15 rfl rfl)
theorem dX1_init_87 : decode cX1_init 87 = .ok (.dup, 1) := dk_89 (dk_at dksX1_init_3 18 rfl rfl)
theorem dX1_init_88 : decode cX1_init 88 = .ok (.invokespecial 202, 3) := dk_183 0 202 (dk_at dksX1_init_3 19 rfl rfl)
theorem dX1_init_91 : decode cX1_init 91 = .ok (.putfield 203, 3) := dk_181 0 203 (dk_at dksX1_init_4 0 rfl rfl)
theorem dX1_init_94 : decode cX1_init 94 = .ok (.return_, 1) := dk_177 (dk_at dksX1_init_4 3 rfl rfl)
abbrev cX1_turnSuspicion : ByteArray := prog_1_method_47_code
def yX1_turnSuspicion : MethodName := ⟨RX1, "turnSuspicion", "()Z"⟩
def dkwX1_turnSuspicion_0 : List UInt8 := [42, 182, 1, 0, 42, 180, 0, 23, 182, 1, 6, 172]
abbrev dktX1_turnSuspicion_0 : List UInt8 := dkwX1_turnSuspicion_0 ++ []
theorem dksX1_turnSuspicion_0 : cX1_turnSuspicion.data.toList.drop 0 = dktX1_turnSuspicion_0 := by decide +kernel
theorem dX1_turnSuspicion_0 : decode cX1_turnSuspicion 0 = .ok (.aload_n 0, 1) := dk_42 (dk_at dksX1_turnSuspicion_0 0 rfl rfl)
theorem dX1_turnSuspicion_1 : decode cX1_turnSuspicion 1 = .ok (.invokevirtual 256, 3) := dk_182 1 0 (dk_at dksX1_turnSuspicion_0 1 rfl rfl)
theorem dX1_turnSuspicion_4 : decode cX1_turnSuspicion 4 = .ok (.aload_n 0, 1) := dk_42 (dk_at dksX1_turnSuspicion_0 4 rfl rfl)
theorem dX1_turnSuspicion_5 : decode cX1_turnSuspicion 5 = .ok (.getfield 23, 3) := dk_180 0 23 (dk_at dksX1_turnSuspicion_0 5 rfl rfl)
theorem dX1_turnSuspicion_8 : decode cX1_turnSuspicion 8 = .ok (.invokevirtual 262, 3) := dk_182 1 6 (dk_at dksX1_turnSuspicion_0 8 rfl rfl)
theorem dX1_turnSuspicion_11 : decode cX1_turnSuspicion 11 = .ok (.ireturn, 1) := dk_172 (dk_at dksX1_turnSuspicion_0 11 rfl rfl)
abbrev cX1_save : ByteArray := prog_1_method_36_code
def yX1_save : MethodName := ⟨RX1, "save", "()V"⟩
def dkwX1_save_0 : List UInt8 := [42, 42, 180, 0, 23, 182, 0, 218, 42, 187, 0, 28, 89, 42, 180, 0, 23, 183, 0, 222, 181, 0, 23, 177]
abbrev dktX1_save_0 : List UInt8 := dkwX1_save_0 ++ []
theorem dksX1_save_0 : cX1_save.data.toList.drop 0 = dktX1_save_0 := by decide +kernel
theorem dX1_save_0 : decode cX1_save 0 = .ok (.aload_n 0, 1) := dk_42 (dk_at dksX1_save_0 0 rfl rfl)
theorem dX1_save_1 : decode cX1_save 1 = .ok (.aload_n 0, 1) := dk_42 (dk_at dksX1_save_0 1 rfl rfl)
theorem dX1_save_2 : decode cX1_save 2 = .ok (.getfield 23, 3) := dk_180 0 23 (dk_at dksX1_save_0 2 rfl rfl)
theorem dX1_save_5 : decode cX1_save 5 = .ok (.invokevirtual 218, 3) := dk_182 0 218 (dk_at dksX1_save_0 5 rfl rfl)
theorem dX1_save_8 : decode cX1_save 8 = .ok (.aload_n 0, 1) := dk_42 (dk_at dksX1_save_0 8 rfl rfl)
theorem dX1_save_9 : decode cX1_save 9 = .ok (.new 28, 3) := dk_187 0 28 (dk_at dksX1_save_0 9 rfl rfl)
theorem dX1_save_12 : decode cX1_save 12 = .ok (.dup, 1) := dk_89 (dk_at dksX1_save_0 12 rfl rfl)
theorem dX1_save_13 : decode cX1_save 13 = .ok (.aload_n 0, 1) := dk_42 (dk_at dksX1_save_0 13 rfl rfl)
theorem dX1_save_14 : decode cX1_save 14 = .ok (.getfield 23, 3) := dk_180 0 23 (dk_at dksX1_save_0 14 rfl rfl)
theorem dX1_save_17 : decode cX1_save 17 = .ok (.invokespecial 222, 3) := dk_183 0 222 (dk_at dksX1_save_0 17 rfl rfl)
theorem dX1_save_20 : decode cX1_save 20 = .ok (.putfield 23, 3) := dk_181 0 23 (dk_at dksX1_save_0 20 rfl rfl)
theorem dX1_save_23 : decode cX1_save 23 = .ok (.return_, 1) := dk_177 (dk_at dksX1_save_0 23 rfl rfl)
abbrev cX1_push : ByteArray := prog_1_method_35_code
def yX1_push : MethodName := ⟨RX1, "push", "(LRosehipCircuits$Circuit;)V"⟩
def dkwX1_push_1 : List UInt8 := [182, 0, 214, 177]
abbrev dktX1_push_1 : List UInt8 := dkwX1_push_1 ++ []
def dkwX1_push_0 : List UInt8 := [42, 180, 0, 196, 182, 0, 207, 8, 160, 0, 11, 42, 180, 0, 196, 182, 0, 210, 87, 42, 180, 0, 196, 43]
abbrev dktX1_push_0 : List UInt8 := dkwX1_push_0 ++ dktX1_push_1
theorem dksX1_push_0 : cX1_push.data.toList.drop 0 = dktX1_push_0 := by decide +kernel
theorem dksX1_push_1 : cX1_push.data.toList.drop 24 = dktX1_push_1 := dk_seg dksX1_push_0 24 rfl rfl
theorem dX1_push_0 : decode cX1_push 0 = .ok (.aload_n 0, 1) := dk_42 (dk_at dksX1_push_0 0 rfl rfl)
theorem dX1_push_1 : decode cX1_push 1 = .ok (.getfield 196, 3) := dk_180 0 196 (dk_at dksX1_push_0 1 rfl rfl)
theorem dX1_push_4 : decode cX1_push 4 = .ok (.invokevirtual 207, 3) := dk_182 0 207 (dk_at dksX1_push_0 4 rfl rfl)
theorem dX1_push_7 : decode cX1_push 7 = .ok (.iconst 5, 1) := dk_8 (dk_at dksX1_push_0 7 rfl rfl)
theorem dX1_push_8 : decode cX1_push 8 = .ok (.if_icmp .ne 11, 3) := dk_160 0 11 (dk_at dksX1_push_0 8 rfl rfl)
theorem dX1_push_11 : decode cX1_push 11 = .ok (.aload_n 0, 1) := dk_42 (dk_at dksX1_push_0 11 rfl rfl)
theorem dX1_push_12 : decode cX1_push 12 = .ok (.getfield 196, 3) := dk_180 0 196 (dk_at dksX1_push_0 12 rfl rfl)
theorem dX1_push_15 : decode cX1_push 15 = .ok (.invokevirtual 210, 3) := dk_182 0 210 (dk_at dksX1_push_0 15 rfl rfl)
theorem dX1_push_18 : decode cX1_push 18 = .ok (.pop, 1) := dk_87 (dk_at dksX1_push_0 18 rfl rfl)
theorem dX1_push_19 : decode cX1_push 19 = .ok (.aload_n 0, 1) := dk_42 (dk_at dksX1_push_0 19 rfl rfl)
theorem dX1_push_20 : decode cX1_push 20 = .ok (.getfield 196, 3) := dk_180 0 196 (dk_at dksX1_push_0 20 rfl rfl)
theorem dX1_push_23 : decode cX1_push 23 = .ok (.aload_n 1, 1) := dk_43 (dk_at dksX1_push_0 23 rfl rfl)
theorem dX1_push_24 : decode cX1_push 24 = .ok (.invokevirtual 214, 3) := dk_182 0 214 (dk_at dksX1_push_1 0 rfl rfl)
theorem dX1_push_27 : decode cX1_push 27 = .ok (.return_, 1) := dk_177 (dk_at dksX1_push_1 3 rfl rfl)
abbrev cX1_choose : ByteArray := prog_1_method_50_code
def yX1_choose : MethodName := ⟨RX1, "choose", "()I"⟩
def dkwX1_choose_1 : List UInt8 := [184, 0, 129, 172]
abbrev dktX1_choose_1 : List UInt8 := dkwX1_choose_1 ++ []
def dkwX1_choose_0 : List UInt8 := [42, 182, 1, 0, 42, 180, 0, 23, 42, 182, 1, 20, 181, 1, 23, 42, 180, 0, 23, 180, 1, 23]
abbrev dktX1_choose_0 : List UInt8 := dkwX1_choose_0 ++ dktX1_choose_1
theorem dksX1_choose_0 : cX1_choose.data.toList.drop 0 = dktX1_choose_0 := by decide +kernel
theorem dksX1_choose_1 : cX1_choose.data.toList.drop 22 = dktX1_choose_1 := dk_seg dksX1_choose_0 22 rfl rfl
theorem dX1_choose_0 : decode cX1_choose 0 = .ok (.aload_n 0, 1) := dk_42 (dk_at dksX1_choose_0 0 rfl rfl)
theorem dX1_choose_1 : decode cX1_choose 1 = .ok (.invokevirtual 256, 3) := dk_182 1 0 (dk_at dksX1_choose_0 1 rfl rfl)
theorem dX1_choose_4 : decode cX1_choose 4 = .ok (.aload_n 0, 1) := dk_42 (dk_at dksX1_choose_0 4 rfl rfl)
theorem dX1_choose_5 : decode cX1_choose 5 = .ok (.getfield 23, 3) := dk_180 0 23 (dk_at dksX1_choose_0 5 rfl rfl)
theorem dX1_choose_8 : decode cX1_choose 8 = .ok (.aload_n 0, 1) := dk_42 (dk_at dksX1_choose_0 8 rfl rfl)
theorem dX1_choose_9 : decode cX1_choose 9 = .ok (.invokevirtual 276, 3) := dk_182 1 20 (dk_at dksX1_choose_0 9 rfl rfl)
theorem dX1_choose_12 : decode cX1_choose 12 = .ok (.putfield 279, 3) := dk_181 1 23 (dk_at dksX1_choose_0 12 rfl rfl)
theorem dX1_choose_15 : decode cX1_choose 15 = .ok (.aload_n 0, 1) := dk_42 (dk_at dksX1_choose_0 15 rfl rfl)
theorem dX1_choose_16 : decode cX1_choose 16 = .ok (.getfield 23, 3) := dk_180 0 23 (dk_at dksX1_choose_0 16 rfl rfl)
theorem dX1_choose_19 : decode cX1_choose 19 = .ok (.getfield 279, 3) := dk_180 1 23 (dk_at dksX1_choose_0 19 rfl rfl)
theorem dX1_choose_22 : decode cX1_choose 22 = .ok (.invokestatic 129, 3) := dk_184 0 129 (dk_at dksX1_choose_1 0 rfl rfl)
theorem dX1_choose_25 : decode cX1_choose 25 = .ok (.ireturn, 1) := dk_172 (dk_at dksX1_choose_1 3 rfl rfl)
abbrev cX1_chooseAll : ByteArray := prog_1_method_22_code
def yX1_chooseAll : MethodName := ⟨RX1, "chooseAll", "()J"⟩
def dkwX1_chooseAll_1 : List UInt8 := [121, 129, 66, 31, 42, 180, 0, 113, 21, 5, 47, 20, 0, 21, 131, 127, 64, 167, 255, 222, 33, 173]
abbrev dktX1_chooseAll_1 : List UInt8 := dkwX1_chooseAll_1 ++ []
def dkwX1_chooseAll_0 : List UInt8 := [42, 182, 0, 134, 64, 9, 66, 31, 9, 148, 153, 0, 34, 42, 31, 182, 0, 138, 54, 5, 33, 10, 21, 5]
abbrev dktX1_chooseAll_0 : List UInt8 := dkwX1_chooseAll_0 ++ dktX1_chooseAll_1
theorem dksX1_chooseAll_0 : cX1_chooseAll.data.toList.drop 0 = dktX1_chooseAll_0 := by decide +kernel
theorem dksX1_chooseAll_1 : cX1_chooseAll.data.toList.drop 24 = dktX1_chooseAll_1 := dk_seg dksX1_chooseAll_0 24 rfl rfl
theorem dX1_chooseAll_0 : decode cX1_chooseAll 0 = .ok (.aload_n 0, 1) := dk_42 (dk_at dksX1_chooseAll_0 0 rfl rfl)
theorem dX1_chooseAll_1 : decode cX1_chooseAll 1 = .ok (.invokevirtual 134, 3) := dk_182 0 134 (dk_at dksX1_chooseAll_0 1 rfl rfl)
theorem dX1_chooseAll_4 : decode cX1_chooseAll 4 = .ok (.lstore_n 1, 1) := dk_64 (dk_at dksX1_chooseAll_0 4 rfl rfl)
theorem dX1_chooseAll_5 : decode cX1_chooseAll 5 = .ok (.lconst 0, 1) := dk_9 (dk_at dksX1_chooseAll_0 5 rfl rfl)
theorem dX1_chooseAll_6 : decode cX1_chooseAll 6 = .ok (.lstore_n 3, 1) := dk_66 (dk_at dksX1_chooseAll_0 6 rfl rfl)
theorem dX1_chooseAll_7 : decode cX1_chooseAll 7 = .ok (.lload_n 1, 1) := dk_31 (dk_at dksX1_chooseAll_0 7 rfl rfl)
theorem dX1_chooseAll_8 : decode cX1_chooseAll 8 = .ok (.lconst 0, 1) := dk_9 (dk_at dksX1_chooseAll_0 8 rfl rfl)
theorem dX1_chooseAll_9 : decode cX1_chooseAll 9 = .ok (.lcmp, 1) := dk_148 (dk_at dksX1_chooseAll_0 9 rfl rfl)
theorem dX1_chooseAll_10 : decode cX1_chooseAll 10 = .ok (.ifCond .eq 34, 3) := dk_153 0 34 (dk_at dksX1_chooseAll_0 10 rfl rfl)
theorem dX1_chooseAll_13 : decode cX1_chooseAll 13 = .ok (.aload_n 0, 1) := dk_42 (dk_at dksX1_chooseAll_0 13 rfl rfl)
theorem dX1_chooseAll_14 : decode cX1_chooseAll 14 = .ok (.lload_n 1, 1) := dk_31 (dk_at dksX1_chooseAll_0 14 rfl rfl)
theorem dX1_chooseAll_15 : decode cX1_chooseAll 15 = .ok (.invokevirtual 138, 3) := dk_182 0 138 (dk_at dksX1_chooseAll_0 15 rfl rfl)
theorem dX1_chooseAll_18 : decode cX1_chooseAll 18 = .ok (.istore 5, 2) := dk_54 5 (dk_at dksX1_chooseAll_0 18 rfl rfl)
theorem dX1_chooseAll_20 : decode cX1_chooseAll 20 = .ok (.lload_n 3, 1) := dk_33 (dk_at dksX1_chooseAll_0 20 rfl rfl)
theorem dX1_chooseAll_21 : decode cX1_chooseAll 21 = .ok (.lconst 1, 1) := dk_10 (dk_at dksX1_chooseAll_0 21 rfl rfl)
theorem dX1_chooseAll_22 : decode cX1_chooseAll 22 = .ok (.iload 5, 2) := dk_21 5 (dk_at dksX1_chooseAll_0 22 rfl rfl)
theorem dX1_chooseAll_24 : decode cX1_chooseAll 24 = .ok (.lshl, 1) := dk_121 (dk_at dksX1_chooseAll_1 0 rfl rfl)
theorem dX1_chooseAll_25 : decode cX1_chooseAll 25 = .ok (.lor, 1) := dk_129 (dk_at dksX1_chooseAll_1 1 rfl rfl)
theorem dX1_chooseAll_26 : decode cX1_chooseAll 26 = .ok (.lstore_n 3, 1) := dk_66 (dk_at dksX1_chooseAll_1 2 rfl rfl)
theorem dX1_chooseAll_27 : decode cX1_chooseAll 27 = .ok (.lload_n 1, 1) := dk_31 (dk_at dksX1_chooseAll_1 3 rfl rfl)
theorem dX1_chooseAll_28 : decode cX1_chooseAll 28 = .ok (.aload_n 0, 1) := dk_42 (dk_at dksX1_chooseAll_1 4 rfl rfl)
theorem dX1_chooseAll_29 : decode cX1_chooseAll 29 = .ok (.getfield 113, 3) := dk_180 0 113 (dk_at dksX1_chooseAll_1 5 rfl rfl)
theorem dX1_chooseAll_32 : decode cX1_chooseAll 32 = .ok (.iload 5, 2) := dk_21 5 (dk_at dksX1_chooseAll_1 8 rfl rfl)
theorem dX1_chooseAll_34 : decode cX1_chooseAll 34 = .ok (.laload, 1) := dk_47 (dk_at dksX1_chooseAll_1 10 rfl rfl)
theorem dX1_chooseAll_35 : decode cX1_chooseAll 35 = .ok (.ldc2_w 21, 3) := dk_20 0 21 (dk_at dksX1_chooseAll_1 11 rfl rfl)
theorem dX1_chooseAll_38 : decode cX1_chooseAll 38 = .ok (.lxor, 1) := dk_131 (dk_at dksX1_chooseAll_1 14 rfl rfl)
theorem dX1_chooseAll_39 : decode cX1_chooseAll 39 = .ok (.land, 1) := dk_127 (dk_at dksX1_chooseAll_1 15 rfl rfl)
theorem dX1_chooseAll_40 : decode cX1_chooseAll 40 = .ok (.lstore_n 1, 1) := dk_64 (dk_at dksX1_chooseAll_1 16 rfl rfl)
theorem dX1_chooseAll_41 : decode cX1_chooseAll 41 = .ok (.goto (-34), 3) := dk_167 255 222 (dk_at dksX1_chooseAll_1 17 rfl rfl)
theorem dX1_chooseAll_44 : decode cX1_chooseAll 44 = .ok (.lload_n 3, 1) := dk_33 (dk_at dksX1_chooseAll_1 20 rfl rfl)
theorem dX1_chooseAll_45 : decode cX1_chooseAll 45 = .ok (.lreturn, 1) := dk_173 (dk_at dksX1_chooseAll_1 21 rfl rfl)
abbrev cX1_layShown : ByteArray := prog_1_method_20_code
def yX1_layShown : MethodName := ⟨RX1, "layShown", "()J"⟩
def dkwX1_layShown_5 : List UInt8 := [167, 255, 162, 31, 173]
abbrev dktX1_layShown_5 : List UInt8 := dkwX1_layShown_5 ++ []
def dkwX1_layShown_4 : List UInt8 := [184, 0, 126, 153, 0, 9, 10, 29, 121, 167, 0, 4, 9, 129, 80, 132, 4, 1, 167, 255, 215, 132, 3, 1]
abbrev dktX1_layShown_4 : List UInt8 := dkwX1_layShown_4 ++ dktX1_layShown_5
def dkwX1_layShown_3 : List UInt8 := [21, 4, 16, 64, 162, 0, 40, 42, 180, 0, 113, 21, 4, 92, 47, 42, 180, 0, 119, 29, 47, 21, 4]
abbrev dktX1_layShown_3 : List UInt8 := dkwX1_layShown_3 ++ dktX1_layShown_4
def dkwX1_layShown_2 : List UInt8 := [31, 42, 180, 0, 119, 29, 47, 9, 148, 153, 0, 9, 10, 29, 121, 167, 0, 4, 9, 129, 64, 3, 54, 4]
abbrev dktX1_layShown_2 : List UInt8 := dkwX1_layShown_2 ++ dktX1_layShown_3
def dkwX1_layShown_1 : List UInt8 := [62, 29, 42, 180, 0, 23, 182, 0, 116, 162, 0, 89, 42, 180, 0, 119, 29, 42, 29, 2, 182, 0, 122, 80]
abbrev dktX1_layShown_1 : List UInt8 := dkwX1_layShown_1 ++ dktX1_layShown_2
def dkwX1_layShown_0 : List UInt8 := [9, 64, 3, 62, 29, 16, 64, 162, 0, 16, 42, 180, 0, 113, 29, 9, 80, 132, 3, 1, 167, 255, 240, 3]
abbrev dktX1_layShown_0 : List UInt8 := dkwX1_layShown_0 ++ dktX1_layShown_1
theorem dksX1_layShown_0 : cX1_layShown.data.toList.drop 0 = dktX1_layShown_0 := by decide +kernel
theorem dksX1_layShown_1 : cX1_layShown.data.toList.drop 24 = dktX1_layShown_1 := dk_seg dksX1_layShown_0 24 rfl rfl
theorem dksX1_layShown_2 : cX1_layShown.data.toList.drop 48 = dktX1_layShown_2 := dk_seg dksX1_layShown_1 24 rfl rfl
theorem dksX1_layShown_3 : cX1_layShown.data.toList.drop 72 = dktX1_layShown_3 := dk_seg dksX1_layShown_2 24 rfl rfl
theorem dksX1_layShown_4 : cX1_layShown.data.toList.drop 95 = dktX1_layShown_4 := dk_seg dksX1_layShown_3 23 rfl rfl
theorem dksX1_layShown_5 : cX1_layShown.data.toList.drop 119 = dktX1_layShown_5 := dk_seg dksX1_layShown_4 24 rfl rfl
theorem dX1_layShown_0 : decode cX1_layShown 0 = .ok (.lconst 0, 1) := dk_9 (dk_at dksX1_layShown_0 0 rfl rfl)
theorem dX1_layShown_1 : decode cX1_layShown 1 = .ok (.lstore_n 1, 1) := dk_64 (dk_at dksX1_layShown_0 1 rfl rfl)
theorem dX1_layShown_2 : decode cX1_layShown 2 = .ok (.iconst 0, 1) := dk_3 (dk_at dksX1_layShown_0 2 rfl rfl)
theorem dX1_layShown_3 : decode cX1_layShown 3 = .ok (.istore_n 3, 1) := dk_62 (dk_at dksX1_layShown_0 3 rfl rfl)
theorem dX1_layShown_4 : decode cX1_layShown 4 = .ok (.iload_n 3, 1) := dk_29 (dk_at dksX1_layShown_0 4 rfl rfl)
theorem dX1_layShown_5 : decode cX1_layShown 5 = .ok (.bipush 64, 2) := dk_16 64 (dk_at dksX1_layShown_0 5 rfl rfl)
theorem dX1_layShown_7 : decode cX1_layShown 7 = .ok (.if_icmp .ge 16, 3) := dk_162 0 16 (dk_at dksX1_layShown_0 7 rfl rfl)
theorem dX1_layShown_10 : decode cX1_layShown 10 = .ok (.aload_n 0, 1) := dk_42 (dk_at dksX1_layShown_0 10 rfl rfl)
theorem dX1_layShown_11 : decode cX1_layShown 11 = .ok (.getfield 113, 3) := dk_180 0 113 (dk_at dksX1_layShown_0 11 rfl rfl)
theorem dX1_layShown_14 : decode cX1_layShown 14 = .ok (.iload_n 3, 1) := dk_29 (dk_at dksX1_layShown_0 14 rfl rfl)
theorem dX1_layShown_15 : decode cX1_layShown 15 = .ok (.lconst 0, 1) := dk_9 (dk_at dksX1_layShown_0 15 rfl rfl)
theorem dX1_layShown_16 : decode cX1_layShown 16 = .ok (.lastore, 1) := dk_80 (dk_at dksX1_layShown_0 16 rfl rfl)
theorem dX1_layShown_17 : decode cX1_layShown 17 = .ok (.iinc 3 1, 3) := dk_132 3 1 (dk_at dksX1_layShown_0 17 rfl rfl)
theorem dX1_layShown_20 : decode cX1_layShown 20 = .ok (.goto (-16), 3) := dk_167 255 240 (dk_at dksX1_layShown_0 20 rfl rfl)
theorem dX1_layShown_23 : decode cX1_layShown 23 = .ok (.iconst 0, 1) := dk_3 (dk_at dksX1_layShown_0 23 rfl rfl)
theorem dX1_layShown_24 : decode cX1_layShown 24 = .ok (.istore_n 3, 1) := dk_62 (dk_at dksX1_layShown_1 0 rfl rfl)
theorem dX1_layShown_25 : decode cX1_layShown 25 = .ok (.iload_n 3, 1) := dk_29 (dk_at dksX1_layShown_1 1 rfl rfl)
theorem dX1_layShown_26 : decode cX1_layShown 26 = .ok (.aload_n 0, 1) := dk_42 (dk_at dksX1_layShown_1 2 rfl rfl)
theorem dX1_layShown_27 : decode cX1_layShown 27 = .ok (.getfield 23, 3) := dk_180 0 23 (dk_at dksX1_layShown_1 3 rfl rfl)
theorem dX1_layShown_30 : decode cX1_layShown 30 = .ok (.invokevirtual 116, 3) := dk_182 0 116 (dk_at dksX1_layShown_1 6 rfl rfl)
theorem dX1_layShown_33 : decode cX1_layShown 33 = .ok (.if_icmp .ge 89, 3) := dk_162 0 89 (dk_at dksX1_layShown_1 9 rfl rfl)
theorem dX1_layShown_36 : decode cX1_layShown 36 = .ok (.aload_n 0, 1) := dk_42 (dk_at dksX1_layShown_1 12 rfl rfl)
theorem dX1_layShown_37 : decode cX1_layShown 37 = .ok (.getfield 119, 3) := dk_180 0 119 (dk_at dksX1_layShown_1 13 rfl rfl)
theorem dX1_layShown_40 : decode cX1_layShown 40 = .ok (.iload_n 3, 1) := dk_29 (dk_at dksX1_layShown_1 16 rfl rfl)
theorem dX1_layShown_41 : decode cX1_layShown 41 = .ok (.aload_n 0, 1) := dk_42 (dk_at dksX1_layShown_1 17 rfl rfl)
theorem dX1_layShown_42 : decode cX1_layShown 42 = .ok (.iload_n 3, 1) := dk_29 (dk_at dksX1_layShown_1 18 rfl rfl)
theorem dX1_layShown_43 : decode cX1_layShown 43 = .ok (.iconst (-1), 1) := dk_2 (dk_at dksX1_layShown_1 19 rfl rfl)
theorem dX1_layShown_44 : decode cX1_layShown 44 = .ok (.invokevirtual 122, 3) := dk_182 0 122 (dk_at dksX1_layShown_1 20 rfl rfl)
theorem dX1_layShown_47 : decode cX1_layShown 47 = .ok (.lastore, 1) := dk_80 (dk_at dksX1_layShown_1 23 rfl rfl)
theorem dX1_layShown_48 : decode cX1_layShown 48 = .ok (.lload_n 1, 1) := dk_31 (dk_at dksX1_layShown_2 0 rfl rfl)
theorem dX1_layShown_49 : decode cX1_layShown 49 = .ok (.aload_n 0, 1) := dk_42 (dk_at dksX1_layShown_2 1 rfl rfl)
theorem dX1_layShown_50 : decode cX1_layShown 50 = .ok (.getfield 119, 3) := dk_180 0 119 (dk_at dksX1_layShown_2 2 rfl rfl)
theorem dX1_layShown_53 : decode cX1_layShown 53 = .ok (.iload_n 3, 1) := dk_29 (dk_at dksX1_layShown_2 5 rfl rfl)
theorem dX1_layShown_54 : decode cX1_layShown 54 = .ok (.laload, 1) := dk_47 (dk_at dksX1_layShown_2 6 rfl rfl)
theorem dX1_layShown_55 : decode cX1_layShown 55 = .ok (.lconst 0, 1) := dk_9 (dk_at dksX1_layShown_2 7 rfl rfl)
theorem dX1_layShown_56 : decode cX1_layShown 56 = .ok (.lcmp, 1) := dk_148 (dk_at dksX1_layShown_2 8 rfl rfl)
theorem dX1_layShown_57 : decode cX1_layShown 57 = .ok (.ifCond .eq 9, 3) := dk_153 0 9 (dk_at dksX1_layShown_2 9 rfl rfl)
theorem dX1_layShown_60 : decode cX1_layShown 60 = .ok (.lconst 1, 1) := dk_10 (dk_at dksX1_layShown_2 12 rfl rfl)
theorem dX1_layShown_61 : decode cX1_layShown 61 = .ok (.iload_n 3, 1) := dk_29 (dk_at dksX1_layShown_2 13 rfl rfl)
theorem dX1_layShown_62 : decode cX1_layShown 62 = .ok (.lshl, 1) := dk_121 (dk_at dksX1_layShown_2 14 rfl rfl)
theorem dX1_layShown_63 : decode cX1_layShown 63 = .ok (.goto 4, 3) := dk_167 0 4 (dk_at dksX1_layShown_2 15 rfl rfl)
theorem dX1_layShown_66 : decode cX1_layShown 66 = .ok (.lconst 0, 1) := dk_9 (dk_at dksX1_layShown_2 18 rfl rfl)
theorem dX1_layShown_67 : decode cX1_layShown 67 = .ok (.lor, 1) := dk_129 (dk_at dksX1_layShown_2 19 rfl rfl)
theorem dX1_layShown_68 : decode cX1_layShown 68 = .ok (.lstore_n 1, 1) := dk_64 (dk_at dksX1_layShown_2 20 rfl rfl)
theorem dX1_layShown_69 : decode cX1_layShown 69 = .ok (.iconst 0, 1) := dk_3 (dk_at dksX1_layShown_2 21 rfl rfl)
theorem dX1_layShown_70 : decode cX1_layShown 70 = .ok (.istore 4, 2) := dk_54 4 (dk_at dksX1_layShown_2 22 rfl rfl)
theorem dX1_layShown_72 : decode cX1_layShown 72 = .ok (.iload 4, 2) := dk_21 4 (dk_at dksX1_layShown_3 0 rfl rfl)
theorem dX1_layShown_74 : decode cX1_layShown 74 = .ok (.bipush 64, 2) := dk_16 64 (dk_at dksX1_layShown_3 2 rfl rfl)
theorem dX1_layShown_76 : decode cX1_layShown 76 = .ok (.if_icmp .ge 40, 3) := dk_162 0 40 (dk_at dksX1_layShown_3 4 rfl rfl)
theorem dX1_layShown_79 : decode cX1_layShown 79 = .ok (.aload_n 0, 1) := dk_42 (dk_at dksX1_layShown_3 7 rfl rfl)
theorem dX1_layShown_80 : decode cX1_layShown 80 = .ok (.getfield 113, 3) := dk_180 0 113 (dk_at dksX1_layShown_3 8 rfl rfl)
theorem dX1_layShown_83 : decode cX1_layShown 83 = .ok (.iload 4, 2) := dk_21 4 (dk_at dksX1_layShown_3 11 rfl rfl)
theorem dX1_layShown_85 : decode cX1_layShown 85 = .ok (.dup2, 1) := dk_92 (dk_at dksX1_layShown_3 13 rfl rfl)
theorem dX1_layShown_86 : decode cX1_layShown 86 = .ok (.laload, 1) := dk_47 (dk_at dksX1_layShown_3 14 rfl rfl)
theorem dX1_layShown_87 : decode cX1_layShown 87 = .ok (.aload_n 0, 1) := dk_42 (dk_at dksX1_layShown_3 15 rfl rfl)
theorem dX1_layShown_88 : decode cX1_layShown 88 = .ok (.getfield 119, 3) := dk_180 0 119 (dk_at dksX1_layShown_3 16 rfl rfl)
theorem dX1_layShown_91 : decode cX1_layShown 91 = .ok (.iload_n 3, 1) := dk_29 (dk_at dksX1_layShown_3 19 rfl rfl)
theorem dX1_layShown_92 : decode cX1_layShown 92 = .ok (.laload, 1) := dk_47 (dk_at dksX1_layShown_3 20 rfl rfl)
theorem dX1_layShown_93 : decode cX1_layShown 93 = .ok (.iload 4, 2) := dk_21 4 (dk_at dksX1_layShown_3 21 rfl rfl)
theorem dX1_layShown_95 : decode cX1_layShown 95 = .ok (.invokestatic 126, 3) := dk_184 0 126 (dk_at dksX1_layShown_4 0 rfl rfl)
theorem dX1_layShown_98 : decode cX1_layShown 98 = .ok (.ifCond .eq 9, 3) := dk_153 0 9 (dk_at dksX1_layShown_4 3 rfl rfl)
theorem dX1_layShown_101 : decode cX1_layShown 101 = .ok (.lconst 1, 1) := dk_10 (dk_at dksX1_layShown_4 6 rfl rfl)
theorem dX1_layShown_102 : decode cX1_layShown 102 = .ok (.iload_n 3, 1) := dk_29 (dk_at dksX1_layShown_4 7 rfl rfl)
theorem dX1_layShown_103 : decode cX1_layShown 103 = .ok (.lshl, 1) := dk_121 (dk_at dksX1_layShown_4 8 rfl rfl)
theorem dX1_layShown_104 : decode cX1_layShown 104 = .ok (.goto 4, 3) := dk_167 0 4 (dk_at dksX1_layShown_4 9 rfl rfl)
theorem dX1_layShown_107 : decode cX1_layShown 107 = .ok (.lconst 0, 1) := dk_9 (dk_at dksX1_layShown_4 12 rfl rfl)
theorem dX1_layShown_108 : decode cX1_layShown 108 = .ok (.lor, 1) := dk_129 (dk_at dksX1_layShown_4 13 rfl rfl)
theorem dX1_layShown_109 : decode cX1_layShown 109 = .ok (.lastore, 1) := dk_80 (dk_at dksX1_layShown_4 14 rfl rfl)
theorem dX1_layShown_110 : decode cX1_layShown 110 = .ok (.iinc 4 1, 3) := dk_132 4 1 (dk_at dksX1_layShown_4 15 rfl rfl)
theorem dX1_layShown_113 : decode cX1_layShown 113 = .ok (.goto (-41), 3) := dk_167 255 215 (dk_at dksX1_layShown_4 18 rfl rfl)
theorem dX1_layShown_116 : decode cX1_layShown 116 = .ok (.iinc 3 1, 3) := dk_132 3 1 (dk_at dksX1_layShown_4 21 rfl rfl)
theorem dX1_layShown_119 : decode cX1_layShown 119 = .ok (.goto (-94), 3) := dk_167 255 162 (dk_at dksX1_layShown_5 0 rfl rfl)
theorem dX1_layShown_122 : decode cX1_layShown 122 = .ok (.lload_n 1, 1) := dk_31 (dk_at dksX1_layShown_5 3 rfl rfl)
theorem dX1_layShown_123 : decode cX1_layShown 123 = .ok (.lreturn, 1) := dk_173 (dk_at dksX1_layShown_5 4 rfl rfl)
abbrev cX1_testsBy : ByteArray := prog_1_method_19_code
def yX1_testsBy : MethodName := ⟨RX1, "testsBy", "(II)J"⟩
def dkwX1_testsBy_4 : List UInt8 := [47, 131, 167, 0, 4, 9, 129, 66, 132, 5, 1, 167, 255, 204, 33, 173]
abbrev dktX1_testsBy_4 : List UInt8 := dkwX1_testsBy_4 ++ []
def dkwX1_testsBy_3 : List UInt8 := [180, 0, 86, 21, 5, 184, 0, 33, 153, 0, 21, 42, 180, 0, 47, 21, 5, 47, 42, 180, 0, 110, 21, 5]
abbrev dktX1_testsBy_3 : List UInt8 := dkwX1_testsBy_3 ++ dktX1_testsBy_4
def dkwX1_testsBy_2 : List UInt8 := [182, 0, 106, 3, 54, 5, 21, 5, 42, 180, 0, 23, 182, 0, 82, 162, 0, 46, 33, 42, 180, 0, 23]
abbrev dktX1_testsBy_2 : List UInt8 := dkwX1_testsBy_2 ++ dktX1_testsBy_3
def dkwX1_testsBy_1 : List UInt8 := [180, 0, 110, 21, 5, 42, 180, 0, 47, 21, 5, 47, 80, 132, 5, 1, 167, 255, 227, 42, 2, 28]
abbrev dktX1_testsBy_1 : List UInt8 := dkwX1_testsBy_1 ++ dktX1_testsBy_2
def dkwX1_testsBy_0 : List UInt8 := [9, 66, 42, 2, 27, 182, 0, 106, 3, 54, 5, 21, 5, 42, 180, 0, 23, 182, 0, 82, 162, 0, 23, 42]
abbrev dktX1_testsBy_0 : List UInt8 := dkwX1_testsBy_0 ++ dktX1_testsBy_1
theorem dksX1_testsBy_0 : cX1_testsBy.data.toList.drop 0 = dktX1_testsBy_0 := by decide +kernel
theorem dksX1_testsBy_1 : cX1_testsBy.data.toList.drop 24 = dktX1_testsBy_1 := dk_seg dksX1_testsBy_0 24 rfl rfl
theorem dksX1_testsBy_2 : cX1_testsBy.data.toList.drop 46 = dktX1_testsBy_2 := dk_seg dksX1_testsBy_1 22 rfl rfl
theorem dksX1_testsBy_3 : cX1_testsBy.data.toList.drop 69 = dktX1_testsBy_3 := dk_seg dksX1_testsBy_2 23 rfl rfl
theorem dksX1_testsBy_4 : cX1_testsBy.data.toList.drop 93 = dktX1_testsBy_4 := dk_seg dksX1_testsBy_3 24 rfl rfl
theorem dX1_testsBy_0 : decode cX1_testsBy 0 = .ok (.lconst 0, 1) := dk_9 (dk_at dksX1_testsBy_0 0 rfl rfl)
theorem dX1_testsBy_1 : decode cX1_testsBy 1 = .ok (.lstore_n 3, 1) := dk_66 (dk_at dksX1_testsBy_0 1 rfl rfl)
theorem dX1_testsBy_2 : decode cX1_testsBy 2 = .ok (.aload_n 0, 1) := dk_42 (dk_at dksX1_testsBy_0 2 rfl rfl)
theorem dX1_testsBy_3 : decode cX1_testsBy 3 = .ok (.iconst (-1), 1) := dk_2 (dk_at dksX1_testsBy_0 3 rfl rfl)
theorem dX1_testsBy_4 : decode cX1_testsBy 4 = .ok (.iload_n 1, 1) := dk_27 (dk_at dksX1_testsBy_0 4 rfl rfl)
theorem dX1_testsBy_5 : decode cX1_testsBy 5 = .ok (.invokevirtual 106, 3) := dk_182 0 106 (dk_at dksX1_testsBy_0 5 rfl rfl)
theorem dX1_testsBy_8 : decode cX1_testsBy 8 = .ok (.iconst 0, 1) := dk_3 (dk_at dksX1_testsBy_0 8 rfl rfl)
theorem dX1_testsBy_9 : decode cX1_testsBy 9 = .ok (.istore 5, 2) := dk_54 5 (dk_at dksX1_testsBy_0 9 rfl rfl)
theorem dX1_testsBy_11 : decode cX1_testsBy 11 = .ok (.iload 5, 2) := dk_21 5 (dk_at dksX1_testsBy_0 11 rfl rfl)
theorem dX1_testsBy_13 : decode cX1_testsBy 13 = .ok (.aload_n 0, 1) := dk_42 (dk_at dksX1_testsBy_0 13 rfl rfl)
theorem dX1_testsBy_14 : decode cX1_testsBy 14 = .ok (.getfield 23, 3) := dk_180 0 23 (dk_at dksX1_testsBy_0 14 rfl rfl)
theorem dX1_testsBy_17 : decode cX1_testsBy 17 = .ok (.invokevirtual 82, 3) := dk_182 0 82 (dk_at dksX1_testsBy_0 17 rfl rfl)
theorem dX1_testsBy_20 : decode cX1_testsBy 20 = .ok (.if_icmp .ge 23, 3) := dk_162 0 23 (dk_at dksX1_testsBy_0 20 rfl rfl)
theorem dX1_testsBy_23 : decode cX1_testsBy 23 = .ok (.aload_n 0, 1) := dk_42 (dk_at dksX1_testsBy_0 23 rfl rfl)
theorem dX1_testsBy_24 : decode cX1_testsBy 24 = .ok (.getfield 110, 3) := dk_180 0 110 (dk_at dksX1_testsBy_1 0 rfl rfl)
theorem dX1_testsBy_27 : decode cX1_testsBy 27 = .ok (.iload 5, 2) := dk_21 5 (dk_at dksX1_testsBy_1 3 rfl rfl)
theorem dX1_testsBy_29 : decode cX1_testsBy 29 = .ok (.aload_n 0, 1) := dk_42 (dk_at dksX1_testsBy_1 5 rfl rfl)
theorem dX1_testsBy_30 : decode cX1_testsBy 30 = .ok (.getfield 47, 3) := dk_180 0 47 (dk_at dksX1_testsBy_1 6 rfl rfl)
theorem dX1_testsBy_33 : decode cX1_testsBy 33 = .ok (.iload 5, 2) := dk_21 5 (dk_at dksX1_testsBy_1 9 rfl rfl)
theorem dX1_testsBy_35 : decode cX1_testsBy 35 = .ok (.laload, 1) := dk_47 (dk_at dksX1_testsBy_1 11 rfl rfl)
theorem dX1_testsBy_36 : decode cX1_testsBy 36 = .ok (.lastore, 1) := dk_80 (dk_at dksX1_testsBy_1 12 rfl rfl)
theorem dX1_testsBy_37 : decode cX1_testsBy 37 = .ok (.iinc 5 1, 3) := dk_132 5 1 (dk_at dksX1_testsBy_1 13 rfl rfl)
theorem dX1_testsBy_40 : decode cX1_testsBy 40 = .ok (.goto (-29), 3) := dk_167 255 227 (dk_at dksX1_testsBy_1 16 rfl rfl)
theorem dX1_testsBy_43 : decode cX1_testsBy 43 = .ok (.aload_n 0, 1) := dk_42 (dk_at dksX1_testsBy_1 19 rfl rfl)
theorem dX1_testsBy_44 : decode cX1_testsBy 44 = .ok (.iconst (-1), 1) := dk_2 (dk_at dksX1_testsBy_1 20 rfl rfl)
theorem dX1_testsBy_45 : decode cX1_testsBy 45 = .ok (.iload_n 2, 1) := dk_28 (dk_at dksX1_testsBy_1 21 rfl rfl)
theorem dX1_testsBy_46 : decode cX1_testsBy 46 = .ok (.invokevirtual 106, 3) := dk_182 0 106 (dk_at dksX1_testsBy_2 0 rfl rfl)
theorem dX1_testsBy_49 : decode cX1_testsBy 49 = .ok (.iconst 0, 1) := dk_3 (dk_at dksX1_testsBy_2 3 rfl rfl)
theorem dX1_testsBy_50 : decode cX1_testsBy 50 = .ok (.istore 5, 2) := dk_54 5 (dk_at dksX1_testsBy_2 4 rfl rfl)
theorem dX1_testsBy_52 : decode cX1_testsBy 52 = .ok (.iload 5, 2) := dk_21 5 (dk_at dksX1_testsBy_2 6 rfl rfl)
theorem dX1_testsBy_54 : decode cX1_testsBy 54 = .ok (.aload_n 0, 1) := dk_42 (dk_at dksX1_testsBy_2 8 rfl rfl)
theorem dX1_testsBy_55 : decode cX1_testsBy 55 = .ok (.getfield 23, 3) := dk_180 0 23 (dk_at dksX1_testsBy_2 9 rfl rfl)
theorem dX1_testsBy_58 : decode cX1_testsBy 58 = .ok (.invokevirtual 82, 3) := dk_182 0 82 (dk_at dksX1_testsBy_2 12 rfl rfl)
theorem dX1_testsBy_61 : decode cX1_testsBy 61 = .ok (.if_icmp .ge 46, 3) := dk_162 0 46 (dk_at dksX1_testsBy_2 15 rfl rfl)
theorem dX1_testsBy_64 : decode cX1_testsBy 64 = .ok (.lload_n 3, 1) := dk_33 (dk_at dksX1_testsBy_2 18 rfl rfl)
theorem dX1_testsBy_65 : decode cX1_testsBy 65 = .ok (.aload_n 0, 1) := dk_42 (dk_at dksX1_testsBy_2 19 rfl rfl)
theorem dX1_testsBy_66 : decode cX1_testsBy 66 = .ok (.getfield 23, 3) := dk_180 0 23 (dk_at dksX1_testsBy_2 20 rfl rfl)
theorem dX1_testsBy_69 : decode cX1_testsBy 69 = .ok (.getfield 86, 3) := dk_180 0 86 (dk_at dksX1_testsBy_3 0 rfl rfl)
theorem dX1_testsBy_72 : decode cX1_testsBy 72 = .ok (.iload 5, 2) := dk_21 5 (dk_at dksX1_testsBy_3 3 rfl rfl)
theorem dX1_testsBy_74 : decode cX1_testsBy 74 = .ok (.invokestatic 33, 3) := dk_184 0 33 (dk_at dksX1_testsBy_3 5 rfl rfl)
theorem dX1_testsBy_77 : decode cX1_testsBy 77 = .ok (.ifCond .eq 21, 3) := dk_153 0 21 (dk_at dksX1_testsBy_3 8 rfl rfl)
theorem dX1_testsBy_80 : decode cX1_testsBy 80 = .ok (.aload_n 0, 1) := dk_42 (dk_at dksX1_testsBy_3 11 rfl rfl)
theorem dX1_testsBy_81 : decode cX1_testsBy 81 = .ok (.getfield 47, 3) := dk_180 0 47 (dk_at dksX1_testsBy_3 12 rfl rfl)
theorem dX1_testsBy_84 : decode cX1_testsBy 84 = .ok (.iload 5, 2) := dk_21 5 (dk_at dksX1_testsBy_3 15 rfl rfl)
theorem dX1_testsBy_86 : decode cX1_testsBy 86 = .ok (.laload, 1) := dk_47 (dk_at dksX1_testsBy_3 17 rfl rfl)
theorem dX1_testsBy_87 : decode cX1_testsBy 87 = .ok (.aload_n 0, 1) := dk_42 (dk_at dksX1_testsBy_3 18 rfl rfl)
theorem dX1_testsBy_88 : decode cX1_testsBy 88 = .ok (.getfield 110, 3) := dk_180 0 110 (dk_at dksX1_testsBy_3 19 rfl rfl)
theorem dX1_testsBy_91 : decode cX1_testsBy 91 = .ok (.iload 5, 2) := dk_21 5 (dk_at dksX1_testsBy_3 22 rfl rfl)
theorem dX1_testsBy_93 : decode cX1_testsBy 93 = .ok (.laload, 1) := dk_47 (dk_at dksX1_testsBy_4 0 rfl rfl)
theorem dX1_testsBy_94 : decode cX1_testsBy 94 = .ok (.lxor, 1) := dk_131 (dk_at dksX1_testsBy_4 1 rfl rfl)
theorem dX1_testsBy_95 : decode cX1_testsBy 95 = .ok (.goto 4, 3) := dk_167 0 4 (dk_at dksX1_testsBy_4 2 rfl rfl)
theorem dX1_testsBy_98 : decode cX1_testsBy 98 = .ok (.lconst 0, 1) := dk_9 (dk_at dksX1_testsBy_4 5 rfl rfl)
theorem dX1_testsBy_99 : decode cX1_testsBy 99 = .ok (.lor, 1) := dk_129 (dk_at dksX1_testsBy_4 6 rfl rfl)
theorem dX1_testsBy_100 : decode cX1_testsBy 100 = .ok (.lstore_n 3, 1) := dk_66 (dk_at dksX1_testsBy_4 7 rfl rfl)
theorem dX1_testsBy_101 : decode cX1_testsBy 101 = .ok (.iinc 5 1, 3) := dk_132 5 1 (dk_at dksX1_testsBy_4 8 rfl rfl)
theorem dX1_testsBy_104 : decode cX1_testsBy 104 = .ok (.goto (-52), 3) := dk_167 255 204 (dk_at dksX1_testsBy_4 11 rfl rfl)
theorem dX1_testsBy_107 : decode cX1_testsBy 107 = .ok (.lload_n 3, 1) := dk_33 (dk_at dksX1_testsBy_4 14 rfl rfl)
theorem dX1_testsBy_108 : decode cX1_testsBy 108 = .ok (.lreturn, 1) := dk_173 (dk_at dksX1_testsBy_4 15 rfl rfl)
abbrev cX1_layTables : ByteArray := prog_1_method_11_code
def yX1_layTables : MethodName := ⟨RX1, "layTables", "(II)V"⟩
def dkwX1_layTables_4 : List UInt8 := [16, 6, 29, 96, 28, 184, 0, 54, 80, 132, 3, 1, 167, 255, 184, 177]
abbrev dktX1_layTables_4 : List UInt8 := dkwX1_layTables_4 ++ []
def dkwX1_layTables_3 : List UInt8 := [180, 0, 23, 180, 0, 68, 29, 46, 47, 184, 0, 71, 55, 4, 42, 180, 0, 47, 16, 6, 29, 96, 22, 4]
abbrev dktX1_layTables_3 : List UInt8 := dkwX1_layTables_3 ++ dktX1_layTables_4
def dkwX1_layTables_2 : List UInt8 := [182, 0, 61, 42, 180, 0, 47, 42, 180, 0, 23, 180, 0, 65, 29, 46, 47, 42, 180, 0, 47, 42]
abbrev dktX1_layTables_2 : List UInt8 := dkwX1_layTables_2 ++ dktX1_layTables_3
def dkwX1_layTables_1 : List UInt8 := [132, 3, 1, 167, 255, 231, 3, 62, 29, 42, 180, 0, 23, 180, 0, 58, 162, 0, 67, 42, 29, 27]
abbrev dktX1_layTables_1 : List UInt8 := dkwX1_layTables_1 ++ dktX1_layTables_2
def dkwX1_layTables_0 : List UInt8 := [3, 62, 29, 16, 6, 162, 0, 25, 42, 180, 0, 47, 29, 178, 0, 51, 29, 47, 29, 28, 184, 0, 54, 80]
abbrev dktX1_layTables_0 : List UInt8 := dkwX1_layTables_0 ++ dktX1_layTables_1
theorem dksX1_layTables_0 : cX1_layTables.data.toList.drop 0 = dktX1_layTables_0 := by decide +kernel
theorem dksX1_layTables_1 : cX1_layTables.data.toList.drop 24 = dktX1_layTables_1 := dk_seg dksX1_layTables_0 24 rfl rfl
theorem dksX1_layTables_2 : cX1_layTables.data.toList.drop 46 = dktX1_layTables_2 := dk_seg dksX1_layTables_1 22 rfl rfl
theorem dksX1_layTables_3 : cX1_layTables.data.toList.drop 68 = dktX1_layTables_3 := dk_seg dksX1_layTables_2 22 rfl rfl
theorem dksX1_layTables_4 : cX1_layTables.data.toList.drop 92 = dktX1_layTables_4 := dk_seg dksX1_layTables_3 24 rfl rfl
theorem dX1_layTables_0 : decode cX1_layTables 0 = .ok (.iconst 0, 1) := dk_3 (dk_at dksX1_layTables_0 0 rfl rfl)
theorem dX1_layTables_1 : decode cX1_layTables 1 = .ok (.istore_n 3, 1) := dk_62 (dk_at dksX1_layTables_0 1 rfl rfl)
theorem dX1_layTables_2 : decode cX1_layTables 2 = .ok (.iload_n 3, 1) := dk_29 (dk_at dksX1_layTables_0 2 rfl rfl)
theorem dX1_layTables_3 : decode cX1_layTables 3 = .ok (.bipush 6, 2) := dk_16 6 (dk_at dksX1_layTables_0 3 rfl rfl)
theorem dX1_layTables_5 : decode cX1_layTables 5 = .ok (.if_icmp .ge 25, 3) := dk_162 0 25 (dk_at dksX1_layTables_0 5 rfl rfl)
theorem dX1_layTables_8 : decode cX1_layTables 8 = .ok (.aload_n 0, 1) := dk_42 (dk_at dksX1_layTables_0 8 rfl rfl)
theorem dX1_layTables_9 : decode cX1_layTables 9 = .ok (.getfield 47, 3) := dk_180 0 47 (dk_at dksX1_layTables_0 9 rfl rfl)
theorem dX1_layTables_12 : decode cX1_layTables 12 = .ok (.iload_n 3, 1) := dk_29 (dk_at dksX1_layTables_0 12 rfl rfl)
theorem dX1_layTables_13 : decode cX1_layTables 13 = .ok (.getstatic 51, 3) := dk_178 0 51 (dk_at dksX1_layTables_0 13 rfl rfl)
theorem dX1_layTables_16 : decode cX1_layTables 16 = .ok (.iload_n 3, 1) := dk_29 (dk_at dksX1_layTables_0 16 rfl rfl)
theorem dX1_layTables_17 : decode cX1_layTables 17 = .ok (.laload, 1) := dk_47 (dk_at dksX1_layTables_0 17 rfl rfl)
theorem dX1_layTables_18 : decode cX1_layTables 18 = .ok (.iload_n 3, 1) := dk_29 (dk_at dksX1_layTables_0 18 rfl rfl)
theorem dX1_layTables_19 : decode cX1_layTables 19 = .ok (.iload_n 2, 1) := dk_28 (dk_at dksX1_layTables_0 19 rfl rfl)
theorem dX1_layTables_20 : decode cX1_layTables 20 = .ok (.invokestatic 54, 3) := dk_184 0 54 (dk_at dksX1_layTables_0 20 rfl rfl)
theorem dX1_layTables_23 : decode cX1_layTables 23 = .ok (.lastore, 1) := dk_80 (dk_at dksX1_layTables_0 23 rfl rfl)
theorem dX1_layTables_24 : decode cX1_layTables 24 = .ok (.iinc 3 1, 3) := dk_132 3 1 (dk_at dksX1_layTables_1 0 rfl rfl)
theorem dX1_layTables_27 : decode cX1_layTables 27 = .ok (.goto (-25), 3) := dk_167 255 231 (dk_at dksX1_layTables_1 3 rfl rfl)
theorem dX1_layTables_30 : decode cX1_layTables 30 = .ok (.iconst 0, 1) := dk_3 (dk_at dksX1_layTables_1 6 rfl rfl)
theorem dX1_layTables_31 : decode cX1_layTables 31 = .ok (.istore_n 3, 1) := dk_62 (dk_at dksX1_layTables_1 7 rfl rfl)
theorem dX1_layTables_32 : decode cX1_layTables 32 = .ok (.iload_n 3, 1) := dk_29 (dk_at dksX1_layTables_1 8 rfl rfl)
theorem dX1_layTables_33 : decode cX1_layTables 33 = .ok (.aload_n 0, 1) := dk_42 (dk_at dksX1_layTables_1 9 rfl rfl)
theorem dX1_layTables_34 : decode cX1_layTables 34 = .ok (.getfield 23, 3) := dk_180 0 23 (dk_at dksX1_layTables_1 10 rfl rfl)
theorem dX1_layTables_37 : decode cX1_layTables 37 = .ok (.getfield 58, 3) := dk_180 0 58 (dk_at dksX1_layTables_1 13 rfl rfl)
theorem dX1_layTables_40 : decode cX1_layTables 40 = .ok (.if_icmp .ge 67, 3) := dk_162 0 67 (dk_at dksX1_layTables_1 16 rfl rfl)
theorem dX1_layTables_43 : decode cX1_layTables 43 = .ok (.aload_n 0, 1) := dk_42 (dk_at dksX1_layTables_1 19 rfl rfl)
theorem dX1_layTables_44 : decode cX1_layTables 44 = .ok (.iload_n 3, 1) := dk_29 (dk_at dksX1_layTables_1 20 rfl rfl)
theorem dX1_layTables_45 : decode cX1_layTables 45 = .ok (.iload_n 1, 1) := dk_27 (dk_at dksX1_layTables_1 21 rfl rfl)
theorem dX1_layTables_46 : decode cX1_layTables 46 = .ok (.invokevirtual 61, 3) := dk_182 0 61 (dk_at dksX1_layTables_2 0 rfl rfl)
theorem dX1_layTables_49 : decode cX1_layTables 49 = .ok (.aload_n 0, 1) := dk_42 (dk_at dksX1_layTables_2 3 rfl rfl)
theorem dX1_layTables_50 : decode cX1_layTables 50 = .ok (.getfield 47, 3) := dk_180 0 47 (dk_at dksX1_layTables_2 4 rfl rfl)
theorem dX1_layTables_53 : decode cX1_layTables 53 = .ok (.aload_n 0, 1) := dk_42 (dk_at dksX1_layTables_2 7 rfl rfl)
theorem dX1_layTables_54 : decode cX1_layTables 54 = .ok (.getfield 23, 3) := dk_180 0 23 (dk_at dksX1_layTables_2 8 rfl rfl)
theorem dX1_layTables_57 : decode cX1_layTables 57 = .ok (.getfield 65, 3) := dk_180 0 65 (dk_at dksX1_layTables_2 11 rfl rfl)
theorem dX1_layTables_60 : decode cX1_layTables 60 = .ok (.iload_n 3, 1) := dk_29 (dk_at dksX1_layTables_2 14 rfl rfl)
theorem dX1_layTables_61 : decode cX1_layTables 61 = .ok (.iaload, 1) := dk_46 (dk_at dksX1_layTables_2 15 rfl rfl)
theorem dX1_layTables_62 : decode cX1_layTables 62 = .ok (.laload, 1) := dk_47 (dk_at dksX1_layTables_2 16 rfl rfl)
theorem dX1_layTables_63 : decode cX1_layTables 63 = .ok (.aload_n 0, 1) := dk_42 (dk_at dksX1_layTables_2 17 rfl rfl)
theorem dX1_layTables_64 : decode cX1_layTables 64 = .ok (.getfield 47, 3) := dk_180 0 47 (dk_at dksX1_layTables_2 18 rfl rfl)
theorem dX1_layTables_67 : decode cX1_layTables 67 = .ok (.aload_n 0, 1) := dk_42 (dk_at dksX1_layTables_2 21 rfl rfl)
theorem dX1_layTables_68 : decode cX1_layTables 68 = .ok (.getfield 23, 3) := dk_180 0 23 (dk_at dksX1_layTables_3 0 rfl rfl)
theorem dX1_layTables_71 : decode cX1_layTables 71 = .ok (.getfield 68, 3) := dk_180 0 68 (dk_at dksX1_layTables_3 3 rfl rfl)
theorem dX1_layTables_74 : decode cX1_layTables 74 = .ok (.iload_n 3, 1) := dk_29 (dk_at dksX1_layTables_3 6 rfl rfl)
theorem dX1_layTables_75 : decode cX1_layTables 75 = .ok (.iaload, 1) := dk_46 (dk_at dksX1_layTables_3 7 rfl rfl)
theorem dX1_layTables_76 : decode cX1_layTables 76 = .ok (.laload, 1) := dk_47 (dk_at dksX1_layTables_3 8 rfl rfl)
theorem dX1_layTables_77 : decode cX1_layTables 77 = .ok (.invokestatic 71, 3) := dk_184 0 71 (dk_at dksX1_layTables_3 9 rfl rfl)
theorem dX1_layTables_80 : decode cX1_layTables 80 = .ok (.lstore 4, 2) := dk_55 4 (dk_at dksX1_layTables_3 12 rfl rfl)
theorem dX1_layTables_82 : decode cX1_layTables 82 = .ok (.aload_n 0, 1) := dk_42 (dk_at dksX1_layTables_3 14 rfl rfl)
theorem dX1_layTables_83 : decode cX1_layTables 83 = .ok (.getfield 47, 3) := dk_180 0 47 (dk_at dksX1_layTables_3 15 rfl rfl)
theorem dX1_layTables_86 : decode cX1_layTables 86 = .ok (.bipush 6, 2) := dk_16 6 (dk_at dksX1_layTables_3 18 rfl rfl)
theorem dX1_layTables_88 : decode cX1_layTables 88 = .ok (.iload_n 3, 1) := dk_29 (dk_at dksX1_layTables_3 20 rfl rfl)
theorem dX1_layTables_89 : decode cX1_layTables 89 = .ok (.iadd, 1) := dk_96 (dk_at dksX1_layTables_3 21 rfl rfl)
theorem dX1_layTables_90 : decode cX1_layTables 90 = .ok (.lload 4, 2) := dk_22 4 (dk_at dksX1_layTables_3 22 rfl rfl)
theorem dX1_layTables_92 : decode cX1_layTables 92 = .ok (.bipush 6, 2) := dk_16 6 (dk_at dksX1_layTables_4 0 rfl rfl)
theorem dX1_layTables_94 : decode cX1_layTables 94 = .ok (.iload_n 3, 1) := dk_29 (dk_at dksX1_layTables_4 2 rfl rfl)
theorem dX1_layTables_95 : decode cX1_layTables 95 = .ok (.iadd, 1) := dk_96 (dk_at dksX1_layTables_4 3 rfl rfl)
theorem dX1_layTables_96 : decode cX1_layTables 96 = .ok (.iload_n 2, 1) := dk_28 (dk_at dksX1_layTables_4 4 rfl rfl)
theorem dX1_layTables_97 : decode cX1_layTables 97 = .ok (.invokestatic 54, 3) := dk_184 0 54 (dk_at dksX1_layTables_4 5 rfl rfl)
theorem dX1_layTables_100 : decode cX1_layTables 100 = .ok (.lastore, 1) := dk_80 (dk_at dksX1_layTables_4 8 rfl rfl)
theorem dX1_layTables_101 : decode cX1_layTables 101 = .ok (.iinc 3 1, 3) := dk_132 3 1 (dk_at dksX1_layTables_4 9 rfl rfl)
theorem dX1_layTables_104 : decode cX1_layTables 104 = .ok (.goto (-72), 3) := dk_167 255 184 (dk_at dksX1_layTables_4 12 rfl rfl)
theorem dX1_layTables_107 : decode cX1_layTables 107 = .ok (.return_, 1) := dk_177 (dk_at dksX1_layTables_4 15 rfl rfl)
abbrev cX1_stuck : ByteArray := prog_1_method_9_code
def yX1_stuck : MethodName := ⟨RX1, "stuck", "(JII)J"⟩
def dkwX1_stuck_0 : List UInt8 := [29, 2, 159, 0, 18, 29, 5, 108, 28, 160, 0, 11, 29, 5, 112, 133, 117, 167, 0, 4, 30, 173]
abbrev dktX1_stuck_0 : List UInt8 := dkwX1_stuck_0 ++ []
theorem dksX1_stuck_0 : cX1_stuck.data.toList.drop 0 = dktX1_stuck_0 := by decide +kernel
theorem dX1_stuck_0 : decode cX1_stuck 0 = .ok (.iload_n 3, 1) := dk_29 (dk_at dksX1_stuck_0 0 rfl rfl)
theorem dX1_stuck_1 : decode cX1_stuck 1 = .ok (.iconst (-1), 1) := dk_2 (dk_at dksX1_stuck_0 1 rfl rfl)
theorem dX1_stuck_2 : decode cX1_stuck 2 = .ok (.if_icmp .eq 18, 3) := dk_159 0 18 (dk_at dksX1_stuck_0 2 rfl rfl)
theorem dX1_stuck_5 : decode cX1_stuck 5 = .ok (.iload_n 3, 1) := dk_29 (dk_at dksX1_stuck_0 5 rfl rfl)
theorem dX1_stuck_6 : decode cX1_stuck 6 = .ok (.iconst 2, 1) := dk_5 (dk_at dksX1_stuck_0 6 rfl rfl)
theorem dX1_stuck_7 : decode cX1_stuck 7 = .ok (.idiv, 1) := dk_108 (dk_at dksX1_stuck_0 7 rfl rfl)
theorem dX1_stuck_8 : decode cX1_stuck 8 = .ok (.iload_n 2, 1) := dk_28 (dk_at dksX1_stuck_0 8 rfl rfl)
theorem dX1_stuck_9 : decode cX1_stuck 9 = .ok (.if_icmp .ne 11, 3) := dk_160 0 11 (dk_at dksX1_stuck_0 9 rfl rfl)
theorem dX1_stuck_12 : decode cX1_stuck 12 = .ok (.iload_n 3, 1) := dk_29 (dk_at dksX1_stuck_0 12 rfl rfl)
theorem dX1_stuck_13 : decode cX1_stuck 13 = .ok (.iconst 2, 1) := dk_5 (dk_at dksX1_stuck_0 13 rfl rfl)
theorem dX1_stuck_14 : decode cX1_stuck 14 = .ok (.irem, 1) := dk_112 (dk_at dksX1_stuck_0 14 rfl rfl)
theorem dX1_stuck_15 : decode cX1_stuck 15 = .ok (.i2l, 1) := dk_133 (dk_at dksX1_stuck_0 15 rfl rfl)
theorem dX1_stuck_16 : decode cX1_stuck 16 = .ok (.lneg, 1) := dk_117 (dk_at dksX1_stuck_0 16 rfl rfl)
theorem dX1_stuck_17 : decode cX1_stuck 17 = .ok (.goto 4, 3) := dk_167 0 4 (dk_at dksX1_stuck_0 17 rfl rfl)
theorem dX1_stuck_20 : decode cX1_stuck 20 = .ok (.lload_n 0, 1) := dk_30 (dk_at dksX1_stuck_0 20 rfl rfl)
theorem dX1_stuck_21 : decode cX1_stuck 21 = .ok (.lreturn, 1) := dk_173 (dk_at dksX1_stuck_0 21 rfl rfl)
abbrev cX1_kindBy : ByteArray := prog_1_method_10_code
def yX1_kindBy : MethodName := ⟨RX1, "kindBy", "(II)I"⟩
def dkwX1_kindBy_2 : List UInt8 := [54, 4, 21, 4, 158, 0, 14, 29, 16, 6, 108, 62, 132, 4, 255, 167, 255, 243, 29, 16, 6, 112, 172]
abbrev dktX1_kindBy_2 : List UInt8 := dkwX1_kindBy_2 ++ []
def dkwX1_kindBy_1 : List UInt8 := [180, 0, 37, 27, 46, 172, 28, 62, 42, 180, 0, 23, 180, 0, 27, 4, 27, 120, 4, 100, 126, 184, 0, 41]
abbrev dktX1_kindBy_1 : List UInt8 := dkwX1_kindBy_1 ++ dktX1_kindBy_2
def dkwX1_kindBy_0 : List UInt8 := [28, 2, 159, 0, 17, 42, 180, 0, 23, 180, 0, 27, 27, 184, 0, 33, 154, 0, 13, 42, 180, 0, 23]
abbrev dktX1_kindBy_0 : List UInt8 := dkwX1_kindBy_0 ++ dktX1_kindBy_1
theorem dksX1_kindBy_0 : cX1_kindBy.data.toList.drop 0 = dktX1_kindBy_0 := by decide +kernel
theorem dksX1_kindBy_1 : cX1_kindBy.data.toList.drop 23 = dktX1_kindBy_1 := dk_seg dksX1_kindBy_0 23 rfl rfl
theorem dksX1_kindBy_2 : cX1_kindBy.data.toList.drop 47 = dktX1_kindBy_2 := dk_seg dksX1_kindBy_1 24 rfl rfl
theorem dX1_kindBy_0 : decode cX1_kindBy 0 = .ok (.iload_n 2, 1) := dk_28 (dk_at dksX1_kindBy_0 0 rfl rfl)
theorem dX1_kindBy_1 : decode cX1_kindBy 1 = .ok (.iconst (-1), 1) := dk_2 (dk_at dksX1_kindBy_0 1 rfl rfl)
theorem dX1_kindBy_2 : decode cX1_kindBy 2 = .ok (.if_icmp .eq 17, 3) := dk_159 0 17 (dk_at dksX1_kindBy_0 2 rfl rfl)
theorem dX1_kindBy_5 : decode cX1_kindBy 5 = .ok (.aload_n 0, 1) := dk_42 (dk_at dksX1_kindBy_0 5 rfl rfl)
theorem dX1_kindBy_6 : decode cX1_kindBy 6 = .ok (.getfield 23, 3) := dk_180 0 23 (dk_at dksX1_kindBy_0 6 rfl rfl)
theorem dX1_kindBy_9 : decode cX1_kindBy 9 = .ok (.getfield 27, 3) := dk_180 0 27 (dk_at dksX1_kindBy_0 9 rfl rfl)
theorem dX1_kindBy_12 : decode cX1_kindBy 12 = .ok (.iload_n 1, 1) := dk_27 (dk_at dksX1_kindBy_0 12 rfl rfl)
theorem dX1_kindBy_13 : decode cX1_kindBy 13 = .ok (.invokestatic 33, 3) := dk_184 0 33 (dk_at dksX1_kindBy_0 13 rfl rfl)
theorem dX1_kindBy_16 : decode cX1_kindBy 16 = .ok (.ifCond .ne 13, 3) := dk_154 0 13 (dk_at dksX1_kindBy_0 16 rfl rfl)
theorem dX1_kindBy_19 : decode cX1_kindBy 19 = .ok (.aload_n 0, 1) := dk_42 (dk_at dksX1_kindBy_0 19 rfl rfl)
theorem dX1_kindBy_20 : decode cX1_kindBy 20 = .ok (.getfield 23, 3) := dk_180 0 23 (dk_at dksX1_kindBy_0 20 rfl rfl)
theorem dX1_kindBy_23 : decode cX1_kindBy 23 = .ok (.getfield 37, 3) := dk_180 0 37 (dk_at dksX1_kindBy_1 0 rfl rfl)
theorem dX1_kindBy_26 : decode cX1_kindBy 26 = .ok (.iload_n 1, 1) := dk_27 (dk_at dksX1_kindBy_1 3 rfl rfl)
theorem dX1_kindBy_27 : decode cX1_kindBy 27 = .ok (.iaload, 1) := dk_46 (dk_at dksX1_kindBy_1 4 rfl rfl)
theorem dX1_kindBy_28 : decode cX1_kindBy 28 = .ok (.ireturn, 1) := dk_172 (dk_at dksX1_kindBy_1 5 rfl rfl)
theorem dX1_kindBy_29 : decode cX1_kindBy 29 = .ok (.iload_n 2, 1) := dk_28 (dk_at dksX1_kindBy_1 6 rfl rfl)
theorem dX1_kindBy_30 : decode cX1_kindBy 30 = .ok (.istore_n 3, 1) := dk_62 (dk_at dksX1_kindBy_1 7 rfl rfl)
theorem dX1_kindBy_31 : decode cX1_kindBy 31 = .ok (.aload_n 0, 1) := dk_42 (dk_at dksX1_kindBy_1 8 rfl rfl)
theorem dX1_kindBy_32 : decode cX1_kindBy 32 = .ok (.getfield 23, 3) := dk_180 0 23 (dk_at dksX1_kindBy_1 9 rfl rfl)
theorem dX1_kindBy_35 : decode cX1_kindBy 35 = .ok (.getfield 27, 3) := dk_180 0 27 (dk_at dksX1_kindBy_1 12 rfl rfl)
theorem dX1_kindBy_38 : decode cX1_kindBy 38 = .ok (.iconst 1, 1) := dk_4 (dk_at dksX1_kindBy_1 15 rfl rfl)
theorem dX1_kindBy_39 : decode cX1_kindBy 39 = .ok (.iload_n 1, 1) := dk_27 (dk_at dksX1_kindBy_1 16 rfl rfl)
theorem dX1_kindBy_40 : decode cX1_kindBy 40 = .ok (.ishl, 1) := dk_120 (dk_at dksX1_kindBy_1 17 rfl rfl)
theorem dX1_kindBy_41 : decode cX1_kindBy 41 = .ok (.iconst 1, 1) := dk_4 (dk_at dksX1_kindBy_1 18 rfl rfl)
theorem dX1_kindBy_42 : decode cX1_kindBy 42 = .ok (.isub, 1) := dk_100 (dk_at dksX1_kindBy_1 19 rfl rfl)
theorem dX1_kindBy_43 : decode cX1_kindBy 43 = .ok (.iand, 1) := dk_126 (dk_at dksX1_kindBy_1 20 rfl rfl)
theorem dX1_kindBy_44 : decode cX1_kindBy 44 = .ok (.invokestatic 41, 3) := dk_184 0 41 (dk_at dksX1_kindBy_1 21 rfl rfl)
theorem dX1_kindBy_47 : decode cX1_kindBy 47 = .ok (.istore 4, 2) := dk_54 4 (dk_at dksX1_kindBy_2 0 rfl rfl)
theorem dX1_kindBy_49 : decode cX1_kindBy 49 = .ok (.iload 4, 2) := dk_21 4 (dk_at dksX1_kindBy_2 2 rfl rfl)
theorem dX1_kindBy_51 : decode cX1_kindBy 51 = .ok (.ifCond .le 14, 3) := dk_158 0 14 (dk_at dksX1_kindBy_2 4 rfl rfl)
theorem dX1_kindBy_54 : decode cX1_kindBy 54 = .ok (.iload_n 3, 1) := dk_29 (dk_at dksX1_kindBy_2 7 rfl rfl)
theorem dX1_kindBy_55 : decode cX1_kindBy 55 = .ok (.bipush 6, 2) := dk_16 6 (dk_at dksX1_kindBy_2 8 rfl rfl)
theorem dX1_kindBy_57 : decode cX1_kindBy 57 = .ok (.idiv, 1) := dk_108 (dk_at dksX1_kindBy_2 10 rfl rfl)
theorem dX1_kindBy_58 : decode cX1_kindBy 58 = .ok (.istore_n 3, 1) := dk_62 (dk_at dksX1_kindBy_2 11 rfl rfl)
theorem dX1_kindBy_59 : decode cX1_kindBy 59 = .ok (.iinc 4 (-1), 3) := dk_132 4 255 (dk_at dksX1_kindBy_2 12 rfl rfl)
theorem dX1_kindBy_62 : decode cX1_kindBy 62 = .ok (.goto (-13), 3) := dk_167 255 243 (dk_at dksX1_kindBy_2 15 rfl rfl)
theorem dX1_kindBy_65 : decode cX1_kindBy 65 = .ok (.iload_n 3, 1) := dk_29 (dk_at dksX1_kindBy_2 18 rfl rfl)
theorem dX1_kindBy_66 : decode cX1_kindBy 66 = .ok (.bipush 6, 2) := dk_16 6 (dk_at dksX1_kindBy_2 19 rfl rfl)
theorem dX1_kindBy_68 : decode cX1_kindBy 68 = .ok (.irem, 1) := dk_112 (dk_at dksX1_kindBy_2 21 rfl rfl)
theorem dX1_kindBy_69 : decode cX1_kindBy 69 = .ok (.ireturn, 1) := dk_172 (dk_at dksX1_kindBy_2 22 rfl rfl)
abbrev cX1_isIn : ByteArray := prog_1_method_5_code
def yX1_isIn : MethodName := ⟨RX1, "isIn", "(II)Z"⟩
def dkwX1_isIn_0 : List UInt8 := [26, 27, 122, 4, 126, 4, 160, 0, 7, 4, 167, 0, 4, 3, 172]
abbrev dktX1_isIn_0 : List UInt8 := dkwX1_isIn_0 ++ []
theorem dksX1_isIn_0 : cX1_isIn.data.toList.drop 0 = dktX1_isIn_0 := by decide +kernel
theorem dX1_isIn_0 : decode cX1_isIn 0 = .ok (.iload_n 0, 1) := dk_26 (dk_at dksX1_isIn_0 0 rfl rfl)
theorem dX1_isIn_1 : decode cX1_isIn 1 = .ok (.iload_n 1, 1) := dk_27 (dk_at dksX1_isIn_0 1 rfl rfl)
theorem dX1_isIn_2 : decode cX1_isIn 2 = .ok (.ishr, 1) := dk_122 (dk_at dksX1_isIn_0 2 rfl rfl)
theorem dX1_isIn_3 : decode cX1_isIn 3 = .ok (.iconst 1, 1) := dk_4 (dk_at dksX1_isIn_0 3 rfl rfl)
theorem dX1_isIn_4 : decode cX1_isIn 4 = .ok (.iand, 1) := dk_126 (dk_at dksX1_isIn_0 4 rfl rfl)
theorem dX1_isIn_5 : decode cX1_isIn 5 = .ok (.iconst 1, 1) := dk_4 (dk_at dksX1_isIn_0 5 rfl rfl)
theorem dX1_isIn_6 : decode cX1_isIn 6 = .ok (.if_icmp .ne 7, 3) := dk_160 0 7 (dk_at dksX1_isIn_0 6 rfl rfl)
theorem dX1_isIn_9 : decode cX1_isIn 9 = .ok (.iconst 1, 1) := dk_4 (dk_at dksX1_isIn_0 9 rfl rfl)
theorem dX1_isIn_10 : decode cX1_isIn 10 = .ok (.goto 4, 3) := dk_167 0 4 (dk_at dksX1_isIn_0 10 rfl rfl)
theorem dX1_isIn_13 : decode cX1_isIn 13 = .ok (.iconst 0, 1) := dk_3 (dk_at dksX1_isIn_0 13 rfl rfl)
theorem dX1_isIn_14 : decode cX1_isIn 14 = .ok (.ireturn, 1) := dk_172 (dk_at dksX1_isIn_0 14 rfl rfl)
abbrev cX1_gateTable : ByteArray := prog_1_method_7_code
def yX1_gateTable : MethodName := ⟨RX1, "gateTable", "(IJJ)J"⟩
def dkwX1_gateTable_3 : List UInt8 := [20, 0, 21, 131, 173, 31, 33, 131, 20, 0, 21, 131, 173, 31, 20, 0, 21, 131, 173, 31, 173]
abbrev dktX1_gateTable_3 : List UInt8 := dkwX1_gateTable_3 ++ []
def dkwX1_gateTable_2 : List UInt8 := [31, 33, 127, 173, 31, 33, 129, 173, 31, 33, 131, 173, 31, 33, 127, 20, 0, 21, 131, 173, 31, 33, 129]
abbrev dktX1_gateTable_2 : List UInt8 := dkwX1_gateTable_2 ++ dktX1_gateTable_3
def dkwX1_gateTable_1 : List UInt8 := [170, 0, 0, 0, 0, 0, 85, 0, 0, 0, 0, 0, 0, 0, 6, 0, 0, 0, 43, 0, 0, 0, 47, 0, 0, 0, 51, 0, 0, 0, 55, 0, 0, 0, 63, 0, 0, 0, 71, 0, 0, 0, 79]
abbrev dktX1_gateTable_1 : List UInt8 := dkwX1_gateTable_1 ++ dktX1_gateTable_2
def dkwX1_gateTable_0 : List UInt8 := [26]
abbrev dktX1_gateTable_0 : List UInt8 := dkwX1_gateTable_0 ++ dktX1_gateTable_1
theorem dksX1_gateTable_0 : cX1_gateTable.data.toList.drop 0 = dktX1_gateTable_0 := by decide +kernel
theorem dksX1_gateTable_1 : cX1_gateTable.data.toList.drop 1 = dktX1_gateTable_1 := dk_seg dksX1_gateTable_0 1 rfl rfl
theorem dksX1_gateTable_2 : cX1_gateTable.data.toList.drop 44 = dktX1_gateTable_2 := dk_seg dksX1_gateTable_1 43 rfl rfl
theorem dksX1_gateTable_3 : cX1_gateTable.data.toList.drop 67 = dktX1_gateTable_3 := dk_seg dksX1_gateTable_2 23 rfl rfl
theorem dX1_gateTable_0 : decode cX1_gateTable 0 = .ok (.iload_n 0, 1) := dk_26 (dk_at dksX1_gateTable_0 0 rfl rfl)
theorem dX1_gateTable_1 : decode cX1_gateTable 1 = .ok (.tableswitch 85 0 6 #[43, 47, 51, 55, 63, 71, 79], 43) := by decide +kernel
theorem dX1_gateTable_44 : decode cX1_gateTable 44 = .ok (.lload_n 1, 1) := dk_31 (dk_at dksX1_gateTable_2 0 rfl rfl)
theorem dX1_gateTable_45 : decode cX1_gateTable 45 = .ok (.lload_n 3, 1) := dk_33 (dk_at dksX1_gateTable_2 1 rfl rfl)
theorem dX1_gateTable_46 : decode cX1_gateTable 46 = .ok (.land, 1) := dk_127 (dk_at dksX1_gateTable_2 2 rfl rfl)
theorem dX1_gateTable_47 : decode cX1_gateTable 47 = .ok (.lreturn, 1) := dk_173 (dk_at dksX1_gateTable_2 3 rfl rfl)
theorem dX1_gateTable_48 : decode cX1_gateTable 48 = .ok (.lload_n 1, 1) := dk_31 (dk_at dksX1_gateTable_2 4 rfl rfl)
theorem dX1_gateTable_49 : decode cX1_gateTable 49 = .ok (.lload_n 3, 1) := dk_33 (dk_at dksX1_gateTable_2 5 rfl rfl)
theorem dX1_gateTable_50 : decode cX1_gateTable 50 = .ok (.lor, 1) := dk_129 (dk_at dksX1_gateTable_2 6 rfl rfl)
theorem dX1_gateTable_51 : decode cX1_gateTable 51 = .ok (.lreturn, 1) := dk_173 (dk_at dksX1_gateTable_2 7 rfl rfl)
theorem dX1_gateTable_52 : decode cX1_gateTable 52 = .ok (.lload_n 1, 1) := dk_31 (dk_at dksX1_gateTable_2 8 rfl rfl)
theorem dX1_gateTable_53 : decode cX1_gateTable 53 = .ok (.lload_n 3, 1) := dk_33 (dk_at dksX1_gateTable_2 9 rfl rfl)
theorem dX1_gateTable_54 : decode cX1_gateTable 54 = .ok (.lxor, 1) := dk_131 (dk_at dksX1_gateTable_2 10 rfl rfl)
theorem dX1_gateTable_55 : decode cX1_gateTable 55 = .ok (.lreturn, 1) := dk_173 (dk_at dksX1_gateTable_2 11 rfl rfl)
theorem dX1_gateTable_56 : decode cX1_gateTable 56 = .ok (.lload_n 1, 1) := dk_31 (dk_at dksX1_gateTable_2 12 rfl rfl)
theorem dX1_gateTable_57 : decode cX1_gateTable 57 = .ok (.lload_n 3, 1) := dk_33 (dk_at dksX1_gateTable_2 13 rfl rfl)
theorem dX1_gateTable_58 : decode cX1_gateTable 58 = .ok (.land, 1) := dk_127 (dk_at dksX1_gateTable_2 14 rfl rfl)
theorem dX1_gateTable_59 : decode cX1_gateTable 59 = .ok (.ldc2_w 21, 3) := dk_20 0 21 (dk_at dksX1_gateTable_2 15 rfl rfl)
theorem dX1_gateTable_62 : decode cX1_gateTable 62 = .ok (.lxor, 1) := dk_131 (dk_at dksX1_gateTable_2 18 rfl rfl)
theorem dX1_gateTable_63 : decode cX1_gateTable 63 = .ok (.lreturn, 1) := dk_173 (dk_at dksX1_gateTable_2 19 rfl rfl)
theorem dX1_gateTable_64 : decode cX1_gateTable 64 = .ok (.lload_n 1, 1) := dk_31 (dk_at dksX1_gateTable_2 20 rfl rfl)
theorem dX1_gateTable_65 : decode cX1_gateTable 65 = .ok (.lload_n 3, 1) := dk_33 (dk_at dksX1_gateTable_2 21 rfl rfl)
theorem dX1_gateTable_66 : decode cX1_gateTable 66 = .ok (.lor, 1) := dk_129 (dk_at dksX1_gateTable_2 22 rfl rfl)
theorem dX1_gateTable_67 : decode cX1_gateTable 67 = .ok (.ldc2_w 21, 3) := dk_20 0 21 (dk_at dksX1_gateTable_3 0 rfl rfl)
theorem dX1_gateTable_70 : decode cX1_gateTable 70 = .ok (.lxor, 1) := dk_131 (dk_at dksX1_gateTable_3 3 rfl rfl)
theorem dX1_gateTable_71 : decode cX1_gateTable 71 = .ok (.lreturn, 1) := dk_173 (dk_at dksX1_gateTable_3 4 rfl rfl)
theorem dX1_gateTable_72 : decode cX1_gateTable 72 = .ok (.lload_n 1, 1) := dk_31 (dk_at dksX1_gateTable_3 5 rfl rfl)
theorem dX1_gateTable_73 : decode cX1_gateTable 73 = .ok (.lload_n 3, 1) := dk_33 (dk_at dksX1_gateTable_3 6 rfl rfl)
theorem dX1_gateTable_74 : decode cX1_gateTable 74 = .ok (.lxor, 1) := dk_131 (dk_at dksX1_gateTable_3 7 rfl rfl)
theorem dX1_gateTable_75 : decode cX1_gateTable 75 = .ok (.ldc2_w 21, 3) := dk_20 0 21 (dk_at dksX1_gateTable_3 8 rfl rfl)
theorem dX1_gateTable_78 : decode cX1_gateTable 78 = .ok (.lxor, 1) := dk_131 (dk_at dksX1_gateTable_3 11 rfl rfl)
theorem dX1_gateTable_79 : decode cX1_gateTable 79 = .ok (.lreturn, 1) := dk_173 (dk_at dksX1_gateTable_3 12 rfl rfl)
theorem dX1_gateTable_80 : decode cX1_gateTable 80 = .ok (.lload_n 1, 1) := dk_31 (dk_at dksX1_gateTable_3 13 rfl rfl)
theorem dX1_gateTable_81 : decode cX1_gateTable 81 = .ok (.ldc2_w 21, 3) := dk_20 0 21 (dk_at dksX1_gateTable_3 14 rfl rfl)
theorem dX1_gateTable_84 : decode cX1_gateTable 84 = .ok (.lxor, 1) := dk_131 (dk_at dksX1_gateTable_3 17 rfl rfl)
theorem dX1_gateTable_85 : decode cX1_gateTable 85 = .ok (.lreturn, 1) := dk_173 (dk_at dksX1_gateTable_3 18 rfl rfl)
theorem dX1_gateTable_86 : decode cX1_gateTable 86 = .ok (.lload_n 1, 1) := dk_31 (dk_at dksX1_gateTable_3 19 rfl rfl)
theorem dX1_gateTable_87 : decode cX1_gateTable 87 = .ok (.lreturn, 1) := dk_173 (dk_at dksX1_gateTable_3 20 rfl rfl)
abbrev cX1_isIn_2 : ByteArray := prog_1_method_6_code
def yX1_isIn_2 : MethodName := ⟨RX1, "isIn", "(JI)Z"⟩
def dkwX1_isIn_2_0 : List UInt8 := [30, 28, 123, 10, 127, 10, 148, 154, 0, 7, 4, 167, 0, 4, 3, 172]
abbrev dktX1_isIn_2_0 : List UInt8 := dkwX1_isIn_2_0 ++ []
theorem dksX1_isIn_2_0 : cX1_isIn_2.data.toList.drop 0 = dktX1_isIn_2_0 := by decide +kernel
theorem dX1_isIn_2_0 : decode cX1_isIn_2 0 = .ok (.lload_n 0, 1) := dk_30 (dk_at dksX1_isIn_2_0 0 rfl rfl)
theorem dX1_isIn_2_1 : decode cX1_isIn_2 1 = .ok (.iload_n 2, 1) := dk_28 (dk_at dksX1_isIn_2_0 1 rfl rfl)
theorem dX1_isIn_2_2 : decode cX1_isIn_2 2 = .ok (.lshr, 1) := dk_123 (dk_at dksX1_isIn_2_0 2 rfl rfl)
theorem dX1_isIn_2_3 : decode cX1_isIn_2 3 = .ok (.lconst 1, 1) := dk_10 (dk_at dksX1_isIn_2_0 3 rfl rfl)
theorem dX1_isIn_2_4 : decode cX1_isIn_2 4 = .ok (.land, 1) := dk_127 (dk_at dksX1_isIn_2_0 4 rfl rfl)
theorem dX1_isIn_2_5 : decode cX1_isIn_2 5 = .ok (.lconst 1, 1) := dk_10 (dk_at dksX1_isIn_2_0 5 rfl rfl)
theorem dX1_isIn_2_6 : decode cX1_isIn_2 6 = .ok (.lcmp, 1) := dk_148 (dk_at dksX1_isIn_2_0 6 rfl rfl)
theorem dX1_isIn_2_7 : decode cX1_isIn_2 7 = .ok (.ifCond .ne 7, 3) := dk_154 0 7 (dk_at dksX1_isIn_2_0 7 rfl rfl)
theorem dX1_isIn_2_10 : decode cX1_isIn_2 10 = .ok (.iconst 1, 1) := dk_4 (dk_at dksX1_isIn_2_0 10 rfl rfl)
theorem dX1_isIn_2_11 : decode cX1_isIn_2 11 = .ok (.goto 4, 3) := dk_167 0 4 (dk_at dksX1_isIn_2_0 11 rfl rfl)
theorem dX1_isIn_2_14 : decode cX1_isIn_2 14 = .ok (.iconst 0, 1) := dk_3 (dk_at dksX1_isIn_2_0 14 rfl rfl)
theorem dX1_isIn_2_15 : decode cX1_isIn_2 15 = .ok (.ireturn, 1) := dk_172 (dk_at dksX1_isIn_2_0 15 rfl rfl)
abbrev cX1_strongest : ByteArray := prog_1_method_21_code
def yX1_strongest : MethodName := ⟨RX1, "strongest", "(J)I"⟩
def dkwX1_strongest_2 : List UInt8 := [167, 255, 213, 29, 172]
abbrev dktX1_strongest_2 : List UInt8 := dkwX1_strongest_2 ++ []
def dkwX1_strongest_1 : List UInt8 := [42, 180, 0, 113, 29, 47, 31, 127, 184, 0, 129, 164, 0, 8, 21, 4, 167, 0, 4, 29, 62, 132, 4, 1]
abbrev dktX1_strongest_1 : List UInt8 := dkwX1_strongest_1 ++ dktX1_strongest_2
def dkwX1_strongest_0 : List UInt8 := [3, 62, 4, 54, 4, 21, 4, 16, 64, 162, 0, 42, 42, 180, 0, 113, 21, 4, 47, 31, 127, 184, 0, 129]
abbrev dktX1_strongest_0 : List UInt8 := dkwX1_strongest_0 ++ dktX1_strongest_1
theorem dksX1_strongest_0 : cX1_strongest.data.toList.drop 0 = dktX1_strongest_0 := by decide +kernel
theorem dksX1_strongest_1 : cX1_strongest.data.toList.drop 24 = dktX1_strongest_1 := dk_seg dksX1_strongest_0 24 rfl rfl
theorem dksX1_strongest_2 : cX1_strongest.data.toList.drop 48 = dktX1_strongest_2 := dk_seg dksX1_strongest_1 24 rfl rfl
theorem dX1_strongest_0 : decode cX1_strongest 0 = .ok (.iconst 0, 1) := dk_3 (dk_at dksX1_strongest_0 0 rfl rfl)
theorem dX1_strongest_1 : decode cX1_strongest 1 = .ok (.istore_n 3, 1) := dk_62 (dk_at dksX1_strongest_0 1 rfl rfl)
theorem dX1_strongest_2 : decode cX1_strongest 2 = .ok (.iconst 1, 1) := dk_4 (dk_at dksX1_strongest_0 2 rfl rfl)
theorem dX1_strongest_3 : decode cX1_strongest 3 = .ok (.istore 4, 2) := dk_54 4 (dk_at dksX1_strongest_0 3 rfl rfl)
theorem dX1_strongest_5 : decode cX1_strongest 5 = .ok (.iload 4, 2) := dk_21 4 (dk_at dksX1_strongest_0 5 rfl rfl)
theorem dX1_strongest_7 : decode cX1_strongest 7 = .ok (.bipush 64, 2) := dk_16 64 (dk_at dksX1_strongest_0 7 rfl rfl)
theorem dX1_strongest_9 : decode cX1_strongest 9 = .ok (.if_icmp .ge 42, 3) := dk_162 0 42 (dk_at dksX1_strongest_0 9 rfl rfl)
theorem dX1_strongest_12 : decode cX1_strongest 12 = .ok (.aload_n 0, 1) := dk_42 (dk_at dksX1_strongest_0 12 rfl rfl)
theorem dX1_strongest_13 : decode cX1_strongest 13 = .ok (.getfield 113, 3) := dk_180 0 113 (dk_at dksX1_strongest_0 13 rfl rfl)
theorem dX1_strongest_16 : decode cX1_strongest 16 = .ok (.iload 4, 2) := dk_21 4 (dk_at dksX1_strongest_0 16 rfl rfl)
theorem dX1_strongest_18 : decode cX1_strongest 18 = .ok (.laload, 1) := dk_47 (dk_at dksX1_strongest_0 18 rfl rfl)
theorem dX1_strongest_19 : decode cX1_strongest 19 = .ok (.lload_n 1, 1) := dk_31 (dk_at dksX1_strongest_0 19 rfl rfl)
theorem dX1_strongest_20 : decode cX1_strongest 20 = .ok (.land, 1) := dk_127 (dk_at dksX1_strongest_0 20 rfl rfl)
theorem dX1_strongest_21 : decode cX1_strongest 21 = .ok (.invokestatic 129, 3) := dk_184 0 129 (dk_at dksX1_strongest_0 21 rfl rfl)
theorem dX1_strongest_24 : decode cX1_strongest 24 = .ok (.aload_n 0, 1) := dk_42 (dk_at dksX1_strongest_1 0 rfl rfl)
theorem dX1_strongest_25 : decode cX1_strongest 25 = .ok (.getfield 113, 3) := dk_180 0 113 (dk_at dksX1_strongest_1 1 rfl rfl)
theorem dX1_strongest_28 : decode cX1_strongest 28 = .ok (.iload_n 3, 1) := dk_29 (dk_at dksX1_strongest_1 4 rfl rfl)
theorem dX1_strongest_29 : decode cX1_strongest 29 = .ok (.laload, 1) := dk_47 (dk_at dksX1_strongest_1 5 rfl rfl)
theorem dX1_strongest_30 : decode cX1_strongest 30 = .ok (.lload_n 1, 1) := dk_31 (dk_at dksX1_strongest_1 6 rfl rfl)
theorem dX1_strongest_31 : decode cX1_strongest 31 = .ok (.land, 1) := dk_127 (dk_at dksX1_strongest_1 7 rfl rfl)
theorem dX1_strongest_32 : decode cX1_strongest 32 = .ok (.invokestatic 129, 3) := dk_184 0 129 (dk_at dksX1_strongest_1 8 rfl rfl)
theorem dX1_strongest_35 : decode cX1_strongest 35 = .ok (.if_icmp .le 8, 3) := dk_164 0 8 (dk_at dksX1_strongest_1 11 rfl rfl)
theorem dX1_strongest_38 : decode cX1_strongest 38 = .ok (.iload 4, 2) := dk_21 4 (dk_at dksX1_strongest_1 14 rfl rfl)
theorem dX1_strongest_40 : decode cX1_strongest 40 = .ok (.goto 4, 3) := dk_167 0 4 (dk_at dksX1_strongest_1 16 rfl rfl)
theorem dX1_strongest_43 : decode cX1_strongest 43 = .ok (.iload_n 3, 1) := dk_29 (dk_at dksX1_strongest_1 19 rfl rfl)
theorem dX1_strongest_44 : decode cX1_strongest 44 = .ok (.istore_n 3, 1) := dk_62 (dk_at dksX1_strongest_1 20 rfl rfl)
theorem dX1_strongest_45 : decode cX1_strongest 45 = .ok (.iinc 4 1, 3) := dk_132 4 1 (dk_at dksX1_strongest_1 21 rfl rfl)
theorem dX1_strongest_48 : decode cX1_strongest 48 = .ok (.goto (-43), 3) := dk_167 255 213 (dk_at dksX1_strongest_2 0 rfl rfl)
theorem dX1_strongest_51 : decode cX1_strongest 51 = .ok (.iload_n 3, 1) := dk_29 (dk_at dksX1_strongest_2 3 rfl rfl)
theorem dX1_strongest_52 : decode cX1_strongest 52 = .ok (.ireturn, 1) := dk_172 (dk_at dksX1_strongest_2 4 rfl rfl)
abbrev cX1_clearText : ByteArray := prog_1_method_53_code
def yX1_clearText : MethodName := ⟨RX1, "clearText", "()I"⟩
def dkwX1_clearText_0 : List UInt8 := [42, 180, 0, 203, 182, 1, 33, 60, 42, 180, 0, 203, 3, 182, 1, 40, 27, 172]
abbrev dktX1_clearText_0 : List UInt8 := dkwX1_clearText_0 ++ []
theorem dksX1_clearText_0 : cX1_clearText.data.toList.drop 0 = dktX1_clearText_0 := by decide +kernel
theorem dX1_clearText_0 : decode cX1_clearText 0 = .ok (.aload_n 0, 1) := dk_42 (dk_at dksX1_clearText_0 0 rfl rfl)
theorem dX1_clearText_1 : decode cX1_clearText 1 = .ok (.getfield 203, 3) := dk_180 0 203 (dk_at dksX1_clearText_0 1 rfl rfl)
theorem dX1_clearText_4 : decode cX1_clearText 4 = .ok (.invokevirtual 289, 3) := dk_182 1 33 (dk_at dksX1_clearText_0 4 rfl rfl)
theorem dX1_clearText_7 : decode cX1_clearText 7 = .ok (.istore_n 1, 1) := dk_60 (dk_at dksX1_clearText_0 7 rfl rfl)
theorem dX1_clearText_8 : decode cX1_clearText 8 = .ok (.aload_n 0, 1) := dk_42 (dk_at dksX1_clearText_0 8 rfl rfl)
theorem dX1_clearText_9 : decode cX1_clearText 9 = .ok (.getfield 203, 3) := dk_180 0 203 (dk_at dksX1_clearText_0 9 rfl rfl)
theorem dX1_clearText_12 : decode cX1_clearText 12 = .ok (.iconst 0, 1) := dk_3 (dk_at dksX1_clearText_0 12 rfl rfl)
theorem dX1_clearText_13 : decode cX1_clearText 13 = .ok (.invokevirtual 296, 3) := dk_182 1 40 (dk_at dksX1_clearText_0 13 rfl rfl)
theorem dX1_clearText_16 : decode cX1_clearText 16 = .ok (.iload_n 1, 1) := dk_27 (dk_at dksX1_clearText_0 16 rfl rfl)
theorem dX1_clearText_17 : decode cX1_clearText 17 = .ok (.ireturn, 1) := dk_172 (dk_at dksX1_clearText_0 17 rfl rfl)
abbrev cX1_fault : ByteArray := prog_1_method_54_code
def yX1_fault : MethodName := ⟨RX1, "fault", "()I"⟩
def dkwX1_fault_1 : List UInt8 := [172]
abbrev dktX1_fault_1 : List UInt8 := dkwX1_fault_1 ++ []
def dkwX1_fault_0 : List UInt8 := [187, 1, 43, 89, 42, 183, 1, 45, 76, 43, 182, 1, 48, 87, 167, 0, 9, 77, 43, 180, 1, 54, 172, 2]
abbrev dktX1_fault_0 : List UInt8 := dkwX1_fault_0 ++ dktX1_fault_1
theorem dksX1_fault_0 : cX1_fault.data.toList.drop 0 = dktX1_fault_0 := by decide +kernel
theorem dksX1_fault_1 : cX1_fault.data.toList.drop 24 = dktX1_fault_1 := dk_seg dksX1_fault_0 24 rfl rfl
theorem dX1_fault_0 : decode cX1_fault 0 = .ok (.new 299, 3) := dk_187 1 43 (dk_at dksX1_fault_0 0 rfl rfl)
theorem dX1_fault_3 : decode cX1_fault 3 = .ok (.dup, 1) := dk_89 (dk_at dksX1_fault_0 3 rfl rfl)
theorem dX1_fault_4 : decode cX1_fault 4 = .ok (.aload_n 0, 1) := dk_42 (dk_at dksX1_fault_0 4 rfl rfl)
theorem dX1_fault_5 : decode cX1_fault 5 = .ok (.invokespecial 301, 3) := dk_183 1 45 (dk_at dksX1_fault_0 5 rfl rfl)
theorem dX1_fault_8 : decode cX1_fault 8 = .ok (.astore_n 1, 1) := dk_76 (dk_at dksX1_fault_0 8 rfl rfl)
theorem dX1_fault_9 : decode cX1_fault 9 = .ok (.aload_n 1, 1) := dk_43 (dk_at dksX1_fault_0 9 rfl rfl)
theorem dX1_fault_10 : decode cX1_fault 10 = .ok (.invokevirtual 304, 3) := dk_182 1 48 (dk_at dksX1_fault_0 10 rfl rfl)
theorem dX1_fault_13 : decode cX1_fault 13 = .ok (.pop, 1) := dk_87 (dk_at dksX1_fault_0 13 rfl rfl)
theorem dX1_fault_14 : decode cX1_fault 14 = .ok (.goto 9, 3) := dk_167 0 9 (dk_at dksX1_fault_0 14 rfl rfl)
theorem dX1_fault_17 : decode cX1_fault 17 = .ok (.astore_n 2, 1) := dk_77 (dk_at dksX1_fault_0 17 rfl rfl)
theorem dX1_fault_18 : decode cX1_fault 18 = .ok (.aload_n 1, 1) := dk_43 (dk_at dksX1_fault_0 18 rfl rfl)
theorem dX1_fault_19 : decode cX1_fault 19 = .ok (.getfield 310, 3) := dk_180 1 54 (dk_at dksX1_fault_0 19 rfl rfl)
theorem dX1_fault_22 : decode cX1_fault 22 = .ok (.ireturn, 1) := dk_172 (dk_at dksX1_fault_0 22 rfl rfl)
theorem dX1_fault_23 : decode cX1_fault 23 = .ok (.iconst (-1), 1) := dk_2 (dk_at dksX1_fault_0 23 rfl rfl)
theorem dX1_fault_24 : decode cX1_fault 24 = .ok (.ireturn, 1) := dk_172 (dk_at dksX1_fault_1 0 rfl rfl)
abbrev cX1_isWithin : ByteArray := prog_1_method_1_code
def yX1_isWithin : MethodName := ⟨RX1, "isWithin", "(III)Z"⟩
def dkwX1_isWithin_0 : List UInt8 := [26, 27, 161, 0, 12, 26, 28, 163, 0, 7, 4, 167, 0, 4, 3, 172]
abbrev dktX1_isWithin_0 : List UInt8 := dkwX1_isWithin_0 ++ []
theorem dksX1_isWithin_0 : cX1_isWithin.data.toList.drop 0 = dktX1_isWithin_0 := by decide +kernel
theorem dX1_isWithin_0 : decode cX1_isWithin 0 = .ok (.iload_n 0, 1) := dk_26 (dk_at dksX1_isWithin_0 0 rfl rfl)
theorem dX1_isWithin_1 : decode cX1_isWithin 1 = .ok (.iload_n 1, 1) := dk_27 (dk_at dksX1_isWithin_0 1 rfl rfl)
theorem dX1_isWithin_2 : decode cX1_isWithin 2 = .ok (.if_icmp .lt 12, 3) := dk_161 0 12 (dk_at dksX1_isWithin_0 2 rfl rfl)
theorem dX1_isWithin_5 : decode cX1_isWithin 5 = .ok (.iload_n 0, 1) := dk_26 (dk_at dksX1_isWithin_0 5 rfl rfl)
theorem dX1_isWithin_6 : decode cX1_isWithin 6 = .ok (.iload_n 2, 1) := dk_28 (dk_at dksX1_isWithin_0 6 rfl rfl)
theorem dX1_isWithin_7 : decode cX1_isWithin 7 = .ok (.if_icmp .gt 7, 3) := dk_163 0 7 (dk_at dksX1_isWithin_0 7 rfl rfl)
theorem dX1_isWithin_10 : decode cX1_isWithin 10 = .ok (.iconst 1, 1) := dk_4 (dk_at dksX1_isWithin_0 10 rfl rfl)
theorem dX1_isWithin_11 : decode cX1_isWithin 11 = .ok (.goto 4, 3) := dk_167 0 4 (dk_at dksX1_isWithin_0 11 rfl rfl)
theorem dX1_isWithin_14 : decode cX1_isWithin 14 = .ok (.iconst 0, 1) := dk_3 (dk_at dksX1_isWithin_0 14 rfl rfl)
theorem dX1_isWithin_15 : decode cX1_isWithin 15 = .ok (.ireturn, 1) := dk_172 (dk_at dksX1_isWithin_0 15 rfl rfl)
abbrev cX1_savedStates : ByteArray := prog_1_method_60_code
def yX1_savedStates : MethodName := ⟨RX1, "savedStates", "()I"⟩
def dkwX1_savedStates_0 : List UInt8 := [42, 180, 0, 196, 182, 0, 207, 172]
abbrev dktX1_savedStates_0 : List UInt8 := dkwX1_savedStates_0 ++ []
theorem dksX1_savedStates_0 : cX1_savedStates.data.toList.drop 0 = dktX1_savedStates_0 := by decide +kernel
theorem dX1_savedStates_0 : decode cX1_savedStates 0 = .ok (.aload_n 0, 1) := dk_42 (dk_at dksX1_savedStates_0 0 rfl rfl)
theorem dX1_savedStates_1 : decode cX1_savedStates 1 = .ok (.getfield 196, 3) := dk_180 0 196 (dk_at dksX1_savedStates_0 1 rfl rfl)
theorem dX1_savedStates_4 : decode cX1_savedStates 4 = .ok (.invokevirtual 207, 3) := dk_182 0 207 (dk_at dksX1_savedStates_0 4 rfl rfl)
theorem dX1_savedStates_7 : decode cX1_savedStates 7 = .ok (.ireturn, 1) := dk_172 (dk_at dksX1_savedStates_0 7 rfl rfl)
abbrev cX1_keep : ByteArray := prog_1_method_61_code
def yX1_keep : MethodName := ⟨RX1, "keep", "()I"⟩
def dkwX1_keep_0 : List UInt8 := [42, 187, 0, 28, 89, 42, 180, 0, 23, 183, 0, 222, 181, 1, 122, 42, 180, 0, 23, 180, 0, 58, 172]
abbrev dktX1_keep_0 : List UInt8 := dkwX1_keep_0 ++ []
theorem dksX1_keep_0 : cX1_keep.data.toList.drop 0 = dktX1_keep_0 := by decide +kernel
theorem dX1_keep_0 : decode cX1_keep 0 = .ok (.aload_n 0, 1) := dk_42 (dk_at dksX1_keep_0 0 rfl rfl)
theorem dX1_keep_1 : decode cX1_keep 1 = .ok (.new 28, 3) := dk_187 0 28 (dk_at dksX1_keep_0 1 rfl rfl)
theorem dX1_keep_4 : decode cX1_keep 4 = .ok (.dup, 1) := dk_89 (dk_at dksX1_keep_0 4 rfl rfl)
theorem dX1_keep_5 : decode cX1_keep 5 = .ok (.aload_n 0, 1) := dk_42 (dk_at dksX1_keep_0 5 rfl rfl)
theorem dX1_keep_6 : decode cX1_keep 6 = .ok (.getfield 23, 3) := dk_180 0 23 (dk_at dksX1_keep_0 6 rfl rfl)
theorem dX1_keep_9 : decode cX1_keep 9 = .ok (.invokespecial 222, 3) := dk_183 0 222 (dk_at dksX1_keep_0 9 rfl rfl)
theorem dX1_keep_12 : decode cX1_keep 12 = .ok (.putfield 378, 3) := dk_181 1 122 (dk_at dksX1_keep_0 12 rfl rfl)
theorem dX1_keep_15 : decode cX1_keep 15 = .ok (.aload_n 0, 1) := dk_42 (dk_at dksX1_keep_0 15 rfl rfl)
theorem dX1_keep_16 : decode cX1_keep 16 = .ok (.getfield 23, 3) := dk_180 0 23 (dk_at dksX1_keep_0 16 rfl rfl)
theorem dX1_keep_19 : decode cX1_keep 19 = .ok (.getfield 58, 3) := dk_180 0 58 (dk_at dksX1_keep_0 19 rfl rfl)
theorem dX1_keep_22 : decode cX1_keep 22 = .ok (.ireturn, 1) := dk_172 (dk_at dksX1_keep_0 22 rfl rfl)
abbrev cX1_gates : ByteArray := prog_1_method_63_code
def yX1_gates : MethodName := ⟨RX1, "gates", "()I"⟩
def dkwX1_gates_0 : List UInt8 := [42, 180, 0, 23, 180, 0, 58, 172]
abbrev dktX1_gates_0 : List UInt8 := dkwX1_gates_0 ++ []
theorem dksX1_gates_0 : cX1_gates.data.toList.drop 0 = dktX1_gates_0 := by decide +kernel
theorem dX1_gates_0 : decode cX1_gates 0 = .ok (.aload_n 0, 1) := dk_42 (dk_at dksX1_gates_0 0 rfl rfl)
theorem dX1_gates_1 : decode cX1_gates 1 = .ok (.getfield 23, 3) := dk_180 0 23 (dk_at dksX1_gates_0 1 rfl rfl)
theorem dX1_gates_4 : decode cX1_gates 4 = .ok (.getfield 58, 3) := dk_180 0 58 (dk_at dksX1_gates_0 4 rfl rfl)
theorem dX1_gates_7 : decode cX1_gates 7 = .ok (.ireturn, 1) := dk_172 (dk_at dksX1_gates_0 7 rfl rfl)
abbrev cX1_outputs : ByteArray := prog_1_method_66_code
def yX1_outputs : MethodName := ⟨RX1, "outputs", "()I"⟩
def dkwX1_outputs_0 : List UInt8 := [42, 180, 0, 23, 180, 0, 86, 172]
abbrev dktX1_outputs_0 : List UInt8 := dkwX1_outputs_0 ++ []
theorem dksX1_outputs_0 : cX1_outputs.data.toList.drop 0 = dktX1_outputs_0 := by decide +kernel
theorem dX1_outputs_0 : decode cX1_outputs 0 = .ok (.aload_n 0, 1) := dk_42 (dk_at dksX1_outputs_0 0 rfl rfl)
theorem dX1_outputs_1 : decode cX1_outputs 1 = .ok (.getfield 23, 3) := dk_180 0 23 (dk_at dksX1_outputs_0 1 rfl rfl)
theorem dX1_outputs_4 : decode cX1_outputs 4 = .ok (.getfield 86, 3) := dk_180 0 86 (dk_at dksX1_outputs_0 4 rfl rfl)
theorem dX1_outputs_7 : decode cX1_outputs 7 = .ok (.ireturn, 1) := dk_172 (dk_at dksX1_outputs_0 7 rfl rfl)
abbrev cX1_boxes : ByteArray := prog_1_method_67_code
def yX1_boxes : MethodName := ⟨RX1, "boxes", "()I"⟩
def dkwX1_boxes_0 : List UInt8 := [42, 180, 0, 23, 180, 0, 27, 172]
abbrev dktX1_boxes_0 : List UInt8 := dkwX1_boxes_0 ++ []
theorem dksX1_boxes_0 : cX1_boxes.data.toList.drop 0 = dktX1_boxes_0 := by decide +kernel
theorem dX1_boxes_0 : decode cX1_boxes 0 = .ok (.aload_n 0, 1) := dk_42 (dk_at dksX1_boxes_0 0 rfl rfl)
theorem dX1_boxes_1 : decode cX1_boxes 1 = .ok (.getfield 23, 3) := dk_180 0 23 (dk_at dksX1_boxes_0 1 rfl rfl)
theorem dX1_boxes_4 : decode cX1_boxes 4 = .ok (.getfield 27, 3) := dk_180 0 27 (dk_at dksX1_boxes_0 4 rfl rfl)
theorem dX1_boxes_7 : decode cX1_boxes 7 = .ok (.ireturn, 1) := dk_172 (dk_at dksX1_boxes_0 7 rfl rfl)
abbrev cX1_idleLines : ByteArray := prog_1_method_73_code
def yX1_idleLines : MethodName := ⟨RX1, "idleLines", "()I"⟩
def dkwX1_idleLines_0 : List UInt8 := [4, 42, 180, 0, 23, 182, 0, 82, 120, 4, 100, 42, 182, 1, 135, 2, 130, 126, 172]
abbrev dktX1_idleLines_0 : List UInt8 := dkwX1_idleLines_0 ++ []
theorem dksX1_idleLines_0 : cX1_idleLines.data.toList.drop 0 = dktX1_idleLines_0 := by decide +kernel
theorem dX1_idleLines_0 : decode cX1_idleLines 0 = .ok (.iconst 1, 1) := dk_4 (dk_at dksX1_idleLines_0 0 rfl rfl)
theorem dX1_idleLines_1 : decode cX1_idleLines 1 = .ok (.aload_n 0, 1) := dk_42 (dk_at dksX1_idleLines_0 1 rfl rfl)
theorem dX1_idleLines_2 : decode cX1_idleLines 2 = .ok (.getfield 23, 3) := dk_180 0 23 (dk_at dksX1_idleLines_0 2 rfl rfl)
theorem dX1_idleLines_5 : decode cX1_idleLines 5 = .ok (.invokevirtual 82, 3) := dk_182 0 82 (dk_at dksX1_idleLines_0 5 rfl rfl)
theorem dX1_idleLines_8 : decode cX1_idleLines 8 = .ok (.ishl, 1) := dk_120 (dk_at dksX1_idleLines_0 8 rfl rfl)
theorem dX1_idleLines_9 : decode cX1_idleLines 9 = .ok (.iconst 1, 1) := dk_4 (dk_at dksX1_idleLines_0 9 rfl rfl)
theorem dX1_idleLines_10 : decode cX1_idleLines 10 = .ok (.isub, 1) := dk_100 (dk_at dksX1_idleLines_0 10 rfl rfl)
theorem dX1_idleLines_11 : decode cX1_idleLines 11 = .ok (.aload_n 0, 1) := dk_42 (dk_at dksX1_idleLines_0 11 rfl rfl)
theorem dX1_idleLines_12 : decode cX1_idleLines 12 = .ok (.invokevirtual 391, 3) := dk_182 1 135 (dk_at dksX1_idleLines_0 12 rfl rfl)
theorem dX1_idleLines_15 : decode cX1_idleLines 15 = .ok (.iconst (-1), 1) := dk_2 (dk_at dksX1_idleLines_0 15 rfl rfl)
theorem dX1_idleLines_16 : decode cX1_idleLines 16 = .ok (.ixor, 1) := dk_130 (dk_at dksX1_idleLines_0 16 rfl rfl)
theorem dX1_idleLines_17 : decode cX1_idleLines 17 = .ok (.iand, 1) := dk_126 (dk_at dksX1_idleLines_0 17 rfl rfl)
theorem dX1_idleLines_18 : decode cX1_idleLines 18 = .ok (.ireturn, 1) := dk_172 (dk_at dksX1_idleLines_0 18 rfl rfl)
abbrev cX1_lively : ByteArray := prog_1_method_18_code
def yX1_lively : MethodName := ⟨RX1, "lively", "()I"⟩
def dkwX1_lively_2 : List UInt8 := [172]
abbrev dktX1_lively_2 : List UInt8 := dkwX1_lively_2 ++ []
def dkwX1_lively_1 : List UInt8 := [184, 0, 33, 153, 0, 11, 42, 28, 182, 0, 103, 167, 0, 4, 3, 128, 60, 132, 2, 1, 167, 255, 216, 27]
abbrev dktX1_lively_1 : List UInt8 := dkwX1_lively_1 ++ dktX1_lively_2
def dkwX1_lively_0 : List UInt8 := [3, 60, 3, 61, 28, 42, 180, 0, 23, 182, 0, 82, 162, 0, 35, 27, 42, 180, 0, 23, 180, 0, 86, 28]
abbrev dktX1_lively_0 : List UInt8 := dkwX1_lively_0 ++ dktX1_lively_1
theorem dksX1_lively_0 : cX1_lively.data.toList.drop 0 = dktX1_lively_0 := by decide +kernel
theorem dksX1_lively_1 : cX1_lively.data.toList.drop 24 = dktX1_lively_1 := dk_seg dksX1_lively_0 24 rfl rfl
theorem dksX1_lively_2 : cX1_lively.data.toList.drop 48 = dktX1_lively_2 := dk_seg dksX1_lively_1 24 rfl rfl
theorem dX1_lively_0 : decode cX1_lively 0 = .ok (.iconst 0, 1) := dk_3 (dk_at dksX1_lively_0 0 rfl rfl)
theorem dX1_lively_1 : decode cX1_lively 1 = .ok (.istore_n 1, 1) := dk_60 (dk_at dksX1_lively_0 1 rfl rfl)
theorem dX1_lively_2 : decode cX1_lively 2 = .ok (.iconst 0, 1) := dk_3 (dk_at dksX1_lively_0 2 rfl rfl)
theorem dX1_lively_3 : decode cX1_lively 3 = .ok (.istore_n 2, 1) := dk_61 (dk_at dksX1_lively_0 3 rfl rfl)
theorem dX1_lively_4 : decode cX1_lively 4 = .ok (.iload_n 2, 1) := dk_28 (dk_at dksX1_lively_0 4 rfl rfl)
theorem dX1_lively_5 : decode cX1_lively 5 = .ok (.aload_n 0, 1) := dk_42 (dk_at dksX1_lively_0 5 rfl rfl)
theorem dX1_lively_6 : decode cX1_lively 6 = .ok (.getfield 23, 3) := dk_180 0 23 (dk_at dksX1_lively_0 6 rfl rfl)
theorem dX1_lively_9 : decode cX1_lively 9 = .ok (.invokevirtual 82, 3) := dk_182 0 82 (dk_at dksX1_lively_0 9 rfl rfl)
theorem dX1_lively_12 : decode cX1_lively 12 = .ok (.if_icmp .ge 35, 3) := dk_162 0 35 (dk_at dksX1_lively_0 12 rfl rfl)
theorem dX1_lively_15 : decode cX1_lively 15 = .ok (.iload_n 1, 1) := dk_27 (dk_at dksX1_lively_0 15 rfl rfl)
theorem dX1_lively_16 : decode cX1_lively 16 = .ok (.aload_n 0, 1) := dk_42 (dk_at dksX1_lively_0 16 rfl rfl)
theorem dX1_lively_17 : decode cX1_lively 17 = .ok (.getfield 23, 3) := dk_180 0 23 (dk_at dksX1_lively_0 17 rfl rfl)
theorem dX1_lively_20 : decode cX1_lively 20 = .ok (.getfield 86, 3) := dk_180 0 86 (dk_at dksX1_lively_0 20 rfl rfl)
theorem dX1_lively_23 : decode cX1_lively 23 = .ok (.iload_n 2, 1) := dk_28 (dk_at dksX1_lively_0 23 rfl rfl)
theorem dX1_lively_24 : decode cX1_lively 24 = .ok (.invokestatic 33, 3) := dk_184 0 33 (dk_at dksX1_lively_1 0 rfl rfl)
theorem dX1_lively_27 : decode cX1_lively 27 = .ok (.ifCond .eq 11, 3) := dk_153 0 11 (dk_at dksX1_lively_1 3 rfl rfl)
theorem dX1_lively_30 : decode cX1_lively 30 = .ok (.aload_n 0, 1) := dk_42 (dk_at dksX1_lively_1 6 rfl rfl)
theorem dX1_lively_31 : decode cX1_lively 31 = .ok (.iload_n 2, 1) := dk_28 (dk_at dksX1_lively_1 7 rfl rfl)
theorem dX1_lively_32 : decode cX1_lively 32 = .ok (.invokevirtual 103, 3) := dk_182 0 103 (dk_at dksX1_lively_1 8 rfl rfl)
theorem dX1_lively_35 : decode cX1_lively 35 = .ok (.goto 4, 3) := dk_167 0 4 (dk_at dksX1_lively_1 11 rfl rfl)
theorem dX1_lively_38 : decode cX1_lively 38 = .ok (.iconst 0, 1) := dk_3 (dk_at dksX1_lively_1 14 rfl rfl)
theorem dX1_lively_39 : decode cX1_lively 39 = .ok (.ior, 1) := dk_128 (dk_at dksX1_lively_1 15 rfl rfl)
theorem dX1_lively_40 : decode cX1_lively 40 = .ok (.istore_n 1, 1) := dk_60 (dk_at dksX1_lively_1 16 rfl rfl)
theorem dX1_lively_41 : decode cX1_lively 41 = .ok (.iinc 2 1, 3) := dk_132 2 1 (dk_at dksX1_lively_1 17 rfl rfl)
theorem dX1_lively_44 : decode cX1_lively 44 = .ok (.goto (-40), 3) := dk_167 255 216 (dk_at dksX1_lively_1 20 rfl rfl)
theorem dX1_lively_47 : decode cX1_lively 47 = .ok (.iload_n 1, 1) := dk_27 (dk_at dksX1_lively_1 23 rfl rfl)
theorem dX1_lively_48 : decode cX1_lively 48 = .ok (.ireturn, 1) := dk_172 (dk_at dksX1_lively_2 0 rfl rfl)
abbrev cX1_behind : ByteArray := prog_1_method_17_code
def yX1_behind : MethodName := ⟨RX1, "behind", "(I)I"⟩
def dkwX1_behind_3 : List UInt8 := [167, 255, 194, 28, 172]
abbrev dktX1_behind_3 : List UInt8 := dkwX1_behind_3 ++ []
def dkwX1_behind_2 : List UInt8 := [153, 0, 17, 4, 42, 180, 0, 23, 180, 0, 68, 29, 46, 120, 167, 0, 4, 3, 128, 61, 132, 3, 255]
abbrev dktX1_behind_2 : List UInt8 := dkwX1_behind_2 ++ dktX1_behind_3
def dkwX1_behind_1 : List UInt8 := [28, 4, 42, 180, 0, 23, 180, 0, 65, 29, 46, 120, 128, 61, 28, 42, 180, 0, 23, 29, 4, 182, 0, 100]
abbrev dktX1_behind_1 : List UInt8 := dkwX1_behind_1 ++ dktX1_behind_2
def dkwX1_behind_0 : List UInt8 := [4, 27, 120, 61, 27, 16, 6, 100, 62, 29, 155, 0, 64, 28, 16, 6, 29, 96, 184, 0, 33, 153, 0, 47]
abbrev dktX1_behind_0 : List UInt8 := dkwX1_behind_0 ++ dktX1_behind_1
theorem dksX1_behind_0 : cX1_behind.data.toList.drop 0 = dktX1_behind_0 := by decide +kernel
theorem dksX1_behind_1 : cX1_behind.data.toList.drop 24 = dktX1_behind_1 := dk_seg dksX1_behind_0 24 rfl rfl
theorem dksX1_behind_2 : cX1_behind.data.toList.drop 48 = dktX1_behind_2 := dk_seg dksX1_behind_1 24 rfl rfl
theorem dksX1_behind_3 : cX1_behind.data.toList.drop 71 = dktX1_behind_3 := dk_seg dksX1_behind_2 23 rfl rfl
theorem dX1_behind_0 : decode cX1_behind 0 = .ok (.iconst 1, 1) := dk_4 (dk_at dksX1_behind_0 0 rfl rfl)
theorem dX1_behind_1 : decode cX1_behind 1 = .ok (.iload_n 1, 1) := dk_27 (dk_at dksX1_behind_0 1 rfl rfl)
theorem dX1_behind_2 : decode cX1_behind 2 = .ok (.ishl, 1) := dk_120 (dk_at dksX1_behind_0 2 rfl rfl)
theorem dX1_behind_3 : decode cX1_behind 3 = .ok (.istore_n 2, 1) := dk_61 (dk_at dksX1_behind_0 3 rfl rfl)
theorem dX1_behind_4 : decode cX1_behind 4 = .ok (.iload_n 1, 1) := dk_27 (dk_at dksX1_behind_0 4 rfl rfl)
theorem dX1_behind_5 : decode cX1_behind 5 = .ok (.bipush 6, 2) := dk_16 6 (dk_at dksX1_behind_0 5 rfl rfl)
theorem dX1_behind_7 : decode cX1_behind 7 = .ok (.isub, 1) := dk_100 (dk_at dksX1_behind_0 7 rfl rfl)
theorem dX1_behind_8 : decode cX1_behind 8 = .ok (.istore_n 3, 1) := dk_62 (dk_at dksX1_behind_0 8 rfl rfl)
theorem dX1_behind_9 : decode cX1_behind 9 = .ok (.iload_n 3, 1) := dk_29 (dk_at dksX1_behind_0 9 rfl rfl)
theorem dX1_behind_10 : decode cX1_behind 10 = .ok (.ifCond .lt 64, 3) := dk_155 0 64 (dk_at dksX1_behind_0 10 rfl rfl)
theorem dX1_behind_13 : decode cX1_behind 13 = .ok (.iload_n 2, 1) := dk_28 (dk_at dksX1_behind_0 13 rfl rfl)
theorem dX1_behind_14 : decode cX1_behind 14 = .ok (.bipush 6, 2) := dk_16 6 (dk_at dksX1_behind_0 14 rfl rfl)
theorem dX1_behind_16 : decode cX1_behind 16 = .ok (.iload_n 3, 1) := dk_29 (dk_at dksX1_behind_0 16 rfl rfl)
theorem dX1_behind_17 : decode cX1_behind 17 = .ok (.iadd, 1) := dk_96 (dk_at dksX1_behind_0 17 rfl rfl)
theorem dX1_behind_18 : decode cX1_behind 18 = .ok (.invokestatic 33, 3) := dk_184 0 33 (dk_at dksX1_behind_0 18 rfl rfl)
theorem dX1_behind_21 : decode cX1_behind 21 = .ok (.ifCond .eq 47, 3) := dk_153 0 47 (dk_at dksX1_behind_0 21 rfl rfl)
theorem dX1_behind_24 : decode cX1_behind 24 = .ok (.iload_n 2, 1) := dk_28 (dk_at dksX1_behind_1 0 rfl rfl)
theorem dX1_behind_25 : decode cX1_behind 25 = .ok (.iconst 1, 1) := dk_4 (dk_at dksX1_behind_1 1 rfl rfl)
theorem dX1_behind_26 : decode cX1_behind 26 = .ok (.aload_n 0, 1) := dk_42 (dk_at dksX1_behind_1 2 rfl rfl)
theorem dX1_behind_27 : decode cX1_behind 27 = .ok (.getfield 23, 3) := dk_180 0 23 (dk_at dksX1_behind_1 3 rfl rfl)
theorem dX1_behind_30 : decode cX1_behind 30 = .ok (.getfield 65, 3) := dk_180 0 65 (dk_at dksX1_behind_1 6 rfl rfl)
theorem dX1_behind_33 : decode cX1_behind 33 = .ok (.iload_n 3, 1) := dk_29 (dk_at dksX1_behind_1 9 rfl rfl)
theorem dX1_behind_34 : decode cX1_behind 34 = .ok (.iaload, 1) := dk_46 (dk_at dksX1_behind_1 10 rfl rfl)
theorem dX1_behind_35 : decode cX1_behind 35 = .ok (.ishl, 1) := dk_120 (dk_at dksX1_behind_1 11 rfl rfl)
theorem dX1_behind_36 : decode cX1_behind 36 = .ok (.ior, 1) := dk_128 (dk_at dksX1_behind_1 12 rfl rfl)
theorem dX1_behind_37 : decode cX1_behind 37 = .ok (.istore_n 2, 1) := dk_61 (dk_at dksX1_behind_1 13 rfl rfl)
theorem dX1_behind_38 : decode cX1_behind 38 = .ok (.iload_n 2, 1) := dk_28 (dk_at dksX1_behind_1 14 rfl rfl)
theorem dX1_behind_39 : decode cX1_behind 39 = .ok (.aload_n 0, 1) := dk_42 (dk_at dksX1_behind_1 15 rfl rfl)
theorem dX1_behind_40 : decode cX1_behind 40 = .ok (.getfield 23, 3) := dk_180 0 23 (dk_at dksX1_behind_1 16 rfl rfl)
theorem dX1_behind_43 : decode cX1_behind 43 = .ok (.iload_n 3, 1) := dk_29 (dk_at dksX1_behind_1 19 rfl rfl)
theorem dX1_behind_44 : decode cX1_behind 44 = .ok (.iconst 1, 1) := dk_4 (dk_at dksX1_behind_1 20 rfl rfl)
theorem dX1_behind_45 : decode cX1_behind 45 = .ok (.invokevirtual 100, 3) := dk_182 0 100 (dk_at dksX1_behind_1 21 rfl rfl)
theorem dX1_behind_48 : decode cX1_behind 48 = .ok (.ifCond .eq 17, 3) := dk_153 0 17 (dk_at dksX1_behind_2 0 rfl rfl)
theorem dX1_behind_51 : decode cX1_behind 51 = .ok (.iconst 1, 1) := dk_4 (dk_at dksX1_behind_2 3 rfl rfl)
theorem dX1_behind_52 : decode cX1_behind 52 = .ok (.aload_n 0, 1) := dk_42 (dk_at dksX1_behind_2 4 rfl rfl)
theorem dX1_behind_53 : decode cX1_behind 53 = .ok (.getfield 23, 3) := dk_180 0 23 (dk_at dksX1_behind_2 5 rfl rfl)
theorem dX1_behind_56 : decode cX1_behind 56 = .ok (.getfield 68, 3) := dk_180 0 68 (dk_at dksX1_behind_2 8 rfl rfl)
theorem dX1_behind_59 : decode cX1_behind 59 = .ok (.iload_n 3, 1) := dk_29 (dk_at dksX1_behind_2 11 rfl rfl)
theorem dX1_behind_60 : decode cX1_behind 60 = .ok (.iaload, 1) := dk_46 (dk_at dksX1_behind_2 12 rfl rfl)
theorem dX1_behind_61 : decode cX1_behind 61 = .ok (.ishl, 1) := dk_120 (dk_at dksX1_behind_2 13 rfl rfl)
theorem dX1_behind_62 : decode cX1_behind 62 = .ok (.goto 4, 3) := dk_167 0 4 (dk_at dksX1_behind_2 14 rfl rfl)
theorem dX1_behind_65 : decode cX1_behind 65 = .ok (.iconst 0, 1) := dk_3 (dk_at dksX1_behind_2 17 rfl rfl)
theorem dX1_behind_66 : decode cX1_behind 66 = .ok (.ior, 1) := dk_128 (dk_at dksX1_behind_2 18 rfl rfl)
theorem dX1_behind_67 : decode cX1_behind 67 = .ok (.istore_n 2, 1) := dk_61 (dk_at dksX1_behind_2 19 rfl rfl)
theorem dX1_behind_68 : decode cX1_behind 68 = .ok (.iinc 3 (-1), 3) := dk_132 3 255 (dk_at dksX1_behind_2 20 rfl rfl)
theorem dX1_behind_71 : decode cX1_behind 71 = .ok (.goto (-62), 3) := dk_167 255 194 (dk_at dksX1_behind_3 0 rfl rfl)
theorem dX1_behind_74 : decode cX1_behind 74 = .ok (.iload_n 2, 1) := dk_28 (dk_at dksX1_behind_3 3 rfl rfl)
theorem dX1_behind_75 : decode cX1_behind 75 = .ok (.ireturn, 1) := dk_172 (dk_at dksX1_behind_3 4 rfl rfl)
abbrev cX1_hiddenFaults : ByteArray := prog_1_method_76_code
def yX1_hiddenFaults : MethodName := ⟨RX1, "hiddenFaults", "()J"⟩
def dkwX1_hiddenFaults_0 : List UInt8 := [10, 42, 180, 0, 23, 182, 0, 116, 121, 10, 101, 42, 182, 0, 134, 20, 0, 21, 131, 127, 173]
abbrev dktX1_hiddenFaults_0 : List UInt8 := dkwX1_hiddenFaults_0 ++ []
theorem dksX1_hiddenFaults_0 : cX1_hiddenFaults.data.toList.drop 0 = dktX1_hiddenFaults_0 := by decide +kernel
theorem dX1_hiddenFaults_0 : decode cX1_hiddenFaults 0 = .ok (.lconst 1, 1) := dk_10 (dk_at dksX1_hiddenFaults_0 0 rfl rfl)
theorem dX1_hiddenFaults_1 : decode cX1_hiddenFaults 1 = .ok (.aload_n 0, 1) := dk_42 (dk_at dksX1_hiddenFaults_0 1 rfl rfl)
theorem dX1_hiddenFaults_2 : decode cX1_hiddenFaults 2 = .ok (.getfield 23, 3) := dk_180 0 23 (dk_at dksX1_hiddenFaults_0 2 rfl rfl)
theorem dX1_hiddenFaults_5 : decode cX1_hiddenFaults 5 = .ok (.invokevirtual 116, 3) := dk_182 0 116 (dk_at dksX1_hiddenFaults_0 5 rfl rfl)
theorem dX1_hiddenFaults_8 : decode cX1_hiddenFaults 8 = .ok (.lshl, 1) := dk_121 (dk_at dksX1_hiddenFaults_0 8 rfl rfl)
theorem dX1_hiddenFaults_9 : decode cX1_hiddenFaults 9 = .ok (.lconst 1, 1) := dk_10 (dk_at dksX1_hiddenFaults_0 9 rfl rfl)
theorem dX1_hiddenFaults_10 : decode cX1_hiddenFaults 10 = .ok (.lsub, 1) := dk_101 (dk_at dksX1_hiddenFaults_0 10 rfl rfl)
theorem dX1_hiddenFaults_11 : decode cX1_hiddenFaults 11 = .ok (.aload_n 0, 1) := dk_42 (dk_at dksX1_hiddenFaults_0 11 rfl rfl)
theorem dX1_hiddenFaults_12 : decode cX1_hiddenFaults 12 = .ok (.invokevirtual 134, 3) := dk_182 0 134 (dk_at dksX1_hiddenFaults_0 12 rfl rfl)
theorem dX1_hiddenFaults_15 : decode cX1_hiddenFaults 15 = .ok (.ldc2_w 21, 3) := dk_20 0 21 (dk_at dksX1_hiddenFaults_0 15 rfl rfl)
theorem dX1_hiddenFaults_18 : decode cX1_hiddenFaults 18 = .ok (.lxor, 1) := dk_131 (dk_at dksX1_hiddenFaults_0 18 rfl rfl)
theorem dX1_hiddenFaults_19 : decode cX1_hiddenFaults 19 = .ok (.land, 1) := dk_127 (dk_at dksX1_hiddenFaults_0 19 rfl rfl)
theorem dX1_hiddenFaults_20 : decode cX1_hiddenFaults 20 = .ok (.lreturn, 1) := dk_173 (dk_at dksX1_hiddenFaults_0 20 rfl rfl)
abbrev cX1_looks : ByteArray := prog_1_method_81_code
def yX1_looks : MethodName := ⟨RX1, "looks", "(Z)I"⟩
def dkwX1_looks_0 : List UInt8 := [27, 153, 0, 10, 42, 182, 1, 147, 167, 0, 7, 42, 182, 1, 150, 172]
abbrev dktX1_looks_0 : List UInt8 := dkwX1_looks_0 ++ []
theorem dksX1_looks_0 : cX1_looks.data.toList.drop 0 = dktX1_looks_0 := by decide +kernel
theorem dX1_looks_0 : decode cX1_looks 0 = .ok (.iload_n 1, 1) := dk_27 (dk_at dksX1_looks_0 0 rfl rfl)
theorem dX1_looks_1 : decode cX1_looks 1 = .ok (.ifCond .eq 10, 3) := dk_153 0 10 (dk_at dksX1_looks_0 1 rfl rfl)
theorem dX1_looks_4 : decode cX1_looks 4 = .ok (.aload_n 0, 1) := dk_42 (dk_at dksX1_looks_0 4 rfl rfl)
theorem dX1_looks_5 : decode cX1_looks 5 = .ok (.invokevirtual 403, 3) := dk_182 1 147 (dk_at dksX1_looks_0 5 rfl rfl)
theorem dX1_looks_8 : decode cX1_looks 8 = .ok (.goto 7, 3) := dk_167 0 7 (dk_at dksX1_looks_0 8 rfl rfl)
theorem dX1_looks_11 : decode cX1_looks 11 = .ok (.aload_n 0, 1) := dk_42 (dk_at dksX1_looks_0 11 rfl rfl)
theorem dX1_looks_12 : decode cX1_looks 12 = .ok (.invokevirtual 406, 3) := dk_182 1 150 (dk_at dksX1_looks_0 12 rfl rfl)
theorem dX1_looks_15 : decode cX1_looks 15 = .ok (.ireturn, 1) := dk_172 (dk_at dksX1_looks_0 15 rfl rfl)
abbrev cX1_looksByPairs : ByteArray := prog_1_method_79_code
def yX1_looksByPairs : MethodName := ⟨RX1, "looksByPairs", "()I"⟩
def dkwX1_looksByPairs_3 : List UInt8 := [167, 255, 191, 27, 172]
abbrev dktX1_looksByPairs_3 : List UInt8 := dkwX1_looksByPairs_3 ++ []
def dkwX1_looksByPairs_2 : List UInt8 := [62, 132, 4, 1, 167, 255, 225, 27, 29, 153, 0, 7, 4, 167, 0, 4, 3, 96, 60, 132, 2, 1]
abbrev dktX1_looksByPairs_2 : List UInt8 := dkwX1_looksByPairs_2 ++ dktX1_looksByPairs_3
def dkwX1_looksByPairs_1 : List UInt8 := [162, 0, 31, 29, 153, 0, 19, 42, 28, 21, 4, 182, 0, 122, 9, 148, 153, 0, 7, 4, 167, 0, 4, 3]
abbrev dktX1_looksByPairs_1 : List UInt8 := dkwX1_looksByPairs_1 ++ dktX1_looksByPairs_2
def dkwX1_looksByPairs_0 : List UInt8 := [3, 60, 3, 61, 28, 42, 180, 0, 23, 182, 0, 116, 162, 0, 60, 4, 62, 3, 54, 4, 21, 4, 28]
abbrev dktX1_looksByPairs_0 : List UInt8 := dkwX1_looksByPairs_0 ++ dktX1_looksByPairs_1
theorem dksX1_looksByPairs_0 : cX1_looksByPairs.data.toList.drop 0 = dktX1_looksByPairs_0 := by decide +kernel
theorem dksX1_looksByPairs_1 : cX1_looksByPairs.data.toList.drop 23 = dktX1_looksByPairs_1 := dk_seg dksX1_looksByPairs_0 23 rfl rfl
theorem dksX1_looksByPairs_2 : cX1_looksByPairs.data.toList.drop 47 = dktX1_looksByPairs_2 := dk_seg dksX1_looksByPairs_1 24 rfl rfl
theorem dksX1_looksByPairs_3 : cX1_looksByPairs.data.toList.drop 69 = dktX1_looksByPairs_3 := dk_seg dksX1_looksByPairs_2 22 rfl rfl
theorem dX1_looksByPairs_0 : decode cX1_looksByPairs 0 = .ok (.iconst 0, 1) := dk_3 (dk_at dksX1_looksByPairs_0 0 rfl rfl)
theorem dX1_looksByPairs_1 : decode cX1_looksByPairs 1 = .ok (.istore_n 1, 1) := dk_60 (dk_at dksX1_looksByPairs_0 1 rfl rfl)
theorem dX1_looksByPairs_2 : decode cX1_looksByPairs 2 = .ok (.iconst 0, 1) := dk_3 (dk_at dksX1_looksByPairs_0 2 rfl rfl)
theorem dX1_looksByPairs_3 : decode cX1_looksByPairs 3 = .ok (.istore_n 2, 1) := dk_61 (dk_at dksX1_looksByPairs_0 3 rfl rfl)
theorem dX1_looksByPairs_4 : decode cX1_looksByPairs 4 = .ok (.iload_n 2, 1) := dk_28 (dk_at dksX1_looksByPairs_0 4 rfl rfl)
theorem dX1_looksByPairs_5 : decode cX1_looksByPairs 5 = .ok (.aload_n 0, 1) := dk_42 (dk_at dksX1_looksByPairs_0 5 rfl rfl)
theorem dX1_looksByPairs_6 : decode cX1_looksByPairs 6 = .ok (.getfield 23, 3) := dk_180 0 23 (dk_at dksX1_looksByPairs_0 6 rfl rfl)
theorem dX1_looksByPairs_9 : decode cX1_looksByPairs 9 = .ok (.invokevirtual 116, 3) := dk_182 0 116 (dk_at dksX1_looksByPairs_0 9 rfl rfl)
theorem dX1_looksByPairs_12 : decode cX1_looksByPairs 12 = .ok (.if_icmp .ge 60, 3) := dk_162 0 60 (dk_at dksX1_looksByPairs_0 12 rfl rfl)
theorem dX1_looksByPairs_15 : decode cX1_looksByPairs 15 = .ok (.iconst 1, 1) := dk_4 (dk_at dksX1_looksByPairs_0 15 rfl rfl)
theorem dX1_looksByPairs_16 : decode cX1_looksByPairs 16 = .ok (.istore_n 3, 1) := dk_62 (dk_at dksX1_looksByPairs_0 16 rfl rfl)
theorem dX1_looksByPairs_17 : decode cX1_looksByPairs 17 = .ok (.iconst 0, 1) := dk_3 (dk_at dksX1_looksByPairs_0 17 rfl rfl)
theorem dX1_looksByPairs_18 : decode cX1_looksByPairs 18 = .ok (.istore 4, 2) := dk_54 4 (dk_at dksX1_looksByPairs_0 18 rfl rfl)
theorem dX1_looksByPairs_20 : decode cX1_looksByPairs 20 = .ok (.iload 4, 2) := dk_21 4 (dk_at dksX1_looksByPairs_0 20 rfl rfl)
theorem dX1_looksByPairs_22 : decode cX1_looksByPairs 22 = .ok (.iload_n 2, 1) := dk_28 (dk_at dksX1_looksByPairs_0 22 rfl rfl)
theorem dX1_looksByPairs_23 : decode cX1_looksByPairs 23 = .ok (.if_icmp .ge 31, 3) := dk_162 0 31 (dk_at dksX1_looksByPairs_1 0 rfl rfl)
theorem dX1_looksByPairs_26 : decode cX1_looksByPairs 26 = .ok (.iload_n 3, 1) := dk_29 (dk_at dksX1_looksByPairs_1 3 rfl rfl)
theorem dX1_looksByPairs_27 : decode cX1_looksByPairs 27 = .ok (.ifCond .eq 19, 3) := dk_153 0 19 (dk_at dksX1_looksByPairs_1 4 rfl rfl)
theorem dX1_looksByPairs_30 : decode cX1_looksByPairs 30 = .ok (.aload_n 0, 1) := dk_42 (dk_at dksX1_looksByPairs_1 7 rfl rfl)
theorem dX1_looksByPairs_31 : decode cX1_looksByPairs 31 = .ok (.iload_n 2, 1) := dk_28 (dk_at dksX1_looksByPairs_1 8 rfl rfl)
theorem dX1_looksByPairs_32 : decode cX1_looksByPairs 32 = .ok (.iload 4, 2) := dk_21 4 (dk_at dksX1_looksByPairs_1 9 rfl rfl)
theorem dX1_looksByPairs_34 : decode cX1_looksByPairs 34 = .ok (.invokevirtual 122, 3) := dk_182 0 122 (dk_at dksX1_looksByPairs_1 11 rfl rfl)
theorem dX1_looksByPairs_37 : decode cX1_looksByPairs 37 = .ok (.lconst 0, 1) := dk_9 (dk_at dksX1_looksByPairs_1 14 rfl rfl)
theorem dX1_looksByPairs_38 : decode cX1_looksByPairs 38 = .ok (.lcmp, 1) := dk_148 (dk_at dksX1_looksByPairs_1 15 rfl rfl)
theorem dX1_looksByPairs_39 : decode cX1_looksByPairs 39 = .ok (.ifCond .eq 7, 3) := dk_153 0 7 (dk_at dksX1_looksByPairs_1 16 rfl rfl)
theorem dX1_looksByPairs_42 : decode cX1_looksByPairs 42 = .ok (.iconst 1, 1) := dk_4 (dk_at dksX1_looksByPairs_1 19 rfl rfl)
theorem dX1_looksByPairs_43 : decode cX1_looksByPairs 43 = .ok (.goto 4, 3) := dk_167 0 4 (dk_at dksX1_looksByPairs_1 20 rfl rfl)
theorem dX1_looksByPairs_46 : decode cX1_looksByPairs 46 = .ok (.iconst 0, 1) := dk_3 (dk_at dksX1_looksByPairs_1 23 rfl rfl)
theorem dX1_looksByPairs_47 : decode cX1_looksByPairs 47 = .ok (.istore_n 3, 1) := dk_62 (dk_at dksX1_looksByPairs_2 0 rfl rfl)
theorem dX1_looksByPairs_48 : decode cX1_looksByPairs 48 = .ok (.iinc 4 1, 3) := dk_132 4 1 (dk_at dksX1_looksByPairs_2 1 rfl rfl)
theorem dX1_looksByPairs_51 : decode cX1_looksByPairs 51 = .ok (.goto (-31), 3) := dk_167 255 225 (dk_at dksX1_looksByPairs_2 4 rfl rfl)
theorem dX1_looksByPairs_54 : decode cX1_looksByPairs 54 = .ok (.iload_n 1, 1) := dk_27 (dk_at dksX1_looksByPairs_2 7 rfl rfl)
theorem dX1_looksByPairs_55 : decode cX1_looksByPairs 55 = .ok (.iload_n 3, 1) := dk_29 (dk_at dksX1_looksByPairs_2 8 rfl rfl)
theorem dX1_looksByPairs_56 : decode cX1_looksByPairs 56 = .ok (.ifCond .eq 7, 3) := dk_153 0 7 (dk_at dksX1_looksByPairs_2 9 rfl rfl)
theorem dX1_looksByPairs_59 : decode cX1_looksByPairs 59 = .ok (.iconst 1, 1) := dk_4 (dk_at dksX1_looksByPairs_2 12 rfl rfl)
theorem dX1_looksByPairs_60 : decode cX1_looksByPairs 60 = .ok (.goto 4, 3) := dk_167 0 4 (dk_at dksX1_looksByPairs_2 13 rfl rfl)
theorem dX1_looksByPairs_63 : decode cX1_looksByPairs 63 = .ok (.iconst 0, 1) := dk_3 (dk_at dksX1_looksByPairs_2 16 rfl rfl)
theorem dX1_looksByPairs_64 : decode cX1_looksByPairs 64 = .ok (.iadd, 1) := dk_96 (dk_at dksX1_looksByPairs_2 17 rfl rfl)
theorem dX1_looksByPairs_65 : decode cX1_looksByPairs 65 = .ok (.istore_n 1, 1) := dk_60 (dk_at dksX1_looksByPairs_2 18 rfl rfl)
theorem dX1_looksByPairs_66 : decode cX1_looksByPairs 66 = .ok (.iinc 2 1, 3) := dk_132 2 1 (dk_at dksX1_looksByPairs_2 19 rfl rfl)
theorem dX1_looksByPairs_69 : decode cX1_looksByPairs 69 = .ok (.goto (-65), 3) := dk_167 255 191 (dk_at dksX1_looksByPairs_3 0 rfl rfl)
theorem dX1_looksByPairs_72 : decode cX1_looksByPairs 72 = .ok (.iload_n 1, 1) := dk_27 (dk_at dksX1_looksByPairs_3 3 rfl rfl)
theorem dX1_looksByPairs_73 : decode cX1_looksByPairs 73 = .ok (.ireturn, 1) := dk_172 (dk_at dksX1_looksByPairs_3 4 rfl rfl)
abbrev cX1_looksByCollecting : ByteArray := prog_1_method_80_code
def yX1_looksByCollecting : MethodName := ⟨RX1, "looksByCollecting", "()I"⟩
def dkwX1_looksByCollecting_1 : List UInt8 := [184, 1, 141, 182, 1, 144, 20, 0, 21, 131, 127, 64, 132, 3, 1, 167, 255, 232, 29, 172]
abbrev dktX1_looksByCollecting_1 : List UInt8 := dkwX1_looksByCollecting_1 ++ []
def dkwX1_looksByCollecting_0 : List UInt8 := [10, 42, 180, 0, 23, 182, 0, 116, 121, 10, 101, 64, 3, 62, 31, 9, 148, 153, 0, 24, 31, 42, 31]
abbrev dktX1_looksByCollecting_0 : List UInt8 := dkwX1_looksByCollecting_0 ++ dktX1_looksByCollecting_1
theorem dksX1_looksByCollecting_0 : cX1_looksByCollecting.data.toList.drop 0 = dktX1_looksByCollecting_0 := by decide +kernel
theorem dksX1_looksByCollecting_1 : cX1_looksByCollecting.data.toList.drop 23 = dktX1_looksByCollecting_1 := dk_seg dksX1_looksByCollecting_0 23 rfl rfl
theorem dX1_looksByCollecting_0 : decode cX1_looksByCollecting 0 = .ok (.lconst 1, 1) := dk_10 (dk_at dksX1_looksByCollecting_0 0 rfl rfl)
theorem dX1_looksByCollecting_1 : decode cX1_looksByCollecting 1 = .ok (.aload_n 0, 1) := dk_42 (dk_at dksX1_looksByCollecting_0 1 rfl rfl)
theorem dX1_looksByCollecting_2 : decode cX1_looksByCollecting 2 = .ok (.getfield 23, 3) := dk_180 0 23 (dk_at dksX1_looksByCollecting_0 2 rfl rfl)
theorem dX1_looksByCollecting_5 : decode cX1_looksByCollecting 5 = .ok (.invokevirtual 116, 3) := dk_182 0 116 (dk_at dksX1_looksByCollecting_0 5 rfl rfl)
theorem dX1_looksByCollecting_8 : decode cX1_looksByCollecting 8 = .ok (.lshl, 1) := dk_121 (dk_at dksX1_looksByCollecting_0 8 rfl rfl)
theorem dX1_looksByCollecting_9 : decode cX1_looksByCollecting 9 = .ok (.lconst 1, 1) := dk_10 (dk_at dksX1_looksByCollecting_0 9 rfl rfl)
theorem dX1_looksByCollecting_10 : decode cX1_looksByCollecting 10 = .ok (.lsub, 1) := dk_101 (dk_at dksX1_looksByCollecting_0 10 rfl rfl)
theorem dX1_looksByCollecting_11 : decode cX1_looksByCollecting 11 = .ok (.lstore_n 1, 1) := dk_64 (dk_at dksX1_looksByCollecting_0 11 rfl rfl)
theorem dX1_looksByCollecting_12 : decode cX1_looksByCollecting 12 = .ok (.iconst 0, 1) := dk_3 (dk_at dksX1_looksByCollecting_0 12 rfl rfl)
theorem dX1_looksByCollecting_13 : decode cX1_looksByCollecting 13 = .ok (.istore_n 3, 1) := dk_62 (dk_at dksX1_looksByCollecting_0 13 rfl rfl)
theorem dX1_looksByCollecting_14 : decode cX1_looksByCollecting 14 = .ok (.lload_n 1, 1) := dk_31 (dk_at dksX1_looksByCollecting_0 14 rfl rfl)
theorem dX1_looksByCollecting_15 : decode cX1_looksByCollecting 15 = .ok (.lconst 0, 1) := dk_9 (dk_at dksX1_looksByCollecting_0 15 rfl rfl)
theorem dX1_looksByCollecting_16 : decode cX1_looksByCollecting 16 = .ok (.lcmp, 1) := dk_148 (dk_at dksX1_looksByCollecting_0 16 rfl rfl)
theorem dX1_looksByCollecting_17 : decode cX1_looksByCollecting 17 = .ok (.ifCond .eq 24, 3) := dk_153 0 24 (dk_at dksX1_looksByCollecting_0 17 rfl rfl)
theorem dX1_looksByCollecting_20 : decode cX1_looksByCollecting 20 = .ok (.lload_n 1, 1) := dk_31 (dk_at dksX1_looksByCollecting_0 20 rfl rfl)
theorem dX1_looksByCollecting_21 : decode cX1_looksByCollecting 21 = .ok (.aload_n 0, 1) := dk_42 (dk_at dksX1_looksByCollecting_0 21 rfl rfl)
theorem dX1_looksByCollecting_22 : decode cX1_looksByCollecting 22 = .ok (.lload_n 1, 1) := dk_31 (dk_at dksX1_looksByCollecting_0 22 rfl rfl)
theorem dX1_looksByCollecting_23 : decode cX1_looksByCollecting 23 = .ok (.invokestatic 397, 3) := dk_184 1 141 (dk_at dksX1_looksByCollecting_1 0 rfl rfl)
theorem dX1_looksByCollecting_26 : decode cX1_looksByCollecting 26 = .ok (.invokevirtual 400, 3) := dk_182 1 144 (dk_at dksX1_looksByCollecting_1 3 rfl rfl)
theorem dX1_looksByCollecting_29 : decode cX1_looksByCollecting 29 = .ok (.ldc2_w 21, 3) := dk_20 0 21 (dk_at dksX1_looksByCollecting_1 6 rfl rfl)
theorem dX1_looksByCollecting_32 : decode cX1_looksByCollecting 32 = .ok (.lxor, 1) := dk_131 (dk_at dksX1_looksByCollecting_1 9 rfl rfl)
theorem dX1_looksByCollecting_33 : decode cX1_looksByCollecting 33 = .ok (.land, 1) := dk_127 (dk_at dksX1_looksByCollecting_1 10 rfl rfl)
theorem dX1_looksByCollecting_34 : decode cX1_looksByCollecting 34 = .ok (.lstore_n 1, 1) := dk_64 (dk_at dksX1_looksByCollecting_1 11 rfl rfl)
theorem dX1_looksByCollecting_35 : decode cX1_looksByCollecting 35 = .ok (.iinc 3 1, 3) := dk_132 3 1 (dk_at dksX1_looksByCollecting_1 12 rfl rfl)
theorem dX1_looksByCollecting_38 : decode cX1_looksByCollecting 38 = .ok (.goto (-24), 3) := dk_167 255 232 (dk_at dksX1_looksByCollecting_1 15 rfl rfl)
theorem dX1_looksByCollecting_41 : decode cX1_looksByCollecting 41 = .ok (.iload_n 3, 1) := dk_29 (dk_at dksX1_looksByCollecting_1 18 rfl rfl)
theorem dX1_looksByCollecting_42 : decode cX1_looksByCollecting 42 = .ok (.ireturn, 1) := dk_172 (dk_at dksX1_looksByCollecting_1 19 rfl rfl)
abbrev cX1_alike : ByteArray := prog_1_method_78_code
def yX1_alike : MethodName := ⟨RX1, "alike", "(I)J"⟩
def dkwX1_alike_2 : List UInt8 := [167, 255, 218, 32, 173]
abbrev dktX1_alike_2 : List UInt8 := dkwX1_alike_2 ++ []
def dkwX1_alike_1 : List UInt8 := [27, 21, 4, 182, 0, 122, 9, 148, 154, 0, 10, 10, 21, 4, 121, 167, 0, 4, 9, 129, 65, 132, 4, 1]
abbrev dktX1_alike_1 : List UInt8 := dkwX1_alike_1 ++ dktX1_alike_2
def dkwX1_alike_0 : List UInt8 := [42, 27, 182, 1, 138, 9, 65, 3, 54, 4, 21, 4, 42, 180, 0, 23, 182, 0, 116, 162, 0, 32, 32, 42]
abbrev dktX1_alike_0 : List UInt8 := dkwX1_alike_0 ++ dktX1_alike_1
theorem dksX1_alike_0 : cX1_alike.data.toList.drop 0 = dktX1_alike_0 := by decide +kernel
theorem dksX1_alike_1 : cX1_alike.data.toList.drop 24 = dktX1_alike_1 := dk_seg dksX1_alike_0 24 rfl rfl
theorem dksX1_alike_2 : cX1_alike.data.toList.drop 48 = dktX1_alike_2 := dk_seg dksX1_alike_1 24 rfl rfl
theorem dX1_alike_0 : decode cX1_alike 0 = .ok (.aload_n 0, 1) := dk_42 (dk_at dksX1_alike_0 0 rfl rfl)
theorem dX1_alike_1 : decode cX1_alike 1 = .ok (.iload_n 1, 1) := dk_27 (dk_at dksX1_alike_0 1 rfl rfl)
theorem dX1_alike_2 : decode cX1_alike 2 = .ok (.invokevirtual 394, 3) := dk_182 1 138 (dk_at dksX1_alike_0 2 rfl rfl)
theorem dX1_alike_5 : decode cX1_alike 5 = .ok (.lconst 0, 1) := dk_9 (dk_at dksX1_alike_0 5 rfl rfl)
theorem dX1_alike_6 : decode cX1_alike 6 = .ok (.lstore_n 2, 1) := dk_65 (dk_at dksX1_alike_0 6 rfl rfl)
theorem dX1_alike_7 : decode cX1_alike 7 = .ok (.iconst 0, 1) := dk_3 (dk_at dksX1_alike_0 7 rfl rfl)
theorem dX1_alike_8 : decode cX1_alike 8 = .ok (.istore 4, 2) := dk_54 4 (dk_at dksX1_alike_0 8 rfl rfl)
theorem dX1_alike_10 : decode cX1_alike 10 = .ok (.iload 4, 2) := dk_21 4 (dk_at dksX1_alike_0 10 rfl rfl)
theorem dX1_alike_12 : decode cX1_alike 12 = .ok (.aload_n 0, 1) := dk_42 (dk_at dksX1_alike_0 12 rfl rfl)
theorem dX1_alike_13 : decode cX1_alike 13 = .ok (.getfield 23, 3) := dk_180 0 23 (dk_at dksX1_alike_0 13 rfl rfl)
theorem dX1_alike_16 : decode cX1_alike 16 = .ok (.invokevirtual 116, 3) := dk_182 0 116 (dk_at dksX1_alike_0 16 rfl rfl)
theorem dX1_alike_19 : decode cX1_alike 19 = .ok (.if_icmp .ge 32, 3) := dk_162 0 32 (dk_at dksX1_alike_0 19 rfl rfl)
theorem dX1_alike_22 : decode cX1_alike 22 = .ok (.lload_n 2, 1) := dk_32 (dk_at dksX1_alike_0 22 rfl rfl)
theorem dX1_alike_23 : decode cX1_alike 23 = .ok (.aload_n 0, 1) := dk_42 (dk_at dksX1_alike_0 23 rfl rfl)
theorem dX1_alike_24 : decode cX1_alike 24 = .ok (.iload_n 1, 1) := dk_27 (dk_at dksX1_alike_1 0 rfl rfl)
theorem dX1_alike_25 : decode cX1_alike 25 = .ok (.iload 4, 2) := dk_21 4 (dk_at dksX1_alike_1 1 rfl rfl)
theorem dX1_alike_27 : decode cX1_alike 27 = .ok (.invokevirtual 122, 3) := dk_182 0 122 (dk_at dksX1_alike_1 3 rfl rfl)
theorem dX1_alike_30 : decode cX1_alike 30 = .ok (.lconst 0, 1) := dk_9 (dk_at dksX1_alike_1 6 rfl rfl)
theorem dX1_alike_31 : decode cX1_alike 31 = .ok (.lcmp, 1) := dk_148 (dk_at dksX1_alike_1 7 rfl rfl)
theorem dX1_alike_32 : decode cX1_alike 32 = .ok (.ifCond .ne 10, 3) := dk_154 0 10 (dk_at dksX1_alike_1 8 rfl rfl)
theorem dX1_alike_35 : decode cX1_alike 35 = .ok (.lconst 1, 1) := dk_10 (dk_at dksX1_alike_1 11 rfl rfl)
theorem dX1_alike_36 : decode cX1_alike 36 = .ok (.iload 4, 2) := dk_21 4 (dk_at dksX1_alike_1 12 rfl rfl)
theorem dX1_alike_38 : decode cX1_alike 38 = .ok (.lshl, 1) := dk_121 (dk_at dksX1_alike_1 14 rfl rfl)
theorem dX1_alike_39 : decode cX1_alike 39 = .ok (.goto 4, 3) := dk_167 0 4 (dk_at dksX1_alike_1 15 rfl rfl)
theorem dX1_alike_42 : decode cX1_alike 42 = .ok (.lconst 0, 1) := dk_9 (dk_at dksX1_alike_1 18 rfl rfl)
theorem dX1_alike_43 : decode cX1_alike 43 = .ok (.lor, 1) := dk_129 (dk_at dksX1_alike_1 19 rfl rfl)
theorem dX1_alike_44 : decode cX1_alike 44 = .ok (.lstore_n 2, 1) := dk_65 (dk_at dksX1_alike_1 20 rfl rfl)
theorem dX1_alike_45 : decode cX1_alike 45 = .ok (.iinc 4 1, 3) := dk_132 4 1 (dk_at dksX1_alike_1 21 rfl rfl)
theorem dX1_alike_48 : decode cX1_alike 48 = .ok (.goto (-38), 3) := dk_167 255 218 (dk_at dksX1_alike_2 0 rfl rfl)
theorem dX1_alike_51 : decode cX1_alike 51 = .ok (.lload_n 2, 1) := dk_32 (dk_at dksX1_alike_2 3 rfl rfl)
theorem dX1_alike_52 : decode cX1_alike 52 = .ok (.lreturn, 1) := dk_173 (dk_at dksX1_alike_2 4 rfl rfl)
abbrev cX1_needFault : ByteArray := prog_1_method_44_code
def yX1_needFault : MethodName := ⟨RX1, "needFault", "(I)V"⟩
def dkwX1_needFault_0 : List UInt8 := [27, 3, 42, 180, 0, 23, 182, 0, 116, 4, 100, 184, 0, 248, 184, 0, 252, 177]
abbrev dktX1_needFault_0 : List UInt8 := dkwX1_needFault_0 ++ []
theorem dksX1_needFault_0 : cX1_needFault.data.toList.drop 0 = dktX1_needFault_0 := by decide +kernel
theorem dX1_needFault_0 : decode cX1_needFault 0 = .ok (.iload_n 1, 1) := dk_27 (dk_at dksX1_needFault_0 0 rfl rfl)
theorem dX1_needFault_1 : decode cX1_needFault 1 = .ok (.iconst 0, 1) := dk_3 (dk_at dksX1_needFault_0 1 rfl rfl)
theorem dX1_needFault_2 : decode cX1_needFault 2 = .ok (.aload_n 0, 1) := dk_42 (dk_at dksX1_needFault_0 2 rfl rfl)
theorem dX1_needFault_3 : decode cX1_needFault 3 = .ok (.getfield 23, 3) := dk_180 0 23 (dk_at dksX1_needFault_0 3 rfl rfl)
theorem dX1_needFault_6 : decode cX1_needFault 6 = .ok (.invokevirtual 116, 3) := dk_182 0 116 (dk_at dksX1_needFault_0 6 rfl rfl)
theorem dX1_needFault_9 : decode cX1_needFault 9 = .ok (.iconst 1, 1) := dk_4 (dk_at dksX1_needFault_0 9 rfl rfl)
theorem dX1_needFault_10 : decode cX1_needFault 10 = .ok (.isub, 1) := dk_100 (dk_at dksX1_needFault_0 10 rfl rfl)
theorem dX1_needFault_11 : decode cX1_needFault 11 = .ok (.invokestatic 248, 3) := dk_184 0 248 (dk_at dksX1_needFault_0 11 rfl rfl)
theorem dX1_needFault_14 : decode cX1_needFault 14 = .ok (.invokestatic 252, 3) := dk_184 0 252 (dk_at dksX1_needFault_0 14 rfl rfl)
theorem dX1_needFault_17 : decode cX1_needFault 17 = .ok (.return_, 1) := dk_177 (dk_at dksX1_needFault_0 17 rfl rfl)
abbrev cX1_needArgument : ByteArray := prog_1_method_3_code
def yX1_needArgument : MethodName := ⟨RX1, "needArgument", "(Z)V"⟩
def dkwX1_needArgument_0 : List UInt8 := [26, 154, 0, 13, 187, 0, 11, 89, 18, 13, 183, 0, 15, 191, 177]
abbrev dktX1_needArgument_0 : List UInt8 := dkwX1_needArgument_0 ++ []
theorem dksX1_needArgument_0 : cX1_needArgument.data.toList.drop 0 = dktX1_needArgument_0 := by decide +kernel
theorem dX1_needArgument_0 : decode cX1_needArgument 0 = .ok (.iload_n 0, 1) := dk_26 (dk_at dksX1_needArgument_0 0 rfl rfl)
theorem dX1_needArgument_1 : decode cX1_needArgument 1 = .ok (.ifCond .ne 13, 3) := dk_154 0 13 (dk_at dksX1_needArgument_0 1 rfl rfl)
theorem dX1_needArgument_4 : decode cX1_needArgument 4 = .ok (.new 11, 3) := dk_187 0 11 (dk_at dksX1_needArgument_0 4 rfl rfl)
theorem dX1_needArgument_7 : decode cX1_needArgument 7 = .ok (.dup, 1) := dk_89 (dk_at dksX1_needArgument_0 7 rfl rfl)
theorem dX1_needArgument_8 : decode cX1_needArgument 8 = .ok (.ldc 13, 2) := dk_18 13 (dk_at dksX1_needArgument_0 8 rfl rfl)
theorem dX1_needArgument_10 : decode cX1_needArgument 10 = .ok (.invokespecial 15, 3) := dk_183 0 15 (dk_at dksX1_needArgument_0 10 rfl rfl)
theorem dX1_needArgument_13 : decode cX1_needArgument 13 = .ok (.athrow, 1) := dk_191 (dk_at dksX1_needArgument_0 13 rfl rfl)
theorem dX1_needArgument_14 : decode cX1_needArgument 14 = .ok (.return_, 1) := dk_177 (dk_at dksX1_needArgument_0 14 rfl rfl)
abbrev cX1_shownBy : ByteArray := prog_1_method_83_code
def yX1_shownBy : MethodName := ⟨RX1, "shownBy", "(J)I"⟩
def dkwX1_shownBy_2 : List UInt8 := [153, 0, 7, 4, 167, 0, 4, 3, 96, 54, 5, 132, 6, 1, 167, 255, 208, 21, 5, 172]
abbrev dktX1_shownBy_2 : List UInt8 := dkwX1_shownBy_2 ++ []
def dkwX1_shownBy_1 : List UInt8 := [21, 5, 33, 21, 6, 184, 0, 126, 153, 0, 21, 42, 180, 0, 119, 21, 6, 47, 31, 127, 9, 148]
abbrev dktX1_shownBy_1 : List UInt8 := dkwX1_shownBy_1 ++ dktX1_shownBy_2
def dkwX1_shownBy_0 : List UInt8 := [42, 182, 0, 134, 66, 3, 54, 5, 3, 54, 6, 21, 6, 42, 180, 0, 23, 182, 0, 116, 162, 0, 42]
abbrev dktX1_shownBy_0 : List UInt8 := dkwX1_shownBy_0 ++ dktX1_shownBy_1
theorem dksX1_shownBy_0 : cX1_shownBy.data.toList.drop 0 = dktX1_shownBy_0 := by decide +kernel
theorem dksX1_shownBy_1 : cX1_shownBy.data.toList.drop 23 = dktX1_shownBy_1 := dk_seg dksX1_shownBy_0 23 rfl rfl
theorem dksX1_shownBy_2 : cX1_shownBy.data.toList.drop 45 = dktX1_shownBy_2 := dk_seg dksX1_shownBy_1 22 rfl rfl
theorem dX1_shownBy_0 : decode cX1_shownBy 0 = .ok (.aload_n 0, 1) := dk_42 (dk_at dksX1_shownBy_0 0 rfl rfl)
theorem dX1_shownBy_1 : decode cX1_shownBy 1 = .ok (.invokevirtual 134, 3) := dk_182 0 134 (dk_at dksX1_shownBy_0 1 rfl rfl)
theorem dX1_shownBy_4 : decode cX1_shownBy 4 = .ok (.lstore_n 3, 1) := dk_66 (dk_at dksX1_shownBy_0 4 rfl rfl)
theorem dX1_shownBy_5 : decode cX1_shownBy 5 = .ok (.iconst 0, 1) := dk_3 (dk_at dksX1_shownBy_0 5 rfl rfl)
theorem dX1_shownBy_6 : decode cX1_shownBy 6 = .ok (.istore 5, 2) := dk_54 5 (dk_at dksX1_shownBy_0 6 rfl rfl)
theorem dX1_shownBy_8 : decode cX1_shownBy 8 = .ok (.iconst 0, 1) := dk_3 (dk_at dksX1_shownBy_0 8 rfl rfl)
theorem dX1_shownBy_9 : decode cX1_shownBy 9 = .ok (.istore 6, 2) := dk_54 6 (dk_at dksX1_shownBy_0 9 rfl rfl)
theorem dX1_shownBy_11 : decode cX1_shownBy 11 = .ok (.iload 6, 2) := dk_21 6 (dk_at dksX1_shownBy_0 11 rfl rfl)
theorem dX1_shownBy_13 : decode cX1_shownBy 13 = .ok (.aload_n 0, 1) := dk_42 (dk_at dksX1_shownBy_0 13 rfl rfl)
theorem dX1_shownBy_14 : decode cX1_shownBy 14 = .ok (.getfield 23, 3) := dk_180 0 23 (dk_at dksX1_shownBy_0 14 rfl rfl)
theorem dX1_shownBy_17 : decode cX1_shownBy 17 = .ok (.invokevirtual 116, 3) := dk_182 0 116 (dk_at dksX1_shownBy_0 17 rfl rfl)
theorem dX1_shownBy_20 : decode cX1_shownBy 20 = .ok (.if_icmp .ge 42, 3) := dk_162 0 42 (dk_at dksX1_shownBy_0 20 rfl rfl)
theorem dX1_shownBy_23 : decode cX1_shownBy 23 = .ok (.iload 5, 2) := dk_21 5 (dk_at dksX1_shownBy_1 0 rfl rfl)
theorem dX1_shownBy_25 : decode cX1_shownBy 25 = .ok (.lload_n 3, 1) := dk_33 (dk_at dksX1_shownBy_1 2 rfl rfl)
theorem dX1_shownBy_26 : decode cX1_shownBy 26 = .ok (.iload 6, 2) := dk_21 6 (dk_at dksX1_shownBy_1 3 rfl rfl)
theorem dX1_shownBy_28 : decode cX1_shownBy 28 = .ok (.invokestatic 126, 3) := dk_184 0 126 (dk_at dksX1_shownBy_1 5 rfl rfl)
theorem dX1_shownBy_31 : decode cX1_shownBy 31 = .ok (.ifCond .eq 21, 3) := dk_153 0 21 (dk_at dksX1_shownBy_1 8 rfl rfl)
theorem dX1_shownBy_34 : decode cX1_shownBy 34 = .ok (.aload_n 0, 1) := dk_42 (dk_at dksX1_shownBy_1 11 rfl rfl)
theorem dX1_shownBy_35 : decode cX1_shownBy 35 = .ok (.getfield 119, 3) := dk_180 0 119 (dk_at dksX1_shownBy_1 12 rfl rfl)
theorem dX1_shownBy_38 : decode cX1_shownBy 38 = .ok (.iload 6, 2) := dk_21 6 (dk_at dksX1_shownBy_1 15 rfl rfl)
theorem dX1_shownBy_40 : decode cX1_shownBy 40 = .ok (.laload, 1) := dk_47 (dk_at dksX1_shownBy_1 17 rfl rfl)
theorem dX1_shownBy_41 : decode cX1_shownBy 41 = .ok (.lload_n 1, 1) := dk_31 (dk_at dksX1_shownBy_1 18 rfl rfl)
theorem dX1_shownBy_42 : decode cX1_shownBy 42 = .ok (.land, 1) := dk_127 (dk_at dksX1_shownBy_1 19 rfl rfl)
theorem dX1_shownBy_43 : decode cX1_shownBy 43 = .ok (.lconst 0, 1) := dk_9 (dk_at dksX1_shownBy_1 20 rfl rfl)
theorem dX1_shownBy_44 : decode cX1_shownBy 44 = .ok (.lcmp, 1) := dk_148 (dk_at dksX1_shownBy_1 21 rfl rfl)
theorem dX1_shownBy_45 : decode cX1_shownBy 45 = .ok (.ifCond .eq 7, 3) := dk_153 0 7 (dk_at dksX1_shownBy_2 0 rfl rfl)
theorem dX1_shownBy_48 : decode cX1_shownBy 48 = .ok (.iconst 1, 1) := dk_4 (dk_at dksX1_shownBy_2 3 rfl rfl)
theorem dX1_shownBy_49 : decode cX1_shownBy 49 = .ok (.goto 4, 3) := dk_167 0 4 (dk_at dksX1_shownBy_2 4 rfl rfl)
theorem dX1_shownBy_52 : decode cX1_shownBy 52 = .ok (.iconst 0, 1) := dk_3 (dk_at dksX1_shownBy_2 7 rfl rfl)
theorem dX1_shownBy_53 : decode cX1_shownBy 53 = .ok (.iadd, 1) := dk_96 (dk_at dksX1_shownBy_2 8 rfl rfl)
theorem dX1_shownBy_54 : decode cX1_shownBy 54 = .ok (.istore 5, 2) := dk_54 5 (dk_at dksX1_shownBy_2 9 rfl rfl)
theorem dX1_shownBy_56 : decode cX1_shownBy 56 = .ok (.iinc 6 1, 3) := dk_132 6 1 (dk_at dksX1_shownBy_2 11 rfl rfl)
theorem dX1_shownBy_59 : decode cX1_shownBy 59 = .ok (.goto (-48), 3) := dk_167 255 208 (dk_at dksX1_shownBy_2 14 rfl rfl)
theorem dX1_shownBy_62 : decode cX1_shownBy 62 = .ok (.iload 5, 2) := dk_21 5 (dk_at dksX1_shownBy_2 17 rfl rfl)
theorem dX1_shownBy_64 : decode cX1_shownBy 64 = .ok (.ireturn, 1) := dk_172 (dk_at dksX1_shownBy_2 19 rfl rfl)
abbrev cX1_chosen : ByteArray := prog_1_method_84_code
def yX1_chosen : MethodName := ⟨RX1, "chosen", "()J"⟩
def dkwX1_chosen_0 : List UInt8 := [42, 180, 0, 23, 180, 1, 23, 173]
abbrev dktX1_chosen_0 : List UInt8 := dkwX1_chosen_0 ++ []
theorem dksX1_chosen_0 : cX1_chosen.data.toList.drop 0 = dktX1_chosen_0 := by decide +kernel
theorem dX1_chosen_0 : decode cX1_chosen 0 = .ok (.aload_n 0, 1) := dk_42 (dk_at dksX1_chosen_0 0 rfl rfl)
theorem dX1_chosen_1 : decode cX1_chosen 1 = .ok (.getfield 23, 3) := dk_180 0 23 (dk_at dksX1_chosen_0 1 rfl rfl)
theorem dX1_chosen_4 : decode cX1_chosen 4 = .ok (.getfield 279, 3) := dk_180 1 23 (dk_at dksX1_chosen_0 4 rfl rfl)
theorem dX1_chosen_7 : decode cX1_chosen 7 = .ok (.lreturn, 1) := dk_173 (dk_at dksX1_chosen_0 7 rfl rfl)
abbrev cX1_fewestTests : ByteArray := prog_1_method_85_code
def yX1_fewestTests : MethodName := ⟨RX1, "fewestTests", "()I"⟩
def dkwX1_fewestTests_1 : List UInt8 := [132, 3, 1, 167, 255, 238, 29, 172]
abbrev dktX1_fewestTests_1 : List UInt8 := dkwX1_fewestTests_1 ++ []
def dkwX1_fewestTests_0 : List UInt8 := [42, 182, 0, 134, 64, 3, 62, 29, 16, 6, 163, 0, 18, 42, 31, 29, 182, 0, 145, 154, 0, 9]
abbrev dktX1_fewestTests_0 : List UInt8 := dkwX1_fewestTests_0 ++ dktX1_fewestTests_1
theorem dksX1_fewestTests_0 : cX1_fewestTests.data.toList.drop 0 = dktX1_fewestTests_0 := by decide +kernel
theorem dksX1_fewestTests_1 : cX1_fewestTests.data.toList.drop 22 = dktX1_fewestTests_1 := dk_seg dksX1_fewestTests_0 22 rfl rfl
theorem dX1_fewestTests_0 : decode cX1_fewestTests 0 = .ok (.aload_n 0, 1) := dk_42 (dk_at dksX1_fewestTests_0 0 rfl rfl)
theorem dX1_fewestTests_1 : decode cX1_fewestTests 1 = .ok (.invokevirtual 134, 3) := dk_182 0 134 (dk_at dksX1_fewestTests_0 1 rfl rfl)
theorem dX1_fewestTests_4 : decode cX1_fewestTests 4 = .ok (.lstore_n 1, 1) := dk_64 (dk_at dksX1_fewestTests_0 4 rfl rfl)
theorem dX1_fewestTests_5 : decode cX1_fewestTests 5 = .ok (.iconst 0, 1) := dk_3 (dk_at dksX1_fewestTests_0 5 rfl rfl)
theorem dX1_fewestTests_6 : decode cX1_fewestTests 6 = .ok (.istore_n 3, 1) := dk_62 (dk_at dksX1_fewestTests_0 6 rfl rfl)
theorem dX1_fewestTests_7 : decode cX1_fewestTests 7 = .ok (.iload_n 3, 1) := dk_29 (dk_at dksX1_fewestTests_0 7 rfl rfl)
theorem dX1_fewestTests_8 : decode cX1_fewestTests 8 = .ok (.bipush 6, 2) := dk_16 6 (dk_at dksX1_fewestTests_0 8 rfl rfl)
theorem dX1_fewestTests_10 : decode cX1_fewestTests 10 = .ok (.if_icmp .gt 18, 3) := dk_163 0 18 (dk_at dksX1_fewestTests_0 10 rfl rfl)
theorem dX1_fewestTests_13 : decode cX1_fewestTests 13 = .ok (.aload_n 0, 1) := dk_42 (dk_at dksX1_fewestTests_0 13 rfl rfl)
theorem dX1_fewestTests_14 : decode cX1_fewestTests 14 = .ok (.lload_n 1, 1) := dk_31 (dk_at dksX1_fewestTests_0 14 rfl rfl)
theorem dX1_fewestTests_15 : decode cX1_fewestTests 15 = .ok (.iload_n 3, 1) := dk_29 (dk_at dksX1_fewestTests_0 15 rfl rfl)
theorem dX1_fewestTests_16 : decode cX1_fewestTests 16 = .ok (.invokevirtual 145, 3) := dk_182 0 145 (dk_at dksX1_fewestTests_0 16 rfl rfl)
theorem dX1_fewestTests_19 : decode cX1_fewestTests 19 = .ok (.ifCond .ne 9, 3) := dk_154 0 9 (dk_at dksX1_fewestTests_0 19 rfl rfl)
theorem dX1_fewestTests_22 : decode cX1_fewestTests 22 = .ok (.iinc 3 1, 3) := dk_132 3 1 (dk_at dksX1_fewestTests_1 0 rfl rfl)
theorem dX1_fewestTests_25 : decode cX1_fewestTests 25 = .ok (.goto (-18), 3) := dk_167 255 238 (dk_at dksX1_fewestTests_1 3 rfl rfl)
theorem dX1_fewestTests_28 : decode cX1_fewestTests 28 = .ok (.iload_n 3, 1) := dk_29 (dk_at dksX1_fewestTests_1 6 rfl rfl)
theorem dX1_fewestTests_29 : decode cX1_fewestTests 29 = .ok (.ireturn, 1) := dk_172 (dk_at dksX1_fewestTests_1 7 rfl rfl)
abbrev cX1_canShow : ByteArray := prog_1_method_23_code
def yX1_canShow : MethodName := ⟨RX1, "canShow", "(JI)Z"⟩
def dkwX1_canShow_8 : List UInt8 := [172]
abbrev dktX1_canShow_8 : List UInt8 := dkwX1_canShow_8 ++ []
def dkwX1_canShow_7 : List UInt8 := [47, 20, 0, 21, 131, 127, 29, 4, 100, 182, 0, 145, 153, 0, 5, 4, 172, 132, 5, 1, 167, 255, 196, 3]
abbrev dktX1_canShow_7 : List UInt8 := dkwX1_canShow_7 ++ dktX1_canShow_8
def dkwX1_canShow_6 : List UInt8 := [184, 0, 126, 153, 0, 38, 42, 21, 5, 31, 182, 0, 141, 154, 0, 28, 42, 31, 42, 180, 0, 113, 21, 5]
abbrev dktX1_canShow_6 : List UInt8 := dkwX1_canShow_6 ++ dktX1_canShow_7
def dkwX1_canShow_5 : List UInt8 := [167, 255, 182, 3, 54, 5, 21, 5, 16, 64, 162, 0, 59, 42, 180, 0, 119, 21, 4, 47, 21, 5]
abbrev dktX1_canShow_5 : List UInt8 := dkwX1_canShow_5 ++ dktX1_canShow_6
def dkwX1_canShow_4 : List UInt8 := [167, 0, 4, 3, 54, 6, 21, 6, 153, 0, 8, 21, 5, 167, 0, 5, 21, 4, 54, 4, 132, 5, 1]
abbrev dktX1_canShow_4 : List UInt8 := dkwX1_canShow_4 ++ dktX1_canShow_5
def dkwX1_canShow_3 : List UInt8 := [42, 180, 0, 119, 21, 5, 47, 184, 0, 129, 42, 180, 0, 119, 21, 4, 47, 184, 0, 129, 162, 0, 7, 4]
abbrev dktX1_canShow_3 : List UInt8 := dkwX1_canShow_3 ++ dktX1_canShow_4
def dkwX1_canShow_2 : List UInt8 := [180, 0, 23, 182, 0, 116, 162, 0, 68, 31, 21, 5, 184, 0, 126, 153, 0, 36, 21, 4, 2, 159, 0, 26]
abbrev dktX1_canShow_2 : List UInt8 := dkwX1_canShow_2 ++ dktX1_canShow_3
def dkwX1_canShow_1 : List UInt8 := [127, 184, 0, 129, 104, 31, 184, 0, 129, 162, 0, 5, 3, 172, 2, 54, 4, 3, 54, 5, 21, 5, 42]
abbrev dktX1_canShow_1 : List UInt8 := dkwX1_canShow_1 ++ dktX1_canShow_2
def dkwX1_canShow_0 : List UInt8 := [31, 9, 148, 154, 0, 5, 4, 172, 29, 153, 0, 27, 29, 42, 180, 0, 113, 42, 31, 182, 0, 138, 47, 31]
abbrev dktX1_canShow_0 : List UInt8 := dkwX1_canShow_0 ++ dktX1_canShow_1
theorem dksX1_canShow_0 : cX1_canShow.data.toList.drop 0 = dktX1_canShow_0 := by decide +kernel
theorem dksX1_canShow_1 : cX1_canShow.data.toList.drop 24 = dktX1_canShow_1 := dk_seg dksX1_canShow_0 24 rfl rfl
theorem dksX1_canShow_2 : cX1_canShow.data.toList.drop 47 = dktX1_canShow_2 := dk_seg dksX1_canShow_1 23 rfl rfl
theorem dksX1_canShow_3 : cX1_canShow.data.toList.drop 71 = dktX1_canShow_3 := dk_seg dksX1_canShow_2 24 rfl rfl
theorem dksX1_canShow_4 : cX1_canShow.data.toList.drop 95 = dktX1_canShow_4 := dk_seg dksX1_canShow_3 24 rfl rfl
theorem dksX1_canShow_5 : cX1_canShow.data.toList.drop 118 = dktX1_canShow_5 := dk_seg dksX1_canShow_4 23 rfl rfl
theorem dksX1_canShow_6 : cX1_canShow.data.toList.drop 140 = dktX1_canShow_6 := dk_seg dksX1_canShow_5 22 rfl rfl
theorem dksX1_canShow_7 : cX1_canShow.data.toList.drop 164 = dktX1_canShow_7 := dk_seg dksX1_canShow_6 24 rfl rfl
theorem dksX1_canShow_8 : cX1_canShow.data.toList.drop 188 = dktX1_canShow_8 := dk_seg dksX1_canShow_7 24 rfl rfl
theorem dX1_canShow_0 : decode cX1_canShow 0 = .ok (.lload_n 1, 1) := dk_31 (dk_at dksX1_canShow_0 0 rfl rfl)
theorem dX1_canShow_1 : decode cX1_canShow 1 = .ok (.lconst 0, 1) := dk_9 (dk_at dksX1_canShow_0 1 rfl rfl)
theorem dX1_canShow_2 : decode cX1_canShow 2 = .ok (.lcmp, 1) := dk_148 (dk_at dksX1_canShow_0 2 rfl rfl)
theorem dX1_canShow_3 : decode cX1_canShow 3 = .ok (.ifCond .ne 5, 3) := dk_154 0 5 (dk_at dksX1_canShow_0 3 rfl rfl)
theorem dX1_canShow_6 : decode cX1_canShow 6 = .ok (.iconst 1, 1) := dk_4 (dk_at dksX1_canShow_0 6 rfl rfl)
theorem dX1_canShow_7 : decode cX1_canShow 7 = .ok (.ireturn, 1) := dk_172 (dk_at dksX1_canShow_0 7 rfl rfl)
theorem dX1_canShow_8 : decode cX1_canShow 8 = .ok (.iload_n 3, 1) := dk_29 (dk_at dksX1_canShow_0 8 rfl rfl)
theorem dX1_canShow_9 : decode cX1_canShow 9 = .ok (.ifCond .eq 27, 3) := dk_153 0 27 (dk_at dksX1_canShow_0 9 rfl rfl)
theorem dX1_canShow_12 : decode cX1_canShow 12 = .ok (.iload_n 3, 1) := dk_29 (dk_at dksX1_canShow_0 12 rfl rfl)
theorem dX1_canShow_13 : decode cX1_canShow 13 = .ok (.aload_n 0, 1) := dk_42 (dk_at dksX1_canShow_0 13 rfl rfl)
theorem dX1_canShow_14 : decode cX1_canShow 14 = .ok (.getfield 113, 3) := dk_180 0 113 (dk_at dksX1_canShow_0 14 rfl rfl)
theorem dX1_canShow_17 : decode cX1_canShow 17 = .ok (.aload_n 0, 1) := dk_42 (dk_at dksX1_canShow_0 17 rfl rfl)
theorem dX1_canShow_18 : decode cX1_canShow 18 = .ok (.lload_n 1, 1) := dk_31 (dk_at dksX1_canShow_0 18 rfl rfl)
theorem dX1_canShow_19 : decode cX1_canShow 19 = .ok (.invokevirtual 138, 3) := dk_182 0 138 (dk_at dksX1_canShow_0 19 rfl rfl)
theorem dX1_canShow_22 : decode cX1_canShow 22 = .ok (.laload, 1) := dk_47 (dk_at dksX1_canShow_0 22 rfl rfl)
theorem dX1_canShow_23 : decode cX1_canShow 23 = .ok (.lload_n 1, 1) := dk_31 (dk_at dksX1_canShow_0 23 rfl rfl)
theorem dX1_canShow_24 : decode cX1_canShow 24 = .ok (.land, 1) := dk_127 (dk_at dksX1_canShow_1 0 rfl rfl)
theorem dX1_canShow_25 : decode cX1_canShow 25 = .ok (.invokestatic 129, 3) := dk_184 0 129 (dk_at dksX1_canShow_1 1 rfl rfl)
theorem dX1_canShow_28 : decode cX1_canShow 28 = .ok (.imul, 1) := dk_104 (dk_at dksX1_canShow_1 4 rfl rfl)
theorem dX1_canShow_29 : decode cX1_canShow 29 = .ok (.lload_n 1, 1) := dk_31 (dk_at dksX1_canShow_1 5 rfl rfl)
theorem dX1_canShow_30 : decode cX1_canShow 30 = .ok (.invokestatic 129, 3) := dk_184 0 129 (dk_at dksX1_canShow_1 6 rfl rfl)
theorem dX1_canShow_33 : decode cX1_canShow 33 = .ok (.if_icmp .ge 5, 3) := dk_162 0 5 (dk_at dksX1_canShow_1 9 rfl rfl)
theorem dX1_canShow_36 : decode cX1_canShow 36 = .ok (.iconst 0, 1) := dk_3 (dk_at dksX1_canShow_1 12 rfl rfl)
theorem dX1_canShow_37 : decode cX1_canShow 37 = .ok (.ireturn, 1) := dk_172 (dk_at dksX1_canShow_1 13 rfl rfl)
theorem dX1_canShow_38 : decode cX1_canShow 38 = .ok (.iconst (-1), 1) := dk_2 (dk_at dksX1_canShow_1 14 rfl rfl)
theorem dX1_canShow_39 : decode cX1_canShow 39 = .ok (.istore 4, 2) := dk_54 4 (dk_at dksX1_canShow_1 15 rfl rfl)
theorem dX1_canShow_41 : decode cX1_canShow 41 = .ok (.iconst 0, 1) := dk_3 (dk_at dksX1_canShow_1 17 rfl rfl)
theorem dX1_canShow_42 : decode cX1_canShow 42 = .ok (.istore 5, 2) := dk_54 5 (dk_at dksX1_canShow_1 18 rfl rfl)
theorem dX1_canShow_44 : decode cX1_canShow 44 = .ok (.iload 5, 2) := dk_21 5 (dk_at dksX1_canShow_1 20 rfl rfl)
theorem dX1_canShow_46 : decode cX1_canShow 46 = .ok (.aload_n 0, 1) := dk_42 (dk_at dksX1_canShow_1 22 rfl rfl)
theorem dX1_canShow_47 : decode cX1_canShow 47 = .ok (.getfield 23, 3) := dk_180 0 23 (dk_at dksX1_canShow_2 0 rfl rfl)
theorem dX1_canShow_50 : decode cX1_canShow 50 = .ok (.invokevirtual 116, 3) := dk_182 0 116 (dk_at dksX1_canShow_2 3 rfl rfl)
theorem dX1_canShow_53 : decode cX1_canShow 53 = .ok (.if_icmp .ge 68, 3) := dk_162 0 68 (dk_at dksX1_canShow_2 6 rfl rfl)
theorem dX1_canShow_56 : decode cX1_canShow 56 = .ok (.lload_n 1, 1) := dk_31 (dk_at dksX1_canShow_2 9 rfl rfl)
theorem dX1_canShow_57 : decode cX1_canShow 57 = .ok (.iload 5, 2) := dk_21 5 (dk_at dksX1_canShow_2 10 rfl rfl)
theorem dX1_canShow_59 : decode cX1_canShow 59 = .ok (.invokestatic 126, 3) := dk_184 0 126 (dk_at dksX1_canShow_2 12 rfl rfl)
theorem dX1_canShow_62 : decode cX1_canShow 62 = .ok (.ifCond .eq 36, 3) := dk_153 0 36 (dk_at dksX1_canShow_2 15 rfl rfl)
theorem dX1_canShow_65 : decode cX1_canShow 65 = .ok (.iload 4, 2) := dk_21 4 (dk_at dksX1_canShow_2 18 rfl rfl)
theorem dX1_canShow_67 : decode cX1_canShow 67 = .ok (.iconst (-1), 1) := dk_2 (dk_at dksX1_canShow_2 20 rfl rfl)
theorem dX1_canShow_68 : decode cX1_canShow 68 = .ok (.if_icmp .eq 26, 3) := dk_159 0 26 (dk_at dksX1_canShow_2 21 rfl rfl)
theorem dX1_canShow_71 : decode cX1_canShow 71 = .ok (.aload_n 0, 1) := dk_42 (dk_at dksX1_canShow_3 0 rfl rfl)
theorem dX1_canShow_72 : decode cX1_canShow 72 = .ok (.getfield 119, 3) := dk_180 0 119 (dk_at dksX1_canShow_3 1 rfl rfl)
theorem dX1_canShow_75 : decode cX1_canShow 75 = .ok (.iload 5, 2) := dk_21 5 (dk_at dksX1_canShow_3 4 rfl rfl)
theorem dX1_canShow_77 : decode cX1_canShow 77 = .ok (.laload, 1) := dk_47 (dk_at dksX1_canShow_3 6 rfl rfl)
theorem dX1_canShow_78 : decode cX1_canShow 78 = .ok (.invokestatic 129, 3) := dk_184 0 129 (dk_at dksX1_canShow_3 7 rfl rfl)
theorem dX1_canShow_81 : decode cX1_canShow 81 = .ok (.aload_n 0, 1) := dk_42 (dk_at dksX1_canShow_3 10 rfl rfl)
theorem dX1_canShow_82 : decode cX1_canShow 82 = .ok (.getfield 119, 3) := dk_180 0 119 (dk_at dksX1_canShow_3 11 rfl rfl)
theorem dX1_canShow_85 : decode cX1_canShow 85 = .ok (.iload 4, 2) := dk_21 4 (dk_at dksX1_canShow_3 14 rfl rfl)
theorem dX1_canShow_87 : decode cX1_canShow 87 = .ok (.laload, 1) := dk_47 (dk_at dksX1_canShow_3 16 rfl rfl)
theorem dX1_canShow_88 : decode cX1_canShow 88 = .ok (.invokestatic 129, 3) := dk_184 0 129 (dk_at dksX1_canShow_3 17 rfl rfl)
theorem dX1_canShow_91 : decode cX1_canShow 91 = .ok (.if_icmp .ge 7, 3) := dk_162 0 7 (dk_at dksX1_canShow_3 20 rfl rfl)
theorem dX1_canShow_94 : decode cX1_canShow 94 = .ok (.iconst 1, 1) := dk_4 (dk_at dksX1_canShow_3 23 rfl rfl)
theorem dX1_canShow_95 : decode cX1_canShow 95 = .ok (.goto 4, 3) := dk_167 0 4 (dk_at dksX1_canShow_4 0 rfl rfl)
theorem dX1_canShow_98 : decode cX1_canShow 98 = .ok (.iconst 0, 1) := dk_3 (dk_at dksX1_canShow_4 3 rfl rfl)
theorem dX1_canShow_99 : decode cX1_canShow 99 = .ok (.istore 6, 2) := dk_54 6 (dk_at dksX1_canShow_4 4 rfl rfl)
theorem dX1_canShow_101 : decode cX1_canShow 101 = .ok (.iload 6, 2) := dk_21 6 (dk_at dksX1_canShow_4 6 rfl rfl)
theorem dX1_canShow_103 : decode cX1_canShow 103 = .ok (.ifCond .eq 8, 3) := dk_153 0 8 (dk_at dksX1_canShow_4 8 rfl rfl)
theorem dX1_canShow_106 : decode cX1_canShow 106 = .ok (.iload 5, 2) := dk_21 5 (dk_at dksX1_canShow_4 11 rfl rfl)
theorem dX1_canShow_108 : decode cX1_canShow 108 = .ok (.goto 5, 3) := dk_167 0 5 (dk_at dksX1_canShow_4 13 rfl rfl)
theorem dX1_canShow_111 : decode cX1_canShow 111 = .ok (.iload 4, 2) := dk_21 4 (dk_at dksX1_canShow_4 16 rfl rfl)
theorem dX1_canShow_113 : decode cX1_canShow 113 = .ok (.istore 4, 2) := dk_54 4 (dk_at dksX1_canShow_4 18 rfl rfl)
theorem dX1_canShow_115 : decode cX1_canShow 115 = .ok (.iinc 5 1, 3) := dk_132 5 1 (dk_at dksX1_canShow_4 20 rfl rfl)
theorem dX1_canShow_118 : decode cX1_canShow 118 = .ok (.goto (-74), 3) := dk_167 255 182 (dk_at dksX1_canShow_5 0 rfl rfl)
theorem dX1_canShow_121 : decode cX1_canShow 121 = .ok (.iconst 0, 1) := dk_3 (dk_at dksX1_canShow_5 3 rfl rfl)
theorem dX1_canShow_122 : decode cX1_canShow 122 = .ok (.istore 5, 2) := dk_54 5 (dk_at dksX1_canShow_5 4 rfl rfl)
theorem dX1_canShow_124 : decode cX1_canShow 124 = .ok (.iload 5, 2) := dk_21 5 (dk_at dksX1_canShow_5 6 rfl rfl)
theorem dX1_canShow_126 : decode cX1_canShow 126 = .ok (.bipush 64, 2) := dk_16 64 (dk_at dksX1_canShow_5 8 rfl rfl)
theorem dX1_canShow_128 : decode cX1_canShow 128 = .ok (.if_icmp .ge 59, 3) := dk_162 0 59 (dk_at dksX1_canShow_5 10 rfl rfl)
theorem dX1_canShow_131 : decode cX1_canShow 131 = .ok (.aload_n 0, 1) := dk_42 (dk_at dksX1_canShow_5 13 rfl rfl)
theorem dX1_canShow_132 : decode cX1_canShow 132 = .ok (.getfield 119, 3) := dk_180 0 119 (dk_at dksX1_canShow_5 14 rfl rfl)
theorem dX1_canShow_135 : decode cX1_canShow 135 = .ok (.iload 4, 2) := dk_21 4 (dk_at dksX1_canShow_5 17 rfl rfl)
theorem dX1_canShow_137 : decode cX1_canShow 137 = .ok (.laload, 1) := dk_47 (dk_at dksX1_canShow_5 19 rfl rfl)
theorem dX1_canShow_138 : decode cX1_canShow 138 = .ok (.iload 5, 2) := dk_21 5 (dk_at dksX1_canShow_5 20 rfl rfl)
theorem dX1_canShow_140 : decode cX1_canShow 140 = .ok (.invokestatic 126, 3) := dk_184 0 126 (dk_at dksX1_canShow_6 0 rfl rfl)
theorem dX1_canShow_143 : decode cX1_canShow 143 = .ok (.ifCond .eq 38, 3) := dk_153 0 38 (dk_at dksX1_canShow_6 3 rfl rfl)
theorem dX1_canShow_146 : decode cX1_canShow 146 = .ok (.aload_n 0, 1) := dk_42 (dk_at dksX1_canShow_6 6 rfl rfl)
theorem dX1_canShow_147 : decode cX1_canShow 147 = .ok (.iload 5, 2) := dk_21 5 (dk_at dksX1_canShow_6 7 rfl rfl)
theorem dX1_canShow_149 : decode cX1_canShow 149 = .ok (.lload_n 1, 1) := dk_31 (dk_at dksX1_canShow_6 9 rfl rfl)
theorem dX1_canShow_150 : decode cX1_canShow 150 = .ok (.invokevirtual 141, 3) := dk_182 0 141 (dk_at dksX1_canShow_6 10 rfl rfl)
theorem dX1_canShow_153 : decode cX1_canShow 153 = .ok (.ifCond .ne 28, 3) := dk_154 0 28 (dk_at dksX1_canShow_6 13 rfl rfl)
theorem dX1_canShow_156 : decode cX1_canShow 156 = .ok (.aload_n 0, 1) := dk_42 (dk_at dksX1_canShow_6 16 rfl rfl)
theorem dX1_canShow_157 : decode cX1_canShow 157 = .ok (.lload_n 1, 1) := dk_31 (dk_at dksX1_canShow_6 17 rfl rfl)
theorem dX1_canShow_158 : decode cX1_canShow 158 = .ok (.aload_n 0, 1) := dk_42 (dk_at dksX1_canShow_6 18 rfl rfl)
theorem dX1_canShow_159 : decode cX1_canShow 159 = .ok (.getfield 113, 3) := dk_180 0 113 (dk_at dksX1_canShow_6 19 rfl rfl)
theorem dX1_canShow_162 : decode cX1_canShow 162 = .ok (.iload 5, 2) := dk_21 5 (dk_at dksX1_canShow_6 22 rfl rfl)
theorem dX1_canShow_164 : decode cX1_canShow 164 = .ok (.laload, 1) := dk_47 (dk_at dksX1_canShow_7 0 rfl rfl)
theorem dX1_canShow_165 : decode cX1_canShow 165 = .ok (.ldc2_w 21, 3) := dk_20 0 21 (dk_at dksX1_canShow_7 1 rfl rfl)
theorem dX1_canShow_168 : decode cX1_canShow 168 = .ok (.lxor, 1) := dk_131 (dk_at dksX1_canShow_7 4 rfl rfl)
theorem dX1_canShow_169 : decode cX1_canShow 169 = .ok (.land, 1) := dk_127 (dk_at dksX1_canShow_7 5 rfl rfl)
theorem dX1_canShow_170 : decode cX1_canShow 170 = .ok (.iload_n 3, 1) := dk_29 (dk_at dksX1_canShow_7 6 rfl rfl)
theorem dX1_canShow_171 : decode cX1_canShow 171 = .ok (.iconst 1, 1) := dk_4 (dk_at dksX1_canShow_7 7 rfl rfl)
theorem dX1_canShow_172 : decode cX1_canShow 172 = .ok (.isub, 1) := dk_100 (dk_at dksX1_canShow_7 8 rfl rfl)
theorem dX1_canShow_173 : decode cX1_canShow 173 = .ok (.invokevirtual 145, 3) := dk_182 0 145 (dk_at dksX1_canShow_7 9 rfl rfl)
theorem dX1_canShow_176 : decode cX1_canShow 176 = .ok (.ifCond .eq 5, 3) := dk_153 0 5 (dk_at dksX1_canShow_7 12 rfl rfl)
theorem dX1_canShow_179 : decode cX1_canShow 179 = .ok (.iconst 1, 1) := dk_4 (dk_at dksX1_canShow_7 15 rfl rfl)
theorem dX1_canShow_180 : decode cX1_canShow 180 = .ok (.ireturn, 1) := dk_172 (dk_at dksX1_canShow_7 16 rfl rfl)
theorem dX1_canShow_181 : decode cX1_canShow 181 = .ok (.iinc 5 1, 3) := dk_132 5 1 (dk_at dksX1_canShow_7 17 rfl rfl)
theorem dX1_canShow_184 : decode cX1_canShow 184 = .ok (.goto (-60), 3) := dk_167 255 196 (dk_at dksX1_canShow_7 20 rfl rfl)
theorem dX1_canShow_187 : decode cX1_canShow 187 = .ok (.iconst 0, 1) := dk_3 (dk_at dksX1_canShow_7 23 rfl rfl)
theorem dX1_canShow_188 : decode cX1_canShow 188 = .ok (.ireturn, 1) := dk_172 (dk_at dksX1_canShow_8 0 rfl rfl)
abbrev cX1_isWeaker : ByteArray := prog_1_method_24_code
def yX1_isWeaker : MethodName := ⟨RX1, "isWeaker", "(IJ)Z"⟩
def dkwX1_isWeaker_3 : List UInt8 := [167, 255, 199, 3, 172]
abbrev dktX1_isWeaker_3 : List UInt8 := dkwX1_isWeaker_3 ++ []
def dkwX1_isWeaker_2 : List UInt8 := [154, 0, 19, 22, 4, 22, 7, 148, 154, 0, 9, 21, 6, 27, 162, 0, 5, 4, 172, 132, 6, 1]
abbrev dktX1_isWeaker_2 : List UInt8 := dkwX1_isWeaker_2 ++ dktX1_isWeaker_3
def dkwX1_isWeaker_1 : List UInt8 := [21, 6, 47, 32, 127, 55, 7, 21, 6, 27, 159, 0, 33, 22, 4, 22, 7, 20, 0, 21, 131, 127, 9, 148]
abbrev dktX1_isWeaker_1 : List UInt8 := dkwX1_isWeaker_1 ++ dktX1_isWeaker_2
def dkwX1_isWeaker_0 : List UInt8 := [42, 180, 0, 113, 27, 47, 32, 127, 55, 4, 3, 54, 6, 21, 6, 16, 64, 162, 0, 56, 42, 180, 0, 113]
abbrev dktX1_isWeaker_0 : List UInt8 := dkwX1_isWeaker_0 ++ dktX1_isWeaker_1
theorem dksX1_isWeaker_0 : cX1_isWeaker.data.toList.drop 0 = dktX1_isWeaker_0 := by decide +kernel
theorem dksX1_isWeaker_1 : cX1_isWeaker.data.toList.drop 24 = dktX1_isWeaker_1 := dk_seg dksX1_isWeaker_0 24 rfl rfl
theorem dksX1_isWeaker_2 : cX1_isWeaker.data.toList.drop 48 = dktX1_isWeaker_2 := dk_seg dksX1_isWeaker_1 24 rfl rfl
theorem dksX1_isWeaker_3 : cX1_isWeaker.data.toList.drop 70 = dktX1_isWeaker_3 := dk_seg dksX1_isWeaker_2 22 rfl rfl
theorem dX1_isWeaker_0 : decode cX1_isWeaker 0 = .ok (.aload_n 0, 1) := dk_42 (dk_at dksX1_isWeaker_0 0 rfl rfl)
theorem dX1_isWeaker_1 : decode cX1_isWeaker 1 = .ok (.getfield 113, 3) := dk_180 0 113 (dk_at dksX1_isWeaker_0 1 rfl rfl)
theorem dX1_isWeaker_4 : decode cX1_isWeaker 4 = .ok (.iload_n 1, 1) := dk_27 (dk_at dksX1_isWeaker_0 4 rfl rfl)
theorem dX1_isWeaker_5 : decode cX1_isWeaker 5 = .ok (.laload, 1) := dk_47 (dk_at dksX1_isWeaker_0 5 rfl rfl)
theorem dX1_isWeaker_6 : decode cX1_isWeaker 6 = .ok (.lload_n 2, 1) := dk_32 (dk_at dksX1_isWeaker_0 6 rfl rfl)
theorem dX1_isWeaker_7 : decode cX1_isWeaker 7 = .ok (.land, 1) := dk_127 (dk_at dksX1_isWeaker_0 7 rfl rfl)
theorem dX1_isWeaker_8 : decode cX1_isWeaker 8 = .ok (.lstore 4, 2) := dk_55 4 (dk_at dksX1_isWeaker_0 8 rfl rfl)
theorem dX1_isWeaker_10 : decode cX1_isWeaker 10 = .ok (.iconst 0, 1) := dk_3 (dk_at dksX1_isWeaker_0 10 rfl rfl)
theorem dX1_isWeaker_11 : decode cX1_isWeaker 11 = .ok (.istore 6, 2) := dk_54 6 (dk_at dksX1_isWeaker_0 11 rfl rfl)
theorem dX1_isWeaker_13 : decode cX1_isWeaker 13 = .ok (.iload 6, 2) := dk_21 6 (dk_at dksX1_isWeaker_0 13 rfl rfl)
theorem dX1_isWeaker_15 : decode cX1_isWeaker 15 = .ok (.bipush 64, 2) := dk_16 64 (dk_at dksX1_isWeaker_0 15 rfl rfl)
theorem dX1_isWeaker_17 : decode cX1_isWeaker 17 = .ok (.if_icmp .ge 56, 3) := dk_162 0 56 (dk_at dksX1_isWeaker_0 17 rfl rfl)
theorem dX1_isWeaker_20 : decode cX1_isWeaker 20 = .ok (.aload_n 0, 1) := dk_42 (dk_at dksX1_isWeaker_0 20 rfl rfl)
theorem dX1_isWeaker_21 : decode cX1_isWeaker 21 = .ok (.getfield 113, 3) := dk_180 0 113 (dk_at dksX1_isWeaker_0 21 rfl rfl)
theorem dX1_isWeaker_24 : decode cX1_isWeaker 24 = .ok (.iload 6, 2) := dk_21 6 (dk_at dksX1_isWeaker_1 0 rfl rfl)
theorem dX1_isWeaker_26 : decode cX1_isWeaker 26 = .ok (.laload, 1) := dk_47 (dk_at dksX1_isWeaker_1 2 rfl rfl)
theorem dX1_isWeaker_27 : decode cX1_isWeaker 27 = .ok (.lload_n 2, 1) := dk_32 (dk_at dksX1_isWeaker_1 3 rfl rfl)
theorem dX1_isWeaker_28 : decode cX1_isWeaker 28 = .ok (.land, 1) := dk_127 (dk_at dksX1_isWeaker_1 4 rfl rfl)
theorem dX1_isWeaker_29 : decode cX1_isWeaker 29 = .ok (.lstore 7, 2) := dk_55 7 (dk_at dksX1_isWeaker_1 5 rfl rfl)
theorem dX1_isWeaker_31 : decode cX1_isWeaker 31 = .ok (.iload 6, 2) := dk_21 6 (dk_at dksX1_isWeaker_1 7 rfl rfl)
theorem dX1_isWeaker_33 : decode cX1_isWeaker 33 = .ok (.iload_n 1, 1) := dk_27 (dk_at dksX1_isWeaker_1 9 rfl rfl)
theorem dX1_isWeaker_34 : decode cX1_isWeaker 34 = .ok (.if_icmp .eq 33, 3) := dk_159 0 33 (dk_at dksX1_isWeaker_1 10 rfl rfl)
theorem dX1_isWeaker_37 : decode cX1_isWeaker 37 = .ok (.lload 4, 2) := dk_22 4 (dk_at dksX1_isWeaker_1 13 rfl rfl)
theorem dX1_isWeaker_39 : decode cX1_isWeaker 39 = .ok (.lload 7, 2) := dk_22 7 (dk_at dksX1_isWeaker_1 15 rfl rfl)
theorem dX1_isWeaker_41 : decode cX1_isWeaker 41 = .ok (.ldc2_w 21, 3) := dk_20 0 21 (dk_at dksX1_isWeaker_1 17 rfl rfl)
theorem dX1_isWeaker_44 : decode cX1_isWeaker 44 = .ok (.lxor, 1) := dk_131 (dk_at dksX1_isWeaker_1 20 rfl rfl)
theorem dX1_isWeaker_45 : decode cX1_isWeaker 45 = .ok (.land, 1) := dk_127 (dk_at dksX1_isWeaker_1 21 rfl rfl)
theorem dX1_isWeaker_46 : decode cX1_isWeaker 46 = .ok (.lconst 0, 1) := dk_9 (dk_at dksX1_isWeaker_1 22 rfl rfl)
theorem dX1_isWeaker_47 : decode cX1_isWeaker 47 = .ok (.lcmp, 1) := dk_148 (dk_at dksX1_isWeaker_1 23 rfl rfl)
theorem dX1_isWeaker_48 : decode cX1_isWeaker 48 = .ok (.ifCond .ne 19, 3) := dk_154 0 19 (dk_at dksX1_isWeaker_2 0 rfl rfl)
theorem dX1_isWeaker_51 : decode cX1_isWeaker 51 = .ok (.lload 4, 2) := dk_22 4 (dk_at dksX1_isWeaker_2 3 rfl rfl)
theorem dX1_isWeaker_53 : decode cX1_isWeaker 53 = .ok (.lload 7, 2) := dk_22 7 (dk_at dksX1_isWeaker_2 5 rfl rfl)
theorem dX1_isWeaker_55 : decode cX1_isWeaker 55 = .ok (.lcmp, 1) := dk_148 (dk_at dksX1_isWeaker_2 7 rfl rfl)
theorem dX1_isWeaker_56 : decode cX1_isWeaker 56 = .ok (.ifCond .ne 9, 3) := dk_154 0 9 (dk_at dksX1_isWeaker_2 8 rfl rfl)
theorem dX1_isWeaker_59 : decode cX1_isWeaker 59 = .ok (.iload 6, 2) := dk_21 6 (dk_at dksX1_isWeaker_2 11 rfl rfl)
theorem dX1_isWeaker_61 : decode cX1_isWeaker 61 = .ok (.iload_n 1, 1) := dk_27 (dk_at dksX1_isWeaker_2 13 rfl rfl)
theorem dX1_isWeaker_62 : decode cX1_isWeaker 62 = .ok (.if_icmp .ge 5, 3) := dk_162 0 5 (dk_at dksX1_isWeaker_2 14 rfl rfl)
theorem dX1_isWeaker_65 : decode cX1_isWeaker 65 = .ok (.iconst 1, 1) := dk_4 (dk_at dksX1_isWeaker_2 17 rfl rfl)
theorem dX1_isWeaker_66 : decode cX1_isWeaker 66 = .ok (.ireturn, 1) := dk_172 (dk_at dksX1_isWeaker_2 18 rfl rfl)
theorem dX1_isWeaker_67 : decode cX1_isWeaker 67 = .ok (.iinc 6 1, 3) := dk_132 6 1 (dk_at dksX1_isWeaker_2 19 rfl rfl)
theorem dX1_isWeaker_70 : decode cX1_isWeaker 70 = .ok (.goto (-57), 3) := dk_167 255 199 (dk_at dksX1_isWeaker_3 0 rfl rfl)
theorem dX1_isWeaker_73 : decode cX1_isWeaker 73 = .ok (.iconst 0, 1) := dk_3 (dk_at dksX1_isWeaker_3 3 rfl rfl)
theorem dX1_isWeaker_74 : decode cX1_isWeaker 74 = .ok (.ireturn, 1) := dk_172 (dk_at dksX1_isWeaker_3 4 rfl rfl)
abbrev cX1_neededTests : ByteArray := prog_1_method_86_code
def yX1_neededTests : MethodName := ⟨RX1, "neededTests", "()J"⟩
def dkwX1_neededTests_2 : List UInt8 := [132, 3, 1, 167, 255, 216, 31, 173]
abbrev dktX1_neededTests_2 : List UInt8 := dkwX1_neededTests_2 ++ []
def dkwX1_neededTests_1 : List UInt8 := [180, 0, 119, 29, 47, 184, 0, 129, 4, 160, 0, 12, 42, 180, 0, 119, 29, 47, 167, 0, 4, 9, 129, 64]
abbrev dktX1_neededTests_1 : List UInt8 := dkwX1_neededTests_1 ++ dktX1_neededTests_2
def dkwX1_neededTests_0 : List UInt8 := [42, 182, 0, 134, 88, 9, 64, 3, 62, 29, 42, 180, 0, 23, 182, 0, 116, 162, 0, 35, 31, 42]
abbrev dktX1_neededTests_0 : List UInt8 := dkwX1_neededTests_0 ++ dktX1_neededTests_1
theorem dksX1_neededTests_0 : cX1_neededTests.data.toList.drop 0 = dktX1_neededTests_0 := by decide +kernel
theorem dksX1_neededTests_1 : cX1_neededTests.data.toList.drop 22 = dktX1_neededTests_1 := dk_seg dksX1_neededTests_0 22 rfl rfl
theorem dksX1_neededTests_2 : cX1_neededTests.data.toList.drop 46 = dktX1_neededTests_2 := dk_seg dksX1_neededTests_1 24 rfl rfl
theorem dX1_neededTests_0 : decode cX1_neededTests 0 = .ok (.aload_n 0, 1) := dk_42 (dk_at dksX1_neededTests_0 0 rfl rfl)
theorem dX1_neededTests_1 : decode cX1_neededTests 1 = .ok (.invokevirtual 134, 3) := dk_182 0 134 (dk_at dksX1_neededTests_0 1 rfl rfl)
theorem dX1_neededTests_4 : decode cX1_neededTests 4 = .ok (.pop2, 1) := dk_88 (dk_at dksX1_neededTests_0 4 rfl rfl)
theorem dX1_neededTests_5 : decode cX1_neededTests 5 = .ok (.lconst 0, 1) := dk_9 (dk_at dksX1_neededTests_0 5 rfl rfl)
theorem dX1_neededTests_6 : decode cX1_neededTests 6 = .ok (.lstore_n 1, 1) := dk_64 (dk_at dksX1_neededTests_0 6 rfl rfl)
theorem dX1_neededTests_7 : decode cX1_neededTests 7 = .ok (.iconst 0, 1) := dk_3 (dk_at dksX1_neededTests_0 7 rfl rfl)
theorem dX1_neededTests_8 : decode cX1_neededTests 8 = .ok (.istore_n 3, 1) := dk_62 (dk_at dksX1_neededTests_0 8 rfl rfl)
theorem dX1_neededTests_9 : decode cX1_neededTests 9 = .ok (.iload_n 3, 1) := dk_29 (dk_at dksX1_neededTests_0 9 rfl rfl)
theorem dX1_neededTests_10 : decode cX1_neededTests 10 = .ok (.aload_n 0, 1) := dk_42 (dk_at dksX1_neededTests_0 10 rfl rfl)
theorem dX1_neededTests_11 : decode cX1_neededTests 11 = .ok (.getfield 23, 3) := dk_180 0 23 (dk_at dksX1_neededTests_0 11 rfl rfl)
theorem dX1_neededTests_14 : decode cX1_neededTests 14 = .ok (.invokevirtual 116, 3) := dk_182 0 116 (dk_at dksX1_neededTests_0 14 rfl rfl)
theorem dX1_neededTests_17 : decode cX1_neededTests 17 = .ok (.if_icmp .ge 35, 3) := dk_162 0 35 (dk_at dksX1_neededTests_0 17 rfl rfl)
theorem dX1_neededTests_20 : decode cX1_neededTests 20 = .ok (.lload_n 1, 1) := dk_31 (dk_at dksX1_neededTests_0 20 rfl rfl)
theorem dX1_neededTests_21 : decode cX1_neededTests 21 = .ok (.aload_n 0, 1) := dk_42 (dk_at dksX1_neededTests_0 21 rfl rfl)
theorem dX1_neededTests_22 : decode cX1_neededTests 22 = .ok (.getfield 119, 3) := dk_180 0 119 (dk_at dksX1_neededTests_1 0 rfl rfl)
theorem dX1_neededTests_25 : decode cX1_neededTests 25 = .ok (.iload_n 3, 1) := dk_29 (dk_at dksX1_neededTests_1 3 rfl rfl)
theorem dX1_neededTests_26 : decode cX1_neededTests 26 = .ok (.laload, 1) := dk_47 (dk_at dksX1_neededTests_1 4 rfl rfl)
theorem dX1_neededTests_27 : decode cX1_neededTests 27 = .ok (.invokestatic 129, 3) := dk_184 0 129 (dk_at dksX1_neededTests_1 5 rfl rfl)
theorem dX1_neededTests_30 : decode cX1_neededTests 30 = .ok (.iconst 1, 1) := dk_4 (dk_at dksX1_neededTests_1 8 rfl rfl)
theorem dX1_neededTests_31 : decode cX1_neededTests 31 = .ok (.if_icmp .ne 12, 3) := dk_160 0 12 (dk_at dksX1_neededTests_1 9 rfl rfl)
theorem dX1_neededTests_34 : decode cX1_neededTests 34 = .ok (.aload_n 0, 1) := dk_42 (dk_at dksX1_neededTests_1 12 rfl rfl)
theorem dX1_neededTests_35 : decode cX1_neededTests 35 = .ok (.getfield 119, 3) := dk_180 0 119 (dk_at dksX1_neededTests_1 13 rfl rfl)
theorem dX1_neededTests_38 : decode cX1_neededTests 38 = .ok (.iload_n 3, 1) := dk_29 (dk_at dksX1_neededTests_1 16 rfl rfl)
theorem dX1_neededTests_39 : decode cX1_neededTests 39 = .ok (.laload, 1) := dk_47 (dk_at dksX1_neededTests_1 17 rfl rfl)
theorem dX1_neededTests_40 : decode cX1_neededTests 40 = .ok (.goto 4, 3) := dk_167 0 4 (dk_at dksX1_neededTests_1 18 rfl rfl)
theorem dX1_neededTests_43 : decode cX1_neededTests 43 = .ok (.lconst 0, 1) := dk_9 (dk_at dksX1_neededTests_1 21 rfl rfl)
theorem dX1_neededTests_44 : decode cX1_neededTests 44 = .ok (.lor, 1) := dk_129 (dk_at dksX1_neededTests_1 22 rfl rfl)
theorem dX1_neededTests_45 : decode cX1_neededTests 45 = .ok (.lstore_n 1, 1) := dk_64 (dk_at dksX1_neededTests_1 23 rfl rfl)
theorem dX1_neededTests_46 : decode cX1_neededTests 46 = .ok (.iinc 3 1, 3) := dk_132 3 1 (dk_at dksX1_neededTests_2 0 rfl rfl)
theorem dX1_neededTests_49 : decode cX1_neededTests 49 = .ok (.goto (-40), 3) := dk_167 255 216 (dk_at dksX1_neededTests_2 3 rfl rfl)
theorem dX1_neededTests_52 : decode cX1_neededTests 52 = .ok (.lload_n 1, 1) := dk_31 (dk_at dksX1_neededTests_2 6 rfl rfl)
theorem dX1_neededTests_53 : decode cX1_neededTests 53 = .ok (.lreturn, 1) := dk_173 (dk_at dksX1_neededTests_2 7 rfl rfl)
abbrev cX1_secret : ByteArray := prog_1_method_87_code
def yX1_secret : MethodName := ⟨RX1, "secret", "()I"⟩
def dkwX1_secret_0 : List UInt8 := [42, 180, 0, 23, 180, 1, 3, 172]
abbrev dktX1_secret_0 : List UInt8 := dkwX1_secret_0 ++ []
theorem dksX1_secret_0 : cX1_secret.data.toList.drop 0 = dktX1_secret_0 := by decide +kernel
theorem dX1_secret_0 : decode cX1_secret 0 = .ok (.aload_n 0, 1) := dk_42 (dk_at dksX1_secret_0 0 rfl rfl)
theorem dX1_secret_1 : decode cX1_secret 1 = .ok (.getfield 23, 3) := dk_180 0 23 (dk_at dksX1_secret_0 1 rfl rfl)
theorem dX1_secret_4 : decode cX1_secret 4 = .ok (.getfield 259, 3) := dk_180 1 3 (dk_at dksX1_secret_0 4 rfl rfl)
theorem dX1_secret_7 : decode cX1_secret 7 = .ok (.ireturn, 1) := dk_172 (dk_at dksX1_secret_0 7 rfl rfl)
abbrev cX1_isSuspecting : ByteArray := prog_1_method_88_code
def yX1_isSuspecting : MethodName := ⟨RX1, "isSuspecting", "()Z"⟩
def dkwX1_isSuspecting_0 : List UInt8 := [42, 180, 0, 23, 180, 0, 148, 172]
abbrev dktX1_isSuspecting_0 : List UInt8 := dkwX1_isSuspecting_0 ++ []
theorem dksX1_isSuspecting_0 : cX1_isSuspecting.data.toList.drop 0 = dktX1_isSuspecting_0 := by decide +kernel
theorem dX1_isSuspecting_0 : decode cX1_isSuspecting 0 = .ok (.aload_n 0, 1) := dk_42 (dk_at dksX1_isSuspecting_0 0 rfl rfl)
theorem dX1_isSuspecting_1 : decode cX1_isSuspecting 1 = .ok (.getfield 23, 3) := dk_180 0 23 (dk_at dksX1_isSuspecting_0 1 rfl rfl)
theorem dX1_isSuspecting_4 : decode cX1_isSuspecting 4 = .ok (.getfield 148, 3) := dk_180 0 148 (dk_at dksX1_isSuspecting_0 4 rfl rfl)
theorem dX1_isSuspecting_7 : decode cX1_isSuspecting 7 = .ok (.ireturn, 1) := dk_172 (dk_at dksX1_isSuspecting_0 7 rfl rfl)
abbrev cX1_asked : ByteArray := prog_1_method_89_code
def yX1_asked : MethodName := ⟨RX1, "asked", "()I"⟩
def dkwX1_asked_0 : List UInt8 := [42, 180, 0, 23, 180, 0, 156, 172]
abbrev dktX1_asked_0 : List UInt8 := dkwX1_asked_0 ++ []
theorem dksX1_asked_0 : cX1_asked.data.toList.drop 0 = dktX1_asked_0 := by decide +kernel
theorem dX1_asked_0 : decode cX1_asked 0 = .ok (.aload_n 0, 1) := dk_42 (dk_at dksX1_asked_0 0 rfl rfl)
theorem dX1_asked_1 : decode cX1_asked 1 = .ok (.getfield 23, 3) := dk_180 0 23 (dk_at dksX1_asked_0 1 rfl rfl)
theorem dX1_asked_4 : decode cX1_asked 4 = .ok (.getfield 156, 3) := dk_180 0 156 (dk_at dksX1_asked_0 4 rfl rfl)
theorem dX1_asked_7 : decode cX1_asked 7 = .ok (.ireturn, 1) := dk_172 (dk_at dksX1_asked_0 7 rfl rfl)
abbrev cX1_hypotheses : ByteArray := prog_1_method_91_code
def yX1_hypotheses : MethodName := ⟨RX1, "hypotheses", "()I"⟩
def dkwX1_hypotheses_0 : List UInt8 := [42, 182, 0, 162, 42, 182, 0, 165, 104, 172]
abbrev dktX1_hypotheses_0 : List UInt8 := dkwX1_hypotheses_0 ++ []
theorem dksX1_hypotheses_0 : cX1_hypotheses.data.toList.drop 0 = dktX1_hypotheses_0 := by decide +kernel
theorem dX1_hypotheses_0 : decode cX1_hypotheses 0 = .ok (.aload_n 0, 1) := dk_42 (dk_at dksX1_hypotheses_0 0 rfl rfl)
theorem dX1_hypotheses_1 : decode cX1_hypotheses 1 = .ok (.invokevirtual 162, 3) := dk_182 0 162 (dk_at dksX1_hypotheses_0 1 rfl rfl)
theorem dX1_hypotheses_4 : decode cX1_hypotheses 4 = .ok (.aload_n 0, 1) := dk_42 (dk_at dksX1_hypotheses_0 4 rfl rfl)
theorem dX1_hypotheses_5 : decode cX1_hypotheses 5 = .ok (.invokevirtual 165, 3) := dk_182 0 165 (dk_at dksX1_hypotheses_0 5 rfl rfl)
theorem dX1_hypotheses_8 : decode cX1_hypotheses 8 = .ok (.imul, 1) := dk_104 (dk_at dksX1_hypotheses_0 8 rfl rfl)
theorem dX1_hypotheses_9 : decode cX1_hypotheses 9 = .ok (.ireturn, 1) := dk_172 (dk_at dksX1_hypotheses_0 9 rfl rfl)
abbrev cX1_assignments : ByteArray := prog_1_method_25_code
def yX1_assignments : MethodName := ⟨RX1, "assignments", "()I"⟩
def dkwX1_assignments_1 : List UInt8 := [132, 2, 255, 167, 255, 244, 27, 172]
abbrev dktX1_assignments_1 : List UInt8 := dkwX1_assignments_1 ++ []
def dkwX1_assignments_0 : List UInt8 := [4, 60, 42, 180, 0, 23, 180, 0, 27, 184, 0, 41, 61, 28, 158, 0, 14, 27, 16, 6, 104, 60]
abbrev dktX1_assignments_0 : List UInt8 := dkwX1_assignments_0 ++ dktX1_assignments_1
theorem dksX1_assignments_0 : cX1_assignments.data.toList.drop 0 = dktX1_assignments_0 := by decide +kernel
theorem dksX1_assignments_1 : cX1_assignments.data.toList.drop 22 = dktX1_assignments_1 := dk_seg dksX1_assignments_0 22 rfl rfl
theorem dX1_assignments_0 : decode cX1_assignments 0 = .ok (.iconst 1, 1) := dk_4 (dk_at dksX1_assignments_0 0 rfl rfl)
theorem dX1_assignments_1 : decode cX1_assignments 1 = .ok (.istore_n 1, 1) := dk_60 (dk_at dksX1_assignments_0 1 rfl rfl)
theorem dX1_assignments_2 : decode cX1_assignments 2 = .ok (.aload_n 0, 1) := dk_42 (dk_at dksX1_assignments_0 2 rfl rfl)
theorem dX1_assignments_3 : decode cX1_assignments 3 = .ok (.getfield 23, 3) := dk_180 0 23 (dk_at dksX1_assignments_0 3 rfl rfl)
theorem dX1_assignments_6 : decode cX1_assignments 6 = .ok (.getfield 27, 3) := dk_180 0 27 (dk_at dksX1_assignments_0 6 rfl rfl)
theorem dX1_assignments_9 : decode cX1_assignments 9 = .ok (.invokestatic 41, 3) := dk_184 0 41 (dk_at dksX1_assignments_0 9 rfl rfl)
theorem dX1_assignments_12 : decode cX1_assignments 12 = .ok (.istore_n 2, 1) := dk_61 (dk_at dksX1_assignments_0 12 rfl rfl)
theorem dX1_assignments_13 : decode cX1_assignments 13 = .ok (.iload_n 2, 1) := dk_28 (dk_at dksX1_assignments_0 13 rfl rfl)
theorem dX1_assignments_14 : decode cX1_assignments 14 = .ok (.ifCond .le 14, 3) := dk_158 0 14 (dk_at dksX1_assignments_0 14 rfl rfl)
theorem dX1_assignments_17 : decode cX1_assignments 17 = .ok (.iload_n 1, 1) := dk_27 (dk_at dksX1_assignments_0 17 rfl rfl)
theorem dX1_assignments_18 : decode cX1_assignments 18 = .ok (.bipush 6, 2) := dk_16 6 (dk_at dksX1_assignments_0 18 rfl rfl)
theorem dX1_assignments_20 : decode cX1_assignments 20 = .ok (.imul, 1) := dk_104 (dk_at dksX1_assignments_0 20 rfl rfl)
theorem dX1_assignments_21 : decode cX1_assignments 21 = .ok (.istore_n 1, 1) := dk_60 (dk_at dksX1_assignments_0 21 rfl rfl)
theorem dX1_assignments_22 : decode cX1_assignments 22 = .ok (.iinc 2 (-1), 3) := dk_132 2 255 (dk_at dksX1_assignments_1 0 rfl rfl)
theorem dX1_assignments_25 : decode cX1_assignments 25 = .ok (.goto (-12), 3) := dk_167 255 244 (dk_at dksX1_assignments_1 3 rfl rfl)
theorem dX1_assignments_28 : decode cX1_assignments 28 = .ok (.iload_n 1, 1) := dk_27 (dk_at dksX1_assignments_1 6 rfl rfl)
theorem dX1_assignments_29 : decode cX1_assignments 29 = .ok (.ireturn, 1) := dk_172 (dk_at dksX1_assignments_1 7 rfl rfl)
abbrev cX1_faultsTold : ByteArray := prog_1_method_26_code
def yX1_faultsTold : MethodName := ⟨RX1, "faultsTold", "()I"⟩
def dkwX1_faultsTold_0 : List UInt8 := [42, 180, 0, 23, 180, 0, 148, 153, 0, 15, 42, 180, 0, 23, 182, 0, 116, 4, 96, 167, 0, 4, 4, 172]
abbrev dktX1_faultsTold_0 : List UInt8 := dkwX1_faultsTold_0 ++ []
theorem dksX1_faultsTold_0 : cX1_faultsTold.data.toList.drop 0 = dktX1_faultsTold_0 := by decide +kernel
theorem dX1_faultsTold_0 : decode cX1_faultsTold 0 = .ok (.aload_n 0, 1) := dk_42 (dk_at dksX1_faultsTold_0 0 rfl rfl)
theorem dX1_faultsTold_1 : decode cX1_faultsTold 1 = .ok (.getfield 23, 3) := dk_180 0 23 (dk_at dksX1_faultsTold_0 1 rfl rfl)
theorem dX1_faultsTold_4 : decode cX1_faultsTold 4 = .ok (.getfield 148, 3) := dk_180 0 148 (dk_at dksX1_faultsTold_0 4 rfl rfl)
theorem dX1_faultsTold_7 : decode cX1_faultsTold 7 = .ok (.ifCond .eq 15, 3) := dk_153 0 15 (dk_at dksX1_faultsTold_0 7 rfl rfl)
theorem dX1_faultsTold_10 : decode cX1_faultsTold 10 = .ok (.aload_n 0, 1) := dk_42 (dk_at dksX1_faultsTold_0 10 rfl rfl)
theorem dX1_faultsTold_11 : decode cX1_faultsTold 11 = .ok (.getfield 23, 3) := dk_180 0 23 (dk_at dksX1_faultsTold_0 11 rfl rfl)
theorem dX1_faultsTold_14 : decode cX1_faultsTold 14 = .ok (.invokevirtual 116, 3) := dk_182 0 116 (dk_at dksX1_faultsTold_0 14 rfl rfl)
theorem dX1_faultsTold_17 : decode cX1_faultsTold 17 = .ok (.iconst 1, 1) := dk_4 (dk_at dksX1_faultsTold_0 17 rfl rfl)
theorem dX1_faultsTold_18 : decode cX1_faultsTold 18 = .ok (.iadd, 1) := dk_96 (dk_at dksX1_faultsTold_0 18 rfl rfl)
theorem dX1_faultsTold_19 : decode cX1_faultsTold 19 = .ok (.goto 4, 3) := dk_167 0 4 (dk_at dksX1_faultsTold_0 19 rfl rfl)
theorem dX1_faultsTold_22 : decode cX1_faultsTold 22 = .ok (.iconst 1, 1) := dk_4 (dk_at dksX1_faultsTold_0 22 rfl rfl)
theorem dX1_faultsTold_23 : decode cX1_faultsTold 23 = .ok (.ireturn, 1) := dk_172 (dk_at dksX1_faultsTold_0 23 rfl rfl)
abbrev cX1_candidates : ByteArray := prog_1_method_92_code
def yX1_candidates : MethodName := ⟨RX1, "candidates", "(Z)I"⟩
def dkwX1_candidates_0 : List UInt8 := [27, 153, 0, 10, 42, 182, 1, 153, 167, 0, 7, 42, 182, 1, 156, 172]
abbrev dktX1_candidates_0 : List UInt8 := dkwX1_candidates_0 ++ []
theorem dksX1_candidates_0 : cX1_candidates.data.toList.drop 0 = dktX1_candidates_0 := by decide +kernel
theorem dX1_candidates_0 : decode cX1_candidates 0 = .ok (.iload_n 1, 1) := dk_27 (dk_at dksX1_candidates_0 0 rfl rfl)
theorem dX1_candidates_1 : decode cX1_candidates 1 = .ok (.ifCond .eq 10, 3) := dk_153 0 10 (dk_at dksX1_candidates_0 1 rfl rfl)
theorem dX1_candidates_4 : decode cX1_candidates 4 = .ok (.aload_n 0, 1) := dk_42 (dk_at dksX1_candidates_0 4 rfl rfl)
theorem dX1_candidates_5 : decode cX1_candidates 5 = .ok (.invokevirtual 409, 3) := dk_182 1 153 (dk_at dksX1_candidates_0 5 rfl rfl)
theorem dX1_candidates_8 : decode cX1_candidates 8 = .ok (.goto 7, 3) := dk_167 0 7 (dk_at dksX1_candidates_0 8 rfl rfl)
theorem dX1_candidates_11 : decode cX1_candidates 11 = .ok (.aload_n 0, 1) := dk_42 (dk_at dksX1_candidates_0 11 rfl rfl)
theorem dX1_candidates_12 : decode cX1_candidates 12 = .ok (.invokevirtual 412, 3) := dk_182 1 156 (dk_at dksX1_candidates_0 12 rfl rfl)
theorem dX1_candidates_15 : decode cX1_candidates 15 = .ok (.ireturn, 1) := dk_172 (dk_at dksX1_candidates_0 15 rfl rfl)
abbrev cX1_candidatesByTables : ByteArray := prog_1_method_28_code
def yX1_candidatesByTables : MethodName := ⟨RX1, "candidatesByTables", "()I"⟩
def dkwX1_candidatesByTables_2 : List UInt8 := [60, 132, 5, 1, 167, 255, 228, 132, 4, 1, 167, 255, 213, 27, 172]
abbrev dktX1_candidatesByTables_2 : List UInt8 := dkwX1_candidatesByTables_2 ++ []
def dkwX1_candidatesByTables_1 : List UInt8 := [21, 5, 29, 162, 0, 28, 27, 42, 21, 4, 21, 5, 182, 0, 168, 153, 0, 7, 4, 167, 0, 4, 3, 96]
abbrev dktX1_candidatesByTables_1 : List UInt8 := dkwX1_candidatesByTables_1 ++ dktX1_candidatesByTables_2
def dkwX1_candidatesByTables_0 : List UInt8 := [3, 60, 42, 182, 0, 162, 61, 42, 182, 0, 165, 62, 3, 54, 4, 21, 4, 28, 162, 0, 43, 3, 54, 5]
abbrev dktX1_candidatesByTables_0 : List UInt8 := dkwX1_candidatesByTables_0 ++ dktX1_candidatesByTables_1
theorem dksX1_candidatesByTables_0 : cX1_candidatesByTables.data.toList.drop 0 = dktX1_candidatesByTables_0 := by decide +kernel
theorem dksX1_candidatesByTables_1 : cX1_candidatesByTables.data.toList.drop 24 = dktX1_candidatesByTables_1 := dk_seg dksX1_candidatesByTables_0 24 rfl rfl
theorem dksX1_candidatesByTables_2 : cX1_candidatesByTables.data.toList.drop 48 = dktX1_candidatesByTables_2 := dk_seg dksX1_candidatesByTables_1 24 rfl rfl
theorem dX1_candidatesByTables_0 : decode cX1_candidatesByTables 0 = .ok (.iconst 0, 1) := dk_3 (dk_at dksX1_candidatesByTables_0 0 rfl rfl)
theorem dX1_candidatesByTables_1 : decode cX1_candidatesByTables 1 = .ok (.istore_n 1, 1) := dk_60 (dk_at dksX1_candidatesByTables_0 1 rfl rfl)
theorem dX1_candidatesByTables_2 : decode cX1_candidatesByTables 2 = .ok (.aload_n 0, 1) := dk_42 (dk_at dksX1_candidatesByTables_0 2 rfl rfl)
theorem dX1_candidatesByTables_3 : decode cX1_candidatesByTables 3 = .ok (.invokevirtual 162, 3) := dk_182 0 162 (dk_at dksX1_candidatesByTables_0 3 rfl rfl)
theorem dX1_candidatesByTables_6 : decode cX1_candidatesByTables 6 = .ok (.istore_n 2, 1) := dk_61 (dk_at dksX1_candidatesByTables_0 6 rfl rfl)
theorem dX1_candidatesByTables_7 : decode cX1_candidatesByTables 7 = .ok (.aload_n 0, 1) := dk_42 (dk_at dksX1_candidatesByTables_0 7 rfl rfl)
theorem dX1_candidatesByTables_8 : decode cX1_candidatesByTables 8 = .ok (.invokevirtual 165, 3) := dk_182 0 165 (dk_at dksX1_candidatesByTables_0 8 rfl rfl)
theorem dX1_candidatesByTables_11 : decode cX1_candidatesByTables 11 = .ok (.istore_n 3, 1) := dk_62 (dk_at dksX1_candidatesByTables_0 11 rfl rfl)
theorem dX1_candidatesByTables_12 : decode cX1_candidatesByTables 12 = .ok (.iconst 0, 1) := dk_3 (dk_at dksX1_candidatesByTables_0 12 rfl rfl)
theorem dX1_candidatesByTables_13 : decode cX1_candidatesByTables 13 = .ok (.istore 4, 2) := dk_54 4 (dk_at dksX1_candidatesByTables_0 13 rfl rfl)
theorem dX1_candidatesByTables_15 : decode cX1_candidatesByTables 15 = .ok (.iload 4, 2) := dk_21 4 (dk_at dksX1_candidatesByTables_0 15 rfl rfl)
theorem dX1_candidatesByTables_17 : decode cX1_candidatesByTables 17 = .ok (.iload_n 2, 1) := dk_28 (dk_at dksX1_candidatesByTables_0 17 rfl rfl)
theorem dX1_candidatesByTables_18 : decode cX1_candidatesByTables 18 = .ok (.if_icmp .ge 43, 3) := dk_162 0 43 (dk_at dksX1_candidatesByTables_0 18 rfl rfl)
theorem dX1_candidatesByTables_21 : decode cX1_candidatesByTables 21 = .ok (.iconst 0, 1) := dk_3 (dk_at dksX1_candidatesByTables_0 21 rfl rfl)
theorem dX1_candidatesByTables_22 : decode cX1_candidatesByTables 22 = .ok (.istore 5, 2) := dk_54 5 (dk_at dksX1_candidatesByTables_0 22 rfl rfl)
theorem dX1_candidatesByTables_24 : decode cX1_candidatesByTables 24 = .ok (.iload 5, 2) := dk_21 5 (dk_at dksX1_candidatesByTables_1 0 rfl rfl)
theorem dX1_candidatesByTables_26 : decode cX1_candidatesByTables 26 = .ok (.iload_n 3, 1) := dk_29 (dk_at dksX1_candidatesByTables_1 2 rfl rfl)
theorem dX1_candidatesByTables_27 : decode cX1_candidatesByTables 27 = .ok (.if_icmp .ge 28, 3) := dk_162 0 28 (dk_at dksX1_candidatesByTables_1 3 rfl rfl)
theorem dX1_candidatesByTables_30 : decode cX1_candidatesByTables 30 = .ok (.iload_n 1, 1) := dk_27 (dk_at dksX1_candidatesByTables_1 6 rfl rfl)
theorem dX1_candidatesByTables_31 : decode cX1_candidatesByTables 31 = .ok (.aload_n 0, 1) := dk_42 (dk_at dksX1_candidatesByTables_1 7 rfl rfl)
theorem dX1_candidatesByTables_32 : decode cX1_candidatesByTables 32 = .ok (.iload 4, 2) := dk_21 4 (dk_at dksX1_candidatesByTables_1 8 rfl rfl)
theorem dX1_candidatesByTables_34 : decode cX1_candidatesByTables 34 = .ok (.iload 5, 2) := dk_21 5 (dk_at dksX1_candidatesByTables_1 10 rfl rfl)
theorem dX1_candidatesByTables_36 : decode cX1_candidatesByTables 36 = .ok (.invokevirtual 168, 3) := dk_182 0 168 (dk_at dksX1_candidatesByTables_1 12 rfl rfl)
theorem dX1_candidatesByTables_39 : decode cX1_candidatesByTables 39 = .ok (.ifCond .eq 7, 3) := dk_153 0 7 (dk_at dksX1_candidatesByTables_1 15 rfl rfl)
theorem dX1_candidatesByTables_42 : decode cX1_candidatesByTables 42 = .ok (.iconst 1, 1) := dk_4 (dk_at dksX1_candidatesByTables_1 18 rfl rfl)
theorem dX1_candidatesByTables_43 : decode cX1_candidatesByTables 43 = .ok (.goto 4, 3) := dk_167 0 4 (dk_at dksX1_candidatesByTables_1 19 rfl rfl)
theorem dX1_candidatesByTables_46 : decode cX1_candidatesByTables 46 = .ok (.iconst 0, 1) := dk_3 (dk_at dksX1_candidatesByTables_1 22 rfl rfl)
theorem dX1_candidatesByTables_47 : decode cX1_candidatesByTables 47 = .ok (.iadd, 1) := dk_96 (dk_at dksX1_candidatesByTables_1 23 rfl rfl)
theorem dX1_candidatesByTables_48 : decode cX1_candidatesByTables 48 = .ok (.istore_n 1, 1) := dk_60 (dk_at dksX1_candidatesByTables_2 0 rfl rfl)
theorem dX1_candidatesByTables_49 : decode cX1_candidatesByTables 49 = .ok (.iinc 5 1, 3) := dk_132 5 1 (dk_at dksX1_candidatesByTables_2 1 rfl rfl)
theorem dX1_candidatesByTables_52 : decode cX1_candidatesByTables 52 = .ok (.goto (-28), 3) := dk_167 255 228 (dk_at dksX1_candidatesByTables_2 4 rfl rfl)
theorem dX1_candidatesByTables_55 : decode cX1_candidatesByTables 55 = .ok (.iinc 4 1, 3) := dk_132 4 1 (dk_at dksX1_candidatesByTables_2 7 rfl rfl)
theorem dX1_candidatesByTables_58 : decode cX1_candidatesByTables 58 = .ok (.goto (-43), 3) := dk_167 255 213 (dk_at dksX1_candidatesByTables_2 10 rfl rfl)
theorem dX1_candidatesByTables_61 : decode cX1_candidatesByTables 61 = .ok (.iload_n 1, 1) := dk_27 (dk_at dksX1_candidatesByTables_2 13 rfl rfl)
theorem dX1_candidatesByTables_62 : decode cX1_candidatesByTables 62 = .ok (.ireturn, 1) := dk_172 (dk_at dksX1_candidatesByTables_2 14 rfl rfl)
abbrev cX1_isCandidate : ByteArray := prog_1_method_27_code
def yX1_isCandidate : MethodName := ⟨RX1, "isCandidate", "(II)Z"⟩
def dkwX1_isCandidate_3 : List UInt8 := [3, 62, 132, 4, 1, 167, 255, 197, 29, 172]
abbrev dktX1_isCandidate_3 : List UInt8 := dkwX1_isCandidate_3 ++ []
def dkwX1_isCandidate_2 : List UInt8 := [16, 16, 108, 46, 42, 180, 0, 23, 180, 0, 159, 21, 4, 46, 16, 16, 112, 160, 0, 7, 4, 167, 0, 4]
abbrev dktX1_isCandidate_2 : List UInt8 := dkwX1_isCandidate_2 ++ dktX1_isCandidate_3
def dkwX1_isCandidate_1 : List UInt8 := [180, 0, 156, 162, 0, 53, 29, 153, 0, 41, 42, 180, 0, 79, 42, 180, 0, 23, 180, 0, 159, 21, 4, 46]
abbrev dktX1_isCandidate_1 : List UInt8 := dkwX1_isCandidate_1 ++ dktX1_isCandidate_2
def dkwX1_isCandidate_0 : List UInt8 := [42, 27, 28, 4, 100, 182, 0, 106, 42, 182, 0, 152, 4, 62, 3, 54, 4, 21, 4, 42, 180, 0, 23]
abbrev dktX1_isCandidate_0 : List UInt8 := dkwX1_isCandidate_0 ++ dktX1_isCandidate_1
theorem dksX1_isCandidate_0 : cX1_isCandidate.data.toList.drop 0 = dktX1_isCandidate_0 := by decide +kernel
theorem dksX1_isCandidate_1 : cX1_isCandidate.data.toList.drop 23 = dktX1_isCandidate_1 := dk_seg dksX1_isCandidate_0 23 rfl rfl
theorem dksX1_isCandidate_2 : cX1_isCandidate.data.toList.drop 47 = dktX1_isCandidate_2 := dk_seg dksX1_isCandidate_1 24 rfl rfl
theorem dksX1_isCandidate_3 : cX1_isCandidate.data.toList.drop 71 = dktX1_isCandidate_3 := dk_seg dksX1_isCandidate_2 24 rfl rfl
theorem dX1_isCandidate_0 : decode cX1_isCandidate 0 = .ok (.aload_n 0, 1) := dk_42 (dk_at dksX1_isCandidate_0 0 rfl rfl)
theorem dX1_isCandidate_1 : decode cX1_isCandidate 1 = .ok (.iload_n 1, 1) := dk_27 (dk_at dksX1_isCandidate_0 1 rfl rfl)
theorem dX1_isCandidate_2 : decode cX1_isCandidate 2 = .ok (.iload_n 2, 1) := dk_28 (dk_at dksX1_isCandidate_0 2 rfl rfl)
theorem dX1_isCandidate_3 : decode cX1_isCandidate 3 = .ok (.iconst 1, 1) := dk_4 (dk_at dksX1_isCandidate_0 3 rfl rfl)
theorem dX1_isCandidate_4 : decode cX1_isCandidate 4 = .ok (.isub, 1) := dk_100 (dk_at dksX1_isCandidate_0 4 rfl rfl)
theorem dX1_isCandidate_5 : decode cX1_isCandidate 5 = .ok (.invokevirtual 106, 3) := dk_182 0 106 (dk_at dksX1_isCandidate_0 5 rfl rfl)
theorem dX1_isCandidate_8 : decode cX1_isCandidate 8 = .ok (.aload_n 0, 1) := dk_42 (dk_at dksX1_isCandidate_0 8 rfl rfl)
theorem dX1_isCandidate_9 : decode cX1_isCandidate 9 = .ok (.invokevirtual 152, 3) := dk_182 0 152 (dk_at dksX1_isCandidate_0 9 rfl rfl)
theorem dX1_isCandidate_12 : decode cX1_isCandidate 12 = .ok (.iconst 1, 1) := dk_4 (dk_at dksX1_isCandidate_0 12 rfl rfl)
theorem dX1_isCandidate_13 : decode cX1_isCandidate 13 = .ok (.istore_n 3, 1) := dk_62 (dk_at dksX1_isCandidate_0 13 rfl rfl)
theorem dX1_isCandidate_14 : decode cX1_isCandidate 14 = .ok (.iconst 0, 1) := dk_3 (dk_at dksX1_isCandidate_0 14 rfl rfl)
theorem dX1_isCandidate_15 : decode cX1_isCandidate 15 = .ok (.istore 4, 2) := dk_54 4 (dk_at dksX1_isCandidate_0 15 rfl rfl)
theorem dX1_isCandidate_17 : decode cX1_isCandidate 17 = .ok (.iload 4, 2) := dk_21 4 (dk_at dksX1_isCandidate_0 17 rfl rfl)
theorem dX1_isCandidate_19 : decode cX1_isCandidate 19 = .ok (.aload_n 0, 1) := dk_42 (dk_at dksX1_isCandidate_0 19 rfl rfl)
theorem dX1_isCandidate_20 : decode cX1_isCandidate 20 = .ok (.getfield 23, 3) := dk_180 0 23 (dk_at dksX1_isCandidate_0 20 rfl rfl)
theorem dX1_isCandidate_23 : decode cX1_isCandidate 23 = .ok (.getfield 156, 3) := dk_180 0 156 (dk_at dksX1_isCandidate_1 0 rfl rfl)
theorem dX1_isCandidate_26 : decode cX1_isCandidate 26 = .ok (.if_icmp .ge 53, 3) := dk_162 0 53 (dk_at dksX1_isCandidate_1 3 rfl rfl)
theorem dX1_isCandidate_29 : decode cX1_isCandidate 29 = .ok (.iload_n 3, 1) := dk_29 (dk_at dksX1_isCandidate_1 6 rfl rfl)
theorem dX1_isCandidate_30 : decode cX1_isCandidate 30 = .ok (.ifCond .eq 41, 3) := dk_153 0 41 (dk_at dksX1_isCandidate_1 7 rfl rfl)
theorem dX1_isCandidate_33 : decode cX1_isCandidate 33 = .ok (.aload_n 0, 1) := dk_42 (dk_at dksX1_isCandidate_1 10 rfl rfl)
theorem dX1_isCandidate_34 : decode cX1_isCandidate 34 = .ok (.getfield 79, 3) := dk_180 0 79 (dk_at dksX1_isCandidate_1 11 rfl rfl)
theorem dX1_isCandidate_37 : decode cX1_isCandidate 37 = .ok (.aload_n 0, 1) := dk_42 (dk_at dksX1_isCandidate_1 14 rfl rfl)
theorem dX1_isCandidate_38 : decode cX1_isCandidate 38 = .ok (.getfield 23, 3) := dk_180 0 23 (dk_at dksX1_isCandidate_1 15 rfl rfl)
theorem dX1_isCandidate_41 : decode cX1_isCandidate 41 = .ok (.getfield 159, 3) := dk_180 0 159 (dk_at dksX1_isCandidate_1 18 rfl rfl)
theorem dX1_isCandidate_44 : decode cX1_isCandidate 44 = .ok (.iload 4, 2) := dk_21 4 (dk_at dksX1_isCandidate_1 21 rfl rfl)
theorem dX1_isCandidate_46 : decode cX1_isCandidate 46 = .ok (.iaload, 1) := dk_46 (dk_at dksX1_isCandidate_1 23 rfl rfl)
theorem dX1_isCandidate_47 : decode cX1_isCandidate 47 = .ok (.bipush 16, 2) := dk_16 16 (dk_at dksX1_isCandidate_2 0 rfl rfl)
theorem dX1_isCandidate_49 : decode cX1_isCandidate 49 = .ok (.idiv, 1) := dk_108 (dk_at dksX1_isCandidate_2 2 rfl rfl)
theorem dX1_isCandidate_50 : decode cX1_isCandidate 50 = .ok (.iaload, 1) := dk_46 (dk_at dksX1_isCandidate_2 3 rfl rfl)
theorem dX1_isCandidate_51 : decode cX1_isCandidate 51 = .ok (.aload_n 0, 1) := dk_42 (dk_at dksX1_isCandidate_2 4 rfl rfl)
theorem dX1_isCandidate_52 : decode cX1_isCandidate 52 = .ok (.getfield 23, 3) := dk_180 0 23 (dk_at dksX1_isCandidate_2 5 rfl rfl)
theorem dX1_isCandidate_55 : decode cX1_isCandidate 55 = .ok (.getfield 159, 3) := dk_180 0 159 (dk_at dksX1_isCandidate_2 8 rfl rfl)
theorem dX1_isCandidate_58 : decode cX1_isCandidate 58 = .ok (.iload 4, 2) := dk_21 4 (dk_at dksX1_isCandidate_2 11 rfl rfl)
theorem dX1_isCandidate_60 : decode cX1_isCandidate 60 = .ok (.iaload, 1) := dk_46 (dk_at dksX1_isCandidate_2 13 rfl rfl)
theorem dX1_isCandidate_61 : decode cX1_isCandidate 61 = .ok (.bipush 16, 2) := dk_16 16 (dk_at dksX1_isCandidate_2 14 rfl rfl)
theorem dX1_isCandidate_63 : decode cX1_isCandidate 63 = .ok (.irem, 1) := dk_112 (dk_at dksX1_isCandidate_2 16 rfl rfl)
theorem dX1_isCandidate_64 : decode cX1_isCandidate 64 = .ok (.if_icmp .ne 7, 3) := dk_160 0 7 (dk_at dksX1_isCandidate_2 17 rfl rfl)
theorem dX1_isCandidate_67 : decode cX1_isCandidate 67 = .ok (.iconst 1, 1) := dk_4 (dk_at dksX1_isCandidate_2 20 rfl rfl)
theorem dX1_isCandidate_68 : decode cX1_isCandidate 68 = .ok (.goto 4, 3) := dk_167 0 4 (dk_at dksX1_isCandidate_2 21 rfl rfl)
theorem dX1_isCandidate_71 : decode cX1_isCandidate 71 = .ok (.iconst 0, 1) := dk_3 (dk_at dksX1_isCandidate_3 0 rfl rfl)
theorem dX1_isCandidate_72 : decode cX1_isCandidate 72 = .ok (.istore_n 3, 1) := dk_62 (dk_at dksX1_isCandidate_3 1 rfl rfl)
theorem dX1_isCandidate_73 : decode cX1_isCandidate 73 = .ok (.iinc 4 1, 3) := dk_132 4 1 (dk_at dksX1_isCandidate_3 2 rfl rfl)
theorem dX1_isCandidate_76 : decode cX1_isCandidate 76 = .ok (.goto (-59), 3) := dk_167 255 197 (dk_at dksX1_isCandidate_3 5 rfl rfl)
theorem dX1_isCandidate_79 : decode cX1_isCandidate 79 = .ok (.iload_n 3, 1) := dk_29 (dk_at dksX1_isCandidate_3 8 rfl rfl)
theorem dX1_isCandidate_80 : decode cX1_isCandidate 80 = .ok (.ireturn, 1) := dk_172 (dk_at dksX1_isCandidate_3 9 rfl rfl)
abbrev cX1_layAnswers : ByteArray := prog_1_method_13_code
def yX1_layAnswers : MethodName := ⟨RX1, "layAnswers", "()V"⟩
def dkwX1_layAnswers_4 : List UInt8 := [177]
abbrev dktX1_layAnswers_4 : List UInt8 := dkwX1_layAnswers_4 ++ []
def dkwX1_layAnswers_3 : List UInt8 := [29, 123, 10, 127, 136, 27, 120, 128, 79, 132, 3, 1, 167, 255, 225, 132, 1, 1, 132, 2, 1, 167, 255, 189]
abbrev dktX1_layAnswers_3 : List UInt8 := dkwX1_layAnswers_3 ++ dktX1_layAnswers_4
def dkwX1_layAnswers_2 : List UInt8 := [153, 0, 42, 3, 62, 29, 16, 64, 162, 0, 31, 42, 180, 0, 79, 29, 92, 46, 42, 180, 0, 47, 28, 47]
abbrev dktX1_layAnswers_2 : List UInt8 := dkwX1_layAnswers_2 ++ dktX1_layAnswers_3
def dkwX1_layAnswers_1 : List UInt8 := [61, 28, 42, 180, 0, 23, 182, 0, 82, 162, 0, 62, 42, 180, 0, 23, 180, 0, 86, 28, 184, 0, 33]
abbrev dktX1_layAnswers_1 : List UInt8 := dkwX1_layAnswers_1 ++ dktX1_layAnswers_2
def dkwX1_layAnswers_0 : List UInt8 := [3, 60, 27, 16, 64, 162, 0, 16, 42, 180, 0, 79, 27, 3, 79, 132, 1, 1, 167, 255, 240, 3, 60, 3]
abbrev dktX1_layAnswers_0 : List UInt8 := dkwX1_layAnswers_0 ++ dktX1_layAnswers_1
theorem dksX1_layAnswers_0 : cX1_layAnswers.data.toList.drop 0 = dktX1_layAnswers_0 := by decide +kernel
theorem dksX1_layAnswers_1 : cX1_layAnswers.data.toList.drop 24 = dktX1_layAnswers_1 := dk_seg dksX1_layAnswers_0 24 rfl rfl
theorem dksX1_layAnswers_2 : cX1_layAnswers.data.toList.drop 47 = dktX1_layAnswers_2 := dk_seg dksX1_layAnswers_1 23 rfl rfl
theorem dksX1_layAnswers_3 : cX1_layAnswers.data.toList.drop 71 = dktX1_layAnswers_3 := dk_seg dksX1_layAnswers_2 24 rfl rfl
theorem dksX1_layAnswers_4 : cX1_layAnswers.data.toList.drop 95 = dktX1_layAnswers_4 := dk_seg dksX1_layAnswers_3 24 rfl rfl
theorem dX1_layAnswers_0 : decode cX1_layAnswers 0 = .ok (.iconst 0, 1) := dk_3 (dk_at dksX1_layAnswers_0 0 rfl rfl)
theorem dX1_layAnswers_1 : decode cX1_layAnswers 1 = .ok (.istore_n 1, 1) := dk_60 (dk_at dksX1_layAnswers_0 1 rfl rfl)
theorem dX1_layAnswers_2 : decode cX1_layAnswers 2 = .ok (.iload_n 1, 1) := dk_27 (dk_at dksX1_layAnswers_0 2 rfl rfl)
theorem dX1_layAnswers_3 : decode cX1_layAnswers 3 = .ok (.bipush 64, 2) := dk_16 64 (dk_at dksX1_layAnswers_0 3 rfl rfl)
theorem dX1_layAnswers_5 : decode cX1_layAnswers 5 = .ok (.if_icmp .ge 16, 3) := dk_162 0 16 (dk_at dksX1_layAnswers_0 5 rfl rfl)
theorem dX1_layAnswers_8 : decode cX1_layAnswers 8 = .ok (.aload_n 0, 1) := dk_42 (dk_at dksX1_layAnswers_0 8 rfl rfl)
theorem dX1_layAnswers_9 : decode cX1_layAnswers 9 = .ok (.getfield 79, 3) := dk_180 0 79 (dk_at dksX1_layAnswers_0 9 rfl rfl)
theorem dX1_layAnswers_12 : decode cX1_layAnswers 12 = .ok (.iload_n 1, 1) := dk_27 (dk_at dksX1_layAnswers_0 12 rfl rfl)
theorem dX1_layAnswers_13 : decode cX1_layAnswers 13 = .ok (.iconst 0, 1) := dk_3 (dk_at dksX1_layAnswers_0 13 rfl rfl)
theorem dX1_layAnswers_14 : decode cX1_layAnswers 14 = .ok (.iastore, 1) := dk_79 (dk_at dksX1_layAnswers_0 14 rfl rfl)
theorem dX1_layAnswers_15 : decode cX1_layAnswers 15 = .ok (.iinc 1 1, 3) := dk_132 1 1 (dk_at dksX1_layAnswers_0 15 rfl rfl)
theorem dX1_layAnswers_18 : decode cX1_layAnswers 18 = .ok (.goto (-16), 3) := dk_167 255 240 (dk_at dksX1_layAnswers_0 18 rfl rfl)
theorem dX1_layAnswers_21 : decode cX1_layAnswers 21 = .ok (.iconst 0, 1) := dk_3 (dk_at dksX1_layAnswers_0 21 rfl rfl)
theorem dX1_layAnswers_22 : decode cX1_layAnswers 22 = .ok (.istore_n 1, 1) := dk_60 (dk_at dksX1_layAnswers_0 22 rfl rfl)
theorem dX1_layAnswers_23 : decode cX1_layAnswers 23 = .ok (.iconst 0, 1) := dk_3 (dk_at dksX1_layAnswers_0 23 rfl rfl)
theorem dX1_layAnswers_24 : decode cX1_layAnswers 24 = .ok (.istore_n 2, 1) := dk_61 (dk_at dksX1_layAnswers_1 0 rfl rfl)
theorem dX1_layAnswers_25 : decode cX1_layAnswers 25 = .ok (.iload_n 2, 1) := dk_28 (dk_at dksX1_layAnswers_1 1 rfl rfl)
theorem dX1_layAnswers_26 : decode cX1_layAnswers 26 = .ok (.aload_n 0, 1) := dk_42 (dk_at dksX1_layAnswers_1 2 rfl rfl)
theorem dX1_layAnswers_27 : decode cX1_layAnswers 27 = .ok (.getfield 23, 3) := dk_180 0 23 (dk_at dksX1_layAnswers_1 3 rfl rfl)
theorem dX1_layAnswers_30 : decode cX1_layAnswers 30 = .ok (.invokevirtual 82, 3) := dk_182 0 82 (dk_at dksX1_layAnswers_1 6 rfl rfl)
theorem dX1_layAnswers_33 : decode cX1_layAnswers 33 = .ok (.if_icmp .ge 62, 3) := dk_162 0 62 (dk_at dksX1_layAnswers_1 9 rfl rfl)
theorem dX1_layAnswers_36 : decode cX1_layAnswers 36 = .ok (.aload_n 0, 1) := dk_42 (dk_at dksX1_layAnswers_1 12 rfl rfl)
theorem dX1_layAnswers_37 : decode cX1_layAnswers 37 = .ok (.getfield 23, 3) := dk_180 0 23 (dk_at dksX1_layAnswers_1 13 rfl rfl)
theorem dX1_layAnswers_40 : decode cX1_layAnswers 40 = .ok (.getfield 86, 3) := dk_180 0 86 (dk_at dksX1_layAnswers_1 16 rfl rfl)
theorem dX1_layAnswers_43 : decode cX1_layAnswers 43 = .ok (.iload_n 2, 1) := dk_28 (dk_at dksX1_layAnswers_1 19 rfl rfl)
theorem dX1_layAnswers_44 : decode cX1_layAnswers 44 = .ok (.invokestatic 33, 3) := dk_184 0 33 (dk_at dksX1_layAnswers_1 20 rfl rfl)
theorem dX1_layAnswers_47 : decode cX1_layAnswers 47 = .ok (.ifCond .eq 42, 3) := dk_153 0 42 (dk_at dksX1_layAnswers_2 0 rfl rfl)
theorem dX1_layAnswers_50 : decode cX1_layAnswers 50 = .ok (.iconst 0, 1) := dk_3 (dk_at dksX1_layAnswers_2 3 rfl rfl)
theorem dX1_layAnswers_51 : decode cX1_layAnswers 51 = .ok (.istore_n 3, 1) := dk_62 (dk_at dksX1_layAnswers_2 4 rfl rfl)
theorem dX1_layAnswers_52 : decode cX1_layAnswers 52 = .ok (.iload_n 3, 1) := dk_29 (dk_at dksX1_layAnswers_2 5 rfl rfl)
theorem dX1_layAnswers_53 : decode cX1_layAnswers 53 = .ok (.bipush 64, 2) := dk_16 64 (dk_at dksX1_layAnswers_2 6 rfl rfl)
theorem dX1_layAnswers_55 : decode cX1_layAnswers 55 = .ok (.if_icmp .ge 31, 3) := dk_162 0 31 (dk_at dksX1_layAnswers_2 8 rfl rfl)
theorem dX1_layAnswers_58 : decode cX1_layAnswers 58 = .ok (.aload_n 0, 1) := dk_42 (dk_at dksX1_layAnswers_2 11 rfl rfl)
theorem dX1_layAnswers_59 : decode cX1_layAnswers 59 = .ok (.getfield 79, 3) := dk_180 0 79 (dk_at dksX1_layAnswers_2 12 rfl rfl)
theorem dX1_layAnswers_62 : decode cX1_layAnswers 62 = .ok (.iload_n 3, 1) := dk_29 (dk_at dksX1_layAnswers_2 15 rfl rfl)
theorem dX1_layAnswers_63 : decode cX1_layAnswers 63 = .ok (.dup2, 1) := dk_92 (dk_at dksX1_layAnswers_2 16 rfl rfl)
theorem dX1_layAnswers_64 : decode cX1_layAnswers 64 = .ok (.iaload, 1) := dk_46 (dk_at dksX1_layAnswers_2 17 rfl rfl)
theorem dX1_layAnswers_65 : decode cX1_layAnswers 65 = .ok (.aload_n 0, 1) := dk_42 (dk_at dksX1_layAnswers_2 18 rfl rfl)
theorem dX1_layAnswers_66 : decode cX1_layAnswers 66 = .ok (.getfield 47, 3) := dk_180 0 47 (dk_at dksX1_layAnswers_2 19 rfl rfl)
theorem dX1_layAnswers_69 : decode cX1_layAnswers 69 = .ok (.iload_n 2, 1) := dk_28 (dk_at dksX1_layAnswers_2 22 rfl rfl)
theorem dX1_layAnswers_70 : decode cX1_layAnswers 70 = .ok (.laload, 1) := dk_47 (dk_at dksX1_layAnswers_2 23 rfl rfl)
theorem dX1_layAnswers_71 : decode cX1_layAnswers 71 = .ok (.iload_n 3, 1) := dk_29 (dk_at dksX1_layAnswers_3 0 rfl rfl)
theorem dX1_layAnswers_72 : decode cX1_layAnswers 72 = .ok (.lshr, 1) := dk_123 (dk_at dksX1_layAnswers_3 1 rfl rfl)
theorem dX1_layAnswers_73 : decode cX1_layAnswers 73 = .ok (.lconst 1, 1) := dk_10 (dk_at dksX1_layAnswers_3 2 rfl rfl)
theorem dX1_layAnswers_74 : decode cX1_layAnswers 74 = .ok (.land, 1) := dk_127 (dk_at dksX1_layAnswers_3 3 rfl rfl)
theorem dX1_layAnswers_75 : decode cX1_layAnswers 75 = .ok (.l2i, 1) := dk_136 (dk_at dksX1_layAnswers_3 4 rfl rfl)
theorem dX1_layAnswers_76 : decode cX1_layAnswers 76 = .ok (.iload_n 1, 1) := dk_27 (dk_at dksX1_layAnswers_3 5 rfl rfl)
theorem dX1_layAnswers_77 : decode cX1_layAnswers 77 = .ok (.ishl, 1) := dk_120 (dk_at dksX1_layAnswers_3 6 rfl rfl)
theorem dX1_layAnswers_78 : decode cX1_layAnswers 78 = .ok (.ior, 1) := dk_128 (dk_at dksX1_layAnswers_3 7 rfl rfl)
theorem dX1_layAnswers_79 : decode cX1_layAnswers 79 = .ok (.iastore, 1) := dk_79 (dk_at dksX1_layAnswers_3 8 rfl rfl)
theorem dX1_layAnswers_80 : decode cX1_layAnswers 80 = .ok (.iinc 3 1, 3) := dk_132 3 1 (dk_at dksX1_layAnswers_3 9 rfl rfl)
theorem dX1_layAnswers_83 : decode cX1_layAnswers 83 = .ok (.goto (-31), 3) := dk_167 255 225 (dk_at dksX1_layAnswers_3 12 rfl rfl)
theorem dX1_layAnswers_86 : decode cX1_layAnswers 86 = .ok (.iinc 1 1, 3) := dk_132 1 1 (dk_at dksX1_layAnswers_3 15 rfl rfl)
theorem dX1_layAnswers_89 : decode cX1_layAnswers 89 = .ok (.iinc 2 1, 3) := dk_132 2 1 (dk_at dksX1_layAnswers_3 18 rfl rfl)
theorem dX1_layAnswers_92 : decode cX1_layAnswers 92 = .ok (.goto (-67), 3) := dk_167 255 189 (dk_at dksX1_layAnswers_3 21 rfl rfl)
theorem dX1_layAnswers_95 : decode cX1_layAnswers 95 = .ok (.return_, 1) := dk_177 (dk_at dksX1_layAnswers_4 0 rfl rfl)
abbrev cX1_candidatesByAsks : ByteArray := prog_1_method_30_code
def yX1_candidatesByAsks : MethodName := ⟨RX1, "candidatesByAsks", "()I"⟩
def dkwX1_candidatesByAsks_2 : List UInt8 := [60, 132, 5, 1, 167, 255, 228, 132, 4, 1, 167, 255, 213, 27, 172]
abbrev dktX1_candidatesByAsks_2 : List UInt8 := dkwX1_candidatesByAsks_2 ++ []
def dkwX1_candidatesByAsks_1 : List UInt8 := [21, 5, 29, 162, 0, 28, 27, 42, 21, 4, 21, 5, 182, 0, 174, 153, 0, 7, 4, 167, 0, 4, 3, 96]
abbrev dktX1_candidatesByAsks_1 : List UInt8 := dkwX1_candidatesByAsks_1 ++ dktX1_candidatesByAsks_2
def dkwX1_candidatesByAsks_0 : List UInt8 := [3, 60, 42, 182, 0, 162, 61, 42, 182, 0, 165, 62, 3, 54, 4, 21, 4, 28, 162, 0, 43, 3, 54, 5]
abbrev dktX1_candidatesByAsks_0 : List UInt8 := dkwX1_candidatesByAsks_0 ++ dktX1_candidatesByAsks_1
theorem dksX1_candidatesByAsks_0 : cX1_candidatesByAsks.data.toList.drop 0 = dktX1_candidatesByAsks_0 := by decide +kernel
theorem dksX1_candidatesByAsks_1 : cX1_candidatesByAsks.data.toList.drop 24 = dktX1_candidatesByAsks_1 := dk_seg dksX1_candidatesByAsks_0 24 rfl rfl
theorem dksX1_candidatesByAsks_2 : cX1_candidatesByAsks.data.toList.drop 48 = dktX1_candidatesByAsks_2 := dk_seg dksX1_candidatesByAsks_1 24 rfl rfl
theorem dX1_candidatesByAsks_0 : decode cX1_candidatesByAsks 0 = .ok (.iconst 0, 1) := dk_3 (dk_at dksX1_candidatesByAsks_0 0 rfl rfl)
theorem dX1_candidatesByAsks_1 : decode cX1_candidatesByAsks 1 = .ok (.istore_n 1, 1) := dk_60 (dk_at dksX1_candidatesByAsks_0 1 rfl rfl)
theorem dX1_candidatesByAsks_2 : decode cX1_candidatesByAsks 2 = .ok (.aload_n 0, 1) := dk_42 (dk_at dksX1_candidatesByAsks_0 2 rfl rfl)
theorem dX1_candidatesByAsks_3 : decode cX1_candidatesByAsks 3 = .ok (.invokevirtual 162, 3) := dk_182 0 162 (dk_at dksX1_candidatesByAsks_0 3 rfl rfl)
theorem dX1_candidatesByAsks_6 : decode cX1_candidatesByAsks 6 = .ok (.istore_n 2, 1) := dk_61 (dk_at dksX1_candidatesByAsks_0 6 rfl rfl)
theorem dX1_candidatesByAsks_7 : decode cX1_candidatesByAsks 7 = .ok (.aload_n 0, 1) := dk_42 (dk_at dksX1_candidatesByAsks_0 7 rfl rfl)
theorem dX1_candidatesByAsks_8 : decode cX1_candidatesByAsks 8 = .ok (.invokevirtual 165, 3) := dk_182 0 165 (dk_at dksX1_candidatesByAsks_0 8 rfl rfl)
theorem dX1_candidatesByAsks_11 : decode cX1_candidatesByAsks 11 = .ok (.istore_n 3, 1) := dk_62 (dk_at dksX1_candidatesByAsks_0 11 rfl rfl)
theorem dX1_candidatesByAsks_12 : decode cX1_candidatesByAsks 12 = .ok (.iconst 0, 1) := dk_3 (dk_at dksX1_candidatesByAsks_0 12 rfl rfl)
theorem dX1_candidatesByAsks_13 : decode cX1_candidatesByAsks 13 = .ok (.istore 4, 2) := dk_54 4 (dk_at dksX1_candidatesByAsks_0 13 rfl rfl)
theorem dX1_candidatesByAsks_15 : decode cX1_candidatesByAsks 15 = .ok (.iload 4, 2) := dk_21 4 (dk_at dksX1_candidatesByAsks_0 15 rfl rfl)
theorem dX1_candidatesByAsks_17 : decode cX1_candidatesByAsks 17 = .ok (.iload_n 2, 1) := dk_28 (dk_at dksX1_candidatesByAsks_0 17 rfl rfl)
theorem dX1_candidatesByAsks_18 : decode cX1_candidatesByAsks 18 = .ok (.if_icmp .ge 43, 3) := dk_162 0 43 (dk_at dksX1_candidatesByAsks_0 18 rfl rfl)
theorem dX1_candidatesByAsks_21 : decode cX1_candidatesByAsks 21 = .ok (.iconst 0, 1) := dk_3 (dk_at dksX1_candidatesByAsks_0 21 rfl rfl)
theorem dX1_candidatesByAsks_22 : decode cX1_candidatesByAsks 22 = .ok (.istore 5, 2) := dk_54 5 (dk_at dksX1_candidatesByAsks_0 22 rfl rfl)
theorem dX1_candidatesByAsks_24 : decode cX1_candidatesByAsks 24 = .ok (.iload 5, 2) := dk_21 5 (dk_at dksX1_candidatesByAsks_1 0 rfl rfl)
theorem dX1_candidatesByAsks_26 : decode cX1_candidatesByAsks 26 = .ok (.iload_n 3, 1) := dk_29 (dk_at dksX1_candidatesByAsks_1 2 rfl rfl)
theorem dX1_candidatesByAsks_27 : decode cX1_candidatesByAsks 27 = .ok (.if_icmp .ge 28, 3) := dk_162 0 28 (dk_at dksX1_candidatesByAsks_1 3 rfl rfl)
theorem dX1_candidatesByAsks_30 : decode cX1_candidatesByAsks 30 = .ok (.iload_n 1, 1) := dk_27 (dk_at dksX1_candidatesByAsks_1 6 rfl rfl)
theorem dX1_candidatesByAsks_31 : decode cX1_candidatesByAsks 31 = .ok (.aload_n 0, 1) := dk_42 (dk_at dksX1_candidatesByAsks_1 7 rfl rfl)
theorem dX1_candidatesByAsks_32 : decode cX1_candidatesByAsks 32 = .ok (.iload 4, 2) := dk_21 4 (dk_at dksX1_candidatesByAsks_1 8 rfl rfl)
theorem dX1_candidatesByAsks_34 : decode cX1_candidatesByAsks 34 = .ok (.iload 5, 2) := dk_21 5 (dk_at dksX1_candidatesByAsks_1 10 rfl rfl)
theorem dX1_candidatesByAsks_36 : decode cX1_candidatesByAsks 36 = .ok (.invokevirtual 174, 3) := dk_182 0 174 (dk_at dksX1_candidatesByAsks_1 12 rfl rfl)
theorem dX1_candidatesByAsks_39 : decode cX1_candidatesByAsks 39 = .ok (.ifCond .eq 7, 3) := dk_153 0 7 (dk_at dksX1_candidatesByAsks_1 15 rfl rfl)
theorem dX1_candidatesByAsks_42 : decode cX1_candidatesByAsks 42 = .ok (.iconst 1, 1) := dk_4 (dk_at dksX1_candidatesByAsks_1 18 rfl rfl)
theorem dX1_candidatesByAsks_43 : decode cX1_candidatesByAsks 43 = .ok (.goto 4, 3) := dk_167 0 4 (dk_at dksX1_candidatesByAsks_1 19 rfl rfl)
theorem dX1_candidatesByAsks_46 : decode cX1_candidatesByAsks 46 = .ok (.iconst 0, 1) := dk_3 (dk_at dksX1_candidatesByAsks_1 22 rfl rfl)
theorem dX1_candidatesByAsks_47 : decode cX1_candidatesByAsks 47 = .ok (.iadd, 1) := dk_96 (dk_at dksX1_candidatesByAsks_1 23 rfl rfl)
theorem dX1_candidatesByAsks_48 : decode cX1_candidatesByAsks 48 = .ok (.istore_n 1, 1) := dk_60 (dk_at dksX1_candidatesByAsks_2 0 rfl rfl)
theorem dX1_candidatesByAsks_49 : decode cX1_candidatesByAsks 49 = .ok (.iinc 5 1, 3) := dk_132 5 1 (dk_at dksX1_candidatesByAsks_2 1 rfl rfl)
theorem dX1_candidatesByAsks_52 : decode cX1_candidatesByAsks 52 = .ok (.goto (-28), 3) := dk_167 255 228 (dk_at dksX1_candidatesByAsks_2 4 rfl rfl)
theorem dX1_candidatesByAsks_55 : decode cX1_candidatesByAsks 55 = .ok (.iinc 4 1, 3) := dk_132 4 1 (dk_at dksX1_candidatesByAsks_2 7 rfl rfl)
theorem dX1_candidatesByAsks_58 : decode cX1_candidatesByAsks 58 = .ok (.goto (-43), 3) := dk_167 255 213 (dk_at dksX1_candidatesByAsks_2 10 rfl rfl)
theorem dX1_candidatesByAsks_61 : decode cX1_candidatesByAsks 61 = .ok (.iload_n 1, 1) := dk_27 (dk_at dksX1_candidatesByAsks_2 13 rfl rfl)
theorem dX1_candidatesByAsks_62 : decode cX1_candidatesByAsks 62 = .ok (.ireturn, 1) := dk_172 (dk_at dksX1_candidatesByAsks_2 14 rfl rfl)
abbrev cX1_isLeft : ByteArray := prog_1_method_29_code
def yX1_isLeft : MethodName := ⟨RX1, "isLeft", "(II)Z"⟩
def dkwX1_isLeft_2 : List UInt8 := [112, 159, 0, 5, 3, 172, 132, 3, 1, 167, 255, 201, 4, 172]
abbrev dktX1_isLeft_2 : List UInt8 := dkwX1_isLeft_2 ++ []
def dkwX1_isLeft_1 : List UInt8 := [108, 54, 4, 42, 21, 4, 27, 28, 4, 100, 182, 0, 171, 42, 180, 0, 23, 180, 0, 159, 29, 46, 16, 16]
abbrev dktX1_isLeft_1 : List UInt8 := dkwX1_isLeft_1 ++ dktX1_isLeft_2
def dkwX1_isLeft_0 : List UInt8 := [3, 62, 29, 42, 180, 0, 23, 180, 0, 156, 162, 0, 50, 42, 180, 0, 23, 180, 0, 159, 29, 46, 16, 16]
abbrev dktX1_isLeft_0 : List UInt8 := dkwX1_isLeft_0 ++ dktX1_isLeft_1
theorem dksX1_isLeft_0 : cX1_isLeft.data.toList.drop 0 = dktX1_isLeft_0 := by decide +kernel
theorem dksX1_isLeft_1 : cX1_isLeft.data.toList.drop 24 = dktX1_isLeft_1 := dk_seg dksX1_isLeft_0 24 rfl rfl
theorem dksX1_isLeft_2 : cX1_isLeft.data.toList.drop 48 = dktX1_isLeft_2 := dk_seg dksX1_isLeft_1 24 rfl rfl
theorem dX1_isLeft_0 : decode cX1_isLeft 0 = .ok (.iconst 0, 1) := dk_3 (dk_at dksX1_isLeft_0 0 rfl rfl)
theorem dX1_isLeft_1 : decode cX1_isLeft 1 = .ok (.istore_n 3, 1) := dk_62 (dk_at dksX1_isLeft_0 1 rfl rfl)
theorem dX1_isLeft_2 : decode cX1_isLeft 2 = .ok (.iload_n 3, 1) := dk_29 (dk_at dksX1_isLeft_0 2 rfl rfl)
theorem dX1_isLeft_3 : decode cX1_isLeft 3 = .ok (.aload_n 0, 1) := dk_42 (dk_at dksX1_isLeft_0 3 rfl rfl)
theorem dX1_isLeft_4 : decode cX1_isLeft 4 = .ok (.getfield 23, 3) := dk_180 0 23 (dk_at dksX1_isLeft_0 4 rfl rfl)
theorem dX1_isLeft_7 : decode cX1_isLeft 7 = .ok (.getfield 156, 3) := dk_180 0 156 (dk_at dksX1_isLeft_0 7 rfl rfl)
theorem dX1_isLeft_10 : decode cX1_isLeft 10 = .ok (.if_icmp .ge 50, 3) := dk_162 0 50 (dk_at dksX1_isLeft_0 10 rfl rfl)
theorem dX1_isLeft_13 : decode cX1_isLeft 13 = .ok (.aload_n 0, 1) := dk_42 (dk_at dksX1_isLeft_0 13 rfl rfl)
theorem dX1_isLeft_14 : decode cX1_isLeft 14 = .ok (.getfield 23, 3) := dk_180 0 23 (dk_at dksX1_isLeft_0 14 rfl rfl)
theorem dX1_isLeft_17 : decode cX1_isLeft 17 = .ok (.getfield 159, 3) := dk_180 0 159 (dk_at dksX1_isLeft_0 17 rfl rfl)
theorem dX1_isLeft_20 : decode cX1_isLeft 20 = .ok (.iload_n 3, 1) := dk_29 (dk_at dksX1_isLeft_0 20 rfl rfl)
theorem dX1_isLeft_21 : decode cX1_isLeft 21 = .ok (.iaload, 1) := dk_46 (dk_at dksX1_isLeft_0 21 rfl rfl)
theorem dX1_isLeft_22 : decode cX1_isLeft 22 = .ok (.bipush 16, 2) := dk_16 16 (dk_at dksX1_isLeft_0 22 rfl rfl)
theorem dX1_isLeft_24 : decode cX1_isLeft 24 = .ok (.idiv, 1) := dk_108 (dk_at dksX1_isLeft_1 0 rfl rfl)
theorem dX1_isLeft_25 : decode cX1_isLeft 25 = .ok (.istore 4, 2) := dk_54 4 (dk_at dksX1_isLeft_1 1 rfl rfl)
theorem dX1_isLeft_27 : decode cX1_isLeft 27 = .ok (.aload_n 0, 1) := dk_42 (dk_at dksX1_isLeft_1 3 rfl rfl)
theorem dX1_isLeft_28 : decode cX1_isLeft 28 = .ok (.iload 4, 2) := dk_21 4 (dk_at dksX1_isLeft_1 4 rfl rfl)
theorem dX1_isLeft_30 : decode cX1_isLeft 30 = .ok (.iload_n 1, 1) := dk_27 (dk_at dksX1_isLeft_1 6 rfl rfl)
theorem dX1_isLeft_31 : decode cX1_isLeft 31 = .ok (.iload_n 2, 1) := dk_28 (dk_at dksX1_isLeft_1 7 rfl rfl)
theorem dX1_isLeft_32 : decode cX1_isLeft 32 = .ok (.iconst 1, 1) := dk_4 (dk_at dksX1_isLeft_1 8 rfl rfl)
theorem dX1_isLeft_33 : decode cX1_isLeft 33 = .ok (.isub, 1) := dk_100 (dk_at dksX1_isLeft_1 9 rfl rfl)
theorem dX1_isLeft_34 : decode cX1_isLeft 34 = .ok (.invokevirtual 171, 3) := dk_182 0 171 (dk_at dksX1_isLeft_1 10 rfl rfl)
theorem dX1_isLeft_37 : decode cX1_isLeft 37 = .ok (.aload_n 0, 1) := dk_42 (dk_at dksX1_isLeft_1 13 rfl rfl)
theorem dX1_isLeft_38 : decode cX1_isLeft 38 = .ok (.getfield 23, 3) := dk_180 0 23 (dk_at dksX1_isLeft_1 14 rfl rfl)
theorem dX1_isLeft_41 : decode cX1_isLeft 41 = .ok (.getfield 159, 3) := dk_180 0 159 (dk_at dksX1_isLeft_1 17 rfl rfl)
theorem dX1_isLeft_44 : decode cX1_isLeft 44 = .ok (.iload_n 3, 1) := dk_29 (dk_at dksX1_isLeft_1 20 rfl rfl)
theorem dX1_isLeft_45 : decode cX1_isLeft 45 = .ok (.iaload, 1) := dk_46 (dk_at dksX1_isLeft_1 21 rfl rfl)
theorem dX1_isLeft_46 : decode cX1_isLeft 46 = .ok (.bipush 16, 2) := dk_16 16 (dk_at dksX1_isLeft_1 22 rfl rfl)
theorem dX1_isLeft_48 : decode cX1_isLeft 48 = .ok (.irem, 1) := dk_112 (dk_at dksX1_isLeft_2 0 rfl rfl)
theorem dX1_isLeft_49 : decode cX1_isLeft 49 = .ok (.if_icmp .eq 5, 3) := dk_159 0 5 (dk_at dksX1_isLeft_2 1 rfl rfl)
theorem dX1_isLeft_52 : decode cX1_isLeft 52 = .ok (.iconst 0, 1) := dk_3 (dk_at dksX1_isLeft_2 4 rfl rfl)
theorem dX1_isLeft_53 : decode cX1_isLeft 53 = .ok (.ireturn, 1) := dk_172 (dk_at dksX1_isLeft_2 5 rfl rfl)
theorem dX1_isLeft_54 : decode cX1_isLeft 54 = .ok (.iinc 3 1, 3) := dk_132 3 1 (dk_at dksX1_isLeft_2 6 rfl rfl)
theorem dX1_isLeft_57 : decode cX1_isLeft 57 = .ok (.goto (-55), 3) := dk_167 255 201 (dk_at dksX1_isLeft_2 9 rfl rfl)
theorem dX1_isLeft_60 : decode cX1_isLeft 60 = .ok (.iconst 1, 1) := dk_4 (dk_at dksX1_isLeft_2 12 rfl rfl)
theorem dX1_isLeft_61 : decode cX1_isLeft 61 = .ok (.ireturn, 1) := dk_172 (dk_at dksX1_isLeft_2 13 rfl rfl)
abbrev cX1_answer : ByteArray := prog_1_method_16_code
def yX1_answer : MethodName := ⟨RX1, "answer", "(III)I"⟩
def dkwX1_answer_2 : List UInt8 := [180, 0, 89, 21, 6, 46, 21, 5, 120, 128, 54, 4, 132, 5, 1, 132, 6, 1, 167, 255, 208, 21, 4, 172]
abbrev dktX1_answer_2 : List UInt8 := dkwX1_answer_2 ++ []
def dkwX1_answer_1 : List UInt8 := [182, 0, 82, 162, 0, 42, 42, 180, 0, 23, 180, 0, 86, 21, 6, 184, 0, 33, 153, 0, 21, 21, 4, 42]
abbrev dktX1_answer_1 : List UInt8 := dkwX1_answer_1 ++ dktX1_answer_2
def dkwX1_answer_0 : List UInt8 := [42, 27, 28, 29, 182, 0, 96, 3, 54, 4, 3, 54, 5, 3, 54, 6, 21, 6, 42, 180, 0, 23]
abbrev dktX1_answer_0 : List UInt8 := dkwX1_answer_0 ++ dktX1_answer_1
theorem dksX1_answer_0 : cX1_answer.data.toList.drop 0 = dktX1_answer_0 := by decide +kernel
theorem dksX1_answer_1 : cX1_answer.data.toList.drop 22 = dktX1_answer_1 := dk_seg dksX1_answer_0 22 rfl rfl
theorem dksX1_answer_2 : cX1_answer.data.toList.drop 46 = dktX1_answer_2 := dk_seg dksX1_answer_1 24 rfl rfl
theorem dX1_answer_0 : decode cX1_answer 0 = .ok (.aload_n 0, 1) := dk_42 (dk_at dksX1_answer_0 0 rfl rfl)
theorem dX1_answer_1 : decode cX1_answer 1 = .ok (.iload_n 1, 1) := dk_27 (dk_at dksX1_answer_0 1 rfl rfl)
theorem dX1_answer_2 : decode cX1_answer 2 = .ok (.iload_n 2, 1) := dk_28 (dk_at dksX1_answer_0 2 rfl rfl)
theorem dX1_answer_3 : decode cX1_answer 3 = .ok (.iload_n 3, 1) := dk_29 (dk_at dksX1_answer_0 3 rfl rfl)
theorem dX1_answer_4 : decode cX1_answer 4 = .ok (.invokevirtual 96, 3) := dk_182 0 96 (dk_at dksX1_answer_0 4 rfl rfl)
theorem dX1_answer_7 : decode cX1_answer 7 = .ok (.iconst 0, 1) := dk_3 (dk_at dksX1_answer_0 7 rfl rfl)
theorem dX1_answer_8 : decode cX1_answer 8 = .ok (.istore 4, 2) := dk_54 4 (dk_at dksX1_answer_0 8 rfl rfl)
theorem dX1_answer_10 : decode cX1_answer 10 = .ok (.iconst 0, 1) := dk_3 (dk_at dksX1_answer_0 10 rfl rfl)
theorem dX1_answer_11 : decode cX1_answer 11 = .ok (.istore 5, 2) := dk_54 5 (dk_at dksX1_answer_0 11 rfl rfl)
theorem dX1_answer_13 : decode cX1_answer 13 = .ok (.iconst 0, 1) := dk_3 (dk_at dksX1_answer_0 13 rfl rfl)
theorem dX1_answer_14 : decode cX1_answer 14 = .ok (.istore 6, 2) := dk_54 6 (dk_at dksX1_answer_0 14 rfl rfl)
theorem dX1_answer_16 : decode cX1_answer 16 = .ok (.iload 6, 2) := dk_21 6 (dk_at dksX1_answer_0 16 rfl rfl)
theorem dX1_answer_18 : decode cX1_answer 18 = .ok (.aload_n 0, 1) := dk_42 (dk_at dksX1_answer_0 18 rfl rfl)
theorem dX1_answer_19 : decode cX1_answer 19 = .ok (.getfield 23, 3) := dk_180 0 23 (dk_at dksX1_answer_0 19 rfl rfl)
theorem dX1_answer_22 : decode cX1_answer 22 = .ok (.invokevirtual 82, 3) := dk_182 0 82 (dk_at dksX1_answer_1 0 rfl rfl)
theorem dX1_answer_25 : decode cX1_answer 25 = .ok (.if_icmp .ge 42, 3) := dk_162 0 42 (dk_at dksX1_answer_1 3 rfl rfl)
theorem dX1_answer_28 : decode cX1_answer 28 = .ok (.aload_n 0, 1) := dk_42 (dk_at dksX1_answer_1 6 rfl rfl)
theorem dX1_answer_29 : decode cX1_answer 29 = .ok (.getfield 23, 3) := dk_180 0 23 (dk_at dksX1_answer_1 7 rfl rfl)
theorem dX1_answer_32 : decode cX1_answer 32 = .ok (.getfield 86, 3) := dk_180 0 86 (dk_at dksX1_answer_1 10 rfl rfl)
theorem dX1_answer_35 : decode cX1_answer 35 = .ok (.iload 6, 2) := dk_21 6 (dk_at dksX1_answer_1 13 rfl rfl)
theorem dX1_answer_37 : decode cX1_answer 37 = .ok (.invokestatic 33, 3) := dk_184 0 33 (dk_at dksX1_answer_1 15 rfl rfl)
theorem dX1_answer_40 : decode cX1_answer 40 = .ok (.ifCond .eq 21, 3) := dk_153 0 21 (dk_at dksX1_answer_1 18 rfl rfl)
theorem dX1_answer_43 : decode cX1_answer 43 = .ok (.iload 4, 2) := dk_21 4 (dk_at dksX1_answer_1 21 rfl rfl)
theorem dX1_answer_45 : decode cX1_answer 45 = .ok (.aload_n 0, 1) := dk_42 (dk_at dksX1_answer_1 23 rfl rfl)
theorem dX1_answer_46 : decode cX1_answer 46 = .ok (.getfield 89, 3) := dk_180 0 89 (dk_at dksX1_answer_2 0 rfl rfl)
theorem dX1_answer_49 : decode cX1_answer 49 = .ok (.iload 6, 2) := dk_21 6 (dk_at dksX1_answer_2 3 rfl rfl)
theorem dX1_answer_51 : decode cX1_answer 51 = .ok (.iaload, 1) := dk_46 (dk_at dksX1_answer_2 5 rfl rfl)
theorem dX1_answer_52 : decode cX1_answer 52 = .ok (.iload 5, 2) := dk_21 5 (dk_at dksX1_answer_2 6 rfl rfl)
theorem dX1_answer_54 : decode cX1_answer 54 = .ok (.ishl, 1) := dk_120 (dk_at dksX1_answer_2 8 rfl rfl)
theorem dX1_answer_55 : decode cX1_answer 55 = .ok (.ior, 1) := dk_128 (dk_at dksX1_answer_2 9 rfl rfl)
theorem dX1_answer_56 : decode cX1_answer 56 = .ok (.istore 4, 2) := dk_54 4 (dk_at dksX1_answer_2 10 rfl rfl)
theorem dX1_answer_58 : decode cX1_answer 58 = .ok (.iinc 5 1, 3) := dk_132 5 1 (dk_at dksX1_answer_2 12 rfl rfl)
theorem dX1_answer_61 : decode cX1_answer 61 = .ok (.iinc 6 1, 3) := dk_132 6 1 (dk_at dksX1_answer_2 15 rfl rfl)
theorem dX1_answer_64 : decode cX1_answer 64 = .ok (.goto (-48), 3) := dk_167 255 208 (dk_at dksX1_answer_2 18 rfl rfl)
theorem dX1_answer_67 : decode cX1_answer 67 = .ok (.iload 4, 2) := dk_21 4 (dk_at dksX1_answer_2 21 rfl rfl)
theorem dX1_answer_69 : decode cX1_answer 69 = .ok (.ireturn, 1) := dk_172 (dk_at dksX1_answer_2 23 rfl rfl)
abbrev cX1_layValues : ByteArray := prog_1_method_14_code
def yX1_layValues : MethodName := ⟨RX1, "layValues", "(III)V"⟩
def dkwX1_layValues_4 : List UInt8 := [5, 108, 21, 4, 160, 0, 9, 29, 5, 112, 167, 0, 5, 21, 6, 79, 132, 4, 1, 167, 255, 148, 177]
abbrev dktX1_layValues_4 : List UInt8 := dkwX1_layValues_4 ++ []
def dkwX1_layValues_3 : List UInt8 := [180, 0, 68, 21, 5, 46, 46, 184, 0, 92, 54, 6, 42, 180, 0, 89, 21, 4, 29, 2, 159, 0, 17, 29]
abbrev dktX1_layValues_3 : List UInt8 := dkwX1_layValues_3 ++ dktX1_layValues_4
def dkwX1_layValues_2 : List UInt8 := [180, 0, 89, 42, 180, 0, 23, 180, 0, 65, 21, 5, 46, 46, 42, 180, 0, 89, 42, 180, 0, 23]
abbrev dktX1_layValues_2 : List UInt8 := dkwX1_layValues_2 ++ dktX1_layValues_3
def dkwX1_layValues_1 : List UInt8 := [16, 6, 162, 0, 12, 27, 21, 4, 122, 4, 126, 167, 0, 43, 42, 21, 5, 28, 182, 0, 61, 42]
abbrev dktX1_layValues_1 : List UInt8 := dkwX1_layValues_1 ++ dktX1_layValues_2
def dkwX1_layValues_0 : List UInt8 := [3, 54, 4, 21, 4, 42, 180, 0, 23, 182, 0, 82, 162, 0, 102, 21, 4, 16, 6, 100, 54, 5, 21, 4]
abbrev dktX1_layValues_0 : List UInt8 := dkwX1_layValues_0 ++ dktX1_layValues_1
theorem dksX1_layValues_0 : cX1_layValues.data.toList.drop 0 = dktX1_layValues_0 := by decide +kernel
theorem dksX1_layValues_1 : cX1_layValues.data.toList.drop 24 = dktX1_layValues_1 := dk_seg dksX1_layValues_0 24 rfl rfl
theorem dksX1_layValues_2 : cX1_layValues.data.toList.drop 46 = dktX1_layValues_2 := dk_seg dksX1_layValues_1 22 rfl rfl
theorem dksX1_layValues_3 : cX1_layValues.data.toList.drop 68 = dktX1_layValues_3 := dk_seg dksX1_layValues_2 22 rfl rfl
theorem dksX1_layValues_4 : cX1_layValues.data.toList.drop 92 = dktX1_layValues_4 := dk_seg dksX1_layValues_3 24 rfl rfl
theorem dX1_layValues_0 : decode cX1_layValues 0 = .ok (.iconst 0, 1) := dk_3 (dk_at dksX1_layValues_0 0 rfl rfl)
theorem dX1_layValues_1 : decode cX1_layValues 1 = .ok (.istore 4, 2) := dk_54 4 (dk_at dksX1_layValues_0 1 rfl rfl)
theorem dX1_layValues_3 : decode cX1_layValues 3 = .ok (.iload 4, 2) := dk_21 4 (dk_at dksX1_layValues_0 3 rfl rfl)
theorem dX1_layValues_5 : decode cX1_layValues 5 = .ok (.aload_n 0, 1) := dk_42 (dk_at dksX1_layValues_0 5 rfl rfl)
theorem dX1_layValues_6 : decode cX1_layValues 6 = .ok (.getfield 23, 3) := dk_180 0 23 (dk_at dksX1_layValues_0 6 rfl rfl)
theorem dX1_layValues_9 : decode cX1_layValues 9 = .ok (.invokevirtual 82, 3) := dk_182 0 82 (dk_at dksX1_layValues_0 9 rfl rfl)
theorem dX1_layValues_12 : decode cX1_layValues 12 = .ok (.if_icmp .ge 102, 3) := dk_162 0 102 (dk_at dksX1_layValues_0 12 rfl rfl)
theorem dX1_layValues_15 : decode cX1_layValues 15 = .ok (.iload 4, 2) := dk_21 4 (dk_at dksX1_layValues_0 15 rfl rfl)
theorem dX1_layValues_17 : decode cX1_layValues 17 = .ok (.bipush 6, 2) := dk_16 6 (dk_at dksX1_layValues_0 17 rfl rfl)
theorem dX1_layValues_19 : decode cX1_layValues 19 = .ok (.isub, 1) := dk_100 (dk_at dksX1_layValues_0 19 rfl rfl)
theorem dX1_layValues_20 : decode cX1_layValues 20 = .ok (.istore 5, 2) := dk_54 5 (dk_at dksX1_layValues_0 20 rfl rfl)
theorem dX1_layValues_22 : decode cX1_layValues 22 = .ok (.iload 4, 2) := dk_21 4 (dk_at dksX1_layValues_0 22 rfl rfl)
theorem dX1_layValues_24 : decode cX1_layValues 24 = .ok (.bipush 6, 2) := dk_16 6 (dk_at dksX1_layValues_1 0 rfl rfl)
theorem dX1_layValues_26 : decode cX1_layValues 26 = .ok (.if_icmp .ge 12, 3) := dk_162 0 12 (dk_at dksX1_layValues_1 2 rfl rfl)
theorem dX1_layValues_29 : decode cX1_layValues 29 = .ok (.iload_n 1, 1) := dk_27 (dk_at dksX1_layValues_1 5 rfl rfl)
theorem dX1_layValues_30 : decode cX1_layValues 30 = .ok (.iload 4, 2) := dk_21 4 (dk_at dksX1_layValues_1 6 rfl rfl)
theorem dX1_layValues_32 : decode cX1_layValues 32 = .ok (.ishr, 1) := dk_122 (dk_at dksX1_layValues_1 8 rfl rfl)
theorem dX1_layValues_33 : decode cX1_layValues 33 = .ok (.iconst 1, 1) := dk_4 (dk_at dksX1_layValues_1 9 rfl rfl)
theorem dX1_layValues_34 : decode cX1_layValues 34 = .ok (.iand, 1) := dk_126 (dk_at dksX1_layValues_1 10 rfl rfl)
theorem dX1_layValues_35 : decode cX1_layValues 35 = .ok (.goto 43, 3) := dk_167 0 43 (dk_at dksX1_layValues_1 11 rfl rfl)
theorem dX1_layValues_38 : decode cX1_layValues 38 = .ok (.aload_n 0, 1) := dk_42 (dk_at dksX1_layValues_1 14 rfl rfl)
theorem dX1_layValues_39 : decode cX1_layValues 39 = .ok (.iload 5, 2) := dk_21 5 (dk_at dksX1_layValues_1 15 rfl rfl)
theorem dX1_layValues_41 : decode cX1_layValues 41 = .ok (.iload_n 2, 1) := dk_28 (dk_at dksX1_layValues_1 17 rfl rfl)
theorem dX1_layValues_42 : decode cX1_layValues 42 = .ok (.invokevirtual 61, 3) := dk_182 0 61 (dk_at dksX1_layValues_1 18 rfl rfl)
theorem dX1_layValues_45 : decode cX1_layValues 45 = .ok (.aload_n 0, 1) := dk_42 (dk_at dksX1_layValues_1 21 rfl rfl)
theorem dX1_layValues_46 : decode cX1_layValues 46 = .ok (.getfield 89, 3) := dk_180 0 89 (dk_at dksX1_layValues_2 0 rfl rfl)
theorem dX1_layValues_49 : decode cX1_layValues 49 = .ok (.aload_n 0, 1) := dk_42 (dk_at dksX1_layValues_2 3 rfl rfl)
theorem dX1_layValues_50 : decode cX1_layValues 50 = .ok (.getfield 23, 3) := dk_180 0 23 (dk_at dksX1_layValues_2 4 rfl rfl)
theorem dX1_layValues_53 : decode cX1_layValues 53 = .ok (.getfield 65, 3) := dk_180 0 65 (dk_at dksX1_layValues_2 7 rfl rfl)
theorem dX1_layValues_56 : decode cX1_layValues 56 = .ok (.iload 5, 2) := dk_21 5 (dk_at dksX1_layValues_2 10 rfl rfl)
theorem dX1_layValues_58 : decode cX1_layValues 58 = .ok (.iaload, 1) := dk_46 (dk_at dksX1_layValues_2 12 rfl rfl)
theorem dX1_layValues_59 : decode cX1_layValues 59 = .ok (.iaload, 1) := dk_46 (dk_at dksX1_layValues_2 13 rfl rfl)
theorem dX1_layValues_60 : decode cX1_layValues 60 = .ok (.aload_n 0, 1) := dk_42 (dk_at dksX1_layValues_2 14 rfl rfl)
theorem dX1_layValues_61 : decode cX1_layValues 61 = .ok (.getfield 89, 3) := dk_180 0 89 (dk_at dksX1_layValues_2 15 rfl rfl)
theorem dX1_layValues_64 : decode cX1_layValues 64 = .ok (.aload_n 0, 1) := dk_42 (dk_at dksX1_layValues_2 18 rfl rfl)
theorem dX1_layValues_65 : decode cX1_layValues 65 = .ok (.getfield 23, 3) := dk_180 0 23 (dk_at dksX1_layValues_2 19 rfl rfl)
theorem dX1_layValues_68 : decode cX1_layValues 68 = .ok (.getfield 68, 3) := dk_180 0 68 (dk_at dksX1_layValues_3 0 rfl rfl)
theorem dX1_layValues_71 : decode cX1_layValues 71 = .ok (.iload 5, 2) := dk_21 5 (dk_at dksX1_layValues_3 3 rfl rfl)
theorem dX1_layValues_73 : decode cX1_layValues 73 = .ok (.iaload, 1) := dk_46 (dk_at dksX1_layValues_3 5 rfl rfl)
theorem dX1_layValues_74 : decode cX1_layValues 74 = .ok (.iaload, 1) := dk_46 (dk_at dksX1_layValues_3 6 rfl rfl)
theorem dX1_layValues_75 : decode cX1_layValues 75 = .ok (.invokestatic 92, 3) := dk_184 0 92 (dk_at dksX1_layValues_3 7 rfl rfl)
theorem dX1_layValues_78 : decode cX1_layValues 78 = .ok (.istore 6, 2) := dk_54 6 (dk_at dksX1_layValues_3 10 rfl rfl)
theorem dX1_layValues_80 : decode cX1_layValues 80 = .ok (.aload_n 0, 1) := dk_42 (dk_at dksX1_layValues_3 12 rfl rfl)
theorem dX1_layValues_81 : decode cX1_layValues 81 = .ok (.getfield 89, 3) := dk_180 0 89 (dk_at dksX1_layValues_3 13 rfl rfl)
theorem dX1_layValues_84 : decode cX1_layValues 84 = .ok (.iload 4, 2) := dk_21 4 (dk_at dksX1_layValues_3 16 rfl rfl)
theorem dX1_layValues_86 : decode cX1_layValues 86 = .ok (.iload_n 3, 1) := dk_29 (dk_at dksX1_layValues_3 18 rfl rfl)
theorem dX1_layValues_87 : decode cX1_layValues 87 = .ok (.iconst (-1), 1) := dk_2 (dk_at dksX1_layValues_3 19 rfl rfl)
theorem dX1_layValues_88 : decode cX1_layValues 88 = .ok (.if_icmp .eq 17, 3) := dk_159 0 17 (dk_at dksX1_layValues_3 20 rfl rfl)
theorem dX1_layValues_91 : decode cX1_layValues 91 = .ok (.iload_n 3, 1) := dk_29 (dk_at dksX1_layValues_3 23 rfl rfl)
theorem dX1_layValues_92 : decode cX1_layValues 92 = .ok (.iconst 2, 1) := dk_5 (dk_at dksX1_layValues_4 0 rfl rfl)
theorem dX1_layValues_93 : decode cX1_layValues 93 = .ok (.idiv, 1) := dk_108 (dk_at dksX1_layValues_4 1 rfl rfl)
theorem dX1_layValues_94 : decode cX1_layValues 94 = .ok (.iload 4, 2) := dk_21 4 (dk_at dksX1_layValues_4 2 rfl rfl)
theorem dX1_layValues_96 : decode cX1_layValues 96 = .ok (.if_icmp .ne 9, 3) := dk_160 0 9 (dk_at dksX1_layValues_4 4 rfl rfl)
theorem dX1_layValues_99 : decode cX1_layValues 99 = .ok (.iload_n 3, 1) := dk_29 (dk_at dksX1_layValues_4 7 rfl rfl)
theorem dX1_layValues_100 : decode cX1_layValues 100 = .ok (.iconst 2, 1) := dk_5 (dk_at dksX1_layValues_4 8 rfl rfl)
theorem dX1_layValues_101 : decode cX1_layValues 101 = .ok (.irem, 1) := dk_112 (dk_at dksX1_layValues_4 9 rfl rfl)
theorem dX1_layValues_102 : decode cX1_layValues 102 = .ok (.goto 5, 3) := dk_167 0 5 (dk_at dksX1_layValues_4 10 rfl rfl)
theorem dX1_layValues_105 : decode cX1_layValues 105 = .ok (.iload 6, 2) := dk_21 6 (dk_at dksX1_layValues_4 13 rfl rfl)
theorem dX1_layValues_107 : decode cX1_layValues 107 = .ok (.iastore, 1) := dk_79 (dk_at dksX1_layValues_4 15 rfl rfl)
theorem dX1_layValues_108 : decode cX1_layValues 108 = .ok (.iinc 4 1, 3) := dk_132 4 1 (dk_at dksX1_layValues_4 16 rfl rfl)
theorem dX1_layValues_111 : decode cX1_layValues 111 = .ok (.goto (-108), 3) := dk_167 255 148 (dk_at dksX1_layValues_4 19 rfl rfl)
theorem dX1_layValues_114 : decode cX1_layValues 114 = .ok (.return_, 1) := dk_177 (dk_at dksX1_layValues_4 22 rfl rfl)
abbrev cX1_valueBy : ByteArray := prog_1_method_15_code
def yX1_valueBy : MethodName := ⟨RX1, "valueBy", "(III)I"⟩
def dkwX1_valueBy_3 : List UInt8 := [29, 158, 0, 7, 3, 167, 0, 4, 4, 172, 4, 29, 5, 112, 100, 172, 4, 27, 100, 172, 27, 172]
abbrev dktX1_valueBy_3 : List UInt8 := dkwX1_valueBy_3 ++ []
def dkwX1_valueBy_2 : List UInt8 := [29, 5, 108, 172, 29, 158, 0, 7, 4, 167, 0, 4, 3, 172, 29, 5, 112, 172, 4, 29, 5, 108, 100, 172]
abbrev dktX1_valueBy_2 : List UInt8 := dkwX1_valueBy_2 ++ dktX1_valueBy_3
def dkwX1_valueBy_1 : List UInt8 := [170, 0, 0, 0, 0, 0, 87, 0, 0, 0, 0, 0, 0, 0, 6, 0, 0, 0, 43, 0, 0, 0, 47, 0, 0, 0, 57, 0, 0, 0, 61, 0, 0, 0, 67, 0, 0, 0, 77, 0, 0, 0, 83]
abbrev dktX1_valueBy_1 : List UInt8 := dkwX1_valueBy_1 ++ dktX1_valueBy_2
def dkwX1_valueBy_0 : List UInt8 := [27, 28, 96, 62, 26]
abbrev dktX1_valueBy_0 : List UInt8 := dkwX1_valueBy_0 ++ dktX1_valueBy_1
theorem dksX1_valueBy_0 : cX1_valueBy.data.toList.drop 0 = dktX1_valueBy_0 := by decide +kernel
theorem dksX1_valueBy_1 : cX1_valueBy.data.toList.drop 5 = dktX1_valueBy_1 := dk_seg dksX1_valueBy_0 5 rfl rfl
theorem dksX1_valueBy_2 : cX1_valueBy.data.toList.drop 48 = dktX1_valueBy_2 := dk_seg dksX1_valueBy_1 43 rfl rfl
theorem dksX1_valueBy_3 : cX1_valueBy.data.toList.drop 72 = dktX1_valueBy_3 := dk_seg dksX1_valueBy_2 24 rfl rfl
theorem dX1_valueBy_0 : decode cX1_valueBy 0 = .ok (.iload_n 1, 1) := dk_27 (dk_at dksX1_valueBy_0 0 rfl rfl)
theorem dX1_valueBy_1 : decode cX1_valueBy 1 = .ok (.iload_n 2, 1) := dk_28 (dk_at dksX1_valueBy_0 1 rfl rfl)
theorem dX1_valueBy_2 : decode cX1_valueBy 2 = .ok (.iadd, 1) := dk_96 (dk_at dksX1_valueBy_0 2 rfl rfl)
theorem dX1_valueBy_3 : decode cX1_valueBy 3 = .ok (.istore_n 3, 1) := dk_62 (dk_at dksX1_valueBy_0 3 rfl rfl)
theorem dX1_valueBy_4 : decode cX1_valueBy 4 = .ok (.iload_n 0, 1) := dk_26 (dk_at dksX1_valueBy_0 4 rfl rfl)
theorem dX1_valueBy_5 : decode cX1_valueBy 5 = .ok (.tableswitch 87 0 6 #[43, 47, 57, 61, 67, 77, 83], 43) := by decide +kernel
theorem dX1_valueBy_48 : decode cX1_valueBy 48 = .ok (.iload_n 3, 1) := dk_29 (dk_at dksX1_valueBy_2 0 rfl rfl)
theorem dX1_valueBy_49 : decode cX1_valueBy 49 = .ok (.iconst 2, 1) := dk_5 (dk_at dksX1_valueBy_2 1 rfl rfl)
theorem dX1_valueBy_50 : decode cX1_valueBy 50 = .ok (.idiv, 1) := dk_108 (dk_at dksX1_valueBy_2 2 rfl rfl)
theorem dX1_valueBy_51 : decode cX1_valueBy 51 = .ok (.ireturn, 1) := dk_172 (dk_at dksX1_valueBy_2 3 rfl rfl)
theorem dX1_valueBy_52 : decode cX1_valueBy 52 = .ok (.iload_n 3, 1) := dk_29 (dk_at dksX1_valueBy_2 4 rfl rfl)
theorem dX1_valueBy_53 : decode cX1_valueBy 53 = .ok (.ifCond .le 7, 3) := dk_158 0 7 (dk_at dksX1_valueBy_2 5 rfl rfl)
theorem dX1_valueBy_56 : decode cX1_valueBy 56 = .ok (.iconst 1, 1) := dk_4 (dk_at dksX1_valueBy_2 8 rfl rfl)
theorem dX1_valueBy_57 : decode cX1_valueBy 57 = .ok (.goto 4, 3) := dk_167 0 4 (dk_at dksX1_valueBy_2 9 rfl rfl)
theorem dX1_valueBy_60 : decode cX1_valueBy 60 = .ok (.iconst 0, 1) := dk_3 (dk_at dksX1_valueBy_2 12 rfl rfl)
theorem dX1_valueBy_61 : decode cX1_valueBy 61 = .ok (.ireturn, 1) := dk_172 (dk_at dksX1_valueBy_2 13 rfl rfl)
theorem dX1_valueBy_62 : decode cX1_valueBy 62 = .ok (.iload_n 3, 1) := dk_29 (dk_at dksX1_valueBy_2 14 rfl rfl)
theorem dX1_valueBy_63 : decode cX1_valueBy 63 = .ok (.iconst 2, 1) := dk_5 (dk_at dksX1_valueBy_2 15 rfl rfl)
theorem dX1_valueBy_64 : decode cX1_valueBy 64 = .ok (.irem, 1) := dk_112 (dk_at dksX1_valueBy_2 16 rfl rfl)
theorem dX1_valueBy_65 : decode cX1_valueBy 65 = .ok (.ireturn, 1) := dk_172 (dk_at dksX1_valueBy_2 17 rfl rfl)
theorem dX1_valueBy_66 : decode cX1_valueBy 66 = .ok (.iconst 1, 1) := dk_4 (dk_at dksX1_valueBy_2 18 rfl rfl)
theorem dX1_valueBy_67 : decode cX1_valueBy 67 = .ok (.iload_n 3, 1) := dk_29 (dk_at dksX1_valueBy_2 19 rfl rfl)
theorem dX1_valueBy_68 : decode cX1_valueBy 68 = .ok (.iconst 2, 1) := dk_5 (dk_at dksX1_valueBy_2 20 rfl rfl)
theorem dX1_valueBy_69 : decode cX1_valueBy 69 = .ok (.idiv, 1) := dk_108 (dk_at dksX1_valueBy_2 21 rfl rfl)
theorem dX1_valueBy_70 : decode cX1_valueBy 70 = .ok (.isub, 1) := dk_100 (dk_at dksX1_valueBy_2 22 rfl rfl)
theorem dX1_valueBy_71 : decode cX1_valueBy 71 = .ok (.ireturn, 1) := dk_172 (dk_at dksX1_valueBy_2 23 rfl rfl)
theorem dX1_valueBy_72 : decode cX1_valueBy 72 = .ok (.iload_n 3, 1) := dk_29 (dk_at dksX1_valueBy_3 0 rfl rfl)
theorem dX1_valueBy_73 : decode cX1_valueBy 73 = .ok (.ifCond .le 7, 3) := dk_158 0 7 (dk_at dksX1_valueBy_3 1 rfl rfl)
theorem dX1_valueBy_76 : decode cX1_valueBy 76 = .ok (.iconst 0, 1) := dk_3 (dk_at dksX1_valueBy_3 4 rfl rfl)
theorem dX1_valueBy_77 : decode cX1_valueBy 77 = .ok (.goto 4, 3) := dk_167 0 4 (dk_at dksX1_valueBy_3 5 rfl rfl)
theorem dX1_valueBy_80 : decode cX1_valueBy 80 = .ok (.iconst 1, 1) := dk_4 (dk_at dksX1_valueBy_3 8 rfl rfl)
theorem dX1_valueBy_81 : decode cX1_valueBy 81 = .ok (.ireturn, 1) := dk_172 (dk_at dksX1_valueBy_3 9 rfl rfl)
theorem dX1_valueBy_82 : decode cX1_valueBy 82 = .ok (.iconst 1, 1) := dk_4 (dk_at dksX1_valueBy_3 10 rfl rfl)
theorem dX1_valueBy_83 : decode cX1_valueBy 83 = .ok (.iload_n 3, 1) := dk_29 (dk_at dksX1_valueBy_3 11 rfl rfl)
theorem dX1_valueBy_84 : decode cX1_valueBy 84 = .ok (.iconst 2, 1) := dk_5 (dk_at dksX1_valueBy_3 12 rfl rfl)
theorem dX1_valueBy_85 : decode cX1_valueBy 85 = .ok (.irem, 1) := dk_112 (dk_at dksX1_valueBy_3 13 rfl rfl)
theorem dX1_valueBy_86 : decode cX1_valueBy 86 = .ok (.isub, 1) := dk_100 (dk_at dksX1_valueBy_3 14 rfl rfl)
theorem dX1_valueBy_87 : decode cX1_valueBy 87 = .ok (.ireturn, 1) := dk_172 (dk_at dksX1_valueBy_3 15 rfl rfl)
theorem dX1_valueBy_88 : decode cX1_valueBy 88 = .ok (.iconst 1, 1) := dk_4 (dk_at dksX1_valueBy_3 16 rfl rfl)
theorem dX1_valueBy_89 : decode cX1_valueBy 89 = .ok (.iload_n 1, 1) := dk_27 (dk_at dksX1_valueBy_3 17 rfl rfl)
theorem dX1_valueBy_90 : decode cX1_valueBy 90 = .ok (.isub, 1) := dk_100 (dk_at dksX1_valueBy_3 18 rfl rfl)
theorem dX1_valueBy_91 : decode cX1_valueBy 91 = .ok (.ireturn, 1) := dk_172 (dk_at dksX1_valueBy_3 19 rfl rfl)
theorem dX1_valueBy_92 : decode cX1_valueBy 92 = .ok (.iload_n 1, 1) := dk_27 (dk_at dksX1_valueBy_3 20 rfl rfl)
theorem dX1_valueBy_93 : decode cX1_valueBy 93 = .ok (.ireturn, 1) := dk_172 (dk_at dksX1_valueBy_3 21 rfl rfl)
abbrev cX1_areAlike : ByteArray := prog_1_method_94_code
def yX1_areAlike : MethodName := ⟨RX1, "areAlike", "()Z"⟩
def dkwX1_areAlike_1 : List UInt8 := [27, 160, 0, 7, 4, 167, 0, 4, 3, 61, 132, 3, 1, 167, 255, 228, 28, 172]
abbrev dktX1_areAlike_1 : List UInt8 := dkwX1_areAlike_1 ++ []
def dkwX1_areAlike_0 : List UInt8 := [42, 182, 1, 159, 60, 4, 61, 3, 62, 29, 16, 64, 162, 0, 28, 28, 153, 0, 16, 42, 29, 182, 0, 185]
abbrev dktX1_areAlike_0 : List UInt8 := dkwX1_areAlike_0 ++ dktX1_areAlike_1
theorem dksX1_areAlike_0 : cX1_areAlike.data.toList.drop 0 = dktX1_areAlike_0 := by decide +kernel
theorem dksX1_areAlike_1 : cX1_areAlike.data.toList.drop 24 = dktX1_areAlike_1 := dk_seg dksX1_areAlike_0 24 rfl rfl
theorem dX1_areAlike_0 : decode cX1_areAlike 0 = .ok (.aload_n 0, 1) := dk_42 (dk_at dksX1_areAlike_0 0 rfl rfl)
theorem dX1_areAlike_1 : decode cX1_areAlike 1 = .ok (.invokevirtual 415, 3) := dk_182 1 159 (dk_at dksX1_areAlike_0 1 rfl rfl)
theorem dX1_areAlike_4 : decode cX1_areAlike 4 = .ok (.istore_n 1, 1) := dk_60 (dk_at dksX1_areAlike_0 4 rfl rfl)
theorem dX1_areAlike_5 : decode cX1_areAlike 5 = .ok (.iconst 1, 1) := dk_4 (dk_at dksX1_areAlike_0 5 rfl rfl)
theorem dX1_areAlike_6 : decode cX1_areAlike 6 = .ok (.istore_n 2, 1) := dk_61 (dk_at dksX1_areAlike_0 6 rfl rfl)
theorem dX1_areAlike_7 : decode cX1_areAlike 7 = .ok (.iconst 0, 1) := dk_3 (dk_at dksX1_areAlike_0 7 rfl rfl)
theorem dX1_areAlike_8 : decode cX1_areAlike 8 = .ok (.istore_n 3, 1) := dk_62 (dk_at dksX1_areAlike_0 8 rfl rfl)
theorem dX1_areAlike_9 : decode cX1_areAlike 9 = .ok (.iload_n 3, 1) := dk_29 (dk_at dksX1_areAlike_0 9 rfl rfl)
theorem dX1_areAlike_10 : decode cX1_areAlike 10 = .ok (.bipush 64, 2) := dk_16 64 (dk_at dksX1_areAlike_0 10 rfl rfl)
theorem dX1_areAlike_12 : decode cX1_areAlike 12 = .ok (.if_icmp .ge 28, 3) := dk_162 0 28 (dk_at dksX1_areAlike_0 12 rfl rfl)
theorem dX1_areAlike_15 : decode cX1_areAlike 15 = .ok (.iload_n 2, 1) := dk_28 (dk_at dksX1_areAlike_0 15 rfl rfl)
theorem dX1_areAlike_16 : decode cX1_areAlike 16 = .ok (.ifCond .eq 16, 3) := dk_153 0 16 (dk_at dksX1_areAlike_0 16 rfl rfl)
theorem dX1_areAlike_19 : decode cX1_areAlike 19 = .ok (.aload_n 0, 1) := dk_42 (dk_at dksX1_areAlike_0 19 rfl rfl)
theorem dX1_areAlike_20 : decode cX1_areAlike 20 = .ok (.iload_n 3, 1) := dk_29 (dk_at dksX1_areAlike_0 20 rfl rfl)
theorem dX1_areAlike_21 : decode cX1_areAlike 21 = .ok (.invokevirtual 185, 3) := dk_182 0 185 (dk_at dksX1_areAlike_0 21 rfl rfl)
theorem dX1_areAlike_24 : decode cX1_areAlike 24 = .ok (.iload_n 1, 1) := dk_27 (dk_at dksX1_areAlike_1 0 rfl rfl)
theorem dX1_areAlike_25 : decode cX1_areAlike 25 = .ok (.if_icmp .ne 7, 3) := dk_160 0 7 (dk_at dksX1_areAlike_1 1 rfl rfl)
theorem dX1_areAlike_28 : decode cX1_areAlike 28 = .ok (.iconst 1, 1) := dk_4 (dk_at dksX1_areAlike_1 4 rfl rfl)
theorem dX1_areAlike_29 : decode cX1_areAlike 29 = .ok (.goto 4, 3) := dk_167 0 4 (dk_at dksX1_areAlike_1 5 rfl rfl)
theorem dX1_areAlike_32 : decode cX1_areAlike 32 = .ok (.iconst 0, 1) := dk_3 (dk_at dksX1_areAlike_1 8 rfl rfl)
theorem dX1_areAlike_33 : decode cX1_areAlike 33 = .ok (.istore_n 2, 1) := dk_61 (dk_at dksX1_areAlike_1 9 rfl rfl)
theorem dX1_areAlike_34 : decode cX1_areAlike 34 = .ok (.iinc 3 1, 3) := dk_132 3 1 (dk_at dksX1_areAlike_1 10 rfl rfl)
theorem dX1_areAlike_37 : decode cX1_areAlike 37 = .ok (.goto (-28), 3) := dk_167 255 228 (dk_at dksX1_areAlike_1 13 rfl rfl)
theorem dX1_areAlike_40 : decode cX1_areAlike 40 = .ok (.iload_n 2, 1) := dk_28 (dk_at dksX1_areAlike_1 16 rfl rfl)
theorem dX1_areAlike_41 : decode cX1_areAlike 41 = .ok (.ireturn, 1) := dk_172 (dk_at dksX1_areAlike_1 17 rfl rfl)
abbrev cX1_layCounts : ByteArray := prog_1_method_31_code
def yX1_layCounts : MethodName := ⟨RX1, "layCounts", "()I"⟩
def dkwX1_layCounts_4 : List UInt8 := [4, 96, 79, 132, 6, 1, 167, 255, 224, 132, 5, 1, 167, 255, 195, 132, 4, 1, 167, 255, 180, 27, 172]
abbrev dktX1_layCounts_4 : List UInt8 := dkwX1_layCounts_4 ++ []
def dkwX1_layCounts_3 : List UInt8 := [16, 64, 162, 0, 31, 42, 180, 0, 177, 16, 16, 21, 6, 104, 42, 180, 0, 79, 21, 6, 46, 96, 92, 46]
abbrev dktX1_layCounts_3 : List UInt8 := dkwX1_layCounts_3 ++ dktX1_layCounts_4
def dkwX1_layCounts_2 : List UInt8 := [29, 162, 0, 61, 42, 21, 4, 21, 5, 182, 0, 168, 153, 0, 44, 132, 1, 1, 3, 54, 6, 21, 6]
abbrev dktX1_layCounts_2 : List UInt8 := dkwX1_layCounts_2 ++ dktX1_layCounts_3
def dkwX1_layCounts_1 : List UInt8 := [42, 182, 0, 162, 61, 42, 182, 0, 165, 62, 3, 54, 4, 21, 4, 28, 162, 0, 76, 3, 54, 5, 21, 5]
abbrev dktX1_layCounts_1 : List UInt8 := dkwX1_layCounts_1 ++ dktX1_layCounts_2
def dkwX1_layCounts_0 : List UInt8 := [3, 60, 27, 17, 4, 0, 162, 0, 16, 42, 180, 0, 177, 27, 3, 79, 132, 1, 1, 167, 255, 239, 3, 60]
abbrev dktX1_layCounts_0 : List UInt8 := dkwX1_layCounts_0 ++ dktX1_layCounts_1
theorem dksX1_layCounts_0 : cX1_layCounts.data.toList.drop 0 = dktX1_layCounts_0 := by decide +kernel
theorem dksX1_layCounts_1 : cX1_layCounts.data.toList.drop 24 = dktX1_layCounts_1 := dk_seg dksX1_layCounts_0 24 rfl rfl
theorem dksX1_layCounts_2 : cX1_layCounts.data.toList.drop 48 = dktX1_layCounts_2 := dk_seg dksX1_layCounts_1 24 rfl rfl
theorem dksX1_layCounts_3 : cX1_layCounts.data.toList.drop 71 = dktX1_layCounts_3 := dk_seg dksX1_layCounts_2 23 rfl rfl
theorem dksX1_layCounts_4 : cX1_layCounts.data.toList.drop 95 = dktX1_layCounts_4 := dk_seg dksX1_layCounts_3 24 rfl rfl
theorem dX1_layCounts_0 : decode cX1_layCounts 0 = .ok (.iconst 0, 1) := dk_3 (dk_at dksX1_layCounts_0 0 rfl rfl)
theorem dX1_layCounts_1 : decode cX1_layCounts 1 = .ok (.istore_n 1, 1) := dk_60 (dk_at dksX1_layCounts_0 1 rfl rfl)
theorem dX1_layCounts_2 : decode cX1_layCounts 2 = .ok (.iload_n 1, 1) := dk_27 (dk_at dksX1_layCounts_0 2 rfl rfl)
theorem dX1_layCounts_3 : decode cX1_layCounts 3 = .ok (.sipush 1024, 3) := dk_17 4 0 (dk_at dksX1_layCounts_0 3 rfl rfl)
theorem dX1_layCounts_6 : decode cX1_layCounts 6 = .ok (.if_icmp .ge 16, 3) := dk_162 0 16 (dk_at dksX1_layCounts_0 6 rfl rfl)
theorem dX1_layCounts_9 : decode cX1_layCounts 9 = .ok (.aload_n 0, 1) := dk_42 (dk_at dksX1_layCounts_0 9 rfl rfl)
theorem dX1_layCounts_10 : decode cX1_layCounts 10 = .ok (.getfield 177, 3) := dk_180 0 177 (dk_at dksX1_layCounts_0 10 rfl rfl)
theorem dX1_layCounts_13 : decode cX1_layCounts 13 = .ok (.iload_n 1, 1) := dk_27 (dk_at dksX1_layCounts_0 13 rfl rfl)
theorem dX1_layCounts_14 : decode cX1_layCounts 14 = .ok (.iconst 0, 1) := dk_3 (dk_at dksX1_layCounts_0 14 rfl rfl)
theorem dX1_layCounts_15 : decode cX1_layCounts 15 = .ok (.iastore, 1) := dk_79 (dk_at dksX1_layCounts_0 15 rfl rfl)
theorem dX1_layCounts_16 : decode cX1_layCounts 16 = .ok (.iinc 1 1, 3) := dk_132 1 1 (dk_at dksX1_layCounts_0 16 rfl rfl)
theorem dX1_layCounts_19 : decode cX1_layCounts 19 = .ok (.goto (-17), 3) := dk_167 255 239 (dk_at dksX1_layCounts_0 19 rfl rfl)
theorem dX1_layCounts_22 : decode cX1_layCounts 22 = .ok (.iconst 0, 1) := dk_3 (dk_at dksX1_layCounts_0 22 rfl rfl)
theorem dX1_layCounts_23 : decode cX1_layCounts 23 = .ok (.istore_n 1, 1) := dk_60 (dk_at dksX1_layCounts_0 23 rfl rfl)
theorem dX1_layCounts_24 : decode cX1_layCounts 24 = .ok (.aload_n 0, 1) := dk_42 (dk_at dksX1_layCounts_1 0 rfl rfl)
theorem dX1_layCounts_25 : decode cX1_layCounts 25 = .ok (.invokevirtual 162, 3) := dk_182 0 162 (dk_at dksX1_layCounts_1 1 rfl rfl)
theorem dX1_layCounts_28 : decode cX1_layCounts 28 = .ok (.istore_n 2, 1) := dk_61 (dk_at dksX1_layCounts_1 4 rfl rfl)
theorem dX1_layCounts_29 : decode cX1_layCounts 29 = .ok (.aload_n 0, 1) := dk_42 (dk_at dksX1_layCounts_1 5 rfl rfl)
theorem dX1_layCounts_30 : decode cX1_layCounts 30 = .ok (.invokevirtual 165, 3) := dk_182 0 165 (dk_at dksX1_layCounts_1 6 rfl rfl)
theorem dX1_layCounts_33 : decode cX1_layCounts 33 = .ok (.istore_n 3, 1) := dk_62 (dk_at dksX1_layCounts_1 9 rfl rfl)
theorem dX1_layCounts_34 : decode cX1_layCounts 34 = .ok (.iconst 0, 1) := dk_3 (dk_at dksX1_layCounts_1 10 rfl rfl)
theorem dX1_layCounts_35 : decode cX1_layCounts 35 = .ok (.istore 4, 2) := dk_54 4 (dk_at dksX1_layCounts_1 11 rfl rfl)
theorem dX1_layCounts_37 : decode cX1_layCounts 37 = .ok (.iload 4, 2) := dk_21 4 (dk_at dksX1_layCounts_1 13 rfl rfl)
theorem dX1_layCounts_39 : decode cX1_layCounts 39 = .ok (.iload_n 2, 1) := dk_28 (dk_at dksX1_layCounts_1 15 rfl rfl)
theorem dX1_layCounts_40 : decode cX1_layCounts 40 = .ok (.if_icmp .ge 76, 3) := dk_162 0 76 (dk_at dksX1_layCounts_1 16 rfl rfl)
theorem dX1_layCounts_43 : decode cX1_layCounts 43 = .ok (.iconst 0, 1) := dk_3 (dk_at dksX1_layCounts_1 19 rfl rfl)
theorem dX1_layCounts_44 : decode cX1_layCounts 44 = .ok (.istore 5, 2) := dk_54 5 (dk_at dksX1_layCounts_1 20 rfl rfl)
theorem dX1_layCounts_46 : decode cX1_layCounts 46 = .ok (.iload 5, 2) := dk_21 5 (dk_at dksX1_layCounts_1 22 rfl rfl)
theorem dX1_layCounts_48 : decode cX1_layCounts 48 = .ok (.iload_n 3, 1) := dk_29 (dk_at dksX1_layCounts_2 0 rfl rfl)
theorem dX1_layCounts_49 : decode cX1_layCounts 49 = .ok (.if_icmp .ge 61, 3) := dk_162 0 61 (dk_at dksX1_layCounts_2 1 rfl rfl)
theorem dX1_layCounts_52 : decode cX1_layCounts 52 = .ok (.aload_n 0, 1) := dk_42 (dk_at dksX1_layCounts_2 4 rfl rfl)
theorem dX1_layCounts_53 : decode cX1_layCounts 53 = .ok (.iload 4, 2) := dk_21 4 (dk_at dksX1_layCounts_2 5 rfl rfl)
theorem dX1_layCounts_55 : decode cX1_layCounts 55 = .ok (.iload 5, 2) := dk_21 5 (dk_at dksX1_layCounts_2 7 rfl rfl)
theorem dX1_layCounts_57 : decode cX1_layCounts 57 = .ok (.invokevirtual 168, 3) := dk_182 0 168 (dk_at dksX1_layCounts_2 9 rfl rfl)
theorem dX1_layCounts_60 : decode cX1_layCounts 60 = .ok (.ifCond .eq 44, 3) := dk_153 0 44 (dk_at dksX1_layCounts_2 12 rfl rfl)
theorem dX1_layCounts_63 : decode cX1_layCounts 63 = .ok (.iinc 1 1, 3) := dk_132 1 1 (dk_at dksX1_layCounts_2 15 rfl rfl)
theorem dX1_layCounts_66 : decode cX1_layCounts 66 = .ok (.iconst 0, 1) := dk_3 (dk_at dksX1_layCounts_2 18 rfl rfl)
theorem dX1_layCounts_67 : decode cX1_layCounts 67 = .ok (.istore 6, 2) := dk_54 6 (dk_at dksX1_layCounts_2 19 rfl rfl)
theorem dX1_layCounts_69 : decode cX1_layCounts 69 = .ok (.iload 6, 2) := dk_21 6 (dk_at dksX1_layCounts_2 21 rfl rfl)
theorem dX1_layCounts_71 : decode cX1_layCounts 71 = .ok (.bipush 64, 2) := dk_16 64 (dk_at dksX1_layCounts_3 0 rfl rfl)
theorem dX1_layCounts_73 : decode cX1_layCounts 73 = .ok (.if_icmp .ge 31, 3) := dk_162 0 31 (dk_at dksX1_layCounts_3 2 rfl rfl)
theorem dX1_layCounts_76 : decode cX1_layCounts 76 = .ok (.aload_n 0, 1) := dk_42 (dk_at dksX1_layCounts_3 5 rfl rfl)
theorem dX1_layCounts_77 : decode cX1_layCounts 77 = .ok (.getfield 177, 3) := dk_180 0 177 (dk_at dksX1_layCounts_3 6 rfl rfl)
theorem dX1_layCounts_80 : decode cX1_layCounts 80 = .ok (.bipush 16, 2) := dk_16 16 (dk_at dksX1_layCounts_3 9 rfl rfl)
theorem dX1_layCounts_82 : decode cX1_layCounts 82 = .ok (.iload 6, 2) := dk_21 6 (dk_at dksX1_layCounts_3 11 rfl rfl)
theorem dX1_layCounts_84 : decode cX1_layCounts 84 = .ok (.imul, 1) := dk_104 (dk_at dksX1_layCounts_3 13 rfl rfl)
theorem dX1_layCounts_85 : decode cX1_layCounts 85 = .ok (.aload_n 0, 1) := dk_42 (dk_at dksX1_layCounts_3 14 rfl rfl)
theorem dX1_layCounts_86 : decode cX1_layCounts 86 = .ok (.getfield 79, 3) := dk_180 0 79 (dk_at dksX1_layCounts_3 15 rfl rfl)
theorem dX1_layCounts_89 : decode cX1_layCounts 89 = .ok (.iload 6, 2) := dk_21 6 (dk_at dksX1_layCounts_3 18 rfl rfl)
theorem dX1_layCounts_91 : decode cX1_layCounts 91 = .ok (.iaload, 1) := dk_46 (dk_at dksX1_layCounts_3 20 rfl rfl)
theorem dX1_layCounts_92 : decode cX1_layCounts 92 = .ok (.iadd, 1) := dk_96 (dk_at dksX1_layCounts_3 21 rfl rfl)
theorem dX1_layCounts_93 : decode cX1_layCounts 93 = .ok (.dup2, 1) := dk_92 (dk_at dksX1_layCounts_3 22 rfl rfl)
theorem dX1_layCounts_94 : decode cX1_layCounts 94 = .ok (.iaload, 1) := dk_46 (dk_at dksX1_layCounts_3 23 rfl rfl)
theorem dX1_layCounts_95 : decode cX1_layCounts 95 = .ok (.iconst 1, 1) := dk_4 (dk_at dksX1_layCounts_4 0 rfl rfl)
theorem dX1_layCounts_96 : decode cX1_layCounts 96 = .ok (.iadd, 1) := dk_96 (dk_at dksX1_layCounts_4 1 rfl rfl)
theorem dX1_layCounts_97 : decode cX1_layCounts 97 = .ok (.iastore, 1) := dk_79 (dk_at dksX1_layCounts_4 2 rfl rfl)
theorem dX1_layCounts_98 : decode cX1_layCounts 98 = .ok (.iinc 6 1, 3) := dk_132 6 1 (dk_at dksX1_layCounts_4 3 rfl rfl)
theorem dX1_layCounts_101 : decode cX1_layCounts 101 = .ok (.goto (-32), 3) := dk_167 255 224 (dk_at dksX1_layCounts_4 6 rfl rfl)
theorem dX1_layCounts_104 : decode cX1_layCounts 104 = .ok (.iinc 5 1, 3) := dk_132 5 1 (dk_at dksX1_layCounts_4 9 rfl rfl)
theorem dX1_layCounts_107 : decode cX1_layCounts 107 = .ok (.goto (-61), 3) := dk_167 255 195 (dk_at dksX1_layCounts_4 12 rfl rfl)
theorem dX1_layCounts_110 : decode cX1_layCounts 110 = .ok (.iinc 4 1, 3) := dk_132 4 1 (dk_at dksX1_layCounts_4 15 rfl rfl)
theorem dX1_layCounts_113 : decode cX1_layCounts 113 = .ok (.goto (-76), 3) := dk_167 255 180 (dk_at dksX1_layCounts_4 18 rfl rfl)
theorem dX1_layCounts_116 : decode cX1_layCounts 116 = .ok (.iload_n 1, 1) := dk_27 (dk_at dksX1_layCounts_4 21 rfl rfl)
theorem dX1_layCounts_117 : decode cX1_layCounts 117 = .ok (.ireturn, 1) := dk_172 (dk_at dksX1_layCounts_4 22 rfl rfl)
abbrev cX1_worst : ByteArray := prog_1_method_32_code
def yX1_worst : MethodName := ⟨RX1, "worst", "(I)I"⟩
def dkwX1_worst_1 : List UInt8 := [184, 0, 180, 61, 132, 3, 1, 167, 255, 231, 28, 172]
abbrev dktX1_worst_1 : List UInt8 := dkwX1_worst_1 ++ []
def dkwX1_worst_0 : List UInt8 := [3, 61, 3, 62, 29, 16, 16, 162, 0, 25, 28, 42, 180, 0, 177, 16, 16, 27, 104, 29, 96, 46]
abbrev dktX1_worst_0 : List UInt8 := dkwX1_worst_0 ++ dktX1_worst_1
theorem dksX1_worst_0 : cX1_worst.data.toList.drop 0 = dktX1_worst_0 := by decide +kernel
theorem dksX1_worst_1 : cX1_worst.data.toList.drop 22 = dktX1_worst_1 := dk_seg dksX1_worst_0 22 rfl rfl
theorem dX1_worst_0 : decode cX1_worst 0 = .ok (.iconst 0, 1) := dk_3 (dk_at dksX1_worst_0 0 rfl rfl)
theorem dX1_worst_1 : decode cX1_worst 1 = .ok (.istore_n 2, 1) := dk_61 (dk_at dksX1_worst_0 1 rfl rfl)
theorem dX1_worst_2 : decode cX1_worst 2 = .ok (.iconst 0, 1) := dk_3 (dk_at dksX1_worst_0 2 rfl rfl)
theorem dX1_worst_3 : decode cX1_worst 3 = .ok (.istore_n 3, 1) := dk_62 (dk_at dksX1_worst_0 3 rfl rfl)
theorem dX1_worst_4 : decode cX1_worst 4 = .ok (.iload_n 3, 1) := dk_29 (dk_at dksX1_worst_0 4 rfl rfl)
theorem dX1_worst_5 : decode cX1_worst 5 = .ok (.bipush 16, 2) := dk_16 16 (dk_at dksX1_worst_0 5 rfl rfl)
theorem dX1_worst_7 : decode cX1_worst 7 = .ok (.if_icmp .ge 25, 3) := dk_162 0 25 (dk_at dksX1_worst_0 7 rfl rfl)
theorem dX1_worst_10 : decode cX1_worst 10 = .ok (.iload_n 2, 1) := dk_28 (dk_at dksX1_worst_0 10 rfl rfl)
theorem dX1_worst_11 : decode cX1_worst 11 = .ok (.aload_n 0, 1) := dk_42 (dk_at dksX1_worst_0 11 rfl rfl)
theorem dX1_worst_12 : decode cX1_worst 12 = .ok (.getfield 177, 3) := dk_180 0 177 (dk_at dksX1_worst_0 12 rfl rfl)
theorem dX1_worst_15 : decode cX1_worst 15 = .ok (.bipush 16, 2) := dk_16 16 (dk_at dksX1_worst_0 15 rfl rfl)
theorem dX1_worst_17 : decode cX1_worst 17 = .ok (.iload_n 1, 1) := dk_27 (dk_at dksX1_worst_0 17 rfl rfl)
theorem dX1_worst_18 : decode cX1_worst 18 = .ok (.imul, 1) := dk_104 (dk_at dksX1_worst_0 18 rfl rfl)
theorem dX1_worst_19 : decode cX1_worst 19 = .ok (.iload_n 3, 1) := dk_29 (dk_at dksX1_worst_0 19 rfl rfl)
theorem dX1_worst_20 : decode cX1_worst 20 = .ok (.iadd, 1) := dk_96 (dk_at dksX1_worst_0 20 rfl rfl)
theorem dX1_worst_21 : decode cX1_worst 21 = .ok (.iaload, 1) := dk_46 (dk_at dksX1_worst_0 21 rfl rfl)
theorem dX1_worst_22 : decode cX1_worst 22 = .ok (.invokestatic 180, 3) := dk_184 0 180 (dk_at dksX1_worst_1 0 rfl rfl)
theorem dX1_worst_25 : decode cX1_worst 25 = .ok (.istore_n 2, 1) := dk_61 (dk_at dksX1_worst_1 3 rfl rfl)
theorem dX1_worst_26 : decode cX1_worst 26 = .ok (.iinc 3 1, 3) := dk_132 3 1 (dk_at dksX1_worst_1 4 rfl rfl)
theorem dX1_worst_29 : decode cX1_worst 29 = .ok (.goto (-25), 3) := dk_167 255 231 (dk_at dksX1_worst_1 7 rfl rfl)
theorem dX1_worst_32 : decode cX1_worst 32 = .ok (.iload_n 2, 1) := dk_28 (dk_at dksX1_worst_1 10 rfl rfl)
theorem dX1_worst_33 : decode cX1_worst 33 = .ok (.ireturn, 1) := dk_172 (dk_at dksX1_worst_1 11 rfl rfl)
abbrev cX1_bestTest : ByteArray := prog_1_method_96_code
def yX1_bestTest : MethodName := ⟨RX1, "bestTest", "()I"⟩
def dkwX1_bestTest_0 : List UInt8 := [42, 182, 1, 159, 87, 42, 182, 1, 162, 172]
abbrev dktX1_bestTest_0 : List UInt8 := dkwX1_bestTest_0 ++ []
theorem dksX1_bestTest_0 : cX1_bestTest.data.toList.drop 0 = dktX1_bestTest_0 := by decide +kernel
theorem dX1_bestTest_0 : decode cX1_bestTest 0 = .ok (.aload_n 0, 1) := dk_42 (dk_at dksX1_bestTest_0 0 rfl rfl)
theorem dX1_bestTest_1 : decode cX1_bestTest 1 = .ok (.invokevirtual 415, 3) := dk_182 1 159 (dk_at dksX1_bestTest_0 1 rfl rfl)
theorem dX1_bestTest_4 : decode cX1_bestTest 4 = .ok (.pop, 1) := dk_87 (dk_at dksX1_bestTest_0 4 rfl rfl)
theorem dX1_bestTest_5 : decode cX1_bestTest 5 = .ok (.aload_n 0, 1) := dk_42 (dk_at dksX1_bestTest_0 5 rfl rfl)
theorem dX1_bestTest_6 : decode cX1_bestTest 6 = .ok (.invokevirtual 418, 3) := dk_182 1 162 (dk_at dksX1_bestTest_0 6 rfl rfl)
theorem dX1_bestTest_9 : decode cX1_bestTest 9 = .ok (.ireturn, 1) := dk_172 (dk_at dksX1_bestTest_0 9 rfl rfl)
abbrev cX1_best : ByteArray := prog_1_method_33_code
def yX1_best : MethodName := ⟨RX1, "best", "()I"⟩
def dkwX1_best_1 : List UInt8 := [167, 0, 4, 27, 60, 132, 2, 1, 167, 255, 228, 27, 172]
abbrev dktX1_best_1 : List UInt8 := dkwX1_best_1 ++ []
def dkwX1_best_0 : List UInt8 := [3, 60, 4, 61, 28, 16, 64, 162, 0, 28, 42, 28, 182, 0, 185, 42, 27, 182, 0, 185, 162, 0, 7, 28]
abbrev dktX1_best_0 : List UInt8 := dkwX1_best_0 ++ dktX1_best_1
theorem dksX1_best_0 : cX1_best.data.toList.drop 0 = dktX1_best_0 := by decide +kernel
theorem dksX1_best_1 : cX1_best.data.toList.drop 24 = dktX1_best_1 := dk_seg dksX1_best_0 24 rfl rfl
theorem dX1_best_0 : decode cX1_best 0 = .ok (.iconst 0, 1) := dk_3 (dk_at dksX1_best_0 0 rfl rfl)
theorem dX1_best_1 : decode cX1_best 1 = .ok (.istore_n 1, 1) := dk_60 (dk_at dksX1_best_0 1 rfl rfl)
theorem dX1_best_2 : decode cX1_best 2 = .ok (.iconst 1, 1) := dk_4 (dk_at dksX1_best_0 2 rfl rfl)
theorem dX1_best_3 : decode cX1_best 3 = .ok (.istore_n 2, 1) := dk_61 (dk_at dksX1_best_0 3 rfl rfl)
theorem dX1_best_4 : decode cX1_best 4 = .ok (.iload_n 2, 1) := dk_28 (dk_at dksX1_best_0 4 rfl rfl)
theorem dX1_best_5 : decode cX1_best 5 = .ok (.bipush 64, 2) := dk_16 64 (dk_at dksX1_best_0 5 rfl rfl)
theorem dX1_best_7 : decode cX1_best 7 = .ok (.if_icmp .ge 28, 3) := dk_162 0 28 (dk_at dksX1_best_0 7 rfl rfl)
theorem dX1_best_10 : decode cX1_best 10 = .ok (.aload_n 0, 1) := dk_42 (dk_at dksX1_best_0 10 rfl rfl)
theorem dX1_best_11 : decode cX1_best 11 = .ok (.iload_n 2, 1) := dk_28 (dk_at dksX1_best_0 11 rfl rfl)
theorem dX1_best_12 : decode cX1_best 12 = .ok (.invokevirtual 185, 3) := dk_182 0 185 (dk_at dksX1_best_0 12 rfl rfl)
theorem dX1_best_15 : decode cX1_best 15 = .ok (.aload_n 0, 1) := dk_42 (dk_at dksX1_best_0 15 rfl rfl)
theorem dX1_best_16 : decode cX1_best 16 = .ok (.iload_n 1, 1) := dk_27 (dk_at dksX1_best_0 16 rfl rfl)
theorem dX1_best_17 : decode cX1_best 17 = .ok (.invokevirtual 185, 3) := dk_182 0 185 (dk_at dksX1_best_0 17 rfl rfl)
theorem dX1_best_20 : decode cX1_best 20 = .ok (.if_icmp .ge 7, 3) := dk_162 0 7 (dk_at dksX1_best_0 20 rfl rfl)
theorem dX1_best_23 : decode cX1_best 23 = .ok (.iload_n 2, 1) := dk_28 (dk_at dksX1_best_0 23 rfl rfl)
theorem dX1_best_24 : decode cX1_best 24 = .ok (.goto 4, 3) := dk_167 0 4 (dk_at dksX1_best_1 0 rfl rfl)
theorem dX1_best_27 : decode cX1_best 27 = .ok (.iload_n 1, 1) := dk_27 (dk_at dksX1_best_1 3 rfl rfl)
theorem dX1_best_28 : decode cX1_best 28 = .ok (.istore_n 1, 1) := dk_60 (dk_at dksX1_best_1 4 rfl rfl)
theorem dX1_best_29 : decode cX1_best 29 = .ok (.iinc 2 1, 3) := dk_132 2 1 (dk_at dksX1_best_1 5 rfl rfl)
theorem dX1_best_32 : decode cX1_best 32 = .ok (.goto (-28), 3) := dk_167 255 228 (dk_at dksX1_best_1 8 rfl rfl)
theorem dX1_best_35 : decode cX1_best 35 = .ok (.iload_n 1, 1) := dk_27 (dk_at dksX1_best_1 11 rfl rfl)
theorem dX1_best_36 : decode cX1_best 36 = .ok (.ireturn, 1) := dk_172 (dk_at dksX1_best_1 12 rfl rfl)
abbrev cX1_addGate : ByteArray := prog_1_method_38_code
def yX1_addGate : MethodName := ⟨RX1, "addGate", "(III)I"⟩
def dkwX1_addGate_0 : List UInt8 := [42, 27, 28, 29, 186, 0, 230, 0, 0, 182, 0, 233, 172]
abbrev dktX1_addGate_0 : List UInt8 := dkwX1_addGate_0 ++ []
theorem dksX1_addGate_0 : cX1_addGate.data.toList.drop 0 = dktX1_addGate_0 := by decide +kernel
theorem dX1_addGate_0 : decode cX1_addGate 0 = .ok (.aload_n 0, 1) := dk_42 (dk_at dksX1_addGate_0 0 rfl rfl)
theorem dX1_addGate_1 : decode cX1_addGate 1 = .ok (.iload_n 1, 1) := dk_27 (dk_at dksX1_addGate_0 1 rfl rfl)
theorem dX1_addGate_2 : decode cX1_addGate 2 = .ok (.iload_n 2, 1) := dk_28 (dk_at dksX1_addGate_0 2 rfl rfl)
theorem dX1_addGate_3 : decode cX1_addGate 3 = .ok (.iload_n 3, 1) := dk_29 (dk_at dksX1_addGate_0 3 rfl rfl)
theorem dX1_addGate_4 : decode cX1_addGate 4 = .ok (.invokedynamic 230, 5) := by decide +kernel
theorem dX1_addGate_9 : decode cX1_addGate 9 = .ok (.invokevirtual 233, 3) := dk_182 0 233 (dk_at dksX1_addGate_0 9 rfl rfl)
theorem dX1_addGate_12 : decode cX1_addGate 12 = .ok (.ireturn, 1) := dk_172 (dk_at dksX1_addGate_0 12 rfl rfl)
abbrev cX1_lambda_addGate_0 : ByteArray := prog_1_method_103_code
def yX1_lambda_addGate_0 : MethodName := ⟨RX1, "lambda$addGate$0", "(IIILRosehipCircuits$Circuit;)I"⟩
def dkwX1_lambda_addGate_0_0 : List UInt8 := [45, 26, 27, 28, 182, 1, 76, 172]
abbrev dktX1_lambda_addGate_0_0 : List UInt8 := dkwX1_lambda_addGate_0_0 ++ []
theorem dksX1_lambda_addGate_0_0 : cX1_lambda_addGate_0.data.toList.drop 0 = dktX1_lambda_addGate_0_0 := by decide +kernel
theorem dX1_lambda_addGate_0_0 : decode cX1_lambda_addGate_0 0 = .ok (.aload_n 3, 1) := dk_45 (dk_at dksX1_lambda_addGate_0_0 0 rfl rfl)
theorem dX1_lambda_addGate_0_1 : decode cX1_lambda_addGate_0 1 = .ok (.iload_n 0, 1) := dk_26 (dk_at dksX1_lambda_addGate_0_0 1 rfl rfl)
theorem dX1_lambda_addGate_0_2 : decode cX1_lambda_addGate_0 2 = .ok (.iload_n 1, 1) := dk_27 (dk_at dksX1_lambda_addGate_0_0 2 rfl rfl)
theorem dX1_lambda_addGate_0_3 : decode cX1_lambda_addGate_0 3 = .ok (.iload_n 2, 1) := dk_28 (dk_at dksX1_lambda_addGate_0_0 3 rfl rfl)
theorem dX1_lambda_addGate_0_4 : decode cX1_lambda_addGate_0 4 = .ok (.invokevirtual 332, 3) := dk_182 1 76 (dk_at dksX1_lambda_addGate_0_0 4 rfl rfl)
theorem dX1_lambda_addGate_0_7 : decode cX1_lambda_addGate_0 7 = .ok (.ireturn, 1) := dk_172 (dk_at dksX1_lambda_addGate_0_0 7 rfl rfl)
abbrev cX1_needThere : ByteArray := prog_1_method_2_code
def yX1_needThere : MethodName := ⟨RX1, "needThere", "(Z)V"⟩
def dkwX1_needThere_0 : List UInt8 := [26, 154, 0, 13, 187, 0, 3, 89, 18, 5, 183, 0, 7, 191, 177]
abbrev dktX1_needThere_0 : List UInt8 := dkwX1_needThere_0 ++ []
theorem dksX1_needThere_0 : cX1_needThere.data.toList.drop 0 = dktX1_needThere_0 := by decide +kernel
theorem dX1_needThere_0 : decode cX1_needThere 0 = .ok (.iload_n 0, 1) := dk_26 (dk_at dksX1_needThere_0 0 rfl rfl)
theorem dX1_needThere_1 : decode cX1_needThere 1 = .ok (.ifCond .ne 13, 3) := dk_154 0 13 (dk_at dksX1_needThere_0 1 rfl rfl)
theorem dX1_needThere_4 : decode cX1_needThere 4 = .ok (.new 3, 3) := dk_187 0 3 (dk_at dksX1_needThere_0 4 rfl rfl)
theorem dX1_needThere_7 : decode cX1_needThere 7 = .ok (.dup, 1) := dk_89 (dk_at dksX1_needThere_0 7 rfl rfl)
theorem dX1_needThere_8 : decode cX1_needThere 8 = .ok (.ldc 5, 2) := dk_18 5 (dk_at dksX1_needThere_0 8 rfl rfl)
theorem dX1_needThere_10 : decode cX1_needThere 10 = .ok (.invokespecial 7, 3) := dk_183 0 7 (dk_at dksX1_needThere_0 10 rfl rfl)
theorem dX1_needThere_13 : decode cX1_needThere 13 = .ok (.athrow, 1) := dk_191 (dk_at dksX1_needThere_0 13 rfl rfl)
theorem dX1_needThere_14 : decode cX1_needThere 14 = .ok (.return_, 1) := dk_177 (dk_at dksX1_needThere_0 14 rfl rfl)
abbrev cX1_needState : ByteArray := prog_1_method_4_code
def yX1_needState : MethodName := ⟨RX1, "needState", "(Z)V"⟩
def dkwX1_needState_0 : List UInt8 := [26, 154, 0, 13, 187, 0, 16, 89, 18, 18, 183, 0, 20, 191, 177]
abbrev dktX1_needState_0 : List UInt8 := dkwX1_needState_0 ++ []
theorem dksX1_needState_0 : cX1_needState.data.toList.drop 0 = dktX1_needState_0 := by decide +kernel
theorem dX1_needState_0 : decode cX1_needState 0 = .ok (.iload_n 0, 1) := dk_26 (dk_at dksX1_needState_0 0 rfl rfl)
theorem dX1_needState_1 : decode cX1_needState 1 = .ok (.ifCond .ne 13, 3) := dk_154 0 13 (dk_at dksX1_needState_0 1 rfl rfl)
theorem dX1_needState_4 : decode cX1_needState 4 = .ok (.new 16, 3) := dk_187 0 16 (dk_at dksX1_needState_0 4 rfl rfl)
theorem dX1_needState_7 : decode cX1_needState 7 = .ok (.dup, 1) := dk_89 (dk_at dksX1_needState_0 7 rfl rfl)
theorem dX1_needState_8 : decode cX1_needState 8 = .ok (.ldc 18, 2) := dk_18 18 (dk_at dksX1_needState_0 8 rfl rfl)
theorem dX1_needState_10 : decode cX1_needState 10 = .ok (.invokespecial 20, 3) := dk_183 0 20 (dk_at dksX1_needState_0 10 rfl rfl)
theorem dX1_needState_13 : decode cX1_needState 13 = .ok (.athrow, 1) := dk_191 (dk_at dksX1_needState_0 13 rfl rfl)
theorem dX1_needState_14 : decode cX1_needState 14 = .ok (.return_, 1) := dk_177 (dk_at dksX1_needState_0 14 rfl rfl)
abbrev cX1_change : ByteArray := prog_1_method_37_code
def yX1_change : MethodName := ⟨RX1, "change", "(LRosehipCircuits$Change;)I"⟩
def dkwX1_change_1 : List UInt8 := [180, 0, 23, 182, 0, 218, 42, 44, 181, 0, 23, 29, 172]
abbrev dktX1_change_1 : List UInt8 := dkwX1_change_1 ++ []
def dkwX1_change_0 : List UInt8 := [187, 0, 28, 89, 42, 180, 0, 23, 183, 0, 222, 77, 43, 44, 185, 0, 224, 2, 0, 62, 42, 42]
abbrev dktX1_change_0 : List UInt8 := dkwX1_change_0 ++ dktX1_change_1
theorem dksX1_change_0 : cX1_change.data.toList.drop 0 = dktX1_change_0 := by decide +kernel
theorem dksX1_change_1 : cX1_change.data.toList.drop 22 = dktX1_change_1 := dk_seg dksX1_change_0 22 rfl rfl
theorem dX1_change_0 : decode cX1_change 0 = .ok (.new 28, 3) := dk_187 0 28 (dk_at dksX1_change_0 0 rfl rfl)
theorem dX1_change_3 : decode cX1_change 3 = .ok (.dup, 1) := dk_89 (dk_at dksX1_change_0 3 rfl rfl)
theorem dX1_change_4 : decode cX1_change 4 = .ok (.aload_n 0, 1) := dk_42 (dk_at dksX1_change_0 4 rfl rfl)
theorem dX1_change_5 : decode cX1_change 5 = .ok (.getfield 23, 3) := dk_180 0 23 (dk_at dksX1_change_0 5 rfl rfl)
theorem dX1_change_8 : decode cX1_change 8 = .ok (.invokespecial 222, 3) := dk_183 0 222 (dk_at dksX1_change_0 8 rfl rfl)
theorem dX1_change_11 : decode cX1_change 11 = .ok (.astore_n 2, 1) := dk_77 (dk_at dksX1_change_0 11 rfl rfl)
theorem dX1_change_12 : decode cX1_change 12 = .ok (.aload_n 1, 1) := dk_43 (dk_at dksX1_change_0 12 rfl rfl)
theorem dX1_change_13 : decode cX1_change 13 = .ok (.aload_n 2, 1) := dk_44 (dk_at dksX1_change_0 13 rfl rfl)
theorem dX1_change_14 : decode cX1_change 14 = .ok (.invokeinterface 224 2, 5) := by decide +kernel
theorem dX1_change_19 : decode cX1_change 19 = .ok (.istore_n 3, 1) := dk_62 (dk_at dksX1_change_0 19 rfl rfl)
theorem dX1_change_20 : decode cX1_change 20 = .ok (.aload_n 0, 1) := dk_42 (dk_at dksX1_change_0 20 rfl rfl)
theorem dX1_change_21 : decode cX1_change 21 = .ok (.aload_n 0, 1) := dk_42 (dk_at dksX1_change_0 21 rfl rfl)
theorem dX1_change_22 : decode cX1_change 22 = .ok (.getfield 23, 3) := dk_180 0 23 (dk_at dksX1_change_1 0 rfl rfl)
theorem dX1_change_25 : decode cX1_change 25 = .ok (.invokevirtual 218, 3) := dk_182 0 218 (dk_at dksX1_change_1 3 rfl rfl)
theorem dX1_change_28 : decode cX1_change 28 = .ok (.aload_n 0, 1) := dk_42 (dk_at dksX1_change_1 6 rfl rfl)
theorem dX1_change_29 : decode cX1_change 29 = .ok (.aload_n 2, 1) := dk_44 (dk_at dksX1_change_1 7 rfl rfl)
theorem dX1_change_30 : decode cX1_change 30 = .ok (.putfield 23, 3) := dk_181 0 23 (dk_at dksX1_change_1 8 rfl rfl)
theorem dX1_change_33 : decode cX1_change 33 = .ok (.iload_n 3, 1) := dk_29 (dk_at dksX1_change_1 11 rfl rfl)
theorem dX1_change_34 : decode cX1_change 34 = .ok (.ireturn, 1) := dk_172 (dk_at dksX1_change_1 12 rfl rfl)
abbrev cX1_dropGate : ByteArray := prog_1_method_39_code
def yX1_dropGate : MethodName := ⟨RX1, "dropGate", "()I"⟩
def dkwX1_dropGate_0 : List UInt8 := [42, 186, 0, 237, 0, 0, 182, 0, 233, 172]
abbrev dktX1_dropGate_0 : List UInt8 := dkwX1_dropGate_0 ++ []
theorem dksX1_dropGate_0 : cX1_dropGate.data.toList.drop 0 = dktX1_dropGate_0 := by decide +kernel
theorem dX1_dropGate_0 : decode cX1_dropGate 0 = .ok (.aload_n 0, 1) := dk_42 (dk_at dksX1_dropGate_0 0 rfl rfl)
theorem dX1_dropGate_1 : decode cX1_dropGate 1 = .ok (.invokedynamic 237, 5) := by decide +kernel
theorem dX1_dropGate_6 : decode cX1_dropGate 6 = .ok (.invokevirtual 233, 3) := dk_182 0 233 (dk_at dksX1_dropGate_0 6 rfl rfl)
theorem dX1_dropGate_9 : decode cX1_dropGate 9 = .ok (.ireturn, 1) := dk_172 (dk_at dksX1_dropGate_0 9 rfl rfl)
abbrev cX1_lambda_dropGate_1 : ByteArray := prog_1_method_102_code
def yX1_lambda_dropGate_1 : MethodName := ⟨RX1, "lambda$dropGate$1", "(LRosehipCircuits$Circuit;)I"⟩
theorem dX1_lambda_dropGate_1_0 : decode cX1_lambda_dropGate_1 0 = .ok (.aload_n 0, 1) := by decide +kernel
theorem dX1_lambda_dropGate_1_1 : decode cX1_lambda_dropGate_1 1 = .ok (.invokevirtual 427, 3) := by decide +kernel
theorem dX1_lambda_dropGate_1_4 : decode cX1_lambda_dropGate_1 4 = .ok (.ireturn, 1) := by decide +kernel
abbrev cX1_setKind : ByteArray := prog_1_method_40_code
def yX1_setKind : MethodName := ⟨RX1, "setKind", "(II)I"⟩
def dkwX1_setKind_0 : List UInt8 := [42, 27, 28, 186, 0, 240, 0, 0, 182, 0, 233, 172]
abbrev dktX1_setKind_0 : List UInt8 := dkwX1_setKind_0 ++ []
theorem dksX1_setKind_0 : cX1_setKind.data.toList.drop 0 = dktX1_setKind_0 := by decide +kernel
theorem dX1_setKind_0 : decode cX1_setKind 0 = .ok (.aload_n 0, 1) := dk_42 (dk_at dksX1_setKind_0 0 rfl rfl)
theorem dX1_setKind_1 : decode cX1_setKind 1 = .ok (.iload_n 1, 1) := dk_27 (dk_at dksX1_setKind_0 1 rfl rfl)
theorem dX1_setKind_2 : decode cX1_setKind 2 = .ok (.iload_n 2, 1) := dk_28 (dk_at dksX1_setKind_0 2 rfl rfl)
theorem dX1_setKind_3 : decode cX1_setKind 3 = .ok (.invokedynamic 240, 5) := by decide +kernel
theorem dX1_setKind_8 : decode cX1_setKind 8 = .ok (.invokevirtual 233, 3) := dk_182 0 233 (dk_at dksX1_setKind_0 8 rfl rfl)
theorem dX1_setKind_11 : decode cX1_setKind 11 = .ok (.ireturn, 1) := dk_172 (dk_at dksX1_setKind_0 11 rfl rfl)
abbrev cX1_lambda_setKind_2 : ByteArray := prog_1_method_101_code
def yX1_lambda_setKind_2 : MethodName := ⟨RX1, "lambda$setKind$2", "(IILRosehipCircuits$Circuit;)I"⟩
def dkwX1_lambda_setKind_2_0 : List UInt8 := [44, 26, 27, 182, 1, 168, 172]
abbrev dktX1_lambda_setKind_2_0 : List UInt8 := dkwX1_lambda_setKind_2_0 ++ []
theorem dksX1_lambda_setKind_2_0 : cX1_lambda_setKind_2.data.toList.drop 0 = dktX1_lambda_setKind_2_0 := by decide +kernel
theorem dX1_lambda_setKind_2_0 : decode cX1_lambda_setKind_2 0 = .ok (.aload_n 2, 1) := dk_44 (dk_at dksX1_lambda_setKind_2_0 0 rfl rfl)
theorem dX1_lambda_setKind_2_1 : decode cX1_lambda_setKind_2 1 = .ok (.iload_n 0, 1) := dk_26 (dk_at dksX1_lambda_setKind_2_0 1 rfl rfl)
theorem dX1_lambda_setKind_2_2 : decode cX1_lambda_setKind_2 2 = .ok (.iload_n 1, 1) := dk_27 (dk_at dksX1_lambda_setKind_2_0 2 rfl rfl)
theorem dX1_lambda_setKind_2_3 : decode cX1_lambda_setKind_2 3 = .ok (.invokevirtual 424, 3) := dk_182 1 168 (dk_at dksX1_lambda_setKind_2_0 3 rfl rfl)
theorem dX1_lambda_setKind_2_6 : decode cX1_lambda_setKind_2 6 = .ok (.ireturn, 1) := dk_172 (dk_at dksX1_lambda_setKind_2_0 6 rfl rfl)
abbrev cX1_setSource : ByteArray := prog_1_method_41_code
def yX1_setSource : MethodName := ⟨RX1, "setSource", "(III)I"⟩
def dkwX1_setSource_0 : List UInt8 := [42, 27, 28, 29, 186, 0, 243, 0, 0, 182, 0, 233, 172]
abbrev dktX1_setSource_0 : List UInt8 := dkwX1_setSource_0 ++ []
theorem dksX1_setSource_0 : cX1_setSource.data.toList.drop 0 = dktX1_setSource_0 := by decide +kernel
theorem dX1_setSource_0 : decode cX1_setSource 0 = .ok (.aload_n 0, 1) := dk_42 (dk_at dksX1_setSource_0 0 rfl rfl)
theorem dX1_setSource_1 : decode cX1_setSource 1 = .ok (.iload_n 1, 1) := dk_27 (dk_at dksX1_setSource_0 1 rfl rfl)
theorem dX1_setSource_2 : decode cX1_setSource 2 = .ok (.iload_n 2, 1) := dk_28 (dk_at dksX1_setSource_0 2 rfl rfl)
theorem dX1_setSource_3 : decode cX1_setSource 3 = .ok (.iload_n 3, 1) := dk_29 (dk_at dksX1_setSource_0 3 rfl rfl)
theorem dX1_setSource_4 : decode cX1_setSource 4 = .ok (.invokedynamic 243, 5) := by decide +kernel
theorem dX1_setSource_9 : decode cX1_setSource 9 = .ok (.invokevirtual 233, 3) := dk_182 0 233 (dk_at dksX1_setSource_0 9 rfl rfl)
theorem dX1_setSource_12 : decode cX1_setSource 12 = .ok (.ireturn, 1) := dk_172 (dk_at dksX1_setSource_0 12 rfl rfl)
abbrev cX1_lambda_setSource_3 : ByteArray := prog_1_method_100_code
def yX1_lambda_setSource_3 : MethodName := ⟨RX1, "lambda$setSource$3", "(IIILRosehipCircuits$Circuit;)I"⟩
def dkwX1_lambda_setSource_3_0 : List UInt8 := [45, 26, 27, 28, 182, 1, 165, 172]
abbrev dktX1_lambda_setSource_3_0 : List UInt8 := dkwX1_lambda_setSource_3_0 ++ []
theorem dksX1_lambda_setSource_3_0 : cX1_lambda_setSource_3.data.toList.drop 0 = dktX1_lambda_setSource_3_0 := by decide +kernel
theorem dX1_lambda_setSource_3_0 : decode cX1_lambda_setSource_3 0 = .ok (.aload_n 3, 1) := dk_45 (dk_at dksX1_lambda_setSource_3_0 0 rfl rfl)
theorem dX1_lambda_setSource_3_1 : decode cX1_lambda_setSource_3 1 = .ok (.iload_n 0, 1) := dk_26 (dk_at dksX1_lambda_setSource_3_0 1 rfl rfl)
theorem dX1_lambda_setSource_3_2 : decode cX1_lambda_setSource_3 2 = .ok (.iload_n 1, 1) := dk_27 (dk_at dksX1_lambda_setSource_3_0 2 rfl rfl)
theorem dX1_lambda_setSource_3_3 : decode cX1_lambda_setSource_3 3 = .ok (.iload_n 2, 1) := dk_28 (dk_at dksX1_lambda_setSource_3_0 3 rfl rfl)
theorem dX1_lambda_setSource_3_4 : decode cX1_lambda_setSource_3 4 = .ok (.invokevirtual 421, 3) := dk_182 1 165 (dk_at dksX1_lambda_setSource_3_0 4 rfl rfl)
theorem dX1_lambda_setSource_3_7 : decode cX1_lambda_setSource_3 7 = .ok (.ireturn, 1) := dk_172 (dk_at dksX1_lambda_setSource_3_0 7 rfl rfl)
abbrev cX1_turnOutput : ByteArray := prog_1_method_42_code
def yX1_turnOutput : MethodName := ⟨RX1, "turnOutput", "(I)I"⟩
def dkwX1_turnOutput_0 : List UInt8 := [42, 27, 186, 0, 244, 0, 0, 182, 0, 233, 172]
abbrev dktX1_turnOutput_0 : List UInt8 := dkwX1_turnOutput_0 ++ []
theorem dksX1_turnOutput_0 : cX1_turnOutput.data.toList.drop 0 = dktX1_turnOutput_0 := by decide +kernel
theorem dX1_turnOutput_0 : decode cX1_turnOutput 0 = .ok (.aload_n 0, 1) := dk_42 (dk_at dksX1_turnOutput_0 0 rfl rfl)
theorem dX1_turnOutput_1 : decode cX1_turnOutput 1 = .ok (.iload_n 1, 1) := dk_27 (dk_at dksX1_turnOutput_0 1 rfl rfl)
theorem dX1_turnOutput_2 : decode cX1_turnOutput 2 = .ok (.invokedynamic 244, 5) := by decide +kernel
theorem dX1_turnOutput_7 : decode cX1_turnOutput 7 = .ok (.invokevirtual 233, 3) := dk_182 0 233 (dk_at dksX1_turnOutput_0 7 rfl rfl)
theorem dX1_turnOutput_10 : decode cX1_turnOutput 10 = .ok (.ireturn, 1) := dk_172 (dk_at dksX1_turnOutput_0 10 rfl rfl)
abbrev cX1_lambda_turnOutput_4 : ByteArray := prog_1_method_99_code
def yX1_lambda_turnOutput_4 : MethodName := ⟨RX1, "lambda$turnOutput$4", "(ILRosehipCircuits$Circuit;)I"⟩
def dkwX1_lambda_turnOutput_4_0 : List UInt8 := [43, 26, 182, 1, 79, 172]
abbrev dktX1_lambda_turnOutput_4_0 : List UInt8 := dkwX1_lambda_turnOutput_4_0 ++ []
theorem dksX1_lambda_turnOutput_4_0 : cX1_lambda_turnOutput_4.data.toList.drop 0 = dktX1_lambda_turnOutput_4_0 := by decide +kernel
theorem dX1_lambda_turnOutput_4_0 : decode cX1_lambda_turnOutput_4 0 = .ok (.aload_n 1, 1) := dk_43 (dk_at dksX1_lambda_turnOutput_4_0 0 rfl rfl)
theorem dX1_lambda_turnOutput_4_1 : decode cX1_lambda_turnOutput_4 1 = .ok (.iload_n 0, 1) := dk_26 (dk_at dksX1_lambda_turnOutput_4_0 1 rfl rfl)
theorem dX1_lambda_turnOutput_4_2 : decode cX1_lambda_turnOutput_4 2 = .ok (.invokevirtual 335, 3) := dk_182 1 79 (dk_at dksX1_lambda_turnOutput_4_0 2 rfl rfl)
theorem dX1_lambda_turnOutput_4_5 : decode cX1_lambda_turnOutput_4 5 = .ok (.ireturn, 1) := dk_172 (dk_at dksX1_lambda_turnOutput_4_0 5 rfl rfl)
abbrev cX1_turnBox : ByteArray := prog_1_method_43_code
def yX1_turnBox : MethodName := ⟨RX1, "turnBox", "(I)I"⟩
def dkwX1_turnBox_0 : List UInt8 := [42, 27, 186, 0, 247, 0, 0, 182, 0, 233, 172]
abbrev dktX1_turnBox_0 : List UInt8 := dkwX1_turnBox_0 ++ []
theorem dksX1_turnBox_0 : cX1_turnBox.data.toList.drop 0 = dktX1_turnBox_0 := by decide +kernel
theorem dX1_turnBox_0 : decode cX1_turnBox 0 = .ok (.aload_n 0, 1) := dk_42 (dk_at dksX1_turnBox_0 0 rfl rfl)
theorem dX1_turnBox_1 : decode cX1_turnBox 1 = .ok (.iload_n 1, 1) := dk_27 (dk_at dksX1_turnBox_0 1 rfl rfl)
theorem dX1_turnBox_2 : decode cX1_turnBox 2 = .ok (.invokedynamic 247, 5) := by decide +kernel
theorem dX1_turnBox_7 : decode cX1_turnBox 7 = .ok (.invokevirtual 233, 3) := dk_182 0 233 (dk_at dksX1_turnBox_0 7 rfl rfl)
theorem dX1_turnBox_10 : decode cX1_turnBox 10 = .ok (.ireturn, 1) := dk_172 (dk_at dksX1_turnBox_0 10 rfl rfl)
abbrev cX1_lambda_turnBox_5 : ByteArray := prog_1_method_98_code
def yX1_lambda_turnBox_5 : MethodName := ⟨RX1, "lambda$turnBox$5", "(ILRosehipCircuits$Circuit;)I"⟩
def dkwX1_lambda_turnBox_5_0 : List UInt8 := [43, 26, 182, 1, 82, 172]
abbrev dktX1_lambda_turnBox_5_0 : List UInt8 := dkwX1_lambda_turnBox_5_0 ++ []
theorem dksX1_lambda_turnBox_5_0 : cX1_lambda_turnBox_5.data.toList.drop 0 = dktX1_lambda_turnBox_5_0 := by decide +kernel
theorem dX1_lambda_turnBox_5_0 : decode cX1_lambda_turnBox_5 0 = .ok (.aload_n 1, 1) := dk_43 (dk_at dksX1_lambda_turnBox_5_0 0 rfl rfl)
theorem dX1_lambda_turnBox_5_1 : decode cX1_lambda_turnBox_5 1 = .ok (.iload_n 0, 1) := dk_26 (dk_at dksX1_lambda_turnBox_5_0 1 rfl rfl)
theorem dX1_lambda_turnBox_5_2 : decode cX1_lambda_turnBox_5 2 = .ok (.invokevirtual 338, 3) := dk_182 1 82 (dk_at dksX1_lambda_turnBox_5_0 2 rfl rfl)
theorem dX1_lambda_turnBox_5_5 : decode cX1_lambda_turnBox_5 5 = .ok (.ireturn, 1) := dk_172 (dk_at dksX1_lambda_turnBox_5_0 5 rfl rfl)
abbrev cX1_setSecret : ByteArray := prog_1_method_46_code
def yX1_setSecret : MethodName := ⟨RX1, "setSecret", "(I)I"⟩
def dkwX1_setSecret_2 : List UInt8 := [172]
abbrev dktX1_setSecret_2 : List UInt8 := dkwX1_setSecret_2 ++ []
def dkwX1_setSecret_1 : List UInt8 := [180, 0, 23, 180, 1, 3, 61, 42, 180, 0, 23, 27, 181, 1, 3, 42, 180, 0, 23, 3, 181, 0, 156, 28]
abbrev dktX1_setSecret_1 : List UInt8 := dkwX1_setSecret_1 ++ dktX1_setSecret_2
def dkwX1_setSecret_0 : List UInt8 := [27, 2, 42, 180, 0, 23, 182, 0, 116, 4, 100, 184, 0, 248, 184, 0, 252, 42, 182, 1, 0, 42]
abbrev dktX1_setSecret_0 : List UInt8 := dkwX1_setSecret_0 ++ dktX1_setSecret_1
theorem dksX1_setSecret_0 : cX1_setSecret.data.toList.drop 0 = dktX1_setSecret_0 := by decide +kernel
theorem dksX1_setSecret_1 : cX1_setSecret.data.toList.drop 22 = dktX1_setSecret_1 := dk_seg dksX1_setSecret_0 22 rfl rfl
theorem dksX1_setSecret_2 : cX1_setSecret.data.toList.drop 46 = dktX1_setSecret_2 := dk_seg dksX1_setSecret_1 24 rfl rfl
theorem dX1_setSecret_0 : decode cX1_setSecret 0 = .ok (.iload_n 1, 1) := dk_27 (dk_at dksX1_setSecret_0 0 rfl rfl)
theorem dX1_setSecret_1 : decode cX1_setSecret 1 = .ok (.iconst (-1), 1) := dk_2 (dk_at dksX1_setSecret_0 1 rfl rfl)
theorem dX1_setSecret_2 : decode cX1_setSecret 2 = .ok (.aload_n 0, 1) := dk_42 (dk_at dksX1_setSecret_0 2 rfl rfl)
theorem dX1_setSecret_3 : decode cX1_setSecret 3 = .ok (.getfield 23, 3) := dk_180 0 23 (dk_at dksX1_setSecret_0 3 rfl rfl)
theorem dX1_setSecret_6 : decode cX1_setSecret 6 = .ok (.invokevirtual 116, 3) := dk_182 0 116 (dk_at dksX1_setSecret_0 6 rfl rfl)
theorem dX1_setSecret_9 : decode cX1_setSecret 9 = .ok (.iconst 1, 1) := dk_4 (dk_at dksX1_setSecret_0 9 rfl rfl)
theorem dX1_setSecret_10 : decode cX1_setSecret 10 = .ok (.isub, 1) := dk_100 (dk_at dksX1_setSecret_0 10 rfl rfl)
theorem dX1_setSecret_11 : decode cX1_setSecret 11 = .ok (.invokestatic 248, 3) := dk_184 0 248 (dk_at dksX1_setSecret_0 11 rfl rfl)
theorem dX1_setSecret_14 : decode cX1_setSecret 14 = .ok (.invokestatic 252, 3) := dk_184 0 252 (dk_at dksX1_setSecret_0 14 rfl rfl)
theorem dX1_setSecret_17 : decode cX1_setSecret 17 = .ok (.aload_n 0, 1) := dk_42 (dk_at dksX1_setSecret_0 17 rfl rfl)
theorem dX1_setSecret_18 : decode cX1_setSecret 18 = .ok (.invokevirtual 256, 3) := dk_182 1 0 (dk_at dksX1_setSecret_0 18 rfl rfl)
theorem dX1_setSecret_21 : decode cX1_setSecret 21 = .ok (.aload_n 0, 1) := dk_42 (dk_at dksX1_setSecret_0 21 rfl rfl)
theorem dX1_setSecret_22 : decode cX1_setSecret 22 = .ok (.getfield 23, 3) := dk_180 0 23 (dk_at dksX1_setSecret_1 0 rfl rfl)
theorem dX1_setSecret_25 : decode cX1_setSecret 25 = .ok (.getfield 259, 3) := dk_180 1 3 (dk_at dksX1_setSecret_1 3 rfl rfl)
theorem dX1_setSecret_28 : decode cX1_setSecret 28 = .ok (.istore_n 2, 1) := dk_61 (dk_at dksX1_setSecret_1 6 rfl rfl)
theorem dX1_setSecret_29 : decode cX1_setSecret 29 = .ok (.aload_n 0, 1) := dk_42 (dk_at dksX1_setSecret_1 7 rfl rfl)
theorem dX1_setSecret_30 : decode cX1_setSecret 30 = .ok (.getfield 23, 3) := dk_180 0 23 (dk_at dksX1_setSecret_1 8 rfl rfl)
theorem dX1_setSecret_33 : decode cX1_setSecret 33 = .ok (.iload_n 1, 1) := dk_27 (dk_at dksX1_setSecret_1 11 rfl rfl)
theorem dX1_setSecret_34 : decode cX1_setSecret 34 = .ok (.putfield 259, 3) := dk_181 1 3 (dk_at dksX1_setSecret_1 12 rfl rfl)
theorem dX1_setSecret_37 : decode cX1_setSecret 37 = .ok (.aload_n 0, 1) := dk_42 (dk_at dksX1_setSecret_1 15 rfl rfl)
theorem dX1_setSecret_38 : decode cX1_setSecret 38 = .ok (.getfield 23, 3) := dk_180 0 23 (dk_at dksX1_setSecret_1 16 rfl rfl)
theorem dX1_setSecret_41 : decode cX1_setSecret 41 = .ok (.iconst 0, 1) := dk_3 (dk_at dksX1_setSecret_1 19 rfl rfl)
theorem dX1_setSecret_42 : decode cX1_setSecret 42 = .ok (.putfield 156, 3) := dk_181 0 156 (dk_at dksX1_setSecret_1 20 rfl rfl)
theorem dX1_setSecret_45 : decode cX1_setSecret 45 = .ok (.iload_n 2, 1) := dk_28 (dk_at dksX1_setSecret_1 23 rfl rfl)
theorem dX1_setSecret_46 : decode cX1_setSecret 46 = .ok (.ireturn, 1) := dk_172 (dk_at dksX1_setSecret_2 0 rfl rfl)
abbrev cX1_ask : ByteArray := prog_1_method_49_code
def yX1_ask : MethodName := ⟨RX1, "ask", "(I)I"⟩
def dkwX1_ask_1 : List UInt8 := [42, 182, 1, 0, 42, 27, 182, 1, 17, 172]
abbrev dktX1_ask_1 : List UInt8 := dkwX1_ask_1 ++ []
def dkwX1_ask_0 : List UInt8 := [27, 184, 1, 13, 42, 180, 0, 23, 180, 0, 156, 16, 12, 162, 0, 7, 4, 167, 0, 4, 3, 184, 1, 10]
abbrev dktX1_ask_0 : List UInt8 := dkwX1_ask_0 ++ dktX1_ask_1
theorem dksX1_ask_0 : cX1_ask.data.toList.drop 0 = dktX1_ask_0 := by decide +kernel
theorem dksX1_ask_1 : cX1_ask.data.toList.drop 24 = dktX1_ask_1 := dk_seg dksX1_ask_0 24 rfl rfl
theorem dX1_ask_0 : decode cX1_ask 0 = .ok (.iload_n 1, 1) := dk_27 (dk_at dksX1_ask_0 0 rfl rfl)
theorem dX1_ask_1 : decode cX1_ask 1 = .ok (.invokestatic 269, 3) := dk_184 1 13 (dk_at dksX1_ask_0 1 rfl rfl)
theorem dX1_ask_4 : decode cX1_ask 4 = .ok (.aload_n 0, 1) := dk_42 (dk_at dksX1_ask_0 4 rfl rfl)
theorem dX1_ask_5 : decode cX1_ask 5 = .ok (.getfield 23, 3) := dk_180 0 23 (dk_at dksX1_ask_0 5 rfl rfl)
theorem dX1_ask_8 : decode cX1_ask 8 = .ok (.getfield 156, 3) := dk_180 0 156 (dk_at dksX1_ask_0 8 rfl rfl)
theorem dX1_ask_11 : decode cX1_ask 11 = .ok (.bipush 12, 2) := dk_16 12 (dk_at dksX1_ask_0 11 rfl rfl)
theorem dX1_ask_13 : decode cX1_ask 13 = .ok (.if_icmp .ge 7, 3) := dk_162 0 7 (dk_at dksX1_ask_0 13 rfl rfl)
theorem dX1_ask_16 : decode cX1_ask 16 = .ok (.iconst 1, 1) := dk_4 (dk_at dksX1_ask_0 16 rfl rfl)
theorem dX1_ask_17 : decode cX1_ask 17 = .ok (.goto 4, 3) := dk_167 0 4 (dk_at dksX1_ask_0 17 rfl rfl)
theorem dX1_ask_20 : decode cX1_ask 20 = .ok (.iconst 0, 1) := dk_3 (dk_at dksX1_ask_0 20 rfl rfl)
theorem dX1_ask_21 : decode cX1_ask 21 = .ok (.invokestatic 266, 3) := dk_184 1 10 (dk_at dksX1_ask_0 21 rfl rfl)
theorem dX1_ask_24 : decode cX1_ask 24 = .ok (.aload_n 0, 1) := dk_42 (dk_at dksX1_ask_1 0 rfl rfl)
theorem dX1_ask_25 : decode cX1_ask 25 = .ok (.invokevirtual 256, 3) := dk_182 1 0 (dk_at dksX1_ask_1 1 rfl rfl)
theorem dX1_ask_28 : decode cX1_ask 28 = .ok (.aload_n 0, 1) := dk_42 (dk_at dksX1_ask_1 4 rfl rfl)
theorem dX1_ask_29 : decode cX1_ask 29 = .ok (.iload_n 1, 1) := dk_27 (dk_at dksX1_ask_1 5 rfl rfl)
theorem dX1_ask_30 : decode cX1_ask 30 = .ok (.invokevirtual 273, 3) := dk_182 1 17 (dk_at dksX1_ask_1 6 rfl rfl)
theorem dX1_ask_33 : decode cX1_ask 33 = .ok (.ireturn, 1) := dk_172 (dk_at dksX1_ask_1 9 rfl rfl)
abbrev cX1_needTest : ByteArray := prog_1_method_45_code
def yX1_needTest : MethodName := ⟨RX1, "needTest", "(I)V"⟩
def dkwX1_needTest_0 : List UInt8 := [26, 3, 16, 63, 184, 0, 248, 184, 0, 252, 177]
abbrev dktX1_needTest_0 : List UInt8 := dkwX1_needTest_0 ++ []
theorem dksX1_needTest_0 : cX1_needTest.data.toList.drop 0 = dktX1_needTest_0 := by decide +kernel
theorem dX1_needTest_0 : decode cX1_needTest 0 = .ok (.iload_n 0, 1) := dk_26 (dk_at dksX1_needTest_0 0 rfl rfl)
theorem dX1_needTest_1 : decode cX1_needTest 1 = .ok (.iconst 0, 1) := dk_3 (dk_at dksX1_needTest_0 1 rfl rfl)
theorem dX1_needTest_2 : decode cX1_needTest 2 = .ok (.bipush 63, 2) := dk_16 63 (dk_at dksX1_needTest_0 2 rfl rfl)
theorem dX1_needTest_4 : decode cX1_needTest 4 = .ok (.invokestatic 248, 3) := dk_184 0 248 (dk_at dksX1_needTest_0 4 rfl rfl)
theorem dX1_needTest_7 : decode cX1_needTest 7 = .ok (.invokestatic 252, 3) := dk_184 0 252 (dk_at dksX1_needTest_0 7 rfl rfl)
theorem dX1_needTest_10 : decode cX1_needTest 10 = .ok (.return_, 1) := dk_177 (dk_at dksX1_needTest_0 10 rfl rfl)
abbrev cX1_doAsk : ByteArray := prog_1_method_48_code
def yX1_doAsk : MethodName := ⟨RX1, "doAsk", "(I)I"⟩
def dkwX1_doAsk_2 : List UInt8 := [16, 16, 27, 104, 28, 96, 79, 42, 180, 0, 23, 89, 180, 0, 156, 4, 96, 181, 0, 156, 28, 172]
abbrev dktX1_doAsk_2 : List UInt8 := dkwX1_doAsk_2 ++ []
def dkwX1_doAsk_1 : List UInt8 := [180, 0, 23, 180, 1, 3, 182, 0, 171, 61, 42, 180, 0, 23, 180, 0, 159, 42, 180, 0, 23, 180, 0, 156]
abbrev dktX1_doAsk_1 : List UInt8 := dkwX1_doAsk_1 ++ dktX1_doAsk_2
def dkwX1_doAsk_0 : List UInt8 := [42, 180, 0, 23, 180, 0, 156, 16, 12, 162, 0, 7, 4, 167, 0, 4, 3, 184, 1, 10, 42, 27, 2, 42]
abbrev dktX1_doAsk_0 : List UInt8 := dkwX1_doAsk_0 ++ dktX1_doAsk_1
theorem dksX1_doAsk_0 : cX1_doAsk.data.toList.drop 0 = dktX1_doAsk_0 := by decide +kernel
theorem dksX1_doAsk_1 : cX1_doAsk.data.toList.drop 24 = dktX1_doAsk_1 := dk_seg dksX1_doAsk_0 24 rfl rfl
theorem dksX1_doAsk_2 : cX1_doAsk.data.toList.drop 48 = dktX1_doAsk_2 := dk_seg dksX1_doAsk_1 24 rfl rfl
theorem dX1_doAsk_0 : decode cX1_doAsk 0 = .ok (.aload_n 0, 1) := dk_42 (dk_at dksX1_doAsk_0 0 rfl rfl)
theorem dX1_doAsk_1 : decode cX1_doAsk 1 = .ok (.getfield 23, 3) := dk_180 0 23 (dk_at dksX1_doAsk_0 1 rfl rfl)
theorem dX1_doAsk_4 : decode cX1_doAsk 4 = .ok (.getfield 156, 3) := dk_180 0 156 (dk_at dksX1_doAsk_0 4 rfl rfl)
theorem dX1_doAsk_7 : decode cX1_doAsk 7 = .ok (.bipush 12, 2) := dk_16 12 (dk_at dksX1_doAsk_0 7 rfl rfl)
theorem dX1_doAsk_9 : decode cX1_doAsk 9 = .ok (.if_icmp .ge 7, 3) := dk_162 0 7 (dk_at dksX1_doAsk_0 9 rfl rfl)
theorem dX1_doAsk_12 : decode cX1_doAsk 12 = .ok (.iconst 1, 1) := dk_4 (dk_at dksX1_doAsk_0 12 rfl rfl)
theorem dX1_doAsk_13 : decode cX1_doAsk 13 = .ok (.goto 4, 3) := dk_167 0 4 (dk_at dksX1_doAsk_0 13 rfl rfl)
theorem dX1_doAsk_16 : decode cX1_doAsk 16 = .ok (.iconst 0, 1) := dk_3 (dk_at dksX1_doAsk_0 16 rfl rfl)
theorem dX1_doAsk_17 : decode cX1_doAsk 17 = .ok (.invokestatic 266, 3) := dk_184 1 10 (dk_at dksX1_doAsk_0 17 rfl rfl)
theorem dX1_doAsk_20 : decode cX1_doAsk 20 = .ok (.aload_n 0, 1) := dk_42 (dk_at dksX1_doAsk_0 20 rfl rfl)
theorem dX1_doAsk_21 : decode cX1_doAsk 21 = .ok (.iload_n 1, 1) := dk_27 (dk_at dksX1_doAsk_0 21 rfl rfl)
theorem dX1_doAsk_22 : decode cX1_doAsk 22 = .ok (.iconst (-1), 1) := dk_2 (dk_at dksX1_doAsk_0 22 rfl rfl)
theorem dX1_doAsk_23 : decode cX1_doAsk 23 = .ok (.aload_n 0, 1) := dk_42 (dk_at dksX1_doAsk_0 23 rfl rfl)
theorem dX1_doAsk_24 : decode cX1_doAsk 24 = .ok (.getfield 23, 3) := dk_180 0 23 (dk_at dksX1_doAsk_1 0 rfl rfl)
theorem dX1_doAsk_27 : decode cX1_doAsk 27 = .ok (.getfield 259, 3) := dk_180 1 3 (dk_at dksX1_doAsk_1 3 rfl rfl)
theorem dX1_doAsk_30 : decode cX1_doAsk 30 = .ok (.invokevirtual 171, 3) := dk_182 0 171 (dk_at dksX1_doAsk_1 6 rfl rfl)
theorem dX1_doAsk_33 : decode cX1_doAsk 33 = .ok (.istore_n 2, 1) := dk_61 (dk_at dksX1_doAsk_1 9 rfl rfl)
theorem dX1_doAsk_34 : decode cX1_doAsk 34 = .ok (.aload_n 0, 1) := dk_42 (dk_at dksX1_doAsk_1 10 rfl rfl)
theorem dX1_doAsk_35 : decode cX1_doAsk 35 = .ok (.getfield 23, 3) := dk_180 0 23 (dk_at dksX1_doAsk_1 11 rfl rfl)
theorem dX1_doAsk_38 : decode cX1_doAsk 38 = .ok (.getfield 159, 3) := dk_180 0 159 (dk_at dksX1_doAsk_1 14 rfl rfl)
theorem dX1_doAsk_41 : decode cX1_doAsk 41 = .ok (.aload_n 0, 1) := dk_42 (dk_at dksX1_doAsk_1 17 rfl rfl)
theorem dX1_doAsk_42 : decode cX1_doAsk 42 = .ok (.getfield 23, 3) := dk_180 0 23 (dk_at dksX1_doAsk_1 18 rfl rfl)
theorem dX1_doAsk_45 : decode cX1_doAsk 45 = .ok (.getfield 156, 3) := dk_180 0 156 (dk_at dksX1_doAsk_1 21 rfl rfl)
theorem dX1_doAsk_48 : decode cX1_doAsk 48 = .ok (.bipush 16, 2) := dk_16 16 (dk_at dksX1_doAsk_2 0 rfl rfl)
theorem dX1_doAsk_50 : decode cX1_doAsk 50 = .ok (.iload_n 1, 1) := dk_27 (dk_at dksX1_doAsk_2 2 rfl rfl)
theorem dX1_doAsk_51 : decode cX1_doAsk 51 = .ok (.imul, 1) := dk_104 (dk_at dksX1_doAsk_2 3 rfl rfl)
theorem dX1_doAsk_52 : decode cX1_doAsk 52 = .ok (.iload_n 2, 1) := dk_28 (dk_at dksX1_doAsk_2 4 rfl rfl)
theorem dX1_doAsk_53 : decode cX1_doAsk 53 = .ok (.iadd, 1) := dk_96 (dk_at dksX1_doAsk_2 5 rfl rfl)
theorem dX1_doAsk_54 : decode cX1_doAsk 54 = .ok (.iastore, 1) := dk_79 (dk_at dksX1_doAsk_2 6 rfl rfl)
theorem dX1_doAsk_55 : decode cX1_doAsk 55 = .ok (.aload_n 0, 1) := dk_42 (dk_at dksX1_doAsk_2 7 rfl rfl)
theorem dX1_doAsk_56 : decode cX1_doAsk 56 = .ok (.getfield 23, 3) := dk_180 0 23 (dk_at dksX1_doAsk_2 8 rfl rfl)
theorem dX1_doAsk_59 : decode cX1_doAsk 59 = .ok (.dup, 1) := dk_89 (dk_at dksX1_doAsk_2 11 rfl rfl)
theorem dX1_doAsk_60 : decode cX1_doAsk 60 = .ok (.getfield 156, 3) := dk_180 0 156 (dk_at dksX1_doAsk_2 12 rfl rfl)
theorem dX1_doAsk_63 : decode cX1_doAsk 63 = .ok (.iconst 1, 1) := dk_4 (dk_at dksX1_doAsk_2 15 rfl rfl)
theorem dX1_doAsk_64 : decode cX1_doAsk 64 = .ok (.iadd, 1) := dk_96 (dk_at dksX1_doAsk_2 16 rfl rfl)
theorem dX1_doAsk_65 : decode cX1_doAsk 65 = .ok (.putfield 156, 3) := dk_181 0 156 (dk_at dksX1_doAsk_2 17 rfl rfl)
theorem dX1_doAsk_68 : decode cX1_doAsk 68 = .ok (.iload_n 2, 1) := dk_28 (dk_at dksX1_doAsk_2 20 rfl rfl)
theorem dX1_doAsk_69 : decode cX1_doAsk 69 = .ok (.ireturn, 1) := dk_172 (dk_at dksX1_doAsk_2 21 rfl rfl)
abbrev cX1_askBest : ByteArray := prog_1_method_51_code
def yX1_askBest : MethodName := ⟨RX1, "askBest", "(I)I"⟩
def dkwX1_askBest_2 : List UInt8 := [182, 1, 17, 87, 132, 2, 1, 167, 255, 220, 28, 172]
abbrev dktX1_askBest_2 : List UInt8 := dkwX1_askBest_2 ++ []
def dkwX1_askBest_1 : List UInt8 := [180, 0, 23, 180, 0, 156, 16, 12, 162, 0, 25, 42, 182, 1, 27, 154, 0, 18, 42, 42, 182, 1, 30]
abbrev dktX1_askBest_1 : List UInt8 := dkwX1_askBest_1 ++ dktX1_askBest_2
def dkwX1_askBest_0 : List UInt8 := [27, 4, 16, 12, 184, 0, 248, 184, 0, 252, 42, 182, 1, 0, 3, 61, 28, 27, 162, 0, 37, 42]
abbrev dktX1_askBest_0 : List UInt8 := dkwX1_askBest_0 ++ dktX1_askBest_1
theorem dksX1_askBest_0 : cX1_askBest.data.toList.drop 0 = dktX1_askBest_0 := by decide +kernel
theorem dksX1_askBest_1 : cX1_askBest.data.toList.drop 22 = dktX1_askBest_1 := dk_seg dksX1_askBest_0 22 rfl rfl
theorem dksX1_askBest_2 : cX1_askBest.data.toList.drop 45 = dktX1_askBest_2 := dk_seg dksX1_askBest_1 23 rfl rfl
theorem dX1_askBest_0 : decode cX1_askBest 0 = .ok (.iload_n 1, 1) := dk_27 (dk_at dksX1_askBest_0 0 rfl rfl)
theorem dX1_askBest_1 : decode cX1_askBest 1 = .ok (.iconst 1, 1) := dk_4 (dk_at dksX1_askBest_0 1 rfl rfl)
theorem dX1_askBest_2 : decode cX1_askBest 2 = .ok (.bipush 12, 2) := dk_16 12 (dk_at dksX1_askBest_0 2 rfl rfl)
theorem dX1_askBest_4 : decode cX1_askBest 4 = .ok (.invokestatic 248, 3) := dk_184 0 248 (dk_at dksX1_askBest_0 4 rfl rfl)
theorem dX1_askBest_7 : decode cX1_askBest 7 = .ok (.invokestatic 252, 3) := dk_184 0 252 (dk_at dksX1_askBest_0 7 rfl rfl)
theorem dX1_askBest_10 : decode cX1_askBest 10 = .ok (.aload_n 0, 1) := dk_42 (dk_at dksX1_askBest_0 10 rfl rfl)
theorem dX1_askBest_11 : decode cX1_askBest 11 = .ok (.invokevirtual 256, 3) := dk_182 1 0 (dk_at dksX1_askBest_0 11 rfl rfl)
theorem dX1_askBest_14 : decode cX1_askBest 14 = .ok (.iconst 0, 1) := dk_3 (dk_at dksX1_askBest_0 14 rfl rfl)
theorem dX1_askBest_15 : decode cX1_askBest 15 = .ok (.istore_n 2, 1) := dk_61 (dk_at dksX1_askBest_0 15 rfl rfl)
theorem dX1_askBest_16 : decode cX1_askBest 16 = .ok (.iload_n 2, 1) := dk_28 (dk_at dksX1_askBest_0 16 rfl rfl)
theorem dX1_askBest_17 : decode cX1_askBest 17 = .ok (.iload_n 1, 1) := dk_27 (dk_at dksX1_askBest_0 17 rfl rfl)
theorem dX1_askBest_18 : decode cX1_askBest 18 = .ok (.if_icmp .ge 37, 3) := dk_162 0 37 (dk_at dksX1_askBest_0 18 rfl rfl)
theorem dX1_askBest_21 : decode cX1_askBest 21 = .ok (.aload_n 0, 1) := dk_42 (dk_at dksX1_askBest_0 21 rfl rfl)
theorem dX1_askBest_22 : decode cX1_askBest 22 = .ok (.getfield 23, 3) := dk_180 0 23 (dk_at dksX1_askBest_1 0 rfl rfl)
theorem dX1_askBest_25 : decode cX1_askBest 25 = .ok (.getfield 156, 3) := dk_180 0 156 (dk_at dksX1_askBest_1 3 rfl rfl)
theorem dX1_askBest_28 : decode cX1_askBest 28 = .ok (.bipush 12, 2) := dk_16 12 (dk_at dksX1_askBest_1 6 rfl rfl)
theorem dX1_askBest_30 : decode cX1_askBest 30 = .ok (.if_icmp .ge 25, 3) := dk_162 0 25 (dk_at dksX1_askBest_1 8 rfl rfl)
theorem dX1_askBest_33 : decode cX1_askBest 33 = .ok (.aload_n 0, 1) := dk_42 (dk_at dksX1_askBest_1 11 rfl rfl)
theorem dX1_askBest_34 : decode cX1_askBest 34 = .ok (.invokevirtual 283, 3) := dk_182 1 27 (dk_at dksX1_askBest_1 12 rfl rfl)
theorem dX1_askBest_37 : decode cX1_askBest 37 = .ok (.ifCond .ne 18, 3) := dk_154 0 18 (dk_at dksX1_askBest_1 15 rfl rfl)
theorem dX1_askBest_40 : decode cX1_askBest 40 = .ok (.aload_n 0, 1) := dk_42 (dk_at dksX1_askBest_1 18 rfl rfl)
theorem dX1_askBest_41 : decode cX1_askBest 41 = .ok (.aload_n 0, 1) := dk_42 (dk_at dksX1_askBest_1 19 rfl rfl)
theorem dX1_askBest_42 : decode cX1_askBest 42 = .ok (.invokevirtual 286, 3) := dk_182 1 30 (dk_at dksX1_askBest_1 20 rfl rfl)
theorem dX1_askBest_45 : decode cX1_askBest 45 = .ok (.invokevirtual 273, 3) := dk_182 1 17 (dk_at dksX1_askBest_2 0 rfl rfl)
theorem dX1_askBest_48 : decode cX1_askBest 48 = .ok (.pop, 1) := dk_87 (dk_at dksX1_askBest_2 3 rfl rfl)
theorem dX1_askBest_49 : decode cX1_askBest 49 = .ok (.iinc 2 1, 3) := dk_132 2 1 (dk_at dksX1_askBest_2 4 rfl rfl)
theorem dX1_askBest_52 : decode cX1_askBest 52 = .ok (.goto (-36), 3) := dk_167 255 220 (dk_at dksX1_askBest_2 7 rfl rfl)
theorem dX1_askBest_55 : decode cX1_askBest 55 = .ok (.iload_n 2, 1) := dk_28 (dk_at dksX1_askBest_2 10 rfl rfl)
theorem dX1_askBest_56 : decode cX1_askBest 56 = .ok (.ireturn, 1) := dk_172 (dk_at dksX1_askBest_2 11 rfl rfl)
abbrev cX1_append : ByteArray := prog_1_method_52_code
def yX1_append : MethodName := ⟨RX1, "append", "(I)I"⟩
def dkwX1_append_2 : List UInt8 := [172]
abbrev dktX1_append_2 : List UInt8 := dkwX1_append_2 ++ []
def dkwX1_append_1 : List UInt8 := [167, 0, 4, 3, 184, 1, 10, 42, 180, 0, 203, 27, 146, 182, 1, 36, 87, 42, 180, 0, 203, 182, 1, 33]
abbrev dktX1_append_1 : List UInt8 := dkwX1_append_1 ++ dktX1_append_2
def dkwX1_append_0 : List UInt8 := [27, 16, 32, 16, 126, 184, 0, 248, 184, 0, 252, 42, 180, 0, 203, 182, 1, 33, 16, 60, 162, 0, 7, 4]
abbrev dktX1_append_0 : List UInt8 := dkwX1_append_0 ++ dktX1_append_1
theorem dksX1_append_0 : cX1_append.data.toList.drop 0 = dktX1_append_0 := by decide +kernel
theorem dksX1_append_1 : cX1_append.data.toList.drop 24 = dktX1_append_1 := dk_seg dksX1_append_0 24 rfl rfl
theorem dksX1_append_2 : cX1_append.data.toList.drop 48 = dktX1_append_2 := dk_seg dksX1_append_1 24 rfl rfl
theorem dX1_append_0 : decode cX1_append 0 = .ok (.iload_n 1, 1) := dk_27 (dk_at dksX1_append_0 0 rfl rfl)
theorem dX1_append_1 : decode cX1_append 1 = .ok (.bipush 32, 2) := dk_16 32 (dk_at dksX1_append_0 1 rfl rfl)
theorem dX1_append_3 : decode cX1_append 3 = .ok (.bipush 126, 2) := dk_16 126 (dk_at dksX1_append_0 3 rfl rfl)
theorem dX1_append_5 : decode cX1_append 5 = .ok (.invokestatic 248, 3) := dk_184 0 248 (dk_at dksX1_append_0 5 rfl rfl)
theorem dX1_append_8 : decode cX1_append 8 = .ok (.invokestatic 252, 3) := dk_184 0 252 (dk_at dksX1_append_0 8 rfl rfl)
theorem dX1_append_11 : decode cX1_append 11 = .ok (.aload_n 0, 1) := dk_42 (dk_at dksX1_append_0 11 rfl rfl)
theorem dX1_append_12 : decode cX1_append 12 = .ok (.getfield 203, 3) := dk_180 0 203 (dk_at dksX1_append_0 12 rfl rfl)
theorem dX1_append_15 : decode cX1_append 15 = .ok (.invokevirtual 289, 3) := dk_182 1 33 (dk_at dksX1_append_0 15 rfl rfl)
theorem dX1_append_18 : decode cX1_append 18 = .ok (.bipush 60, 2) := dk_16 60 (dk_at dksX1_append_0 18 rfl rfl)
theorem dX1_append_20 : decode cX1_append 20 = .ok (.if_icmp .ge 7, 3) := dk_162 0 7 (dk_at dksX1_append_0 20 rfl rfl)
theorem dX1_append_23 : decode cX1_append 23 = .ok (.iconst 1, 1) := dk_4 (dk_at dksX1_append_0 23 rfl rfl)
theorem dX1_append_24 : decode cX1_append 24 = .ok (.goto 4, 3) := dk_167 0 4 (dk_at dksX1_append_1 0 rfl rfl)
theorem dX1_append_27 : decode cX1_append 27 = .ok (.iconst 0, 1) := dk_3 (dk_at dksX1_append_1 3 rfl rfl)
theorem dX1_append_28 : decode cX1_append 28 = .ok (.invokestatic 266, 3) := dk_184 1 10 (dk_at dksX1_append_1 4 rfl rfl)
theorem dX1_append_31 : decode cX1_append 31 = .ok (.aload_n 0, 1) := dk_42 (dk_at dksX1_append_1 7 rfl rfl)
theorem dX1_append_32 : decode cX1_append 32 = .ok (.getfield 203, 3) := dk_180 0 203 (dk_at dksX1_append_1 8 rfl rfl)
theorem dX1_append_35 : decode cX1_append 35 = .ok (.iload_n 1, 1) := dk_27 (dk_at dksX1_append_1 11 rfl rfl)
theorem dX1_append_36 : decode cX1_append 36 = .ok (.i2c, 1) := dk_146 (dk_at dksX1_append_1 12 rfl rfl)
theorem dX1_append_37 : decode cX1_append 37 = .ok (.invokevirtual 292, 3) := dk_182 1 36 (dk_at dksX1_append_1 13 rfl rfl)
theorem dX1_append_40 : decode cX1_append 40 = .ok (.pop, 1) := dk_87 (dk_at dksX1_append_1 16 rfl rfl)
theorem dX1_append_41 : decode cX1_append 41 = .ok (.aload_n 0, 1) := dk_42 (dk_at dksX1_append_1 17 rfl rfl)
theorem dX1_append_42 : decode cX1_append 42 = .ok (.getfield 203, 3) := dk_180 0 203 (dk_at dksX1_append_1 18 rfl rfl)
theorem dX1_append_45 : decode cX1_append 45 = .ok (.invokevirtual 289, 3) := dk_182 1 33 (dk_at dksX1_append_1 21 rfl rfl)
theorem dX1_append_48 : decode cX1_append 48 = .ok (.ireturn, 1) := dk_172 (dk_at dksX1_append_2 0 rfl rfl)
abbrev cX1_run : ByteArray := prog_1_method_58_code
def yX1_run : MethodName := ⟨RX1, "run", "()I"⟩
def dkwX1_run_1 : List UInt8 := [183, 1, 109, 191, 42, 182, 1, 0, 42, 43, 182, 1, 112, 172]
abbrev dktX1_run_1 : List UInt8 := dkwX1_run_1 ++ []
def dkwX1_run_0 : List UInt8 := [187, 1, 43, 89, 42, 183, 1, 45, 182, 1, 48, 76, 167, 0, 16, 77, 187, 0, 11, 89, 19, 1, 108, 44]
abbrev dktX1_run_0 : List UInt8 := dkwX1_run_0 ++ dktX1_run_1
theorem dksX1_run_0 : cX1_run.data.toList.drop 0 = dktX1_run_0 := by decide +kernel
theorem dksX1_run_1 : cX1_run.data.toList.drop 24 = dktX1_run_1 := dk_seg dksX1_run_0 24 rfl rfl
theorem dX1_run_0 : decode cX1_run 0 = .ok (.new 299, 3) := dk_187 1 43 (dk_at dksX1_run_0 0 rfl rfl)
theorem dX1_run_3 : decode cX1_run 3 = .ok (.dup, 1) := dk_89 (dk_at dksX1_run_0 3 rfl rfl)
theorem dX1_run_4 : decode cX1_run 4 = .ok (.aload_n 0, 1) := dk_42 (dk_at dksX1_run_0 4 rfl rfl)
theorem dX1_run_5 : decode cX1_run 5 = .ok (.invokespecial 301, 3) := dk_183 1 45 (dk_at dksX1_run_0 5 rfl rfl)
theorem dX1_run_8 : decode cX1_run 8 = .ok (.invokevirtual 304, 3) := dk_182 1 48 (dk_at dksX1_run_0 8 rfl rfl)
theorem dX1_run_11 : decode cX1_run 11 = .ok (.astore_n 1, 1) := dk_76 (dk_at dksX1_run_0 11 rfl rfl)
theorem dX1_run_12 : decode cX1_run 12 = .ok (.goto 16, 3) := dk_167 0 16 (dk_at dksX1_run_0 12 rfl rfl)
theorem dX1_run_15 : decode cX1_run 15 = .ok (.astore_n 2, 1) := dk_77 (dk_at dksX1_run_0 15 rfl rfl)
theorem dX1_run_16 : decode cX1_run 16 = .ok (.new 11, 3) := dk_187 0 11 (dk_at dksX1_run_0 16 rfl rfl)
theorem dX1_run_19 : decode cX1_run 19 = .ok (.dup, 1) := dk_89 (dk_at dksX1_run_0 19 rfl rfl)
theorem dX1_run_20 : decode cX1_run 20 = .ok (.ldc_w 364, 3) := dk_19 1 108 (dk_at dksX1_run_0 20 rfl rfl)
theorem dX1_run_23 : decode cX1_run 23 = .ok (.aload_n 2, 1) := dk_44 (dk_at dksX1_run_0 23 rfl rfl)
theorem dX1_run_24 : decode cX1_run 24 = .ok (.invokespecial 365, 3) := dk_183 1 109 (dk_at dksX1_run_1 0 rfl rfl)
theorem dX1_run_27 : decode cX1_run 27 = .ok (.athrow, 1) := dk_191 (dk_at dksX1_run_1 3 rfl rfl)
theorem dX1_run_28 : decode cX1_run 28 = .ok (.aload_n 0, 1) := dk_42 (dk_at dksX1_run_1 4 rfl rfl)
theorem dX1_run_29 : decode cX1_run 29 = .ok (.invokevirtual 256, 3) := dk_182 1 0 (dk_at dksX1_run_1 5 rfl rfl)
theorem dX1_run_32 : decode cX1_run 32 = .ok (.aload_n 0, 1) := dk_42 (dk_at dksX1_run_1 8 rfl rfl)
theorem dX1_run_33 : decode cX1_run 33 = .ok (.aload_n 1, 1) := dk_43 (dk_at dksX1_run_1 9 rfl rfl)
theorem dX1_run_34 : decode cX1_run 34 = .ok (.invokevirtual 368, 3) := dk_182 1 112 (dk_at dksX1_run_1 10 rfl rfl)
theorem dX1_run_37 : decode cX1_run 37 = .ok (.ireturn, 1) := dk_172 (dk_at dksX1_run_1 13 rfl rfl)
abbrev cX1_carryAll : ByteArray := prog_1_method_57_code
def yX1_carryAll : MethodName := ⟨RX1, "carryAll", "(Ljava/util/List;)I"⟩
def dkwX1_carryAll_2 : List UInt8 := [167, 0, 4, 3, 96, 61, 28, 172]
abbrev dktX1_carryAll_2 : List UInt8 := dkwX1_carryAll_2 ++ []
def dkwX1_carryAll_1 : List UInt8 := [182, 1, 101, 132, 2, 1, 167, 255, 229, 167, 0, 19, 78, 28, 45, 182, 1, 104, 199, 0, 7, 4]
abbrev dktX1_carryAll_1 : List UInt8 := dkwX1_carryAll_1 ++ dktX1_carryAll_2
def dkwX1_carryAll_0 : List UInt8 := [3, 61, 28, 43, 185, 1, 94, 1, 0, 162, 0, 23, 42, 43, 28, 185, 1, 97, 2, 0, 192, 1, 60]
abbrev dktX1_carryAll_0 : List UInt8 := dkwX1_carryAll_0 ++ dktX1_carryAll_1
theorem dksX1_carryAll_0 : cX1_carryAll.data.toList.drop 0 = dktX1_carryAll_0 := by decide +kernel
theorem dksX1_carryAll_1 : cX1_carryAll.data.toList.drop 23 = dktX1_carryAll_1 := dk_seg dksX1_carryAll_0 23 rfl rfl
theorem dksX1_carryAll_2 : cX1_carryAll.data.toList.drop 45 = dktX1_carryAll_2 := dk_seg dksX1_carryAll_1 22 rfl rfl
theorem dX1_carryAll_0 : decode cX1_carryAll 0 = .ok (.iconst 0, 1) := dk_3 (dk_at dksX1_carryAll_0 0 rfl rfl)
theorem dX1_carryAll_1 : decode cX1_carryAll 1 = .ok (.istore_n 2, 1) := dk_61 (dk_at dksX1_carryAll_0 1 rfl rfl)
theorem dX1_carryAll_2 : decode cX1_carryAll 2 = .ok (.iload_n 2, 1) := dk_28 (dk_at dksX1_carryAll_0 2 rfl rfl)
theorem dX1_carryAll_3 : decode cX1_carryAll 3 = .ok (.aload_n 1, 1) := dk_43 (dk_at dksX1_carryAll_0 3 rfl rfl)
theorem dX1_carryAll_4 : decode cX1_carryAll 4 = .ok (.invokeinterface 350 1, 5) := by decide +kernel
theorem dX1_carryAll_9 : decode cX1_carryAll 9 = .ok (.if_icmp .ge 23, 3) := dk_162 0 23 (dk_at dksX1_carryAll_0 9 rfl rfl)
theorem dX1_carryAll_12 : decode cX1_carryAll 12 = .ok (.aload_n 0, 1) := dk_42 (dk_at dksX1_carryAll_0 12 rfl rfl)
theorem dX1_carryAll_13 : decode cX1_carryAll 13 = .ok (.aload_n 1, 1) := dk_43 (dk_at dksX1_carryAll_0 13 rfl rfl)
theorem dX1_carryAll_14 : decode cX1_carryAll 14 = .ok (.iload_n 2, 1) := dk_28 (dk_at dksX1_carryAll_0 14 rfl rfl)
theorem dX1_carryAll_15 : decode cX1_carryAll 15 = .ok (.invokeinterface 353 2, 5) := by decide +kernel
theorem dX1_carryAll_20 : decode cX1_carryAll 20 = .ok (.checkcast 316, 3) := dk_192 1 60 (dk_at dksX1_carryAll_0 20 rfl rfl)
theorem dX1_carryAll_23 : decode cX1_carryAll 23 = .ok (.invokevirtual 357, 3) := dk_182 1 101 (dk_at dksX1_carryAll_1 0 rfl rfl)
theorem dX1_carryAll_26 : decode cX1_carryAll 26 = .ok (.iinc 2 1, 3) := dk_132 2 1 (dk_at dksX1_carryAll_1 3 rfl rfl)
theorem dX1_carryAll_29 : decode cX1_carryAll 29 = .ok (.goto (-27), 3) := dk_167 255 229 (dk_at dksX1_carryAll_1 6 rfl rfl)
theorem dX1_carryAll_32 : decode cX1_carryAll 32 = .ok (.goto 19, 3) := dk_167 0 19 (dk_at dksX1_carryAll_1 9 rfl rfl)
theorem dX1_carryAll_35 : decode cX1_carryAll 35 = .ok (.astore_n 3, 1) := dk_78 (dk_at dksX1_carryAll_1 12 rfl rfl)
theorem dX1_carryAll_36 : decode cX1_carryAll 36 = .ok (.iload_n 2, 1) := dk_28 (dk_at dksX1_carryAll_1 13 rfl rfl)
theorem dX1_carryAll_37 : decode cX1_carryAll 37 = .ok (.aload_n 3, 1) := dk_45 (dk_at dksX1_carryAll_1 14 rfl rfl)
theorem dX1_carryAll_38 : decode cX1_carryAll 38 = .ok (.invokevirtual 360, 3) := dk_182 1 104 (dk_at dksX1_carryAll_1 15 rfl rfl)
theorem dX1_carryAll_41 : decode cX1_carryAll 41 = .ok (.ifnonnull 7, 3) := dk_199 0 7 (dk_at dksX1_carryAll_1 18 rfl rfl)
theorem dX1_carryAll_44 : decode cX1_carryAll 44 = .ok (.iconst 1, 1) := dk_4 (dk_at dksX1_carryAll_1 21 rfl rfl)
theorem dX1_carryAll_45 : decode cX1_carryAll 45 = .ok (.goto 4, 3) := dk_167 0 4 (dk_at dksX1_carryAll_2 0 rfl rfl)
theorem dX1_carryAll_48 : decode cX1_carryAll 48 = .ok (.iconst 0, 1) := dk_3 (dk_at dksX1_carryAll_2 3 rfl rfl)
theorem dX1_carryAll_49 : decode cX1_carryAll 49 = .ok (.iadd, 1) := dk_96 (dk_at dksX1_carryAll_2 4 rfl rfl)
theorem dX1_carryAll_50 : decode cX1_carryAll 50 = .ok (.istore_n 2, 1) := dk_61 (dk_at dksX1_carryAll_2 5 rfl rfl)
theorem dX1_carryAll_51 : decode cX1_carryAll 51 = .ok (.iload_n 2, 1) := dk_28 (dk_at dksX1_carryAll_2 6 rfl rfl)
theorem dX1_carryAll_52 : decode cX1_carryAll 52 = .ok (.ireturn, 1) := dk_172 (dk_at dksX1_carryAll_2 7 rfl rfl)
abbrev cX1_tryToCarry : ByteArray := prog_1_method_56_code
def yX1_tryToCarry : MethodName := ⟨RX1, "tryToCarry", "(LRosehipCircuits$Order;)V"⟩
def dkwX1_tryToCarry_0 : List UInt8 := [42, 43, 182, 1, 85, 167, 0, 13, 77, 187, 1, 89, 89, 44, 183, 1, 91, 191, 177]
abbrev dktX1_tryToCarry_0 : List UInt8 := dkwX1_tryToCarry_0 ++ []
theorem dksX1_tryToCarry_0 : cX1_tryToCarry.data.toList.drop 0 = dktX1_tryToCarry_0 := by decide +kernel
theorem dX1_tryToCarry_0 : decode cX1_tryToCarry 0 = .ok (.aload_n 0, 1) := dk_42 (dk_at dksX1_tryToCarry_0 0 rfl rfl)
theorem dX1_tryToCarry_1 : decode cX1_tryToCarry 1 = .ok (.aload_n 1, 1) := dk_43 (dk_at dksX1_tryToCarry_0 1 rfl rfl)
theorem dX1_tryToCarry_2 : decode cX1_tryToCarry 2 = .ok (.invokevirtual 341, 3) := dk_182 1 85 (dk_at dksX1_tryToCarry_0 2 rfl rfl)
theorem dX1_tryToCarry_5 : decode cX1_tryToCarry 5 = .ok (.goto 13, 3) := dk_167 0 13 (dk_at dksX1_tryToCarry_0 5 rfl rfl)
theorem dX1_tryToCarry_8 : decode cX1_tryToCarry 8 = .ok (.astore_n 2, 1) := dk_77 (dk_at dksX1_tryToCarry_0 8 rfl rfl)
theorem dX1_tryToCarry_9 : decode cX1_tryToCarry 9 = .ok (.new 345, 3) := dk_187 1 89 (dk_at dksX1_tryToCarry_0 9 rfl rfl)
theorem dX1_tryToCarry_12 : decode cX1_tryToCarry 12 = .ok (.dup, 1) := dk_89 (dk_at dksX1_tryToCarry_0 12 rfl rfl)
theorem dX1_tryToCarry_13 : decode cX1_tryToCarry 13 = .ok (.aload_n 2, 1) := dk_44 (dk_at dksX1_tryToCarry_0 13 rfl rfl)
theorem dX1_tryToCarry_14 : decode cX1_tryToCarry 14 = .ok (.invokespecial 347, 3) := dk_183 1 91 (dk_at dksX1_tryToCarry_0 14 rfl rfl)
theorem dX1_tryToCarry_17 : decode cX1_tryToCarry 17 = .ok (.athrow, 1) := dk_191 (dk_at dksX1_tryToCarry_0 17 rfl rfl)
theorem dX1_tryToCarry_18 : decode cX1_tryToCarry 18 = .ok (.return_, 1) := dk_177 (dk_at dksX1_tryToCarry_0 18 rfl rfl)
abbrev cX1_carry : ByteArray := prog_1_method_55_code
def yX1_carry : MethodName := ⟨RX1, "carry", "(LRosehipCircuits$Order;)V"⟩
def dkwX1_carry_5 : List UInt8 := [180, 0, 23, 182, 1, 6, 87, 177]
abbrev dktX1_carry_5 : List UInt8 := dkwX1_carry_5 ++ []
def dkwX1_carry_4 : List UInt8 := [16, 6, 100, 182, 1, 82, 87, 167, 0, 23, 42, 43, 182, 1, 70, 182, 1, 17, 87, 167, 0, 11, 42]
abbrev dktX1_carry_4 : List UInt8 := dkwX1_carry_4 ++ dktX1_carry_5
def dkwX1_carry_3 : List UInt8 := [42, 180, 0, 23, 43, 182, 1, 70, 182, 1, 79, 87, 167, 0, 41, 42, 180, 0, 23, 43, 182, 1, 70]
abbrev dktX1_carry_3 : List UInt8 := dkwX1_carry_3 ++ dktX1_carry_4
def dkwX1_carry_2 : List UInt8 := [171, 0, 0, 0, 0, 0, 80, 0, 0, 0, 3, 0, 0, 0, 35, 0, 0, 0, 50, 0, 0, 0, 62, 0, 0, 0, 35, 0, 0, 0, 63, 0, 0, 0, 68]
abbrev dktX1_carry_2 : List UInt8 := dkwX1_carry_2 ++ dktX1_carry_3
def dkwX1_carry_1 : List UInt8 := [43, 182, 1, 73, 182, 1, 76, 87, 177, 43, 182, 1, 59]
abbrev dktX1_carry_1 : List UInt8 := dkwX1_carry_1 ++ dktX1_carry_2
def dkwX1_carry_0 : List UInt8 := [19, 1, 57, 43, 182, 1, 59, 182, 1, 65, 61, 28, 155, 0, 21, 42, 180, 0, 23, 28, 43, 182, 1, 70]
abbrev dktX1_carry_0 : List UInt8 := dkwX1_carry_0 ++ dktX1_carry_1
theorem dksX1_carry_0 : cX1_carry.data.toList.drop 0 = dktX1_carry_0 := by decide +kernel
theorem dksX1_carry_1 : cX1_carry.data.toList.drop 24 = dktX1_carry_1 := dk_seg dksX1_carry_0 24 rfl rfl
theorem dksX1_carry_2 : cX1_carry.data.toList.drop 37 = dktX1_carry_2 := dk_seg dksX1_carry_1 13 rfl rfl
theorem dksX1_carry_3 : cX1_carry.data.toList.drop 72 = dktX1_carry_3 := dk_seg dksX1_carry_2 35 rfl rfl
theorem dksX1_carry_4 : cX1_carry.data.toList.drop 95 = dktX1_carry_4 := dk_seg dksX1_carry_3 23 rfl rfl
theorem dksX1_carry_5 : cX1_carry.data.toList.drop 118 = dktX1_carry_5 := dk_seg dksX1_carry_4 23 rfl rfl
theorem dX1_carry_0 : decode cX1_carry 0 = .ok (.ldc_w 313, 3) := dk_19 1 57 (dk_at dksX1_carry_0 0 rfl rfl)
theorem dX1_carry_3 : decode cX1_carry 3 = .ok (.aload_n 1, 1) := dk_43 (dk_at dksX1_carry_0 3 rfl rfl)
theorem dX1_carry_4 : decode cX1_carry 4 = .ok (.invokevirtual 315, 3) := dk_182 1 59 (dk_at dksX1_carry_0 4 rfl rfl)
theorem dX1_carry_7 : decode cX1_carry 7 = .ok (.invokevirtual 321, 3) := dk_182 1 65 (dk_at dksX1_carry_0 7 rfl rfl)
theorem dX1_carry_10 : decode cX1_carry 10 = .ok (.istore_n 2, 1) := dk_61 (dk_at dksX1_carry_0 10 rfl rfl)
theorem dX1_carry_11 : decode cX1_carry 11 = .ok (.iload_n 2, 1) := dk_28 (dk_at dksX1_carry_0 11 rfl rfl)
theorem dX1_carry_12 : decode cX1_carry 12 = .ok (.ifCond .lt 21, 3) := dk_155 0 21 (dk_at dksX1_carry_0 12 rfl rfl)
theorem dX1_carry_15 : decode cX1_carry 15 = .ok (.aload_n 0, 1) := dk_42 (dk_at dksX1_carry_0 15 rfl rfl)
theorem dX1_carry_16 : decode cX1_carry 16 = .ok (.getfield 23, 3) := dk_180 0 23 (dk_at dksX1_carry_0 16 rfl rfl)
theorem dX1_carry_19 : decode cX1_carry 19 = .ok (.iload_n 2, 1) := dk_28 (dk_at dksX1_carry_0 19 rfl rfl)
theorem dX1_carry_20 : decode cX1_carry 20 = .ok (.aload_n 1, 1) := dk_43 (dk_at dksX1_carry_0 20 rfl rfl)
theorem dX1_carry_21 : decode cX1_carry 21 = .ok (.invokevirtual 326, 3) := dk_182 1 70 (dk_at dksX1_carry_0 21 rfl rfl)
theorem dX1_carry_24 : decode cX1_carry 24 = .ok (.aload_n 1, 1) := dk_43 (dk_at dksX1_carry_1 0 rfl rfl)
theorem dX1_carry_25 : decode cX1_carry 25 = .ok (.invokevirtual 329, 3) := dk_182 1 73 (dk_at dksX1_carry_1 1 rfl rfl)
theorem dX1_carry_28 : decode cX1_carry 28 = .ok (.invokevirtual 332, 3) := dk_182 1 76 (dk_at dksX1_carry_1 4 rfl rfl)
theorem dX1_carry_31 : decode cX1_carry 31 = .ok (.pop, 1) := dk_87 (dk_at dksX1_carry_1 7 rfl rfl)
theorem dX1_carry_32 : decode cX1_carry 32 = .ok (.return_, 1) := dk_177 (dk_at dksX1_carry_1 8 rfl rfl)
theorem dX1_carry_33 : decode cX1_carry 33 = .ok (.aload_n 1, 1) := dk_43 (dk_at dksX1_carry_1 9 rfl rfl)
theorem dX1_carry_34 : decode cX1_carry 34 = .ok (.invokevirtual 315, 3) := dk_182 1 59 (dk_at dksX1_carry_1 10 rfl rfl)
theorem dX1_carry_37 : decode cX1_carry 37 = .ok (.lookupswitch 80 #[(35, 50), (62, 35), (63, 68)], 35) := by decide +kernel
theorem dX1_carry_72 : decode cX1_carry 72 = .ok (.aload_n 0, 1) := dk_42 (dk_at dksX1_carry_3 0 rfl rfl)
theorem dX1_carry_73 : decode cX1_carry 73 = .ok (.getfield 23, 3) := dk_180 0 23 (dk_at dksX1_carry_3 1 rfl rfl)
theorem dX1_carry_76 : decode cX1_carry 76 = .ok (.aload_n 1, 1) := dk_43 (dk_at dksX1_carry_3 4 rfl rfl)
theorem dX1_carry_77 : decode cX1_carry 77 = .ok (.invokevirtual 326, 3) := dk_182 1 70 (dk_at dksX1_carry_3 5 rfl rfl)
theorem dX1_carry_80 : decode cX1_carry 80 = .ok (.invokevirtual 335, 3) := dk_182 1 79 (dk_at dksX1_carry_3 8 rfl rfl)
theorem dX1_carry_83 : decode cX1_carry 83 = .ok (.pop, 1) := dk_87 (dk_at dksX1_carry_3 11 rfl rfl)
theorem dX1_carry_84 : decode cX1_carry 84 = .ok (.goto 41, 3) := dk_167 0 41 (dk_at dksX1_carry_3 12 rfl rfl)
theorem dX1_carry_87 : decode cX1_carry 87 = .ok (.aload_n 0, 1) := dk_42 (dk_at dksX1_carry_3 15 rfl rfl)
theorem dX1_carry_88 : decode cX1_carry 88 = .ok (.getfield 23, 3) := dk_180 0 23 (dk_at dksX1_carry_3 16 rfl rfl)
theorem dX1_carry_91 : decode cX1_carry 91 = .ok (.aload_n 1, 1) := dk_43 (dk_at dksX1_carry_3 19 rfl rfl)
theorem dX1_carry_92 : decode cX1_carry 92 = .ok (.invokevirtual 326, 3) := dk_182 1 70 (dk_at dksX1_carry_3 20 rfl rfl)
theorem dX1_carry_95 : decode cX1_carry 95 = .ok (.bipush 6, 2) := dk_16 6 (dk_at dksX1_carry_4 0 rfl rfl)
theorem dX1_carry_97 : decode cX1_carry 97 = .ok (.isub, 1) := dk_100 (dk_at dksX1_carry_4 2 rfl rfl)
theorem dX1_carry_98 : decode cX1_carry 98 = .ok (.invokevirtual 338, 3) := dk_182 1 82 (dk_at dksX1_carry_4 3 rfl rfl)
theorem dX1_carry_101 : decode cX1_carry 101 = .ok (.pop, 1) := dk_87 (dk_at dksX1_carry_4 6 rfl rfl)
theorem dX1_carry_102 : decode cX1_carry 102 = .ok (.goto 23, 3) := dk_167 0 23 (dk_at dksX1_carry_4 7 rfl rfl)
theorem dX1_carry_105 : decode cX1_carry 105 = .ok (.aload_n 0, 1) := dk_42 (dk_at dksX1_carry_4 10 rfl rfl)
theorem dX1_carry_106 : decode cX1_carry 106 = .ok (.aload_n 1, 1) := dk_43 (dk_at dksX1_carry_4 11 rfl rfl)
theorem dX1_carry_107 : decode cX1_carry 107 = .ok (.invokevirtual 326, 3) := dk_182 1 70 (dk_at dksX1_carry_4 12 rfl rfl)
theorem dX1_carry_110 : decode cX1_carry 110 = .ok (.invokevirtual 273, 3) := dk_182 1 17 (dk_at dksX1_carry_4 15 rfl rfl)
theorem dX1_carry_113 : decode cX1_carry 113 = .ok (.pop, 1) := dk_87 (dk_at dksX1_carry_4 18 rfl rfl)
theorem dX1_carry_114 : decode cX1_carry 114 = .ok (.goto 11, 3) := dk_167 0 11 (dk_at dksX1_carry_4 19 rfl rfl)
theorem dX1_carry_117 : decode cX1_carry 117 = .ok (.aload_n 0, 1) := dk_42 (dk_at dksX1_carry_4 22 rfl rfl)
theorem dX1_carry_118 : decode cX1_carry 118 = .ok (.getfield 23, 3) := dk_180 0 23 (dk_at dksX1_carry_5 0 rfl rfl)
theorem dX1_carry_121 : decode cX1_carry 121 = .ok (.invokevirtual 262, 3) := dk_182 1 6 (dk_at dksX1_carry_5 3 rfl rfl)
theorem dX1_carry_124 : decode cX1_carry 124 = .ok (.pop, 1) := dk_87 (dk_at dksX1_carry_5 6 rfl rfl)
theorem dX1_carry_125 : decode cX1_carry 125 = .ok (.return_, 1) := dk_177 (dk_at dksX1_carry_5 7 rfl rfl)
abbrev cX1_undo : ByteArray := prog_1_method_59_code
def yX1_undo : MethodName := ⟨RX1, "undo", "()I"⟩
def dkwX1_undo_1 : List UInt8 := [182, 1, 119, 192, 0, 28, 181, 0, 23, 42, 180, 0, 196, 182, 0, 207, 172]
abbrev dktX1_undo_1 : List UInt8 := dkwX1_undo_1 ++ []
def dkwX1_undo_0 : List UInt8 := [42, 180, 0, 196, 182, 1, 116, 154, 0, 7, 4, 167, 0, 4, 3, 184, 1, 10, 42, 42, 180, 0, 196]
abbrev dktX1_undo_0 : List UInt8 := dkwX1_undo_0 ++ dktX1_undo_1
theorem dksX1_undo_0 : cX1_undo.data.toList.drop 0 = dktX1_undo_0 := by decide +kernel
theorem dksX1_undo_1 : cX1_undo.data.toList.drop 23 = dktX1_undo_1 := dk_seg dksX1_undo_0 23 rfl rfl
theorem dX1_undo_0 : decode cX1_undo 0 = .ok (.aload_n 0, 1) := dk_42 (dk_at dksX1_undo_0 0 rfl rfl)
theorem dX1_undo_1 : decode cX1_undo 1 = .ok (.getfield 196, 3) := dk_180 0 196 (dk_at dksX1_undo_0 1 rfl rfl)
theorem dX1_undo_4 : decode cX1_undo 4 = .ok (.invokevirtual 372, 3) := dk_182 1 116 (dk_at dksX1_undo_0 4 rfl rfl)
theorem dX1_undo_7 : decode cX1_undo 7 = .ok (.ifCond .ne 7, 3) := dk_154 0 7 (dk_at dksX1_undo_0 7 rfl rfl)
theorem dX1_undo_10 : decode cX1_undo 10 = .ok (.iconst 1, 1) := dk_4 (dk_at dksX1_undo_0 10 rfl rfl)
theorem dX1_undo_11 : decode cX1_undo 11 = .ok (.goto 4, 3) := dk_167 0 4 (dk_at dksX1_undo_0 11 rfl rfl)
theorem dX1_undo_14 : decode cX1_undo 14 = .ok (.iconst 0, 1) := dk_3 (dk_at dksX1_undo_0 14 rfl rfl)
theorem dX1_undo_15 : decode cX1_undo 15 = .ok (.invokestatic 266, 3) := dk_184 1 10 (dk_at dksX1_undo_0 15 rfl rfl)
theorem dX1_undo_18 : decode cX1_undo 18 = .ok (.aload_n 0, 1) := dk_42 (dk_at dksX1_undo_0 18 rfl rfl)
theorem dX1_undo_19 : decode cX1_undo 19 = .ok (.aload_n 0, 1) := dk_42 (dk_at dksX1_undo_0 19 rfl rfl)
theorem dX1_undo_20 : decode cX1_undo 20 = .ok (.getfield 196, 3) := dk_180 0 196 (dk_at dksX1_undo_0 20 rfl rfl)
theorem dX1_undo_23 : decode cX1_undo 23 = .ok (.invokevirtual 375, 3) := dk_182 1 119 (dk_at dksX1_undo_1 0 rfl rfl)
theorem dX1_undo_26 : decode cX1_undo 26 = .ok (.checkcast 28, 3) := dk_192 0 28 (dk_at dksX1_undo_1 3 rfl rfl)
theorem dX1_undo_29 : decode cX1_undo 29 = .ok (.putfield 23, 3) := dk_181 0 23 (dk_at dksX1_undo_1 6 rfl rfl)
theorem dX1_undo_32 : decode cX1_undo 32 = .ok (.aload_n 0, 1) := dk_42 (dk_at dksX1_undo_1 9 rfl rfl)
theorem dX1_undo_33 : decode cX1_undo 33 = .ok (.getfield 196, 3) := dk_180 0 196 (dk_at dksX1_undo_1 10 rfl rfl)
theorem dX1_undo_36 : decode cX1_undo 36 = .ok (.invokevirtual 207, 3) := dk_182 0 207 (dk_at dksX1_undo_1 13 rfl rfl)
theorem dX1_undo_39 : decode cX1_undo 39 = .ok (.ireturn, 1) := dk_172 (dk_at dksX1_undo_1 16 rfl rfl)
abbrev cX1_restore : ByteArray := prog_1_method_62_code
def yX1_restore : MethodName := ⟨RX1, "restore", "()I"⟩
def dkwX1_restore_1 : List UInt8 := [42, 180, 1, 122, 183, 0, 222, 181, 0, 23, 42, 180, 0, 23, 180, 0, 58, 172]
abbrev dktX1_restore_1 : List UInt8 := dkwX1_restore_1 ++ []
def dkwX1_restore_0 : List UInt8 := [42, 180, 1, 122, 198, 0, 7, 4, 167, 0, 4, 3, 184, 1, 10, 42, 182, 1, 0, 42, 187, 0, 28, 89]
abbrev dktX1_restore_0 : List UInt8 := dkwX1_restore_0 ++ dktX1_restore_1
theorem dksX1_restore_0 : cX1_restore.data.toList.drop 0 = dktX1_restore_0 := by decide +kernel
theorem dksX1_restore_1 : cX1_restore.data.toList.drop 24 = dktX1_restore_1 := dk_seg dksX1_restore_0 24 rfl rfl
theorem dX1_restore_0 : decode cX1_restore 0 = .ok (.aload_n 0, 1) := dk_42 (dk_at dksX1_restore_0 0 rfl rfl)
theorem dX1_restore_1 : decode cX1_restore 1 = .ok (.getfield 378, 3) := dk_180 1 122 (dk_at dksX1_restore_0 1 rfl rfl)
theorem dX1_restore_4 : decode cX1_restore 4 = .ok (.ifnull 7, 3) := dk_198 0 7 (dk_at dksX1_restore_0 4 rfl rfl)
theorem dX1_restore_7 : decode cX1_restore 7 = .ok (.iconst 1, 1) := dk_4 (dk_at dksX1_restore_0 7 rfl rfl)
theorem dX1_restore_8 : decode cX1_restore 8 = .ok (.goto 4, 3) := dk_167 0 4 (dk_at dksX1_restore_0 8 rfl rfl)
theorem dX1_restore_11 : decode cX1_restore 11 = .ok (.iconst 0, 1) := dk_3 (dk_at dksX1_restore_0 11 rfl rfl)
theorem dX1_restore_12 : decode cX1_restore 12 = .ok (.invokestatic 266, 3) := dk_184 1 10 (dk_at dksX1_restore_0 12 rfl rfl)
theorem dX1_restore_15 : decode cX1_restore 15 = .ok (.aload_n 0, 1) := dk_42 (dk_at dksX1_restore_0 15 rfl rfl)
theorem dX1_restore_16 : decode cX1_restore 16 = .ok (.invokevirtual 256, 3) := dk_182 1 0 (dk_at dksX1_restore_0 16 rfl rfl)
theorem dX1_restore_19 : decode cX1_restore 19 = .ok (.aload_n 0, 1) := dk_42 (dk_at dksX1_restore_0 19 rfl rfl)
theorem dX1_restore_20 : decode cX1_restore 20 = .ok (.new 28, 3) := dk_187 0 28 (dk_at dksX1_restore_0 20 rfl rfl)
theorem dX1_restore_23 : decode cX1_restore 23 = .ok (.dup, 1) := dk_89 (dk_at dksX1_restore_0 23 rfl rfl)
theorem dX1_restore_24 : decode cX1_restore 24 = .ok (.aload_n 0, 1) := dk_42 (dk_at dksX1_restore_1 0 rfl rfl)
theorem dX1_restore_25 : decode cX1_restore 25 = .ok (.getfield 378, 3) := dk_180 1 122 (dk_at dksX1_restore_1 1 rfl rfl)
theorem dX1_restore_28 : decode cX1_restore 28 = .ok (.invokespecial 222, 3) := dk_183 0 222 (dk_at dksX1_restore_1 4 rfl rfl)
theorem dX1_restore_31 : decode cX1_restore 31 = .ok (.putfield 23, 3) := dk_181 0 23 (dk_at dksX1_restore_1 7 rfl rfl)
theorem dX1_restore_34 : decode cX1_restore 34 = .ok (.aload_n 0, 1) := dk_42 (dk_at dksX1_restore_1 10 rfl rfl)
theorem dX1_restore_35 : decode cX1_restore 35 = .ok (.getfield 23, 3) := dk_180 0 23 (dk_at dksX1_restore_1 11 rfl rfl)
theorem dX1_restore_38 : decode cX1_restore 38 = .ok (.getfield 58, 3) := dk_180 0 58 (dk_at dksX1_restore_1 14 rfl rfl)
theorem dX1_restore_41 : decode cX1_restore 41 = .ok (.ireturn, 1) := dk_172 (dk_at dksX1_restore_1 17 rfl rfl)
abbrev cX1_kindOf : ByteArray := prog_1_method_64_code
def yX1_kindOf : MethodName := ⟨RX1, "kindOf", "(I)I"⟩
def dkwX1_kindOf_0 : List UInt8 := [42, 180, 0, 23, 27, 182, 1, 125, 184, 1, 129, 42, 180, 0, 23, 180, 0, 37, 27, 46, 172]
abbrev dktX1_kindOf_0 : List UInt8 := dkwX1_kindOf_0 ++ []
theorem dksX1_kindOf_0 : cX1_kindOf.data.toList.drop 0 = dktX1_kindOf_0 := by decide +kernel
theorem dX1_kindOf_0 : decode cX1_kindOf 0 = .ok (.aload_n 0, 1) := dk_42 (dk_at dksX1_kindOf_0 0 rfl rfl)
theorem dX1_kindOf_1 : decode cX1_kindOf 1 = .ok (.getfield 23, 3) := dk_180 0 23 (dk_at dksX1_kindOf_0 1 rfl rfl)
theorem dX1_kindOf_4 : decode cX1_kindOf 4 = .ok (.iload_n 1, 1) := dk_27 (dk_at dksX1_kindOf_0 4 rfl rfl)
theorem dX1_kindOf_5 : decode cX1_kindOf 5 = .ok (.invokevirtual 381, 3) := dk_182 1 125 (dk_at dksX1_kindOf_0 5 rfl rfl)
theorem dX1_kindOf_8 : decode cX1_kindOf 8 = .ok (.invokestatic 385, 3) := dk_184 1 129 (dk_at dksX1_kindOf_0 8 rfl rfl)
theorem dX1_kindOf_11 : decode cX1_kindOf 11 = .ok (.aload_n 0, 1) := dk_42 (dk_at dksX1_kindOf_0 11 rfl rfl)
theorem dX1_kindOf_12 : decode cX1_kindOf 12 = .ok (.getfield 23, 3) := dk_180 0 23 (dk_at dksX1_kindOf_0 12 rfl rfl)
theorem dX1_kindOf_15 : decode cX1_kindOf 15 = .ok (.getfield 37, 3) := dk_180 0 37 (dk_at dksX1_kindOf_0 15 rfl rfl)
theorem dX1_kindOf_18 : decode cX1_kindOf 18 = .ok (.iload_n 1, 1) := dk_27 (dk_at dksX1_kindOf_0 18 rfl rfl)
theorem dX1_kindOf_19 : decode cX1_kindOf 19 = .ok (.iaload, 1) := dk_46 (dk_at dksX1_kindOf_0 19 rfl rfl)
theorem dX1_kindOf_20 : decode cX1_kindOf 20 = .ok (.ireturn, 1) := dk_172 (dk_at dksX1_kindOf_0 20 rfl rfl)
abbrev cX1_sourceOf : ByteArray := prog_1_method_65_code
def yX1_sourceOf : MethodName := ⟨RX1, "sourceOf", "(II)I"⟩
def dkwX1_sourceOf_1 : List UInt8 := [42, 180, 0, 23, 180, 0, 65, 27, 46, 167, 0, 12, 42, 180, 0, 23, 180, 0, 68, 27, 46, 172]
abbrev dktX1_sourceOf_1 : List UInt8 := dkwX1_sourceOf_1 ++ []
def dkwX1_sourceOf_0 : List UInt8 := [42, 180, 0, 23, 27, 182, 1, 125, 184, 1, 129, 28, 3, 4, 184, 0, 248, 184, 0, 252, 28, 154, 0, 15]
abbrev dktX1_sourceOf_0 : List UInt8 := dkwX1_sourceOf_0 ++ dktX1_sourceOf_1
theorem dksX1_sourceOf_0 : cX1_sourceOf.data.toList.drop 0 = dktX1_sourceOf_0 := by decide +kernel
theorem dksX1_sourceOf_1 : cX1_sourceOf.data.toList.drop 24 = dktX1_sourceOf_1 := dk_seg dksX1_sourceOf_0 24 rfl rfl
theorem dX1_sourceOf_0 : decode cX1_sourceOf 0 = .ok (.aload_n 0, 1) := dk_42 (dk_at dksX1_sourceOf_0 0 rfl rfl)
theorem dX1_sourceOf_1 : decode cX1_sourceOf 1 = .ok (.getfield 23, 3) := dk_180 0 23 (dk_at dksX1_sourceOf_0 1 rfl rfl)
theorem dX1_sourceOf_4 : decode cX1_sourceOf 4 = .ok (.iload_n 1, 1) := dk_27 (dk_at dksX1_sourceOf_0 4 rfl rfl)
theorem dX1_sourceOf_5 : decode cX1_sourceOf 5 = .ok (.invokevirtual 381, 3) := dk_182 1 125 (dk_at dksX1_sourceOf_0 5 rfl rfl)
theorem dX1_sourceOf_8 : decode cX1_sourceOf 8 = .ok (.invokestatic 385, 3) := dk_184 1 129 (dk_at dksX1_sourceOf_0 8 rfl rfl)
theorem dX1_sourceOf_11 : decode cX1_sourceOf 11 = .ok (.iload_n 2, 1) := dk_28 (dk_at dksX1_sourceOf_0 11 rfl rfl)
theorem dX1_sourceOf_12 : decode cX1_sourceOf 12 = .ok (.iconst 0, 1) := dk_3 (dk_at dksX1_sourceOf_0 12 rfl rfl)
theorem dX1_sourceOf_13 : decode cX1_sourceOf 13 = .ok (.iconst 1, 1) := dk_4 (dk_at dksX1_sourceOf_0 13 rfl rfl)
theorem dX1_sourceOf_14 : decode cX1_sourceOf 14 = .ok (.invokestatic 248, 3) := dk_184 0 248 (dk_at dksX1_sourceOf_0 14 rfl rfl)
theorem dX1_sourceOf_17 : decode cX1_sourceOf 17 = .ok (.invokestatic 252, 3) := dk_184 0 252 (dk_at dksX1_sourceOf_0 17 rfl rfl)
theorem dX1_sourceOf_20 : decode cX1_sourceOf 20 = .ok (.iload_n 2, 1) := dk_28 (dk_at dksX1_sourceOf_0 20 rfl rfl)
theorem dX1_sourceOf_21 : decode cX1_sourceOf 21 = .ok (.ifCond .ne 15, 3) := dk_154 0 15 (dk_at dksX1_sourceOf_0 21 rfl rfl)
theorem dX1_sourceOf_24 : decode cX1_sourceOf 24 = .ok (.aload_n 0, 1) := dk_42 (dk_at dksX1_sourceOf_1 0 rfl rfl)
theorem dX1_sourceOf_25 : decode cX1_sourceOf 25 = .ok (.getfield 23, 3) := dk_180 0 23 (dk_at dksX1_sourceOf_1 1 rfl rfl)
theorem dX1_sourceOf_28 : decode cX1_sourceOf 28 = .ok (.getfield 65, 3) := dk_180 0 65 (dk_at dksX1_sourceOf_1 4 rfl rfl)
theorem dX1_sourceOf_31 : decode cX1_sourceOf 31 = .ok (.iload_n 1, 1) := dk_27 (dk_at dksX1_sourceOf_1 7 rfl rfl)
theorem dX1_sourceOf_32 : decode cX1_sourceOf 32 = .ok (.iaload, 1) := dk_46 (dk_at dksX1_sourceOf_1 8 rfl rfl)
theorem dX1_sourceOf_33 : decode cX1_sourceOf 33 = .ok (.goto 12, 3) := dk_167 0 12 (dk_at dksX1_sourceOf_1 9 rfl rfl)
theorem dX1_sourceOf_36 : decode cX1_sourceOf 36 = .ok (.aload_n 0, 1) := dk_42 (dk_at dksX1_sourceOf_1 12 rfl rfl)
theorem dX1_sourceOf_37 : decode cX1_sourceOf 37 = .ok (.getfield 23, 3) := dk_180 0 23 (dk_at dksX1_sourceOf_1 13 rfl rfl)
theorem dX1_sourceOf_40 : decode cX1_sourceOf 40 = .ok (.getfield 68, 3) := dk_180 0 68 (dk_at dksX1_sourceOf_1 16 rfl rfl)
theorem dX1_sourceOf_43 : decode cX1_sourceOf 43 = .ok (.iload_n 1, 1) := dk_27 (dk_at dksX1_sourceOf_1 19 rfl rfl)
theorem dX1_sourceOf_44 : decode cX1_sourceOf 44 = .ok (.iaload, 1) := dk_46 (dk_at dksX1_sourceOf_1 20 rfl rfl)
theorem dX1_sourceOf_45 : decode cX1_sourceOf 45 = .ok (.ireturn, 1) := dk_172 (dk_at dksX1_sourceOf_1 21 rfl rfl)
abbrev cX1_valueOf : ByteArray := prog_1_method_68_code
def yX1_valueOf : MethodName := ⟨RX1, "valueOf", "(II)I"⟩
def dkwX1_valueOf_1 : List UInt8 := [180, 0, 89, 27, 46, 172]
abbrev dktX1_valueOf_1 : List UInt8 := dkwX1_valueOf_1 ++ []
def dkwX1_valueOf_0 : List UInt8 := [42, 180, 0, 23, 27, 182, 1, 132, 184, 1, 129, 28, 184, 1, 13, 42, 28, 2, 2, 182, 0, 96, 42]
abbrev dktX1_valueOf_0 : List UInt8 := dkwX1_valueOf_0 ++ dktX1_valueOf_1
theorem dksX1_valueOf_0 : cX1_valueOf.data.toList.drop 0 = dktX1_valueOf_0 := by decide +kernel
theorem dksX1_valueOf_1 : cX1_valueOf.data.toList.drop 23 = dktX1_valueOf_1 := dk_seg dksX1_valueOf_0 23 rfl rfl
theorem dX1_valueOf_0 : decode cX1_valueOf 0 = .ok (.aload_n 0, 1) := dk_42 (dk_at dksX1_valueOf_0 0 rfl rfl)
theorem dX1_valueOf_1 : decode cX1_valueOf 1 = .ok (.getfield 23, 3) := dk_180 0 23 (dk_at dksX1_valueOf_0 1 rfl rfl)
theorem dX1_valueOf_4 : decode cX1_valueOf 4 = .ok (.iload_n 1, 1) := dk_27 (dk_at dksX1_valueOf_0 4 rfl rfl)
theorem dX1_valueOf_5 : decode cX1_valueOf 5 = .ok (.invokevirtual 388, 3) := dk_182 1 132 (dk_at dksX1_valueOf_0 5 rfl rfl)
theorem dX1_valueOf_8 : decode cX1_valueOf 8 = .ok (.invokestatic 385, 3) := dk_184 1 129 (dk_at dksX1_valueOf_0 8 rfl rfl)
theorem dX1_valueOf_11 : decode cX1_valueOf 11 = .ok (.iload_n 2, 1) := dk_28 (dk_at dksX1_valueOf_0 11 rfl rfl)
theorem dX1_valueOf_12 : decode cX1_valueOf 12 = .ok (.invokestatic 269, 3) := dk_184 1 13 (dk_at dksX1_valueOf_0 12 rfl rfl)
theorem dX1_valueOf_15 : decode cX1_valueOf 15 = .ok (.aload_n 0, 1) := dk_42 (dk_at dksX1_valueOf_0 15 rfl rfl)
theorem dX1_valueOf_16 : decode cX1_valueOf 16 = .ok (.iload_n 2, 1) := dk_28 (dk_at dksX1_valueOf_0 16 rfl rfl)
theorem dX1_valueOf_17 : decode cX1_valueOf 17 = .ok (.iconst (-1), 1) := dk_2 (dk_at dksX1_valueOf_0 17 rfl rfl)
theorem dX1_valueOf_18 : decode cX1_valueOf 18 = .ok (.iconst (-1), 1) := dk_2 (dk_at dksX1_valueOf_0 18 rfl rfl)
theorem dX1_valueOf_19 : decode cX1_valueOf 19 = .ok (.invokevirtual 96, 3) := dk_182 0 96 (dk_at dksX1_valueOf_0 19 rfl rfl)
theorem dX1_valueOf_22 : decode cX1_valueOf 22 = .ok (.aload_n 0, 1) := dk_42 (dk_at dksX1_valueOf_0 22 rfl rfl)
theorem dX1_valueOf_23 : decode cX1_valueOf 23 = .ok (.getfield 89, 3) := dk_180 0 89 (dk_at dksX1_valueOf_1 0 rfl rfl)
theorem dX1_valueOf_26 : decode cX1_valueOf 26 = .ok (.iload_n 1, 1) := dk_27 (dk_at dksX1_valueOf_1 3 rfl rfl)
theorem dX1_valueOf_27 : decode cX1_valueOf 27 = .ok (.iaload, 1) := dk_46 (dk_at dksX1_valueOf_1 4 rfl rfl)
theorem dX1_valueOf_28 : decode cX1_valueOf 28 = .ok (.ireturn, 1) := dk_172 (dk_at dksX1_valueOf_1 5 rfl rfl)
abbrev cX1_tableOf : ByteArray := prog_1_method_69_code
def yX1_tableOf : MethodName := ⟨RX1, "tableOf", "(IZ)J"⟩
def dkwX1_tableOf_2 : List UInt8 := [182, 0, 96, 33, 42, 180, 0, 89, 27, 46, 133, 21, 5, 121, 129, 66, 132, 5, 1, 167, 255, 225, 33, 173]
abbrev dktX1_tableOf_2 : List UInt8 := dkwX1_tableOf_2 ++ []
def dkwX1_tableOf_1 : List UInt8 := [180, 0, 47, 27, 47, 173, 9, 66, 3, 54, 5, 21, 5, 16, 64, 162, 0, 30, 42, 21, 5, 2, 2]
abbrev dktX1_tableOf_1 : List UInt8 := dkwX1_tableOf_1 ++ dktX1_tableOf_2
def dkwX1_tableOf_0 : List UInt8 := [42, 180, 0, 23, 27, 182, 1, 132, 184, 1, 129, 28, 153, 0, 16, 42, 2, 2, 182, 0, 106, 42]
abbrev dktX1_tableOf_0 : List UInt8 := dkwX1_tableOf_0 ++ dktX1_tableOf_1
theorem dksX1_tableOf_0 : cX1_tableOf.data.toList.drop 0 = dktX1_tableOf_0 := by decide +kernel
theorem dksX1_tableOf_1 : cX1_tableOf.data.toList.drop 22 = dktX1_tableOf_1 := dk_seg dksX1_tableOf_0 22 rfl rfl
theorem dksX1_tableOf_2 : cX1_tableOf.data.toList.drop 45 = dktX1_tableOf_2 := dk_seg dksX1_tableOf_1 23 rfl rfl
theorem dX1_tableOf_0 : decode cX1_tableOf 0 = .ok (.aload_n 0, 1) := dk_42 (dk_at dksX1_tableOf_0 0 rfl rfl)
theorem dX1_tableOf_1 : decode cX1_tableOf 1 = .ok (.getfield 23, 3) := dk_180 0 23 (dk_at dksX1_tableOf_0 1 rfl rfl)
theorem dX1_tableOf_4 : decode cX1_tableOf 4 = .ok (.iload_n 1, 1) := dk_27 (dk_at dksX1_tableOf_0 4 rfl rfl)
theorem dX1_tableOf_5 : decode cX1_tableOf 5 = .ok (.invokevirtual 388, 3) := dk_182 1 132 (dk_at dksX1_tableOf_0 5 rfl rfl)
theorem dX1_tableOf_8 : decode cX1_tableOf 8 = .ok (.invokestatic 385, 3) := dk_184 1 129 (dk_at dksX1_tableOf_0 8 rfl rfl)
theorem dX1_tableOf_11 : decode cX1_tableOf 11 = .ok (.iload_n 2, 1) := dk_28 (dk_at dksX1_tableOf_0 11 rfl rfl)
theorem dX1_tableOf_12 : decode cX1_tableOf 12 = .ok (.ifCond .eq 16, 3) := dk_153 0 16 (dk_at dksX1_tableOf_0 12 rfl rfl)
theorem dX1_tableOf_15 : decode cX1_tableOf 15 = .ok (.aload_n 0, 1) := dk_42 (dk_at dksX1_tableOf_0 15 rfl rfl)
theorem dX1_tableOf_16 : decode cX1_tableOf 16 = .ok (.iconst (-1), 1) := dk_2 (dk_at dksX1_tableOf_0 16 rfl rfl)
theorem dX1_tableOf_17 : decode cX1_tableOf 17 = .ok (.iconst (-1), 1) := dk_2 (dk_at dksX1_tableOf_0 17 rfl rfl)
theorem dX1_tableOf_18 : decode cX1_tableOf 18 = .ok (.invokevirtual 106, 3) := dk_182 0 106 (dk_at dksX1_tableOf_0 18 rfl rfl)
theorem dX1_tableOf_21 : decode cX1_tableOf 21 = .ok (.aload_n 0, 1) := dk_42 (dk_at dksX1_tableOf_0 21 rfl rfl)
theorem dX1_tableOf_22 : decode cX1_tableOf 22 = .ok (.getfield 47, 3) := dk_180 0 47 (dk_at dksX1_tableOf_1 0 rfl rfl)
theorem dX1_tableOf_25 : decode cX1_tableOf 25 = .ok (.iload_n 1, 1) := dk_27 (dk_at dksX1_tableOf_1 3 rfl rfl)
theorem dX1_tableOf_26 : decode cX1_tableOf 26 = .ok (.laload, 1) := dk_47 (dk_at dksX1_tableOf_1 4 rfl rfl)
theorem dX1_tableOf_27 : decode cX1_tableOf 27 = .ok (.lreturn, 1) := dk_173 (dk_at dksX1_tableOf_1 5 rfl rfl)
theorem dX1_tableOf_28 : decode cX1_tableOf 28 = .ok (.lconst 0, 1) := dk_9 (dk_at dksX1_tableOf_1 6 rfl rfl)
theorem dX1_tableOf_29 : decode cX1_tableOf 29 = .ok (.lstore_n 3, 1) := dk_66 (dk_at dksX1_tableOf_1 7 rfl rfl)
theorem dX1_tableOf_30 : decode cX1_tableOf 30 = .ok (.iconst 0, 1) := dk_3 (dk_at dksX1_tableOf_1 8 rfl rfl)
theorem dX1_tableOf_31 : decode cX1_tableOf 31 = .ok (.istore 5, 2) := dk_54 5 (dk_at dksX1_tableOf_1 9 rfl rfl)
theorem dX1_tableOf_33 : decode cX1_tableOf 33 = .ok (.iload 5, 2) := dk_21 5 (dk_at dksX1_tableOf_1 11 rfl rfl)
theorem dX1_tableOf_35 : decode cX1_tableOf 35 = .ok (.bipush 64, 2) := dk_16 64 (dk_at dksX1_tableOf_1 13 rfl rfl)
theorem dX1_tableOf_37 : decode cX1_tableOf 37 = .ok (.if_icmp .ge 30, 3) := dk_162 0 30 (dk_at dksX1_tableOf_1 15 rfl rfl)
theorem dX1_tableOf_40 : decode cX1_tableOf 40 = .ok (.aload_n 0, 1) := dk_42 (dk_at dksX1_tableOf_1 18 rfl rfl)
theorem dX1_tableOf_41 : decode cX1_tableOf 41 = .ok (.iload 5, 2) := dk_21 5 (dk_at dksX1_tableOf_1 19 rfl rfl)
theorem dX1_tableOf_43 : decode cX1_tableOf 43 = .ok (.iconst (-1), 1) := dk_2 (dk_at dksX1_tableOf_1 21 rfl rfl)
theorem dX1_tableOf_44 : decode cX1_tableOf 44 = .ok (.iconst (-1), 1) := dk_2 (dk_at dksX1_tableOf_1 22 rfl rfl)
theorem dX1_tableOf_45 : decode cX1_tableOf 45 = .ok (.invokevirtual 96, 3) := dk_182 0 96 (dk_at dksX1_tableOf_2 0 rfl rfl)
theorem dX1_tableOf_48 : decode cX1_tableOf 48 = .ok (.lload_n 3, 1) := dk_33 (dk_at dksX1_tableOf_2 3 rfl rfl)
theorem dX1_tableOf_49 : decode cX1_tableOf 49 = .ok (.aload_n 0, 1) := dk_42 (dk_at dksX1_tableOf_2 4 rfl rfl)
theorem dX1_tableOf_50 : decode cX1_tableOf 50 = .ok (.getfield 89, 3) := dk_180 0 89 (dk_at dksX1_tableOf_2 5 rfl rfl)
theorem dX1_tableOf_53 : decode cX1_tableOf 53 = .ok (.iload_n 1, 1) := dk_27 (dk_at dksX1_tableOf_2 8 rfl rfl)
theorem dX1_tableOf_54 : decode cX1_tableOf 54 = .ok (.iaload, 1) := dk_46 (dk_at dksX1_tableOf_2 9 rfl rfl)
theorem dX1_tableOf_55 : decode cX1_tableOf 55 = .ok (.i2l, 1) := dk_133 (dk_at dksX1_tableOf_2 10 rfl rfl)
theorem dX1_tableOf_56 : decode cX1_tableOf 56 = .ok (.iload 5, 2) := dk_21 5 (dk_at dksX1_tableOf_2 11 rfl rfl)
theorem dX1_tableOf_58 : decode cX1_tableOf 58 = .ok (.lshl, 1) := dk_121 (dk_at dksX1_tableOf_2 13 rfl rfl)
theorem dX1_tableOf_59 : decode cX1_tableOf 59 = .ok (.lor, 1) := dk_129 (dk_at dksX1_tableOf_2 14 rfl rfl)
theorem dX1_tableOf_60 : decode cX1_tableOf 60 = .ok (.lstore_n 3, 1) := dk_66 (dk_at dksX1_tableOf_2 15 rfl rfl)
theorem dX1_tableOf_61 : decode cX1_tableOf 61 = .ok (.iinc 5 1, 3) := dk_132 5 1 (dk_at dksX1_tableOf_2 16 rfl rfl)
theorem dX1_tableOf_64 : decode cX1_tableOf 64 = .ok (.goto (-31), 3) := dk_167 255 225 (dk_at dksX1_tableOf_2 19 rfl rfl)
theorem dX1_tableOf_67 : decode cX1_tableOf 67 = .ok (.lload_n 3, 1) := dk_33 (dk_at dksX1_tableOf_2 22 rfl rfl)
theorem dX1_tableOf_68 : decode cX1_tableOf 68 = .ok (.lreturn, 1) := dk_173 (dk_at dksX1_tableOf_2 23 rfl rfl)
abbrev cX1_answerTo : ByteArray := prog_1_method_70_code
def yX1_answerTo : MethodName := ⟨RX1, "answerTo", "(I)I"⟩
def dkwX1_answerTo_0 : List UInt8 := [27, 184, 1, 13, 42, 27, 2, 2, 182, 0, 171, 172]
abbrev dktX1_answerTo_0 : List UInt8 := dkwX1_answerTo_0 ++ []
theorem dksX1_answerTo_0 : cX1_answerTo.data.toList.drop 0 = dktX1_answerTo_0 := by decide +kernel
theorem dX1_answerTo_0 : decode cX1_answerTo 0 = .ok (.iload_n 1, 1) := dk_27 (dk_at dksX1_answerTo_0 0 rfl rfl)
theorem dX1_answerTo_1 : decode cX1_answerTo 1 = .ok (.invokestatic 269, 3) := dk_184 1 13 (dk_at dksX1_answerTo_0 1 rfl rfl)
theorem dX1_answerTo_4 : decode cX1_answerTo 4 = .ok (.aload_n 0, 1) := dk_42 (dk_at dksX1_answerTo_0 4 rfl rfl)
theorem dX1_answerTo_5 : decode cX1_answerTo 5 = .ok (.iload_n 1, 1) := dk_27 (dk_at dksX1_answerTo_0 5 rfl rfl)
theorem dX1_answerTo_6 : decode cX1_answerTo 6 = .ok (.iconst (-1), 1) := dk_2 (dk_at dksX1_answerTo_0 6 rfl rfl)
theorem dX1_answerTo_7 : decode cX1_answerTo 7 = .ok (.iconst (-1), 1) := dk_2 (dk_at dksX1_answerTo_0 7 rfl rfl)
theorem dX1_answerTo_8 : decode cX1_answerTo 8 = .ok (.invokevirtual 171, 3) := dk_182 0 171 (dk_at dksX1_answerTo_0 8 rfl rfl)
theorem dX1_answerTo_11 : decode cX1_answerTo 11 = .ok (.ireturn, 1) := dk_172 (dk_at dksX1_answerTo_0 11 rfl rfl)
abbrev cX1_inputsOf : ByteArray := prog_1_method_71_code
def yX1_inputsOf : MethodName := ⟨RX1, "inputsOf", "(IZ)I"⟩
def dkwX1_inputsOf_4 : List UInt8 := [167, 255, 197, 29, 172]
abbrev dktX1_inputsOf_4 : List UInt8 := dkwX1_inputsOf_4 ++ []
def dkwX1_inputsOf_3 : List UInt8 := [20, 0, 21, 131, 127, 9, 148, 153, 0, 10, 4, 21, 4, 120, 167, 0, 4, 3, 128, 62, 132, 4, 1]
abbrev dktX1_inputsOf_3 : List UInt8 := dkwX1_inputsOf_3 ++ dktX1_inputsOf_4
def dkwX1_inputsOf_2 : List UInt8 := [4, 21, 4, 120, 125, 55, 5, 29, 42, 180, 0, 47, 27, 47, 22, 5, 131, 178, 0, 51, 21, 4, 47]
abbrev dktX1_inputsOf_2 : List UInt8 := dkwX1_inputsOf_2 ++ dktX1_inputsOf_3
def dkwX1_inputsOf_1 : List UInt8 := [42, 2, 2, 182, 0, 106, 3, 62, 3, 54, 4, 21, 4, 16, 6, 162, 0, 58, 42, 180, 0, 47, 27, 47]
abbrev dktX1_inputsOf_1 : List UInt8 := dkwX1_inputsOf_1 ++ dktX1_inputsOf_2
def dkwX1_inputsOf_0 : List UInt8 := [42, 180, 0, 23, 27, 182, 1, 132, 184, 1, 129, 28, 154, 0, 12, 42, 27, 182, 0, 103, 16, 63, 126, 172]
abbrev dktX1_inputsOf_0 : List UInt8 := dkwX1_inputsOf_0 ++ dktX1_inputsOf_1
theorem dksX1_inputsOf_0 : cX1_inputsOf.data.toList.drop 0 = dktX1_inputsOf_0 := by decide +kernel
theorem dksX1_inputsOf_1 : cX1_inputsOf.data.toList.drop 24 = dktX1_inputsOf_1 := dk_seg dksX1_inputsOf_0 24 rfl rfl
theorem dksX1_inputsOf_2 : cX1_inputsOf.data.toList.drop 48 = dktX1_inputsOf_2 := dk_seg dksX1_inputsOf_1 24 rfl rfl
theorem dksX1_inputsOf_3 : cX1_inputsOf.data.toList.drop 71 = dktX1_inputsOf_3 := dk_seg dksX1_inputsOf_2 23 rfl rfl
theorem dksX1_inputsOf_4 : cX1_inputsOf.data.toList.drop 94 = dktX1_inputsOf_4 := dk_seg dksX1_inputsOf_3 23 rfl rfl
theorem dX1_inputsOf_0 : decode cX1_inputsOf 0 = .ok (.aload_n 0, 1) := dk_42 (dk_at dksX1_inputsOf_0 0 rfl rfl)
theorem dX1_inputsOf_1 : decode cX1_inputsOf 1 = .ok (.getfield 23, 3) := dk_180 0 23 (dk_at dksX1_inputsOf_0 1 rfl rfl)
theorem dX1_inputsOf_4 : decode cX1_inputsOf 4 = .ok (.iload_n 1, 1) := dk_27 (dk_at dksX1_inputsOf_0 4 rfl rfl)
theorem dX1_inputsOf_5 : decode cX1_inputsOf 5 = .ok (.invokevirtual 388, 3) := dk_182 1 132 (dk_at dksX1_inputsOf_0 5 rfl rfl)
theorem dX1_inputsOf_8 : decode cX1_inputsOf 8 = .ok (.invokestatic 385, 3) := dk_184 1 129 (dk_at dksX1_inputsOf_0 8 rfl rfl)
theorem dX1_inputsOf_11 : decode cX1_inputsOf 11 = .ok (.iload_n 2, 1) := dk_28 (dk_at dksX1_inputsOf_0 11 rfl rfl)
theorem dX1_inputsOf_12 : decode cX1_inputsOf 12 = .ok (.ifCond .ne 12, 3) := dk_154 0 12 (dk_at dksX1_inputsOf_0 12 rfl rfl)
theorem dX1_inputsOf_15 : decode cX1_inputsOf 15 = .ok (.aload_n 0, 1) := dk_42 (dk_at dksX1_inputsOf_0 15 rfl rfl)
theorem dX1_inputsOf_16 : decode cX1_inputsOf 16 = .ok (.iload_n 1, 1) := dk_27 (dk_at dksX1_inputsOf_0 16 rfl rfl)
theorem dX1_inputsOf_17 : decode cX1_inputsOf 17 = .ok (.invokevirtual 103, 3) := dk_182 0 103 (dk_at dksX1_inputsOf_0 17 rfl rfl)
theorem dX1_inputsOf_20 : decode cX1_inputsOf 20 = .ok (.bipush 63, 2) := dk_16 63 (dk_at dksX1_inputsOf_0 20 rfl rfl)
theorem dX1_inputsOf_22 : decode cX1_inputsOf 22 = .ok (.iand, 1) := dk_126 (dk_at dksX1_inputsOf_0 22 rfl rfl)
theorem dX1_inputsOf_23 : decode cX1_inputsOf 23 = .ok (.ireturn, 1) := dk_172 (dk_at dksX1_inputsOf_0 23 rfl rfl)
theorem dX1_inputsOf_24 : decode cX1_inputsOf 24 = .ok (.aload_n 0, 1) := dk_42 (dk_at dksX1_inputsOf_1 0 rfl rfl)
theorem dX1_inputsOf_25 : decode cX1_inputsOf 25 = .ok (.iconst (-1), 1) := dk_2 (dk_at dksX1_inputsOf_1 1 rfl rfl)
theorem dX1_inputsOf_26 : decode cX1_inputsOf 26 = .ok (.iconst (-1), 1) := dk_2 (dk_at dksX1_inputsOf_1 2 rfl rfl)
theorem dX1_inputsOf_27 : decode cX1_inputsOf 27 = .ok (.invokevirtual 106, 3) := dk_182 0 106 (dk_at dksX1_inputsOf_1 3 rfl rfl)
theorem dX1_inputsOf_30 : decode cX1_inputsOf 30 = .ok (.iconst 0, 1) := dk_3 (dk_at dksX1_inputsOf_1 6 rfl rfl)
theorem dX1_inputsOf_31 : decode cX1_inputsOf 31 = .ok (.istore_n 3, 1) := dk_62 (dk_at dksX1_inputsOf_1 7 rfl rfl)
theorem dX1_inputsOf_32 : decode cX1_inputsOf 32 = .ok (.iconst 0, 1) := dk_3 (dk_at dksX1_inputsOf_1 8 rfl rfl)
theorem dX1_inputsOf_33 : decode cX1_inputsOf 33 = .ok (.istore 4, 2) := dk_54 4 (dk_at dksX1_inputsOf_1 9 rfl rfl)
theorem dX1_inputsOf_35 : decode cX1_inputsOf 35 = .ok (.iload 4, 2) := dk_21 4 (dk_at dksX1_inputsOf_1 11 rfl rfl)
theorem dX1_inputsOf_37 : decode cX1_inputsOf 37 = .ok (.bipush 6, 2) := dk_16 6 (dk_at dksX1_inputsOf_1 13 rfl rfl)
theorem dX1_inputsOf_39 : decode cX1_inputsOf 39 = .ok (.if_icmp .ge 58, 3) := dk_162 0 58 (dk_at dksX1_inputsOf_1 15 rfl rfl)
theorem dX1_inputsOf_42 : decode cX1_inputsOf 42 = .ok (.aload_n 0, 1) := dk_42 (dk_at dksX1_inputsOf_1 18 rfl rfl)
theorem dX1_inputsOf_43 : decode cX1_inputsOf 43 = .ok (.getfield 47, 3) := dk_180 0 47 (dk_at dksX1_inputsOf_1 19 rfl rfl)
theorem dX1_inputsOf_46 : decode cX1_inputsOf 46 = .ok (.iload_n 1, 1) := dk_27 (dk_at dksX1_inputsOf_1 22 rfl rfl)
theorem dX1_inputsOf_47 : decode cX1_inputsOf 47 = .ok (.laload, 1) := dk_47 (dk_at dksX1_inputsOf_1 23 rfl rfl)
theorem dX1_inputsOf_48 : decode cX1_inputsOf 48 = .ok (.iconst 1, 1) := dk_4 (dk_at dksX1_inputsOf_2 0 rfl rfl)
theorem dX1_inputsOf_49 : decode cX1_inputsOf 49 = .ok (.iload 4, 2) := dk_21 4 (dk_at dksX1_inputsOf_2 1 rfl rfl)
theorem dX1_inputsOf_51 : decode cX1_inputsOf 51 = .ok (.ishl, 1) := dk_120 (dk_at dksX1_inputsOf_2 3 rfl rfl)
theorem dX1_inputsOf_52 : decode cX1_inputsOf 52 = .ok (.lushr, 1) := dk_125 (dk_at dksX1_inputsOf_2 4 rfl rfl)
theorem dX1_inputsOf_53 : decode cX1_inputsOf 53 = .ok (.lstore 5, 2) := dk_55 5 (dk_at dksX1_inputsOf_2 5 rfl rfl)
theorem dX1_inputsOf_55 : decode cX1_inputsOf 55 = .ok (.iload_n 3, 1) := dk_29 (dk_at dksX1_inputsOf_2 7 rfl rfl)
theorem dX1_inputsOf_56 : decode cX1_inputsOf 56 = .ok (.aload_n 0, 1) := dk_42 (dk_at dksX1_inputsOf_2 8 rfl rfl)
theorem dX1_inputsOf_57 : decode cX1_inputsOf 57 = .ok (.getfield 47, 3) := dk_180 0 47 (dk_at dksX1_inputsOf_2 9 rfl rfl)
theorem dX1_inputsOf_60 : decode cX1_inputsOf 60 = .ok (.iload_n 1, 1) := dk_27 (dk_at dksX1_inputsOf_2 12 rfl rfl)
theorem dX1_inputsOf_61 : decode cX1_inputsOf 61 = .ok (.laload, 1) := dk_47 (dk_at dksX1_inputsOf_2 13 rfl rfl)
theorem dX1_inputsOf_62 : decode cX1_inputsOf 62 = .ok (.lload 5, 2) := dk_22 5 (dk_at dksX1_inputsOf_2 14 rfl rfl)
theorem dX1_inputsOf_64 : decode cX1_inputsOf 64 = .ok (.lxor, 1) := dk_131 (dk_at dksX1_inputsOf_2 16 rfl rfl)
theorem dX1_inputsOf_65 : decode cX1_inputsOf 65 = .ok (.getstatic 51, 3) := dk_178 0 51 (dk_at dksX1_inputsOf_2 17 rfl rfl)
theorem dX1_inputsOf_68 : decode cX1_inputsOf 68 = .ok (.iload 4, 2) := dk_21 4 (dk_at dksX1_inputsOf_2 20 rfl rfl)
theorem dX1_inputsOf_70 : decode cX1_inputsOf 70 = .ok (.laload, 1) := dk_47 (dk_at dksX1_inputsOf_2 22 rfl rfl)
theorem dX1_inputsOf_71 : decode cX1_inputsOf 71 = .ok (.ldc2_w 21, 3) := dk_20 0 21 (dk_at dksX1_inputsOf_3 0 rfl rfl)
theorem dX1_inputsOf_74 : decode cX1_inputsOf 74 = .ok (.lxor, 1) := dk_131 (dk_at dksX1_inputsOf_3 3 rfl rfl)
theorem dX1_inputsOf_75 : decode cX1_inputsOf 75 = .ok (.land, 1) := dk_127 (dk_at dksX1_inputsOf_3 4 rfl rfl)
theorem dX1_inputsOf_76 : decode cX1_inputsOf 76 = .ok (.lconst 0, 1) := dk_9 (dk_at dksX1_inputsOf_3 5 rfl rfl)
theorem dX1_inputsOf_77 : decode cX1_inputsOf 77 = .ok (.lcmp, 1) := dk_148 (dk_at dksX1_inputsOf_3 6 rfl rfl)
theorem dX1_inputsOf_78 : decode cX1_inputsOf 78 = .ok (.ifCond .eq 10, 3) := dk_153 0 10 (dk_at dksX1_inputsOf_3 7 rfl rfl)
theorem dX1_inputsOf_81 : decode cX1_inputsOf 81 = .ok (.iconst 1, 1) := dk_4 (dk_at dksX1_inputsOf_3 10 rfl rfl)
theorem dX1_inputsOf_82 : decode cX1_inputsOf 82 = .ok (.iload 4, 2) := dk_21 4 (dk_at dksX1_inputsOf_3 11 rfl rfl)
theorem dX1_inputsOf_84 : decode cX1_inputsOf 84 = .ok (.ishl, 1) := dk_120 (dk_at dksX1_inputsOf_3 13 rfl rfl)
theorem dX1_inputsOf_85 : decode cX1_inputsOf 85 = .ok (.goto 4, 3) := dk_167 0 4 (dk_at dksX1_inputsOf_3 14 rfl rfl)
theorem dX1_inputsOf_88 : decode cX1_inputsOf 88 = .ok (.iconst 0, 1) := dk_3 (dk_at dksX1_inputsOf_3 17 rfl rfl)
theorem dX1_inputsOf_89 : decode cX1_inputsOf 89 = .ok (.ior, 1) := dk_128 (dk_at dksX1_inputsOf_3 18 rfl rfl)
theorem dX1_inputsOf_90 : decode cX1_inputsOf 90 = .ok (.istore_n 3, 1) := dk_62 (dk_at dksX1_inputsOf_3 19 rfl rfl)
theorem dX1_inputsOf_91 : decode cX1_inputsOf 91 = .ok (.iinc 4 1, 3) := dk_132 4 1 (dk_at dksX1_inputsOf_3 20 rfl rfl)
theorem dX1_inputsOf_94 : decode cX1_inputsOf 94 = .ok (.goto (-59), 3) := dk_167 255 197 (dk_at dksX1_inputsOf_4 0 rfl rfl)
theorem dX1_inputsOf_97 : decode cX1_inputsOf 97 = .ok (.iload_n 3, 1) := dk_29 (dk_at dksX1_inputsOf_4 3 rfl rfl)
theorem dX1_inputsOf_98 : decode cX1_inputsOf 98 = .ok (.ireturn, 1) := dk_172 (dk_at dksX1_inputsOf_4 4 rfl rfl)
abbrev cX1_depthOf : ByteArray := prog_1_method_72_code
def yX1_depthOf : MethodName := ⟨RX1, "depthOf", "(I)I"⟩
def dkwX1_depthOf_4 : List UInt8 := [79, 132, 2, 1, 167, 255, 172, 42, 180, 0, 89, 27, 46, 172]
abbrev dktX1_depthOf_4 : List UInt8 := dkwX1_depthOf_4 ++ []
def dkwX1_depthOf_3 : List UInt8 := [167, 0, 24, 4, 42, 180, 0, 89, 42, 180, 0, 23, 180, 0, 65, 29, 46, 46, 21, 4, 184, 0, 180, 96]
abbrev dktX1_depthOf_3 : List UInt8 := dkwX1_depthOf_3 ++ dktX1_depthOf_4
def dkwX1_depthOf_2 : List UInt8 := [180, 0, 68, 29, 46, 46, 167, 0, 4, 3, 54, 4, 42, 180, 0, 89, 28, 29, 156, 0, 7, 3]
abbrev dktX1_depthOf_2 : List UInt8 := dkwX1_depthOf_2 ++ dktX1_depthOf_3
def dkwX1_depthOf_1 : List UInt8 := [155, 0, 32, 42, 180, 0, 23, 29, 4, 182, 0, 100, 153, 0, 20, 42, 180, 0, 89, 42, 180, 0, 23]
abbrev dktX1_depthOf_1 : List UInt8 := dkwX1_depthOf_1 ++ dktX1_depthOf_2
def dkwX1_depthOf_0 : List UInt8 := [42, 180, 0, 23, 27, 182, 1, 132, 184, 1, 129, 3, 61, 28, 27, 163, 0, 85, 28, 16, 6, 100, 62, 29]
abbrev dktX1_depthOf_0 : List UInt8 := dkwX1_depthOf_0 ++ dktX1_depthOf_1
theorem dksX1_depthOf_0 : cX1_depthOf.data.toList.drop 0 = dktX1_depthOf_0 := by decide +kernel
theorem dksX1_depthOf_1 : cX1_depthOf.data.toList.drop 24 = dktX1_depthOf_1 := dk_seg dksX1_depthOf_0 24 rfl rfl
theorem dksX1_depthOf_2 : cX1_depthOf.data.toList.drop 47 = dktX1_depthOf_2 := dk_seg dksX1_depthOf_1 23 rfl rfl
theorem dksX1_depthOf_3 : cX1_depthOf.data.toList.drop 69 = dktX1_depthOf_3 := dk_seg dksX1_depthOf_2 22 rfl rfl
theorem dksX1_depthOf_4 : cX1_depthOf.data.toList.drop 93 = dktX1_depthOf_4 := dk_seg dksX1_depthOf_3 24 rfl rfl
theorem dX1_depthOf_0 : decode cX1_depthOf 0 = .ok (.aload_n 0, 1) := dk_42 (dk_at dksX1_depthOf_0 0 rfl rfl)
theorem dX1_depthOf_1 : decode cX1_depthOf 1 = .ok (.getfield 23, 3) := dk_180 0 23 (dk_at dksX1_depthOf_0 1 rfl rfl)
theorem dX1_depthOf_4 : decode cX1_depthOf 4 = .ok (.iload_n 1, 1) := dk_27 (dk_at dksX1_depthOf_0 4 rfl rfl)
theorem dX1_depthOf_5 : decode cX1_depthOf 5 = .ok (.invokevirtual 388, 3) := dk_182 1 132 (dk_at dksX1_depthOf_0 5 rfl rfl)
theorem dX1_depthOf_8 : decode cX1_depthOf 8 = .ok (.invokestatic 385, 3) := dk_184 1 129 (dk_at dksX1_depthOf_0 8 rfl rfl)
theorem dX1_depthOf_11 : decode cX1_depthOf 11 = .ok (.iconst 0, 1) := dk_3 (dk_at dksX1_depthOf_0 11 rfl rfl)
theorem dX1_depthOf_12 : decode cX1_depthOf 12 = .ok (.istore_n 2, 1) := dk_61 (dk_at dksX1_depthOf_0 12 rfl rfl)
theorem dX1_depthOf_13 : decode cX1_depthOf 13 = .ok (.iload_n 2, 1) := dk_28 (dk_at dksX1_depthOf_0 13 rfl rfl)
theorem dX1_depthOf_14 : decode cX1_depthOf 14 = .ok (.iload_n 1, 1) := dk_27 (dk_at dksX1_depthOf_0 14 rfl rfl)
theorem dX1_depthOf_15 : decode cX1_depthOf 15 = .ok (.if_icmp .gt 85, 3) := dk_163 0 85 (dk_at dksX1_depthOf_0 15 rfl rfl)
theorem dX1_depthOf_18 : decode cX1_depthOf 18 = .ok (.iload_n 2, 1) := dk_28 (dk_at dksX1_depthOf_0 18 rfl rfl)
theorem dX1_depthOf_19 : decode cX1_depthOf 19 = .ok (.bipush 6, 2) := dk_16 6 (dk_at dksX1_depthOf_0 19 rfl rfl)
theorem dX1_depthOf_21 : decode cX1_depthOf 21 = .ok (.isub, 1) := dk_100 (dk_at dksX1_depthOf_0 21 rfl rfl)
theorem dX1_depthOf_22 : decode cX1_depthOf 22 = .ok (.istore_n 3, 1) := dk_62 (dk_at dksX1_depthOf_0 22 rfl rfl)
theorem dX1_depthOf_23 : decode cX1_depthOf 23 = .ok (.iload_n 3, 1) := dk_29 (dk_at dksX1_depthOf_0 23 rfl rfl)
theorem dX1_depthOf_24 : decode cX1_depthOf 24 = .ok (.ifCond .lt 32, 3) := dk_155 0 32 (dk_at dksX1_depthOf_1 0 rfl rfl)
theorem dX1_depthOf_27 : decode cX1_depthOf 27 = .ok (.aload_n 0, 1) := dk_42 (dk_at dksX1_depthOf_1 3 rfl rfl)
theorem dX1_depthOf_28 : decode cX1_depthOf 28 = .ok (.getfield 23, 3) := dk_180 0 23 (dk_at dksX1_depthOf_1 4 rfl rfl)
theorem dX1_depthOf_31 : decode cX1_depthOf 31 = .ok (.iload_n 3, 1) := dk_29 (dk_at dksX1_depthOf_1 7 rfl rfl)
theorem dX1_depthOf_32 : decode cX1_depthOf 32 = .ok (.iconst 1, 1) := dk_4 (dk_at dksX1_depthOf_1 8 rfl rfl)
theorem dX1_depthOf_33 : decode cX1_depthOf 33 = .ok (.invokevirtual 100, 3) := dk_182 0 100 (dk_at dksX1_depthOf_1 9 rfl rfl)
theorem dX1_depthOf_36 : decode cX1_depthOf 36 = .ok (.ifCond .eq 20, 3) := dk_153 0 20 (dk_at dksX1_depthOf_1 12 rfl rfl)
theorem dX1_depthOf_39 : decode cX1_depthOf 39 = .ok (.aload_n 0, 1) := dk_42 (dk_at dksX1_depthOf_1 15 rfl rfl)
theorem dX1_depthOf_40 : decode cX1_depthOf 40 = .ok (.getfield 89, 3) := dk_180 0 89 (dk_at dksX1_depthOf_1 16 rfl rfl)
theorem dX1_depthOf_43 : decode cX1_depthOf 43 = .ok (.aload_n 0, 1) := dk_42 (dk_at dksX1_depthOf_1 19 rfl rfl)
theorem dX1_depthOf_44 : decode cX1_depthOf 44 = .ok (.getfield 23, 3) := dk_180 0 23 (dk_at dksX1_depthOf_1 20 rfl rfl)
theorem dX1_depthOf_47 : decode cX1_depthOf 47 = .ok (.getfield 68, 3) := dk_180 0 68 (dk_at dksX1_depthOf_2 0 rfl rfl)
theorem dX1_depthOf_50 : decode cX1_depthOf 50 = .ok (.iload_n 3, 1) := dk_29 (dk_at dksX1_depthOf_2 3 rfl rfl)
theorem dX1_depthOf_51 : decode cX1_depthOf 51 = .ok (.iaload, 1) := dk_46 (dk_at dksX1_depthOf_2 4 rfl rfl)
theorem dX1_depthOf_52 : decode cX1_depthOf 52 = .ok (.iaload, 1) := dk_46 (dk_at dksX1_depthOf_2 5 rfl rfl)
theorem dX1_depthOf_53 : decode cX1_depthOf 53 = .ok (.goto 4, 3) := dk_167 0 4 (dk_at dksX1_depthOf_2 6 rfl rfl)
theorem dX1_depthOf_56 : decode cX1_depthOf 56 = .ok (.iconst 0, 1) := dk_3 (dk_at dksX1_depthOf_2 9 rfl rfl)
theorem dX1_depthOf_57 : decode cX1_depthOf 57 = .ok (.istore 4, 2) := dk_54 4 (dk_at dksX1_depthOf_2 10 rfl rfl)
theorem dX1_depthOf_59 : decode cX1_depthOf 59 = .ok (.aload_n 0, 1) := dk_42 (dk_at dksX1_depthOf_2 12 rfl rfl)
theorem dX1_depthOf_60 : decode cX1_depthOf 60 = .ok (.getfield 89, 3) := dk_180 0 89 (dk_at dksX1_depthOf_2 13 rfl rfl)
theorem dX1_depthOf_63 : decode cX1_depthOf 63 = .ok (.iload_n 2, 1) := dk_28 (dk_at dksX1_depthOf_2 16 rfl rfl)
theorem dX1_depthOf_64 : decode cX1_depthOf 64 = .ok (.iload_n 3, 1) := dk_29 (dk_at dksX1_depthOf_2 17 rfl rfl)
theorem dX1_depthOf_65 : decode cX1_depthOf 65 = .ok (.ifCond .ge 7, 3) := dk_156 0 7 (dk_at dksX1_depthOf_2 18 rfl rfl)
theorem dX1_depthOf_68 : decode cX1_depthOf 68 = .ok (.iconst 0, 1) := dk_3 (dk_at dksX1_depthOf_2 21 rfl rfl)
theorem dX1_depthOf_69 : decode cX1_depthOf 69 = .ok (.goto 24, 3) := dk_167 0 24 (dk_at dksX1_depthOf_3 0 rfl rfl)
theorem dX1_depthOf_72 : decode cX1_depthOf 72 = .ok (.iconst 1, 1) := dk_4 (dk_at dksX1_depthOf_3 3 rfl rfl)
theorem dX1_depthOf_73 : decode cX1_depthOf 73 = .ok (.aload_n 0, 1) := dk_42 (dk_at dksX1_depthOf_3 4 rfl rfl)
theorem dX1_depthOf_74 : decode cX1_depthOf 74 = .ok (.getfield 89, 3) := dk_180 0 89 (dk_at dksX1_depthOf_3 5 rfl rfl)
theorem dX1_depthOf_77 : decode cX1_depthOf 77 = .ok (.aload_n 0, 1) := dk_42 (dk_at dksX1_depthOf_3 8 rfl rfl)
theorem dX1_depthOf_78 : decode cX1_depthOf 78 = .ok (.getfield 23, 3) := dk_180 0 23 (dk_at dksX1_depthOf_3 9 rfl rfl)
theorem dX1_depthOf_81 : decode cX1_depthOf 81 = .ok (.getfield 65, 3) := dk_180 0 65 (dk_at dksX1_depthOf_3 12 rfl rfl)
theorem dX1_depthOf_84 : decode cX1_depthOf 84 = .ok (.iload_n 3, 1) := dk_29 (dk_at dksX1_depthOf_3 15 rfl rfl)
theorem dX1_depthOf_85 : decode cX1_depthOf 85 = .ok (.iaload, 1) := dk_46 (dk_at dksX1_depthOf_3 16 rfl rfl)
theorem dX1_depthOf_86 : decode cX1_depthOf 86 = .ok (.iaload, 1) := dk_46 (dk_at dksX1_depthOf_3 17 rfl rfl)
theorem dX1_depthOf_87 : decode cX1_depthOf 87 = .ok (.iload 4, 2) := dk_21 4 (dk_at dksX1_depthOf_3 18 rfl rfl)
theorem dX1_depthOf_89 : decode cX1_depthOf 89 = .ok (.invokestatic 180, 3) := dk_184 0 180 (dk_at dksX1_depthOf_3 20 rfl rfl)
theorem dX1_depthOf_92 : decode cX1_depthOf 92 = .ok (.iadd, 1) := dk_96 (dk_at dksX1_depthOf_3 23 rfl rfl)
theorem dX1_depthOf_93 : decode cX1_depthOf 93 = .ok (.iastore, 1) := dk_79 (dk_at dksX1_depthOf_4 0 rfl rfl)
theorem dX1_depthOf_94 : decode cX1_depthOf 94 = .ok (.iinc 2 1, 3) := dk_132 2 1 (dk_at dksX1_depthOf_4 1 rfl rfl)
theorem dX1_depthOf_97 : decode cX1_depthOf 97 = .ok (.goto (-84), 3) := dk_167 255 172 (dk_at dksX1_depthOf_4 4 rfl rfl)
theorem dX1_depthOf_100 : decode cX1_depthOf 100 = .ok (.aload_n 0, 1) := dk_42 (dk_at dksX1_depthOf_4 7 rfl rfl)
theorem dX1_depthOf_101 : decode cX1_depthOf 101 = .ok (.getfield 89, 3) := dk_180 0 89 (dk_at dksX1_depthOf_4 8 rfl rfl)
theorem dX1_depthOf_104 : decode cX1_depthOf 104 = .ok (.iload_n 1, 1) := dk_27 (dk_at dksX1_depthOf_4 11 rfl rfl)
theorem dX1_depthOf_105 : decode cX1_depthOf 105 = .ok (.iaload, 1) := dk_46 (dk_at dksX1_depthOf_4 12 rfl rfl)
theorem dX1_depthOf_106 : decode cX1_depthOf 106 = .ok (.ireturn, 1) := dk_172 (dk_at dksX1_depthOf_4 13 rfl rfl)
abbrev cX1_shows : ByteArray := prog_1_method_74_code
def yX1_shows : MethodName := ⟨RX1, "shows", "(II)Z"⟩
def dkwX1_shows_1 : List UInt8 := [159, 0, 7, 4, 167, 0, 4, 3, 172]
abbrev dktX1_shows_1 : List UInt8 := dkwX1_shows_1 ++ []
def dkwX1_shows_0 : List UInt8 := [42, 28, 182, 1, 138, 27, 184, 1, 13, 42, 27, 2, 2, 182, 0, 171, 42, 27, 2, 28, 182, 0, 171]
abbrev dktX1_shows_0 : List UInt8 := dkwX1_shows_0 ++ dktX1_shows_1
theorem dksX1_shows_0 : cX1_shows.data.toList.drop 0 = dktX1_shows_0 := by decide +kernel
theorem dksX1_shows_1 : cX1_shows.data.toList.drop 23 = dktX1_shows_1 := dk_seg dksX1_shows_0 23 rfl rfl
theorem dX1_shows_0 : decode cX1_shows 0 = .ok (.aload_n 0, 1) := dk_42 (dk_at dksX1_shows_0 0 rfl rfl)
theorem dX1_shows_1 : decode cX1_shows 1 = .ok (.iload_n 2, 1) := dk_28 (dk_at dksX1_shows_0 1 rfl rfl)
theorem dX1_shows_2 : decode cX1_shows 2 = .ok (.invokevirtual 394, 3) := dk_182 1 138 (dk_at dksX1_shows_0 2 rfl rfl)
theorem dX1_shows_5 : decode cX1_shows 5 = .ok (.iload_n 1, 1) := dk_27 (dk_at dksX1_shows_0 5 rfl rfl)
theorem dX1_shows_6 : decode cX1_shows 6 = .ok (.invokestatic 269, 3) := dk_184 1 13 (dk_at dksX1_shows_0 6 rfl rfl)
theorem dX1_shows_9 : decode cX1_shows 9 = .ok (.aload_n 0, 1) := dk_42 (dk_at dksX1_shows_0 9 rfl rfl)
theorem dX1_shows_10 : decode cX1_shows 10 = .ok (.iload_n 1, 1) := dk_27 (dk_at dksX1_shows_0 10 rfl rfl)
theorem dX1_shows_11 : decode cX1_shows 11 = .ok (.iconst (-1), 1) := dk_2 (dk_at dksX1_shows_0 11 rfl rfl)
theorem dX1_shows_12 : decode cX1_shows 12 = .ok (.iconst (-1), 1) := dk_2 (dk_at dksX1_shows_0 12 rfl rfl)
theorem dX1_shows_13 : decode cX1_shows 13 = .ok (.invokevirtual 171, 3) := dk_182 0 171 (dk_at dksX1_shows_0 13 rfl rfl)
theorem dX1_shows_16 : decode cX1_shows 16 = .ok (.aload_n 0, 1) := dk_42 (dk_at dksX1_shows_0 16 rfl rfl)
theorem dX1_shows_17 : decode cX1_shows 17 = .ok (.iload_n 1, 1) := dk_27 (dk_at dksX1_shows_0 17 rfl rfl)
theorem dX1_shows_18 : decode cX1_shows 18 = .ok (.iconst (-1), 1) := dk_2 (dk_at dksX1_shows_0 18 rfl rfl)
theorem dX1_shows_19 : decode cX1_shows 19 = .ok (.iload_n 2, 1) := dk_28 (dk_at dksX1_shows_0 19 rfl rfl)
theorem dX1_shows_20 : decode cX1_shows 20 = .ok (.invokevirtual 171, 3) := dk_182 0 171 (dk_at dksX1_shows_0 20 rfl rfl)
theorem dX1_shows_23 : decode cX1_shows 23 = .ok (.if_icmp .eq 7, 3) := dk_159 0 7 (dk_at dksX1_shows_1 0 rfl rfl)
theorem dX1_shows_26 : decode cX1_shows 26 = .ok (.iconst 1, 1) := dk_4 (dk_at dksX1_shows_1 3 rfl rfl)
theorem dX1_shows_27 : decode cX1_shows 27 = .ok (.goto 4, 3) := dk_167 0 4 (dk_at dksX1_shows_1 4 rfl rfl)
theorem dX1_shows_30 : decode cX1_shows 30 = .ok (.iconst 0, 1) := dk_3 (dk_at dksX1_shows_1 7 rfl rfl)
theorem dX1_shows_31 : decode cX1_shows 31 = .ok (.ireturn, 1) := dk_172 (dk_at dksX1_shows_1 8 rfl rfl)
abbrev cX1_testsFor : ByteArray := prog_1_method_75_code
def yX1_testsFor : MethodName := ⟨RX1, "testsFor", "(I)J"⟩
def dkwX1_testsFor_0 : List UInt8 := [42, 27, 182, 1, 138, 42, 27, 2, 182, 0, 122, 173]
abbrev dktX1_testsFor_0 : List UInt8 := dkwX1_testsFor_0 ++ []
theorem dksX1_testsFor_0 : cX1_testsFor.data.toList.drop 0 = dktX1_testsFor_0 := by decide +kernel
theorem dX1_testsFor_0 : decode cX1_testsFor 0 = .ok (.aload_n 0, 1) := dk_42 (dk_at dksX1_testsFor_0 0 rfl rfl)
theorem dX1_testsFor_1 : decode cX1_testsFor 1 = .ok (.iload_n 1, 1) := dk_27 (dk_at dksX1_testsFor_0 1 rfl rfl)
theorem dX1_testsFor_2 : decode cX1_testsFor 2 = .ok (.invokevirtual 394, 3) := dk_182 1 138 (dk_at dksX1_testsFor_0 2 rfl rfl)
theorem dX1_testsFor_5 : decode cX1_testsFor 5 = .ok (.aload_n 0, 1) := dk_42 (dk_at dksX1_testsFor_0 5 rfl rfl)
theorem dX1_testsFor_6 : decode cX1_testsFor 6 = .ok (.iload_n 1, 1) := dk_27 (dk_at dksX1_testsFor_0 6 rfl rfl)
theorem dX1_testsFor_7 : decode cX1_testsFor 7 = .ok (.iconst (-1), 1) := dk_2 (dk_at dksX1_testsFor_0 7 rfl rfl)
theorem dX1_testsFor_8 : decode cX1_testsFor 8 = .ok (.invokevirtual 122, 3) := dk_182 0 122 (dk_at dksX1_testsFor_0 8 rfl rfl)
theorem dX1_testsFor_11 : decode cX1_testsFor 11 = .ok (.lreturn, 1) := dk_173 (dk_at dksX1_testsFor_0 11 rfl rfl)
abbrev cX1_whyHidden : ByteArray := prog_1_method_77_code
def yX1_whyHidden : MethodName := ⟨RX1, "whyHidden", "(I)I"⟩
def dkwX1_whyHidden_2 : List UInt8 := [5, 112, 133, 117, 148, 154, 0, 7, 5, 167, 0, 4, 6, 172]
abbrev dktX1_whyHidden_2 : List UInt8 := dkwX1_whyHidden_2 ++ []
def dkwX1_whyHidden_1 : List UInt8 := [108, 184, 0, 33, 154, 0, 5, 4, 172, 42, 2, 2, 182, 0, 106, 42, 180, 0, 47, 27, 5, 108, 47, 27]
abbrev dktX1_whyHidden_1 : List UInt8 := dkwX1_whyHidden_1 ++ dktX1_whyHidden_2
def dkwX1_whyHidden_0 : List UInt8 := [42, 27, 182, 1, 138, 42, 27, 2, 182, 0, 122, 9, 148, 153, 0, 5, 3, 172, 42, 182, 1, 135, 27, 5]
abbrev dktX1_whyHidden_0 : List UInt8 := dkwX1_whyHidden_0 ++ dktX1_whyHidden_1
theorem dksX1_whyHidden_0 : cX1_whyHidden.data.toList.drop 0 = dktX1_whyHidden_0 := by decide +kernel
theorem dksX1_whyHidden_1 : cX1_whyHidden.data.toList.drop 24 = dktX1_whyHidden_1 := dk_seg dksX1_whyHidden_0 24 rfl rfl
theorem dksX1_whyHidden_2 : cX1_whyHidden.data.toList.drop 48 = dktX1_whyHidden_2 := dk_seg dksX1_whyHidden_1 24 rfl rfl
theorem dX1_whyHidden_0 : decode cX1_whyHidden 0 = .ok (.aload_n 0, 1) := dk_42 (dk_at dksX1_whyHidden_0 0 rfl rfl)
theorem dX1_whyHidden_1 : decode cX1_whyHidden 1 = .ok (.iload_n 1, 1) := dk_27 (dk_at dksX1_whyHidden_0 1 rfl rfl)
theorem dX1_whyHidden_2 : decode cX1_whyHidden 2 = .ok (.invokevirtual 394, 3) := dk_182 1 138 (dk_at dksX1_whyHidden_0 2 rfl rfl)
theorem dX1_whyHidden_5 : decode cX1_whyHidden 5 = .ok (.aload_n 0, 1) := dk_42 (dk_at dksX1_whyHidden_0 5 rfl rfl)
theorem dX1_whyHidden_6 : decode cX1_whyHidden 6 = .ok (.iload_n 1, 1) := dk_27 (dk_at dksX1_whyHidden_0 6 rfl rfl)
theorem dX1_whyHidden_7 : decode cX1_whyHidden 7 = .ok (.iconst (-1), 1) := dk_2 (dk_at dksX1_whyHidden_0 7 rfl rfl)
theorem dX1_whyHidden_8 : decode cX1_whyHidden 8 = .ok (.invokevirtual 122, 3) := dk_182 0 122 (dk_at dksX1_whyHidden_0 8 rfl rfl)
theorem dX1_whyHidden_11 : decode cX1_whyHidden 11 = .ok (.lconst 0, 1) := dk_9 (dk_at dksX1_whyHidden_0 11 rfl rfl)
theorem dX1_whyHidden_12 : decode cX1_whyHidden 12 = .ok (.lcmp, 1) := dk_148 (dk_at dksX1_whyHidden_0 12 rfl rfl)
theorem dX1_whyHidden_13 : decode cX1_whyHidden 13 = .ok (.ifCond .eq 5, 3) := dk_153 0 5 (dk_at dksX1_whyHidden_0 13 rfl rfl)
theorem dX1_whyHidden_16 : decode cX1_whyHidden 16 = .ok (.iconst 0, 1) := dk_3 (dk_at dksX1_whyHidden_0 16 rfl rfl)
theorem dX1_whyHidden_17 : decode cX1_whyHidden 17 = .ok (.ireturn, 1) := dk_172 (dk_at dksX1_whyHidden_0 17 rfl rfl)
theorem dX1_whyHidden_18 : decode cX1_whyHidden 18 = .ok (.aload_n 0, 1) := dk_42 (dk_at dksX1_whyHidden_0 18 rfl rfl)
theorem dX1_whyHidden_19 : decode cX1_whyHidden 19 = .ok (.invokevirtual 391, 3) := dk_182 1 135 (dk_at dksX1_whyHidden_0 19 rfl rfl)
theorem dX1_whyHidden_22 : decode cX1_whyHidden 22 = .ok (.iload_n 1, 1) := dk_27 (dk_at dksX1_whyHidden_0 22 rfl rfl)
theorem dX1_whyHidden_23 : decode cX1_whyHidden 23 = .ok (.iconst 2, 1) := dk_5 (dk_at dksX1_whyHidden_0 23 rfl rfl)
theorem dX1_whyHidden_24 : decode cX1_whyHidden 24 = .ok (.idiv, 1) := dk_108 (dk_at dksX1_whyHidden_1 0 rfl rfl)
theorem dX1_whyHidden_25 : decode cX1_whyHidden 25 = .ok (.invokestatic 33, 3) := dk_184 0 33 (dk_at dksX1_whyHidden_1 1 rfl rfl)
theorem dX1_whyHidden_28 : decode cX1_whyHidden 28 = .ok (.ifCond .ne 5, 3) := dk_154 0 5 (dk_at dksX1_whyHidden_1 4 rfl rfl)
theorem dX1_whyHidden_31 : decode cX1_whyHidden 31 = .ok (.iconst 1, 1) := dk_4 (dk_at dksX1_whyHidden_1 7 rfl rfl)
theorem dX1_whyHidden_32 : decode cX1_whyHidden 32 = .ok (.ireturn, 1) := dk_172 (dk_at dksX1_whyHidden_1 8 rfl rfl)
theorem dX1_whyHidden_33 : decode cX1_whyHidden 33 = .ok (.aload_n 0, 1) := dk_42 (dk_at dksX1_whyHidden_1 9 rfl rfl)
theorem dX1_whyHidden_34 : decode cX1_whyHidden 34 = .ok (.iconst (-1), 1) := dk_2 (dk_at dksX1_whyHidden_1 10 rfl rfl)
theorem dX1_whyHidden_35 : decode cX1_whyHidden 35 = .ok (.iconst (-1), 1) := dk_2 (dk_at dksX1_whyHidden_1 11 rfl rfl)
theorem dX1_whyHidden_36 : decode cX1_whyHidden 36 = .ok (.invokevirtual 106, 3) := dk_182 0 106 (dk_at dksX1_whyHidden_1 12 rfl rfl)
theorem dX1_whyHidden_39 : decode cX1_whyHidden 39 = .ok (.aload_n 0, 1) := dk_42 (dk_at dksX1_whyHidden_1 15 rfl rfl)
theorem dX1_whyHidden_40 : decode cX1_whyHidden 40 = .ok (.getfield 47, 3) := dk_180 0 47 (dk_at dksX1_whyHidden_1 16 rfl rfl)
theorem dX1_whyHidden_43 : decode cX1_whyHidden 43 = .ok (.iload_n 1, 1) := dk_27 (dk_at dksX1_whyHidden_1 19 rfl rfl)
theorem dX1_whyHidden_44 : decode cX1_whyHidden 44 = .ok (.iconst 2, 1) := dk_5 (dk_at dksX1_whyHidden_1 20 rfl rfl)
theorem dX1_whyHidden_45 : decode cX1_whyHidden 45 = .ok (.idiv, 1) := dk_108 (dk_at dksX1_whyHidden_1 21 rfl rfl)
theorem dX1_whyHidden_46 : decode cX1_whyHidden 46 = .ok (.laload, 1) := dk_47 (dk_at dksX1_whyHidden_1 22 rfl rfl)
theorem dX1_whyHidden_47 : decode cX1_whyHidden 47 = .ok (.iload_n 1, 1) := dk_27 (dk_at dksX1_whyHidden_1 23 rfl rfl)
theorem dX1_whyHidden_48 : decode cX1_whyHidden 48 = .ok (.iconst 2, 1) := dk_5 (dk_at dksX1_whyHidden_2 0 rfl rfl)
theorem dX1_whyHidden_49 : decode cX1_whyHidden 49 = .ok (.irem, 1) := dk_112 (dk_at dksX1_whyHidden_2 1 rfl rfl)
theorem dX1_whyHidden_50 : decode cX1_whyHidden 50 = .ok (.i2l, 1) := dk_133 (dk_at dksX1_whyHidden_2 2 rfl rfl)
theorem dX1_whyHidden_51 : decode cX1_whyHidden 51 = .ok (.lneg, 1) := dk_117 (dk_at dksX1_whyHidden_2 3 rfl rfl)
theorem dX1_whyHidden_52 : decode cX1_whyHidden 52 = .ok (.lcmp, 1) := dk_148 (dk_at dksX1_whyHidden_2 4 rfl rfl)
theorem dX1_whyHidden_53 : decode cX1_whyHidden 53 = .ok (.ifCond .ne 7, 3) := dk_154 0 7 (dk_at dksX1_whyHidden_2 5 rfl rfl)
theorem dX1_whyHidden_56 : decode cX1_whyHidden 56 = .ok (.iconst 2, 1) := dk_5 (dk_at dksX1_whyHidden_2 8 rfl rfl)
theorem dX1_whyHidden_57 : decode cX1_whyHidden 57 = .ok (.goto 4, 3) := dk_167 0 4 (dk_at dksX1_whyHidden_2 9 rfl rfl)
theorem dX1_whyHidden_60 : decode cX1_whyHidden 60 = .ok (.iconst 3, 1) := dk_6 (dk_at dksX1_whyHidden_2 12 rfl rfl)
theorem dX1_whyHidden_61 : decode cX1_whyHidden 61 = .ok (.ireturn, 1) := dk_172 (dk_at dksX1_whyHidden_2 13 rfl rfl)
abbrev cX1_testsBetween : ByteArray := prog_1_method_82_code
def yX1_testsBetween : MethodName := ⟨RX1, "testsBetween", "(II)J"⟩
def dkwX1_testsBetween_0 : List UInt8 := [42, 27, 182, 1, 138, 42, 28, 182, 1, 138, 42, 27, 28, 182, 0, 122, 173]
abbrev dktX1_testsBetween_0 : List UInt8 := dkwX1_testsBetween_0 ++ []
theorem dksX1_testsBetween_0 : cX1_testsBetween.data.toList.drop 0 = dktX1_testsBetween_0 := by decide +kernel
theorem dX1_testsBetween_0 : decode cX1_testsBetween 0 = .ok (.aload_n 0, 1) := dk_42 (dk_at dksX1_testsBetween_0 0 rfl rfl)
theorem dX1_testsBetween_1 : decode cX1_testsBetween 1 = .ok (.iload_n 1, 1) := dk_27 (dk_at dksX1_testsBetween_0 1 rfl rfl)
theorem dX1_testsBetween_2 : decode cX1_testsBetween 2 = .ok (.invokevirtual 394, 3) := dk_182 1 138 (dk_at dksX1_testsBetween_0 2 rfl rfl)
theorem dX1_testsBetween_5 : decode cX1_testsBetween 5 = .ok (.aload_n 0, 1) := dk_42 (dk_at dksX1_testsBetween_0 5 rfl rfl)
theorem dX1_testsBetween_6 : decode cX1_testsBetween 6 = .ok (.iload_n 2, 1) := dk_28 (dk_at dksX1_testsBetween_0 6 rfl rfl)
theorem dX1_testsBetween_7 : decode cX1_testsBetween 7 = .ok (.invokevirtual 394, 3) := dk_182 1 138 (dk_at dksX1_testsBetween_0 7 rfl rfl)
theorem dX1_testsBetween_10 : decode cX1_testsBetween 10 = .ok (.aload_n 0, 1) := dk_42 (dk_at dksX1_testsBetween_0 10 rfl rfl)
theorem dX1_testsBetween_11 : decode cX1_testsBetween 11 = .ok (.iload_n 1, 1) := dk_27 (dk_at dksX1_testsBetween_0 11 rfl rfl)
theorem dX1_testsBetween_12 : decode cX1_testsBetween 12 = .ok (.iload_n 2, 1) := dk_28 (dk_at dksX1_testsBetween_0 12 rfl rfl)
theorem dX1_testsBetween_13 : decode cX1_testsBetween 13 = .ok (.invokevirtual 122, 3) := dk_182 0 122 (dk_at dksX1_testsBetween_0 13 rfl rfl)
theorem dX1_testsBetween_16 : decode cX1_testsBetween 16 = .ok (.lreturn, 1) := dk_173 (dk_at dksX1_testsBetween_0 16 rfl rfl)
abbrev cX1_askedAt : ByteArray := prog_1_method_90_code
def yX1_askedAt : MethodName := ⟨RX1, "askedAt", "(I)I"⟩
def dkwX1_askedAt_1 : List UInt8 := [27, 46, 172]
abbrev dktX1_askedAt_1 : List UInt8 := dkwX1_askedAt_1 ++ []
def dkwX1_askedAt_0 : List UInt8 := [27, 3, 42, 180, 0, 23, 180, 0, 156, 4, 100, 184, 0, 248, 184, 1, 129, 42, 180, 0, 23, 180, 0, 159]
abbrev dktX1_askedAt_0 : List UInt8 := dkwX1_askedAt_0 ++ dktX1_askedAt_1
theorem dksX1_askedAt_0 : cX1_askedAt.data.toList.drop 0 = dktX1_askedAt_0 := by decide +kernel
theorem dksX1_askedAt_1 : cX1_askedAt.data.toList.drop 24 = dktX1_askedAt_1 := dk_seg dksX1_askedAt_0 24 rfl rfl
theorem dX1_askedAt_0 : decode cX1_askedAt 0 = .ok (.iload_n 1, 1) := dk_27 (dk_at dksX1_askedAt_0 0 rfl rfl)
theorem dX1_askedAt_1 : decode cX1_askedAt 1 = .ok (.iconst 0, 1) := dk_3 (dk_at dksX1_askedAt_0 1 rfl rfl)
theorem dX1_askedAt_2 : decode cX1_askedAt 2 = .ok (.aload_n 0, 1) := dk_42 (dk_at dksX1_askedAt_0 2 rfl rfl)
theorem dX1_askedAt_3 : decode cX1_askedAt 3 = .ok (.getfield 23, 3) := dk_180 0 23 (dk_at dksX1_askedAt_0 3 rfl rfl)
theorem dX1_askedAt_6 : decode cX1_askedAt 6 = .ok (.getfield 156, 3) := dk_180 0 156 (dk_at dksX1_askedAt_0 6 rfl rfl)
theorem dX1_askedAt_9 : decode cX1_askedAt 9 = .ok (.iconst 1, 1) := dk_4 (dk_at dksX1_askedAt_0 9 rfl rfl)
theorem dX1_askedAt_10 : decode cX1_askedAt 10 = .ok (.isub, 1) := dk_100 (dk_at dksX1_askedAt_0 10 rfl rfl)
theorem dX1_askedAt_11 : decode cX1_askedAt 11 = .ok (.invokestatic 248, 3) := dk_184 0 248 (dk_at dksX1_askedAt_0 11 rfl rfl)
theorem dX1_askedAt_14 : decode cX1_askedAt 14 = .ok (.invokestatic 385, 3) := dk_184 1 129 (dk_at dksX1_askedAt_0 14 rfl rfl)
theorem dX1_askedAt_17 : decode cX1_askedAt 17 = .ok (.aload_n 0, 1) := dk_42 (dk_at dksX1_askedAt_0 17 rfl rfl)
theorem dX1_askedAt_18 : decode cX1_askedAt 18 = .ok (.getfield 23, 3) := dk_180 0 23 (dk_at dksX1_askedAt_0 18 rfl rfl)
theorem dX1_askedAt_21 : decode cX1_askedAt 21 = .ok (.getfield 159, 3) := dk_180 0 159 (dk_at dksX1_askedAt_0 21 rfl rfl)
theorem dX1_askedAt_24 : decode cX1_askedAt 24 = .ok (.iload_n 1, 1) := dk_27 (dk_at dksX1_askedAt_1 0 rfl rfl)
theorem dX1_askedAt_25 : decode cX1_askedAt 25 = .ok (.iaload, 1) := dk_46 (dk_at dksX1_askedAt_1 1 rfl rfl)
theorem dX1_askedAt_26 : decode cX1_askedAt 26 = .ok (.ireturn, 1) := dk_172 (dk_at dksX1_askedAt_1 2 rfl rfl)
abbrev cX1_candidateAt : ByteArray := prog_1_method_93_code
def yX1_candidateAt : MethodName := ⟨RX1, "candidateAt", "(I)I"⟩
def dkwX1_candidateAt_3 : List UInt8 := [132, 6, 1, 167, 255, 219, 132, 5, 1, 167, 255, 204, 2, 172]
abbrev dktX1_candidateAt_3 : List UInt8 := dkwX1_candidateAt_3 ++ []
def dkwX1_candidateAt_2 : List UInt8 := [21, 6, 182, 0, 174, 153, 0, 19, 28, 154, 0, 12, 16, 37, 21, 5, 104, 21, 6, 96, 172, 132, 2, 255]
abbrev dktX1_candidateAt_2 : List UInt8 := dkwX1_candidateAt_2 ++ dktX1_candidateAt_3
def dkwX1_candidateAt_1 : List UInt8 := [54, 4, 3, 54, 5, 21, 5, 29, 162, 0, 52, 3, 54, 6, 21, 6, 21, 4, 162, 0, 36, 42, 21, 5]
abbrev dktX1_candidateAt_1 : List UInt8 := dkwX1_candidateAt_1 ++ dktX1_candidateAt_2
def dkwX1_candidateAt_0 : List UInt8 := [27, 155, 0, 7, 4, 167, 0, 4, 3, 184, 0, 252, 27, 61, 42, 182, 0, 162, 62, 42, 182, 0, 165]
abbrev dktX1_candidateAt_0 : List UInt8 := dkwX1_candidateAt_0 ++ dktX1_candidateAt_1
theorem dksX1_candidateAt_0 : cX1_candidateAt.data.toList.drop 0 = dktX1_candidateAt_0 := by decide +kernel
theorem dksX1_candidateAt_1 : cX1_candidateAt.data.toList.drop 23 = dktX1_candidateAt_1 := dk_seg dksX1_candidateAt_0 23 rfl rfl
theorem dksX1_candidateAt_2 : cX1_candidateAt.data.toList.drop 47 = dktX1_candidateAt_2 := dk_seg dksX1_candidateAt_1 24 rfl rfl
theorem dksX1_candidateAt_3 : cX1_candidateAt.data.toList.drop 71 = dktX1_candidateAt_3 := dk_seg dksX1_candidateAt_2 24 rfl rfl
theorem dX1_candidateAt_0 : decode cX1_candidateAt 0 = .ok (.iload_n 1, 1) := dk_27 (dk_at dksX1_candidateAt_0 0 rfl rfl)
theorem dX1_candidateAt_1 : decode cX1_candidateAt 1 = .ok (.ifCond .lt 7, 3) := dk_155 0 7 (dk_at dksX1_candidateAt_0 1 rfl rfl)
theorem dX1_candidateAt_4 : decode cX1_candidateAt 4 = .ok (.iconst 1, 1) := dk_4 (dk_at dksX1_candidateAt_0 4 rfl rfl)
theorem dX1_candidateAt_5 : decode cX1_candidateAt 5 = .ok (.goto 4, 3) := dk_167 0 4 (dk_at dksX1_candidateAt_0 5 rfl rfl)
theorem dX1_candidateAt_8 : decode cX1_candidateAt 8 = .ok (.iconst 0, 1) := dk_3 (dk_at dksX1_candidateAt_0 8 rfl rfl)
theorem dX1_candidateAt_9 : decode cX1_candidateAt 9 = .ok (.invokestatic 252, 3) := dk_184 0 252 (dk_at dksX1_candidateAt_0 9 rfl rfl)
theorem dX1_candidateAt_12 : decode cX1_candidateAt 12 = .ok (.iload_n 1, 1) := dk_27 (dk_at dksX1_candidateAt_0 12 rfl rfl)
theorem dX1_candidateAt_13 : decode cX1_candidateAt 13 = .ok (.istore_n 2, 1) := dk_61 (dk_at dksX1_candidateAt_0 13 rfl rfl)
theorem dX1_candidateAt_14 : decode cX1_candidateAt 14 = .ok (.aload_n 0, 1) := dk_42 (dk_at dksX1_candidateAt_0 14 rfl rfl)
theorem dX1_candidateAt_15 : decode cX1_candidateAt 15 = .ok (.invokevirtual 162, 3) := dk_182 0 162 (dk_at dksX1_candidateAt_0 15 rfl rfl)
theorem dX1_candidateAt_18 : decode cX1_candidateAt 18 = .ok (.istore_n 3, 1) := dk_62 (dk_at dksX1_candidateAt_0 18 rfl rfl)
theorem dX1_candidateAt_19 : decode cX1_candidateAt 19 = .ok (.aload_n 0, 1) := dk_42 (dk_at dksX1_candidateAt_0 19 rfl rfl)
theorem dX1_candidateAt_20 : decode cX1_candidateAt 20 = .ok (.invokevirtual 165, 3) := dk_182 0 165 (dk_at dksX1_candidateAt_0 20 rfl rfl)
theorem dX1_candidateAt_23 : decode cX1_candidateAt 23 = .ok (.istore 4, 2) := dk_54 4 (dk_at dksX1_candidateAt_1 0 rfl rfl)
theorem dX1_candidateAt_25 : decode cX1_candidateAt 25 = .ok (.iconst 0, 1) := dk_3 (dk_at dksX1_candidateAt_1 2 rfl rfl)
theorem dX1_candidateAt_26 : decode cX1_candidateAt 26 = .ok (.istore 5, 2) := dk_54 5 (dk_at dksX1_candidateAt_1 3 rfl rfl)
theorem dX1_candidateAt_28 : decode cX1_candidateAt 28 = .ok (.iload 5, 2) := dk_21 5 (dk_at dksX1_candidateAt_1 5 rfl rfl)
theorem dX1_candidateAt_30 : decode cX1_candidateAt 30 = .ok (.iload_n 3, 1) := dk_29 (dk_at dksX1_candidateAt_1 7 rfl rfl)
theorem dX1_candidateAt_31 : decode cX1_candidateAt 31 = .ok (.if_icmp .ge 52, 3) := dk_162 0 52 (dk_at dksX1_candidateAt_1 8 rfl rfl)
theorem dX1_candidateAt_34 : decode cX1_candidateAt 34 = .ok (.iconst 0, 1) := dk_3 (dk_at dksX1_candidateAt_1 11 rfl rfl)
theorem dX1_candidateAt_35 : decode cX1_candidateAt 35 = .ok (.istore 6, 2) := dk_54 6 (dk_at dksX1_candidateAt_1 12 rfl rfl)
theorem dX1_candidateAt_37 : decode cX1_candidateAt 37 = .ok (.iload 6, 2) := dk_21 6 (dk_at dksX1_candidateAt_1 14 rfl rfl)
theorem dX1_candidateAt_39 : decode cX1_candidateAt 39 = .ok (.iload 4, 2) := dk_21 4 (dk_at dksX1_candidateAt_1 16 rfl rfl)
theorem dX1_candidateAt_41 : decode cX1_candidateAt 41 = .ok (.if_icmp .ge 36, 3) := dk_162 0 36 (dk_at dksX1_candidateAt_1 18 rfl rfl)
theorem dX1_candidateAt_44 : decode cX1_candidateAt 44 = .ok (.aload_n 0, 1) := dk_42 (dk_at dksX1_candidateAt_1 21 rfl rfl)
theorem dX1_candidateAt_45 : decode cX1_candidateAt 45 = .ok (.iload 5, 2) := dk_21 5 (dk_at dksX1_candidateAt_1 22 rfl rfl)
theorem dX1_candidateAt_47 : decode cX1_candidateAt 47 = .ok (.iload 6, 2) := dk_21 6 (dk_at dksX1_candidateAt_2 0 rfl rfl)
theorem dX1_candidateAt_49 : decode cX1_candidateAt 49 = .ok (.invokevirtual 174, 3) := dk_182 0 174 (dk_at dksX1_candidateAt_2 2 rfl rfl)
theorem dX1_candidateAt_52 : decode cX1_candidateAt 52 = .ok (.ifCond .eq 19, 3) := dk_153 0 19 (dk_at dksX1_candidateAt_2 5 rfl rfl)
theorem dX1_candidateAt_55 : decode cX1_candidateAt 55 = .ok (.iload_n 2, 1) := dk_28 (dk_at dksX1_candidateAt_2 8 rfl rfl)
theorem dX1_candidateAt_56 : decode cX1_candidateAt 56 = .ok (.ifCond .ne 12, 3) := dk_154 0 12 (dk_at dksX1_candidateAt_2 9 rfl rfl)
theorem dX1_candidateAt_59 : decode cX1_candidateAt 59 = .ok (.bipush 37, 2) := dk_16 37 (dk_at dksX1_candidateAt_2 12 rfl rfl)
theorem dX1_candidateAt_61 : decode cX1_candidateAt 61 = .ok (.iload 5, 2) := dk_21 5 (dk_at dksX1_candidateAt_2 14 rfl rfl)
theorem dX1_candidateAt_63 : decode cX1_candidateAt 63 = .ok (.imul, 1) := dk_104 (dk_at dksX1_candidateAt_2 16 rfl rfl)
theorem dX1_candidateAt_64 : decode cX1_candidateAt 64 = .ok (.iload 6, 2) := dk_21 6 (dk_at dksX1_candidateAt_2 17 rfl rfl)
theorem dX1_candidateAt_66 : decode cX1_candidateAt 66 = .ok (.iadd, 1) := dk_96 (dk_at dksX1_candidateAt_2 19 rfl rfl)
theorem dX1_candidateAt_67 : decode cX1_candidateAt 67 = .ok (.ireturn, 1) := dk_172 (dk_at dksX1_candidateAt_2 20 rfl rfl)
theorem dX1_candidateAt_68 : decode cX1_candidateAt 68 = .ok (.iinc 2 (-1), 3) := dk_132 2 255 (dk_at dksX1_candidateAt_2 21 rfl rfl)
theorem dX1_candidateAt_71 : decode cX1_candidateAt 71 = .ok (.iinc 6 1, 3) := dk_132 6 1 (dk_at dksX1_candidateAt_3 0 rfl rfl)
theorem dX1_candidateAt_74 : decode cX1_candidateAt 74 = .ok (.goto (-37), 3) := dk_167 255 219 (dk_at dksX1_candidateAt_3 3 rfl rfl)
theorem dX1_candidateAt_77 : decode cX1_candidateAt 77 = .ok (.iinc 5 1, 3) := dk_132 5 1 (dk_at dksX1_candidateAt_3 6 rfl rfl)
theorem dX1_candidateAt_80 : decode cX1_candidateAt 80 = .ok (.goto (-52), 3) := dk_167 255 204 (dk_at dksX1_candidateAt_3 9 rfl rfl)
theorem dX1_candidateAt_83 : decode cX1_candidateAt 83 = .ok (.iconst (-1), 1) := dk_2 (dk_at dksX1_candidateAt_3 12 rfl rfl)
theorem dX1_candidateAt_84 : decode cX1_candidateAt 84 = .ok (.ireturn, 1) := dk_172 (dk_at dksX1_candidateAt_3 13 rfl rfl)
abbrev cX1_worstLeft : ByteArray := prog_1_method_95_code
def yX1_worstLeft : MethodName := ⟨RX1, "worstLeft", "(I)I"⟩
def dkwX1_worstLeft_0 : List UInt8 := [27, 184, 1, 13, 42, 182, 1, 159, 87, 42, 27, 182, 0, 185, 172]
abbrev dktX1_worstLeft_0 : List UInt8 := dkwX1_worstLeft_0 ++ []
theorem dksX1_worstLeft_0 : cX1_worstLeft.data.toList.drop 0 = dktX1_worstLeft_0 := by decide +kernel
theorem dX1_worstLeft_0 : decode cX1_worstLeft 0 = .ok (.iload_n 1, 1) := dk_27 (dk_at dksX1_worstLeft_0 0 rfl rfl)
theorem dX1_worstLeft_1 : decode cX1_worstLeft 1 = .ok (.invokestatic 269, 3) := dk_184 1 13 (dk_at dksX1_worstLeft_0 1 rfl rfl)
theorem dX1_worstLeft_4 : decode cX1_worstLeft 4 = .ok (.aload_n 0, 1) := dk_42 (dk_at dksX1_worstLeft_0 4 rfl rfl)
theorem dX1_worstLeft_5 : decode cX1_worstLeft 5 = .ok (.invokevirtual 415, 3) := dk_182 1 159 (dk_at dksX1_worstLeft_0 5 rfl rfl)
theorem dX1_worstLeft_8 : decode cX1_worstLeft 8 = .ok (.pop, 1) := dk_87 (dk_at dksX1_worstLeft_0 8 rfl rfl)
theorem dX1_worstLeft_9 : decode cX1_worstLeft 9 = .ok (.aload_n 0, 1) := dk_42 (dk_at dksX1_worstLeft_0 9 rfl rfl)
theorem dX1_worstLeft_10 : decode cX1_worstLeft 10 = .ok (.iload_n 1, 1) := dk_27 (dk_at dksX1_worstLeft_0 10 rfl rfl)
theorem dX1_worstLeft_11 : decode cX1_worstLeft 11 = .ok (.invokevirtual 185, 3) := dk_182 0 185 (dk_at dksX1_worstLeft_0 11 rfl rfl)
theorem dX1_worstLeft_14 : decode cX1_worstLeft 14 = .ok (.ireturn, 1) := dk_172 (dk_at dksX1_worstLeft_0 14 rfl rfl)
abbrev cX1_meanLeft : ByteArray := prog_1_method_97_code
def yX1_meanLeft : MethodName := ⟨RX1, "meanLeft", "(I)D"⟩
def dkwX1_meanLeft_2 : List UInt8 := [132, 5, 1, 167, 255, 223, 28, 154, 0, 7, 14, 167, 0, 8, 33, 138, 28, 135, 111, 175]
abbrev dktX1_meanLeft_2 : List UInt8 := dkwX1_meanLeft_2 ++ []
def dkwX1_meanLeft_1 : List UInt8 := [180, 0, 177, 16, 16, 27, 104, 21, 5, 96, 46, 133, 55, 6, 33, 22, 6, 22, 6, 105, 97, 66]
abbrev dktX1_meanLeft_1 : List UInt8 := dkwX1_meanLeft_1 ++ dktX1_meanLeft_2
def dkwX1_meanLeft_0 : List UInt8 := [27, 184, 1, 13, 42, 182, 1, 159, 61, 9, 66, 3, 54, 5, 21, 5, 16, 16, 162, 0, 32, 42]
abbrev dktX1_meanLeft_0 : List UInt8 := dkwX1_meanLeft_0 ++ dktX1_meanLeft_1
theorem dksX1_meanLeft_0 : cX1_meanLeft.data.toList.drop 0 = dktX1_meanLeft_0 := by decide +kernel
theorem dksX1_meanLeft_1 : cX1_meanLeft.data.toList.drop 22 = dktX1_meanLeft_1 := dk_seg dksX1_meanLeft_0 22 rfl rfl
theorem dksX1_meanLeft_2 : cX1_meanLeft.data.toList.drop 44 = dktX1_meanLeft_2 := dk_seg dksX1_meanLeft_1 22 rfl rfl
theorem dX1_meanLeft_0 : decode cX1_meanLeft 0 = .ok (.iload_n 1, 1) := dk_27 (dk_at dksX1_meanLeft_0 0 rfl rfl)
theorem dX1_meanLeft_1 : decode cX1_meanLeft 1 = .ok (.invokestatic 269, 3) := dk_184 1 13 (dk_at dksX1_meanLeft_0 1 rfl rfl)
theorem dX1_meanLeft_4 : decode cX1_meanLeft 4 = .ok (.aload_n 0, 1) := dk_42 (dk_at dksX1_meanLeft_0 4 rfl rfl)
theorem dX1_meanLeft_5 : decode cX1_meanLeft 5 = .ok (.invokevirtual 415, 3) := dk_182 1 159 (dk_at dksX1_meanLeft_0 5 rfl rfl)
theorem dX1_meanLeft_8 : decode cX1_meanLeft 8 = .ok (.istore_n 2, 1) := dk_61 (dk_at dksX1_meanLeft_0 8 rfl rfl)
theorem dX1_meanLeft_9 : decode cX1_meanLeft 9 = .ok (.lconst 0, 1) := dk_9 (dk_at dksX1_meanLeft_0 9 rfl rfl)
theorem dX1_meanLeft_10 : decode cX1_meanLeft 10 = .ok (.lstore_n 3, 1) := dk_66 (dk_at dksX1_meanLeft_0 10 rfl rfl)
theorem dX1_meanLeft_11 : decode cX1_meanLeft 11 = .ok (.iconst 0, 1) := dk_3 (dk_at dksX1_meanLeft_0 11 rfl rfl)
theorem dX1_meanLeft_12 : decode cX1_meanLeft 12 = .ok (.istore 5, 2) := dk_54 5 (dk_at dksX1_meanLeft_0 12 rfl rfl)
theorem dX1_meanLeft_14 : decode cX1_meanLeft 14 = .ok (.iload 5, 2) := dk_21 5 (dk_at dksX1_meanLeft_0 14 rfl rfl)
theorem dX1_meanLeft_16 : decode cX1_meanLeft 16 = .ok (.bipush 16, 2) := dk_16 16 (dk_at dksX1_meanLeft_0 16 rfl rfl)
theorem dX1_meanLeft_18 : decode cX1_meanLeft 18 = .ok (.if_icmp .ge 32, 3) := dk_162 0 32 (dk_at dksX1_meanLeft_0 18 rfl rfl)
theorem dX1_meanLeft_21 : decode cX1_meanLeft 21 = .ok (.aload_n 0, 1) := dk_42 (dk_at dksX1_meanLeft_0 21 rfl rfl)
theorem dX1_meanLeft_22 : decode cX1_meanLeft 22 = .ok (.getfield 177, 3) := dk_180 0 177 (dk_at dksX1_meanLeft_1 0 rfl rfl)
theorem dX1_meanLeft_25 : decode cX1_meanLeft 25 = .ok (.bipush 16, 2) := dk_16 16 (dk_at dksX1_meanLeft_1 3 rfl rfl)
theorem dX1_meanLeft_27 : decode cX1_meanLeft 27 = .ok (.iload_n 1, 1) := dk_27 (dk_at dksX1_meanLeft_1 5 rfl rfl)
theorem dX1_meanLeft_28 : decode cX1_meanLeft 28 = .ok (.imul, 1) := dk_104 (dk_at dksX1_meanLeft_1 6 rfl rfl)
theorem dX1_meanLeft_29 : decode cX1_meanLeft 29 = .ok (.iload 5, 2) := dk_21 5 (dk_at dksX1_meanLeft_1 7 rfl rfl)
theorem dX1_meanLeft_31 : decode cX1_meanLeft 31 = .ok (.iadd, 1) := dk_96 (dk_at dksX1_meanLeft_1 9 rfl rfl)
theorem dX1_meanLeft_32 : decode cX1_meanLeft 32 = .ok (.iaload, 1) := dk_46 (dk_at dksX1_meanLeft_1 10 rfl rfl)
theorem dX1_meanLeft_33 : decode cX1_meanLeft 33 = .ok (.i2l, 1) := dk_133 (dk_at dksX1_meanLeft_1 11 rfl rfl)
theorem dX1_meanLeft_34 : decode cX1_meanLeft 34 = .ok (.lstore 6, 2) := dk_55 6 (dk_at dksX1_meanLeft_1 12 rfl rfl)
theorem dX1_meanLeft_36 : decode cX1_meanLeft 36 = .ok (.lload_n 3, 1) := dk_33 (dk_at dksX1_meanLeft_1 14 rfl rfl)
theorem dX1_meanLeft_37 : decode cX1_meanLeft 37 = .ok (.lload 6, 2) := dk_22 6 (dk_at dksX1_meanLeft_1 15 rfl rfl)
theorem dX1_meanLeft_39 : decode cX1_meanLeft 39 = .ok (.lload 6, 2) := dk_22 6 (dk_at dksX1_meanLeft_1 17 rfl rfl)
theorem dX1_meanLeft_41 : decode cX1_meanLeft 41 = .ok (.lmul, 1) := dk_105 (dk_at dksX1_meanLeft_1 19 rfl rfl)
theorem dX1_meanLeft_42 : decode cX1_meanLeft 42 = .ok (.ladd, 1) := dk_97 (dk_at dksX1_meanLeft_1 20 rfl rfl)
theorem dX1_meanLeft_43 : decode cX1_meanLeft 43 = .ok (.lstore_n 3, 1) := dk_66 (dk_at dksX1_meanLeft_1 21 rfl rfl)
theorem dX1_meanLeft_44 : decode cX1_meanLeft 44 = .ok (.iinc 5 1, 3) := dk_132 5 1 (dk_at dksX1_meanLeft_2 0 rfl rfl)
theorem dX1_meanLeft_47 : decode cX1_meanLeft 47 = .ok (.goto (-33), 3) := dk_167 255 223 (dk_at dksX1_meanLeft_2 3 rfl rfl)
theorem dX1_meanLeft_50 : decode cX1_meanLeft 50 = .ok (.iload_n 2, 1) := dk_28 (dk_at dksX1_meanLeft_2 6 rfl rfl)
theorem dX1_meanLeft_51 : decode cX1_meanLeft 51 = .ok (.ifCond .ne 7, 3) := dk_154 0 7 (dk_at dksX1_meanLeft_2 7 rfl rfl)
theorem dX1_meanLeft_54 : decode cX1_meanLeft 54 = .ok (.dconst 0, 1) := dk_14 (dk_at dksX1_meanLeft_2 10 rfl rfl)
theorem dX1_meanLeft_55 : decode cX1_meanLeft 55 = .ok (.goto 8, 3) := dk_167 0 8 (dk_at dksX1_meanLeft_2 11 rfl rfl)
theorem dX1_meanLeft_58 : decode cX1_meanLeft 58 = .ok (.lload_n 3, 1) := dk_33 (dk_at dksX1_meanLeft_2 14 rfl rfl)
theorem dX1_meanLeft_59 : decode cX1_meanLeft 59 = .ok (.l2d, 1) := dk_138 (dk_at dksX1_meanLeft_2 15 rfl rfl)
theorem dX1_meanLeft_60 : decode cX1_meanLeft 60 = .ok (.iload_n 2, 1) := dk_28 (dk_at dksX1_meanLeft_2 16 rfl rfl)
theorem dX1_meanLeft_61 : decode cX1_meanLeft 61 = .ok (.i2d, 1) := dk_135 (dk_at dksX1_meanLeft_2 17 rfl rfl)
theorem dX1_meanLeft_62 : decode cX1_meanLeft 62 = .ok (.ddiv, 1) := dk_111 (dk_at dksX1_meanLeft_2 18 rfl rfl)
theorem dX1_meanLeft_63 : decode cX1_meanLeft 63 = .ok (.dreturn, 1) := dk_175 (dk_at dksX1_meanLeft_2 19 rfl rfl)
theorem q79 : (Jvm.Cond.initialized "RosehipCircuits") ∈ lw_all := lw_g (lw_at lw_m1 1 rfl) rfl
theorem q115 : (Jvm.Cond.instantiable "RosehipCircuits" (11 : Nat)) ∈ lw_all := lw_g (lw_at lw_m1 37 rfl) rfl
theorem q117 : (Jvm.Cond.instanceMethod ({ cls := "RosehipCircuits", name := "<init>", desc := "()V" } : Jvm.MethodName)) ∈ lw_all := lw_g (lw_at lw_m1 39 rfl) rfl
theorem q118 : (Jvm.Cond.code ({ cls := "RosehipCircuits", name := "<init>", desc := "()V" } : Jvm.MethodName) prog_1_method_34_code (1 : Nat) (Option.none : Option Jvm.ClassFile.FieldType)) ∈ lw_all := lw_g (lw_at lw_m1 40 rfl) rfl
theorem q119 : (Jvm.Cond.methodLink "RosehipCircuits" (188 : Nat) ({ cls := "java/lang/Object", name := "<init>", desc := "()V" } : Jvm.MethodName)) ∈ lw_all := lw_g (lw_at lw_m1 41 rfl) rfl
theorem q122 : (Jvm.Cond.classLink "RosehipCircuits" (28 : Nat) "RosehipCircuits$Circuit") ∈ lw_all := lw_g (lw_at lw_m1 44 rfl) rfl
theorem q124 : (Jvm.Cond.methodLink "RosehipCircuits" (192 : Nat) ({ cls := "RosehipCircuits$Circuit", name := "<init>", desc := "()V" } : Jvm.MethodName)) ∈ lw_all := lw_g (lw_at lw_m1 46 rfl) rfl
theorem q132 : (Jvm.Cond.fieldLinkNest "RosehipCircuits" (37 : Nat) "RosehipCircuits$Circuit" "kinds" "[I" "RosehipCircuits") ∈ lw_tbl := lw_at lw_m1 54 rfl
theorem q134 : (Jvm.Cond.fieldLinkNest "RosehipCircuits" (65 : Nat) "RosehipCircuits$Circuit" "firsts" "[I" "RosehipCircuits") ∈ lw_tbl := lw_at lw_m1 56 rfl
theorem q136 : (Jvm.Cond.fieldLinkNest "RosehipCircuits" (68 : Nat) "RosehipCircuits$Circuit" "seconds" "[I" "RosehipCircuits") ∈ lw_tbl := lw_at lw_m1 58 rfl
theorem q138 : (Jvm.Cond.fieldLinkNest "RosehipCircuits" (159 : Nat) "RosehipCircuits$Circuit" "asks" "[I" "RosehipCircuits") ∈ lw_tbl := lw_at lw_m1 60 rfl
theorem q140 : (Jvm.Cond.fieldLinkNest "RosehipCircuits" (58 : Nat) "RosehipCircuits$Circuit" "gates" "I" "RosehipCircuits") ∈ lw_tbl := lw_at lw_m1 62 rfl
theorem q142 : (Jvm.Cond.fieldLinkNest "RosehipCircuits" (86 : Nat) "RosehipCircuits$Circuit" "outputs" "I" "RosehipCircuits") ∈ lw_tbl := lw_at lw_m1 64 rfl
theorem q144 : (Jvm.Cond.fieldLinkNest "RosehipCircuits" (27 : Nat) "RosehipCircuits$Circuit" "boxes" "I" "RosehipCircuits") ∈ lw_tbl := lw_at lw_m1 66 rfl
theorem q146 : (Jvm.Cond.fieldLinkNest "RosehipCircuits" (259 : Nat) "RosehipCircuits$Circuit" "secret" "I" "RosehipCircuits") ∈ lw_tbl := lw_at lw_m1 68 rfl
theorem q148 : (Jvm.Cond.fieldLinkNest "RosehipCircuits" (148 : Nat) "RosehipCircuits$Circuit" "isSuspecting" "Z" "RosehipCircuits") ∈ lw_tbl := lw_at lw_m1 70 rfl
theorem q150 : (Jvm.Cond.fieldLinkNest "RosehipCircuits" (279 : Nat) "RosehipCircuits$Circuit" "chosen" "J" "RosehipCircuits") ∈ lw_tbl := lw_at lw_m1 72 rfl
theorem q152 : (Jvm.Cond.fieldLinkNest "RosehipCircuits" (156 : Nat) "RosehipCircuits$Circuit" "asked" "I" "RosehipCircuits") ∈ lw_tbl := lw_at lw_m1 74 rfl
theorem q178 : (Jvm.Cond.classLink "RosehipCircuits" (193 : Nat) "java/util/ArrayDeque") ∈ lw_all := lw_g (lw_at lw_m1 100 rfl) rfl
theorem q180 : (Jvm.Cond.methodLink "RosehipCircuits" (195 : Nat) ({ cls := "java/util/ArrayDeque", name := "<init>", desc := "()V" } : Jvm.MethodName)) ∈ lw_all := lw_g (lw_at lw_m1 102 rfl) rfl
theorem q199 : (Jvm.Cond.classLink "RosehipCircuits" (200 : Nat) "java/lang/StringBuilder") ∈ lw_all := lw_g (lw_at lw_m1 121 rfl) rfl
theorem q201 : (Jvm.Cond.methodLink "RosehipCircuits" (202 : Nat) ({ cls := "java/lang/StringBuilder", name := "<init>", desc := "()V" } : Jvm.MethodName)) ∈ lw_all := lw_g (lw_at lw_m1 123 rfl) rfl
theorem q232 : (Jvm.Cond.fieldLink "RosehipCircuits" (47 : Nat) "RosehipCircuits" "tables" "[J") ∈ lw_all := lw_g (lw_at lw_m1 154 rfl) rfl
theorem q233 : (Jvm.Cond.fieldLink "RosehipCircuits" (89 : Nat) "RosehipCircuits" "values" "[I") ∈ lw_all := lw_g (lw_at lw_m1 155 rfl) rfl
theorem q234 : (Jvm.Cond.fieldLink "RosehipCircuits" (110 : Nat) "RosehipCircuits" "faulty" "[J") ∈ lw_all := lw_g (lw_at lw_m1 156 rfl) rfl
theorem q235 : (Jvm.Cond.fieldLink "RosehipCircuits" (177 : Nat) "RosehipCircuits" "counts" "[I") ∈ lw_all := lw_g (lw_at lw_m1 157 rfl) rfl
theorem q236 : (Jvm.Cond.fieldLink "RosehipCircuits" (79 : Nat) "RosehipCircuits" "answers" "[I") ∈ lw_all := lw_g (lw_at lw_m1 158 rfl) rfl
theorem q237 : (Jvm.Cond.fieldLink "RosehipCircuits" (119 : Nat) "RosehipCircuits" "shown" "[J") ∈ lw_all := lw_g (lw_at lw_m1 159 rfl) rfl
theorem q238 : (Jvm.Cond.fieldLink "RosehipCircuits" (113 : Nat) "RosehipCircuits" "shownBy" "[J") ∈ lw_all := lw_g (lw_at lw_m1 160 rfl) rfl
theorem q239 : (Jvm.Cond.fieldLink "RosehipCircuits" (23 : Nat) "RosehipCircuits" "circuit" "LRosehipCircuits$Circuit;") ∈ lw_all := lw_g (lw_at lw_m1 161 rfl) rfl
theorem q240 : (Jvm.Cond.fieldLink "RosehipCircuits" (378 : Nat) "RosehipCircuits" "snapshot" "LRosehipCircuits$Circuit;") ∈ lw_all := lw_g (lw_at lw_m1 162 rfl) rfl
theorem q241 : (Jvm.Cond.fieldLink "RosehipCircuits" (196 : Nat) "RosehipCircuits" "saved" "Ljava/util/ArrayDeque;") ∈ lw_all := lw_g (lw_at lw_m1 163 rfl) rfl
theorem q243 : (Jvm.Cond.fieldLink "RosehipCircuits" (203 : Nat) "RosehipCircuits" "text" "Ljava/lang/StringBuilder;") ∈ lw_all := lw_g (lw_at lw_m1 165 rfl) rfl
theorem q244 : (Jvm.Cond.laysFinal "RosehipCircuits" "RosehipCircuits" "tables" "[J") ∈ lw_all := lw_g (lw_at lw_m1 166 rfl) rfl
theorem q245 : (Jvm.Cond.soleField "RosehipCircuits" "tables") ∈ lw_all := lw_g (lw_at lw_m1 167 rfl) rfl
theorem q246 : (Jvm.Cond.laysFinal "RosehipCircuits" "RosehipCircuits" "values" "[I") ∈ lw_all := lw_g (lw_at lw_m1 168 rfl) rfl
theorem q247 : (Jvm.Cond.soleField "RosehipCircuits" "values") ∈ lw_all := lw_g (lw_at lw_m1 169 rfl) rfl
theorem q248 : (Jvm.Cond.laysFinal "RosehipCircuits" "RosehipCircuits" "faulty" "[J") ∈ lw_all := lw_g (lw_at lw_m1 170 rfl) rfl
theorem q249 : (Jvm.Cond.soleField "RosehipCircuits" "faulty") ∈ lw_all := lw_g (lw_at lw_m1 171 rfl) rfl
theorem q250 : (Jvm.Cond.laysFinal "RosehipCircuits" "RosehipCircuits" "counts" "[I") ∈ lw_all := lw_g (lw_at lw_m1 172 rfl) rfl
theorem q251 : (Jvm.Cond.soleField "RosehipCircuits" "counts") ∈ lw_all := lw_g (lw_at lw_m1 173 rfl) rfl
theorem q252 : (Jvm.Cond.laysFinal "RosehipCircuits" "RosehipCircuits" "answers" "[I") ∈ lw_all := lw_g (lw_at lw_m1 174 rfl) rfl
theorem q253 : (Jvm.Cond.soleField "RosehipCircuits" "answers") ∈ lw_all := lw_g (lw_at lw_m1 175 rfl) rfl
theorem q254 : (Jvm.Cond.laysFinal "RosehipCircuits" "RosehipCircuits" "shown" "[J") ∈ lw_all := lw_g (lw_at lw_m1 176 rfl) rfl
theorem q255 : (Jvm.Cond.soleField "RosehipCircuits" "shown") ∈ lw_all := lw_g (lw_at lw_m1 177 rfl) rfl
theorem q256 : (Jvm.Cond.laysFinal "RosehipCircuits" "RosehipCircuits" "shownBy" "[J") ∈ lw_all := lw_g (lw_at lw_m1 178 rfl) rfl
theorem q257 : (Jvm.Cond.soleField "RosehipCircuits" "shownBy") ∈ lw_all := lw_g (lw_at lw_m1 179 rfl) rfl
theorem q258 : (Jvm.Cond.lays "RosehipCircuits" "RosehipCircuits" "circuit" "LRosehipCircuits$Circuit;") ∈ lw_all := lw_g (lw_at lw_m1 180 rfl) rfl
theorem q259 : (Jvm.Cond.soleField "RosehipCircuits" "circuit") ∈ lw_all := lw_g (lw_at lw_m1 181 rfl) rfl
theorem q260 : (Jvm.Cond.lays "RosehipCircuits" "RosehipCircuits" "snapshot" "LRosehipCircuits$Circuit;") ∈ lw_all := lw_g (lw_at lw_m1 182 rfl) rfl
theorem q261 : (Jvm.Cond.soleField "RosehipCircuits" "snapshot") ∈ lw_all := lw_g (lw_at lw_m1 183 rfl) rfl
theorem q262 : (Jvm.Cond.laysFinal "RosehipCircuits" "RosehipCircuits" "saved" "Ljava/util/ArrayDeque;") ∈ lw_all := lw_g (lw_at lw_m1 184 rfl) rfl
theorem q263 : (Jvm.Cond.soleField "RosehipCircuits" "saved") ∈ lw_all := lw_g (lw_at lw_m1 185 rfl) rfl
theorem q264 : (Jvm.Cond.laysFinal "RosehipCircuits" "RosehipCircuits" "text" "Ljava/lang/StringBuilder;") ∈ lw_all := lw_g (lw_at lw_m1 186 rfl) rfl
theorem q265 : (Jvm.Cond.soleField "RosehipCircuits" "text") ∈ lw_all := lw_g (lw_at lw_m1 187 rfl) rfl
theorem q266 : (Jvm.Cond.superclass "RosehipCircuits" "java/lang/Object") ∈ lw_all := lw_g (lw_at lw_m1 188 rfl) rfl
theorem q268 : (Jvm.Cond.instanceMethod ({ cls := "RosehipCircuits", name := "turnSuspicion", desc := "()Z" } : Jvm.MethodName)) ∈ lw_all := lw_g (lw_at lw_m1 190 rfl) rfl
theorem q269 : (Jvm.Cond.selects "RosehipCircuits" ({ cls := "RosehipCircuits", name := "turnSuspicion", desc := "()Z" } : Jvm.MethodName) ({ cls := "RosehipCircuits", name := "turnSuspicion", desc := "()Z" } : Jvm.MethodName)) ∈ lw_all := lw_g (lw_at lw_m1 191 rfl) rfl
theorem q270 : (Jvm.Cond.code ({ cls := "RosehipCircuits", name := "turnSuspicion", desc := "()Z" } : Jvm.MethodName) prog_1_method_47_code (1 : Nat) (Option.some Jvm.ClassFile.FieldType.boolean)) ∈ lw_all := lw_g (lw_at lw_m1 192 rfl) rfl
theorem q271 : (Jvm.Cond.methodLink "RosehipCircuits" (256 : Nat) ({ cls := "RosehipCircuits", name := "save", desc := "()V" } : Jvm.MethodName)) ∈ lw_all := lw_g (lw_at lw_m1 193 rfl) rfl
theorem q272 : (Jvm.Cond.privateMethod ({ cls := "RosehipCircuits", name := "save", desc := "()V" } : Jvm.MethodName)) ∈ lw_tbl := lw_at lw_m1 194 rfl
theorem q273 : (Jvm.Cond.instanceMethod ({ cls := "RosehipCircuits", name := "save", desc := "()V" } : Jvm.MethodName)) ∈ lw_all := lw_g (lw_at lw_m1 195 rfl) rfl
theorem q274 : (Jvm.Cond.code ({ cls := "RosehipCircuits", name := "save", desc := "()V" } : Jvm.MethodName) prog_1_method_36_code (1 : Nat) (Option.none : Option Jvm.ClassFile.FieldType)) ∈ lw_all := lw_g (lw_at lw_m1 196 rfl) rfl
theorem q275 : (Jvm.Cond.methodLink "RosehipCircuits" (218 : Nat) ({ cls := "RosehipCircuits", name := "push", desc := "(LRosehipCircuits$Circuit;)V" } : Jvm.MethodName)) ∈ lw_all := lw_g (lw_at lw_m1 197 rfl) rfl
theorem q276 : (Jvm.Cond.privateMethod ({ cls := "RosehipCircuits", name := "push", desc := "(LRosehipCircuits$Circuit;)V" } : Jvm.MethodName)) ∈ lw_tbl := lw_at lw_m1 198 rfl
theorem q277 : (Jvm.Cond.instanceMethod ({ cls := "RosehipCircuits", name := "push", desc := "(LRosehipCircuits$Circuit;)V" } : Jvm.MethodName)) ∈ lw_all := lw_g (lw_at lw_m1 199 rfl) rfl
theorem q278 : (Jvm.Cond.code ({ cls := "RosehipCircuits", name := "push", desc := "(LRosehipCircuits$Circuit;)V" } : Jvm.MethodName) prog_1_method_35_code (2 : Nat) (Option.none : Option Jvm.ClassFile.FieldType)) ∈ lw_all := lw_g (lw_at lw_m1 200 rfl) rfl
theorem q279 : (Jvm.Cond.methodLink "RosehipCircuits" (207 : Nat) ({ cls := "java/util/ArrayDeque", name := "size", desc := "()I" } : Jvm.MethodName)) ∈ lw_all := lw_g (lw_at lw_m1 201 rfl) rfl
theorem q286 : (Jvm.Cond.methodLink "RosehipCircuits" (210 : Nat) ({ cls := "java/util/ArrayDeque", name := "removeFirst", desc := "()Ljava/lang/Object;" } : Jvm.MethodName)) ∈ lw_all := lw_g (lw_at lw_m1 208 rfl) rfl
theorem q300 : (Jvm.Cond.methodLink "RosehipCircuits" (214 : Nat) ({ cls := "java/util/ArrayDeque", name := "addLast", desc := "(Ljava/lang/Object;)V" } : Jvm.MethodName)) ∈ lw_all := lw_g (lw_at lw_m1 222 rfl) rfl
theorem q391 : (Jvm.Cond.selects "RosehipCircuits" ({ cls := "java/lang/Object", name := "getClass", desc := "()Ljava/lang/Class;" } : Jvm.MethodName) ({ cls := "java/lang/Object", name := "getClass", desc := "()Ljava/lang/Class;" } : Jvm.MethodName)) ∈ lw_all := lw_g (lw_at lw_m2 73 rfl) rfl
theorem q420 : (Jvm.Cond.methodLink "RosehipCircuits" (222 : Nat) ({ cls := "RosehipCircuits$Circuit", name := "<init>", desc := "(LRosehipCircuits$Circuit;)V" } : Jvm.MethodName)) ∈ lw_all := lw_g (lw_at lw_m2 102 rfl) rfl
theorem q423 : (Jvm.Cond.methodLink "RosehipCircuits" (262 : Nat) ({ cls := "RosehipCircuits$Circuit", name := "turnSuspicion", desc := "()Z" } : Jvm.MethodName)) ∈ lw_all := lw_g (lw_at lw_m2 105 rfl) rfl
theorem q428 : (Jvm.Cond.instanceMethod ({ cls := "RosehipCircuits", name := "choose", desc := "()I" } : Jvm.MethodName)) ∈ lw_all := lw_g (lw_at lw_m2 110 rfl) rfl
theorem q429 : (Jvm.Cond.selects "RosehipCircuits" ({ cls := "RosehipCircuits", name := "choose", desc := "()I" } : Jvm.MethodName) ({ cls := "RosehipCircuits", name := "choose", desc := "()I" } : Jvm.MethodName)) ∈ lw_all := lw_g (lw_at lw_m2 111 rfl) rfl
theorem q430 : (Jvm.Cond.code ({ cls := "RosehipCircuits", name := "choose", desc := "()I" } : Jvm.MethodName) prog_1_method_50_code (1 : Nat) (Option.some Jvm.ClassFile.FieldType.int)) ∈ lw_all := lw_g (lw_at lw_m2 112 rfl) rfl
theorem q431 : (Jvm.Cond.methodLink "RosehipCircuits" (276 : Nat) ({ cls := "RosehipCircuits", name := "chooseAll", desc := "()J" } : Jvm.MethodName)) ∈ lw_all := lw_g (lw_at lw_m2 113 rfl) rfl
theorem q432 : (Jvm.Cond.privateMethod ({ cls := "RosehipCircuits", name := "chooseAll", desc := "()J" } : Jvm.MethodName)) ∈ lw_tbl := lw_at lw_m2 114 rfl
theorem q433 : (Jvm.Cond.instanceMethod ({ cls := "RosehipCircuits", name := "chooseAll", desc := "()J" } : Jvm.MethodName)) ∈ lw_all := lw_g (lw_at lw_m2 115 rfl) rfl
theorem q434 : (Jvm.Cond.code ({ cls := "RosehipCircuits", name := "chooseAll", desc := "()J" } : Jvm.MethodName) prog_1_method_22_code (6 : Nat) (Option.some Jvm.ClassFile.FieldType.long)) ∈ lw_all := lw_g (lw_at lw_m2 116 rfl) rfl
theorem q435 : (Jvm.Cond.methodLink "RosehipCircuits" (134 : Nat) ({ cls := "RosehipCircuits", name := "layShown", desc := "()J" } : Jvm.MethodName)) ∈ lw_all := lw_g (lw_at lw_m2 117 rfl) rfl
theorem q436 : (Jvm.Cond.privateMethod ({ cls := "RosehipCircuits", name := "layShown", desc := "()J" } : Jvm.MethodName)) ∈ lw_tbl := lw_at lw_m2 118 rfl
theorem q437 : (Jvm.Cond.instanceMethod ({ cls := "RosehipCircuits", name := "layShown", desc := "()J" } : Jvm.MethodName)) ∈ lw_all := lw_g (lw_at lw_m2 119 rfl) rfl
theorem q438 : (Jvm.Cond.code ({ cls := "RosehipCircuits", name := "layShown", desc := "()J" } : Jvm.MethodName) prog_1_method_20_code (5 : Nat) (Option.some Jvm.ClassFile.FieldType.long)) ∈ lw_all := lw_g (lw_at lw_m2 120 rfl) rfl
theorem q439 : (Jvm.Cond.methodLink "RosehipCircuits" (116 : Nat) ({ cls := "RosehipCircuits$Circuit", name := "faults", desc := "()I" } : Jvm.MethodName)) ∈ lw_all := lw_g (lw_at lw_m2 121 rfl) rfl
theorem q447 : (Jvm.Cond.methodLink "RosehipCircuits" (122 : Nat) ({ cls := "RosehipCircuits", name := "testsBy", desc := "(II)J" } : Jvm.MethodName)) ∈ lw_all := lw_g (lw_at lw_m2 129 rfl) rfl
theorem q448 : (Jvm.Cond.privateMethod ({ cls := "RosehipCircuits", name := "testsBy", desc := "(II)J" } : Jvm.MethodName)) ∈ lw_tbl := lw_at lw_m2 130 rfl
theorem q449 : (Jvm.Cond.instanceMethod ({ cls := "RosehipCircuits", name := "testsBy", desc := "(II)J" } : Jvm.MethodName)) ∈ lw_all := lw_g (lw_at lw_m2 131 rfl) rfl
theorem q450 : (Jvm.Cond.code ({ cls := "RosehipCircuits", name := "testsBy", desc := "(II)J" } : Jvm.MethodName) prog_1_method_19_code (6 : Nat) (Option.some Jvm.ClassFile.FieldType.long)) ∈ lw_all := lw_g (lw_at lw_m2 132 rfl) rfl
theorem q451 : (Jvm.Cond.methodLink "RosehipCircuits" (106 : Nat) ({ cls := "RosehipCircuits", name := "layTables", desc := "(II)V" } : Jvm.MethodName)) ∈ lw_all := lw_g (lw_at lw_m2 133 rfl) rfl
theorem q452 : (Jvm.Cond.privateMethod ({ cls := "RosehipCircuits", name := "layTables", desc := "(II)V" } : Jvm.MethodName)) ∈ lw_tbl := lw_at lw_m2 134 rfl
theorem q453 : (Jvm.Cond.instanceMethod ({ cls := "RosehipCircuits", name := "layTables", desc := "(II)V" } : Jvm.MethodName)) ∈ lw_all := lw_g (lw_at lw_m2 135 rfl) rfl
theorem q454 : (Jvm.Cond.code ({ cls := "RosehipCircuits", name := "layTables", desc := "(II)V" } : Jvm.MethodName) prog_1_method_11_code (6 : Nat) (Option.none : Option Jvm.ClassFile.FieldType)) ∈ lw_all := lw_g (lw_at lw_m2 136 rfl) rfl
theorem q455 : (Jvm.Cond.fieldLink "RosehipCircuits" (51 : Nat) "RosehipCircuits" "INPUT_TABLES" "[J") ∈ lw_all := lw_g (lw_at lw_m2 137 rfl) rfl
theorem q456 : (Jvm.Cond.laysStatic "RosehipCircuits" "INPUT_TABLES" "[J") ∈ lw_tbl := lw_at lw_m2 138 rfl
theorem q457 : (Jvm.Cond.methodLink "RosehipCircuits" (54 : Nat) ({ cls := "RosehipCircuits", name := "stuck", desc := "(JII)J" } : Jvm.MethodName)) ∈ lw_all := lw_g (lw_at lw_m2 139 rfl) rfl
theorem q458 : (Jvm.Cond.static ({ cls := "RosehipCircuits", name := "stuck", desc := "(JII)J" } : Jvm.MethodName)) ∈ lw_all := lw_g (lw_at lw_m2 140 rfl) rfl
theorem q459 : (Jvm.Cond.code ({ cls := "RosehipCircuits", name := "stuck", desc := "(JII)J" } : Jvm.MethodName) prog_1_method_9_code (4 : Nat) (Option.some Jvm.ClassFile.FieldType.long)) ∈ lw_all := lw_g (lw_at lw_m2 141 rfl) rfl
theorem q460 : (Jvm.Cond.methodLink "RosehipCircuits" (61 : Nat) ({ cls := "RosehipCircuits", name := "kindBy", desc := "(II)I" } : Jvm.MethodName)) ∈ lw_all := lw_g (lw_at lw_m2 142 rfl) rfl
theorem q461 : (Jvm.Cond.privateMethod ({ cls := "RosehipCircuits", name := "kindBy", desc := "(II)I" } : Jvm.MethodName)) ∈ lw_tbl := lw_at lw_m2 143 rfl
theorem q462 : (Jvm.Cond.instanceMethod ({ cls := "RosehipCircuits", name := "kindBy", desc := "(II)I" } : Jvm.MethodName)) ∈ lw_all := lw_g (lw_at lw_m2 144 rfl) rfl
theorem q463 : (Jvm.Cond.code ({ cls := "RosehipCircuits", name := "kindBy", desc := "(II)I" } : Jvm.MethodName) prog_1_method_10_code (5 : Nat) (Option.some Jvm.ClassFile.FieldType.int)) ∈ lw_all := lw_g (lw_at lw_m2 145 rfl) rfl
theorem q464 : (Jvm.Cond.methodLink "RosehipCircuits" (33 : Nat) ({ cls := "RosehipCircuits", name := "isIn", desc := "(II)Z" } : Jvm.MethodName)) ∈ lw_all := lw_g (lw_at lw_m2 146 rfl) rfl
theorem q465 : (Jvm.Cond.static ({ cls := "RosehipCircuits", name := "isIn", desc := "(II)Z" } : Jvm.MethodName)) ∈ lw_all := lw_g (lw_at lw_m2 147 rfl) rfl
theorem q466 : (Jvm.Cond.code ({ cls := "RosehipCircuits", name := "isIn", desc := "(II)Z" } : Jvm.MethodName) prog_1_method_5_code (2 : Nat) (Option.some Jvm.ClassFile.FieldType.boolean)) ∈ lw_all := lw_g (lw_at lw_m2 148 rfl) rfl
theorem q467 : (Jvm.Cond.methodLink "RosehipCircuits" (41 : Nat) ({ cls := "java/lang/Integer", name := "bitCount", desc := "(I)I" } : Jvm.MethodName)) ∈ lw_all := lw_g (lw_at lw_m2 149 rfl) rfl
theorem q473 : (Jvm.Cond.methodLink "RosehipCircuits" (71 : Nat) ({ cls := "RosehipCircuits", name := "gateTable", desc := "(IJJ)J" } : Jvm.MethodName)) ∈ lw_all := lw_g (lw_at lw_m2 155 rfl) rfl
theorem q474 : (Jvm.Cond.static ({ cls := "RosehipCircuits", name := "gateTable", desc := "(IJJ)J" } : Jvm.MethodName)) ∈ lw_all := lw_g (lw_at lw_m2 156 rfl) rfl
theorem q475 : (Jvm.Cond.code ({ cls := "RosehipCircuits", name := "gateTable", desc := "(IJJ)J" } : Jvm.MethodName) prog_1_method_7_code (5 : Nat) (Option.some Jvm.ClassFile.FieldType.long)) ∈ lw_all := lw_g (lw_at lw_m2 157 rfl) rfl
theorem q476 : (Jvm.Cond.constantLong "RosehipCircuits" (21 : Nat) (-1 : Int64)) ∈ lw_all := lw_g (lw_at lw_m2 158 rfl) rfl
theorem q477 : (Jvm.Cond.methodLink "RosehipCircuits" (82 : Nat) ({ cls := "RosehipCircuits$Circuit", name := "lines", desc := "()I" } : Jvm.MethodName)) ∈ lw_all := lw_g (lw_at lw_m2 159 rfl) rfl
theorem q478 : (Jvm.Cond.methodLink "RosehipCircuits" (126 : Nat) ({ cls := "RosehipCircuits", name := "isIn", desc := "(JI)Z" } : Jvm.MethodName)) ∈ lw_all := lw_g (lw_at lw_m2 160 rfl) rfl
theorem q479 : (Jvm.Cond.static ({ cls := "RosehipCircuits", name := "isIn", desc := "(JI)Z" } : Jvm.MethodName)) ∈ lw_all := lw_g (lw_at lw_m2 161 rfl) rfl
theorem q480 : (Jvm.Cond.code ({ cls := "RosehipCircuits", name := "isIn", desc := "(JI)Z" } : Jvm.MethodName) prog_1_method_6_code (3 : Nat) (Option.some Jvm.ClassFile.FieldType.boolean)) ∈ lw_all := lw_g (lw_at lw_m2 162 rfl) rfl
theorem q481 : (Jvm.Cond.methodLink "RosehipCircuits" (138 : Nat) ({ cls := "RosehipCircuits", name := "strongest", desc := "(J)I" } : Jvm.MethodName)) ∈ lw_all := lw_g (lw_at lw_m2 163 rfl) rfl
theorem q482 : (Jvm.Cond.privateMethod ({ cls := "RosehipCircuits", name := "strongest", desc := "(J)I" } : Jvm.MethodName)) ∈ lw_tbl := lw_at lw_m2 164 rfl
theorem q483 : (Jvm.Cond.instanceMethod ({ cls := "RosehipCircuits", name := "strongest", desc := "(J)I" } : Jvm.MethodName)) ∈ lw_all := lw_g (lw_at lw_m2 165 rfl) rfl
theorem q484 : (Jvm.Cond.code ({ cls := "RosehipCircuits", name := "strongest", desc := "(J)I" } : Jvm.MethodName) prog_1_method_21_code (5 : Nat) (Option.some Jvm.ClassFile.FieldType.int)) ∈ lw_all := lw_g (lw_at lw_m2 166 rfl) rfl
theorem q485 : (Jvm.Cond.methodLink "RosehipCircuits" (129 : Nat) ({ cls := "java/lang/Long", name := "bitCount", desc := "(J)I" } : Jvm.MethodName)) ∈ lw_all := lw_g (lw_at lw_m2 167 rfl) rfl
theorem q492 : (Jvm.Cond.instanceMethod ({ cls := "RosehipCircuits", name := "clearText", desc := "()I" } : Jvm.MethodName)) ∈ lw_all := lw_g (lw_at lw_m2 174 rfl) rfl
theorem q493 : (Jvm.Cond.selects "RosehipCircuits" ({ cls := "RosehipCircuits", name := "clearText", desc := "()I" } : Jvm.MethodName) ({ cls := "RosehipCircuits", name := "clearText", desc := "()I" } : Jvm.MethodName)) ∈ lw_all := lw_g (lw_at lw_m2 175 rfl) rfl
theorem q494 : (Jvm.Cond.code ({ cls := "RosehipCircuits", name := "clearText", desc := "()I" } : Jvm.MethodName) prog_1_method_53_code (2 : Nat) (Option.some Jvm.ClassFile.FieldType.int)) ∈ lw_all := lw_g (lw_at lw_m2 176 rfl) rfl
theorem q495 : (Jvm.Cond.methodLink "RosehipCircuits" (289 : Nat) ({ cls := "java/lang/StringBuilder", name := "length", desc := "()I" } : Jvm.MethodName)) ∈ lw_all := lw_g (lw_at lw_m2 177 rfl) rfl
theorem q502 : (Jvm.Cond.methodLink "RosehipCircuits" (296 : Nat) ({ cls := "java/lang/StringBuilder", name := "setLength", desc := "(I)V" } : Jvm.MethodName)) ∈ lw_all := lw_g (lw_at lw_m2 184 rfl) rfl
theorem q781 : (Jvm.Cond.instanceMethod ({ cls := "RosehipCircuits", name := "fault", desc := "()I" } : Jvm.MethodName)) ∈ lw_all := lw_g (lw_at lw_m3 223 rfl) rfl
theorem q782 : (Jvm.Cond.selects "RosehipCircuits" ({ cls := "RosehipCircuits", name := "fault", desc := "()I" } : Jvm.MethodName) ({ cls := "RosehipCircuits", name := "fault", desc := "()I" } : Jvm.MethodName)) ∈ lw_all := lw_g (lw_at lw_m3 224 rfl) rfl
theorem q783 : (Jvm.Cond.codeWith ({ cls := "RosehipCircuits", name := "fault", desc := "()I" } : Jvm.MethodName) prog_1_method_54_code (3 : Nat) (Option.some Jvm.ClassFile.FieldType.int) [((9 : Nat), (14 : Nat), (17 : Nat), (308 : Nat))]) ∈ lw_all := lw_g (lw_at lw_m3 225 rfl) rfl
theorem q784 : (Jvm.Cond.classLink "RosehipCircuits" (308 : Nat) "RosehipCircuits$Misspelled") ∈ lw_all := lw_g (lw_at lw_m3 226 rfl) rfl
theorem q785 : (Jvm.Cond.classLink "RosehipCircuits" (299 : Nat) "RosehipCircuits$Reader") ∈ lw_all := lw_g (lw_at lw_m3 227 rfl) rfl
theorem q787 : (Jvm.Cond.methodLinkNest "RosehipCircuits" (301 : Nat) ({ cls := "RosehipCircuits$Reader", name := "<init>", desc := "(LRosehipCircuits;)V" } : Jvm.MethodName) "RosehipCircuits") ∈ lw_tbl := lw_at lw_m3 229 rfl
theorem q793 : (Jvm.Cond.fieldLinkNest "RosehipCircuits" (310 : Nat) "RosehipCircuits$Reader" "fault" "I" "RosehipCircuits") ∈ lw_tbl := lw_at lw_m3 235 rfl
theorem q802 : (Jvm.Cond.methodLink "RosehipCircuits" (304 : Nat) ({ cls := "RosehipCircuits$Reader", name := "orders", desc := "()Ljava/util/List;" } : Jvm.MethodName)) ∈ lw_all := lw_g (lw_at lw_m4 4 rfl) rfl
theorem q926 : (Jvm.Cond.static ({ cls := "RosehipCircuits", name := "isWithin", desc := "(III)Z" } : Jvm.MethodName)) ∈ lw_all := lw_g (lw_at lw_m4 128 rfl) rfl
theorem q927 : (Jvm.Cond.code ({ cls := "RosehipCircuits", name := "isWithin", desc := "(III)Z" } : Jvm.MethodName) prog_1_method_1_code (3 : Nat) (Option.some Jvm.ClassFile.FieldType.boolean)) ∈ lw_all := lw_g (lw_at lw_m4 129 rfl) rfl
theorem q978 : (Jvm.Cond.instanceMethod ({ cls := "RosehipCircuits", name := "savedStates", desc := "()I" } : Jvm.MethodName)) ∈ lw_all := lw_g (lw_at lw_m4 180 rfl) rfl
theorem q979 : (Jvm.Cond.selects "RosehipCircuits" ({ cls := "RosehipCircuits", name := "savedStates", desc := "()I" } : Jvm.MethodName) ({ cls := "RosehipCircuits", name := "savedStates", desc := "()I" } : Jvm.MethodName)) ∈ lw_all := lw_g (lw_at lw_m4 181 rfl) rfl
theorem q980 : (Jvm.Cond.code ({ cls := "RosehipCircuits", name := "savedStates", desc := "()I" } : Jvm.MethodName) prog_1_method_60_code (1 : Nat) (Option.some Jvm.ClassFile.FieldType.int)) ∈ lw_all := lw_g (lw_at lw_m4 182 rfl) rfl
theorem q982 : (Jvm.Cond.instanceMethod ({ cls := "RosehipCircuits", name := "keep", desc := "()I" } : Jvm.MethodName)) ∈ lw_all := lw_g (lw_at lw_m4 184 rfl) rfl
theorem q983 : (Jvm.Cond.selects "RosehipCircuits" ({ cls := "RosehipCircuits", name := "keep", desc := "()I" } : Jvm.MethodName) ({ cls := "RosehipCircuits", name := "keep", desc := "()I" } : Jvm.MethodName)) ∈ lw_all := lw_g (lw_at lw_m4 185 rfl) rfl
theorem q984 : (Jvm.Cond.code ({ cls := "RosehipCircuits", name := "keep", desc := "()I" } : Jvm.MethodName) prog_1_method_61_code (1 : Nat) (Option.some Jvm.ClassFile.FieldType.int)) ∈ lw_all := lw_g (lw_at lw_m4 186 rfl) rfl
theorem q986 : (Jvm.Cond.instanceMethod ({ cls := "RosehipCircuits", name := "gates", desc := "()I" } : Jvm.MethodName)) ∈ lw_all := lw_g (lw_at lw_m4 188 rfl) rfl
theorem q987 : (Jvm.Cond.selects "RosehipCircuits" ({ cls := "RosehipCircuits", name := "gates", desc := "()I" } : Jvm.MethodName) ({ cls := "RosehipCircuits", name := "gates", desc := "()I" } : Jvm.MethodName)) ∈ lw_all := lw_g (lw_at lw_m4 189 rfl) rfl
theorem q988 : (Jvm.Cond.code ({ cls := "RosehipCircuits", name := "gates", desc := "()I" } : Jvm.MethodName) prog_1_method_63_code (1 : Nat) (Option.some Jvm.ClassFile.FieldType.int)) ∈ lw_all := lw_g (lw_at lw_m4 190 rfl) rfl
theorem q990 : (Jvm.Cond.instanceMethod ({ cls := "RosehipCircuits", name := "outputs", desc := "()I" } : Jvm.MethodName)) ∈ lw_all := lw_g (lw_at lw_m4 192 rfl) rfl
theorem q991 : (Jvm.Cond.selects "RosehipCircuits" ({ cls := "RosehipCircuits", name := "outputs", desc := "()I" } : Jvm.MethodName) ({ cls := "RosehipCircuits", name := "outputs", desc := "()I" } : Jvm.MethodName)) ∈ lw_all := lw_g (lw_at lw_m4 193 rfl) rfl
theorem q992 : (Jvm.Cond.code ({ cls := "RosehipCircuits", name := "outputs", desc := "()I" } : Jvm.MethodName) prog_1_method_66_code (1 : Nat) (Option.some Jvm.ClassFile.FieldType.int)) ∈ lw_all := lw_g (lw_at lw_m4 194 rfl) rfl
theorem q994 : (Jvm.Cond.instanceMethod ({ cls := "RosehipCircuits", name := "boxes", desc := "()I" } : Jvm.MethodName)) ∈ lw_all := lw_g (lw_at lw_m4 196 rfl) rfl
theorem q995 : (Jvm.Cond.selects "RosehipCircuits" ({ cls := "RosehipCircuits", name := "boxes", desc := "()I" } : Jvm.MethodName) ({ cls := "RosehipCircuits", name := "boxes", desc := "()I" } : Jvm.MethodName)) ∈ lw_all := lw_g (lw_at lw_m4 197 rfl) rfl
theorem q996 : (Jvm.Cond.code ({ cls := "RosehipCircuits", name := "boxes", desc := "()I" } : Jvm.MethodName) prog_1_method_67_code (1 : Nat) (Option.some Jvm.ClassFile.FieldType.int)) ∈ lw_all := lw_g (lw_at lw_m4 198 rfl) rfl
theorem q998 : (Jvm.Cond.instanceMethod ({ cls := "RosehipCircuits", name := "idleLines", desc := "()I" } : Jvm.MethodName)) ∈ lw_all := lw_g (lw_at lw_m4 200 rfl) rfl
theorem q999 : (Jvm.Cond.selects "RosehipCircuits" ({ cls := "RosehipCircuits", name := "idleLines", desc := "()I" } : Jvm.MethodName) ({ cls := "RosehipCircuits", name := "idleLines", desc := "()I" } : Jvm.MethodName)) ∈ lw_all := lw_g (lw_at lw_m4 201 rfl) rfl
theorem q1000 : (Jvm.Cond.code ({ cls := "RosehipCircuits", name := "idleLines", desc := "()I" } : Jvm.MethodName) prog_1_method_73_code (1 : Nat) (Option.some Jvm.ClassFile.FieldType.int)) ∈ lw_all := lw_g (lw_at lw_m4 202 rfl) rfl
theorem q1001 : (Jvm.Cond.methodLink "RosehipCircuits" (391 : Nat) ({ cls := "RosehipCircuits", name := "lively", desc := "()I" } : Jvm.MethodName)) ∈ lw_all := lw_g (lw_at lw_m4 203 rfl) rfl
theorem q1002 : (Jvm.Cond.privateMethod ({ cls := "RosehipCircuits", name := "lively", desc := "()I" } : Jvm.MethodName)) ∈ lw_tbl := lw_at lw_m4 204 rfl
theorem q1003 : (Jvm.Cond.instanceMethod ({ cls := "RosehipCircuits", name := "lively", desc := "()I" } : Jvm.MethodName)) ∈ lw_all := lw_g (lw_at lw_m4 205 rfl) rfl
theorem q1004 : (Jvm.Cond.code ({ cls := "RosehipCircuits", name := "lively", desc := "()I" } : Jvm.MethodName) prog_1_method_18_code (3 : Nat) (Option.some Jvm.ClassFile.FieldType.int)) ∈ lw_all := lw_g (lw_at lw_m4 206 rfl) rfl
theorem q1005 : (Jvm.Cond.methodLink "RosehipCircuits" (103 : Nat) ({ cls := "RosehipCircuits", name := "behind", desc := "(I)I" } : Jvm.MethodName)) ∈ lw_all := lw_g (lw_at lw_m4 207 rfl) rfl
theorem q1006 : (Jvm.Cond.privateMethod ({ cls := "RosehipCircuits", name := "behind", desc := "(I)I" } : Jvm.MethodName)) ∈ lw_tbl := lw_at lw_m4 208 rfl
theorem q1007 : (Jvm.Cond.instanceMethod ({ cls := "RosehipCircuits", name := "behind", desc := "(I)I" } : Jvm.MethodName)) ∈ lw_all := lw_g (lw_at lw_m4 209 rfl) rfl
theorem q1008 : (Jvm.Cond.code ({ cls := "RosehipCircuits", name := "behind", desc := "(I)I" } : Jvm.MethodName) prog_1_method_17_code (4 : Nat) (Option.some Jvm.ClassFile.FieldType.int)) ∈ lw_all := lw_g (lw_at lw_m4 210 rfl) rfl
theorem q1009 : (Jvm.Cond.methodLink "RosehipCircuits" (100 : Nat) ({ cls := "RosehipCircuits$Circuit", name := "looksAt", desc := "(II)Z" } : Jvm.MethodName)) ∈ lw_all := lw_g (lw_at lw_m4 211 rfl) rfl
theorem q1014 : (Jvm.Cond.instanceMethod ({ cls := "RosehipCircuits", name := "hiddenFaults", desc := "()J" } : Jvm.MethodName)) ∈ lw_all := lw_g (lw_at lw_m4 216 rfl) rfl
theorem q1015 : (Jvm.Cond.selects "RosehipCircuits" ({ cls := "RosehipCircuits", name := "hiddenFaults", desc := "()J" } : Jvm.MethodName) ({ cls := "RosehipCircuits", name := "hiddenFaults", desc := "()J" } : Jvm.MethodName)) ∈ lw_all := lw_g (lw_at lw_m4 217 rfl) rfl
theorem q1016 : (Jvm.Cond.code ({ cls := "RosehipCircuits", name := "hiddenFaults", desc := "()J" } : Jvm.MethodName) prog_1_method_76_code (1 : Nat) (Option.some Jvm.ClassFile.FieldType.long)) ∈ lw_all := lw_g (lw_at lw_m4 218 rfl) rfl
theorem q1018 : (Jvm.Cond.instanceMethod ({ cls := "RosehipCircuits", name := "looks", desc := "(Z)I" } : Jvm.MethodName)) ∈ lw_all := lw_g (lw_at lw_m4 220 rfl) rfl
theorem q1019 : (Jvm.Cond.selects "RosehipCircuits" ({ cls := "RosehipCircuits", name := "looks", desc := "(Z)I" } : Jvm.MethodName) ({ cls := "RosehipCircuits", name := "looks", desc := "(Z)I" } : Jvm.MethodName)) ∈ lw_all := lw_g (lw_at lw_m4 221 rfl) rfl
theorem q1020 : (Jvm.Cond.code ({ cls := "RosehipCircuits", name := "looks", desc := "(Z)I" } : Jvm.MethodName) prog_1_method_81_code (2 : Nat) (Option.some Jvm.ClassFile.FieldType.int)) ∈ lw_all := lw_g (lw_at lw_m4 222 rfl) rfl
theorem q1021 : (Jvm.Cond.methodLink "RosehipCircuits" (403 : Nat) ({ cls := "RosehipCircuits", name := "looksByPairs", desc := "()I" } : Jvm.MethodName)) ∈ lw_all := lw_g (lw_at lw_m4 223 rfl) rfl
theorem q1022 : (Jvm.Cond.privateMethod ({ cls := "RosehipCircuits", name := "looksByPairs", desc := "()I" } : Jvm.MethodName)) ∈ lw_tbl := lw_at lw_m4 224 rfl
theorem q1023 : (Jvm.Cond.instanceMethod ({ cls := "RosehipCircuits", name := "looksByPairs", desc := "()I" } : Jvm.MethodName)) ∈ lw_all := lw_g (lw_at lw_m4 225 rfl) rfl
theorem q1024 : (Jvm.Cond.code ({ cls := "RosehipCircuits", name := "looksByPairs", desc := "()I" } : Jvm.MethodName) prog_1_method_79_code (5 : Nat) (Option.some Jvm.ClassFile.FieldType.int)) ∈ lw_all := lw_g (lw_at lw_m4 226 rfl) rfl
theorem q1025 : (Jvm.Cond.methodLink "RosehipCircuits" (406 : Nat) ({ cls := "RosehipCircuits", name := "looksByCollecting", desc := "()I" } : Jvm.MethodName)) ∈ lw_all := lw_g (lw_at lw_m4 227 rfl) rfl
theorem q1026 : (Jvm.Cond.privateMethod ({ cls := "RosehipCircuits", name := "looksByCollecting", desc := "()I" } : Jvm.MethodName)) ∈ lw_tbl := lw_at lw_m4 228 rfl
theorem q1027 : (Jvm.Cond.instanceMethod ({ cls := "RosehipCircuits", name := "looksByCollecting", desc := "()I" } : Jvm.MethodName)) ∈ lw_all := lw_g (lw_at lw_m4 229 rfl) rfl
theorem q1028 : (Jvm.Cond.code ({ cls := "RosehipCircuits", name := "looksByCollecting", desc := "()I" } : Jvm.MethodName) prog_1_method_80_code (4 : Nat) (Option.some Jvm.ClassFile.FieldType.int)) ∈ lw_all := lw_g (lw_at lw_m4 230 rfl) rfl
theorem q1029 : (Jvm.Cond.methodLink "RosehipCircuits" (397 : Nat) ({ cls := "java/lang/Long", name := "numberOfTrailingZeros", desc := "(J)I" } : Jvm.MethodName)) ∈ lw_all := lw_g (lw_at lw_m4 231 rfl) rfl
theorem q1036 : (Jvm.Cond.methodLink "RosehipCircuits" (400 : Nat) ({ cls := "RosehipCircuits", name := "alike", desc := "(I)J" } : Jvm.MethodName)) ∈ lw_all := lw_g (lw_at lw_m4 238 rfl) rfl
theorem q1037 : (Jvm.Cond.instanceMethod ({ cls := "RosehipCircuits", name := "alike", desc := "(I)J" } : Jvm.MethodName)) ∈ lw_all := lw_g (lw_at lw_m4 239 rfl) rfl
theorem q1038 : (Jvm.Cond.selects "RosehipCircuits" ({ cls := "RosehipCircuits", name := "alike", desc := "(I)J" } : Jvm.MethodName) ({ cls := "RosehipCircuits", name := "alike", desc := "(I)J" } : Jvm.MethodName)) ∈ lw_all := lw_g (lw_at lw_m5 0 rfl) rfl
theorem q1039 : (Jvm.Cond.code ({ cls := "RosehipCircuits", name := "alike", desc := "(I)J" } : Jvm.MethodName) prog_1_method_78_code (5 : Nat) (Option.some Jvm.ClassFile.FieldType.long)) ∈ lw_all := lw_g (lw_at lw_m5 1 rfl) rfl
theorem q1040 : (Jvm.Cond.methodLink "RosehipCircuits" (394 : Nat) ({ cls := "RosehipCircuits", name := "needFault", desc := "(I)V" } : Jvm.MethodName)) ∈ lw_all := lw_g (lw_at lw_m5 2 rfl) rfl
theorem q1041 : (Jvm.Cond.privateMethod ({ cls := "RosehipCircuits", name := "needFault", desc := "(I)V" } : Jvm.MethodName)) ∈ lw_tbl := lw_at lw_m5 3 rfl
theorem q1042 : (Jvm.Cond.instanceMethod ({ cls := "RosehipCircuits", name := "needFault", desc := "(I)V" } : Jvm.MethodName)) ∈ lw_all := lw_g (lw_at lw_m5 4 rfl) rfl
theorem q1043 : (Jvm.Cond.code ({ cls := "RosehipCircuits", name := "needFault", desc := "(I)V" } : Jvm.MethodName) prog_1_method_44_code (2 : Nat) (Option.none : Option Jvm.ClassFile.FieldType)) ∈ lw_all := lw_g (lw_at lw_m5 5 rfl) rfl
theorem q1044 : (Jvm.Cond.methodLink "RosehipCircuits" (248 : Nat) ({ cls := "RosehipCircuits", name := "isWithin", desc := "(III)Z" } : Jvm.MethodName)) ∈ lw_all := lw_g (lw_at lw_m5 6 rfl) rfl
theorem q1045 : (Jvm.Cond.methodLink "RosehipCircuits" (252 : Nat) ({ cls := "RosehipCircuits", name := "needArgument", desc := "(Z)V" } : Jvm.MethodName)) ∈ lw_all := lw_g (lw_at lw_m5 7 rfl) rfl
theorem q1046 : (Jvm.Cond.static ({ cls := "RosehipCircuits", name := "needArgument", desc := "(Z)V" } : Jvm.MethodName)) ∈ lw_all := lw_g (lw_at lw_m5 8 rfl) rfl
theorem q1047 : (Jvm.Cond.code ({ cls := "RosehipCircuits", name := "needArgument", desc := "(Z)V" } : Jvm.MethodName) prog_1_method_3_code (1 : Nat) (Option.none : Option Jvm.ClassFile.FieldType)) ∈ lw_all := lw_g (lw_at lw_m5 9 rfl) rfl
theorem q1048 : (Jvm.Cond.classLink "RosehipCircuits" (11 : Nat) "java/lang/IllegalArgumentException") ∈ lw_all := lw_g (lw_at lw_m5 10 rfl) rfl
theorem q1049 : (Jvm.Cond.stringRef "RosehipCircuits" (13 : Nat) "out of range") ∈ lw_tbl := lw_at lw_m5 11 rfl
theorem q1050 : (Jvm.Cond.methodLink "RosehipCircuits" (15 : Nat) ({ cls := "java/lang/IllegalArgumentException", name := "<init>", desc := "(Ljava/lang/String;)V" } : Jvm.MethodName)) ∈ lw_all := lw_g (lw_at lw_m5 12 rfl) rfl
theorem q1052 : (Jvm.Cond.instanceMethod ({ cls := "RosehipCircuits", name := "shownBy", desc := "(J)I" } : Jvm.MethodName)) ∈ lw_all := lw_g (lw_at lw_m5 14 rfl) rfl
theorem q1053 : (Jvm.Cond.selects "RosehipCircuits" ({ cls := "RosehipCircuits", name := "shownBy", desc := "(J)I" } : Jvm.MethodName) ({ cls := "RosehipCircuits", name := "shownBy", desc := "(J)I" } : Jvm.MethodName)) ∈ lw_all := lw_g (lw_at lw_m5 15 rfl) rfl
theorem q1054 : (Jvm.Cond.code ({ cls := "RosehipCircuits", name := "shownBy", desc := "(J)I" } : Jvm.MethodName) prog_1_method_83_code (7 : Nat) (Option.some Jvm.ClassFile.FieldType.int)) ∈ lw_all := lw_g (lw_at lw_m5 16 rfl) rfl
theorem q1056 : (Jvm.Cond.instanceMethod ({ cls := "RosehipCircuits", name := "chosen", desc := "()J" } : Jvm.MethodName)) ∈ lw_all := lw_g (lw_at lw_m5 18 rfl) rfl
theorem q1057 : (Jvm.Cond.selects "RosehipCircuits" ({ cls := "RosehipCircuits", name := "chosen", desc := "()J" } : Jvm.MethodName) ({ cls := "RosehipCircuits", name := "chosen", desc := "()J" } : Jvm.MethodName)) ∈ lw_all := lw_g (lw_at lw_m5 19 rfl) rfl
theorem q1058 : (Jvm.Cond.code ({ cls := "RosehipCircuits", name := "chosen", desc := "()J" } : Jvm.MethodName) prog_1_method_84_code (1 : Nat) (Option.some Jvm.ClassFile.FieldType.long)) ∈ lw_all := lw_g (lw_at lw_m5 20 rfl) rfl
theorem q1060 : (Jvm.Cond.instanceMethod ({ cls := "RosehipCircuits", name := "fewestTests", desc := "()I" } : Jvm.MethodName)) ∈ lw_all := lw_g (lw_at lw_m5 22 rfl) rfl
theorem q1061 : (Jvm.Cond.selects "RosehipCircuits" ({ cls := "RosehipCircuits", name := "fewestTests", desc := "()I" } : Jvm.MethodName) ({ cls := "RosehipCircuits", name := "fewestTests", desc := "()I" } : Jvm.MethodName)) ∈ lw_all := lw_g (lw_at lw_m5 23 rfl) rfl
theorem q1062 : (Jvm.Cond.code ({ cls := "RosehipCircuits", name := "fewestTests", desc := "()I" } : Jvm.MethodName) prog_1_method_85_code (4 : Nat) (Option.some Jvm.ClassFile.FieldType.int)) ∈ lw_all := lw_g (lw_at lw_m5 24 rfl) rfl
theorem q1063 : (Jvm.Cond.methodLink "RosehipCircuits" (145 : Nat) ({ cls := "RosehipCircuits", name := "canShow", desc := "(JI)Z" } : Jvm.MethodName)) ∈ lw_all := lw_g (lw_at lw_m5 25 rfl) rfl
theorem q1064 : (Jvm.Cond.privateMethod ({ cls := "RosehipCircuits", name := "canShow", desc := "(JI)Z" } : Jvm.MethodName)) ∈ lw_tbl := lw_at lw_m5 26 rfl
theorem q1065 : (Jvm.Cond.instanceMethod ({ cls := "RosehipCircuits", name := "canShow", desc := "(JI)Z" } : Jvm.MethodName)) ∈ lw_all := lw_g (lw_at lw_m5 27 rfl) rfl
theorem q1066 : (Jvm.Cond.code ({ cls := "RosehipCircuits", name := "canShow", desc := "(JI)Z" } : Jvm.MethodName) prog_1_method_23_code (7 : Nat) (Option.some Jvm.ClassFile.FieldType.boolean)) ∈ lw_all := lw_g (lw_at lw_m5 28 rfl) rfl
theorem q1067 : (Jvm.Cond.methodLink "RosehipCircuits" (141 : Nat) ({ cls := "RosehipCircuits", name := "isWeaker", desc := "(IJ)Z" } : Jvm.MethodName)) ∈ lw_all := lw_g (lw_at lw_m5 29 rfl) rfl
theorem q1068 : (Jvm.Cond.privateMethod ({ cls := "RosehipCircuits", name := "isWeaker", desc := "(IJ)Z" } : Jvm.MethodName)) ∈ lw_tbl := lw_at lw_m5 30 rfl
theorem q1069 : (Jvm.Cond.instanceMethod ({ cls := "RosehipCircuits", name := "isWeaker", desc := "(IJ)Z" } : Jvm.MethodName)) ∈ lw_all := lw_g (lw_at lw_m5 31 rfl) rfl
theorem q1070 : (Jvm.Cond.code ({ cls := "RosehipCircuits", name := "isWeaker", desc := "(IJ)Z" } : Jvm.MethodName) prog_1_method_24_code (9 : Nat) (Option.some Jvm.ClassFile.FieldType.boolean)) ∈ lw_all := lw_g (lw_at lw_m5 32 rfl) rfl
theorem q1072 : (Jvm.Cond.instanceMethod ({ cls := "RosehipCircuits", name := "neededTests", desc := "()J" } : Jvm.MethodName)) ∈ lw_all := lw_g (lw_at lw_m5 34 rfl) rfl
theorem q1073 : (Jvm.Cond.selects "RosehipCircuits" ({ cls := "RosehipCircuits", name := "neededTests", desc := "()J" } : Jvm.MethodName) ({ cls := "RosehipCircuits", name := "neededTests", desc := "()J" } : Jvm.MethodName)) ∈ lw_all := lw_g (lw_at lw_m5 35 rfl) rfl
theorem q1074 : (Jvm.Cond.code ({ cls := "RosehipCircuits", name := "neededTests", desc := "()J" } : Jvm.MethodName) prog_1_method_86_code (4 : Nat) (Option.some Jvm.ClassFile.FieldType.long)) ∈ lw_all := lw_g (lw_at lw_m5 36 rfl) rfl
theorem q1076 : (Jvm.Cond.instanceMethod ({ cls := "RosehipCircuits", name := "secret", desc := "()I" } : Jvm.MethodName)) ∈ lw_all := lw_g (lw_at lw_m5 38 rfl) rfl
theorem q1077 : (Jvm.Cond.selects "RosehipCircuits" ({ cls := "RosehipCircuits", name := "secret", desc := "()I" } : Jvm.MethodName) ({ cls := "RosehipCircuits", name := "secret", desc := "()I" } : Jvm.MethodName)) ∈ lw_all := lw_g (lw_at lw_m5 39 rfl) rfl
theorem q1078 : (Jvm.Cond.code ({ cls := "RosehipCircuits", name := "secret", desc := "()I" } : Jvm.MethodName) prog_1_method_87_code (1 : Nat) (Option.some Jvm.ClassFile.FieldType.int)) ∈ lw_all := lw_g (lw_at lw_m5 40 rfl) rfl
theorem q1080 : (Jvm.Cond.instanceMethod ({ cls := "RosehipCircuits", name := "isSuspecting", desc := "()Z" } : Jvm.MethodName)) ∈ lw_all := lw_g (lw_at lw_m5 42 rfl) rfl
theorem q1081 : (Jvm.Cond.selects "RosehipCircuits" ({ cls := "RosehipCircuits", name := "isSuspecting", desc := "()Z" } : Jvm.MethodName) ({ cls := "RosehipCircuits", name := "isSuspecting", desc := "()Z" } : Jvm.MethodName)) ∈ lw_all := lw_g (lw_at lw_m5 43 rfl) rfl
theorem q1082 : (Jvm.Cond.code ({ cls := "RosehipCircuits", name := "isSuspecting", desc := "()Z" } : Jvm.MethodName) prog_1_method_88_code (1 : Nat) (Option.some Jvm.ClassFile.FieldType.boolean)) ∈ lw_all := lw_g (lw_at lw_m5 44 rfl) rfl
theorem q1084 : (Jvm.Cond.instanceMethod ({ cls := "RosehipCircuits", name := "asked", desc := "()I" } : Jvm.MethodName)) ∈ lw_all := lw_g (lw_at lw_m5 46 rfl) rfl
theorem q1085 : (Jvm.Cond.selects "RosehipCircuits" ({ cls := "RosehipCircuits", name := "asked", desc := "()I" } : Jvm.MethodName) ({ cls := "RosehipCircuits", name := "asked", desc := "()I" } : Jvm.MethodName)) ∈ lw_all := lw_g (lw_at lw_m5 47 rfl) rfl
theorem q1086 : (Jvm.Cond.code ({ cls := "RosehipCircuits", name := "asked", desc := "()I" } : Jvm.MethodName) prog_1_method_89_code (1 : Nat) (Option.some Jvm.ClassFile.FieldType.int)) ∈ lw_all := lw_g (lw_at lw_m5 48 rfl) rfl
theorem q1088 : (Jvm.Cond.instanceMethod ({ cls := "RosehipCircuits", name := "hypotheses", desc := "()I" } : Jvm.MethodName)) ∈ lw_all := lw_g (lw_at lw_m5 50 rfl) rfl
theorem q1089 : (Jvm.Cond.selects "RosehipCircuits" ({ cls := "RosehipCircuits", name := "hypotheses", desc := "()I" } : Jvm.MethodName) ({ cls := "RosehipCircuits", name := "hypotheses", desc := "()I" } : Jvm.MethodName)) ∈ lw_all := lw_g (lw_at lw_m5 51 rfl) rfl
theorem q1090 : (Jvm.Cond.code ({ cls := "RosehipCircuits", name := "hypotheses", desc := "()I" } : Jvm.MethodName) prog_1_method_91_code (1 : Nat) (Option.some Jvm.ClassFile.FieldType.int)) ∈ lw_all := lw_g (lw_at lw_m5 52 rfl) rfl
theorem q1091 : (Jvm.Cond.methodLink "RosehipCircuits" (162 : Nat) ({ cls := "RosehipCircuits", name := "assignments", desc := "()I" } : Jvm.MethodName)) ∈ lw_all := lw_g (lw_at lw_m5 53 rfl) rfl
theorem q1092 : (Jvm.Cond.privateMethod ({ cls := "RosehipCircuits", name := "assignments", desc := "()I" } : Jvm.MethodName)) ∈ lw_tbl := lw_at lw_m5 54 rfl
theorem q1093 : (Jvm.Cond.instanceMethod ({ cls := "RosehipCircuits", name := "assignments", desc := "()I" } : Jvm.MethodName)) ∈ lw_all := lw_g (lw_at lw_m5 55 rfl) rfl
theorem q1094 : (Jvm.Cond.code ({ cls := "RosehipCircuits", name := "assignments", desc := "()I" } : Jvm.MethodName) prog_1_method_25_code (3 : Nat) (Option.some Jvm.ClassFile.FieldType.int)) ∈ lw_all := lw_g (lw_at lw_m5 56 rfl) rfl
theorem q1095 : (Jvm.Cond.methodLink "RosehipCircuits" (165 : Nat) ({ cls := "RosehipCircuits", name := "faultsTold", desc := "()I" } : Jvm.MethodName)) ∈ lw_all := lw_g (lw_at lw_m5 57 rfl) rfl
theorem q1096 : (Jvm.Cond.privateMethod ({ cls := "RosehipCircuits", name := "faultsTold", desc := "()I" } : Jvm.MethodName)) ∈ lw_tbl := lw_at lw_m5 58 rfl
theorem q1097 : (Jvm.Cond.instanceMethod ({ cls := "RosehipCircuits", name := "faultsTold", desc := "()I" } : Jvm.MethodName)) ∈ lw_all := lw_g (lw_at lw_m5 59 rfl) rfl
theorem q1098 : (Jvm.Cond.code ({ cls := "RosehipCircuits", name := "faultsTold", desc := "()I" } : Jvm.MethodName) prog_1_method_26_code (1 : Nat) (Option.some Jvm.ClassFile.FieldType.int)) ∈ lw_all := lw_g (lw_at lw_m5 60 rfl) rfl
theorem q1100 : (Jvm.Cond.instanceMethod ({ cls := "RosehipCircuits", name := "candidates", desc := "(Z)I" } : Jvm.MethodName)) ∈ lw_all := lw_g (lw_at lw_m5 62 rfl) rfl
theorem q1101 : (Jvm.Cond.selects "RosehipCircuits" ({ cls := "RosehipCircuits", name := "candidates", desc := "(Z)I" } : Jvm.MethodName) ({ cls := "RosehipCircuits", name := "candidates", desc := "(Z)I" } : Jvm.MethodName)) ∈ lw_all := lw_g (lw_at lw_m5 63 rfl) rfl
theorem q1102 : (Jvm.Cond.code ({ cls := "RosehipCircuits", name := "candidates", desc := "(Z)I" } : Jvm.MethodName) prog_1_method_92_code (2 : Nat) (Option.some Jvm.ClassFile.FieldType.int)) ∈ lw_all := lw_g (lw_at lw_m5 64 rfl) rfl
theorem q1103 : (Jvm.Cond.methodLink "RosehipCircuits" (409 : Nat) ({ cls := "RosehipCircuits", name := "candidatesByTables", desc := "()I" } : Jvm.MethodName)) ∈ lw_all := lw_g (lw_at lw_m5 65 rfl) rfl
theorem q1104 : (Jvm.Cond.privateMethod ({ cls := "RosehipCircuits", name := "candidatesByTables", desc := "()I" } : Jvm.MethodName)) ∈ lw_tbl := lw_at lw_m5 66 rfl
theorem q1105 : (Jvm.Cond.instanceMethod ({ cls := "RosehipCircuits", name := "candidatesByTables", desc := "()I" } : Jvm.MethodName)) ∈ lw_all := lw_g (lw_at lw_m5 67 rfl) rfl
theorem q1106 : (Jvm.Cond.code ({ cls := "RosehipCircuits", name := "candidatesByTables", desc := "()I" } : Jvm.MethodName) prog_1_method_28_code (6 : Nat) (Option.some Jvm.ClassFile.FieldType.int)) ∈ lw_all := lw_g (lw_at lw_m5 68 rfl) rfl
theorem q1107 : (Jvm.Cond.methodLink "RosehipCircuits" (168 : Nat) ({ cls := "RosehipCircuits", name := "isCandidate", desc := "(II)Z" } : Jvm.MethodName)) ∈ lw_all := lw_g (lw_at lw_m5 69 rfl) rfl
theorem q1108 : (Jvm.Cond.privateMethod ({ cls := "RosehipCircuits", name := "isCandidate", desc := "(II)Z" } : Jvm.MethodName)) ∈ lw_tbl := lw_at lw_m5 70 rfl
theorem q1109 : (Jvm.Cond.instanceMethod ({ cls := "RosehipCircuits", name := "isCandidate", desc := "(II)Z" } : Jvm.MethodName)) ∈ lw_all := lw_g (lw_at lw_m5 71 rfl) rfl
theorem q1110 : (Jvm.Cond.code ({ cls := "RosehipCircuits", name := "isCandidate", desc := "(II)Z" } : Jvm.MethodName) prog_1_method_27_code (5 : Nat) (Option.some Jvm.ClassFile.FieldType.boolean)) ∈ lw_all := lw_g (lw_at lw_m5 72 rfl) rfl
theorem q1111 : (Jvm.Cond.methodLink "RosehipCircuits" (152 : Nat) ({ cls := "RosehipCircuits", name := "layAnswers", desc := "()V" } : Jvm.MethodName)) ∈ lw_all := lw_g (lw_at lw_m5 73 rfl) rfl
theorem q1112 : (Jvm.Cond.privateMethod ({ cls := "RosehipCircuits", name := "layAnswers", desc := "()V" } : Jvm.MethodName)) ∈ lw_tbl := lw_at lw_m5 74 rfl
theorem q1113 : (Jvm.Cond.instanceMethod ({ cls := "RosehipCircuits", name := "layAnswers", desc := "()V" } : Jvm.MethodName)) ∈ lw_all := lw_g (lw_at lw_m5 75 rfl) rfl
theorem q1114 : (Jvm.Cond.code ({ cls := "RosehipCircuits", name := "layAnswers", desc := "()V" } : Jvm.MethodName) prog_1_method_13_code (4 : Nat) (Option.none : Option Jvm.ClassFile.FieldType)) ∈ lw_all := lw_g (lw_at lw_m5 76 rfl) rfl
theorem q1115 : (Jvm.Cond.methodLink "RosehipCircuits" (412 : Nat) ({ cls := "RosehipCircuits", name := "candidatesByAsks", desc := "()I" } : Jvm.MethodName)) ∈ lw_all := lw_g (lw_at lw_m5 77 rfl) rfl
theorem q1116 : (Jvm.Cond.privateMethod ({ cls := "RosehipCircuits", name := "candidatesByAsks", desc := "()I" } : Jvm.MethodName)) ∈ lw_tbl := lw_at lw_m5 78 rfl
theorem q1117 : (Jvm.Cond.instanceMethod ({ cls := "RosehipCircuits", name := "candidatesByAsks", desc := "()I" } : Jvm.MethodName)) ∈ lw_all := lw_g (lw_at lw_m5 79 rfl) rfl
theorem q1118 : (Jvm.Cond.code ({ cls := "RosehipCircuits", name := "candidatesByAsks", desc := "()I" } : Jvm.MethodName) prog_1_method_30_code (6 : Nat) (Option.some Jvm.ClassFile.FieldType.int)) ∈ lw_all := lw_g (lw_at lw_m5 80 rfl) rfl
theorem q1119 : (Jvm.Cond.methodLink "RosehipCircuits" (174 : Nat) ({ cls := "RosehipCircuits", name := "isLeft", desc := "(II)Z" } : Jvm.MethodName)) ∈ lw_all := lw_g (lw_at lw_m5 81 rfl) rfl
theorem q1120 : (Jvm.Cond.privateMethod ({ cls := "RosehipCircuits", name := "isLeft", desc := "(II)Z" } : Jvm.MethodName)) ∈ lw_tbl := lw_at lw_m5 82 rfl
theorem q1121 : (Jvm.Cond.instanceMethod ({ cls := "RosehipCircuits", name := "isLeft", desc := "(II)Z" } : Jvm.MethodName)) ∈ lw_all := lw_g (lw_at lw_m5 83 rfl) rfl
theorem q1122 : (Jvm.Cond.code ({ cls := "RosehipCircuits", name := "isLeft", desc := "(II)Z" } : Jvm.MethodName) prog_1_method_29_code (5 : Nat) (Option.some Jvm.ClassFile.FieldType.boolean)) ∈ lw_all := lw_g (lw_at lw_m5 84 rfl) rfl
theorem q1123 : (Jvm.Cond.methodLink "RosehipCircuits" (171 : Nat) ({ cls := "RosehipCircuits", name := "answer", desc := "(III)I" } : Jvm.MethodName)) ∈ lw_all := lw_g (lw_at lw_m5 85 rfl) rfl
theorem q1124 : (Jvm.Cond.privateMethod ({ cls := "RosehipCircuits", name := "answer", desc := "(III)I" } : Jvm.MethodName)) ∈ lw_tbl := lw_at lw_m5 86 rfl
theorem q1125 : (Jvm.Cond.instanceMethod ({ cls := "RosehipCircuits", name := "answer", desc := "(III)I" } : Jvm.MethodName)) ∈ lw_all := lw_g (lw_at lw_m5 87 rfl) rfl
theorem q1126 : (Jvm.Cond.code ({ cls := "RosehipCircuits", name := "answer", desc := "(III)I" } : Jvm.MethodName) prog_1_method_16_code (7 : Nat) (Option.some Jvm.ClassFile.FieldType.int)) ∈ lw_all := lw_g (lw_at lw_m5 88 rfl) rfl
theorem q1127 : (Jvm.Cond.methodLink "RosehipCircuits" (96 : Nat) ({ cls := "RosehipCircuits", name := "layValues", desc := "(III)V" } : Jvm.MethodName)) ∈ lw_all := lw_g (lw_at lw_m5 89 rfl) rfl
theorem q1128 : (Jvm.Cond.privateMethod ({ cls := "RosehipCircuits", name := "layValues", desc := "(III)V" } : Jvm.MethodName)) ∈ lw_tbl := lw_at lw_m5 90 rfl
theorem q1129 : (Jvm.Cond.instanceMethod ({ cls := "RosehipCircuits", name := "layValues", desc := "(III)V" } : Jvm.MethodName)) ∈ lw_all := lw_g (lw_at lw_m5 91 rfl) rfl
theorem q1130 : (Jvm.Cond.code ({ cls := "RosehipCircuits", name := "layValues", desc := "(III)V" } : Jvm.MethodName) prog_1_method_14_code (7 : Nat) (Option.none : Option Jvm.ClassFile.FieldType)) ∈ lw_all := lw_g (lw_at lw_m5 92 rfl) rfl
theorem q1131 : (Jvm.Cond.methodLink "RosehipCircuits" (92 : Nat) ({ cls := "RosehipCircuits", name := "valueBy", desc := "(III)I" } : Jvm.MethodName)) ∈ lw_all := lw_g (lw_at lw_m5 93 rfl) rfl
theorem q1132 : (Jvm.Cond.static ({ cls := "RosehipCircuits", name := "valueBy", desc := "(III)I" } : Jvm.MethodName)) ∈ lw_all := lw_g (lw_at lw_m5 94 rfl) rfl
theorem q1133 : (Jvm.Cond.code ({ cls := "RosehipCircuits", name := "valueBy", desc := "(III)I" } : Jvm.MethodName) prog_1_method_15_code (4 : Nat) (Option.some Jvm.ClassFile.FieldType.int)) ∈ lw_all := lw_g (lw_at lw_m5 95 rfl) rfl
theorem q1135 : (Jvm.Cond.instanceMethod ({ cls := "RosehipCircuits", name := "areAlike", desc := "()Z" } : Jvm.MethodName)) ∈ lw_all := lw_g (lw_at lw_m5 97 rfl) rfl
theorem q1136 : (Jvm.Cond.selects "RosehipCircuits" ({ cls := "RosehipCircuits", name := "areAlike", desc := "()Z" } : Jvm.MethodName) ({ cls := "RosehipCircuits", name := "areAlike", desc := "()Z" } : Jvm.MethodName)) ∈ lw_all := lw_g (lw_at lw_m5 98 rfl) rfl
theorem q1137 : (Jvm.Cond.code ({ cls := "RosehipCircuits", name := "areAlike", desc := "()Z" } : Jvm.MethodName) prog_1_method_94_code (4 : Nat) (Option.some Jvm.ClassFile.FieldType.boolean)) ∈ lw_all := lw_g (lw_at lw_m5 99 rfl) rfl
theorem q1138 : (Jvm.Cond.methodLink "RosehipCircuits" (415 : Nat) ({ cls := "RosehipCircuits", name := "layCounts", desc := "()I" } : Jvm.MethodName)) ∈ lw_all := lw_g (lw_at lw_m5 100 rfl) rfl
theorem q1139 : (Jvm.Cond.privateMethod ({ cls := "RosehipCircuits", name := "layCounts", desc := "()I" } : Jvm.MethodName)) ∈ lw_tbl := lw_at lw_m5 101 rfl
theorem q1140 : (Jvm.Cond.instanceMethod ({ cls := "RosehipCircuits", name := "layCounts", desc := "()I" } : Jvm.MethodName)) ∈ lw_all := lw_g (lw_at lw_m5 102 rfl) rfl
theorem q1141 : (Jvm.Cond.code ({ cls := "RosehipCircuits", name := "layCounts", desc := "()I" } : Jvm.MethodName) prog_1_method_31_code (7 : Nat) (Option.some Jvm.ClassFile.FieldType.int)) ∈ lw_all := lw_g (lw_at lw_m5 103 rfl) rfl
theorem q1142 : (Jvm.Cond.methodLink "RosehipCircuits" (185 : Nat) ({ cls := "RosehipCircuits", name := "worst", desc := "(I)I" } : Jvm.MethodName)) ∈ lw_all := lw_g (lw_at lw_m5 104 rfl) rfl
theorem q1143 : (Jvm.Cond.privateMethod ({ cls := "RosehipCircuits", name := "worst", desc := "(I)I" } : Jvm.MethodName)) ∈ lw_tbl := lw_at lw_m5 105 rfl
theorem q1144 : (Jvm.Cond.instanceMethod ({ cls := "RosehipCircuits", name := "worst", desc := "(I)I" } : Jvm.MethodName)) ∈ lw_all := lw_g (lw_at lw_m5 106 rfl) rfl
theorem q1145 : (Jvm.Cond.code ({ cls := "RosehipCircuits", name := "worst", desc := "(I)I" } : Jvm.MethodName) prog_1_method_32_code (4 : Nat) (Option.some Jvm.ClassFile.FieldType.int)) ∈ lw_all := lw_g (lw_at lw_m5 107 rfl) rfl
theorem q1146 : (Jvm.Cond.methodLink "RosehipCircuits" (180 : Nat) ({ cls := "java/lang/Math", name := "max", desc := "(II)I" } : Jvm.MethodName)) ∈ lw_all := lw_g (lw_at lw_m5 108 rfl) rfl
theorem q1148 : (Jvm.Cond.instanceMethod ({ cls := "RosehipCircuits", name := "bestTest", desc := "()I" } : Jvm.MethodName)) ∈ lw_all := lw_g (lw_at lw_m5 110 rfl) rfl
theorem q1149 : (Jvm.Cond.selects "RosehipCircuits" ({ cls := "RosehipCircuits", name := "bestTest", desc := "()I" } : Jvm.MethodName) ({ cls := "RosehipCircuits", name := "bestTest", desc := "()I" } : Jvm.MethodName)) ∈ lw_all := lw_g (lw_at lw_m5 111 rfl) rfl
theorem q1150 : (Jvm.Cond.code ({ cls := "RosehipCircuits", name := "bestTest", desc := "()I" } : Jvm.MethodName) prog_1_method_96_code (1 : Nat) (Option.some Jvm.ClassFile.FieldType.int)) ∈ lw_all := lw_g (lw_at lw_m5 112 rfl) rfl
theorem q1151 : (Jvm.Cond.methodLink "RosehipCircuits" (418 : Nat) ({ cls := "RosehipCircuits", name := "best", desc := "()I" } : Jvm.MethodName)) ∈ lw_all := lw_g (lw_at lw_m5 113 rfl) rfl
theorem q1152 : (Jvm.Cond.privateMethod ({ cls := "RosehipCircuits", name := "best", desc := "()I" } : Jvm.MethodName)) ∈ lw_tbl := lw_at lw_m5 114 rfl
theorem q1153 : (Jvm.Cond.instanceMethod ({ cls := "RosehipCircuits", name := "best", desc := "()I" } : Jvm.MethodName)) ∈ lw_all := lw_g (lw_at lw_m5 115 rfl) rfl
theorem q1154 : (Jvm.Cond.code ({ cls := "RosehipCircuits", name := "best", desc := "()I" } : Jvm.MethodName) prog_1_method_33_code (3 : Nat) (Option.some Jvm.ClassFile.FieldType.int)) ∈ lw_all := lw_g (lw_at lw_m5 116 rfl) rfl
theorem q1164 : (Jvm.Cond.instanceMethod ({ cls := "RosehipCircuits", name := "addGate", desc := "(III)I" } : Jvm.MethodName)) ∈ lw_all := lw_g (lw_at lw_m5 126 rfl) rfl
theorem q1165 : (Jvm.Cond.selects "RosehipCircuits" ({ cls := "RosehipCircuits", name := "addGate", desc := "(III)I" } : Jvm.MethodName) ({ cls := "RosehipCircuits", name := "addGate", desc := "(III)I" } : Jvm.MethodName)) ∈ lw_all := lw_g (lw_at lw_m5 127 rfl) rfl
theorem q1166 : (Jvm.Cond.code ({ cls := "RosehipCircuits", name := "addGate", desc := "(III)I" } : Jvm.MethodName) prog_1_method_38_code (4 : Nat) (Option.some Jvm.ClassFile.FieldType.int)) ∈ lw_all := lw_g (lw_at lw_m5 128 rfl) rfl
theorem q1167 : (Jvm.Cond.static ({ cls := "RosehipCircuits", name := "lambda$addGate$0", desc := "(IIILRosehipCircuits$Circuit;)I" } : Jvm.MethodName)) ∈ lw_all := lw_g (lw_at lw_m5 129 rfl) rfl
theorem q1168 : (Jvm.Cond.code ({ cls := "RosehipCircuits", name := "lambda$addGate$0", desc := "(IIILRosehipCircuits$Circuit;)I" } : Jvm.MethodName) prog_1_method_103_code (4 : Nat) (Option.some Jvm.ClassFile.FieldType.int)) ∈ lw_all := lw_g (lw_at lw_m5 130 rfl) rfl
theorem q1169 : (Jvm.Cond.methodLink "RosehipCircuits" (332 : Nat) ({ cls := "RosehipCircuits$Circuit", name := "addGate", desc := "(III)I" } : Jvm.MethodName)) ∈ lw_all := lw_g (lw_at lw_m5 131 rfl) rfl
theorem q1179 : (Jvm.Cond.static ({ cls := "RosehipCircuits", name := "needThere", desc := "(Z)V" } : Jvm.MethodName)) ∈ lw_all := lw_g (lw_at lw_m5 141 rfl) rfl
theorem q1180 : (Jvm.Cond.code ({ cls := "RosehipCircuits", name := "needThere", desc := "(Z)V" } : Jvm.MethodName) prog_1_method_2_code (1 : Nat) (Option.none : Option Jvm.ClassFile.FieldType)) ∈ lw_all := lw_g (lw_at lw_m5 142 rfl) rfl
theorem q1181 : (Jvm.Cond.classLink "RosehipCircuits" (3 : Nat) "java/lang/IndexOutOfBoundsException") ∈ lw_all := lw_g (lw_at lw_m5 143 rfl) rfl
theorem q1190 : (Jvm.Cond.stringRef "RosehipCircuits" (5 : Nat) "there is none") ∈ lw_tbl := lw_at lw_m5 152 rfl
theorem q1191 : (Jvm.Cond.methodLink "RosehipCircuits" (7 : Nat) ({ cls := "java/lang/IndexOutOfBoundsException", name := "<init>", desc := "(Ljava/lang/String;)V" } : Jvm.MethodName)) ∈ lw_all := lw_g (lw_at lw_m5 153 rfl) rfl
theorem q1196 : (Jvm.Cond.static ({ cls := "RosehipCircuits", name := "needState", desc := "(Z)V" } : Jvm.MethodName)) ∈ lw_all := lw_g (lw_at lw_m5 158 rfl) rfl
theorem q1197 : (Jvm.Cond.code ({ cls := "RosehipCircuits", name := "needState", desc := "(Z)V" } : Jvm.MethodName) prog_1_method_4_code (1 : Nat) (Option.none : Option Jvm.ClassFile.FieldType)) ∈ lw_all := lw_g (lw_at lw_m5 159 rfl) rfl
theorem q1198 : (Jvm.Cond.classLink "RosehipCircuits" (16 : Nat) "java/lang/IllegalStateException") ∈ lw_all := lw_g (lw_at lw_m5 160 rfl) rfl
theorem q1199 : (Jvm.Cond.stringRef "RosehipCircuits" (18 : Nat) "not possible") ∈ lw_tbl := lw_at lw_m5 161 rfl
theorem q1200 : (Jvm.Cond.methodLink "RosehipCircuits" (20 : Nat) ({ cls := "java/lang/IllegalStateException", name := "<init>", desc := "(Ljava/lang/String;)V" } : Jvm.MethodName)) ∈ lw_all := lw_g (lw_at lw_m5 162 rfl) rfl
theorem q1206 : (Jvm.Cond.methodLink "RosehipCircuits" (233 : Nat) ({ cls := "RosehipCircuits", name := "change", desc := "(LRosehipCircuits$Change;)I" } : Jvm.MethodName)) ∈ lw_all := lw_g (lw_at lw_m5 168 rfl) rfl
theorem q1207 : (Jvm.Cond.privateMethod ({ cls := "RosehipCircuits", name := "change", desc := "(LRosehipCircuits$Change;)I" } : Jvm.MethodName)) ∈ lw_tbl := lw_at lw_m5 169 rfl
theorem q1208 : (Jvm.Cond.instanceMethod ({ cls := "RosehipCircuits", name := "change", desc := "(LRosehipCircuits$Change;)I" } : Jvm.MethodName)) ∈ lw_all := lw_g (lw_at lw_m5 170 rfl) rfl
theorem q1209 : (Jvm.Cond.code ({ cls := "RosehipCircuits", name := "change", desc := "(LRosehipCircuits$Change;)I" } : Jvm.MethodName) prog_1_method_37_code (4 : Nat) (Option.some Jvm.ClassFile.FieldType.int)) ∈ lw_all := lw_g (lw_at lw_m5 171 rfl) rfl
theorem q1210 : (Jvm.Cond.interfaceEntry "RosehipCircuits" (224 : Nat)) ∈ lw_tbl := lw_at lw_m5 172 rfl
theorem q1211 : (Jvm.Cond.methodLink "RosehipCircuits" (224 : Nat) ({ cls := "RosehipCircuits$Change", name := "on", desc := "(LRosehipCircuits$Circuit;)I" } : Jvm.MethodName)) ∈ lw_all := lw_g (lw_at lw_m5 173 rfl) rfl
theorem q1218 : (Jvm.Cond.instanceMethod ({ cls := "RosehipCircuits", name := "dropGate", desc := "()I" } : Jvm.MethodName)) ∈ lw_all := lw_g (lw_at lw_m5 180 rfl) rfl
theorem q1219 : (Jvm.Cond.selects "RosehipCircuits" ({ cls := "RosehipCircuits", name := "dropGate", desc := "()I" } : Jvm.MethodName) ({ cls := "RosehipCircuits", name := "dropGate", desc := "()I" } : Jvm.MethodName)) ∈ lw_all := lw_g (lw_at lw_m5 181 rfl) rfl
theorem q1220 : (Jvm.Cond.code ({ cls := "RosehipCircuits", name := "dropGate", desc := "()I" } : Jvm.MethodName) prog_1_method_39_code (1 : Nat) (Option.some Jvm.ClassFile.FieldType.int)) ∈ lw_all := lw_g (lw_at lw_m5 182 rfl) rfl
theorem q1221 : (Jvm.Cond.static ({ cls := "RosehipCircuits", name := "lambda$dropGate$1", desc := "(LRosehipCircuits$Circuit;)I" } : Jvm.MethodName)) ∈ lw_all := lw_g (lw_at lw_m5 183 rfl) rfl
theorem q1222 : (Jvm.Cond.code ({ cls := "RosehipCircuits", name := "lambda$dropGate$1", desc := "(LRosehipCircuits$Circuit;)I" } : Jvm.MethodName) prog_1_method_102_code (1 : Nat) (Option.some Jvm.ClassFile.FieldType.int)) ∈ lw_all := lw_g (lw_at lw_m5 184 rfl) rfl
theorem q1223 : (Jvm.Cond.methodLink "RosehipCircuits" (427 : Nat) ({ cls := "RosehipCircuits$Circuit", name := "dropGate", desc := "()I" } : Jvm.MethodName)) ∈ lw_all := lw_g (lw_at lw_m5 185 rfl) rfl
theorem q1231 : (Jvm.Cond.instanceMethod ({ cls := "RosehipCircuits", name := "setKind", desc := "(II)I" } : Jvm.MethodName)) ∈ lw_all := lw_g (lw_at lw_m5 193 rfl) rfl
theorem q1232 : (Jvm.Cond.selects "RosehipCircuits" ({ cls := "RosehipCircuits", name := "setKind", desc := "(II)I" } : Jvm.MethodName) ({ cls := "RosehipCircuits", name := "setKind", desc := "(II)I" } : Jvm.MethodName)) ∈ lw_all := lw_g (lw_at lw_m5 194 rfl) rfl
theorem q1233 : (Jvm.Cond.code ({ cls := "RosehipCircuits", name := "setKind", desc := "(II)I" } : Jvm.MethodName) prog_1_method_40_code (3 : Nat) (Option.some Jvm.ClassFile.FieldType.int)) ∈ lw_all := lw_g (lw_at lw_m5 195 rfl) rfl
theorem q1234 : (Jvm.Cond.static ({ cls := "RosehipCircuits", name := "lambda$setKind$2", desc := "(IILRosehipCircuits$Circuit;)I" } : Jvm.MethodName)) ∈ lw_all := lw_g (lw_at lw_m5 196 rfl) rfl
theorem q1235 : (Jvm.Cond.code ({ cls := "RosehipCircuits", name := "lambda$setKind$2", desc := "(IILRosehipCircuits$Circuit;)I" } : Jvm.MethodName) prog_1_method_101_code (3 : Nat) (Option.some Jvm.ClassFile.FieldType.int)) ∈ lw_all := lw_g (lw_at lw_m5 197 rfl) rfl
theorem q1236 : (Jvm.Cond.methodLink "RosehipCircuits" (424 : Nat) ({ cls := "RosehipCircuits$Circuit", name := "setKind", desc := "(II)I" } : Jvm.MethodName)) ∈ lw_all := lw_g (lw_at lw_m5 198 rfl) rfl
theorem q1249 : (Jvm.Cond.instanceMethod ({ cls := "RosehipCircuits", name := "setSource", desc := "(III)I" } : Jvm.MethodName)) ∈ lw_all := lw_g (lw_at lw_m5 211 rfl) rfl
theorem q1250 : (Jvm.Cond.selects "RosehipCircuits" ({ cls := "RosehipCircuits", name := "setSource", desc := "(III)I" } : Jvm.MethodName) ({ cls := "RosehipCircuits", name := "setSource", desc := "(III)I" } : Jvm.MethodName)) ∈ lw_all := lw_g (lw_at lw_m5 212 rfl) rfl
theorem q1251 : (Jvm.Cond.code ({ cls := "RosehipCircuits", name := "setSource", desc := "(III)I" } : Jvm.MethodName) prog_1_method_41_code (4 : Nat) (Option.some Jvm.ClassFile.FieldType.int)) ∈ lw_all := lw_g (lw_at lw_m5 213 rfl) rfl
theorem q1252 : (Jvm.Cond.static ({ cls := "RosehipCircuits", name := "lambda$setSource$3", desc := "(IIILRosehipCircuits$Circuit;)I" } : Jvm.MethodName)) ∈ lw_all := lw_g (lw_at lw_m5 214 rfl) rfl
theorem q1253 : (Jvm.Cond.code ({ cls := "RosehipCircuits", name := "lambda$setSource$3", desc := "(IIILRosehipCircuits$Circuit;)I" } : Jvm.MethodName) prog_1_method_100_code (4 : Nat) (Option.some Jvm.ClassFile.FieldType.int)) ∈ lw_all := lw_g (lw_at lw_m5 215 rfl) rfl
theorem q1254 : (Jvm.Cond.methodLink "RosehipCircuits" (421 : Nat) ({ cls := "RosehipCircuits$Circuit", name := "setSource", desc := "(III)I" } : Jvm.MethodName)) ∈ lw_all := lw_g (lw_at lw_m5 216 rfl) rfl
theorem q1262 : (Jvm.Cond.instanceMethod ({ cls := "RosehipCircuits", name := "turnOutput", desc := "(I)I" } : Jvm.MethodName)) ∈ lw_all := lw_g (lw_at lw_m5 224 rfl) rfl
theorem q1263 : (Jvm.Cond.selects "RosehipCircuits" ({ cls := "RosehipCircuits", name := "turnOutput", desc := "(I)I" } : Jvm.MethodName) ({ cls := "RosehipCircuits", name := "turnOutput", desc := "(I)I" } : Jvm.MethodName)) ∈ lw_all := lw_g (lw_at lw_m5 225 rfl) rfl
theorem q1264 : (Jvm.Cond.code ({ cls := "RosehipCircuits", name := "turnOutput", desc := "(I)I" } : Jvm.MethodName) prog_1_method_42_code (2 : Nat) (Option.some Jvm.ClassFile.FieldType.int)) ∈ lw_all := lw_g (lw_at lw_m5 226 rfl) rfl
theorem q1265 : (Jvm.Cond.static ({ cls := "RosehipCircuits", name := "lambda$turnOutput$4", desc := "(ILRosehipCircuits$Circuit;)I" } : Jvm.MethodName)) ∈ lw_all := lw_g (lw_at lw_m5 227 rfl) rfl
theorem q1266 : (Jvm.Cond.code ({ cls := "RosehipCircuits", name := "lambda$turnOutput$4", desc := "(ILRosehipCircuits$Circuit;)I" } : Jvm.MethodName) prog_1_method_99_code (2 : Nat) (Option.some Jvm.ClassFile.FieldType.int)) ∈ lw_all := lw_g (lw_at lw_m5 228 rfl) rfl
theorem q1267 : (Jvm.Cond.methodLink "RosehipCircuits" (335 : Nat) ({ cls := "RosehipCircuits$Circuit", name := "turnOutput", desc := "(I)I" } : Jvm.MethodName)) ∈ lw_all := lw_g (lw_at lw_m5 229 rfl) rfl
theorem q1276 : (Jvm.Cond.instanceMethod ({ cls := "RosehipCircuits", name := "turnBox", desc := "(I)I" } : Jvm.MethodName)) ∈ lw_all := lw_g (lw_at lw_m5 238 rfl) rfl
theorem q1277 : (Jvm.Cond.selects "RosehipCircuits" ({ cls := "RosehipCircuits", name := "turnBox", desc := "(I)I" } : Jvm.MethodName) ({ cls := "RosehipCircuits", name := "turnBox", desc := "(I)I" } : Jvm.MethodName)) ∈ lw_all := lw_g (lw_at lw_m5 239 rfl) rfl
theorem q1278 : (Jvm.Cond.code ({ cls := "RosehipCircuits", name := "turnBox", desc := "(I)I" } : Jvm.MethodName) prog_1_method_43_code (2 : Nat) (Option.some Jvm.ClassFile.FieldType.int)) ∈ lw_all := lw_g (lw_at lw_m6 0 rfl) rfl
theorem q1279 : (Jvm.Cond.static ({ cls := "RosehipCircuits", name := "lambda$turnBox$5", desc := "(ILRosehipCircuits$Circuit;)I" } : Jvm.MethodName)) ∈ lw_all := lw_g (lw_at lw_m6 1 rfl) rfl
theorem q1280 : (Jvm.Cond.code ({ cls := "RosehipCircuits", name := "lambda$turnBox$5", desc := "(ILRosehipCircuits$Circuit;)I" } : Jvm.MethodName) prog_1_method_98_code (2 : Nat) (Option.some Jvm.ClassFile.FieldType.int)) ∈ lw_all := lw_g (lw_at lw_m6 2 rfl) rfl
theorem q1281 : (Jvm.Cond.methodLink "RosehipCircuits" (338 : Nat) ({ cls := "RosehipCircuits$Circuit", name := "turnBox", desc := "(I)I" } : Jvm.MethodName)) ∈ lw_all := lw_g (lw_at lw_m6 3 rfl) rfl
theorem q1289 : (Jvm.Cond.instanceMethod ({ cls := "RosehipCircuits", name := "setSecret", desc := "(I)I" } : Jvm.MethodName)) ∈ lw_all := lw_g (lw_at lw_m6 11 rfl) rfl
theorem q1290 : (Jvm.Cond.selects "RosehipCircuits" ({ cls := "RosehipCircuits", name := "setSecret", desc := "(I)I" } : Jvm.MethodName) ({ cls := "RosehipCircuits", name := "setSecret", desc := "(I)I" } : Jvm.MethodName)) ∈ lw_all := lw_g (lw_at lw_m6 12 rfl) rfl
theorem q1291 : (Jvm.Cond.code ({ cls := "RosehipCircuits", name := "setSecret", desc := "(I)I" } : Jvm.MethodName) prog_1_method_46_code (3 : Nat) (Option.some Jvm.ClassFile.FieldType.int)) ∈ lw_all := lw_g (lw_at lw_m6 13 rfl) rfl
theorem q1296 : (Jvm.Cond.instanceMethod ({ cls := "RosehipCircuits", name := "ask", desc := "(I)I" } : Jvm.MethodName)) ∈ lw_all := lw_g (lw_at lw_m6 18 rfl) rfl
theorem q1297 : (Jvm.Cond.selects "RosehipCircuits" ({ cls := "RosehipCircuits", name := "ask", desc := "(I)I" } : Jvm.MethodName) ({ cls := "RosehipCircuits", name := "ask", desc := "(I)I" } : Jvm.MethodName)) ∈ lw_all := lw_g (lw_at lw_m6 19 rfl) rfl
theorem q1298 : (Jvm.Cond.code ({ cls := "RosehipCircuits", name := "ask", desc := "(I)I" } : Jvm.MethodName) prog_1_method_49_code (2 : Nat) (Option.some Jvm.ClassFile.FieldType.int)) ∈ lw_all := lw_g (lw_at lw_m6 20 rfl) rfl
theorem q1299 : (Jvm.Cond.methodLink "RosehipCircuits" (269 : Nat) ({ cls := "RosehipCircuits", name := "needTest", desc := "(I)V" } : Jvm.MethodName)) ∈ lw_all := lw_g (lw_at lw_m6 21 rfl) rfl
theorem q1300 : (Jvm.Cond.static ({ cls := "RosehipCircuits", name := "needTest", desc := "(I)V" } : Jvm.MethodName)) ∈ lw_all := lw_g (lw_at lw_m6 22 rfl) rfl
theorem q1301 : (Jvm.Cond.code ({ cls := "RosehipCircuits", name := "needTest", desc := "(I)V" } : Jvm.MethodName) prog_1_method_45_code (1 : Nat) (Option.none : Option Jvm.ClassFile.FieldType)) ∈ lw_all := lw_g (lw_at lw_m6 23 rfl) rfl
theorem q1302 : (Jvm.Cond.methodLink "RosehipCircuits" (266 : Nat) ({ cls := "RosehipCircuits", name := "needState", desc := "(Z)V" } : Jvm.MethodName)) ∈ lw_all := lw_g (lw_at lw_m6 24 rfl) rfl
theorem q1303 : (Jvm.Cond.methodLink "RosehipCircuits" (273 : Nat) ({ cls := "RosehipCircuits", name := "doAsk", desc := "(I)I" } : Jvm.MethodName)) ∈ lw_all := lw_g (lw_at lw_m6 25 rfl) rfl
theorem q1304 : (Jvm.Cond.privateMethod ({ cls := "RosehipCircuits", name := "doAsk", desc := "(I)I" } : Jvm.MethodName)) ∈ lw_tbl := lw_at lw_m6 26 rfl
theorem q1305 : (Jvm.Cond.instanceMethod ({ cls := "RosehipCircuits", name := "doAsk", desc := "(I)I" } : Jvm.MethodName)) ∈ lw_all := lw_g (lw_at lw_m6 27 rfl) rfl
theorem q1306 : (Jvm.Cond.code ({ cls := "RosehipCircuits", name := "doAsk", desc := "(I)I" } : Jvm.MethodName) prog_1_method_48_code (3 : Nat) (Option.some Jvm.ClassFile.FieldType.int)) ∈ lw_all := lw_g (lw_at lw_m6 28 rfl) rfl
theorem q1311 : (Jvm.Cond.instanceMethod ({ cls := "RosehipCircuits", name := "askBest", desc := "(I)I" } : Jvm.MethodName)) ∈ lw_all := lw_g (lw_at lw_m6 33 rfl) rfl
theorem q1312 : (Jvm.Cond.selects "RosehipCircuits" ({ cls := "RosehipCircuits", name := "askBest", desc := "(I)I" } : Jvm.MethodName) ({ cls := "RosehipCircuits", name := "askBest", desc := "(I)I" } : Jvm.MethodName)) ∈ lw_all := lw_g (lw_at lw_m6 34 rfl) rfl
theorem q1313 : (Jvm.Cond.code ({ cls := "RosehipCircuits", name := "askBest", desc := "(I)I" } : Jvm.MethodName) prog_1_method_51_code (3 : Nat) (Option.some Jvm.ClassFile.FieldType.int)) ∈ lw_all := lw_g (lw_at lw_m6 35 rfl) rfl
theorem q1314 : (Jvm.Cond.methodLink "RosehipCircuits" (283 : Nat) ({ cls := "RosehipCircuits", name := "areAlike", desc := "()Z" } : Jvm.MethodName)) ∈ lw_all := lw_g (lw_at lw_m6 36 rfl) rfl
theorem q1315 : (Jvm.Cond.methodLink "RosehipCircuits" (286 : Nat) ({ cls := "RosehipCircuits", name := "bestTest", desc := "()I" } : Jvm.MethodName)) ∈ lw_all := lw_g (lw_at lw_m6 37 rfl) rfl
theorem q1320 : (Jvm.Cond.instanceMethod ({ cls := "RosehipCircuits", name := "append", desc := "(I)I" } : Jvm.MethodName)) ∈ lw_all := lw_g (lw_at lw_m6 42 rfl) rfl
theorem q1321 : (Jvm.Cond.selects "RosehipCircuits" ({ cls := "RosehipCircuits", name := "append", desc := "(I)I" } : Jvm.MethodName) ({ cls := "RosehipCircuits", name := "append", desc := "(I)I" } : Jvm.MethodName)) ∈ lw_all := lw_g (lw_at lw_m6 43 rfl) rfl
theorem q1322 : (Jvm.Cond.code ({ cls := "RosehipCircuits", name := "append", desc := "(I)I" } : Jvm.MethodName) prog_1_method_52_code (2 : Nat) (Option.some Jvm.ClassFile.FieldType.int)) ∈ lw_all := lw_g (lw_at lw_m6 44 rfl) rfl
theorem q1323 : (Jvm.Cond.methodLink "RosehipCircuits" (292 : Nat) ({ cls := "java/lang/StringBuilder", name := "append", desc := "(C)Ljava/lang/StringBuilder;" } : Jvm.MethodName)) ∈ lw_all := lw_g (lw_at lw_m6 45 rfl) rfl
theorem q1344 : (Jvm.Cond.instanceMethod ({ cls := "RosehipCircuits", name := "run", desc := "()I" } : Jvm.MethodName)) ∈ lw_all := lw_g (lw_at lw_m6 66 rfl) rfl
theorem q1345 : (Jvm.Cond.selects "RosehipCircuits" ({ cls := "RosehipCircuits", name := "run", desc := "()I" } : Jvm.MethodName) ({ cls := "RosehipCircuits", name := "run", desc := "()I" } : Jvm.MethodName)) ∈ lw_all := lw_g (lw_at lw_m6 67 rfl) rfl
theorem q1346 : (Jvm.Cond.codeWith ({ cls := "RosehipCircuits", name := "run", desc := "()I" } : Jvm.MethodName) prog_1_method_58_code (3 : Nat) (Option.some Jvm.ClassFile.FieldType.int) [((0 : Nat), (12 : Nat), (15 : Nat), (308 : Nat))]) ∈ lw_all := lw_g (lw_at lw_m6 68 rfl) rfl
theorem q1347 : (Jvm.Cond.stringRef "RosehipCircuits" (364 : Nat) "orders") ∈ lw_tbl := lw_at lw_m6 69 rfl
theorem q1348 : (Jvm.Cond.methodLink "RosehipCircuits" (365 : Nat) ({ cls := "java/lang/IllegalArgumentException", name := "<init>", desc := "(Ljava/lang/String;Ljava/lang/Throwable;)V" } : Jvm.MethodName)) ∈ lw_all := lw_g (lw_at lw_m6 70 rfl) rfl
theorem q1360 : (Jvm.Cond.methodLink "RosehipCircuits" (368 : Nat) ({ cls := "RosehipCircuits", name := "carryAll", desc := "(Ljava/util/List;)I" } : Jvm.MethodName)) ∈ lw_all := lw_g (lw_at lw_m6 82 rfl) rfl
theorem q1361 : (Jvm.Cond.privateMethod ({ cls := "RosehipCircuits", name := "carryAll", desc := "(Ljava/util/List;)I" } : Jvm.MethodName)) ∈ lw_tbl := lw_at lw_m6 83 rfl
theorem q1362 : (Jvm.Cond.instanceMethod ({ cls := "RosehipCircuits", name := "carryAll", desc := "(Ljava/util/List;)I" } : Jvm.MethodName)) ∈ lw_all := lw_g (lw_at lw_m6 84 rfl) rfl
theorem q1363 : (Jvm.Cond.codeWith ({ cls := "RosehipCircuits", name := "carryAll", desc := "(Ljava/util/List;)I" } : Jvm.MethodName) prog_1_method_57_code (4 : Nat) (Option.some Jvm.ClassFile.FieldType.int) [((2 : Nat), (32 : Nat), (35 : Nat), (345 : Nat))]) ∈ lw_all := lw_g (lw_at lw_m6 85 rfl) rfl
theorem q1364 : (Jvm.Cond.classLink "RosehipCircuits" (345 : Nat) "RosehipCircuits$Refused") ∈ lw_all := lw_g (lw_at lw_m6 86 rfl) rfl
theorem q1365 : (Jvm.Cond.interfaceEntry "RosehipCircuits" (350 : Nat)) ∈ lw_tbl := lw_at lw_m6 87 rfl
theorem q1366 : (Jvm.Cond.methodLink "RosehipCircuits" (350 : Nat) ({ cls := "java/util/List", name := "size", desc := "()I" } : Jvm.MethodName)) ∈ lw_all := lw_g (lw_at lw_m6 88 rfl) rfl
theorem q1374 : (Jvm.Cond.interfaceEntry "RosehipCircuits" (353 : Nat)) ∈ lw_tbl := lw_at lw_m6 96 rfl
theorem q1375 : (Jvm.Cond.methodLink "RosehipCircuits" (353 : Nat) ({ cls := "java/util/List", name := "get", desc := "(I)Ljava/lang/Object;" } : Jvm.MethodName)) ∈ lw_all := lw_g (lw_at lw_m6 97 rfl) rfl
theorem q1391 : (Jvm.Cond.classLink "RosehipCircuits" (316 : Nat) "RosehipCircuits$Order") ∈ lw_all := lw_g (lw_at lw_m6 113 rfl) rfl
theorem q1392 : (Jvm.Cond.methodLink "RosehipCircuits" (357 : Nat) ({ cls := "RosehipCircuits", name := "tryToCarry", desc := "(LRosehipCircuits$Order;)V" } : Jvm.MethodName)) ∈ lw_all := lw_g (lw_at lw_m6 114 rfl) rfl
theorem q1393 : (Jvm.Cond.privateMethod ({ cls := "RosehipCircuits", name := "tryToCarry", desc := "(LRosehipCircuits$Order;)V" } : Jvm.MethodName)) ∈ lw_tbl := lw_at lw_m6 115 rfl
theorem q1394 : (Jvm.Cond.instanceMethod ({ cls := "RosehipCircuits", name := "tryToCarry", desc := "(LRosehipCircuits$Order;)V" } : Jvm.MethodName)) ∈ lw_all := lw_g (lw_at lw_m6 116 rfl) rfl
theorem q1395 : (Jvm.Cond.codeWith ({ cls := "RosehipCircuits", name := "tryToCarry", desc := "(LRosehipCircuits$Order;)V" } : Jvm.MethodName) prog_1_method_56_code (3 : Nat) (Option.none : Option Jvm.ClassFile.FieldType) [((0 : Nat), (5 : Nat), (8 : Nat), (3 : Nat)), ((0 : Nat), (5 : Nat), (8 : Nat), (16 : Nat))]) ∈ lw_all := lw_g (lw_at lw_m6 117 rfl) rfl
theorem q1396 : (Jvm.Cond.methodLink "RosehipCircuits" (341 : Nat) ({ cls := "RosehipCircuits", name := "carry", desc := "(LRosehipCircuits$Order;)V" } : Jvm.MethodName)) ∈ lw_all := lw_g (lw_at lw_m6 118 rfl) rfl
theorem q1397 : (Jvm.Cond.privateMethod ({ cls := "RosehipCircuits", name := "carry", desc := "(LRosehipCircuits$Order;)V" } : Jvm.MethodName)) ∈ lw_tbl := lw_at lw_m6 119 rfl
theorem q1398 : (Jvm.Cond.instanceMethod ({ cls := "RosehipCircuits", name := "carry", desc := "(LRosehipCircuits$Order;)V" } : Jvm.MethodName)) ∈ lw_all := lw_g (lw_at lw_m6 120 rfl) rfl
theorem q1399 : (Jvm.Cond.code ({ cls := "RosehipCircuits", name := "carry", desc := "(LRosehipCircuits$Order;)V" } : Jvm.MethodName) prog_1_method_55_code (3 : Nat) (Option.none : Option Jvm.ClassFile.FieldType)) ∈ lw_all := lw_g (lw_at lw_m6 121 rfl) rfl
theorem q1400 : (Jvm.Cond.stringRef "RosehipCircuits" (313 : Nat) "AOXNRSIC") ∈ lw_tbl := lw_at lw_m6 122 rfl
theorem q1401 : (Jvm.Cond.methodLink "RosehipCircuits" (315 : Nat) ({ cls := "RosehipCircuits$Order", name := "sign", desc := "()C" } : Jvm.MethodName)) ∈ lw_all := lw_g (lw_at lw_m6 123 rfl) rfl
theorem q1405 : (Jvm.Cond.methodLink "RosehipCircuits" (321 : Nat) ({ cls := "java/lang/String", name := "indexOf", desc := "(I)I" } : Jvm.MethodName)) ∈ lw_all := lw_g (lw_at lw_m6 127 rfl) rfl
theorem q1406 : (Jvm.Cond.methodLink "RosehipCircuits" (326 : Nat) ({ cls := "RosehipCircuits$Order", name := "one", desc := "()I" } : Jvm.MethodName)) ∈ lw_all := lw_g (lw_at lw_m6 128 rfl) rfl
theorem q1410 : (Jvm.Cond.methodLink "RosehipCircuits" (329 : Nat) ({ cls := "RosehipCircuits$Order", name := "two", desc := "()I" } : Jvm.MethodName)) ∈ lw_all := lw_g (lw_at lw_m6 132 rfl) rfl
theorem q1422 : (Jvm.Cond.methodLink "RosehipCircuits" (347 : Nat) ({ cls := "RosehipCircuits$Refused", name := "<init>", desc := "(Ljava/lang/RuntimeException;)V" } : Jvm.MethodName)) ∈ lw_all := lw_g (lw_at lw_m6 144 rfl) rfl
theorem q1428 : (Jvm.Cond.methodLink "RosehipCircuits" (360 : Nat) ({ cls := "RosehipCircuits$Refused", name := "getCause", desc := "()Ljava/lang/Throwable;" } : Jvm.MethodName)) ∈ lw_all := lw_g (lw_at lw_m6 150 rfl) rfl
theorem q1438 : (Jvm.Cond.instanceMethod ({ cls := "RosehipCircuits", name := "undo", desc := "()I" } : Jvm.MethodName)) ∈ lw_all := lw_g (lw_at lw_m6 160 rfl) rfl
theorem q1439 : (Jvm.Cond.selects "RosehipCircuits" ({ cls := "RosehipCircuits", name := "undo", desc := "()I" } : Jvm.MethodName) ({ cls := "RosehipCircuits", name := "undo", desc := "()I" } : Jvm.MethodName)) ∈ lw_all := lw_g (lw_at lw_m6 161 rfl) rfl
theorem q1440 : (Jvm.Cond.code ({ cls := "RosehipCircuits", name := "undo", desc := "()I" } : Jvm.MethodName) prog_1_method_59_code (1 : Nat) (Option.some Jvm.ClassFile.FieldType.int)) ∈ lw_all := lw_g (lw_at lw_m6 162 rfl) rfl
theorem q1441 : (Jvm.Cond.methodLink "RosehipCircuits" (372 : Nat) ({ cls := "java/util/ArrayDeque", name := "isEmpty", desc := "()Z" } : Jvm.MethodName)) ∈ lw_all := lw_g (lw_at lw_m6 163 rfl) rfl
theorem q1445 : (Jvm.Cond.methodLink "RosehipCircuits" (375 : Nat) ({ cls := "java/util/ArrayDeque", name := "removeLast", desc := "()Ljava/lang/Object;" } : Jvm.MethodName)) ∈ lw_all := lw_g (lw_at lw_m6 167 rfl) rfl
theorem q1460 : (Jvm.Cond.instanceMethod ({ cls := "RosehipCircuits", name := "restore", desc := "()I" } : Jvm.MethodName)) ∈ lw_all := lw_g (lw_at lw_m6 182 rfl) rfl
theorem q1461 : (Jvm.Cond.selects "RosehipCircuits" ({ cls := "RosehipCircuits", name := "restore", desc := "()I" } : Jvm.MethodName) ({ cls := "RosehipCircuits", name := "restore", desc := "()I" } : Jvm.MethodName)) ∈ lw_all := lw_g (lw_at lw_m6 183 rfl) rfl
theorem q1462 : (Jvm.Cond.code ({ cls := "RosehipCircuits", name := "restore", desc := "()I" } : Jvm.MethodName) prog_1_method_62_code (1 : Nat) (Option.some Jvm.ClassFile.FieldType.int)) ∈ lw_all := lw_g (lw_at lw_m6 184 rfl) rfl
theorem q1467 : (Jvm.Cond.instanceMethod ({ cls := "RosehipCircuits", name := "kindOf", desc := "(I)I" } : Jvm.MethodName)) ∈ lw_all := lw_g (lw_at lw_m6 189 rfl) rfl
theorem q1468 : (Jvm.Cond.selects "RosehipCircuits" ({ cls := "RosehipCircuits", name := "kindOf", desc := "(I)I" } : Jvm.MethodName) ({ cls := "RosehipCircuits", name := "kindOf", desc := "(I)I" } : Jvm.MethodName)) ∈ lw_all := lw_g (lw_at lw_m6 190 rfl) rfl
theorem q1469 : (Jvm.Cond.code ({ cls := "RosehipCircuits", name := "kindOf", desc := "(I)I" } : Jvm.MethodName) prog_1_method_64_code (2 : Nat) (Option.some Jvm.ClassFile.FieldType.int)) ∈ lw_all := lw_g (lw_at lw_m6 191 rfl) rfl
theorem q1470 : (Jvm.Cond.methodLink "RosehipCircuits" (381 : Nat) ({ cls := "RosehipCircuits$Circuit", name := "isGate", desc := "(I)Z" } : Jvm.MethodName)) ∈ lw_all := lw_g (lw_at lw_m6 192 rfl) rfl
theorem q1471 : (Jvm.Cond.methodLink "RosehipCircuits" (385 : Nat) ({ cls := "RosehipCircuits", name := "needThere", desc := "(Z)V" } : Jvm.MethodName)) ∈ lw_all := lw_g (lw_at lw_m6 193 rfl) rfl
theorem q1476 : (Jvm.Cond.instanceMethod ({ cls := "RosehipCircuits", name := "sourceOf", desc := "(II)I" } : Jvm.MethodName)) ∈ lw_all := lw_g (lw_at lw_m6 198 rfl) rfl
theorem q1477 : (Jvm.Cond.selects "RosehipCircuits" ({ cls := "RosehipCircuits", name := "sourceOf", desc := "(II)I" } : Jvm.MethodName) ({ cls := "RosehipCircuits", name := "sourceOf", desc := "(II)I" } : Jvm.MethodName)) ∈ lw_all := lw_g (lw_at lw_m6 199 rfl) rfl
theorem q1478 : (Jvm.Cond.code ({ cls := "RosehipCircuits", name := "sourceOf", desc := "(II)I" } : Jvm.MethodName) prog_1_method_65_code (3 : Nat) (Option.some Jvm.ClassFile.FieldType.int)) ∈ lw_all := lw_g (lw_at lw_m6 200 rfl) rfl
theorem q1483 : (Jvm.Cond.instanceMethod ({ cls := "RosehipCircuits", name := "valueOf", desc := "(II)I" } : Jvm.MethodName)) ∈ lw_all := lw_g (lw_at lw_m6 205 rfl) rfl
theorem q1484 : (Jvm.Cond.selects "RosehipCircuits" ({ cls := "RosehipCircuits", name := "valueOf", desc := "(II)I" } : Jvm.MethodName) ({ cls := "RosehipCircuits", name := "valueOf", desc := "(II)I" } : Jvm.MethodName)) ∈ lw_all := lw_g (lw_at lw_m6 206 rfl) rfl
theorem q1485 : (Jvm.Cond.code ({ cls := "RosehipCircuits", name := "valueOf", desc := "(II)I" } : Jvm.MethodName) prog_1_method_68_code (3 : Nat) (Option.some Jvm.ClassFile.FieldType.int)) ∈ lw_all := lw_g (lw_at lw_m6 207 rfl) rfl
theorem q1486 : (Jvm.Cond.methodLink "RosehipCircuits" (388 : Nat) ({ cls := "RosehipCircuits$Circuit", name := "isLine", desc := "(I)Z" } : Jvm.MethodName)) ∈ lw_all := lw_g (lw_at lw_m6 208 rfl) rfl
theorem q1491 : (Jvm.Cond.instanceMethod ({ cls := "RosehipCircuits", name := "tableOf", desc := "(IZ)J" } : Jvm.MethodName)) ∈ lw_all := lw_g (lw_at lw_m6 213 rfl) rfl
theorem q1492 : (Jvm.Cond.selects "RosehipCircuits" ({ cls := "RosehipCircuits", name := "tableOf", desc := "(IZ)J" } : Jvm.MethodName) ({ cls := "RosehipCircuits", name := "tableOf", desc := "(IZ)J" } : Jvm.MethodName)) ∈ lw_all := lw_g (lw_at lw_m6 214 rfl) rfl
theorem q1493 : (Jvm.Cond.code ({ cls := "RosehipCircuits", name := "tableOf", desc := "(IZ)J" } : Jvm.MethodName) prog_1_method_69_code (6 : Nat) (Option.some Jvm.ClassFile.FieldType.long)) ∈ lw_all := lw_g (lw_at lw_m6 215 rfl) rfl
theorem q1498 : (Jvm.Cond.instanceMethod ({ cls := "RosehipCircuits", name := "answerTo", desc := "(I)I" } : Jvm.MethodName)) ∈ lw_all := lw_g (lw_at lw_m6 220 rfl) rfl
theorem q1499 : (Jvm.Cond.selects "RosehipCircuits" ({ cls := "RosehipCircuits", name := "answerTo", desc := "(I)I" } : Jvm.MethodName) ({ cls := "RosehipCircuits", name := "answerTo", desc := "(I)I" } : Jvm.MethodName)) ∈ lw_all := lw_g (lw_at lw_m6 221 rfl) rfl
theorem q1500 : (Jvm.Cond.code ({ cls := "RosehipCircuits", name := "answerTo", desc := "(I)I" } : Jvm.MethodName) prog_1_method_70_code (2 : Nat) (Option.some Jvm.ClassFile.FieldType.int)) ∈ lw_all := lw_g (lw_at lw_m6 222 rfl) rfl
theorem q1505 : (Jvm.Cond.instanceMethod ({ cls := "RosehipCircuits", name := "inputsOf", desc := "(IZ)I" } : Jvm.MethodName)) ∈ lw_all := lw_g (lw_at lw_m6 227 rfl) rfl
theorem q1506 : (Jvm.Cond.selects "RosehipCircuits" ({ cls := "RosehipCircuits", name := "inputsOf", desc := "(IZ)I" } : Jvm.MethodName) ({ cls := "RosehipCircuits", name := "inputsOf", desc := "(IZ)I" } : Jvm.MethodName)) ∈ lw_all := lw_g (lw_at lw_m6 228 rfl) rfl
theorem q1507 : (Jvm.Cond.code ({ cls := "RosehipCircuits", name := "inputsOf", desc := "(IZ)I" } : Jvm.MethodName) prog_1_method_71_code (7 : Nat) (Option.some Jvm.ClassFile.FieldType.int)) ∈ lw_all := lw_g (lw_at lw_m6 229 rfl) rfl
theorem q1512 : (Jvm.Cond.instanceMethod ({ cls := "RosehipCircuits", name := "depthOf", desc := "(I)I" } : Jvm.MethodName)) ∈ lw_all := lw_g (lw_at lw_m6 234 rfl) rfl
theorem q1513 : (Jvm.Cond.selects "RosehipCircuits" ({ cls := "RosehipCircuits", name := "depthOf", desc := "(I)I" } : Jvm.MethodName) ({ cls := "RosehipCircuits", name := "depthOf", desc := "(I)I" } : Jvm.MethodName)) ∈ lw_all := lw_g (lw_at lw_m6 235 rfl) rfl
theorem q1514 : (Jvm.Cond.code ({ cls := "RosehipCircuits", name := "depthOf", desc := "(I)I" } : Jvm.MethodName) prog_1_method_72_code (5 : Nat) (Option.some Jvm.ClassFile.FieldType.int)) ∈ lw_all := lw_g (lw_at lw_m6 236 rfl) rfl
theorem q1519 : (Jvm.Cond.instanceMethod ({ cls := "RosehipCircuits", name := "shows", desc := "(II)Z" } : Jvm.MethodName)) ∈ lw_all := lw_g (lw_at lw_m7 1 rfl) rfl
theorem q1520 : (Jvm.Cond.selects "RosehipCircuits" ({ cls := "RosehipCircuits", name := "shows", desc := "(II)Z" } : Jvm.MethodName) ({ cls := "RosehipCircuits", name := "shows", desc := "(II)Z" } : Jvm.MethodName)) ∈ lw_all := lw_g (lw_at lw_m7 2 rfl) rfl
theorem q1521 : (Jvm.Cond.code ({ cls := "RosehipCircuits", name := "shows", desc := "(II)Z" } : Jvm.MethodName) prog_1_method_74_code (3 : Nat) (Option.some Jvm.ClassFile.FieldType.boolean)) ∈ lw_all := lw_g (lw_at lw_m7 3 rfl) rfl
theorem q1526 : (Jvm.Cond.instanceMethod ({ cls := "RosehipCircuits", name := "testsFor", desc := "(I)J" } : Jvm.MethodName)) ∈ lw_all := lw_g (lw_at lw_m7 8 rfl) rfl
theorem q1527 : (Jvm.Cond.selects "RosehipCircuits" ({ cls := "RosehipCircuits", name := "testsFor", desc := "(I)J" } : Jvm.MethodName) ({ cls := "RosehipCircuits", name := "testsFor", desc := "(I)J" } : Jvm.MethodName)) ∈ lw_all := lw_g (lw_at lw_m7 9 rfl) rfl
theorem q1528 : (Jvm.Cond.code ({ cls := "RosehipCircuits", name := "testsFor", desc := "(I)J" } : Jvm.MethodName) prog_1_method_75_code (2 : Nat) (Option.some Jvm.ClassFile.FieldType.long)) ∈ lw_all := lw_g (lw_at lw_m7 10 rfl) rfl
theorem q1533 : (Jvm.Cond.instanceMethod ({ cls := "RosehipCircuits", name := "whyHidden", desc := "(I)I" } : Jvm.MethodName)) ∈ lw_all := lw_g (lw_at lw_m7 15 rfl) rfl
theorem q1534 : (Jvm.Cond.selects "RosehipCircuits" ({ cls := "RosehipCircuits", name := "whyHidden", desc := "(I)I" } : Jvm.MethodName) ({ cls := "RosehipCircuits", name := "whyHidden", desc := "(I)I" } : Jvm.MethodName)) ∈ lw_all := lw_g (lw_at lw_m7 16 rfl) rfl
theorem q1535 : (Jvm.Cond.code ({ cls := "RosehipCircuits", name := "whyHidden", desc := "(I)I" } : Jvm.MethodName) prog_1_method_77_code (2 : Nat) (Option.some Jvm.ClassFile.FieldType.int)) ∈ lw_all := lw_g (lw_at lw_m7 17 rfl) rfl
theorem q1544 : (Jvm.Cond.instanceMethod ({ cls := "RosehipCircuits", name := "testsBetween", desc := "(II)J" } : Jvm.MethodName)) ∈ lw_all := lw_g (lw_at lw_m7 26 rfl) rfl
theorem q1545 : (Jvm.Cond.selects "RosehipCircuits" ({ cls := "RosehipCircuits", name := "testsBetween", desc := "(II)J" } : Jvm.MethodName) ({ cls := "RosehipCircuits", name := "testsBetween", desc := "(II)J" } : Jvm.MethodName)) ∈ lw_all := lw_g (lw_at lw_m7 27 rfl) rfl
theorem q1546 : (Jvm.Cond.code ({ cls := "RosehipCircuits", name := "testsBetween", desc := "(II)J" } : Jvm.MethodName) prog_1_method_82_code (3 : Nat) (Option.some Jvm.ClassFile.FieldType.long)) ∈ lw_all := lw_g (lw_at lw_m7 28 rfl) rfl
theorem q1551 : (Jvm.Cond.instanceMethod ({ cls := "RosehipCircuits", name := "askedAt", desc := "(I)I" } : Jvm.MethodName)) ∈ lw_all := lw_g (lw_at lw_m7 33 rfl) rfl
theorem q1552 : (Jvm.Cond.selects "RosehipCircuits" ({ cls := "RosehipCircuits", name := "askedAt", desc := "(I)I" } : Jvm.MethodName) ({ cls := "RosehipCircuits", name := "askedAt", desc := "(I)I" } : Jvm.MethodName)) ∈ lw_all := lw_g (lw_at lw_m7 34 rfl) rfl
theorem q1553 : (Jvm.Cond.code ({ cls := "RosehipCircuits", name := "askedAt", desc := "(I)I" } : Jvm.MethodName) prog_1_method_90_code (2 : Nat) (Option.some Jvm.ClassFile.FieldType.int)) ∈ lw_all := lw_g (lw_at lw_m7 35 rfl) rfl
theorem q1558 : (Jvm.Cond.instanceMethod ({ cls := "RosehipCircuits", name := "candidateAt", desc := "(I)I" } : Jvm.MethodName)) ∈ lw_all := lw_g (lw_at lw_m7 40 rfl) rfl
theorem q1559 : (Jvm.Cond.selects "RosehipCircuits" ({ cls := "RosehipCircuits", name := "candidateAt", desc := "(I)I" } : Jvm.MethodName) ({ cls := "RosehipCircuits", name := "candidateAt", desc := "(I)I" } : Jvm.MethodName)) ∈ lw_all := lw_g (lw_at lw_m7 41 rfl) rfl
theorem q1560 : (Jvm.Cond.code ({ cls := "RosehipCircuits", name := "candidateAt", desc := "(I)I" } : Jvm.MethodName) prog_1_method_93_code (7 : Nat) (Option.some Jvm.ClassFile.FieldType.int)) ∈ lw_all := lw_g (lw_at lw_m7 42 rfl) rfl
theorem q1565 : (Jvm.Cond.instanceMethod ({ cls := "RosehipCircuits", name := "worstLeft", desc := "(I)I" } : Jvm.MethodName)) ∈ lw_all := lw_g (lw_at lw_m7 47 rfl) rfl
theorem q1566 : (Jvm.Cond.selects "RosehipCircuits" ({ cls := "RosehipCircuits", name := "worstLeft", desc := "(I)I" } : Jvm.MethodName) ({ cls := "RosehipCircuits", name := "worstLeft", desc := "(I)I" } : Jvm.MethodName)) ∈ lw_all := lw_g (lw_at lw_m7 48 rfl) rfl
theorem q1567 : (Jvm.Cond.code ({ cls := "RosehipCircuits", name := "worstLeft", desc := "(I)I" } : Jvm.MethodName) prog_1_method_95_code (2 : Nat) (Option.some Jvm.ClassFile.FieldType.int)) ∈ lw_all := lw_g (lw_at lw_m7 49 rfl) rfl
theorem q1572 : (Jvm.Cond.instanceMethod ({ cls := "RosehipCircuits", name := "meanLeft", desc := "(I)D" } : Jvm.MethodName)) ∈ lw_all := lw_g (lw_at lw_m7 54 rfl) rfl
theorem q1573 : (Jvm.Cond.selects "RosehipCircuits" ({ cls := "RosehipCircuits", name := "meanLeft", desc := "(I)D" } : Jvm.MethodName) ({ cls := "RosehipCircuits", name := "meanLeft", desc := "(I)D" } : Jvm.MethodName)) ∈ lw_all := lw_g (lw_at lw_m7 55 rfl) rfl
theorem q1574 : (Jvm.Cond.code ({ cls := "RosehipCircuits", name := "meanLeft", desc := "(I)D" } : Jvm.MethodName) prog_1_method_97_code (8 : Nat) (Option.some Jvm.ClassFile.FieldType.double)) ∈ lw_all := lw_g (lw_at lw_m7 56 rfl) rfl
theorem q2059 : (Jvm.Cond.castable "RosehipCircuits" "java/lang/Object") ∈ lw_tbl := lw_at lw_m9 61 rfl
theorem in_X1 : ∀ w ∈ wsX10, w ∈ lw_all := lw_in wsX10 [244, 246, 248, 250, 252, 254, 256, 258, 260, 262, 264] (by decide +kernel) (by decide +kernel)
