/-! RosehipCircuitsModel -/
set_option maxRecDepth 100000
def RX3 : String := "RosehipCircuitsModel"
def TX3 : u_T := fun k => match k with
  | 0 => ("RosehipCircuitsModel", "thrown", "I", false)
  | 1 => ("RosehipCircuitsModel", "z", "[I", true)
  | 2 => ("RosehipCircuitsModel", "before", "[I", true)
  | 3 => ("RosehipCircuitsModel", "states", "I", false)
  | 4 => ("RosehipCircuitsModel", "kept", "[I", true)
  | 5 => ("RosehipCircuitsModel", "isKept", "Z", false)
  | 6 => ("RosehipCircuitsModel", "text", "[I", true)
  | 7 => ("RosehipCircuitsModel", "length", "I", false)
  | 8 => ("RosehipCircuitsModel", "table", "[J", true)
  | 9 => ("RosehipCircuitsModel", "out", "[J", true)
  | 10 => ("RosehipCircuitsModel", "plain", "[J", true)
  | 11 => ("RosehipCircuitsModel", "look", "[J", true)
  | 12 => ("RosehipCircuitsModel", "outs", "I", false)
  | 13 => ("RosehipCircuitsModel", "times", "[I", true)
  | 14 => ("RosehipCircuitsModel", "shown", "[J", true)
  | 15 => ("RosehipCircuitsModel", "left", "[J", true)
  | 16 => ("RosehipCircuitsModel", "next", "[I", true)
  | 17 => ("RosehipCircuitsModel", "wanted", "[I", true)
  | 18 => ("RosehipCircuitsModel", "at", "I", false)
  | 19 => ("RosehipCircuitsModel", "isWrong", "Z", false)
  | 20 => ("RosehipCircuitsModel", "sort", "I", false)
  | 21 => ("RosehipCircuitsModel", "one", "I", false)
  | 22 => ("RosehipCircuitsModel", "two", "I", false)
  | 23 => ("RosehipCircuitsModel", "found", "I", false)
  | 24 => ("RosehipCircuitsModel", "number", "I", false)
  | _ => ("RosehipCircuitsModel", "areLike", "Z", false)
def tyX3 : Nat → FieldType := fun k => match k with
  | 0 => .int
  | 1 => .array .int
  | 2 => .array .int
  | 3 => .int
  | 4 => .array .int
  | 5 => .boolean
  | 6 => .array .int
  | 7 => .int
  | 8 => .array .long
  | 9 => .array .long
  | 10 => .array .long
  | 11 => .array .long
  | 12 => .int
  | 13 => .array .int
  | 14 => .array .long
  | 15 => .array .long
  | 16 => .array .int
  | 17 => .array .int
  | 18 => .int
  | 19 => .boolean
  | 20 => .int
  | 21 => .int
  | 22 => .int
  | 23 => .int
  | 24 => .int
  | _ => .boolean
abbrev wsX30 : List Cond := u_ws RX3 TX3 26
set_option maxRecDepth 100000 in
theorem nmX3 : ∀ a, a < 26 → ∀ b, b < 26 → a ≠ b → (TX3 a).2.1 ≠ (TX3 b).2.1 := by decide +kernel
set_option maxRecDepth 100000 in
theorem tyX3_ok : ∀ k, k < 26 → parseFieldDescriptor (TX3 k).2.2.1 = some (tyX3 k) := by decide +kernel
abbrev cX3_init : ByteArray := prog_9_method_1_code
def yX3_init : MethodName := ⟨RX3, "<init>", "()V"⟩
def dkwX3_init_5 : List UInt8 := [177]
abbrev dktX3_init_5 : List UInt8 := dkwX3_init_5 ++ []
def dkwX3_init_4 : List UInt8 := [42, 16, 8, 188, 10, 181, 0, 44, 42, 16, 8, 188, 10, 181, 0, 47, 42, 180, 0, 7, 16, 39, 2, 79]
abbrev dktX3_init_4 : List UInt8 := dkwX3_init_4 ++ dktX3_init_5
def dkwX3_init_3 : List UInt8 := [17, 4, 0, 188, 10, 181, 0, 35, 42, 16, 64, 188, 11, 181, 0, 38, 42, 16, 8, 188, 11, 181, 0, 41]
abbrev dktX3_init_3 : List UInt8 := dkwX3_init_3 ++ dktX3_init_4
def dkwX3_init_2 : List UInt8 := [188, 11, 181, 0, 26, 42, 7, 188, 11, 181, 0, 29, 42, 17, 0, 144, 188, 11, 181, 0, 32, 42]
abbrev dktX3_init_2 : List UInt8 := dkwX3_init_2 ++ dktX3_init_3
def dkwX3_init_1 : List UInt8 := [188, 10, 181, 0, 16, 42, 16, 60, 188, 10, 181, 0, 19, 42, 16, 18, 188, 11, 181, 0, 22, 42, 7]
abbrev dktX3_init_1 : List UInt8 := dkwX3_init_1 ++ dktX3_init_2
def dkwX3_init_0 : List UInt8 := [42, 183, 0, 1, 42, 16, 68, 188, 10, 181, 0, 7, 42, 17, 1, 84, 188, 10, 181, 0, 13, 42, 16, 68]
abbrev dktX3_init_0 : List UInt8 := dkwX3_init_0 ++ dktX3_init_1
theorem dksX3_init_0 : cX3_init.data.toList.drop 0 = dktX3_init_0 := by decide +kernel
theorem dksX3_init_1 : cX3_init.data.toList.drop 24 = dktX3_init_1 := dk_seg dksX3_init_0 24 rfl rfl
theorem dksX3_init_2 : cX3_init.data.toList.drop 47 = dktX3_init_2 := dk_seg dksX3_init_1 23 rfl rfl
theorem dksX3_init_3 : cX3_init.data.toList.drop 69 = dktX3_init_3 := dk_seg dksX3_init_2 22 rfl rfl
theorem dksX3_init_4 : cX3_init.data.toList.drop 93 = dktX3_init_4 := dk_seg dksX3_init_3 24 rfl rfl
theorem dksX3_init_5 : cX3_init.data.toList.drop 117 = dktX3_init_5 := dk_seg dksX3_init_4 24 rfl rfl
theorem dX3_init_0 : decode cX3_init 0 = .ok (.aload_n 0, 1) := dk_42 (dk_at dksX3_init_0 0 rfl rfl)
theorem dX3_init_1 : decode cX3_init 1 = .ok (.invokespecial 1, 3) := dk_183 0 1 (dk_at dksX3_init_0 1 rfl rfl)
theorem dX3_init_4 : decode cX3_init 4 = .ok (.aload_n 0, 1) := dk_42 (dk_at dksX3_init_0 4 rfl rfl)
theorem dX3_init_5 : decode cX3_init 5 = .ok (.bipush 68, 2) := dk_16 68 (dk_at dksX3_init_0 5 rfl rfl)
theorem dX3_init_7 : decode cX3_init 7 = .ok (.newarray .int, 2) := dk_188_10 (dk_at dksX3_init_0 7 rfl rfl)
theorem dX3_init_9 : decode cX3_init 9 = .ok (.putfield 7, 3) := dk_181 0 7 (dk_at dksX3_init_0 9 rfl rfl)
theorem dX3_init_12 : decode cX3_init 12 = .ok (.aload_n 0, 1) := dk_42 (dk_at dksX3_init_0 12 rfl rfl)
theorem dX3_init_13 : decode cX3_init 13 = .ok (.sipush 340, 3) := dk_17 1 84 (dk_at dksX3_init_0 13 rfl rfl)
theorem dX3_init_16 : decode cX3_init 16 = .ok (.newarray .int, 2) := dk_188_10 (dk_at dksX3_init_0 16 rfl rfl)
theorem dX3_init_18 : decode cX3_init 18 = .ok (.putfield 13, 3) := dk_181 0 13 (dk_at dksX3_init_0 18 rfl rfl)
theorem dX3_init_21 : decode cX3_init 21 = .ok (.aload_n 0, 1) := dk_42 (dk_at dksX3_init_0 21 rfl rfl)
theorem dX3_init_22 : decode cX3_init 22 = .ok (.bipush 68, 2) := dk_16 68 (dk_at dksX3_init_0 22 rfl rfl)
theorem dX3_init_24 : decode cX3_init 24 = .ok (.newarray .int, 2) := dk_188_10 (dk_at dksX3_init_1 0 rfl rfl)
theorem dX3_init_26 : decode cX3_init 26 = .ok (.putfield 16, 3) := dk_181 0 16 (dk_at dksX3_init_1 2 rfl rfl)
theorem dX3_init_29 : decode cX3_init 29 = .ok (.aload_n 0, 1) := dk_42 (dk_at dksX3_init_1 5 rfl rfl)
theorem dX3_init_30 : decode cX3_init 30 = .ok (.bipush 60, 2) := dk_16 60 (dk_at dksX3_init_1 6 rfl rfl)
theorem dX3_init_32 : decode cX3_init 32 = .ok (.newarray .int, 2) := dk_188_10 (dk_at dksX3_init_1 8 rfl rfl)
theorem dX3_init_34 : decode cX3_init 34 = .ok (.putfield 19, 3) := dk_181 0 19 (dk_at dksX3_init_1 10 rfl rfl)
theorem dX3_init_37 : decode cX3_init 37 = .ok (.aload_n 0, 1) := dk_42 (dk_at dksX3_init_1 13 rfl rfl)
theorem dX3_init_38 : decode cX3_init 38 = .ok (.bipush 18, 2) := dk_16 18 (dk_at dksX3_init_1 14 rfl rfl)
theorem dX3_init_40 : decode cX3_init 40 = .ok (.newarray .long, 2) := dk_188_11 (dk_at dksX3_init_1 16 rfl rfl)
theorem dX3_init_42 : decode cX3_init 42 = .ok (.putfield 22, 3) := dk_181 0 22 (dk_at dksX3_init_1 18 rfl rfl)
theorem dX3_init_45 : decode cX3_init 45 = .ok (.aload_n 0, 1) := dk_42 (dk_at dksX3_init_1 21 rfl rfl)
theorem dX3_init_46 : decode cX3_init 46 = .ok (.iconst 4, 1) := dk_7 (dk_at dksX3_init_1 22 rfl rfl)
theorem dX3_init_47 : decode cX3_init 47 = .ok (.newarray .long, 2) := dk_188_11 (dk_at dksX3_init_2 0 rfl rfl)
theorem dX3_init_49 : decode cX3_init 49 = .ok (.putfield 26, 3) := dk_181 0 26 (dk_at dksX3_init_2 2 rfl rfl)
theorem dX3_init_52 : decode cX3_init 52 = .ok (.aload_n 0, 1) := dk_42 (dk_at dksX3_init_2 5 rfl rfl)
theorem dX3_init_53 : decode cX3_init 53 = .ok (.iconst 4, 1) := dk_7 (dk_at dksX3_init_2 6 rfl rfl)
theorem dX3_init_54 : decode cX3_init 54 = .ok (.newarray .long, 2) := dk_188_11 (dk_at dksX3_init_2 7 rfl rfl)
theorem dX3_init_56 : decode cX3_init 56 = .ok (.putfield 29, 3) := dk_181 0 29 (dk_at dksX3_init_2 9 rfl rfl)
theorem dX3_init_59 : decode cX3_init 59 = .ok (.aload_n 0, 1) := dk_42 (dk_at dksX3_init_2 12 rfl rfl)
theorem dX3_init_60 : decode cX3_init 60 = .ok (.sipush 144, 3) := dk_17 0 144 (dk_at dksX3_init_2 13 rfl rfl)
theorem dX3_init_63 : decode cX3_init 63 = .ok (.newarray .long, 2) := dk_188_11 (dk_at dksX3_init_2 16 rfl rfl)
theorem dX3_init_65 : decode cX3_init 65 = .ok (.putfield 32, 3) := dk_181 0 32 (dk_at dksX3_init_2 18 rfl rfl)
theorem dX3_init_68 : decode cX3_init 68 = .ok (.aload_n 0, 1) := dk_42 (dk_at dksX3_init_2 21 rfl rfl)
theorem dX3_init_69 : decode cX3_init 69 = .ok (.sipush 1024, 3) := dk_17 4 0 (dk_at dksX3_init_3 0 rfl rfl)
theorem dX3_init_72 : decode cX3_init 72 = .ok (.newarray .int, 2) := dk_188_10 (dk_at dksX3_init_3 3 rfl rfl)
theorem dX3_init_74 : decode cX3_init 74 = .ok (.putfield 35, 3) := dk_181 0 35 (dk_at dksX3_init_3 5 rfl rfl)
theorem dX3_init_77 : decode cX3_init 77 = .ok (.aload_n 0, 1) := dk_42 (dk_at dksX3_init_3 8 rfl rfl)
theorem dX3_init_78 : decode cX3_init 78 = .ok (.bipush 64, 2) := dk_16 64 (dk_at dksX3_init_3 9 rfl rfl)
theorem dX3_init_80 : decode cX3_init 80 = .ok (.newarray .long, 2) := dk_188_11 (dk_at dksX3_init_3 11 rfl rfl)
theorem dX3_init_82 : decode cX3_init 82 = .ok (.putfield 38, 3) := dk_181 0 38 (dk_at dksX3_init_3 13 rfl rfl)
theorem dX3_init_85 : decode cX3_init 85 = .ok (.aload_n 0, 1) := dk_42 (dk_at dksX3_init_3 16 rfl rfl)
theorem dX3_init_86 : decode cX3_init 86 = .ok (.bipush 8, 2) := dk_16 8 (dk_at dksX3_init_3 17 rfl rfl)
theorem dX3_init_88 : decode cX3_init 88 = .ok (.newarray .long, 2) := dk_188_11 (dk_at dksX3_init_3 19 rfl rfl)
theorem dX3_init_90 : decode cX3_init 90 = .ok (.putfield 41, 3) := dk_181 0 41 (dk_at dksX3_init_3 21 rfl rfl)
theorem dX3_init_93 : decode cX3_init 93 = .ok (.aload_n 0, 1) := dk_42 (dk_at dksX3_init_4 0 rfl rfl)
theorem dX3_init_94 : decode cX3_init 94 = .ok (.bipush 8, 2) := dk_16 8 (dk_at dksX3_init_4 1 rfl rfl)
theorem dX3_init_96 : decode cX3_init 96 = .ok (.newarray .int, 2) := dk_188_10 (dk_at dksX3_init_4 3 rfl rfl)
theorem dX3_init_98 : decode cX3_init 98 = .ok (.putfield 44, 3) := dk_181 0 44 (dk_at dksX3_init_4 5 rfl rfl)
theorem dX3_init_101 : decode cX3_init 101 = .ok (.aload_n 0, 1) := dk_42 (dk_at dksX3_init_4 8 rfl rfl)
theorem dX3_init_102 : decode cX3_init 102 = .ok (.bipush 8, 2) := dk_16 8 (dk_at dksX3_init_4 9 rfl rfl)
theorem dX3_init_104 : decode cX3_init 104 = .ok (.newarray .int, 2) := dk_188_10 (dk_at dksX3_init_4 11 rfl rfl)
theorem dX3_init_106 : decode cX3_init 106 = .ok (.putfield 47, 3) := dk_181 0 47 (dk_at dksX3_init_4 13 rfl rfl)
theorem dX3_init_109 : decode cX3_init 109 = .ok (.aload_n 0, 1) := dk_42 (dk_at dksX3_init_4 16 rfl rfl)
theorem dX3_init_110 : decode cX3_init 110 = .ok (.getfield 7, 3) := dk_180 0 7 (dk_at dksX3_init_4 17 rfl rfl)
theorem dX3_init_113 : decode cX3_init 113 = .ok (.bipush 39, 2) := dk_16 39 (dk_at dksX3_init_4 20 rfl rfl)
theorem dX3_init_115 : decode cX3_init 115 = .ok (.iconst (-1), 1) := dk_2 (dk_at dksX3_init_4 22 rfl rfl)
theorem dX3_init_116 : decode cX3_init 116 = .ok (.iastore, 1) := dk_79 (dk_at dksX3_init_4 23 rfl rfl)
theorem dX3_init_117 : decode cX3_init 117 = .ok (.return_, 1) := dk_177 (dk_at dksX3_init_5 0 rfl rfl)
abbrev cX3_thrown : ByteArray := prog_9_method_2_code
def yX3_thrown : MethodName := ⟨RX3, "thrown", "()I"⟩
theorem dX3_thrown_0 : decode cX3_thrown 0 = .ok (.aload_n 0, 1) := by decide +kernel
theorem dX3_thrown_1 : decode cX3_thrown 1 = .ok (.getfield 50, 3) := by decide +kernel
theorem dX3_thrown_4 : decode cX3_thrown 4 = .ok (.ireturn, 1) := by decide +kernel
abbrev cX3_undo : ByteArray := prog_9_method_12_code
def yX3_undo : MethodName := ⟨RX3, "undo", "()I"⟩
def dkwX3_undo_3 : List UInt8 := [180, 0, 62, 172]
abbrev dktX3_undo_3 : List UInt8 := dkwX3_undo_3 ++ []
def dkwX3_undo_2 : List UInt8 := [42, 180, 0, 13, 16, 68, 42, 180, 0, 62, 104, 27, 96, 46, 79, 132, 1, 1, 167, 255, 227, 42]
abbrev dktX3_undo_2 : List UInt8 := dkwX3_undo_2 ++ dktX3_undo_3
def dkwX3_undo_1 : List UInt8 := [172, 42, 89, 180, 0, 62, 4, 100, 181, 0, 62, 3, 60, 27, 16, 68, 162, 0, 29, 42, 180, 0, 7, 27]
abbrev dktX3_undo_1 : List UInt8 := dkwX3_undo_1 ++ dktX3_undo_2
def dkwX3_undo_0 : List UInt8 := [42, 42, 180, 0, 62, 154, 0, 7, 4, 167, 0, 4, 3, 181, 0, 50, 42, 180, 0, 50, 158, 0, 5, 3]
abbrev dktX3_undo_0 : List UInt8 := dkwX3_undo_0 ++ dktX3_undo_1
theorem dksX3_undo_0 : cX3_undo.data.toList.drop 0 = dktX3_undo_0 := by decide +kernel
theorem dksX3_undo_1 : cX3_undo.data.toList.drop 24 = dktX3_undo_1 := dk_seg dksX3_undo_0 24 rfl rfl
theorem dksX3_undo_2 : cX3_undo.data.toList.drop 48 = dktX3_undo_2 := dk_seg dksX3_undo_1 24 rfl rfl
theorem dksX3_undo_3 : cX3_undo.data.toList.drop 70 = dktX3_undo_3 := dk_seg dksX3_undo_2 22 rfl rfl
theorem dX3_undo_0 : decode cX3_undo 0 = .ok (.aload_n 0, 1) := dk_42 (dk_at dksX3_undo_0 0 rfl rfl)
theorem dX3_undo_1 : decode cX3_undo 1 = .ok (.aload_n 0, 1) := dk_42 (dk_at dksX3_undo_0 1 rfl rfl)
theorem dX3_undo_2 : decode cX3_undo 2 = .ok (.getfield 62, 3) := dk_180 0 62 (dk_at dksX3_undo_0 2 rfl rfl)
theorem dX3_undo_5 : decode cX3_undo 5 = .ok (.ifCond .ne 7, 3) := dk_154 0 7 (dk_at dksX3_undo_0 5 rfl rfl)
theorem dX3_undo_8 : decode cX3_undo 8 = .ok (.iconst 1, 1) := dk_4 (dk_at dksX3_undo_0 8 rfl rfl)
theorem dX3_undo_9 : decode cX3_undo 9 = .ok (.goto 4, 3) := dk_167 0 4 (dk_at dksX3_undo_0 9 rfl rfl)
theorem dX3_undo_12 : decode cX3_undo 12 = .ok (.iconst 0, 1) := dk_3 (dk_at dksX3_undo_0 12 rfl rfl)
theorem dX3_undo_13 : decode cX3_undo 13 = .ok (.putfield 50, 3) := dk_181 0 50 (dk_at dksX3_undo_0 13 rfl rfl)
theorem dX3_undo_16 : decode cX3_undo 16 = .ok (.aload_n 0, 1) := dk_42 (dk_at dksX3_undo_0 16 rfl rfl)
theorem dX3_undo_17 : decode cX3_undo 17 = .ok (.getfield 50, 3) := dk_180 0 50 (dk_at dksX3_undo_0 17 rfl rfl)
theorem dX3_undo_20 : decode cX3_undo 20 = .ok (.ifCond .le 5, 3) := dk_158 0 5 (dk_at dksX3_undo_0 20 rfl rfl)
theorem dX3_undo_23 : decode cX3_undo 23 = .ok (.iconst 0, 1) := dk_3 (dk_at dksX3_undo_0 23 rfl rfl)
theorem dX3_undo_24 : decode cX3_undo 24 = .ok (.ireturn, 1) := dk_172 (dk_at dksX3_undo_1 0 rfl rfl)
theorem dX3_undo_25 : decode cX3_undo 25 = .ok (.aload_n 0, 1) := dk_42 (dk_at dksX3_undo_1 1 rfl rfl)
theorem dX3_undo_26 : decode cX3_undo 26 = .ok (.dup, 1) := dk_89 (dk_at dksX3_undo_1 2 rfl rfl)
theorem dX3_undo_27 : decode cX3_undo 27 = .ok (.getfield 62, 3) := dk_180 0 62 (dk_at dksX3_undo_1 3 rfl rfl)
theorem dX3_undo_30 : decode cX3_undo 30 = .ok (.iconst 1, 1) := dk_4 (dk_at dksX3_undo_1 6 rfl rfl)
theorem dX3_undo_31 : decode cX3_undo 31 = .ok (.isub, 1) := dk_100 (dk_at dksX3_undo_1 7 rfl rfl)
theorem dX3_undo_32 : decode cX3_undo 32 = .ok (.putfield 62, 3) := dk_181 0 62 (dk_at dksX3_undo_1 8 rfl rfl)
theorem dX3_undo_35 : decode cX3_undo 35 = .ok (.iconst 0, 1) := dk_3 (dk_at dksX3_undo_1 11 rfl rfl)
theorem dX3_undo_36 : decode cX3_undo 36 = .ok (.istore_n 1, 1) := dk_60 (dk_at dksX3_undo_1 12 rfl rfl)
theorem dX3_undo_37 : decode cX3_undo 37 = .ok (.iload_n 1, 1) := dk_27 (dk_at dksX3_undo_1 13 rfl rfl)
theorem dX3_undo_38 : decode cX3_undo 38 = .ok (.bipush 68, 2) := dk_16 68 (dk_at dksX3_undo_1 14 rfl rfl)
theorem dX3_undo_40 : decode cX3_undo 40 = .ok (.if_icmp .ge 29, 3) := dk_162 0 29 (dk_at dksX3_undo_1 16 rfl rfl)
theorem dX3_undo_43 : decode cX3_undo 43 = .ok (.aload_n 0, 1) := dk_42 (dk_at dksX3_undo_1 19 rfl rfl)
theorem dX3_undo_44 : decode cX3_undo 44 = .ok (.getfield 7, 3) := dk_180 0 7 (dk_at dksX3_undo_1 20 rfl rfl)
theorem dX3_undo_47 : decode cX3_undo 47 = .ok (.iload_n 1, 1) := dk_27 (dk_at dksX3_undo_1 23 rfl rfl)
theorem dX3_undo_48 : decode cX3_undo 48 = .ok (.aload_n 0, 1) := dk_42 (dk_at dksX3_undo_2 0 rfl rfl)
theorem dX3_undo_49 : decode cX3_undo 49 = .ok (.getfield 13, 3) := dk_180 0 13 (dk_at dksX3_undo_2 1 rfl rfl)
theorem dX3_undo_52 : decode cX3_undo 52 = .ok (.bipush 68, 2) := dk_16 68 (dk_at dksX3_undo_2 4 rfl rfl)
theorem dX3_undo_54 : decode cX3_undo 54 = .ok (.aload_n 0, 1) := dk_42 (dk_at dksX3_undo_2 6 rfl rfl)
theorem dX3_undo_55 : decode cX3_undo 55 = .ok (.getfield 62, 3) := dk_180 0 62 (dk_at dksX3_undo_2 7 rfl rfl)
theorem dX3_undo_58 : decode cX3_undo 58 = .ok (.imul, 1) := dk_104 (dk_at dksX3_undo_2 10 rfl rfl)
theorem dX3_undo_59 : decode cX3_undo 59 = .ok (.iload_n 1, 1) := dk_27 (dk_at dksX3_undo_2 11 rfl rfl)
theorem dX3_undo_60 : decode cX3_undo 60 = .ok (.iadd, 1) := dk_96 (dk_at dksX3_undo_2 12 rfl rfl)
theorem dX3_undo_61 : decode cX3_undo 61 = .ok (.iaload, 1) := dk_46 (dk_at dksX3_undo_2 13 rfl rfl)
theorem dX3_undo_62 : decode cX3_undo 62 = .ok (.iastore, 1) := dk_79 (dk_at dksX3_undo_2 14 rfl rfl)
theorem dX3_undo_63 : decode cX3_undo 63 = .ok (.iinc 1 1, 3) := dk_132 1 1 (dk_at dksX3_undo_2 15 rfl rfl)
theorem dX3_undo_66 : decode cX3_undo 66 = .ok (.goto (-29), 3) := dk_167 255 227 (dk_at dksX3_undo_2 18 rfl rfl)
theorem dX3_undo_69 : decode cX3_undo 69 = .ok (.aload_n 0, 1) := dk_42 (dk_at dksX3_undo_2 21 rfl rfl)
theorem dX3_undo_70 : decode cX3_undo 70 = .ok (.getfield 62, 3) := dk_180 0 62 (dk_at dksX3_undo_3 0 rfl rfl)
theorem dX3_undo_73 : decode cX3_undo 73 = .ok (.ireturn, 1) := dk_172 (dk_at dksX3_undo_3 3 rfl rfl)
abbrev cX3_savedStates : ByteArray := prog_9_method_13_code
def yX3_savedStates : MethodName := ⟨RX3, "savedStates", "()I"⟩
def dkwX3_savedStates_0 : List UInt8 := [42, 3, 181, 0, 50, 42, 180, 0, 62, 172]
abbrev dktX3_savedStates_0 : List UInt8 := dkwX3_savedStates_0 ++ []
theorem dksX3_savedStates_0 : cX3_savedStates.data.toList.drop 0 = dktX3_savedStates_0 := by decide +kernel
theorem dX3_savedStates_0 : decode cX3_savedStates 0 = .ok (.aload_n 0, 1) := dk_42 (dk_at dksX3_savedStates_0 0 rfl rfl)
theorem dX3_savedStates_1 : decode cX3_savedStates 1 = .ok (.iconst 0, 1) := dk_3 (dk_at dksX3_savedStates_0 1 rfl rfl)
theorem dX3_savedStates_2 : decode cX3_savedStates 2 = .ok (.putfield 50, 3) := dk_181 0 50 (dk_at dksX3_savedStates_0 2 rfl rfl)
theorem dX3_savedStates_5 : decode cX3_savedStates 5 = .ok (.aload_n 0, 1) := dk_42 (dk_at dksX3_savedStates_0 5 rfl rfl)
theorem dX3_savedStates_6 : decode cX3_savedStates 6 = .ok (.getfield 62, 3) := dk_180 0 62 (dk_at dksX3_savedStates_0 6 rfl rfl)
theorem dX3_savedStates_9 : decode cX3_savedStates 9 = .ok (.ireturn, 1) := dk_172 (dk_at dksX3_savedStates_0 9 rfl rfl)
abbrev cX3_keep : ByteArray := prog_9_method_14_code
def yX3_keep : MethodName := ⟨RX3, "keep", "()I"⟩
def dkwX3_keep_1 : List UInt8 := [79, 132, 1, 1, 167, 255, 235, 42, 4, 181, 0, 65, 42, 180, 0, 7, 3, 46, 172]
abbrev dktX3_keep_1 : List UInt8 := dkwX3_keep_1 ++ []
def dkwX3_keep_0 : List UInt8 := [42, 3, 181, 0, 50, 3, 60, 27, 16, 68, 162, 0, 21, 42, 180, 0, 16, 27, 42, 180, 0, 7, 27, 46]
abbrev dktX3_keep_0 : List UInt8 := dkwX3_keep_0 ++ dktX3_keep_1
theorem dksX3_keep_0 : cX3_keep.data.toList.drop 0 = dktX3_keep_0 := by decide +kernel
theorem dksX3_keep_1 : cX3_keep.data.toList.drop 24 = dktX3_keep_1 := dk_seg dksX3_keep_0 24 rfl rfl
theorem dX3_keep_0 : decode cX3_keep 0 = .ok (.aload_n 0, 1) := dk_42 (dk_at dksX3_keep_0 0 rfl rfl)
theorem dX3_keep_1 : decode cX3_keep 1 = .ok (.iconst 0, 1) := dk_3 (dk_at dksX3_keep_0 1 rfl rfl)
theorem dX3_keep_2 : decode cX3_keep 2 = .ok (.putfield 50, 3) := dk_181 0 50 (dk_at dksX3_keep_0 2 rfl rfl)
theorem dX3_keep_5 : decode cX3_keep 5 = .ok (.iconst 0, 1) := dk_3 (dk_at dksX3_keep_0 5 rfl rfl)
theorem dX3_keep_6 : decode cX3_keep 6 = .ok (.istore_n 1, 1) := dk_60 (dk_at dksX3_keep_0 6 rfl rfl)
theorem dX3_keep_7 : decode cX3_keep 7 = .ok (.iload_n 1, 1) := dk_27 (dk_at dksX3_keep_0 7 rfl rfl)
theorem dX3_keep_8 : decode cX3_keep 8 = .ok (.bipush 68, 2) := dk_16 68 (dk_at dksX3_keep_0 8 rfl rfl)
theorem dX3_keep_10 : decode cX3_keep 10 = .ok (.if_icmp .ge 21, 3) := dk_162 0 21 (dk_at dksX3_keep_0 10 rfl rfl)
theorem dX3_keep_13 : decode cX3_keep 13 = .ok (.aload_n 0, 1) := dk_42 (dk_at dksX3_keep_0 13 rfl rfl)
theorem dX3_keep_14 : decode cX3_keep 14 = .ok (.getfield 16, 3) := dk_180 0 16 (dk_at dksX3_keep_0 14 rfl rfl)
theorem dX3_keep_17 : decode cX3_keep 17 = .ok (.iload_n 1, 1) := dk_27 (dk_at dksX3_keep_0 17 rfl rfl)
theorem dX3_keep_18 : decode cX3_keep 18 = .ok (.aload_n 0, 1) := dk_42 (dk_at dksX3_keep_0 18 rfl rfl)
theorem dX3_keep_19 : decode cX3_keep 19 = .ok (.getfield 7, 3) := dk_180 0 7 (dk_at dksX3_keep_0 19 rfl rfl)
theorem dX3_keep_22 : decode cX3_keep 22 = .ok (.iload_n 1, 1) := dk_27 (dk_at dksX3_keep_0 22 rfl rfl)
theorem dX3_keep_23 : decode cX3_keep 23 = .ok (.iaload, 1) := dk_46 (dk_at dksX3_keep_0 23 rfl rfl)
theorem dX3_keep_24 : decode cX3_keep 24 = .ok (.iastore, 1) := dk_79 (dk_at dksX3_keep_1 0 rfl rfl)
theorem dX3_keep_25 : decode cX3_keep 25 = .ok (.iinc 1 1, 3) := dk_132 1 1 (dk_at dksX3_keep_1 1 rfl rfl)
theorem dX3_keep_28 : decode cX3_keep 28 = .ok (.goto (-21), 3) := dk_167 255 235 (dk_at dksX3_keep_1 4 rfl rfl)
theorem dX3_keep_31 : decode cX3_keep 31 = .ok (.aload_n 0, 1) := dk_42 (dk_at dksX3_keep_1 7 rfl rfl)
theorem dX3_keep_32 : decode cX3_keep 32 = .ok (.iconst 1, 1) := dk_4 (dk_at dksX3_keep_1 8 rfl rfl)
theorem dX3_keep_33 : decode cX3_keep 33 = .ok (.putfield 65, 3) := dk_181 0 65 (dk_at dksX3_keep_1 9 rfl rfl)
theorem dX3_keep_36 : decode cX3_keep 36 = .ok (.aload_n 0, 1) := dk_42 (dk_at dksX3_keep_1 12 rfl rfl)
theorem dX3_keep_37 : decode cX3_keep 37 = .ok (.getfield 7, 3) := dk_180 0 7 (dk_at dksX3_keep_1 13 rfl rfl)
theorem dX3_keep_40 : decode cX3_keep 40 = .ok (.iconst 0, 1) := dk_3 (dk_at dksX3_keep_1 16 rfl rfl)
theorem dX3_keep_41 : decode cX3_keep 41 = .ok (.iaload, 1) := dk_46 (dk_at dksX3_keep_1 17 rfl rfl)
theorem dX3_keep_42 : decode cX3_keep 42 = .ok (.ireturn, 1) := dk_172 (dk_at dksX3_keep_1 18 rfl rfl)
abbrev cX3_restore : ByteArray := prog_9_method_15_code
def yX3_restore : MethodName := ⟨RX3, "restore", "()I"⟩
def dkwX3_restore_2 : List UInt8 := [79, 132, 1, 1, 167, 255, 235, 42, 180, 0, 7, 3, 46, 172]
abbrev dktX3_restore_2 : List UInt8 := dkwX3_restore_2 ++ []
def dkwX3_restore_1 : List UInt8 := [172, 42, 182, 0, 69, 3, 60, 27, 16, 68, 162, 0, 21, 42, 180, 0, 7, 27, 42, 180, 0, 16, 27, 46]
abbrev dktX3_restore_1 : List UInt8 := dkwX3_restore_1 ++ dktX3_restore_2
def dkwX3_restore_0 : List UInt8 := [42, 42, 180, 0, 65, 153, 0, 7, 3, 167, 0, 4, 4, 181, 0, 50, 42, 180, 0, 50, 158, 0, 5, 3]
abbrev dktX3_restore_0 : List UInt8 := dkwX3_restore_0 ++ dktX3_restore_1
theorem dksX3_restore_0 : cX3_restore.data.toList.drop 0 = dktX3_restore_0 := by decide +kernel
theorem dksX3_restore_1 : cX3_restore.data.toList.drop 24 = dktX3_restore_1 := dk_seg dksX3_restore_0 24 rfl rfl
theorem dksX3_restore_2 : cX3_restore.data.toList.drop 48 = dktX3_restore_2 := dk_seg dksX3_restore_1 24 rfl rfl
theorem dX3_restore_0 : decode cX3_restore 0 = .ok (.aload_n 0, 1) := dk_42 (dk_at dksX3_restore_0 0 rfl rfl)
theorem dX3_restore_1 : decode cX3_restore 1 = .ok (.aload_n 0, 1) := dk_42 (dk_at dksX3_restore_0 1 rfl rfl)
theorem dX3_restore_2 : decode cX3_restore 2 = .ok (.getfield 65, 3) := dk_180 0 65 (dk_at dksX3_restore_0 2 rfl rfl)
theorem dX3_restore_5 : decode cX3_restore 5 = .ok (.ifCond .eq 7, 3) := dk_153 0 7 (dk_at dksX3_restore_0 5 rfl rfl)
theorem dX3_restore_8 : decode cX3_restore 8 = .ok (.iconst 0, 1) := dk_3 (dk_at dksX3_restore_0 8 rfl rfl)
theorem dX3_restore_9 : decode cX3_restore 9 = .ok (.goto 4, 3) := dk_167 0 4 (dk_at dksX3_restore_0 9 rfl rfl)
theorem dX3_restore_12 : decode cX3_restore 12 = .ok (.iconst 1, 1) := dk_4 (dk_at dksX3_restore_0 12 rfl rfl)
theorem dX3_restore_13 : decode cX3_restore 13 = .ok (.putfield 50, 3) := dk_181 0 50 (dk_at dksX3_restore_0 13 rfl rfl)
theorem dX3_restore_16 : decode cX3_restore 16 = .ok (.aload_n 0, 1) := dk_42 (dk_at dksX3_restore_0 16 rfl rfl)
theorem dX3_restore_17 : decode cX3_restore 17 = .ok (.getfield 50, 3) := dk_180 0 50 (dk_at dksX3_restore_0 17 rfl rfl)
theorem dX3_restore_20 : decode cX3_restore 20 = .ok (.ifCond .le 5, 3) := dk_158 0 5 (dk_at dksX3_restore_0 20 rfl rfl)
theorem dX3_restore_23 : decode cX3_restore 23 = .ok (.iconst 0, 1) := dk_3 (dk_at dksX3_restore_0 23 rfl rfl)
theorem dX3_restore_24 : decode cX3_restore 24 = .ok (.ireturn, 1) := dk_172 (dk_at dksX3_restore_1 0 rfl rfl)
theorem dX3_restore_25 : decode cX3_restore 25 = .ok (.aload_n 0, 1) := dk_42 (dk_at dksX3_restore_1 1 rfl rfl)
theorem dX3_restore_26 : decode cX3_restore 26 = .ok (.invokevirtual 69, 3) := dk_182 0 69 (dk_at dksX3_restore_1 2 rfl rfl)
theorem dX3_restore_29 : decode cX3_restore 29 = .ok (.iconst 0, 1) := dk_3 (dk_at dksX3_restore_1 5 rfl rfl)
theorem dX3_restore_30 : decode cX3_restore 30 = .ok (.istore_n 1, 1) := dk_60 (dk_at dksX3_restore_1 6 rfl rfl)
theorem dX3_restore_31 : decode cX3_restore 31 = .ok (.iload_n 1, 1) := dk_27 (dk_at dksX3_restore_1 7 rfl rfl)
theorem dX3_restore_32 : decode cX3_restore 32 = .ok (.bipush 68, 2) := dk_16 68 (dk_at dksX3_restore_1 8 rfl rfl)
theorem dX3_restore_34 : decode cX3_restore 34 = .ok (.if_icmp .ge 21, 3) := dk_162 0 21 (dk_at dksX3_restore_1 10 rfl rfl)
theorem dX3_restore_37 : decode cX3_restore 37 = .ok (.aload_n 0, 1) := dk_42 (dk_at dksX3_restore_1 13 rfl rfl)
theorem dX3_restore_38 : decode cX3_restore 38 = .ok (.getfield 7, 3) := dk_180 0 7 (dk_at dksX3_restore_1 14 rfl rfl)
theorem dX3_restore_41 : decode cX3_restore 41 = .ok (.iload_n 1, 1) := dk_27 (dk_at dksX3_restore_1 17 rfl rfl)
theorem dX3_restore_42 : decode cX3_restore 42 = .ok (.aload_n 0, 1) := dk_42 (dk_at dksX3_restore_1 18 rfl rfl)
theorem dX3_restore_43 : decode cX3_restore 43 = .ok (.getfield 16, 3) := dk_180 0 16 (dk_at dksX3_restore_1 19 rfl rfl)
theorem dX3_restore_46 : decode cX3_restore 46 = .ok (.iload_n 1, 1) := dk_27 (dk_at dksX3_restore_1 22 rfl rfl)
theorem dX3_restore_47 : decode cX3_restore 47 = .ok (.iaload, 1) := dk_46 (dk_at dksX3_restore_1 23 rfl rfl)
theorem dX3_restore_48 : decode cX3_restore 48 = .ok (.iastore, 1) := dk_79 (dk_at dksX3_restore_2 0 rfl rfl)
theorem dX3_restore_49 : decode cX3_restore 49 = .ok (.iinc 1 1, 3) := dk_132 1 1 (dk_at dksX3_restore_2 1 rfl rfl)
theorem dX3_restore_52 : decode cX3_restore 52 = .ok (.goto (-21), 3) := dk_167 255 235 (dk_at dksX3_restore_2 4 rfl rfl)
theorem dX3_restore_55 : decode cX3_restore 55 = .ok (.aload_n 0, 1) := dk_42 (dk_at dksX3_restore_2 7 rfl rfl)
theorem dX3_restore_56 : decode cX3_restore 56 = .ok (.getfield 7, 3) := dk_180 0 7 (dk_at dksX3_restore_2 8 rfl rfl)
theorem dX3_restore_59 : decode cX3_restore 59 = .ok (.iconst 0, 1) := dk_3 (dk_at dksX3_restore_2 11 rfl rfl)
theorem dX3_restore_60 : decode cX3_restore 60 = .ok (.iaload, 1) := dk_46 (dk_at dksX3_restore_2 12 rfl rfl)
theorem dX3_restore_61 : decode cX3_restore 61 = .ok (.ireturn, 1) := dk_172 (dk_at dksX3_restore_2 13 rfl rfl)
abbrev cX3_record : ByteArray := prog_9_method_11_code
def yX3_record : MethodName := ⟨RX3, "record", "()V"⟩
def dkwX3_record_3 : List UInt8 := [42, 180, 0, 7, 27, 46, 79, 132, 1, 1, 167, 255, 227, 42, 89, 180, 0, 62, 4, 96, 181, 0, 62, 177]
abbrev dktX3_record_3 : List UInt8 := dkwX3_record_3 ++ []
def dkwX3_record_2 : List UInt8 := [181, 0, 62, 3, 60, 27, 16, 68, 162, 0, 29, 42, 180, 0, 13, 16, 68, 42, 180, 0, 62, 104, 27, 96]
abbrev dktX3_record_2 : List UInt8 := dkwX3_record_2 ++ dktX3_record_3
def dkwX3_record_1 : List UInt8 := [180, 0, 13, 16, 68, 27, 96, 46, 79, 132, 1, 1, 167, 255, 231, 42, 89, 180, 0, 62, 4, 100]
abbrev dktX3_record_1 : List UInt8 := dkwX3_record_1 ++ dktX3_record_2
def dkwX3_record_0 : List UInt8 := [42, 180, 0, 62, 8, 160, 0, 43, 3, 60, 27, 17, 1, 16, 162, 0, 24, 42, 180, 0, 13, 27, 42]
abbrev dktX3_record_0 : List UInt8 := dkwX3_record_0 ++ dktX3_record_1
theorem dksX3_record_0 : cX3_record.data.toList.drop 0 = dktX3_record_0 := by decide +kernel
theorem dksX3_record_1 : cX3_record.data.toList.drop 23 = dktX3_record_1 := dk_seg dksX3_record_0 23 rfl rfl
theorem dksX3_record_2 : cX3_record.data.toList.drop 45 = dktX3_record_2 := dk_seg dksX3_record_1 22 rfl rfl
theorem dksX3_record_3 : cX3_record.data.toList.drop 69 = dktX3_record_3 := dk_seg dksX3_record_2 24 rfl rfl
theorem dX3_record_0 : decode cX3_record 0 = .ok (.aload_n 0, 1) := dk_42 (dk_at dksX3_record_0 0 rfl rfl)
theorem dX3_record_1 : decode cX3_record 1 = .ok (.getfield 62, 3) := dk_180 0 62 (dk_at dksX3_record_0 1 rfl rfl)
theorem dX3_record_4 : decode cX3_record 4 = .ok (.iconst 5, 1) := dk_8 (dk_at dksX3_record_0 4 rfl rfl)
theorem dX3_record_5 : decode cX3_record 5 = .ok (.if_icmp .ne 43, 3) := dk_160 0 43 (dk_at dksX3_record_0 5 rfl rfl)
theorem dX3_record_8 : decode cX3_record 8 = .ok (.iconst 0, 1) := dk_3 (dk_at dksX3_record_0 8 rfl rfl)
theorem dX3_record_9 : decode cX3_record 9 = .ok (.istore_n 1, 1) := dk_60 (dk_at dksX3_record_0 9 rfl rfl)
theorem dX3_record_10 : decode cX3_record 10 = .ok (.iload_n 1, 1) := dk_27 (dk_at dksX3_record_0 10 rfl rfl)
theorem dX3_record_11 : decode cX3_record 11 = .ok (.sipush 272, 3) := dk_17 1 16 (dk_at dksX3_record_0 11 rfl rfl)
theorem dX3_record_14 : decode cX3_record 14 = .ok (.if_icmp .ge 24, 3) := dk_162 0 24 (dk_at dksX3_record_0 14 rfl rfl)
theorem dX3_record_17 : decode cX3_record 17 = .ok (.aload_n 0, 1) := dk_42 (dk_at dksX3_record_0 17 rfl rfl)
theorem dX3_record_18 : decode cX3_record 18 = .ok (.getfield 13, 3) := dk_180 0 13 (dk_at dksX3_record_0 18 rfl rfl)
theorem dX3_record_21 : decode cX3_record 21 = .ok (.iload_n 1, 1) := dk_27 (dk_at dksX3_record_0 21 rfl rfl)
theorem dX3_record_22 : decode cX3_record 22 = .ok (.aload_n 0, 1) := dk_42 (dk_at dksX3_record_0 22 rfl rfl)
theorem dX3_record_23 : decode cX3_record 23 = .ok (.getfield 13, 3) := dk_180 0 13 (dk_at dksX3_record_1 0 rfl rfl)
theorem dX3_record_26 : decode cX3_record 26 = .ok (.bipush 68, 2) := dk_16 68 (dk_at dksX3_record_1 3 rfl rfl)
theorem dX3_record_28 : decode cX3_record 28 = .ok (.iload_n 1, 1) := dk_27 (dk_at dksX3_record_1 5 rfl rfl)
theorem dX3_record_29 : decode cX3_record 29 = .ok (.iadd, 1) := dk_96 (dk_at dksX3_record_1 6 rfl rfl)
theorem dX3_record_30 : decode cX3_record 30 = .ok (.iaload, 1) := dk_46 (dk_at dksX3_record_1 7 rfl rfl)
theorem dX3_record_31 : decode cX3_record 31 = .ok (.iastore, 1) := dk_79 (dk_at dksX3_record_1 8 rfl rfl)
theorem dX3_record_32 : decode cX3_record 32 = .ok (.iinc 1 1, 3) := dk_132 1 1 (dk_at dksX3_record_1 9 rfl rfl)
theorem dX3_record_35 : decode cX3_record 35 = .ok (.goto (-25), 3) := dk_167 255 231 (dk_at dksX3_record_1 12 rfl rfl)
theorem dX3_record_38 : decode cX3_record 38 = .ok (.aload_n 0, 1) := dk_42 (dk_at dksX3_record_1 15 rfl rfl)
theorem dX3_record_39 : decode cX3_record 39 = .ok (.dup, 1) := dk_89 (dk_at dksX3_record_1 16 rfl rfl)
theorem dX3_record_40 : decode cX3_record 40 = .ok (.getfield 62, 3) := dk_180 0 62 (dk_at dksX3_record_1 17 rfl rfl)
theorem dX3_record_43 : decode cX3_record 43 = .ok (.iconst 1, 1) := dk_4 (dk_at dksX3_record_1 20 rfl rfl)
theorem dX3_record_44 : decode cX3_record 44 = .ok (.isub, 1) := dk_100 (dk_at dksX3_record_1 21 rfl rfl)
theorem dX3_record_45 : decode cX3_record 45 = .ok (.putfield 62, 3) := dk_181 0 62 (dk_at dksX3_record_2 0 rfl rfl)
theorem dX3_record_48 : decode cX3_record 48 = .ok (.iconst 0, 1) := dk_3 (dk_at dksX3_record_2 3 rfl rfl)
theorem dX3_record_49 : decode cX3_record 49 = .ok (.istore_n 1, 1) := dk_60 (dk_at dksX3_record_2 4 rfl rfl)
theorem dX3_record_50 : decode cX3_record 50 = .ok (.iload_n 1, 1) := dk_27 (dk_at dksX3_record_2 5 rfl rfl)
theorem dX3_record_51 : decode cX3_record 51 = .ok (.bipush 68, 2) := dk_16 68 (dk_at dksX3_record_2 6 rfl rfl)
theorem dX3_record_53 : decode cX3_record 53 = .ok (.if_icmp .ge 29, 3) := dk_162 0 29 (dk_at dksX3_record_2 8 rfl rfl)
theorem dX3_record_56 : decode cX3_record 56 = .ok (.aload_n 0, 1) := dk_42 (dk_at dksX3_record_2 11 rfl rfl)
theorem dX3_record_57 : decode cX3_record 57 = .ok (.getfield 13, 3) := dk_180 0 13 (dk_at dksX3_record_2 12 rfl rfl)
theorem dX3_record_60 : decode cX3_record 60 = .ok (.bipush 68, 2) := dk_16 68 (dk_at dksX3_record_2 15 rfl rfl)
theorem dX3_record_62 : decode cX3_record 62 = .ok (.aload_n 0, 1) := dk_42 (dk_at dksX3_record_2 17 rfl rfl)
theorem dX3_record_63 : decode cX3_record 63 = .ok (.getfield 62, 3) := dk_180 0 62 (dk_at dksX3_record_2 18 rfl rfl)
theorem dX3_record_66 : decode cX3_record 66 = .ok (.imul, 1) := dk_104 (dk_at dksX3_record_2 21 rfl rfl)
theorem dX3_record_67 : decode cX3_record 67 = .ok (.iload_n 1, 1) := dk_27 (dk_at dksX3_record_2 22 rfl rfl)
theorem dX3_record_68 : decode cX3_record 68 = .ok (.iadd, 1) := dk_96 (dk_at dksX3_record_2 23 rfl rfl)
theorem dX3_record_69 : decode cX3_record 69 = .ok (.aload_n 0, 1) := dk_42 (dk_at dksX3_record_3 0 rfl rfl)
theorem dX3_record_70 : decode cX3_record 70 = .ok (.getfield 7, 3) := dk_180 0 7 (dk_at dksX3_record_3 1 rfl rfl)
theorem dX3_record_73 : decode cX3_record 73 = .ok (.iload_n 1, 1) := dk_27 (dk_at dksX3_record_3 4 rfl rfl)
theorem dX3_record_74 : decode cX3_record 74 = .ok (.iaload, 1) := dk_46 (dk_at dksX3_record_3 5 rfl rfl)
theorem dX3_record_75 : decode cX3_record 75 = .ok (.iastore, 1) := dk_79 (dk_at dksX3_record_3 6 rfl rfl)
theorem dX3_record_76 : decode cX3_record 76 = .ok (.iinc 1 1, 3) := dk_132 1 1 (dk_at dksX3_record_3 7 rfl rfl)
theorem dX3_record_79 : decode cX3_record 79 = .ok (.goto (-29), 3) := dk_167 255 227 (dk_at dksX3_record_3 10 rfl rfl)
theorem dX3_record_82 : decode cX3_record 82 = .ok (.aload_n 0, 1) := dk_42 (dk_at dksX3_record_3 13 rfl rfl)
theorem dX3_record_83 : decode cX3_record 83 = .ok (.dup, 1) := dk_89 (dk_at dksX3_record_3 14 rfl rfl)
theorem dX3_record_84 : decode cX3_record 84 = .ok (.getfield 62, 3) := dk_180 0 62 (dk_at dksX3_record_3 15 rfl rfl)
theorem dX3_record_87 : decode cX3_record 87 = .ok (.iconst 1, 1) := dk_4 (dk_at dksX3_record_3 18 rfl rfl)
theorem dX3_record_88 : decode cX3_record 88 = .ok (.iadd, 1) := dk_96 (dk_at dksX3_record_3 19 rfl rfl)
theorem dX3_record_89 : decode cX3_record 89 = .ok (.putfield 62, 3) := dk_181 0 62 (dk_at dksX3_record_3 20 rfl rfl)
theorem dX3_record_92 : decode cX3_record 92 = .ok (.return_, 1) := dk_177 (dk_at dksX3_record_3 23 rfl rfl)
abbrev cX3_addGate : ByteArray := prog_9_method_28_code
def yX3_addGate : MethodName := ⟨RX3, "addGate", "(III)I"⟩
def dkwX3_addGate_1 : List UInt8 := [42, 27, 28, 29, 182, 0, 117, 42, 182, 0, 54, 4, 100, 172]
abbrev dktX3_addGate_1 : List UInt8 := dkwX3_addGate_1 ++ []
def dkwX3_addGate_0 : List UInt8 := [42, 42, 27, 28, 29, 182, 0, 113, 181, 0, 50, 42, 180, 0, 50, 158, 0, 5, 3, 172, 42, 182, 0, 69]
abbrev dktX3_addGate_0 : List UInt8 := dkwX3_addGate_0 ++ dktX3_addGate_1
theorem dksX3_addGate_0 : cX3_addGate.data.toList.drop 0 = dktX3_addGate_0 := by decide +kernel
theorem dksX3_addGate_1 : cX3_addGate.data.toList.drop 24 = dktX3_addGate_1 := dk_seg dksX3_addGate_0 24 rfl rfl
theorem dX3_addGate_0 : decode cX3_addGate 0 = .ok (.aload_n 0, 1) := dk_42 (dk_at dksX3_addGate_0 0 rfl rfl)
theorem dX3_addGate_1 : decode cX3_addGate 1 = .ok (.aload_n 0, 1) := dk_42 (dk_at dksX3_addGate_0 1 rfl rfl)
theorem dX3_addGate_2 : decode cX3_addGate 2 = .ok (.iload_n 1, 1) := dk_27 (dk_at dksX3_addGate_0 2 rfl rfl)
theorem dX3_addGate_3 : decode cX3_addGate 3 = .ok (.iload_n 2, 1) := dk_28 (dk_at dksX3_addGate_0 3 rfl rfl)
theorem dX3_addGate_4 : decode cX3_addGate 4 = .ok (.iload_n 3, 1) := dk_29 (dk_at dksX3_addGate_0 4 rfl rfl)
theorem dX3_addGate_5 : decode cX3_addGate 5 = .ok (.invokevirtual 113, 3) := dk_182 0 113 (dk_at dksX3_addGate_0 5 rfl rfl)
theorem dX3_addGate_8 : decode cX3_addGate 8 = .ok (.putfield 50, 3) := dk_181 0 50 (dk_at dksX3_addGate_0 8 rfl rfl)
theorem dX3_addGate_11 : decode cX3_addGate 11 = .ok (.aload_n 0, 1) := dk_42 (dk_at dksX3_addGate_0 11 rfl rfl)
theorem dX3_addGate_12 : decode cX3_addGate 12 = .ok (.getfield 50, 3) := dk_180 0 50 (dk_at dksX3_addGate_0 12 rfl rfl)
theorem dX3_addGate_15 : decode cX3_addGate 15 = .ok (.ifCond .le 5, 3) := dk_158 0 5 (dk_at dksX3_addGate_0 15 rfl rfl)
theorem dX3_addGate_18 : decode cX3_addGate 18 = .ok (.iconst 0, 1) := dk_3 (dk_at dksX3_addGate_0 18 rfl rfl)
theorem dX3_addGate_19 : decode cX3_addGate 19 = .ok (.ireturn, 1) := dk_172 (dk_at dksX3_addGate_0 19 rfl rfl)
theorem dX3_addGate_20 : decode cX3_addGate 20 = .ok (.aload_n 0, 1) := dk_42 (dk_at dksX3_addGate_0 20 rfl rfl)
theorem dX3_addGate_21 : decode cX3_addGate 21 = .ok (.invokevirtual 69, 3) := dk_182 0 69 (dk_at dksX3_addGate_0 21 rfl rfl)
theorem dX3_addGate_24 : decode cX3_addGate 24 = .ok (.aload_n 0, 1) := dk_42 (dk_at dksX3_addGate_1 0 rfl rfl)
theorem dX3_addGate_25 : decode cX3_addGate 25 = .ok (.iload_n 1, 1) := dk_27 (dk_at dksX3_addGate_1 1 rfl rfl)
theorem dX3_addGate_26 : decode cX3_addGate 26 = .ok (.iload_n 2, 1) := dk_28 (dk_at dksX3_addGate_1 2 rfl rfl)
theorem dX3_addGate_27 : decode cX3_addGate 27 = .ok (.iload_n 3, 1) := dk_29 (dk_at dksX3_addGate_1 3 rfl rfl)
theorem dX3_addGate_28 : decode cX3_addGate 28 = .ok (.invokevirtual 117, 3) := dk_182 0 117 (dk_at dksX3_addGate_1 4 rfl rfl)
theorem dX3_addGate_31 : decode cX3_addGate 31 = .ok (.aload_n 0, 1) := dk_42 (dk_at dksX3_addGate_1 7 rfl rfl)
theorem dX3_addGate_32 : decode cX3_addGate 32 = .ok (.invokevirtual 54, 3) := dk_182 0 54 (dk_at dksX3_addGate_1 8 rfl rfl)
theorem dX3_addGate_35 : decode cX3_addGate 35 = .ok (.iconst 1, 1) := dk_4 (dk_at dksX3_addGate_1 11 rfl rfl)
theorem dX3_addGate_36 : decode cX3_addGate 36 = .ok (.isub, 1) := dk_100 (dk_at dksX3_addGate_1 12 rfl rfl)
theorem dX3_addGate_37 : decode cX3_addGate 37 = .ok (.ireturn, 1) := dk_172 (dk_at dksX3_addGate_1 13 rfl rfl)
abbrev cX3_noGate : ByteArray := prog_9_method_26_code
def yX3_noGate : MethodName := ⟨RX3, "noGate", "(III)I"⟩
def dkwX3_noGate_2 : List UInt8 := [167, 0, 4, 3, 172]
abbrev dktX3_noGate_2 : List UInt8 := dkwX3_noGate_2 ++ []
def dkwX3_noGate_1 : List UInt8 := [184, 0, 58, 154, 0, 7, 5, 167, 0, 19, 42, 180, 0, 7, 3, 46, 16, 12, 160, 0, 7, 6]
abbrev dktX3_noGate_1 : List UInt8 := dkwX3_noGate_1 ++ dktX3_noGate_2
def dkwX3_noGate_0 : List UInt8 := [42, 28, 182, 0, 107, 153, 0, 11, 42, 29, 182, 0, 107, 154, 0, 7, 4, 167, 0, 33, 27, 3, 16, 7]
abbrev dktX3_noGate_0 : List UInt8 := dkwX3_noGate_0 ++ dktX3_noGate_1
theorem dksX3_noGate_0 : cX3_noGate.data.toList.drop 0 = dktX3_noGate_0 := by decide +kernel
theorem dksX3_noGate_1 : cX3_noGate.data.toList.drop 24 = dktX3_noGate_1 := dk_seg dksX3_noGate_0 24 rfl rfl
theorem dksX3_noGate_2 : cX3_noGate.data.toList.drop 46 = dktX3_noGate_2 := dk_seg dksX3_noGate_1 22 rfl rfl
theorem dX3_noGate_0 : decode cX3_noGate 0 = .ok (.aload_n 0, 1) := dk_42 (dk_at dksX3_noGate_0 0 rfl rfl)
theorem dX3_noGate_1 : decode cX3_noGate 1 = .ok (.iload_n 2, 1) := dk_28 (dk_at dksX3_noGate_0 1 rfl rfl)
theorem dX3_noGate_2 : decode cX3_noGate 2 = .ok (.invokevirtual 107, 3) := dk_182 0 107 (dk_at dksX3_noGate_0 2 rfl rfl)
theorem dX3_noGate_5 : decode cX3_noGate 5 = .ok (.ifCond .eq 11, 3) := dk_153 0 11 (dk_at dksX3_noGate_0 5 rfl rfl)
theorem dX3_noGate_8 : decode cX3_noGate 8 = .ok (.aload_n 0, 1) := dk_42 (dk_at dksX3_noGate_0 8 rfl rfl)
theorem dX3_noGate_9 : decode cX3_noGate 9 = .ok (.iload_n 3, 1) := dk_29 (dk_at dksX3_noGate_0 9 rfl rfl)
theorem dX3_noGate_10 : decode cX3_noGate 10 = .ok (.invokevirtual 107, 3) := dk_182 0 107 (dk_at dksX3_noGate_0 10 rfl rfl)
theorem dX3_noGate_13 : decode cX3_noGate 13 = .ok (.ifCond .ne 7, 3) := dk_154 0 7 (dk_at dksX3_noGate_0 13 rfl rfl)
theorem dX3_noGate_16 : decode cX3_noGate 16 = .ok (.iconst 1, 1) := dk_4 (dk_at dksX3_noGate_0 16 rfl rfl)
theorem dX3_noGate_17 : decode cX3_noGate 17 = .ok (.goto 33, 3) := dk_167 0 33 (dk_at dksX3_noGate_0 17 rfl rfl)
theorem dX3_noGate_20 : decode cX3_noGate 20 = .ok (.iload_n 1, 1) := dk_27 (dk_at dksX3_noGate_0 20 rfl rfl)
theorem dX3_noGate_21 : decode cX3_noGate 21 = .ok (.iconst 0, 1) := dk_3 (dk_at dksX3_noGate_0 21 rfl rfl)
theorem dX3_noGate_22 : decode cX3_noGate 22 = .ok (.bipush 7, 2) := dk_16 7 (dk_at dksX3_noGate_0 22 rfl rfl)
theorem dX3_noGate_24 : decode cX3_noGate 24 = .ok (.invokestatic 58, 3) := dk_184 0 58 (dk_at dksX3_noGate_1 0 rfl rfl)
theorem dX3_noGate_27 : decode cX3_noGate 27 = .ok (.ifCond .ne 7, 3) := dk_154 0 7 (dk_at dksX3_noGate_1 3 rfl rfl)
theorem dX3_noGate_30 : decode cX3_noGate 30 = .ok (.iconst 2, 1) := dk_5 (dk_at dksX3_noGate_1 6 rfl rfl)
theorem dX3_noGate_31 : decode cX3_noGate 31 = .ok (.goto 19, 3) := dk_167 0 19 (dk_at dksX3_noGate_1 7 rfl rfl)
theorem dX3_noGate_34 : decode cX3_noGate 34 = .ok (.aload_n 0, 1) := dk_42 (dk_at dksX3_noGate_1 10 rfl rfl)
theorem dX3_noGate_35 : decode cX3_noGate 35 = .ok (.getfield 7, 3) := dk_180 0 7 (dk_at dksX3_noGate_1 11 rfl rfl)
theorem dX3_noGate_38 : decode cX3_noGate 38 = .ok (.iconst 0, 1) := dk_3 (dk_at dksX3_noGate_1 14 rfl rfl)
theorem dX3_noGate_39 : decode cX3_noGate 39 = .ok (.iaload, 1) := dk_46 (dk_at dksX3_noGate_1 15 rfl rfl)
theorem dX3_noGate_40 : decode cX3_noGate 40 = .ok (.bipush 12, 2) := dk_16 12 (dk_at dksX3_noGate_1 16 rfl rfl)
theorem dX3_noGate_42 : decode cX3_noGate 42 = .ok (.if_icmp .ne 7, 3) := dk_160 0 7 (dk_at dksX3_noGate_1 18 rfl rfl)
theorem dX3_noGate_45 : decode cX3_noGate 45 = .ok (.iconst 3, 1) := dk_6 (dk_at dksX3_noGate_1 21 rfl rfl)
theorem dX3_noGate_46 : decode cX3_noGate 46 = .ok (.goto 4, 3) := dk_167 0 4 (dk_at dksX3_noGate_2 0 rfl rfl)
theorem dX3_noGate_49 : decode cX3_noGate 49 = .ok (.iconst 0, 1) := dk_3 (dk_at dksX3_noGate_2 3 rfl rfl)
theorem dX3_noGate_50 : decode cX3_noGate 50 = .ok (.ireturn, 1) := dk_172 (dk_at dksX3_noGate_2 4 rfl rfl)
abbrev cX3_isLine : ByteArray := prog_9_method_5_code
def yX3_isLine : MethodName := ⟨RX3, "isLine", "(I)Z"⟩
def dkwX3_isLine_0 : List UInt8 := [27, 3, 42, 182, 0, 54, 4, 100, 184, 0, 58, 172]
abbrev dktX3_isLine_0 : List UInt8 := dkwX3_isLine_0 ++ []
theorem dksX3_isLine_0 : cX3_isLine.data.toList.drop 0 = dktX3_isLine_0 := by decide +kernel
theorem dX3_isLine_0 : decode cX3_isLine 0 = .ok (.iload_n 1, 1) := dk_27 (dk_at dksX3_isLine_0 0 rfl rfl)
theorem dX3_isLine_1 : decode cX3_isLine 1 = .ok (.iconst 0, 1) := dk_3 (dk_at dksX3_isLine_0 1 rfl rfl)
theorem dX3_isLine_2 : decode cX3_isLine 2 = .ok (.aload_n 0, 1) := dk_42 (dk_at dksX3_isLine_0 2 rfl rfl)
theorem dX3_isLine_3 : decode cX3_isLine 3 = .ok (.invokevirtual 54, 3) := dk_182 0 54 (dk_at dksX3_isLine_0 3 rfl rfl)
theorem dX3_isLine_6 : decode cX3_isLine 6 = .ok (.iconst 1, 1) := dk_4 (dk_at dksX3_isLine_0 6 rfl rfl)
theorem dX3_isLine_7 : decode cX3_isLine 7 = .ok (.isub, 1) := dk_100 (dk_at dksX3_isLine_0 7 rfl rfl)
theorem dX3_isLine_8 : decode cX3_isLine 8 = .ok (.invokestatic 58, 3) := dk_184 0 58 (dk_at dksX3_isLine_0 8 rfl rfl)
theorem dX3_isLine_11 : decode cX3_isLine 11 = .ok (.ireturn, 1) := dk_172 (dk_at dksX3_isLine_0 11 rfl rfl)
abbrev cX3_lines : ByteArray := prog_9_method_4_code
def yX3_lines : MethodName := ⟨RX3, "lines", "()I"⟩
def dkwX3_lines_0 : List UInt8 := [16, 6, 42, 180, 0, 7, 3, 46, 96, 172]
abbrev dktX3_lines_0 : List UInt8 := dkwX3_lines_0 ++ []
theorem dksX3_lines_0 : cX3_lines.data.toList.drop 0 = dktX3_lines_0 := by decide +kernel
theorem dX3_lines_0 : decode cX3_lines 0 = .ok (.bipush 6, 2) := dk_16 6 (dk_at dksX3_lines_0 0 rfl rfl)
theorem dX3_lines_2 : decode cX3_lines 2 = .ok (.aload_n 0, 1) := dk_42 (dk_at dksX3_lines_0 2 rfl rfl)
theorem dX3_lines_3 : decode cX3_lines 3 = .ok (.getfield 7, 3) := dk_180 0 7 (dk_at dksX3_lines_0 3 rfl rfl)
theorem dX3_lines_6 : decode cX3_lines 6 = .ok (.iconst 0, 1) := dk_3 (dk_at dksX3_lines_0 6 rfl rfl)
theorem dX3_lines_7 : decode cX3_lines 7 = .ok (.iaload, 1) := dk_46 (dk_at dksX3_lines_0 7 rfl rfl)
theorem dX3_lines_8 : decode cX3_lines 8 = .ok (.iadd, 1) := dk_96 (dk_at dksX3_lines_0 8 rfl rfl)
theorem dX3_lines_9 : decode cX3_lines 9 = .ok (.ireturn, 1) := dk_172 (dk_at dksX3_lines_0 9 rfl rfl)
abbrev cX3_in : ByteArray := prog_9_method_3_code
def yX3_in : MethodName := ⟨RX3, "in", "(III)Z"⟩
def dkwX3_in_0 : List UInt8 := [26, 27, 161, 0, 12, 26, 28, 163, 0, 7, 4, 167, 0, 4, 3, 172]
abbrev dktX3_in_0 : List UInt8 := dkwX3_in_0 ++ []
theorem dksX3_in_0 : cX3_in.data.toList.drop 0 = dktX3_in_0 := by decide +kernel
theorem dX3_in_0 : decode cX3_in 0 = .ok (.iload_n 0, 1) := dk_26 (dk_at dksX3_in_0 0 rfl rfl)
theorem dX3_in_1 : decode cX3_in 1 = .ok (.iload_n 1, 1) := dk_27 (dk_at dksX3_in_0 1 rfl rfl)
theorem dX3_in_2 : decode cX3_in 2 = .ok (.if_icmp .lt 12, 3) := dk_161 0 12 (dk_at dksX3_in_0 2 rfl rfl)
theorem dX3_in_5 : decode cX3_in 5 = .ok (.iload_n 0, 1) := dk_26 (dk_at dksX3_in_0 5 rfl rfl)
theorem dX3_in_6 : decode cX3_in 6 = .ok (.iload_n 2, 1) := dk_28 (dk_at dksX3_in_0 6 rfl rfl)
theorem dX3_in_7 : decode cX3_in 7 = .ok (.if_icmp .gt 7, 3) := dk_163 0 7 (dk_at dksX3_in_0 7 rfl rfl)
theorem dX3_in_10 : decode cX3_in 10 = .ok (.iconst 1, 1) := dk_4 (dk_at dksX3_in_0 10 rfl rfl)
theorem dX3_in_11 : decode cX3_in 11 = .ok (.goto 4, 3) := dk_167 0 4 (dk_at dksX3_in_0 11 rfl rfl)
theorem dX3_in_14 : decode cX3_in 14 = .ok (.iconst 0, 1) := dk_3 (dk_at dksX3_in_0 14 rfl rfl)
theorem dX3_in_15 : decode cX3_in 15 = .ok (.ireturn, 1) := dk_172 (dk_at dksX3_in_0 15 rfl rfl)
abbrev cX3_adds : ByteArray := prog_9_method_27_code
def yX3_adds : MethodName := ⟨RX3, "adds", "(III)V"⟩
def dkwX3_adds_2 : List UInt8 := [96, 79, 42, 182, 0, 110, 177]
abbrev dktX3_adds_2 : List UInt8 := dkwX3_adds_2 ++ []
def dkwX3_adds_1 : List UInt8 := [21, 4, 96, 28, 79, 42, 180, 0, 7, 16, 25, 21, 4, 96, 29, 79, 42, 180, 0, 7, 3, 92, 46, 4]
abbrev dktX3_adds_1 : List UInt8 := dkwX3_adds_1 ++ dktX3_adds_2
def dkwX3_adds_0 : List UInt8 := [42, 180, 0, 7, 3, 46, 54, 4, 42, 180, 0, 7, 4, 21, 4, 96, 27, 79, 42, 180, 0, 7, 16, 13]
abbrev dktX3_adds_0 : List UInt8 := dkwX3_adds_0 ++ dktX3_adds_1
theorem dksX3_adds_0 : cX3_adds.data.toList.drop 0 = dktX3_adds_0 := by decide +kernel
theorem dksX3_adds_1 : cX3_adds.data.toList.drop 24 = dktX3_adds_1 := dk_seg dksX3_adds_0 24 rfl rfl
theorem dksX3_adds_2 : cX3_adds.data.toList.drop 48 = dktX3_adds_2 := dk_seg dksX3_adds_1 24 rfl rfl
theorem dX3_adds_0 : decode cX3_adds 0 = .ok (.aload_n 0, 1) := dk_42 (dk_at dksX3_adds_0 0 rfl rfl)
theorem dX3_adds_1 : decode cX3_adds 1 = .ok (.getfield 7, 3) := dk_180 0 7 (dk_at dksX3_adds_0 1 rfl rfl)
theorem dX3_adds_4 : decode cX3_adds 4 = .ok (.iconst 0, 1) := dk_3 (dk_at dksX3_adds_0 4 rfl rfl)
theorem dX3_adds_5 : decode cX3_adds 5 = .ok (.iaload, 1) := dk_46 (dk_at dksX3_adds_0 5 rfl rfl)
theorem dX3_adds_6 : decode cX3_adds 6 = .ok (.istore 4, 2) := dk_54 4 (dk_at dksX3_adds_0 6 rfl rfl)
theorem dX3_adds_8 : decode cX3_adds 8 = .ok (.aload_n 0, 1) := dk_42 (dk_at dksX3_adds_0 8 rfl rfl)
theorem dX3_adds_9 : decode cX3_adds 9 = .ok (.getfield 7, 3) := dk_180 0 7 (dk_at dksX3_adds_0 9 rfl rfl)
theorem dX3_adds_12 : decode cX3_adds 12 = .ok (.iconst 1, 1) := dk_4 (dk_at dksX3_adds_0 12 rfl rfl)
theorem dX3_adds_13 : decode cX3_adds 13 = .ok (.iload 4, 2) := dk_21 4 (dk_at dksX3_adds_0 13 rfl rfl)
theorem dX3_adds_15 : decode cX3_adds 15 = .ok (.iadd, 1) := dk_96 (dk_at dksX3_adds_0 15 rfl rfl)
theorem dX3_adds_16 : decode cX3_adds 16 = .ok (.iload_n 1, 1) := dk_27 (dk_at dksX3_adds_0 16 rfl rfl)
theorem dX3_adds_17 : decode cX3_adds 17 = .ok (.iastore, 1) := dk_79 (dk_at dksX3_adds_0 17 rfl rfl)
theorem dX3_adds_18 : decode cX3_adds 18 = .ok (.aload_n 0, 1) := dk_42 (dk_at dksX3_adds_0 18 rfl rfl)
theorem dX3_adds_19 : decode cX3_adds 19 = .ok (.getfield 7, 3) := dk_180 0 7 (dk_at dksX3_adds_0 19 rfl rfl)
theorem dX3_adds_22 : decode cX3_adds 22 = .ok (.bipush 13, 2) := dk_16 13 (dk_at dksX3_adds_0 22 rfl rfl)
theorem dX3_adds_24 : decode cX3_adds 24 = .ok (.iload 4, 2) := dk_21 4 (dk_at dksX3_adds_1 0 rfl rfl)
theorem dX3_adds_26 : decode cX3_adds 26 = .ok (.iadd, 1) := dk_96 (dk_at dksX3_adds_1 2 rfl rfl)
theorem dX3_adds_27 : decode cX3_adds 27 = .ok (.iload_n 2, 1) := dk_28 (dk_at dksX3_adds_1 3 rfl rfl)
theorem dX3_adds_28 : decode cX3_adds 28 = .ok (.iastore, 1) := dk_79 (dk_at dksX3_adds_1 4 rfl rfl)
theorem dX3_adds_29 : decode cX3_adds 29 = .ok (.aload_n 0, 1) := dk_42 (dk_at dksX3_adds_1 5 rfl rfl)
theorem dX3_adds_30 : decode cX3_adds 30 = .ok (.getfield 7, 3) := dk_180 0 7 (dk_at dksX3_adds_1 6 rfl rfl)
theorem dX3_adds_33 : decode cX3_adds 33 = .ok (.bipush 25, 2) := dk_16 25 (dk_at dksX3_adds_1 9 rfl rfl)
theorem dX3_adds_35 : decode cX3_adds 35 = .ok (.iload 4, 2) := dk_21 4 (dk_at dksX3_adds_1 11 rfl rfl)
theorem dX3_adds_37 : decode cX3_adds 37 = .ok (.iadd, 1) := dk_96 (dk_at dksX3_adds_1 13 rfl rfl)
theorem dX3_adds_38 : decode cX3_adds 38 = .ok (.iload_n 3, 1) := dk_29 (dk_at dksX3_adds_1 14 rfl rfl)
theorem dX3_adds_39 : decode cX3_adds 39 = .ok (.iastore, 1) := dk_79 (dk_at dksX3_adds_1 15 rfl rfl)
theorem dX3_adds_40 : decode cX3_adds 40 = .ok (.aload_n 0, 1) := dk_42 (dk_at dksX3_adds_1 16 rfl rfl)
theorem dX3_adds_41 : decode cX3_adds 41 = .ok (.getfield 7, 3) := dk_180 0 7 (dk_at dksX3_adds_1 17 rfl rfl)
theorem dX3_adds_44 : decode cX3_adds 44 = .ok (.iconst 0, 1) := dk_3 (dk_at dksX3_adds_1 20 rfl rfl)
theorem dX3_adds_45 : decode cX3_adds 45 = .ok (.dup2, 1) := dk_92 (dk_at dksX3_adds_1 21 rfl rfl)
theorem dX3_adds_46 : decode cX3_adds 46 = .ok (.iaload, 1) := dk_46 (dk_at dksX3_adds_1 22 rfl rfl)
theorem dX3_adds_47 : decode cX3_adds 47 = .ok (.iconst 1, 1) := dk_4 (dk_at dksX3_adds_1 23 rfl rfl)
theorem dX3_adds_48 : decode cX3_adds 48 = .ok (.iadd, 1) := dk_96 (dk_at dksX3_adds_2 0 rfl rfl)
theorem dX3_adds_49 : decode cX3_adds 49 = .ok (.iastore, 1) := dk_79 (dk_at dksX3_adds_2 1 rfl rfl)
theorem dX3_adds_50 : decode cX3_adds 50 = .ok (.aload_n 0, 1) := dk_42 (dk_at dksX3_adds_2 2 rfl rfl)
theorem dX3_adds_51 : decode cX3_adds 51 = .ok (.invokevirtual 110, 3) := dk_182 0 110 (dk_at dksX3_adds_2 3 rfl rfl)
theorem dX3_adds_54 : decode cX3_adds 54 = .ok (.return_, 1) := dk_177 (dk_at dksX3_adds_2 6 rfl rfl)
abbrev cX3_changed : ByteArray := prog_9_method_25_code
def yX3_changed : MethodName := ⟨RX3, "changed", "()V"⟩
def dkwX3_changed_2 : List UInt8 := [167, 0, 4, 2, 79, 177]
abbrev dktX3_changed_2 : List UInt8 := dkwX3_changed_2 ++ []
def dkwX3_changed_1 : List UInt8 := [16, 39, 42, 42, 180, 0, 7, 16, 39, 46, 182, 0, 103, 153, 0, 13, 42, 180, 0, 7, 16, 39, 46]
abbrev dktX3_changed_1 : List UInt8 := dkwX3_changed_1 ++ dktX3_changed_2
def dkwX3_changed_0 : List UInt8 := [42, 182, 0, 100, 42, 180, 0, 7, 16, 66, 3, 79, 42, 180, 0, 7, 16, 67, 3, 79, 42, 180, 0, 7]
abbrev dktX3_changed_0 : List UInt8 := dkwX3_changed_0 ++ dktX3_changed_1
theorem dksX3_changed_0 : cX3_changed.data.toList.drop 0 = dktX3_changed_0 := by decide +kernel
theorem dksX3_changed_1 : cX3_changed.data.toList.drop 24 = dktX3_changed_1 := dk_seg dksX3_changed_0 24 rfl rfl
theorem dksX3_changed_2 : cX3_changed.data.toList.drop 47 = dktX3_changed_2 := dk_seg dksX3_changed_1 23 rfl rfl
theorem dX3_changed_0 : decode cX3_changed 0 = .ok (.aload_n 0, 1) := dk_42 (dk_at dksX3_changed_0 0 rfl rfl)
theorem dX3_changed_1 : decode cX3_changed 1 = .ok (.invokevirtual 100, 3) := dk_182 0 100 (dk_at dksX3_changed_0 1 rfl rfl)
theorem dX3_changed_4 : decode cX3_changed 4 = .ok (.aload_n 0, 1) := dk_42 (dk_at dksX3_changed_0 4 rfl rfl)
theorem dX3_changed_5 : decode cX3_changed 5 = .ok (.getfield 7, 3) := dk_180 0 7 (dk_at dksX3_changed_0 5 rfl rfl)
theorem dX3_changed_8 : decode cX3_changed 8 = .ok (.bipush 66, 2) := dk_16 66 (dk_at dksX3_changed_0 8 rfl rfl)
theorem dX3_changed_10 : decode cX3_changed 10 = .ok (.iconst 0, 1) := dk_3 (dk_at dksX3_changed_0 10 rfl rfl)
theorem dX3_changed_11 : decode cX3_changed 11 = .ok (.iastore, 1) := dk_79 (dk_at dksX3_changed_0 11 rfl rfl)
theorem dX3_changed_12 : decode cX3_changed 12 = .ok (.aload_n 0, 1) := dk_42 (dk_at dksX3_changed_0 12 rfl rfl)
theorem dX3_changed_13 : decode cX3_changed 13 = .ok (.getfield 7, 3) := dk_180 0 7 (dk_at dksX3_changed_0 13 rfl rfl)
theorem dX3_changed_16 : decode cX3_changed 16 = .ok (.bipush 67, 2) := dk_16 67 (dk_at dksX3_changed_0 16 rfl rfl)
theorem dX3_changed_18 : decode cX3_changed 18 = .ok (.iconst 0, 1) := dk_3 (dk_at dksX3_changed_0 18 rfl rfl)
theorem dX3_changed_19 : decode cX3_changed 19 = .ok (.iastore, 1) := dk_79 (dk_at dksX3_changed_0 19 rfl rfl)
theorem dX3_changed_20 : decode cX3_changed 20 = .ok (.aload_n 0, 1) := dk_42 (dk_at dksX3_changed_0 20 rfl rfl)
theorem dX3_changed_21 : decode cX3_changed 21 = .ok (.getfield 7, 3) := dk_180 0 7 (dk_at dksX3_changed_0 21 rfl rfl)
theorem dX3_changed_24 : decode cX3_changed 24 = .ok (.bipush 39, 2) := dk_16 39 (dk_at dksX3_changed_1 0 rfl rfl)
theorem dX3_changed_26 : decode cX3_changed 26 = .ok (.aload_n 0, 1) := dk_42 (dk_at dksX3_changed_1 2 rfl rfl)
theorem dX3_changed_27 : decode cX3_changed 27 = .ok (.aload_n 0, 1) := dk_42 (dk_at dksX3_changed_1 3 rfl rfl)
theorem dX3_changed_28 : decode cX3_changed 28 = .ok (.getfield 7, 3) := dk_180 0 7 (dk_at dksX3_changed_1 4 rfl rfl)
theorem dX3_changed_31 : decode cX3_changed 31 = .ok (.bipush 39, 2) := dk_16 39 (dk_at dksX3_changed_1 7 rfl rfl)
theorem dX3_changed_33 : decode cX3_changed 33 = .ok (.iaload, 1) := dk_46 (dk_at dksX3_changed_1 9 rfl rfl)
theorem dX3_changed_34 : decode cX3_changed 34 = .ok (.invokevirtual 103, 3) := dk_182 0 103 (dk_at dksX3_changed_1 10 rfl rfl)
theorem dX3_changed_37 : decode cX3_changed 37 = .ok (.ifCond .eq 13, 3) := dk_153 0 13 (dk_at dksX3_changed_1 13 rfl rfl)
theorem dX3_changed_40 : decode cX3_changed 40 = .ok (.aload_n 0, 1) := dk_42 (dk_at dksX3_changed_1 16 rfl rfl)
theorem dX3_changed_41 : decode cX3_changed 41 = .ok (.getfield 7, 3) := dk_180 0 7 (dk_at dksX3_changed_1 17 rfl rfl)
theorem dX3_changed_44 : decode cX3_changed 44 = .ok (.bipush 39, 2) := dk_16 39 (dk_at dksX3_changed_1 20 rfl rfl)
theorem dX3_changed_46 : decode cX3_changed 46 = .ok (.iaload, 1) := dk_46 (dk_at dksX3_changed_1 22 rfl rfl)
theorem dX3_changed_47 : decode cX3_changed 47 = .ok (.goto 4, 3) := dk_167 0 4 (dk_at dksX3_changed_2 0 rfl rfl)
theorem dX3_changed_50 : decode cX3_changed 50 = .ok (.iconst (-1), 1) := dk_2 (dk_at dksX3_changed_2 3 rfl rfl)
theorem dX3_changed_51 : decode cX3_changed 51 = .ok (.iastore, 1) := dk_79 (dk_at dksX3_changed_2 4 rfl rfl)
theorem dX3_changed_52 : decode cX3_changed 52 = .ok (.return_, 1) := dk_177 (dk_at dksX3_changed_2 5 rfl rfl)
abbrev cX3_forget : ByteArray := prog_9_method_24_code
def yX3_forget : MethodName := ⟨RX3, "forget", "()V"⟩
def dkwX3_forget_1 : List UInt8 := [3, 79, 42, 180, 0, 7, 16, 54, 27, 96, 3, 79, 132, 1, 1, 167, 255, 227, 177]
abbrev dktX3_forget_1 : List UInt8 := dkwX3_forget_1 ++ []
def dkwX3_forget_0 : List UInt8 := [42, 180, 0, 7, 16, 41, 3, 79, 3, 60, 27, 16, 12, 162, 0, 29, 42, 180, 0, 7, 16, 42, 27, 96]
abbrev dktX3_forget_0 : List UInt8 := dkwX3_forget_0 ++ dktX3_forget_1
theorem dksX3_forget_0 : cX3_forget.data.toList.drop 0 = dktX3_forget_0 := by decide +kernel
theorem dksX3_forget_1 : cX3_forget.data.toList.drop 24 = dktX3_forget_1 := dk_seg dksX3_forget_0 24 rfl rfl
theorem dX3_forget_0 : decode cX3_forget 0 = .ok (.aload_n 0, 1) := dk_42 (dk_at dksX3_forget_0 0 rfl rfl)
theorem dX3_forget_1 : decode cX3_forget 1 = .ok (.getfield 7, 3) := dk_180 0 7 (dk_at dksX3_forget_0 1 rfl rfl)
theorem dX3_forget_4 : decode cX3_forget 4 = .ok (.bipush 41, 2) := dk_16 41 (dk_at dksX3_forget_0 4 rfl rfl)
theorem dX3_forget_6 : decode cX3_forget 6 = .ok (.iconst 0, 1) := dk_3 (dk_at dksX3_forget_0 6 rfl rfl)
theorem dX3_forget_7 : decode cX3_forget 7 = .ok (.iastore, 1) := dk_79 (dk_at dksX3_forget_0 7 rfl rfl)
theorem dX3_forget_8 : decode cX3_forget 8 = .ok (.iconst 0, 1) := dk_3 (dk_at dksX3_forget_0 8 rfl rfl)
theorem dX3_forget_9 : decode cX3_forget 9 = .ok (.istore_n 1, 1) := dk_60 (dk_at dksX3_forget_0 9 rfl rfl)
theorem dX3_forget_10 : decode cX3_forget 10 = .ok (.iload_n 1, 1) := dk_27 (dk_at dksX3_forget_0 10 rfl rfl)
theorem dX3_forget_11 : decode cX3_forget 11 = .ok (.bipush 12, 2) := dk_16 12 (dk_at dksX3_forget_0 11 rfl rfl)
theorem dX3_forget_13 : decode cX3_forget 13 = .ok (.if_icmp .ge 29, 3) := dk_162 0 29 (dk_at dksX3_forget_0 13 rfl rfl)
theorem dX3_forget_16 : decode cX3_forget 16 = .ok (.aload_n 0, 1) := dk_42 (dk_at dksX3_forget_0 16 rfl rfl)
theorem dX3_forget_17 : decode cX3_forget 17 = .ok (.getfield 7, 3) := dk_180 0 7 (dk_at dksX3_forget_0 17 rfl rfl)
theorem dX3_forget_20 : decode cX3_forget 20 = .ok (.bipush 42, 2) := dk_16 42 (dk_at dksX3_forget_0 20 rfl rfl)
theorem dX3_forget_22 : decode cX3_forget 22 = .ok (.iload_n 1, 1) := dk_27 (dk_at dksX3_forget_0 22 rfl rfl)
theorem dX3_forget_23 : decode cX3_forget 23 = .ok (.iadd, 1) := dk_96 (dk_at dksX3_forget_0 23 rfl rfl)
theorem dX3_forget_24 : decode cX3_forget 24 = .ok (.iconst 0, 1) := dk_3 (dk_at dksX3_forget_1 0 rfl rfl)
theorem dX3_forget_25 : decode cX3_forget 25 = .ok (.iastore, 1) := dk_79 (dk_at dksX3_forget_1 1 rfl rfl)
theorem dX3_forget_26 : decode cX3_forget 26 = .ok (.aload_n 0, 1) := dk_42 (dk_at dksX3_forget_1 2 rfl rfl)
theorem dX3_forget_27 : decode cX3_forget 27 = .ok (.getfield 7, 3) := dk_180 0 7 (dk_at dksX3_forget_1 3 rfl rfl)
theorem dX3_forget_30 : decode cX3_forget 30 = .ok (.bipush 54, 2) := dk_16 54 (dk_at dksX3_forget_1 6 rfl rfl)
theorem dX3_forget_32 : decode cX3_forget 32 = .ok (.iload_n 1, 1) := dk_27 (dk_at dksX3_forget_1 8 rfl rfl)
theorem dX3_forget_33 : decode cX3_forget 33 = .ok (.iadd, 1) := dk_96 (dk_at dksX3_forget_1 9 rfl rfl)
theorem dX3_forget_34 : decode cX3_forget 34 = .ok (.iconst 0, 1) := dk_3 (dk_at dksX3_forget_1 10 rfl rfl)
theorem dX3_forget_35 : decode cX3_forget 35 = .ok (.iastore, 1) := dk_79 (dk_at dksX3_forget_1 11 rfl rfl)
theorem dX3_forget_36 : decode cX3_forget 36 = .ok (.iinc 1 1, 3) := dk_132 1 1 (dk_at dksX3_forget_1 12 rfl rfl)
theorem dX3_forget_39 : decode cX3_forget 39 = .ok (.goto (-29), 3) := dk_167 255 227 (dk_at dksX3_forget_1 15 rfl rfl)
theorem dX3_forget_42 : decode cX3_forget 42 = .ok (.return_, 1) := dk_177 (dk_at dksX3_forget_1 18 rfl rfl)
abbrev cX3_isFault : ByteArray := prog_9_method_7_code
def yX3_isFault : MethodName := ⟨RX3, "isFault", "(I)Z"⟩
def dkwX3_isFault_0 : List UInt8 := [27, 3, 5, 42, 182, 0, 54, 104, 4, 100, 184, 0, 58, 172]
abbrev dktX3_isFault_0 : List UInt8 := dkwX3_isFault_0 ++ []
theorem dksX3_isFault_0 : cX3_isFault.data.toList.drop 0 = dktX3_isFault_0 := by decide +kernel
theorem dX3_isFault_0 : decode cX3_isFault 0 = .ok (.iload_n 1, 1) := dk_27 (dk_at dksX3_isFault_0 0 rfl rfl)
theorem dX3_isFault_1 : decode cX3_isFault 1 = .ok (.iconst 0, 1) := dk_3 (dk_at dksX3_isFault_0 1 rfl rfl)
theorem dX3_isFault_2 : decode cX3_isFault 2 = .ok (.iconst 2, 1) := dk_5 (dk_at dksX3_isFault_0 2 rfl rfl)
theorem dX3_isFault_3 : decode cX3_isFault 3 = .ok (.aload_n 0, 1) := dk_42 (dk_at dksX3_isFault_0 3 rfl rfl)
theorem dX3_isFault_4 : decode cX3_isFault 4 = .ok (.invokevirtual 54, 3) := dk_182 0 54 (dk_at dksX3_isFault_0 4 rfl rfl)
theorem dX3_isFault_7 : decode cX3_isFault 7 = .ok (.imul, 1) := dk_104 (dk_at dksX3_isFault_0 7 rfl rfl)
theorem dX3_isFault_8 : decode cX3_isFault 8 = .ok (.iconst 1, 1) := dk_4 (dk_at dksX3_isFault_0 8 rfl rfl)
theorem dX3_isFault_9 : decode cX3_isFault 9 = .ok (.isub, 1) := dk_100 (dk_at dksX3_isFault_0 9 rfl rfl)
theorem dX3_isFault_10 : decode cX3_isFault 10 = .ok (.invokestatic 58, 3) := dk_184 0 58 (dk_at dksX3_isFault_0 10 rfl rfl)
theorem dX3_isFault_13 : decode cX3_isFault 13 = .ok (.ireturn, 1) := dk_172 (dk_at dksX3_isFault_0 13 rfl rfl)
abbrev cX3_dropGate : ByteArray := prog_9_method_29_code
def yX3_dropGate : MethodName := ⟨RX3, "dropGate", "()I"⟩
def dkwX3_dropGate_3 : List UInt8 := [180, 0, 7, 3, 46, 120, 2, 130, 126, 79, 42, 182, 0, 110, 42, 180, 0, 7, 3, 46, 172]
abbrev dktX3_dropGate_3 : List UInt8 := dkwX3_dropGate_3 ++ []
def dkwX3_dropGate_2 : List UInt8 := [16, 37, 92, 46, 4, 42, 182, 0, 54, 120, 2, 130, 126, 79, 42, 180, 0, 7, 16, 38, 92, 46, 4, 42]
abbrev dktX3_dropGate_2 : List UInt8 := dkwX3_dropGate_2 ++ dktX3_dropGate_3
def dkwX3_dropGate_1 : List UInt8 := [158, 0, 5, 3, 172, 42, 182, 0, 69, 42, 180, 0, 7, 3, 92, 46, 4, 100, 79, 42, 180, 0, 7]
abbrev dktX3_dropGate_1 : List UInt8 := dkwX3_dropGate_1 ++ dktX3_dropGate_2
def dkwX3_dropGate_0 : List UInt8 := [42, 42, 180, 0, 7, 3, 46, 154, 0, 7, 4, 167, 0, 4, 3, 181, 0, 50, 42, 180, 0, 50]
abbrev dktX3_dropGate_0 : List UInt8 := dkwX3_dropGate_0 ++ dktX3_dropGate_1
theorem dksX3_dropGate_0 : cX3_dropGate.data.toList.drop 0 = dktX3_dropGate_0 := by decide +kernel
theorem dksX3_dropGate_1 : cX3_dropGate.data.toList.drop 22 = dktX3_dropGate_1 := dk_seg dksX3_dropGate_0 22 rfl rfl
theorem dksX3_dropGate_2 : cX3_dropGate.data.toList.drop 45 = dktX3_dropGate_2 := dk_seg dksX3_dropGate_1 23 rfl rfl
theorem dksX3_dropGate_3 : cX3_dropGate.data.toList.drop 69 = dktX3_dropGate_3 := dk_seg dksX3_dropGate_2 24 rfl rfl
theorem dX3_dropGate_0 : decode cX3_dropGate 0 = .ok (.aload_n 0, 1) := dk_42 (dk_at dksX3_dropGate_0 0 rfl rfl)
theorem dX3_dropGate_1 : decode cX3_dropGate 1 = .ok (.aload_n 0, 1) := dk_42 (dk_at dksX3_dropGate_0 1 rfl rfl)
theorem dX3_dropGate_2 : decode cX3_dropGate 2 = .ok (.getfield 7, 3) := dk_180 0 7 (dk_at dksX3_dropGate_0 2 rfl rfl)
theorem dX3_dropGate_5 : decode cX3_dropGate 5 = .ok (.iconst 0, 1) := dk_3 (dk_at dksX3_dropGate_0 5 rfl rfl)
theorem dX3_dropGate_6 : decode cX3_dropGate 6 = .ok (.iaload, 1) := dk_46 (dk_at dksX3_dropGate_0 6 rfl rfl)
theorem dX3_dropGate_7 : decode cX3_dropGate 7 = .ok (.ifCond .ne 7, 3) := dk_154 0 7 (dk_at dksX3_dropGate_0 7 rfl rfl)
theorem dX3_dropGate_10 : decode cX3_dropGate 10 = .ok (.iconst 1, 1) := dk_4 (dk_at dksX3_dropGate_0 10 rfl rfl)
theorem dX3_dropGate_11 : decode cX3_dropGate 11 = .ok (.goto 4, 3) := dk_167 0 4 (dk_at dksX3_dropGate_0 11 rfl rfl)
theorem dX3_dropGate_14 : decode cX3_dropGate 14 = .ok (.iconst 0, 1) := dk_3 (dk_at dksX3_dropGate_0 14 rfl rfl)
theorem dX3_dropGate_15 : decode cX3_dropGate 15 = .ok (.putfield 50, 3) := dk_181 0 50 (dk_at dksX3_dropGate_0 15 rfl rfl)
theorem dX3_dropGate_18 : decode cX3_dropGate 18 = .ok (.aload_n 0, 1) := dk_42 (dk_at dksX3_dropGate_0 18 rfl rfl)
theorem dX3_dropGate_19 : decode cX3_dropGate 19 = .ok (.getfield 50, 3) := dk_180 0 50 (dk_at dksX3_dropGate_0 19 rfl rfl)
theorem dX3_dropGate_22 : decode cX3_dropGate 22 = .ok (.ifCond .le 5, 3) := dk_158 0 5 (dk_at dksX3_dropGate_1 0 rfl rfl)
theorem dX3_dropGate_25 : decode cX3_dropGate 25 = .ok (.iconst 0, 1) := dk_3 (dk_at dksX3_dropGate_1 3 rfl rfl)
theorem dX3_dropGate_26 : decode cX3_dropGate 26 = .ok (.ireturn, 1) := dk_172 (dk_at dksX3_dropGate_1 4 rfl rfl)
theorem dX3_dropGate_27 : decode cX3_dropGate 27 = .ok (.aload_n 0, 1) := dk_42 (dk_at dksX3_dropGate_1 5 rfl rfl)
theorem dX3_dropGate_28 : decode cX3_dropGate 28 = .ok (.invokevirtual 69, 3) := dk_182 0 69 (dk_at dksX3_dropGate_1 6 rfl rfl)
theorem dX3_dropGate_31 : decode cX3_dropGate 31 = .ok (.aload_n 0, 1) := dk_42 (dk_at dksX3_dropGate_1 9 rfl rfl)
theorem dX3_dropGate_32 : decode cX3_dropGate 32 = .ok (.getfield 7, 3) := dk_180 0 7 (dk_at dksX3_dropGate_1 10 rfl rfl)
theorem dX3_dropGate_35 : decode cX3_dropGate 35 = .ok (.iconst 0, 1) := dk_3 (dk_at dksX3_dropGate_1 13 rfl rfl)
theorem dX3_dropGate_36 : decode cX3_dropGate 36 = .ok (.dup2, 1) := dk_92 (dk_at dksX3_dropGate_1 14 rfl rfl)
theorem dX3_dropGate_37 : decode cX3_dropGate 37 = .ok (.iaload, 1) := dk_46 (dk_at dksX3_dropGate_1 15 rfl rfl)
theorem dX3_dropGate_38 : decode cX3_dropGate 38 = .ok (.iconst 1, 1) := dk_4 (dk_at dksX3_dropGate_1 16 rfl rfl)
theorem dX3_dropGate_39 : decode cX3_dropGate 39 = .ok (.isub, 1) := dk_100 (dk_at dksX3_dropGate_1 17 rfl rfl)
theorem dX3_dropGate_40 : decode cX3_dropGate 40 = .ok (.iastore, 1) := dk_79 (dk_at dksX3_dropGate_1 18 rfl rfl)
theorem dX3_dropGate_41 : decode cX3_dropGate 41 = .ok (.aload_n 0, 1) := dk_42 (dk_at dksX3_dropGate_1 19 rfl rfl)
theorem dX3_dropGate_42 : decode cX3_dropGate 42 = .ok (.getfield 7, 3) := dk_180 0 7 (dk_at dksX3_dropGate_1 20 rfl rfl)
theorem dX3_dropGate_45 : decode cX3_dropGate 45 = .ok (.bipush 37, 2) := dk_16 37 (dk_at dksX3_dropGate_2 0 rfl rfl)
theorem dX3_dropGate_47 : decode cX3_dropGate 47 = .ok (.dup2, 1) := dk_92 (dk_at dksX3_dropGate_2 2 rfl rfl)
theorem dX3_dropGate_48 : decode cX3_dropGate 48 = .ok (.iaload, 1) := dk_46 (dk_at dksX3_dropGate_2 3 rfl rfl)
theorem dX3_dropGate_49 : decode cX3_dropGate 49 = .ok (.iconst 1, 1) := dk_4 (dk_at dksX3_dropGate_2 4 rfl rfl)
theorem dX3_dropGate_50 : decode cX3_dropGate 50 = .ok (.aload_n 0, 1) := dk_42 (dk_at dksX3_dropGate_2 5 rfl rfl)
theorem dX3_dropGate_51 : decode cX3_dropGate 51 = .ok (.invokevirtual 54, 3) := dk_182 0 54 (dk_at dksX3_dropGate_2 6 rfl rfl)
theorem dX3_dropGate_54 : decode cX3_dropGate 54 = .ok (.ishl, 1) := dk_120 (dk_at dksX3_dropGate_2 9 rfl rfl)
theorem dX3_dropGate_55 : decode cX3_dropGate 55 = .ok (.iconst (-1), 1) := dk_2 (dk_at dksX3_dropGate_2 10 rfl rfl)
theorem dX3_dropGate_56 : decode cX3_dropGate 56 = .ok (.ixor, 1) := dk_130 (dk_at dksX3_dropGate_2 11 rfl rfl)
theorem dX3_dropGate_57 : decode cX3_dropGate 57 = .ok (.iand, 1) := dk_126 (dk_at dksX3_dropGate_2 12 rfl rfl)
theorem dX3_dropGate_58 : decode cX3_dropGate 58 = .ok (.iastore, 1) := dk_79 (dk_at dksX3_dropGate_2 13 rfl rfl)
theorem dX3_dropGate_59 : decode cX3_dropGate 59 = .ok (.aload_n 0, 1) := dk_42 (dk_at dksX3_dropGate_2 14 rfl rfl)
theorem dX3_dropGate_60 : decode cX3_dropGate 60 = .ok (.getfield 7, 3) := dk_180 0 7 (dk_at dksX3_dropGate_2 15 rfl rfl)
theorem dX3_dropGate_63 : decode cX3_dropGate 63 = .ok (.bipush 38, 2) := dk_16 38 (dk_at dksX3_dropGate_2 18 rfl rfl)
theorem dX3_dropGate_65 : decode cX3_dropGate 65 = .ok (.dup2, 1) := dk_92 (dk_at dksX3_dropGate_2 20 rfl rfl)
theorem dX3_dropGate_66 : decode cX3_dropGate 66 = .ok (.iaload, 1) := dk_46 (dk_at dksX3_dropGate_2 21 rfl rfl)
theorem dX3_dropGate_67 : decode cX3_dropGate 67 = .ok (.iconst 1, 1) := dk_4 (dk_at dksX3_dropGate_2 22 rfl rfl)
theorem dX3_dropGate_68 : decode cX3_dropGate 68 = .ok (.aload_n 0, 1) := dk_42 (dk_at dksX3_dropGate_2 23 rfl rfl)
theorem dX3_dropGate_69 : decode cX3_dropGate 69 = .ok (.getfield 7, 3) := dk_180 0 7 (dk_at dksX3_dropGate_3 0 rfl rfl)
theorem dX3_dropGate_72 : decode cX3_dropGate 72 = .ok (.iconst 0, 1) := dk_3 (dk_at dksX3_dropGate_3 3 rfl rfl)
theorem dX3_dropGate_73 : decode cX3_dropGate 73 = .ok (.iaload, 1) := dk_46 (dk_at dksX3_dropGate_3 4 rfl rfl)
theorem dX3_dropGate_74 : decode cX3_dropGate 74 = .ok (.ishl, 1) := dk_120 (dk_at dksX3_dropGate_3 5 rfl rfl)
theorem dX3_dropGate_75 : decode cX3_dropGate 75 = .ok (.iconst (-1), 1) := dk_2 (dk_at dksX3_dropGate_3 6 rfl rfl)
theorem dX3_dropGate_76 : decode cX3_dropGate 76 = .ok (.ixor, 1) := dk_130 (dk_at dksX3_dropGate_3 7 rfl rfl)
theorem dX3_dropGate_77 : decode cX3_dropGate 77 = .ok (.iand, 1) := dk_126 (dk_at dksX3_dropGate_3 8 rfl rfl)
theorem dX3_dropGate_78 : decode cX3_dropGate 78 = .ok (.iastore, 1) := dk_79 (dk_at dksX3_dropGate_3 9 rfl rfl)
theorem dX3_dropGate_79 : decode cX3_dropGate 79 = .ok (.aload_n 0, 1) := dk_42 (dk_at dksX3_dropGate_3 10 rfl rfl)
theorem dX3_dropGate_80 : decode cX3_dropGate 80 = .ok (.invokevirtual 110, 3) := dk_182 0 110 (dk_at dksX3_dropGate_3 11 rfl rfl)
theorem dX3_dropGate_83 : decode cX3_dropGate 83 = .ok (.aload_n 0, 1) := dk_42 (dk_at dksX3_dropGate_3 14 rfl rfl)
theorem dX3_dropGate_84 : decode cX3_dropGate 84 = .ok (.getfield 7, 3) := dk_180 0 7 (dk_at dksX3_dropGate_3 15 rfl rfl)
theorem dX3_dropGate_87 : decode cX3_dropGate 87 = .ok (.iconst 0, 1) := dk_3 (dk_at dksX3_dropGate_3 18 rfl rfl)
theorem dX3_dropGate_88 : decode cX3_dropGate 88 = .ok (.iaload, 1) := dk_46 (dk_at dksX3_dropGate_3 19 rfl rfl)
theorem dX3_dropGate_89 : decode cX3_dropGate 89 = .ok (.ireturn, 1) := dk_172 (dk_at dksX3_dropGate_3 20 rfl rfl)
abbrev cX3_setKind : ByteArray := prog_9_method_30_code
def yX3_setKind : MethodName := ⟨RX3, "setKind", "(II)I"⟩
def dkwX3_setKind_3 : List UInt8 := [4, 27, 96, 46, 62, 42, 180, 0, 7, 4, 27, 96, 28, 79, 42, 182, 0, 110, 29, 172]
abbrev dktX3_setKind_3 : List UInt8 := dkwX3_setKind_3 ++ []
def dkwX3_setKind_2 : List UInt8 := [167, 0, 4, 3, 181, 0, 50, 42, 180, 0, 50, 158, 0, 5, 3, 172, 42, 182, 0, 69, 42, 180, 0, 7]
abbrev dktX3_setKind_2 : List UInt8 := dkwX3_setKind_2 ++ dktX3_setKind_3
def dkwX3_setKind_1 : List UInt8 := [167, 0, 27, 42, 180, 0, 7, 16, 38, 46, 27, 184, 0, 82, 153, 0, 12, 28, 8, 164, 0, 7, 6]
abbrev dktX3_setKind_1 : List UInt8 := dkwX3_setKind_1 ++ dktX3_setKind_2
def dkwX3_setKind_0 : List UInt8 := [42, 42, 27, 182, 0, 121, 154, 0, 7, 4, 167, 0, 41, 28, 3, 16, 7, 184, 0, 58, 154, 0, 7, 5]
abbrev dktX3_setKind_0 : List UInt8 := dkwX3_setKind_0 ++ dktX3_setKind_1
theorem dksX3_setKind_0 : cX3_setKind.data.toList.drop 0 = dktX3_setKind_0 := by decide +kernel
theorem dksX3_setKind_1 : cX3_setKind.data.toList.drop 24 = dktX3_setKind_1 := dk_seg dksX3_setKind_0 24 rfl rfl
theorem dksX3_setKind_2 : cX3_setKind.data.toList.drop 47 = dktX3_setKind_2 := dk_seg dksX3_setKind_1 23 rfl rfl
theorem dksX3_setKind_3 : cX3_setKind.data.toList.drop 71 = dktX3_setKind_3 := dk_seg dksX3_setKind_2 24 rfl rfl
theorem dX3_setKind_0 : decode cX3_setKind 0 = .ok (.aload_n 0, 1) := dk_42 (dk_at dksX3_setKind_0 0 rfl rfl)
theorem dX3_setKind_1 : decode cX3_setKind 1 = .ok (.aload_n 0, 1) := dk_42 (dk_at dksX3_setKind_0 1 rfl rfl)
theorem dX3_setKind_2 : decode cX3_setKind 2 = .ok (.iload_n 1, 1) := dk_27 (dk_at dksX3_setKind_0 2 rfl rfl)
theorem dX3_setKind_3 : decode cX3_setKind 3 = .ok (.invokevirtual 121, 3) := dk_182 0 121 (dk_at dksX3_setKind_0 3 rfl rfl)
theorem dX3_setKind_6 : decode cX3_setKind 6 = .ok (.ifCond .ne 7, 3) := dk_154 0 7 (dk_at dksX3_setKind_0 6 rfl rfl)
theorem dX3_setKind_9 : decode cX3_setKind 9 = .ok (.iconst 1, 1) := dk_4 (dk_at dksX3_setKind_0 9 rfl rfl)
theorem dX3_setKind_10 : decode cX3_setKind 10 = .ok (.goto 41, 3) := dk_167 0 41 (dk_at dksX3_setKind_0 10 rfl rfl)
theorem dX3_setKind_13 : decode cX3_setKind 13 = .ok (.iload_n 2, 1) := dk_28 (dk_at dksX3_setKind_0 13 rfl rfl)
theorem dX3_setKind_14 : decode cX3_setKind 14 = .ok (.iconst 0, 1) := dk_3 (dk_at dksX3_setKind_0 14 rfl rfl)
theorem dX3_setKind_15 : decode cX3_setKind 15 = .ok (.bipush 7, 2) := dk_16 7 (dk_at dksX3_setKind_0 15 rfl rfl)
theorem dX3_setKind_17 : decode cX3_setKind 17 = .ok (.invokestatic 58, 3) := dk_184 0 58 (dk_at dksX3_setKind_0 17 rfl rfl)
theorem dX3_setKind_20 : decode cX3_setKind 20 = .ok (.ifCond .ne 7, 3) := dk_154 0 7 (dk_at dksX3_setKind_0 20 rfl rfl)
theorem dX3_setKind_23 : decode cX3_setKind 23 = .ok (.iconst 2, 1) := dk_5 (dk_at dksX3_setKind_0 23 rfl rfl)
theorem dX3_setKind_24 : decode cX3_setKind 24 = .ok (.goto 27, 3) := dk_167 0 27 (dk_at dksX3_setKind_1 0 rfl rfl)
theorem dX3_setKind_27 : decode cX3_setKind 27 = .ok (.aload_n 0, 1) := dk_42 (dk_at dksX3_setKind_1 3 rfl rfl)
theorem dX3_setKind_28 : decode cX3_setKind 28 = .ok (.getfield 7, 3) := dk_180 0 7 (dk_at dksX3_setKind_1 4 rfl rfl)
theorem dX3_setKind_31 : decode cX3_setKind 31 = .ok (.bipush 38, 2) := dk_16 38 (dk_at dksX3_setKind_1 7 rfl rfl)
theorem dX3_setKind_33 : decode cX3_setKind 33 = .ok (.iaload, 1) := dk_46 (dk_at dksX3_setKind_1 9 rfl rfl)
theorem dX3_setKind_34 : decode cX3_setKind 34 = .ok (.iload_n 1, 1) := dk_27 (dk_at dksX3_setKind_1 10 rfl rfl)
theorem dX3_setKind_35 : decode cX3_setKind 35 = .ok (.invokestatic 82, 3) := dk_184 0 82 (dk_at dksX3_setKind_1 11 rfl rfl)
theorem dX3_setKind_38 : decode cX3_setKind 38 = .ok (.ifCond .eq 12, 3) := dk_153 0 12 (dk_at dksX3_setKind_1 14 rfl rfl)
theorem dX3_setKind_41 : decode cX3_setKind 41 = .ok (.iload_n 2, 1) := dk_28 (dk_at dksX3_setKind_1 17 rfl rfl)
theorem dX3_setKind_42 : decode cX3_setKind 42 = .ok (.iconst 5, 1) := dk_8 (dk_at dksX3_setKind_1 18 rfl rfl)
theorem dX3_setKind_43 : decode cX3_setKind 43 = .ok (.if_icmp .le 7, 3) := dk_164 0 7 (dk_at dksX3_setKind_1 19 rfl rfl)
theorem dX3_setKind_46 : decode cX3_setKind 46 = .ok (.iconst 3, 1) := dk_6 (dk_at dksX3_setKind_1 22 rfl rfl)
theorem dX3_setKind_47 : decode cX3_setKind 47 = .ok (.goto 4, 3) := dk_167 0 4 (dk_at dksX3_setKind_2 0 rfl rfl)
theorem dX3_setKind_50 : decode cX3_setKind 50 = .ok (.iconst 0, 1) := dk_3 (dk_at dksX3_setKind_2 3 rfl rfl)
theorem dX3_setKind_51 : decode cX3_setKind 51 = .ok (.putfield 50, 3) := dk_181 0 50 (dk_at dksX3_setKind_2 4 rfl rfl)
theorem dX3_setKind_54 : decode cX3_setKind 54 = .ok (.aload_n 0, 1) := dk_42 (dk_at dksX3_setKind_2 7 rfl rfl)
theorem dX3_setKind_55 : decode cX3_setKind 55 = .ok (.getfield 50, 3) := dk_180 0 50 (dk_at dksX3_setKind_2 8 rfl rfl)
theorem dX3_setKind_58 : decode cX3_setKind 58 = .ok (.ifCond .le 5, 3) := dk_158 0 5 (dk_at dksX3_setKind_2 11 rfl rfl)
theorem dX3_setKind_61 : decode cX3_setKind 61 = .ok (.iconst 0, 1) := dk_3 (dk_at dksX3_setKind_2 14 rfl rfl)
theorem dX3_setKind_62 : decode cX3_setKind 62 = .ok (.ireturn, 1) := dk_172 (dk_at dksX3_setKind_2 15 rfl rfl)
theorem dX3_setKind_63 : decode cX3_setKind 63 = .ok (.aload_n 0, 1) := dk_42 (dk_at dksX3_setKind_2 16 rfl rfl)
theorem dX3_setKind_64 : decode cX3_setKind 64 = .ok (.invokevirtual 69, 3) := dk_182 0 69 (dk_at dksX3_setKind_2 17 rfl rfl)
theorem dX3_setKind_67 : decode cX3_setKind 67 = .ok (.aload_n 0, 1) := dk_42 (dk_at dksX3_setKind_2 20 rfl rfl)
theorem dX3_setKind_68 : decode cX3_setKind 68 = .ok (.getfield 7, 3) := dk_180 0 7 (dk_at dksX3_setKind_2 21 rfl rfl)
theorem dX3_setKind_71 : decode cX3_setKind 71 = .ok (.iconst 1, 1) := dk_4 (dk_at dksX3_setKind_3 0 rfl rfl)
theorem dX3_setKind_72 : decode cX3_setKind 72 = .ok (.iload_n 1, 1) := dk_27 (dk_at dksX3_setKind_3 1 rfl rfl)
theorem dX3_setKind_73 : decode cX3_setKind 73 = .ok (.iadd, 1) := dk_96 (dk_at dksX3_setKind_3 2 rfl rfl)
theorem dX3_setKind_74 : decode cX3_setKind 74 = .ok (.iaload, 1) := dk_46 (dk_at dksX3_setKind_3 3 rfl rfl)
theorem dX3_setKind_75 : decode cX3_setKind 75 = .ok (.istore_n 3, 1) := dk_62 (dk_at dksX3_setKind_3 4 rfl rfl)
theorem dX3_setKind_76 : decode cX3_setKind 76 = .ok (.aload_n 0, 1) := dk_42 (dk_at dksX3_setKind_3 5 rfl rfl)
theorem dX3_setKind_77 : decode cX3_setKind 77 = .ok (.getfield 7, 3) := dk_180 0 7 (dk_at dksX3_setKind_3 6 rfl rfl)
theorem dX3_setKind_80 : decode cX3_setKind 80 = .ok (.iconst 1, 1) := dk_4 (dk_at dksX3_setKind_3 9 rfl rfl)
theorem dX3_setKind_81 : decode cX3_setKind 81 = .ok (.iload_n 1, 1) := dk_27 (dk_at dksX3_setKind_3 10 rfl rfl)
theorem dX3_setKind_82 : decode cX3_setKind 82 = .ok (.iadd, 1) := dk_96 (dk_at dksX3_setKind_3 11 rfl rfl)
theorem dX3_setKind_83 : decode cX3_setKind 83 = .ok (.iload_n 2, 1) := dk_28 (dk_at dksX3_setKind_3 12 rfl rfl)
theorem dX3_setKind_84 : decode cX3_setKind 84 = .ok (.iastore, 1) := dk_79 (dk_at dksX3_setKind_3 13 rfl rfl)
theorem dX3_setKind_85 : decode cX3_setKind 85 = .ok (.aload_n 0, 1) := dk_42 (dk_at dksX3_setKind_3 14 rfl rfl)
theorem dX3_setKind_86 : decode cX3_setKind 86 = .ok (.invokevirtual 110, 3) := dk_182 0 110 (dk_at dksX3_setKind_3 15 rfl rfl)
theorem dX3_setKind_89 : decode cX3_setKind 89 = .ok (.iload_n 3, 1) := dk_29 (dk_at dksX3_setKind_3 18 rfl rfl)
theorem dX3_setKind_90 : decode cX3_setKind 90 = .ok (.ireturn, 1) := dk_172 (dk_at dksX3_setKind_3 19 rfl rfl)
abbrev cX3_isGate : ByteArray := prog_9_method_6_code
def yX3_isGate : MethodName := ⟨RX3, "isGate", "(I)Z"⟩
def dkwX3_isGate_0 : List UInt8 := [27, 3, 42, 180, 0, 7, 3, 46, 4, 100, 184, 0, 58, 172]
abbrev dktX3_isGate_0 : List UInt8 := dkwX3_isGate_0 ++ []
theorem dksX3_isGate_0 : cX3_isGate.data.toList.drop 0 = dktX3_isGate_0 := by decide +kernel
theorem dX3_isGate_0 : decode cX3_isGate 0 = .ok (.iload_n 1, 1) := dk_27 (dk_at dksX3_isGate_0 0 rfl rfl)
theorem dX3_isGate_1 : decode cX3_isGate 1 = .ok (.iconst 0, 1) := dk_3 (dk_at dksX3_isGate_0 1 rfl rfl)
theorem dX3_isGate_2 : decode cX3_isGate 2 = .ok (.aload_n 0, 1) := dk_42 (dk_at dksX3_isGate_0 2 rfl rfl)
theorem dX3_isGate_3 : decode cX3_isGate 3 = .ok (.getfield 7, 3) := dk_180 0 7 (dk_at dksX3_isGate_0 3 rfl rfl)
theorem dX3_isGate_6 : decode cX3_isGate 6 = .ok (.iconst 0, 1) := dk_3 (dk_at dksX3_isGate_0 6 rfl rfl)
theorem dX3_isGate_7 : decode cX3_isGate 7 = .ok (.iaload, 1) := dk_46 (dk_at dksX3_isGate_0 7 rfl rfl)
theorem dX3_isGate_8 : decode cX3_isGate 8 = .ok (.iconst 1, 1) := dk_4 (dk_at dksX3_isGate_0 8 rfl rfl)
theorem dX3_isGate_9 : decode cX3_isGate 9 = .ok (.isub, 1) := dk_100 (dk_at dksX3_isGate_0 9 rfl rfl)
theorem dX3_isGate_10 : decode cX3_isGate 10 = .ok (.invokestatic 58, 3) := dk_184 0 58 (dk_at dksX3_isGate_0 10 rfl rfl)
theorem dX3_isGate_13 : decode cX3_isGate 13 = .ok (.ireturn, 1) := dk_172 (dk_at dksX3_isGate_0 13 rfl rfl)
abbrev cX3_has : ByteArray := prog_9_method_8_code
def yX3_has : MethodName := ⟨RX3, "has", "(II)Z"⟩
def dkwX3_has_0 : List UInt8 := [26, 27, 122, 4, 126, 4, 160, 0, 7, 4, 167, 0, 4, 3, 172]
abbrev dktX3_has_0 : List UInt8 := dkwX3_has_0 ++ []
theorem dksX3_has_0 : cX3_has.data.toList.drop 0 = dktX3_has_0 := by decide +kernel
theorem dX3_has_0 : decode cX3_has 0 = .ok (.iload_n 0, 1) := dk_26 (dk_at dksX3_has_0 0 rfl rfl)
theorem dX3_has_1 : decode cX3_has 1 = .ok (.iload_n 1, 1) := dk_27 (dk_at dksX3_has_0 1 rfl rfl)
theorem dX3_has_2 : decode cX3_has 2 = .ok (.ishr, 1) := dk_122 (dk_at dksX3_has_0 2 rfl rfl)
theorem dX3_has_3 : decode cX3_has 3 = .ok (.iconst 1, 1) := dk_4 (dk_at dksX3_has_0 3 rfl rfl)
theorem dX3_has_4 : decode cX3_has 4 = .ok (.iand, 1) := dk_126 (dk_at dksX3_has_0 4 rfl rfl)
theorem dX3_has_5 : decode cX3_has 5 = .ok (.iconst 1, 1) := dk_4 (dk_at dksX3_has_0 5 rfl rfl)
theorem dX3_has_6 : decode cX3_has 6 = .ok (.if_icmp .ne 7, 3) := dk_160 0 7 (dk_at dksX3_has_0 6 rfl rfl)
theorem dX3_has_9 : decode cX3_has 9 = .ok (.iconst 1, 1) := dk_4 (dk_at dksX3_has_0 9 rfl rfl)
theorem dX3_has_10 : decode cX3_has 10 = .ok (.goto 4, 3) := dk_167 0 4 (dk_at dksX3_has_0 10 rfl rfl)
theorem dX3_has_13 : decode cX3_has 13 = .ok (.iconst 0, 1) := dk_3 (dk_at dksX3_has_0 13 rfl rfl)
theorem dX3_has_14 : decode cX3_has 14 = .ok (.ireturn, 1) := dk_172 (dk_at dksX3_has_0 14 rfl rfl)
abbrev cX3_setSource : ByteArray := prog_9_method_31_code
def yX3_setSource : MethodName := ⟨RX3, "setSource", "(III)I"⟩
def dkwX3_setSource_4 : List UInt8 := [21, 5, 172]
abbrev dktX3_setSource_4 : List UInt8 := dkwX3_setSource_4 ++ []
def dkwX3_setSource_3 : List UInt8 := [96, 54, 4, 42, 180, 0, 7, 21, 4, 46, 54, 5, 42, 180, 0, 7, 21, 4, 29, 79, 42, 182, 0, 110]
abbrev dktX3_setSource_3 : List UInt8 := dkwX3_setSource_3 ++ dktX3_setSource_4
def dkwX3_setSource_2 : List UInt8 := [180, 0, 50, 158, 0, 5, 3, 172, 42, 182, 0, 69, 28, 154, 0, 8, 16, 13, 167, 0, 5, 16, 25, 27]
abbrev dktX3_setSource_2 : List UInt8 := dkwX3_setSource_2 ++ dktX3_setSource_3
def dkwX3_setSource_1 : List UInt8 := [184, 0, 58, 153, 0, 11, 29, 16, 6, 27, 96, 161, 0, 7, 5, 167, 0, 4, 3, 181, 0, 50, 42]
abbrev dktX3_setSource_1 : List UInt8 := dkwX3_setSource_1 ++ dktX3_setSource_2
def dkwX3_setSource_0 : List UInt8 := [42, 42, 27, 182, 0, 121, 153, 0, 11, 42, 29, 182, 0, 107, 154, 0, 7, 4, 167, 0, 25, 28, 3, 4]
abbrev dktX3_setSource_0 : List UInt8 := dkwX3_setSource_0 ++ dktX3_setSource_1
theorem dksX3_setSource_0 : cX3_setSource.data.toList.drop 0 = dktX3_setSource_0 := by decide +kernel
theorem dksX3_setSource_1 : cX3_setSource.data.toList.drop 24 = dktX3_setSource_1 := dk_seg dksX3_setSource_0 24 rfl rfl
theorem dksX3_setSource_2 : cX3_setSource.data.toList.drop 47 = dktX3_setSource_2 := dk_seg dksX3_setSource_1 23 rfl rfl
theorem dksX3_setSource_3 : cX3_setSource.data.toList.drop 71 = dktX3_setSource_3 := dk_seg dksX3_setSource_2 24 rfl rfl
theorem dksX3_setSource_4 : cX3_setSource.data.toList.drop 95 = dktX3_setSource_4 := dk_seg dksX3_setSource_3 24 rfl rfl
theorem dX3_setSource_0 : decode cX3_setSource 0 = .ok (.aload_n 0, 1) := dk_42 (dk_at dksX3_setSource_0 0 rfl rfl)
theorem dX3_setSource_1 : decode cX3_setSource 1 = .ok (.aload_n 0, 1) := dk_42 (dk_at dksX3_setSource_0 1 rfl rfl)
theorem dX3_setSource_2 : decode cX3_setSource 2 = .ok (.iload_n 1, 1) := dk_27 (dk_at dksX3_setSource_0 2 rfl rfl)
theorem dX3_setSource_3 : decode cX3_setSource 3 = .ok (.invokevirtual 121, 3) := dk_182 0 121 (dk_at dksX3_setSource_0 3 rfl rfl)
theorem dX3_setSource_6 : decode cX3_setSource 6 = .ok (.ifCond .eq 11, 3) := dk_153 0 11 (dk_at dksX3_setSource_0 6 rfl rfl)
theorem dX3_setSource_9 : decode cX3_setSource 9 = .ok (.aload_n 0, 1) := dk_42 (dk_at dksX3_setSource_0 9 rfl rfl)
theorem dX3_setSource_10 : decode cX3_setSource 10 = .ok (.iload_n 3, 1) := dk_29 (dk_at dksX3_setSource_0 10 rfl rfl)
theorem dX3_setSource_11 : decode cX3_setSource 11 = .ok (.invokevirtual 107, 3) := dk_182 0 107 (dk_at dksX3_setSource_0 11 rfl rfl)
theorem dX3_setSource_14 : decode cX3_setSource 14 = .ok (.ifCond .ne 7, 3) := dk_154 0 7 (dk_at dksX3_setSource_0 14 rfl rfl)
theorem dX3_setSource_17 : decode cX3_setSource 17 = .ok (.iconst 1, 1) := dk_4 (dk_at dksX3_setSource_0 17 rfl rfl)
theorem dX3_setSource_18 : decode cX3_setSource 18 = .ok (.goto 25, 3) := dk_167 0 25 (dk_at dksX3_setSource_0 18 rfl rfl)
theorem dX3_setSource_21 : decode cX3_setSource 21 = .ok (.iload_n 2, 1) := dk_28 (dk_at dksX3_setSource_0 21 rfl rfl)
theorem dX3_setSource_22 : decode cX3_setSource 22 = .ok (.iconst 0, 1) := dk_3 (dk_at dksX3_setSource_0 22 rfl rfl)
theorem dX3_setSource_23 : decode cX3_setSource 23 = .ok (.iconst 1, 1) := dk_4 (dk_at dksX3_setSource_0 23 rfl rfl)
theorem dX3_setSource_24 : decode cX3_setSource 24 = .ok (.invokestatic 58, 3) := dk_184 0 58 (dk_at dksX3_setSource_1 0 rfl rfl)
theorem dX3_setSource_27 : decode cX3_setSource 27 = .ok (.ifCond .eq 11, 3) := dk_153 0 11 (dk_at dksX3_setSource_1 3 rfl rfl)
theorem dX3_setSource_30 : decode cX3_setSource 30 = .ok (.iload_n 3, 1) := dk_29 (dk_at dksX3_setSource_1 6 rfl rfl)
theorem dX3_setSource_31 : decode cX3_setSource 31 = .ok (.bipush 6, 2) := dk_16 6 (dk_at dksX3_setSource_1 7 rfl rfl)
theorem dX3_setSource_33 : decode cX3_setSource 33 = .ok (.iload_n 1, 1) := dk_27 (dk_at dksX3_setSource_1 9 rfl rfl)
theorem dX3_setSource_34 : decode cX3_setSource 34 = .ok (.iadd, 1) := dk_96 (dk_at dksX3_setSource_1 10 rfl rfl)
theorem dX3_setSource_35 : decode cX3_setSource 35 = .ok (.if_icmp .lt 7, 3) := dk_161 0 7 (dk_at dksX3_setSource_1 11 rfl rfl)
theorem dX3_setSource_38 : decode cX3_setSource 38 = .ok (.iconst 2, 1) := dk_5 (dk_at dksX3_setSource_1 14 rfl rfl)
theorem dX3_setSource_39 : decode cX3_setSource 39 = .ok (.goto 4, 3) := dk_167 0 4 (dk_at dksX3_setSource_1 15 rfl rfl)
theorem dX3_setSource_42 : decode cX3_setSource 42 = .ok (.iconst 0, 1) := dk_3 (dk_at dksX3_setSource_1 18 rfl rfl)
theorem dX3_setSource_43 : decode cX3_setSource 43 = .ok (.putfield 50, 3) := dk_181 0 50 (dk_at dksX3_setSource_1 19 rfl rfl)
theorem dX3_setSource_46 : decode cX3_setSource 46 = .ok (.aload_n 0, 1) := dk_42 (dk_at dksX3_setSource_1 22 rfl rfl)
theorem dX3_setSource_47 : decode cX3_setSource 47 = .ok (.getfield 50, 3) := dk_180 0 50 (dk_at dksX3_setSource_2 0 rfl rfl)
theorem dX3_setSource_50 : decode cX3_setSource 50 = .ok (.ifCond .le 5, 3) := dk_158 0 5 (dk_at dksX3_setSource_2 3 rfl rfl)
theorem dX3_setSource_53 : decode cX3_setSource 53 = .ok (.iconst 0, 1) := dk_3 (dk_at dksX3_setSource_2 6 rfl rfl)
theorem dX3_setSource_54 : decode cX3_setSource 54 = .ok (.ireturn, 1) := dk_172 (dk_at dksX3_setSource_2 7 rfl rfl)
theorem dX3_setSource_55 : decode cX3_setSource 55 = .ok (.aload_n 0, 1) := dk_42 (dk_at dksX3_setSource_2 8 rfl rfl)
theorem dX3_setSource_56 : decode cX3_setSource 56 = .ok (.invokevirtual 69, 3) := dk_182 0 69 (dk_at dksX3_setSource_2 9 rfl rfl)
theorem dX3_setSource_59 : decode cX3_setSource 59 = .ok (.iload_n 2, 1) := dk_28 (dk_at dksX3_setSource_2 12 rfl rfl)
theorem dX3_setSource_60 : decode cX3_setSource 60 = .ok (.ifCond .ne 8, 3) := dk_154 0 8 (dk_at dksX3_setSource_2 13 rfl rfl)
theorem dX3_setSource_63 : decode cX3_setSource 63 = .ok (.bipush 13, 2) := dk_16 13 (dk_at dksX3_setSource_2 16 rfl rfl)
theorem dX3_setSource_65 : decode cX3_setSource 65 = .ok (.goto 5, 3) := dk_167 0 5 (dk_at dksX3_setSource_2 18 rfl rfl)
theorem dX3_setSource_68 : decode cX3_setSource 68 = .ok (.bipush 25, 2) := dk_16 25 (dk_at dksX3_setSource_2 21 rfl rfl)
theorem dX3_setSource_70 : decode cX3_setSource 70 = .ok (.iload_n 1, 1) := dk_27 (dk_at dksX3_setSource_2 23 rfl rfl)
theorem dX3_setSource_71 : decode cX3_setSource 71 = .ok (.iadd, 1) := dk_96 (dk_at dksX3_setSource_3 0 rfl rfl)
theorem dX3_setSource_72 : decode cX3_setSource 72 = .ok (.istore 4, 2) := dk_54 4 (dk_at dksX3_setSource_3 1 rfl rfl)
theorem dX3_setSource_74 : decode cX3_setSource 74 = .ok (.aload_n 0, 1) := dk_42 (dk_at dksX3_setSource_3 3 rfl rfl)
theorem dX3_setSource_75 : decode cX3_setSource 75 = .ok (.getfield 7, 3) := dk_180 0 7 (dk_at dksX3_setSource_3 4 rfl rfl)
theorem dX3_setSource_78 : decode cX3_setSource 78 = .ok (.iload 4, 2) := dk_21 4 (dk_at dksX3_setSource_3 7 rfl rfl)
theorem dX3_setSource_80 : decode cX3_setSource 80 = .ok (.iaload, 1) := dk_46 (dk_at dksX3_setSource_3 9 rfl rfl)
theorem dX3_setSource_81 : decode cX3_setSource 81 = .ok (.istore 5, 2) := dk_54 5 (dk_at dksX3_setSource_3 10 rfl rfl)
theorem dX3_setSource_83 : decode cX3_setSource 83 = .ok (.aload_n 0, 1) := dk_42 (dk_at dksX3_setSource_3 12 rfl rfl)
theorem dX3_setSource_84 : decode cX3_setSource 84 = .ok (.getfield 7, 3) := dk_180 0 7 (dk_at dksX3_setSource_3 13 rfl rfl)
theorem dX3_setSource_87 : decode cX3_setSource 87 = .ok (.iload 4, 2) := dk_21 4 (dk_at dksX3_setSource_3 16 rfl rfl)
theorem dX3_setSource_89 : decode cX3_setSource 89 = .ok (.iload_n 3, 1) := dk_29 (dk_at dksX3_setSource_3 18 rfl rfl)
theorem dX3_setSource_90 : decode cX3_setSource 90 = .ok (.iastore, 1) := dk_79 (dk_at dksX3_setSource_3 19 rfl rfl)
theorem dX3_setSource_91 : decode cX3_setSource 91 = .ok (.aload_n 0, 1) := dk_42 (dk_at dksX3_setSource_3 20 rfl rfl)
theorem dX3_setSource_92 : decode cX3_setSource 92 = .ok (.invokevirtual 110, 3) := dk_182 0 110 (dk_at dksX3_setSource_3 21 rfl rfl)
theorem dX3_setSource_95 : decode cX3_setSource 95 = .ok (.iload 5, 2) := dk_21 5 (dk_at dksX3_setSource_4 0 rfl rfl)
theorem dX3_setSource_97 : decode cX3_setSource 97 = .ok (.ireturn, 1) := dk_172 (dk_at dksX3_setSource_4 2 rfl rfl)
abbrev cX3_turnOutput : ByteArray := prog_9_method_35_code
def yX3_turnOutput : MethodName := ⟨RX3, "turnOutput", "(I)I"⟩
def dkwX3_turnOutput_1 : List UInt8 := [16, 37, 27, 182, 0, 131, 172]
abbrev dktX3_turnOutput_1 : List UInt8 := dkwX3_turnOutput_1 ++ []
def dkwX3_turnOutput_0 : List UInt8 := [42, 42, 27, 182, 0, 128, 181, 0, 50, 42, 180, 0, 50, 158, 0, 5, 3, 172, 42, 182, 0, 69, 42]
abbrev dktX3_turnOutput_0 : List UInt8 := dkwX3_turnOutput_0 ++ dktX3_turnOutput_1
theorem dksX3_turnOutput_0 : cX3_turnOutput.data.toList.drop 0 = dktX3_turnOutput_0 := by decide +kernel
theorem dksX3_turnOutput_1 : cX3_turnOutput.data.toList.drop 23 = dktX3_turnOutput_1 := dk_seg dksX3_turnOutput_0 23 rfl rfl
theorem dX3_turnOutput_0 : decode cX3_turnOutput 0 = .ok (.aload_n 0, 1) := dk_42 (dk_at dksX3_turnOutput_0 0 rfl rfl)
theorem dX3_turnOutput_1 : decode cX3_turnOutput 1 = .ok (.aload_n 0, 1) := dk_42 (dk_at dksX3_turnOutput_0 1 rfl rfl)
theorem dX3_turnOutput_2 : decode cX3_turnOutput 2 = .ok (.iload_n 1, 1) := dk_27 (dk_at dksX3_turnOutput_0 2 rfl rfl)
theorem dX3_turnOutput_3 : decode cX3_turnOutput 3 = .ok (.invokevirtual 128, 3) := dk_182 0 128 (dk_at dksX3_turnOutput_0 3 rfl rfl)
theorem dX3_turnOutput_6 : decode cX3_turnOutput 6 = .ok (.putfield 50, 3) := dk_181 0 50 (dk_at dksX3_turnOutput_0 6 rfl rfl)
theorem dX3_turnOutput_9 : decode cX3_turnOutput 9 = .ok (.aload_n 0, 1) := dk_42 (dk_at dksX3_turnOutput_0 9 rfl rfl)
theorem dX3_turnOutput_10 : decode cX3_turnOutput 10 = .ok (.getfield 50, 3) := dk_180 0 50 (dk_at dksX3_turnOutput_0 10 rfl rfl)
theorem dX3_turnOutput_13 : decode cX3_turnOutput 13 = .ok (.ifCond .le 5, 3) := dk_158 0 5 (dk_at dksX3_turnOutput_0 13 rfl rfl)
theorem dX3_turnOutput_16 : decode cX3_turnOutput 16 = .ok (.iconst 0, 1) := dk_3 (dk_at dksX3_turnOutput_0 16 rfl rfl)
theorem dX3_turnOutput_17 : decode cX3_turnOutput 17 = .ok (.ireturn, 1) := dk_172 (dk_at dksX3_turnOutput_0 17 rfl rfl)
theorem dX3_turnOutput_18 : decode cX3_turnOutput 18 = .ok (.aload_n 0, 1) := dk_42 (dk_at dksX3_turnOutput_0 18 rfl rfl)
theorem dX3_turnOutput_19 : decode cX3_turnOutput 19 = .ok (.invokevirtual 69, 3) := dk_182 0 69 (dk_at dksX3_turnOutput_0 19 rfl rfl)
theorem dX3_turnOutput_22 : decode cX3_turnOutput 22 = .ok (.aload_n 0, 1) := dk_42 (dk_at dksX3_turnOutput_0 22 rfl rfl)
theorem dX3_turnOutput_23 : decode cX3_turnOutput 23 = .ok (.bipush 37, 2) := dk_16 37 (dk_at dksX3_turnOutput_1 0 rfl rfl)
theorem dX3_turnOutput_25 : decode cX3_turnOutput 25 = .ok (.iload_n 1, 1) := dk_27 (dk_at dksX3_turnOutput_1 2 rfl rfl)
theorem dX3_turnOutput_26 : decode cX3_turnOutput 26 = .ok (.invokevirtual 131, 3) := dk_182 0 131 (dk_at dksX3_turnOutput_1 3 rfl rfl)
theorem dX3_turnOutput_29 : decode cX3_turnOutput 29 = .ok (.ireturn, 1) := dk_172 (dk_at dksX3_turnOutput_1 6 rfl rfl)
abbrev cX3_noOutput : ByteArray := prog_9_method_32_code
def yX3_noOutput : MethodName := ⟨RX3, "noOutput", "(I)I"⟩
def dkwX3_noOutput_1 : List UInt8 := [154, 0, 21, 42, 180, 0, 7, 16, 37, 46, 184, 0, 124, 7, 160, 0, 7, 5, 167, 0, 4, 3, 172]
abbrev dktX3_noOutput_1 : List UInt8 := dkwX3_noOutput_1 ++ []
def dkwX3_noOutput_0 : List UInt8 := [42, 27, 182, 0, 107, 154, 0, 7, 4, 167, 0, 36, 42, 180, 0, 7, 16, 37, 46, 27, 184, 0, 82]
abbrev dktX3_noOutput_0 : List UInt8 := dkwX3_noOutput_0 ++ dktX3_noOutput_1
theorem dksX3_noOutput_0 : cX3_noOutput.data.toList.drop 0 = dktX3_noOutput_0 := by decide +kernel
theorem dksX3_noOutput_1 : cX3_noOutput.data.toList.drop 23 = dktX3_noOutput_1 := dk_seg dksX3_noOutput_0 23 rfl rfl
theorem dX3_noOutput_0 : decode cX3_noOutput 0 = .ok (.aload_n 0, 1) := dk_42 (dk_at dksX3_noOutput_0 0 rfl rfl)
theorem dX3_noOutput_1 : decode cX3_noOutput 1 = .ok (.iload_n 1, 1) := dk_27 (dk_at dksX3_noOutput_0 1 rfl rfl)
theorem dX3_noOutput_2 : decode cX3_noOutput 2 = .ok (.invokevirtual 107, 3) := dk_182 0 107 (dk_at dksX3_noOutput_0 2 rfl rfl)
theorem dX3_noOutput_5 : decode cX3_noOutput 5 = .ok (.ifCond .ne 7, 3) := dk_154 0 7 (dk_at dksX3_noOutput_0 5 rfl rfl)
theorem dX3_noOutput_8 : decode cX3_noOutput 8 = .ok (.iconst 1, 1) := dk_4 (dk_at dksX3_noOutput_0 8 rfl rfl)
theorem dX3_noOutput_9 : decode cX3_noOutput 9 = .ok (.goto 36, 3) := dk_167 0 36 (dk_at dksX3_noOutput_0 9 rfl rfl)
theorem dX3_noOutput_12 : decode cX3_noOutput 12 = .ok (.aload_n 0, 1) := dk_42 (dk_at dksX3_noOutput_0 12 rfl rfl)
theorem dX3_noOutput_13 : decode cX3_noOutput 13 = .ok (.getfield 7, 3) := dk_180 0 7 (dk_at dksX3_noOutput_0 13 rfl rfl)
theorem dX3_noOutput_16 : decode cX3_noOutput 16 = .ok (.bipush 37, 2) := dk_16 37 (dk_at dksX3_noOutput_0 16 rfl rfl)
theorem dX3_noOutput_18 : decode cX3_noOutput 18 = .ok (.iaload, 1) := dk_46 (dk_at dksX3_noOutput_0 18 rfl rfl)
theorem dX3_noOutput_19 : decode cX3_noOutput 19 = .ok (.iload_n 1, 1) := dk_27 (dk_at dksX3_noOutput_0 19 rfl rfl)
theorem dX3_noOutput_20 : decode cX3_noOutput 20 = .ok (.invokestatic 82, 3) := dk_184 0 82 (dk_at dksX3_noOutput_0 20 rfl rfl)
theorem dX3_noOutput_23 : decode cX3_noOutput 23 = .ok (.ifCond .ne 21, 3) := dk_154 0 21 (dk_at dksX3_noOutput_1 0 rfl rfl)
theorem dX3_noOutput_26 : decode cX3_noOutput 26 = .ok (.aload_n 0, 1) := dk_42 (dk_at dksX3_noOutput_1 3 rfl rfl)
theorem dX3_noOutput_27 : decode cX3_noOutput 27 = .ok (.getfield 7, 3) := dk_180 0 7 (dk_at dksX3_noOutput_1 4 rfl rfl)
theorem dX3_noOutput_30 : decode cX3_noOutput 30 = .ok (.bipush 37, 2) := dk_16 37 (dk_at dksX3_noOutput_1 7 rfl rfl)
theorem dX3_noOutput_32 : decode cX3_noOutput 32 = .ok (.iaload, 1) := dk_46 (dk_at dksX3_noOutput_1 9 rfl rfl)
theorem dX3_noOutput_33 : decode cX3_noOutput 33 = .ok (.invokestatic 124, 3) := dk_184 0 124 (dk_at dksX3_noOutput_1 10 rfl rfl)
theorem dX3_noOutput_36 : decode cX3_noOutput 36 = .ok (.iconst 4, 1) := dk_7 (dk_at dksX3_noOutput_1 13 rfl rfl)
theorem dX3_noOutput_37 : decode cX3_noOutput 37 = .ok (.if_icmp .ne 7, 3) := dk_160 0 7 (dk_at dksX3_noOutput_1 14 rfl rfl)
theorem dX3_noOutput_40 : decode cX3_noOutput 40 = .ok (.iconst 2, 1) := dk_5 (dk_at dksX3_noOutput_1 17 rfl rfl)
theorem dX3_noOutput_41 : decode cX3_noOutput 41 = .ok (.goto 4, 3) := dk_167 0 4 (dk_at dksX3_noOutput_1 18 rfl rfl)
theorem dX3_noOutput_44 : decode cX3_noOutput 44 = .ok (.iconst 0, 1) := dk_3 (dk_at dksX3_noOutput_1 21 rfl rfl)
theorem dX3_noOutput_45 : decode cX3_noOutput 45 = .ok (.ireturn, 1) := dk_172 (dk_at dksX3_noOutput_1 22 rfl rfl)
abbrev cX3_count : ByteArray := prog_9_method_9_code
def yX3_count : MethodName := ⟨RX3, "count", "(I)I"⟩
def dkwX3_count_1 : List UInt8 := [27, 172]
abbrev dktX3_count_1 : List UInt8 := dkwX3_count_1 ++ []
def dkwX3_count_0 : List UInt8 := [3, 60, 3, 61, 28, 16, 18, 162, 0, 17, 27, 26, 28, 122, 4, 126, 96, 60, 132, 2, 1, 167, 255, 239]
abbrev dktX3_count_0 : List UInt8 := dkwX3_count_0 ++ dktX3_count_1
theorem dksX3_count_0 : cX3_count.data.toList.drop 0 = dktX3_count_0 := by decide +kernel
theorem dksX3_count_1 : cX3_count.data.toList.drop 24 = dktX3_count_1 := dk_seg dksX3_count_0 24 rfl rfl
theorem dX3_count_0 : decode cX3_count 0 = .ok (.iconst 0, 1) := dk_3 (dk_at dksX3_count_0 0 rfl rfl)
theorem dX3_count_1 : decode cX3_count 1 = .ok (.istore_n 1, 1) := dk_60 (dk_at dksX3_count_0 1 rfl rfl)
theorem dX3_count_2 : decode cX3_count 2 = .ok (.iconst 0, 1) := dk_3 (dk_at dksX3_count_0 2 rfl rfl)
theorem dX3_count_3 : decode cX3_count 3 = .ok (.istore_n 2, 1) := dk_61 (dk_at dksX3_count_0 3 rfl rfl)
theorem dX3_count_4 : decode cX3_count 4 = .ok (.iload_n 2, 1) := dk_28 (dk_at dksX3_count_0 4 rfl rfl)
theorem dX3_count_5 : decode cX3_count 5 = .ok (.bipush 18, 2) := dk_16 18 (dk_at dksX3_count_0 5 rfl rfl)
theorem dX3_count_7 : decode cX3_count 7 = .ok (.if_icmp .ge 17, 3) := dk_162 0 17 (dk_at dksX3_count_0 7 rfl rfl)
theorem dX3_count_10 : decode cX3_count 10 = .ok (.iload_n 1, 1) := dk_27 (dk_at dksX3_count_0 10 rfl rfl)
theorem dX3_count_11 : decode cX3_count 11 = .ok (.iload_n 0, 1) := dk_26 (dk_at dksX3_count_0 11 rfl rfl)
theorem dX3_count_12 : decode cX3_count 12 = .ok (.iload_n 2, 1) := dk_28 (dk_at dksX3_count_0 12 rfl rfl)
theorem dX3_count_13 : decode cX3_count 13 = .ok (.ishr, 1) := dk_122 (dk_at dksX3_count_0 13 rfl rfl)
theorem dX3_count_14 : decode cX3_count 14 = .ok (.iconst 1, 1) := dk_4 (dk_at dksX3_count_0 14 rfl rfl)
theorem dX3_count_15 : decode cX3_count 15 = .ok (.iand, 1) := dk_126 (dk_at dksX3_count_0 15 rfl rfl)
theorem dX3_count_16 : decode cX3_count 16 = .ok (.iadd, 1) := dk_96 (dk_at dksX3_count_0 16 rfl rfl)
theorem dX3_count_17 : decode cX3_count 17 = .ok (.istore_n 1, 1) := dk_60 (dk_at dksX3_count_0 17 rfl rfl)
theorem dX3_count_18 : decode cX3_count 18 = .ok (.iinc 2 1, 3) := dk_132 2 1 (dk_at dksX3_count_0 18 rfl rfl)
theorem dX3_count_21 : decode cX3_count 21 = .ok (.goto (-17), 3) := dk_167 255 239 (dk_at dksX3_count_0 21 rfl rfl)
theorem dX3_count_24 : decode cX3_count 24 = .ok (.iload_n 1, 1) := dk_27 (dk_at dksX3_count_1 0 rfl rfl)
theorem dX3_count_25 : decode cX3_count 25 = .ok (.ireturn, 1) := dk_172 (dk_at dksX3_count_1 1 rfl rfl)
abbrev cX3_turns : ByteArray := prog_9_method_34_code
def yX3_turns : MethodName := ⟨RX3, "turns", "(II)I"⟩
def dkwX3_turns_1 : List UInt8 := [184, 0, 124, 172]
abbrev dktX3_turns_1 : List UInt8 := dkwX3_turns_1 ++ []
def dkwX3_turns_0 : List UInt8 := [42, 180, 0, 7, 27, 92, 46, 4, 28, 120, 130, 79, 42, 182, 0, 110, 42, 180, 0, 7, 27, 46]
abbrev dktX3_turns_0 : List UInt8 := dkwX3_turns_0 ++ dktX3_turns_1
theorem dksX3_turns_0 : cX3_turns.data.toList.drop 0 = dktX3_turns_0 := by decide +kernel
theorem dksX3_turns_1 : cX3_turns.data.toList.drop 22 = dktX3_turns_1 := dk_seg dksX3_turns_0 22 rfl rfl
theorem dX3_turns_0 : decode cX3_turns 0 = .ok (.aload_n 0, 1) := dk_42 (dk_at dksX3_turns_0 0 rfl rfl)
theorem dX3_turns_1 : decode cX3_turns 1 = .ok (.getfield 7, 3) := dk_180 0 7 (dk_at dksX3_turns_0 1 rfl rfl)
theorem dX3_turns_4 : decode cX3_turns 4 = .ok (.iload_n 1, 1) := dk_27 (dk_at dksX3_turns_0 4 rfl rfl)
theorem dX3_turns_5 : decode cX3_turns 5 = .ok (.dup2, 1) := dk_92 (dk_at dksX3_turns_0 5 rfl rfl)
theorem dX3_turns_6 : decode cX3_turns 6 = .ok (.iaload, 1) := dk_46 (dk_at dksX3_turns_0 6 rfl rfl)
theorem dX3_turns_7 : decode cX3_turns 7 = .ok (.iconst 1, 1) := dk_4 (dk_at dksX3_turns_0 7 rfl rfl)
theorem dX3_turns_8 : decode cX3_turns 8 = .ok (.iload_n 2, 1) := dk_28 (dk_at dksX3_turns_0 8 rfl rfl)
theorem dX3_turns_9 : decode cX3_turns 9 = .ok (.ishl, 1) := dk_120 (dk_at dksX3_turns_0 9 rfl rfl)
theorem dX3_turns_10 : decode cX3_turns 10 = .ok (.ixor, 1) := dk_130 (dk_at dksX3_turns_0 10 rfl rfl)
theorem dX3_turns_11 : decode cX3_turns 11 = .ok (.iastore, 1) := dk_79 (dk_at dksX3_turns_0 11 rfl rfl)
theorem dX3_turns_12 : decode cX3_turns 12 = .ok (.aload_n 0, 1) := dk_42 (dk_at dksX3_turns_0 12 rfl rfl)
theorem dX3_turns_13 : decode cX3_turns 13 = .ok (.invokevirtual 110, 3) := dk_182 0 110 (dk_at dksX3_turns_0 13 rfl rfl)
theorem dX3_turns_16 : decode cX3_turns 16 = .ok (.aload_n 0, 1) := dk_42 (dk_at dksX3_turns_0 16 rfl rfl)
theorem dX3_turns_17 : decode cX3_turns 17 = .ok (.getfield 7, 3) := dk_180 0 7 (dk_at dksX3_turns_0 17 rfl rfl)
theorem dX3_turns_20 : decode cX3_turns 20 = .ok (.iload_n 1, 1) := dk_27 (dk_at dksX3_turns_0 20 rfl rfl)
theorem dX3_turns_21 : decode cX3_turns 21 = .ok (.iaload, 1) := dk_46 (dk_at dksX3_turns_0 21 rfl rfl)
theorem dX3_turns_22 : decode cX3_turns 22 = .ok (.invokestatic 124, 3) := dk_184 0 124 (dk_at dksX3_turns_1 0 rfl rfl)
theorem dX3_turns_25 : decode cX3_turns 25 = .ok (.ireturn, 1) := dk_172 (dk_at dksX3_turns_1 3 rfl rfl)
abbrev cX3_turnBox : ByteArray := prog_9_method_36_code
def yX3_turnBox : MethodName := ⟨RX3, "turnBox", "(I)I"⟩
def dkwX3_turnBox_1 : List UInt8 := [16, 38, 27, 182, 0, 131, 172]
abbrev dktX3_turnBox_1 : List UInt8 := dkwX3_turnBox_1 ++ []
def dkwX3_turnBox_0 : List UInt8 := [42, 42, 27, 182, 0, 135, 181, 0, 50, 42, 180, 0, 50, 158, 0, 5, 3, 172, 42, 182, 0, 69, 42]
abbrev dktX3_turnBox_0 : List UInt8 := dkwX3_turnBox_0 ++ dktX3_turnBox_1
theorem dksX3_turnBox_0 : cX3_turnBox.data.toList.drop 0 = dktX3_turnBox_0 := by decide +kernel
theorem dksX3_turnBox_1 : cX3_turnBox.data.toList.drop 23 = dktX3_turnBox_1 := dk_seg dksX3_turnBox_0 23 rfl rfl
theorem dX3_turnBox_0 : decode cX3_turnBox 0 = .ok (.aload_n 0, 1) := dk_42 (dk_at dksX3_turnBox_0 0 rfl rfl)
theorem dX3_turnBox_1 : decode cX3_turnBox 1 = .ok (.aload_n 0, 1) := dk_42 (dk_at dksX3_turnBox_0 1 rfl rfl)
theorem dX3_turnBox_2 : decode cX3_turnBox 2 = .ok (.iload_n 1, 1) := dk_27 (dk_at dksX3_turnBox_0 2 rfl rfl)
theorem dX3_turnBox_3 : decode cX3_turnBox 3 = .ok (.invokevirtual 135, 3) := dk_182 0 135 (dk_at dksX3_turnBox_0 3 rfl rfl)
theorem dX3_turnBox_6 : decode cX3_turnBox 6 = .ok (.putfield 50, 3) := dk_181 0 50 (dk_at dksX3_turnBox_0 6 rfl rfl)
theorem dX3_turnBox_9 : decode cX3_turnBox 9 = .ok (.aload_n 0, 1) := dk_42 (dk_at dksX3_turnBox_0 9 rfl rfl)
theorem dX3_turnBox_10 : decode cX3_turnBox 10 = .ok (.getfield 50, 3) := dk_180 0 50 (dk_at dksX3_turnBox_0 10 rfl rfl)
theorem dX3_turnBox_13 : decode cX3_turnBox 13 = .ok (.ifCond .le 5, 3) := dk_158 0 5 (dk_at dksX3_turnBox_0 13 rfl rfl)
theorem dX3_turnBox_16 : decode cX3_turnBox 16 = .ok (.iconst 0, 1) := dk_3 (dk_at dksX3_turnBox_0 16 rfl rfl)
theorem dX3_turnBox_17 : decode cX3_turnBox 17 = .ok (.ireturn, 1) := dk_172 (dk_at dksX3_turnBox_0 17 rfl rfl)
theorem dX3_turnBox_18 : decode cX3_turnBox 18 = .ok (.aload_n 0, 1) := dk_42 (dk_at dksX3_turnBox_0 18 rfl rfl)
theorem dX3_turnBox_19 : decode cX3_turnBox 19 = .ok (.invokevirtual 69, 3) := dk_182 0 69 (dk_at dksX3_turnBox_0 19 rfl rfl)
theorem dX3_turnBox_22 : decode cX3_turnBox 22 = .ok (.aload_n 0, 1) := dk_42 (dk_at dksX3_turnBox_0 22 rfl rfl)
theorem dX3_turnBox_23 : decode cX3_turnBox 23 = .ok (.bipush 38, 2) := dk_16 38 (dk_at dksX3_turnBox_1 0 rfl rfl)
theorem dX3_turnBox_25 : decode cX3_turnBox 25 = .ok (.iload_n 1, 1) := dk_27 (dk_at dksX3_turnBox_1 2 rfl rfl)
theorem dX3_turnBox_26 : decode cX3_turnBox 26 = .ok (.invokevirtual 131, 3) := dk_182 0 131 (dk_at dksX3_turnBox_1 3 rfl rfl)
theorem dX3_turnBox_29 : decode cX3_turnBox 29 = .ok (.ireturn, 1) := dk_172 (dk_at dksX3_turnBox_1 6 rfl rfl)
abbrev cX3_noBox : ByteArray := prog_9_method_33_code
def yX3_noBox : MethodName := ⟨RX3, "noBox", "(I)I"⟩
def dkwX3_noBox_2 : List UInt8 := [46, 8, 164, 0, 7, 5, 167, 0, 4, 3, 172]
abbrev dktX3_noBox_2 : List UInt8 := dkwX3_noBox_2 ++ []
def dkwX3_noBox_1 : List UInt8 := [154, 0, 33, 42, 180, 0, 7, 16, 38, 46, 184, 0, 124, 6, 159, 0, 15, 42, 180, 0, 7, 4, 27, 96]
abbrev dktX3_noBox_1 : List UInt8 := dkwX3_noBox_1 ++ dktX3_noBox_2
def dkwX3_noBox_0 : List UInt8 := [42, 27, 182, 0, 121, 154, 0, 7, 4, 167, 0, 48, 42, 180, 0, 7, 16, 38, 46, 27, 184, 0, 82]
abbrev dktX3_noBox_0 : List UInt8 := dkwX3_noBox_0 ++ dktX3_noBox_1
theorem dksX3_noBox_0 : cX3_noBox.data.toList.drop 0 = dktX3_noBox_0 := by decide +kernel
theorem dksX3_noBox_1 : cX3_noBox.data.toList.drop 23 = dktX3_noBox_1 := dk_seg dksX3_noBox_0 23 rfl rfl
theorem dksX3_noBox_2 : cX3_noBox.data.toList.drop 47 = dktX3_noBox_2 := dk_seg dksX3_noBox_1 24 rfl rfl
theorem dX3_noBox_0 : decode cX3_noBox 0 = .ok (.aload_n 0, 1) := dk_42 (dk_at dksX3_noBox_0 0 rfl rfl)
theorem dX3_noBox_1 : decode cX3_noBox 1 = .ok (.iload_n 1, 1) := dk_27 (dk_at dksX3_noBox_0 1 rfl rfl)
theorem dX3_noBox_2 : decode cX3_noBox 2 = .ok (.invokevirtual 121, 3) := dk_182 0 121 (dk_at dksX3_noBox_0 2 rfl rfl)
theorem dX3_noBox_5 : decode cX3_noBox 5 = .ok (.ifCond .ne 7, 3) := dk_154 0 7 (dk_at dksX3_noBox_0 5 rfl rfl)
theorem dX3_noBox_8 : decode cX3_noBox 8 = .ok (.iconst 1, 1) := dk_4 (dk_at dksX3_noBox_0 8 rfl rfl)
theorem dX3_noBox_9 : decode cX3_noBox 9 = .ok (.goto 48, 3) := dk_167 0 48 (dk_at dksX3_noBox_0 9 rfl rfl)
theorem dX3_noBox_12 : decode cX3_noBox 12 = .ok (.aload_n 0, 1) := dk_42 (dk_at dksX3_noBox_0 12 rfl rfl)
theorem dX3_noBox_13 : decode cX3_noBox 13 = .ok (.getfield 7, 3) := dk_180 0 7 (dk_at dksX3_noBox_0 13 rfl rfl)
theorem dX3_noBox_16 : decode cX3_noBox 16 = .ok (.bipush 38, 2) := dk_16 38 (dk_at dksX3_noBox_0 16 rfl rfl)
theorem dX3_noBox_18 : decode cX3_noBox 18 = .ok (.iaload, 1) := dk_46 (dk_at dksX3_noBox_0 18 rfl rfl)
theorem dX3_noBox_19 : decode cX3_noBox 19 = .ok (.iload_n 1, 1) := dk_27 (dk_at dksX3_noBox_0 19 rfl rfl)
theorem dX3_noBox_20 : decode cX3_noBox 20 = .ok (.invokestatic 82, 3) := dk_184 0 82 (dk_at dksX3_noBox_0 20 rfl rfl)
theorem dX3_noBox_23 : decode cX3_noBox 23 = .ok (.ifCond .ne 33, 3) := dk_154 0 33 (dk_at dksX3_noBox_1 0 rfl rfl)
theorem dX3_noBox_26 : decode cX3_noBox 26 = .ok (.aload_n 0, 1) := dk_42 (dk_at dksX3_noBox_1 3 rfl rfl)
theorem dX3_noBox_27 : decode cX3_noBox 27 = .ok (.getfield 7, 3) := dk_180 0 7 (dk_at dksX3_noBox_1 4 rfl rfl)
theorem dX3_noBox_30 : decode cX3_noBox 30 = .ok (.bipush 38, 2) := dk_16 38 (dk_at dksX3_noBox_1 7 rfl rfl)
theorem dX3_noBox_32 : decode cX3_noBox 32 = .ok (.iaload, 1) := dk_46 (dk_at dksX3_noBox_1 9 rfl rfl)
theorem dX3_noBox_33 : decode cX3_noBox 33 = .ok (.invokestatic 124, 3) := dk_184 0 124 (dk_at dksX3_noBox_1 10 rfl rfl)
theorem dX3_noBox_36 : decode cX3_noBox 36 = .ok (.iconst 3, 1) := dk_6 (dk_at dksX3_noBox_1 13 rfl rfl)
theorem dX3_noBox_37 : decode cX3_noBox 37 = .ok (.if_icmp .eq 15, 3) := dk_159 0 15 (dk_at dksX3_noBox_1 14 rfl rfl)
theorem dX3_noBox_40 : decode cX3_noBox 40 = .ok (.aload_n 0, 1) := dk_42 (dk_at dksX3_noBox_1 17 rfl rfl)
theorem dX3_noBox_41 : decode cX3_noBox 41 = .ok (.getfield 7, 3) := dk_180 0 7 (dk_at dksX3_noBox_1 18 rfl rfl)
theorem dX3_noBox_44 : decode cX3_noBox 44 = .ok (.iconst 1, 1) := dk_4 (dk_at dksX3_noBox_1 21 rfl rfl)
theorem dX3_noBox_45 : decode cX3_noBox 45 = .ok (.iload_n 1, 1) := dk_27 (dk_at dksX3_noBox_1 22 rfl rfl)
theorem dX3_noBox_46 : decode cX3_noBox 46 = .ok (.iadd, 1) := dk_96 (dk_at dksX3_noBox_1 23 rfl rfl)
theorem dX3_noBox_47 : decode cX3_noBox 47 = .ok (.iaload, 1) := dk_46 (dk_at dksX3_noBox_2 0 rfl rfl)
theorem dX3_noBox_48 : decode cX3_noBox 48 = .ok (.iconst 5, 1) := dk_8 (dk_at dksX3_noBox_2 1 rfl rfl)
theorem dX3_noBox_49 : decode cX3_noBox 49 = .ok (.if_icmp .le 7, 3) := dk_164 0 7 (dk_at dksX3_noBox_2 2 rfl rfl)
theorem dX3_noBox_52 : decode cX3_noBox 52 = .ok (.iconst 2, 1) := dk_5 (dk_at dksX3_noBox_2 5 rfl rfl)
theorem dX3_noBox_53 : decode cX3_noBox 53 = .ok (.goto 4, 3) := dk_167 0 4 (dk_at dksX3_noBox_2 6 rfl rfl)
theorem dX3_noBox_56 : decode cX3_noBox 56 = .ok (.iconst 0, 1) := dk_3 (dk_at dksX3_noBox_2 9 rfl rfl)
theorem dX3_noBox_57 : decode cX3_noBox 57 = .ok (.ireturn, 1) := dk_172 (dk_at dksX3_noBox_2 10 rfl rfl)
abbrev cX3_setSecret : ByteArray := prog_9_method_37_code
def yX3_setSecret : MethodName := ⟨RX3, "setSecret", "(I)I"⟩
def dkwX3_setSecret_2 : List UInt8 := [16, 39, 27, 79, 42, 182, 0, 100, 28, 172]
abbrev dktX3_setSecret_2 : List UInt8 := dkwX3_setSecret_2 ++ []
def dkwX3_setSecret_1 : List UInt8 := [180, 0, 50, 158, 0, 5, 3, 172, 42, 182, 0, 69, 42, 180, 0, 7, 16, 39, 46, 61, 42, 180, 0, 7]
abbrev dktX3_setSecret_1 : List UInt8 := dkwX3_setSecret_1 ++ dktX3_setSecret_2
def dkwX3_setSecret_0 : List UInt8 := [42, 27, 2, 159, 0, 11, 42, 27, 182, 0, 103, 153, 0, 7, 3, 167, 0, 4, 4, 181, 0, 50, 42]
abbrev dktX3_setSecret_0 : List UInt8 := dkwX3_setSecret_0 ++ dktX3_setSecret_1
theorem dksX3_setSecret_0 : cX3_setSecret.data.toList.drop 0 = dktX3_setSecret_0 := by decide +kernel
theorem dksX3_setSecret_1 : cX3_setSecret.data.toList.drop 23 = dktX3_setSecret_1 := dk_seg dksX3_setSecret_0 23 rfl rfl
theorem dksX3_setSecret_2 : cX3_setSecret.data.toList.drop 47 = dktX3_setSecret_2 := dk_seg dksX3_setSecret_1 24 rfl rfl
theorem dX3_setSecret_0 : decode cX3_setSecret 0 = .ok (.aload_n 0, 1) := dk_42 (dk_at dksX3_setSecret_0 0 rfl rfl)
theorem dX3_setSecret_1 : decode cX3_setSecret 1 = .ok (.iload_n 1, 1) := dk_27 (dk_at dksX3_setSecret_0 1 rfl rfl)
theorem dX3_setSecret_2 : decode cX3_setSecret 2 = .ok (.iconst (-1), 1) := dk_2 (dk_at dksX3_setSecret_0 2 rfl rfl)
theorem dX3_setSecret_3 : decode cX3_setSecret 3 = .ok (.if_icmp .eq 11, 3) := dk_159 0 11 (dk_at dksX3_setSecret_0 3 rfl rfl)
theorem dX3_setSecret_6 : decode cX3_setSecret 6 = .ok (.aload_n 0, 1) := dk_42 (dk_at dksX3_setSecret_0 6 rfl rfl)
theorem dX3_setSecret_7 : decode cX3_setSecret 7 = .ok (.iload_n 1, 1) := dk_27 (dk_at dksX3_setSecret_0 7 rfl rfl)
theorem dX3_setSecret_8 : decode cX3_setSecret 8 = .ok (.invokevirtual 103, 3) := dk_182 0 103 (dk_at dksX3_setSecret_0 8 rfl rfl)
theorem dX3_setSecret_11 : decode cX3_setSecret 11 = .ok (.ifCond .eq 7, 3) := dk_153 0 7 (dk_at dksX3_setSecret_0 11 rfl rfl)
theorem dX3_setSecret_14 : decode cX3_setSecret 14 = .ok (.iconst 0, 1) := dk_3 (dk_at dksX3_setSecret_0 14 rfl rfl)
theorem dX3_setSecret_15 : decode cX3_setSecret 15 = .ok (.goto 4, 3) := dk_167 0 4 (dk_at dksX3_setSecret_0 15 rfl rfl)
theorem dX3_setSecret_18 : decode cX3_setSecret 18 = .ok (.iconst 1, 1) := dk_4 (dk_at dksX3_setSecret_0 18 rfl rfl)
theorem dX3_setSecret_19 : decode cX3_setSecret 19 = .ok (.putfield 50, 3) := dk_181 0 50 (dk_at dksX3_setSecret_0 19 rfl rfl)
theorem dX3_setSecret_22 : decode cX3_setSecret 22 = .ok (.aload_n 0, 1) := dk_42 (dk_at dksX3_setSecret_0 22 rfl rfl)
theorem dX3_setSecret_23 : decode cX3_setSecret 23 = .ok (.getfield 50, 3) := dk_180 0 50 (dk_at dksX3_setSecret_1 0 rfl rfl)
theorem dX3_setSecret_26 : decode cX3_setSecret 26 = .ok (.ifCond .le 5, 3) := dk_158 0 5 (dk_at dksX3_setSecret_1 3 rfl rfl)
theorem dX3_setSecret_29 : decode cX3_setSecret 29 = .ok (.iconst 0, 1) := dk_3 (dk_at dksX3_setSecret_1 6 rfl rfl)
theorem dX3_setSecret_30 : decode cX3_setSecret 30 = .ok (.ireturn, 1) := dk_172 (dk_at dksX3_setSecret_1 7 rfl rfl)
theorem dX3_setSecret_31 : decode cX3_setSecret 31 = .ok (.aload_n 0, 1) := dk_42 (dk_at dksX3_setSecret_1 8 rfl rfl)
theorem dX3_setSecret_32 : decode cX3_setSecret 32 = .ok (.invokevirtual 69, 3) := dk_182 0 69 (dk_at dksX3_setSecret_1 9 rfl rfl)
theorem dX3_setSecret_35 : decode cX3_setSecret 35 = .ok (.aload_n 0, 1) := dk_42 (dk_at dksX3_setSecret_1 12 rfl rfl)
theorem dX3_setSecret_36 : decode cX3_setSecret 36 = .ok (.getfield 7, 3) := dk_180 0 7 (dk_at dksX3_setSecret_1 13 rfl rfl)
theorem dX3_setSecret_39 : decode cX3_setSecret 39 = .ok (.bipush 39, 2) := dk_16 39 (dk_at dksX3_setSecret_1 16 rfl rfl)
theorem dX3_setSecret_41 : decode cX3_setSecret 41 = .ok (.iaload, 1) := dk_46 (dk_at dksX3_setSecret_1 18 rfl rfl)
theorem dX3_setSecret_42 : decode cX3_setSecret 42 = .ok (.istore_n 2, 1) := dk_61 (dk_at dksX3_setSecret_1 19 rfl rfl)
theorem dX3_setSecret_43 : decode cX3_setSecret 43 = .ok (.aload_n 0, 1) := dk_42 (dk_at dksX3_setSecret_1 20 rfl rfl)
theorem dX3_setSecret_44 : decode cX3_setSecret 44 = .ok (.getfield 7, 3) := dk_180 0 7 (dk_at dksX3_setSecret_1 21 rfl rfl)
theorem dX3_setSecret_47 : decode cX3_setSecret 47 = .ok (.bipush 39, 2) := dk_16 39 (dk_at dksX3_setSecret_2 0 rfl rfl)
theorem dX3_setSecret_49 : decode cX3_setSecret 49 = .ok (.iload_n 1, 1) := dk_27 (dk_at dksX3_setSecret_2 2 rfl rfl)
theorem dX3_setSecret_50 : decode cX3_setSecret 50 = .ok (.iastore, 1) := dk_79 (dk_at dksX3_setSecret_2 3 rfl rfl)
theorem dX3_setSecret_51 : decode cX3_setSecret 51 = .ok (.aload_n 0, 1) := dk_42 (dk_at dksX3_setSecret_2 4 rfl rfl)
theorem dX3_setSecret_52 : decode cX3_setSecret 52 = .ok (.invokevirtual 100, 3) := dk_182 0 100 (dk_at dksX3_setSecret_2 5 rfl rfl)
theorem dX3_setSecret_55 : decode cX3_setSecret 55 = .ok (.iload_n 2, 1) := dk_28 (dk_at dksX3_setSecret_2 8 rfl rfl)
theorem dX3_setSecret_56 : decode cX3_setSecret 56 = .ok (.ireturn, 1) := dk_172 (dk_at dksX3_setSecret_2 9 rfl rfl)
abbrev cX3_turnSuspicion : ByteArray := prog_9_method_39_code
def yX3_turnSuspicion : MethodName := ⟨RX3, "turnSuspicion", "()Z"⟩
def dkwX3_turnSuspicion_1 : List UInt8 := [4, 167, 0, 4, 3, 172]
abbrev dktX3_turnSuspicion_1 : List UInt8 := dkwX3_turnSuspicion_1 ++ []
def dkwX3_turnSuspicion_0 : List UInt8 := [42, 3, 181, 0, 50, 42, 182, 0, 69, 42, 182, 0, 138, 42, 180, 0, 7, 16, 40, 46, 4, 160, 0, 7]
abbrev dktX3_turnSuspicion_0 : List UInt8 := dkwX3_turnSuspicion_0 ++ dktX3_turnSuspicion_1
theorem dksX3_turnSuspicion_0 : cX3_turnSuspicion.data.toList.drop 0 = dktX3_turnSuspicion_0 := by decide +kernel
theorem dksX3_turnSuspicion_1 : cX3_turnSuspicion.data.toList.drop 24 = dktX3_turnSuspicion_1 := dk_seg dksX3_turnSuspicion_0 24 rfl rfl
theorem dX3_turnSuspicion_0 : decode cX3_turnSuspicion 0 = .ok (.aload_n 0, 1) := dk_42 (dk_at dksX3_turnSuspicion_0 0 rfl rfl)
theorem dX3_turnSuspicion_1 : decode cX3_turnSuspicion 1 = .ok (.iconst 0, 1) := dk_3 (dk_at dksX3_turnSuspicion_0 1 rfl rfl)
theorem dX3_turnSuspicion_2 : decode cX3_turnSuspicion 2 = .ok (.putfield 50, 3) := dk_181 0 50 (dk_at dksX3_turnSuspicion_0 2 rfl rfl)
theorem dX3_turnSuspicion_5 : decode cX3_turnSuspicion 5 = .ok (.aload_n 0, 1) := dk_42 (dk_at dksX3_turnSuspicion_0 5 rfl rfl)
theorem dX3_turnSuspicion_6 : decode cX3_turnSuspicion 6 = .ok (.invokevirtual 69, 3) := dk_182 0 69 (dk_at dksX3_turnSuspicion_0 6 rfl rfl)
theorem dX3_turnSuspicion_9 : decode cX3_turnSuspicion 9 = .ok (.aload_n 0, 1) := dk_42 (dk_at dksX3_turnSuspicion_0 9 rfl rfl)
theorem dX3_turnSuspicion_10 : decode cX3_turnSuspicion 10 = .ok (.invokevirtual 138, 3) := dk_182 0 138 (dk_at dksX3_turnSuspicion_0 10 rfl rfl)
theorem dX3_turnSuspicion_13 : decode cX3_turnSuspicion 13 = .ok (.aload_n 0, 1) := dk_42 (dk_at dksX3_turnSuspicion_0 13 rfl rfl)
theorem dX3_turnSuspicion_14 : decode cX3_turnSuspicion 14 = .ok (.getfield 7, 3) := dk_180 0 7 (dk_at dksX3_turnSuspicion_0 14 rfl rfl)
theorem dX3_turnSuspicion_17 : decode cX3_turnSuspicion 17 = .ok (.bipush 40, 2) := dk_16 40 (dk_at dksX3_turnSuspicion_0 17 rfl rfl)
theorem dX3_turnSuspicion_19 : decode cX3_turnSuspicion 19 = .ok (.iaload, 1) := dk_46 (dk_at dksX3_turnSuspicion_0 19 rfl rfl)
theorem dX3_turnSuspicion_20 : decode cX3_turnSuspicion 20 = .ok (.iconst 1, 1) := dk_4 (dk_at dksX3_turnSuspicion_0 20 rfl rfl)
theorem dX3_turnSuspicion_21 : decode cX3_turnSuspicion 21 = .ok (.if_icmp .ne 7, 3) := dk_160 0 7 (dk_at dksX3_turnSuspicion_0 21 rfl rfl)
theorem dX3_turnSuspicion_24 : decode cX3_turnSuspicion 24 = .ok (.iconst 1, 1) := dk_4 (dk_at dksX3_turnSuspicion_1 0 rfl rfl)
theorem dX3_turnSuspicion_25 : decode cX3_turnSuspicion 25 = .ok (.goto 4, 3) := dk_167 0 4 (dk_at dksX3_turnSuspicion_1 1 rfl rfl)
theorem dX3_turnSuspicion_28 : decode cX3_turnSuspicion 28 = .ok (.iconst 0, 1) := dk_3 (dk_at dksX3_turnSuspicion_1 4 rfl rfl)
theorem dX3_turnSuspicion_29 : decode cX3_turnSuspicion 29 = .ok (.ireturn, 1) := dk_172 (dk_at dksX3_turnSuspicion_1 5 rfl rfl)
abbrev cX3_suspects : ByteArray := prog_9_method_38_code
def yX3_suspects : MethodName := ⟨RX3, "suspects", "()V"⟩
def dkwX3_suspects_0 : List UInt8 := [42, 180, 0, 7, 16, 40, 4, 42, 180, 0, 7, 16, 40, 46, 100, 79, 42, 182, 0, 100, 177]
abbrev dktX3_suspects_0 : List UInt8 := dkwX3_suspects_0 ++ []
theorem dksX3_suspects_0 : cX3_suspects.data.toList.drop 0 = dktX3_suspects_0 := by decide +kernel
theorem dX3_suspects_0 : decode cX3_suspects 0 = .ok (.aload_n 0, 1) := dk_42 (dk_at dksX3_suspects_0 0 rfl rfl)
theorem dX3_suspects_1 : decode cX3_suspects 1 = .ok (.getfield 7, 3) := dk_180 0 7 (dk_at dksX3_suspects_0 1 rfl rfl)
theorem dX3_suspects_4 : decode cX3_suspects 4 = .ok (.bipush 40, 2) := dk_16 40 (dk_at dksX3_suspects_0 4 rfl rfl)
theorem dX3_suspects_6 : decode cX3_suspects 6 = .ok (.iconst 1, 1) := dk_4 (dk_at dksX3_suspects_0 6 rfl rfl)
theorem dX3_suspects_7 : decode cX3_suspects 7 = .ok (.aload_n 0, 1) := dk_42 (dk_at dksX3_suspects_0 7 rfl rfl)
theorem dX3_suspects_8 : decode cX3_suspects 8 = .ok (.getfield 7, 3) := dk_180 0 7 (dk_at dksX3_suspects_0 8 rfl rfl)
theorem dX3_suspects_11 : decode cX3_suspects 11 = .ok (.bipush 40, 2) := dk_16 40 (dk_at dksX3_suspects_0 11 rfl rfl)
theorem dX3_suspects_13 : decode cX3_suspects 13 = .ok (.iaload, 1) := dk_46 (dk_at dksX3_suspects_0 13 rfl rfl)
theorem dX3_suspects_14 : decode cX3_suspects 14 = .ok (.isub, 1) := dk_100 (dk_at dksX3_suspects_0 14 rfl rfl)
theorem dX3_suspects_15 : decode cX3_suspects 15 = .ok (.iastore, 1) := dk_79 (dk_at dksX3_suspects_0 15 rfl rfl)
theorem dX3_suspects_16 : decode cX3_suspects 16 = .ok (.aload_n 0, 1) := dk_42 (dk_at dksX3_suspects_0 16 rfl rfl)
theorem dX3_suspects_17 : decode cX3_suspects 17 = .ok (.invokevirtual 100, 3) := dk_182 0 100 (dk_at dksX3_suspects_0 17 rfl rfl)
theorem dX3_suspects_20 : decode cX3_suspects 20 = .ok (.return_, 1) := dk_177 (dk_at dksX3_suspects_0 20 rfl rfl)
abbrev cX3_ask : ByteArray := prog_9_method_41_code
def yX3_ask : MethodName := ⟨RX3, "ask", "(I)I"⟩
def dkwX3_ask_2 : List UInt8 := [42, 27, 182, 0, 144, 172]
abbrev dktX3_ask_2 : List UInt8 := dkwX3_ask_2 ++ []
def dkwX3_ask_1 : List UInt8 := [160, 0, 7, 5, 167, 0, 4, 3, 181, 0, 50, 42, 180, 0, 50, 158, 0, 5, 3, 172, 42, 182, 0, 69]
abbrev dktX3_ask_1 : List UInt8 := dkwX3_ask_1 ++ dktX3_ask_2
def dkwX3_ask_0 : List UInt8 := [42, 27, 3, 16, 63, 184, 0, 58, 154, 0, 7, 4, 167, 0, 20, 42, 180, 0, 7, 16, 41, 46, 16, 12]
abbrev dktX3_ask_0 : List UInt8 := dkwX3_ask_0 ++ dktX3_ask_1
theorem dksX3_ask_0 : cX3_ask.data.toList.drop 0 = dktX3_ask_0 := by decide +kernel
theorem dksX3_ask_1 : cX3_ask.data.toList.drop 24 = dktX3_ask_1 := dk_seg dksX3_ask_0 24 rfl rfl
theorem dksX3_ask_2 : cX3_ask.data.toList.drop 48 = dktX3_ask_2 := dk_seg dksX3_ask_1 24 rfl rfl
theorem dX3_ask_0 : decode cX3_ask 0 = .ok (.aload_n 0, 1) := dk_42 (dk_at dksX3_ask_0 0 rfl rfl)
theorem dX3_ask_1 : decode cX3_ask 1 = .ok (.iload_n 1, 1) := dk_27 (dk_at dksX3_ask_0 1 rfl rfl)
theorem dX3_ask_2 : decode cX3_ask 2 = .ok (.iconst 0, 1) := dk_3 (dk_at dksX3_ask_0 2 rfl rfl)
theorem dX3_ask_3 : decode cX3_ask 3 = .ok (.bipush 63, 2) := dk_16 63 (dk_at dksX3_ask_0 3 rfl rfl)
theorem dX3_ask_5 : decode cX3_ask 5 = .ok (.invokestatic 58, 3) := dk_184 0 58 (dk_at dksX3_ask_0 5 rfl rfl)
theorem dX3_ask_8 : decode cX3_ask 8 = .ok (.ifCond .ne 7, 3) := dk_154 0 7 (dk_at dksX3_ask_0 8 rfl rfl)
theorem dX3_ask_11 : decode cX3_ask 11 = .ok (.iconst 1, 1) := dk_4 (dk_at dksX3_ask_0 11 rfl rfl)
theorem dX3_ask_12 : decode cX3_ask 12 = .ok (.goto 20, 3) := dk_167 0 20 (dk_at dksX3_ask_0 12 rfl rfl)
theorem dX3_ask_15 : decode cX3_ask 15 = .ok (.aload_n 0, 1) := dk_42 (dk_at dksX3_ask_0 15 rfl rfl)
theorem dX3_ask_16 : decode cX3_ask 16 = .ok (.getfield 7, 3) := dk_180 0 7 (dk_at dksX3_ask_0 16 rfl rfl)
theorem dX3_ask_19 : decode cX3_ask 19 = .ok (.bipush 41, 2) := dk_16 41 (dk_at dksX3_ask_0 19 rfl rfl)
theorem dX3_ask_21 : decode cX3_ask 21 = .ok (.iaload, 1) := dk_46 (dk_at dksX3_ask_0 21 rfl rfl)
theorem dX3_ask_22 : decode cX3_ask 22 = .ok (.bipush 12, 2) := dk_16 12 (dk_at dksX3_ask_0 22 rfl rfl)
theorem dX3_ask_24 : decode cX3_ask 24 = .ok (.if_icmp .ne 7, 3) := dk_160 0 7 (dk_at dksX3_ask_1 0 rfl rfl)
theorem dX3_ask_27 : decode cX3_ask 27 = .ok (.iconst 2, 1) := dk_5 (dk_at dksX3_ask_1 3 rfl rfl)
theorem dX3_ask_28 : decode cX3_ask 28 = .ok (.goto 4, 3) := dk_167 0 4 (dk_at dksX3_ask_1 4 rfl rfl)
theorem dX3_ask_31 : decode cX3_ask 31 = .ok (.iconst 0, 1) := dk_3 (dk_at dksX3_ask_1 7 rfl rfl)
theorem dX3_ask_32 : decode cX3_ask 32 = .ok (.putfield 50, 3) := dk_181 0 50 (dk_at dksX3_ask_1 8 rfl rfl)
theorem dX3_ask_35 : decode cX3_ask 35 = .ok (.aload_n 0, 1) := dk_42 (dk_at dksX3_ask_1 11 rfl rfl)
theorem dX3_ask_36 : decode cX3_ask 36 = .ok (.getfield 50, 3) := dk_180 0 50 (dk_at dksX3_ask_1 12 rfl rfl)
theorem dX3_ask_39 : decode cX3_ask 39 = .ok (.ifCond .le 5, 3) := dk_158 0 5 (dk_at dksX3_ask_1 15 rfl rfl)
theorem dX3_ask_42 : decode cX3_ask 42 = .ok (.iconst 0, 1) := dk_3 (dk_at dksX3_ask_1 18 rfl rfl)
theorem dX3_ask_43 : decode cX3_ask 43 = .ok (.ireturn, 1) := dk_172 (dk_at dksX3_ask_1 19 rfl rfl)
theorem dX3_ask_44 : decode cX3_ask 44 = .ok (.aload_n 0, 1) := dk_42 (dk_at dksX3_ask_1 20 rfl rfl)
theorem dX3_ask_45 : decode cX3_ask 45 = .ok (.invokevirtual 69, 3) := dk_182 0 69 (dk_at dksX3_ask_1 21 rfl rfl)
theorem dX3_ask_48 : decode cX3_ask 48 = .ok (.aload_n 0, 1) := dk_42 (dk_at dksX3_ask_2 0 rfl rfl)
theorem dX3_ask_49 : decode cX3_ask 49 = .ok (.iload_n 1, 1) := dk_27 (dk_at dksX3_ask_2 1 rfl rfl)
theorem dX3_ask_50 : decode cX3_ask 50 = .ok (.invokevirtual 144, 3) := dk_182 0 144 (dk_at dksX3_ask_2 2 rfl rfl)
theorem dX3_ask_53 : decode cX3_ask 53 = .ok (.ireturn, 1) := dk_172 (dk_at dksX3_ask_2 5 rfl rfl)
abbrev cX3_asks : ByteArray := prog_9_method_40_code
def yX3_asks : MethodName := ⟨RX3, "asks", "(I)I"⟩
def dkwX3_asks_2 : List UInt8 := [16, 41, 92, 46, 4, 96, 79, 42, 180, 0, 7, 16, 54, 28, 96, 46, 172]
abbrev dktX3_asks_2 : List UInt8 := dkwX3_asks_2 ++ []
def dkwX3_asks_1 : List UInt8 := [16, 42, 28, 96, 27, 79, 42, 180, 0, 7, 16, 54, 28, 96, 42, 27, 182, 0, 141, 79, 42, 180, 0, 7]
abbrev dktX3_asks_1 : List UInt8 := dkwX3_asks_1 ++ dktX3_asks_2
def dkwX3_asks_0 : List UInt8 := [42, 2, 42, 180, 0, 7, 16, 39, 46, 182, 0, 93, 42, 180, 0, 7, 16, 41, 46, 61, 42, 180, 0, 7]
abbrev dktX3_asks_0 : List UInt8 := dkwX3_asks_0 ++ dktX3_asks_1
theorem dksX3_asks_0 : cX3_asks.data.toList.drop 0 = dktX3_asks_0 := by decide +kernel
theorem dksX3_asks_1 : cX3_asks.data.toList.drop 24 = dktX3_asks_1 := dk_seg dksX3_asks_0 24 rfl rfl
theorem dksX3_asks_2 : cX3_asks.data.toList.drop 48 = dktX3_asks_2 := dk_seg dksX3_asks_1 24 rfl rfl
theorem dX3_asks_0 : decode cX3_asks 0 = .ok (.aload_n 0, 1) := dk_42 (dk_at dksX3_asks_0 0 rfl rfl)
theorem dX3_asks_1 : decode cX3_asks 1 = .ok (.iconst (-1), 1) := dk_2 (dk_at dksX3_asks_0 1 rfl rfl)
theorem dX3_asks_2 : decode cX3_asks 2 = .ok (.aload_n 0, 1) := dk_42 (dk_at dksX3_asks_0 2 rfl rfl)
theorem dX3_asks_3 : decode cX3_asks 3 = .ok (.getfield 7, 3) := dk_180 0 7 (dk_at dksX3_asks_0 3 rfl rfl)
theorem dX3_asks_6 : decode cX3_asks 6 = .ok (.bipush 39, 2) := dk_16 39 (dk_at dksX3_asks_0 6 rfl rfl)
theorem dX3_asks_8 : decode cX3_asks 8 = .ok (.iaload, 1) := dk_46 (dk_at dksX3_asks_0 8 rfl rfl)
theorem dX3_asks_9 : decode cX3_asks 9 = .ok (.invokevirtual 93, 3) := dk_182 0 93 (dk_at dksX3_asks_0 9 rfl rfl)
theorem dX3_asks_12 : decode cX3_asks 12 = .ok (.aload_n 0, 1) := dk_42 (dk_at dksX3_asks_0 12 rfl rfl)
theorem dX3_asks_13 : decode cX3_asks 13 = .ok (.getfield 7, 3) := dk_180 0 7 (dk_at dksX3_asks_0 13 rfl rfl)
theorem dX3_asks_16 : decode cX3_asks 16 = .ok (.bipush 41, 2) := dk_16 41 (dk_at dksX3_asks_0 16 rfl rfl)
theorem dX3_asks_18 : decode cX3_asks 18 = .ok (.iaload, 1) := dk_46 (dk_at dksX3_asks_0 18 rfl rfl)
theorem dX3_asks_19 : decode cX3_asks 19 = .ok (.istore_n 2, 1) := dk_61 (dk_at dksX3_asks_0 19 rfl rfl)
theorem dX3_asks_20 : decode cX3_asks 20 = .ok (.aload_n 0, 1) := dk_42 (dk_at dksX3_asks_0 20 rfl rfl)
theorem dX3_asks_21 : decode cX3_asks 21 = .ok (.getfield 7, 3) := dk_180 0 7 (dk_at dksX3_asks_0 21 rfl rfl)
theorem dX3_asks_24 : decode cX3_asks 24 = .ok (.bipush 42, 2) := dk_16 42 (dk_at dksX3_asks_1 0 rfl rfl)
theorem dX3_asks_26 : decode cX3_asks 26 = .ok (.iload_n 2, 1) := dk_28 (dk_at dksX3_asks_1 2 rfl rfl)
theorem dX3_asks_27 : decode cX3_asks 27 = .ok (.iadd, 1) := dk_96 (dk_at dksX3_asks_1 3 rfl rfl)
theorem dX3_asks_28 : decode cX3_asks 28 = .ok (.iload_n 1, 1) := dk_27 (dk_at dksX3_asks_1 4 rfl rfl)
theorem dX3_asks_29 : decode cX3_asks 29 = .ok (.iastore, 1) := dk_79 (dk_at dksX3_asks_1 5 rfl rfl)
theorem dX3_asks_30 : decode cX3_asks 30 = .ok (.aload_n 0, 1) := dk_42 (dk_at dksX3_asks_1 6 rfl rfl)
theorem dX3_asks_31 : decode cX3_asks 31 = .ok (.getfield 7, 3) := dk_180 0 7 (dk_at dksX3_asks_1 7 rfl rfl)
theorem dX3_asks_34 : decode cX3_asks 34 = .ok (.bipush 54, 2) := dk_16 54 (dk_at dksX3_asks_1 10 rfl rfl)
theorem dX3_asks_36 : decode cX3_asks 36 = .ok (.iload_n 2, 1) := dk_28 (dk_at dksX3_asks_1 12 rfl rfl)
theorem dX3_asks_37 : decode cX3_asks 37 = .ok (.iadd, 1) := dk_96 (dk_at dksX3_asks_1 13 rfl rfl)
theorem dX3_asks_38 : decode cX3_asks 38 = .ok (.aload_n 0, 1) := dk_42 (dk_at dksX3_asks_1 14 rfl rfl)
theorem dX3_asks_39 : decode cX3_asks 39 = .ok (.iload_n 1, 1) := dk_27 (dk_at dksX3_asks_1 15 rfl rfl)
theorem dX3_asks_40 : decode cX3_asks 40 = .ok (.invokevirtual 141, 3) := dk_182 0 141 (dk_at dksX3_asks_1 16 rfl rfl)
theorem dX3_asks_43 : decode cX3_asks 43 = .ok (.iastore, 1) := dk_79 (dk_at dksX3_asks_1 19 rfl rfl)
theorem dX3_asks_44 : decode cX3_asks 44 = .ok (.aload_n 0, 1) := dk_42 (dk_at dksX3_asks_1 20 rfl rfl)
theorem dX3_asks_45 : decode cX3_asks 45 = .ok (.getfield 7, 3) := dk_180 0 7 (dk_at dksX3_asks_1 21 rfl rfl)
theorem dX3_asks_48 : decode cX3_asks 48 = .ok (.bipush 41, 2) := dk_16 41 (dk_at dksX3_asks_2 0 rfl rfl)
theorem dX3_asks_50 : decode cX3_asks 50 = .ok (.dup2, 1) := dk_92 (dk_at dksX3_asks_2 2 rfl rfl)
theorem dX3_asks_51 : decode cX3_asks 51 = .ok (.iaload, 1) := dk_46 (dk_at dksX3_asks_2 3 rfl rfl)
theorem dX3_asks_52 : decode cX3_asks 52 = .ok (.iconst 1, 1) := dk_4 (dk_at dksX3_asks_2 4 rfl rfl)
theorem dX3_asks_53 : decode cX3_asks 53 = .ok (.iadd, 1) := dk_96 (dk_at dksX3_asks_2 5 rfl rfl)
theorem dX3_asks_54 : decode cX3_asks 54 = .ok (.iastore, 1) := dk_79 (dk_at dksX3_asks_2 6 rfl rfl)
theorem dX3_asks_55 : decode cX3_asks 55 = .ok (.aload_n 0, 1) := dk_42 (dk_at dksX3_asks_2 7 rfl rfl)
theorem dX3_asks_56 : decode cX3_asks 56 = .ok (.getfield 7, 3) := dk_180 0 7 (dk_at dksX3_asks_2 8 rfl rfl)
theorem dX3_asks_59 : decode cX3_asks 59 = .ok (.bipush 54, 2) := dk_16 54 (dk_at dksX3_asks_2 11 rfl rfl)
theorem dX3_asks_61 : decode cX3_asks 61 = .ok (.iload_n 2, 1) := dk_28 (dk_at dksX3_asks_2 13 rfl rfl)
theorem dX3_asks_62 : decode cX3_asks 62 = .ok (.iadd, 1) := dk_96 (dk_at dksX3_asks_2 14 rfl rfl)
theorem dX3_asks_63 : decode cX3_asks 63 = .ok (.iaload, 1) := dk_46 (dk_at dksX3_asks_2 15 rfl rfl)
theorem dX3_asks_64 : decode cX3_asks 64 = .ok (.ireturn, 1) := dk_172 (dk_at dksX3_asks_2 16 rfl rfl)
abbrev cX3_lay : ByteArray := prog_9_method_19_code
def yX3_lay : MethodName := ⟨RX3, "lay", "(II)V"⟩
def dkwX3_lay_8 : List UInt8 := [180, 0, 22, 21, 4, 47, 80, 42, 89, 180, 0, 90, 4, 96, 181, 0, 90, 132, 4, 1, 167, 255, 203, 177]
abbrev dktX3_lay_8 : List UInt8 := dkwX3_lay_8 ++ []
def dkwX3_lay_7 : List UInt8 := [42, 180, 0, 7, 16, 37, 46, 21, 4, 184, 0, 82, 153, 0, 29, 42, 180, 0, 26, 42, 180, 0, 90, 42]
abbrev dktX3_lay_7 : List UInt8 := dkwX3_lay_7 ++ dktX3_lay_8
def dkwX3_lay_6 : List UInt8 := [80, 132, 4, 1, 167, 255, 145, 42, 3, 181, 0, 90, 3, 54, 4, 21, 4, 42, 182, 0, 54, 162, 0, 50]
abbrev dktX3_lay_6 : List UInt8 := dkwX3_lay_6 ++ dktX3_lay_7
def dkwX3_lay_5 : List UInt8 := [96, 46, 47, 42, 180, 0, 22, 42, 180, 0, 7, 16, 25, 21, 4, 96, 46, 47, 184, 0, 86, 182, 0, 78]
abbrev dktX3_lay_5 : List UInt8 := dkwX3_lay_5 ++ dktX3_lay_6
def dkwX3_lay_4 : List UInt8 := [21, 4, 96, 42, 16, 6, 21, 4, 96, 28, 21, 5, 42, 180, 0, 22, 42, 180, 0, 7, 16, 13, 21, 4]
abbrev dktX3_lay_4 : List UInt8 := dkwX3_lay_4 ++ dktX3_lay_5
def dkwX3_lay_3 : List UInt8 := [184, 0, 82, 153, 0, 14, 29, 16, 6, 112, 54, 5, 29, 16, 6, 108, 62, 42, 180, 0, 22, 16, 6]
abbrev dktX3_lay_3 : List UInt8 := dkwX3_lay_3 ++ dktX3_lay_4
def dkwX3_lay_2 : List UInt8 := [180, 0, 7, 4, 21, 4, 96, 46, 54, 5, 27, 2, 159, 0, 29, 42, 180, 0, 7, 16, 38, 46, 21, 4]
abbrev dktX3_lay_2 : List UInt8 := dkwX3_lay_2 ++ dktX3_lay_3
def dkwX3_lay_1 : List UInt8 := [132, 3, 1, 167, 255, 231, 27, 62, 3, 54, 4, 21, 4, 42, 180, 0, 7, 3, 46, 162, 0, 106, 42]
abbrev dktX3_lay_1 : List UInt8 := dkwX3_lay_1 ++ dktX3_lay_2
def dkwX3_lay_0 : List UInt8 := [3, 62, 29, 16, 6, 162, 0, 25, 42, 180, 0, 22, 29, 42, 29, 28, 29, 184, 0, 74, 182, 0, 78, 80]
abbrev dktX3_lay_0 : List UInt8 := dkwX3_lay_0 ++ dktX3_lay_1
theorem dksX3_lay_0 : cX3_lay.data.toList.drop 0 = dktX3_lay_0 := by decide +kernel
theorem dksX3_lay_1 : cX3_lay.data.toList.drop 24 = dktX3_lay_1 := dk_seg dksX3_lay_0 24 rfl rfl
theorem dksX3_lay_2 : cX3_lay.data.toList.drop 47 = dktX3_lay_2 := dk_seg dksX3_lay_1 23 rfl rfl
theorem dksX3_lay_3 : cX3_lay.data.toList.drop 71 = dktX3_lay_3 := dk_seg dksX3_lay_2 24 rfl rfl
theorem dksX3_lay_4 : cX3_lay.data.toList.drop 94 = dktX3_lay_4 := dk_seg dksX3_lay_3 23 rfl rfl
theorem dksX3_lay_5 : cX3_lay.data.toList.drop 118 = dktX3_lay_5 := dk_seg dksX3_lay_4 24 rfl rfl
theorem dksX3_lay_6 : cX3_lay.data.toList.drop 142 = dktX3_lay_6 := dk_seg dksX3_lay_5 24 rfl rfl
theorem dksX3_lay_7 : cX3_lay.data.toList.drop 166 = dktX3_lay_7 := dk_seg dksX3_lay_6 24 rfl rfl
theorem dksX3_lay_8 : cX3_lay.data.toList.drop 190 = dktX3_lay_8 := dk_seg dksX3_lay_7 24 rfl rfl
theorem dX3_lay_0 : decode cX3_lay 0 = .ok (.iconst 0, 1) := dk_3 (dk_at dksX3_lay_0 0 rfl rfl)
theorem dX3_lay_1 : decode cX3_lay 1 = .ok (.istore_n 3, 1) := dk_62 (dk_at dksX3_lay_0 1 rfl rfl)
theorem dX3_lay_2 : decode cX3_lay 2 = .ok (.iload_n 3, 1) := dk_29 (dk_at dksX3_lay_0 2 rfl rfl)
theorem dX3_lay_3 : decode cX3_lay 3 = .ok (.bipush 6, 2) := dk_16 6 (dk_at dksX3_lay_0 3 rfl rfl)
theorem dX3_lay_5 : decode cX3_lay 5 = .ok (.if_icmp .ge 25, 3) := dk_162 0 25 (dk_at dksX3_lay_0 5 rfl rfl)
theorem dX3_lay_8 : decode cX3_lay 8 = .ok (.aload_n 0, 1) := dk_42 (dk_at dksX3_lay_0 8 rfl rfl)
theorem dX3_lay_9 : decode cX3_lay 9 = .ok (.getfield 22, 3) := dk_180 0 22 (dk_at dksX3_lay_0 9 rfl rfl)
theorem dX3_lay_12 : decode cX3_lay 12 = .ok (.iload_n 3, 1) := dk_29 (dk_at dksX3_lay_0 12 rfl rfl)
theorem dX3_lay_13 : decode cX3_lay 13 = .ok (.aload_n 0, 1) := dk_42 (dk_at dksX3_lay_0 13 rfl rfl)
theorem dX3_lay_14 : decode cX3_lay 14 = .ok (.iload_n 3, 1) := dk_29 (dk_at dksX3_lay_0 14 rfl rfl)
theorem dX3_lay_15 : decode cX3_lay 15 = .ok (.iload_n 2, 1) := dk_28 (dk_at dksX3_lay_0 15 rfl rfl)
theorem dX3_lay_16 : decode cX3_lay 16 = .ok (.iload_n 3, 1) := dk_29 (dk_at dksX3_lay_0 16 rfl rfl)
theorem dX3_lay_17 : decode cX3_lay 17 = .ok (.invokestatic 74, 3) := dk_184 0 74 (dk_at dksX3_lay_0 17 rfl rfl)
theorem dX3_lay_20 : decode cX3_lay 20 = .ok (.invokevirtual 78, 3) := dk_182 0 78 (dk_at dksX3_lay_0 20 rfl rfl)
theorem dX3_lay_23 : decode cX3_lay 23 = .ok (.lastore, 1) := dk_80 (dk_at dksX3_lay_0 23 rfl rfl)
theorem dX3_lay_24 : decode cX3_lay 24 = .ok (.iinc 3 1, 3) := dk_132 3 1 (dk_at dksX3_lay_1 0 rfl rfl)
theorem dX3_lay_27 : decode cX3_lay 27 = .ok (.goto (-25), 3) := dk_167 255 231 (dk_at dksX3_lay_1 3 rfl rfl)
theorem dX3_lay_30 : decode cX3_lay 30 = .ok (.iload_n 1, 1) := dk_27 (dk_at dksX3_lay_1 6 rfl rfl)
theorem dX3_lay_31 : decode cX3_lay 31 = .ok (.istore_n 3, 1) := dk_62 (dk_at dksX3_lay_1 7 rfl rfl)
theorem dX3_lay_32 : decode cX3_lay 32 = .ok (.iconst 0, 1) := dk_3 (dk_at dksX3_lay_1 8 rfl rfl)
theorem dX3_lay_33 : decode cX3_lay 33 = .ok (.istore 4, 2) := dk_54 4 (dk_at dksX3_lay_1 9 rfl rfl)
theorem dX3_lay_35 : decode cX3_lay 35 = .ok (.iload 4, 2) := dk_21 4 (dk_at dksX3_lay_1 11 rfl rfl)
theorem dX3_lay_37 : decode cX3_lay 37 = .ok (.aload_n 0, 1) := dk_42 (dk_at dksX3_lay_1 13 rfl rfl)
theorem dX3_lay_38 : decode cX3_lay 38 = .ok (.getfield 7, 3) := dk_180 0 7 (dk_at dksX3_lay_1 14 rfl rfl)
theorem dX3_lay_41 : decode cX3_lay 41 = .ok (.iconst 0, 1) := dk_3 (dk_at dksX3_lay_1 17 rfl rfl)
theorem dX3_lay_42 : decode cX3_lay 42 = .ok (.iaload, 1) := dk_46 (dk_at dksX3_lay_1 18 rfl rfl)
theorem dX3_lay_43 : decode cX3_lay 43 = .ok (.if_icmp .ge 106, 3) := dk_162 0 106 (dk_at dksX3_lay_1 19 rfl rfl)
theorem dX3_lay_46 : decode cX3_lay 46 = .ok (.aload_n 0, 1) := dk_42 (dk_at dksX3_lay_1 22 rfl rfl)
theorem dX3_lay_47 : decode cX3_lay 47 = .ok (.getfield 7, 3) := dk_180 0 7 (dk_at dksX3_lay_2 0 rfl rfl)
theorem dX3_lay_50 : decode cX3_lay 50 = .ok (.iconst 1, 1) := dk_4 (dk_at dksX3_lay_2 3 rfl rfl)
theorem dX3_lay_51 : decode cX3_lay 51 = .ok (.iload 4, 2) := dk_21 4 (dk_at dksX3_lay_2 4 rfl rfl)
theorem dX3_lay_53 : decode cX3_lay 53 = .ok (.iadd, 1) := dk_96 (dk_at dksX3_lay_2 6 rfl rfl)
theorem dX3_lay_54 : decode cX3_lay 54 = .ok (.iaload, 1) := dk_46 (dk_at dksX3_lay_2 7 rfl rfl)
theorem dX3_lay_55 : decode cX3_lay 55 = .ok (.istore 5, 2) := dk_54 5 (dk_at dksX3_lay_2 8 rfl rfl)
theorem dX3_lay_57 : decode cX3_lay 57 = .ok (.iload_n 1, 1) := dk_27 (dk_at dksX3_lay_2 10 rfl rfl)
theorem dX3_lay_58 : decode cX3_lay 58 = .ok (.iconst (-1), 1) := dk_2 (dk_at dksX3_lay_2 11 rfl rfl)
theorem dX3_lay_59 : decode cX3_lay 59 = .ok (.if_icmp .eq 29, 3) := dk_159 0 29 (dk_at dksX3_lay_2 12 rfl rfl)
theorem dX3_lay_62 : decode cX3_lay 62 = .ok (.aload_n 0, 1) := dk_42 (dk_at dksX3_lay_2 15 rfl rfl)
theorem dX3_lay_63 : decode cX3_lay 63 = .ok (.getfield 7, 3) := dk_180 0 7 (dk_at dksX3_lay_2 16 rfl rfl)
theorem dX3_lay_66 : decode cX3_lay 66 = .ok (.bipush 38, 2) := dk_16 38 (dk_at dksX3_lay_2 19 rfl rfl)
theorem dX3_lay_68 : decode cX3_lay 68 = .ok (.iaload, 1) := dk_46 (dk_at dksX3_lay_2 21 rfl rfl)
theorem dX3_lay_69 : decode cX3_lay 69 = .ok (.iload 4, 2) := dk_21 4 (dk_at dksX3_lay_2 22 rfl rfl)
theorem dX3_lay_71 : decode cX3_lay 71 = .ok (.invokestatic 82, 3) := dk_184 0 82 (dk_at dksX3_lay_3 0 rfl rfl)
theorem dX3_lay_74 : decode cX3_lay 74 = .ok (.ifCond .eq 14, 3) := dk_153 0 14 (dk_at dksX3_lay_3 3 rfl rfl)
theorem dX3_lay_77 : decode cX3_lay 77 = .ok (.iload_n 3, 1) := dk_29 (dk_at dksX3_lay_3 6 rfl rfl)
theorem dX3_lay_78 : decode cX3_lay 78 = .ok (.bipush 6, 2) := dk_16 6 (dk_at dksX3_lay_3 7 rfl rfl)
theorem dX3_lay_80 : decode cX3_lay 80 = .ok (.irem, 1) := dk_112 (dk_at dksX3_lay_3 9 rfl rfl)
theorem dX3_lay_81 : decode cX3_lay 81 = .ok (.istore 5, 2) := dk_54 5 (dk_at dksX3_lay_3 10 rfl rfl)
theorem dX3_lay_83 : decode cX3_lay 83 = .ok (.iload_n 3, 1) := dk_29 (dk_at dksX3_lay_3 12 rfl rfl)
theorem dX3_lay_84 : decode cX3_lay 84 = .ok (.bipush 6, 2) := dk_16 6 (dk_at dksX3_lay_3 13 rfl rfl)
theorem dX3_lay_86 : decode cX3_lay 86 = .ok (.idiv, 1) := dk_108 (dk_at dksX3_lay_3 15 rfl rfl)
theorem dX3_lay_87 : decode cX3_lay 87 = .ok (.istore_n 3, 1) := dk_62 (dk_at dksX3_lay_3 16 rfl rfl)
theorem dX3_lay_88 : decode cX3_lay 88 = .ok (.aload_n 0, 1) := dk_42 (dk_at dksX3_lay_3 17 rfl rfl)
theorem dX3_lay_89 : decode cX3_lay 89 = .ok (.getfield 22, 3) := dk_180 0 22 (dk_at dksX3_lay_3 18 rfl rfl)
theorem dX3_lay_92 : decode cX3_lay 92 = .ok (.bipush 6, 2) := dk_16 6 (dk_at dksX3_lay_3 21 rfl rfl)
theorem dX3_lay_94 : decode cX3_lay 94 = .ok (.iload 4, 2) := dk_21 4 (dk_at dksX3_lay_4 0 rfl rfl)
theorem dX3_lay_96 : decode cX3_lay 96 = .ok (.iadd, 1) := dk_96 (dk_at dksX3_lay_4 2 rfl rfl)
theorem dX3_lay_97 : decode cX3_lay 97 = .ok (.aload_n 0, 1) := dk_42 (dk_at dksX3_lay_4 3 rfl rfl)
theorem dX3_lay_98 : decode cX3_lay 98 = .ok (.bipush 6, 2) := dk_16 6 (dk_at dksX3_lay_4 4 rfl rfl)
theorem dX3_lay_100 : decode cX3_lay 100 = .ok (.iload 4, 2) := dk_21 4 (dk_at dksX3_lay_4 6 rfl rfl)
theorem dX3_lay_102 : decode cX3_lay 102 = .ok (.iadd, 1) := dk_96 (dk_at dksX3_lay_4 8 rfl rfl)
theorem dX3_lay_103 : decode cX3_lay 103 = .ok (.iload_n 2, 1) := dk_28 (dk_at dksX3_lay_4 9 rfl rfl)
theorem dX3_lay_104 : decode cX3_lay 104 = .ok (.iload 5, 2) := dk_21 5 (dk_at dksX3_lay_4 10 rfl rfl)
theorem dX3_lay_106 : decode cX3_lay 106 = .ok (.aload_n 0, 1) := dk_42 (dk_at dksX3_lay_4 12 rfl rfl)
theorem dX3_lay_107 : decode cX3_lay 107 = .ok (.getfield 22, 3) := dk_180 0 22 (dk_at dksX3_lay_4 13 rfl rfl)
theorem dX3_lay_110 : decode cX3_lay 110 = .ok (.aload_n 0, 1) := dk_42 (dk_at dksX3_lay_4 16 rfl rfl)
theorem dX3_lay_111 : decode cX3_lay 111 = .ok (.getfield 7, 3) := dk_180 0 7 (dk_at dksX3_lay_4 17 rfl rfl)
theorem dX3_lay_114 : decode cX3_lay 114 = .ok (.bipush 13, 2) := dk_16 13 (dk_at dksX3_lay_4 20 rfl rfl)
theorem dX3_lay_116 : decode cX3_lay 116 = .ok (.iload 4, 2) := dk_21 4 (dk_at dksX3_lay_4 22 rfl rfl)
theorem dX3_lay_118 : decode cX3_lay 118 = .ok (.iadd, 1) := dk_96 (dk_at dksX3_lay_5 0 rfl rfl)
theorem dX3_lay_119 : decode cX3_lay 119 = .ok (.iaload, 1) := dk_46 (dk_at dksX3_lay_5 1 rfl rfl)
theorem dX3_lay_120 : decode cX3_lay 120 = .ok (.laload, 1) := dk_47 (dk_at dksX3_lay_5 2 rfl rfl)
theorem dX3_lay_121 : decode cX3_lay 121 = .ok (.aload_n 0, 1) := dk_42 (dk_at dksX3_lay_5 3 rfl rfl)
theorem dX3_lay_122 : decode cX3_lay 122 = .ok (.getfield 22, 3) := dk_180 0 22 (dk_at dksX3_lay_5 4 rfl rfl)
theorem dX3_lay_125 : decode cX3_lay 125 = .ok (.aload_n 0, 1) := dk_42 (dk_at dksX3_lay_5 7 rfl rfl)
theorem dX3_lay_126 : decode cX3_lay 126 = .ok (.getfield 7, 3) := dk_180 0 7 (dk_at dksX3_lay_5 8 rfl rfl)
theorem dX3_lay_129 : decode cX3_lay 129 = .ok (.bipush 25, 2) := dk_16 25 (dk_at dksX3_lay_5 11 rfl rfl)
theorem dX3_lay_131 : decode cX3_lay 131 = .ok (.iload 4, 2) := dk_21 4 (dk_at dksX3_lay_5 13 rfl rfl)
theorem dX3_lay_133 : decode cX3_lay 133 = .ok (.iadd, 1) := dk_96 (dk_at dksX3_lay_5 15 rfl rfl)
theorem dX3_lay_134 : decode cX3_lay 134 = .ok (.iaload, 1) := dk_46 (dk_at dksX3_lay_5 16 rfl rfl)
theorem dX3_lay_135 : decode cX3_lay 135 = .ok (.laload, 1) := dk_47 (dk_at dksX3_lay_5 17 rfl rfl)
theorem dX3_lay_136 : decode cX3_lay 136 = .ok (.invokestatic 86, 3) := dk_184 0 86 (dk_at dksX3_lay_5 18 rfl rfl)
theorem dX3_lay_139 : decode cX3_lay 139 = .ok (.invokevirtual 78, 3) := dk_182 0 78 (dk_at dksX3_lay_5 21 rfl rfl)
theorem dX3_lay_142 : decode cX3_lay 142 = .ok (.lastore, 1) := dk_80 (dk_at dksX3_lay_6 0 rfl rfl)
theorem dX3_lay_143 : decode cX3_lay 143 = .ok (.iinc 4 1, 3) := dk_132 4 1 (dk_at dksX3_lay_6 1 rfl rfl)
theorem dX3_lay_146 : decode cX3_lay 146 = .ok (.goto (-111), 3) := dk_167 255 145 (dk_at dksX3_lay_6 4 rfl rfl)
theorem dX3_lay_149 : decode cX3_lay 149 = .ok (.aload_n 0, 1) := dk_42 (dk_at dksX3_lay_6 7 rfl rfl)
theorem dX3_lay_150 : decode cX3_lay 150 = .ok (.iconst 0, 1) := dk_3 (dk_at dksX3_lay_6 8 rfl rfl)
theorem dX3_lay_151 : decode cX3_lay 151 = .ok (.putfield 90, 3) := dk_181 0 90 (dk_at dksX3_lay_6 9 rfl rfl)
theorem dX3_lay_154 : decode cX3_lay 154 = .ok (.iconst 0, 1) := dk_3 (dk_at dksX3_lay_6 12 rfl rfl)
theorem dX3_lay_155 : decode cX3_lay 155 = .ok (.istore 4, 2) := dk_54 4 (dk_at dksX3_lay_6 13 rfl rfl)
theorem dX3_lay_157 : decode cX3_lay 157 = .ok (.iload 4, 2) := dk_21 4 (dk_at dksX3_lay_6 15 rfl rfl)
theorem dX3_lay_159 : decode cX3_lay 159 = .ok (.aload_n 0, 1) := dk_42 (dk_at dksX3_lay_6 17 rfl rfl)
theorem dX3_lay_160 : decode cX3_lay 160 = .ok (.invokevirtual 54, 3) := dk_182 0 54 (dk_at dksX3_lay_6 18 rfl rfl)
theorem dX3_lay_163 : decode cX3_lay 163 = .ok (.if_icmp .ge 50, 3) := dk_162 0 50 (dk_at dksX3_lay_6 21 rfl rfl)
theorem dX3_lay_166 : decode cX3_lay 166 = .ok (.aload_n 0, 1) := dk_42 (dk_at dksX3_lay_7 0 rfl rfl)
theorem dX3_lay_167 : decode cX3_lay 167 = .ok (.getfield 7, 3) := dk_180 0 7 (dk_at dksX3_lay_7 1 rfl rfl)
theorem dX3_lay_170 : decode cX3_lay 170 = .ok (.bipush 37, 2) := dk_16 37 (dk_at dksX3_lay_7 4 rfl rfl)
theorem dX3_lay_172 : decode cX3_lay 172 = .ok (.iaload, 1) := dk_46 (dk_at dksX3_lay_7 6 rfl rfl)
theorem dX3_lay_173 : decode cX3_lay 173 = .ok (.iload 4, 2) := dk_21 4 (dk_at dksX3_lay_7 7 rfl rfl)
theorem dX3_lay_175 : decode cX3_lay 175 = .ok (.invokestatic 82, 3) := dk_184 0 82 (dk_at dksX3_lay_7 9 rfl rfl)
theorem dX3_lay_178 : decode cX3_lay 178 = .ok (.ifCond .eq 29, 3) := dk_153 0 29 (dk_at dksX3_lay_7 12 rfl rfl)
theorem dX3_lay_181 : decode cX3_lay 181 = .ok (.aload_n 0, 1) := dk_42 (dk_at dksX3_lay_7 15 rfl rfl)
theorem dX3_lay_182 : decode cX3_lay 182 = .ok (.getfield 26, 3) := dk_180 0 26 (dk_at dksX3_lay_7 16 rfl rfl)
theorem dX3_lay_185 : decode cX3_lay 185 = .ok (.aload_n 0, 1) := dk_42 (dk_at dksX3_lay_7 19 rfl rfl)
theorem dX3_lay_186 : decode cX3_lay 186 = .ok (.getfield 90, 3) := dk_180 0 90 (dk_at dksX3_lay_7 20 rfl rfl)
theorem dX3_lay_189 : decode cX3_lay 189 = .ok (.aload_n 0, 1) := dk_42 (dk_at dksX3_lay_7 23 rfl rfl)
theorem dX3_lay_190 : decode cX3_lay 190 = .ok (.getfield 22, 3) := dk_180 0 22 (dk_at dksX3_lay_8 0 rfl rfl)
theorem dX3_lay_193 : decode cX3_lay 193 = .ok (.iload 4, 2) := dk_21 4 (dk_at dksX3_lay_8 3 rfl rfl)
theorem dX3_lay_195 : decode cX3_lay 195 = .ok (.laload, 1) := dk_47 (dk_at dksX3_lay_8 5 rfl rfl)
theorem dX3_lay_196 : decode cX3_lay 196 = .ok (.lastore, 1) := dk_80 (dk_at dksX3_lay_8 6 rfl rfl)
theorem dX3_lay_197 : decode cX3_lay 197 = .ok (.aload_n 0, 1) := dk_42 (dk_at dksX3_lay_8 7 rfl rfl)
theorem dX3_lay_198 : decode cX3_lay 198 = .ok (.dup, 1) := dk_89 (dk_at dksX3_lay_8 8 rfl rfl)
theorem dX3_lay_199 : decode cX3_lay 199 = .ok (.getfield 90, 3) := dk_180 0 90 (dk_at dksX3_lay_8 9 rfl rfl)
theorem dX3_lay_202 : decode cX3_lay 202 = .ok (.iconst 1, 1) := dk_4 (dk_at dksX3_lay_8 12 rfl rfl)
theorem dX3_lay_203 : decode cX3_lay 203 = .ok (.iadd, 1) := dk_96 (dk_at dksX3_lay_8 13 rfl rfl)
theorem dX3_lay_204 : decode cX3_lay 204 = .ok (.putfield 90, 3) := dk_181 0 90 (dk_at dksX3_lay_8 14 rfl rfl)
theorem dX3_lay_207 : decode cX3_lay 207 = .ok (.iinc 4 1, 3) := dk_132 4 1 (dk_at dksX3_lay_8 17 rfl rfl)
theorem dX3_lay_210 : decode cX3_lay 210 = .ok (.goto (-53), 3) := dk_167 255 203 (dk_at dksX3_lay_8 20 rfl rfl)
theorem dX3_lay_213 : decode cX3_lay 213 = .ok (.return_, 1) := dk_177 (dk_at dksX3_lay_8 23 rfl rfl)
abbrev cX3_inputTable : ByteArray := prog_9_method_16_code
def yX3_inputTable : MethodName := ⟨RX3, "inputTable", "(I)J"⟩
def dkwX3_inputTable_1 : List UInt8 := [167, 255, 236, 31, 173]
abbrev dktX3_inputTable_1 : List UInt8 := dkwX3_inputTable_1 ++ []
def dkwX3_inputTable_0 : List UInt8 := [9, 64, 3, 62, 29, 16, 64, 162, 0, 20, 31, 29, 26, 122, 4, 126, 133, 29, 121, 129, 64, 132, 3, 1]
abbrev dktX3_inputTable_0 : List UInt8 := dkwX3_inputTable_0 ++ dktX3_inputTable_1
theorem dksX3_inputTable_0 : cX3_inputTable.data.toList.drop 0 = dktX3_inputTable_0 := by decide +kernel
theorem dksX3_inputTable_1 : cX3_inputTable.data.toList.drop 24 = dktX3_inputTable_1 := dk_seg dksX3_inputTable_0 24 rfl rfl
theorem dX3_inputTable_0 : decode cX3_inputTable 0 = .ok (.lconst 0, 1) := dk_9 (dk_at dksX3_inputTable_0 0 rfl rfl)
theorem dX3_inputTable_1 : decode cX3_inputTable 1 = .ok (.lstore_n 1, 1) := dk_64 (dk_at dksX3_inputTable_0 1 rfl rfl)
theorem dX3_inputTable_2 : decode cX3_inputTable 2 = .ok (.iconst 0, 1) := dk_3 (dk_at dksX3_inputTable_0 2 rfl rfl)
theorem dX3_inputTable_3 : decode cX3_inputTable 3 = .ok (.istore_n 3, 1) := dk_62 (dk_at dksX3_inputTable_0 3 rfl rfl)
theorem dX3_inputTable_4 : decode cX3_inputTable 4 = .ok (.iload_n 3, 1) := dk_29 (dk_at dksX3_inputTable_0 4 rfl rfl)
theorem dX3_inputTable_5 : decode cX3_inputTable 5 = .ok (.bipush 64, 2) := dk_16 64 (dk_at dksX3_inputTable_0 5 rfl rfl)
theorem dX3_inputTable_7 : decode cX3_inputTable 7 = .ok (.if_icmp .ge 20, 3) := dk_162 0 20 (dk_at dksX3_inputTable_0 7 rfl rfl)
theorem dX3_inputTable_10 : decode cX3_inputTable 10 = .ok (.lload_n 1, 1) := dk_31 (dk_at dksX3_inputTable_0 10 rfl rfl)
theorem dX3_inputTable_11 : decode cX3_inputTable 11 = .ok (.iload_n 3, 1) := dk_29 (dk_at dksX3_inputTable_0 11 rfl rfl)
theorem dX3_inputTable_12 : decode cX3_inputTable 12 = .ok (.iload_n 0, 1) := dk_26 (dk_at dksX3_inputTable_0 12 rfl rfl)
theorem dX3_inputTable_13 : decode cX3_inputTable 13 = .ok (.ishr, 1) := dk_122 (dk_at dksX3_inputTable_0 13 rfl rfl)
theorem dX3_inputTable_14 : decode cX3_inputTable 14 = .ok (.iconst 1, 1) := dk_4 (dk_at dksX3_inputTable_0 14 rfl rfl)
theorem dX3_inputTable_15 : decode cX3_inputTable 15 = .ok (.iand, 1) := dk_126 (dk_at dksX3_inputTable_0 15 rfl rfl)
theorem dX3_inputTable_16 : decode cX3_inputTable 16 = .ok (.i2l, 1) := dk_133 (dk_at dksX3_inputTable_0 16 rfl rfl)
theorem dX3_inputTable_17 : decode cX3_inputTable 17 = .ok (.iload_n 3, 1) := dk_29 (dk_at dksX3_inputTable_0 17 rfl rfl)
theorem dX3_inputTable_18 : decode cX3_inputTable 18 = .ok (.lshl, 1) := dk_121 (dk_at dksX3_inputTable_0 18 rfl rfl)
theorem dX3_inputTable_19 : decode cX3_inputTable 19 = .ok (.lor, 1) := dk_129 (dk_at dksX3_inputTable_0 19 rfl rfl)
theorem dX3_inputTable_20 : decode cX3_inputTable 20 = .ok (.lstore_n 1, 1) := dk_64 (dk_at dksX3_inputTable_0 20 rfl rfl)
theorem dX3_inputTable_21 : decode cX3_inputTable 21 = .ok (.iinc 3 1, 3) := dk_132 3 1 (dk_at dksX3_inputTable_0 21 rfl rfl)
theorem dX3_inputTable_24 : decode cX3_inputTable 24 = .ok (.goto (-20), 3) := dk_167 255 236 (dk_at dksX3_inputTable_1 0 rfl rfl)
theorem dX3_inputTable_27 : decode cX3_inputTable 27 = .ok (.lload_n 1, 1) := dk_31 (dk_at dksX3_inputTable_1 3 rfl rfl)
theorem dX3_inputTable_28 : decode cX3_inputTable 28 = .ok (.lreturn, 1) := dk_173 (dk_at dksX3_inputTable_1 4 rfl rfl)
abbrev cX3_stuck : ByteArray := prog_9_method_18_code
def yX3_stuck : MethodName := ⟨RX3, "stuck", "(IIJ)J"⟩
def dkwX3_stuck_1 : List UInt8 := [167, 0, 8, 9, 167, 0, 4, 33, 173]
abbrev dktX3_stuck_1 : List UInt8 := dkwX3_stuck_1 ++ []
def dkwX3_stuck_0 : List UInt8 := [28, 2, 159, 0, 27, 28, 5, 108, 27, 160, 0, 20, 28, 5, 112, 4, 160, 0, 9, 20, 0, 72]
abbrev dktX3_stuck_0 : List UInt8 := dkwX3_stuck_0 ++ dktX3_stuck_1
theorem dksX3_stuck_0 : cX3_stuck.data.toList.drop 0 = dktX3_stuck_0 := by decide +kernel
theorem dksX3_stuck_1 : cX3_stuck.data.toList.drop 22 = dktX3_stuck_1 := dk_seg dksX3_stuck_0 22 rfl rfl
theorem dX3_stuck_0 : decode cX3_stuck 0 = .ok (.iload_n 2, 1) := dk_28 (dk_at dksX3_stuck_0 0 rfl rfl)
theorem dX3_stuck_1 : decode cX3_stuck 1 = .ok (.iconst (-1), 1) := dk_2 (dk_at dksX3_stuck_0 1 rfl rfl)
theorem dX3_stuck_2 : decode cX3_stuck 2 = .ok (.if_icmp .eq 27, 3) := dk_159 0 27 (dk_at dksX3_stuck_0 2 rfl rfl)
theorem dX3_stuck_5 : decode cX3_stuck 5 = .ok (.iload_n 2, 1) := dk_28 (dk_at dksX3_stuck_0 5 rfl rfl)
theorem dX3_stuck_6 : decode cX3_stuck 6 = .ok (.iconst 2, 1) := dk_5 (dk_at dksX3_stuck_0 6 rfl rfl)
theorem dX3_stuck_7 : decode cX3_stuck 7 = .ok (.idiv, 1) := dk_108 (dk_at dksX3_stuck_0 7 rfl rfl)
theorem dX3_stuck_8 : decode cX3_stuck 8 = .ok (.iload_n 1, 1) := dk_27 (dk_at dksX3_stuck_0 8 rfl rfl)
theorem dX3_stuck_9 : decode cX3_stuck 9 = .ok (.if_icmp .ne 20, 3) := dk_160 0 20 (dk_at dksX3_stuck_0 9 rfl rfl)
theorem dX3_stuck_12 : decode cX3_stuck 12 = .ok (.iload_n 2, 1) := dk_28 (dk_at dksX3_stuck_0 12 rfl rfl)
theorem dX3_stuck_13 : decode cX3_stuck 13 = .ok (.iconst 2, 1) := dk_5 (dk_at dksX3_stuck_0 13 rfl rfl)
theorem dX3_stuck_14 : decode cX3_stuck 14 = .ok (.irem, 1) := dk_112 (dk_at dksX3_stuck_0 14 rfl rfl)
theorem dX3_stuck_15 : decode cX3_stuck 15 = .ok (.iconst 1, 1) := dk_4 (dk_at dksX3_stuck_0 15 rfl rfl)
theorem dX3_stuck_16 : decode cX3_stuck 16 = .ok (.if_icmp .ne 9, 3) := dk_160 0 9 (dk_at dksX3_stuck_0 16 rfl rfl)
theorem dX3_stuck_19 : decode cX3_stuck 19 = .ok (.ldc2_w 72, 3) := dk_20 0 72 (dk_at dksX3_stuck_0 19 rfl rfl)
theorem dX3_stuck_22 : decode cX3_stuck 22 = .ok (.goto 8, 3) := dk_167 0 8 (dk_at dksX3_stuck_1 0 rfl rfl)
theorem dX3_stuck_25 : decode cX3_stuck 25 = .ok (.lconst 0, 1) := dk_9 (dk_at dksX3_stuck_1 3 rfl rfl)
theorem dX3_stuck_26 : decode cX3_stuck 26 = .ok (.goto 4, 3) := dk_167 0 4 (dk_at dksX3_stuck_1 4 rfl rfl)
theorem dX3_stuck_29 : decode cX3_stuck 29 = .ok (.lload_n 3, 1) := dk_33 (dk_at dksX3_stuck_1 7 rfl rfl)
theorem dX3_stuck_30 : decode cX3_stuck 30 = .ok (.lreturn, 1) := dk_173 (dk_at dksX3_stuck_1 8 rfl rfl)
abbrev cX3_gate : ByteArray := prog_9_method_17_code
def yX3_gate : MethodName := ⟨RX3, "gate", "(IJJ)J"⟩
def dkwX3_gate_3 : List UInt8 := [20, 0, 72, 131, 173]
abbrev dktX3_gate_3 : List UInt8 := dkwX3_gate_3 ++ []
def dkwX3_gate_2 : List UInt8 := [167, 0, 4, 31, 55, 5, 26, 6, 161, 0, 9, 26, 16, 7, 160, 0, 8, 22, 5, 167, 0, 9, 22, 5]
abbrev dktX3_gate_2 : List UInt8 := dkwX3_gate_2 ++ dktX3_gate_3
def dkwX3_gate_1 : List UInt8 := [160, 0, 9, 31, 33, 129, 167, 0, 20, 26, 5, 159, 0, 8, 26, 8, 160, 0, 9, 31, 33, 131]
abbrev dktX3_gate_1 : List UInt8 := dkwX3_gate_1 ++ dktX3_gate_2
def dkwX3_gate_0 : List UInt8 := [26, 153, 0, 8, 26, 6, 160, 0, 9, 31, 33, 127, 167, 0, 36, 26, 4, 159, 0, 8, 26, 7]
abbrev dktX3_gate_0 : List UInt8 := dkwX3_gate_0 ++ dktX3_gate_1
theorem dksX3_gate_0 : cX3_gate.data.toList.drop 0 = dktX3_gate_0 := by decide +kernel
theorem dksX3_gate_1 : cX3_gate.data.toList.drop 22 = dktX3_gate_1 := dk_seg dksX3_gate_0 22 rfl rfl
theorem dksX3_gate_2 : cX3_gate.data.toList.drop 44 = dktX3_gate_2 := dk_seg dksX3_gate_1 22 rfl rfl
theorem dksX3_gate_3 : cX3_gate.data.toList.drop 68 = dktX3_gate_3 := dk_seg dksX3_gate_2 24 rfl rfl
theorem dX3_gate_0 : decode cX3_gate 0 = .ok (.iload_n 0, 1) := dk_26 (dk_at dksX3_gate_0 0 rfl rfl)
theorem dX3_gate_1 : decode cX3_gate 1 = .ok (.ifCond .eq 8, 3) := dk_153 0 8 (dk_at dksX3_gate_0 1 rfl rfl)
theorem dX3_gate_4 : decode cX3_gate 4 = .ok (.iload_n 0, 1) := dk_26 (dk_at dksX3_gate_0 4 rfl rfl)
theorem dX3_gate_5 : decode cX3_gate 5 = .ok (.iconst 3, 1) := dk_6 (dk_at dksX3_gate_0 5 rfl rfl)
theorem dX3_gate_6 : decode cX3_gate 6 = .ok (.if_icmp .ne 9, 3) := dk_160 0 9 (dk_at dksX3_gate_0 6 rfl rfl)
theorem dX3_gate_9 : decode cX3_gate 9 = .ok (.lload_n 1, 1) := dk_31 (dk_at dksX3_gate_0 9 rfl rfl)
theorem dX3_gate_10 : decode cX3_gate 10 = .ok (.lload_n 3, 1) := dk_33 (dk_at dksX3_gate_0 10 rfl rfl)
theorem dX3_gate_11 : decode cX3_gate 11 = .ok (.land, 1) := dk_127 (dk_at dksX3_gate_0 11 rfl rfl)
theorem dX3_gate_12 : decode cX3_gate 12 = .ok (.goto 36, 3) := dk_167 0 36 (dk_at dksX3_gate_0 12 rfl rfl)
theorem dX3_gate_15 : decode cX3_gate 15 = .ok (.iload_n 0, 1) := dk_26 (dk_at dksX3_gate_0 15 rfl rfl)
theorem dX3_gate_16 : decode cX3_gate 16 = .ok (.iconst 1, 1) := dk_4 (dk_at dksX3_gate_0 16 rfl rfl)
theorem dX3_gate_17 : decode cX3_gate 17 = .ok (.if_icmp .eq 8, 3) := dk_159 0 8 (dk_at dksX3_gate_0 17 rfl rfl)
theorem dX3_gate_20 : decode cX3_gate 20 = .ok (.iload_n 0, 1) := dk_26 (dk_at dksX3_gate_0 20 rfl rfl)
theorem dX3_gate_21 : decode cX3_gate 21 = .ok (.iconst 4, 1) := dk_7 (dk_at dksX3_gate_0 21 rfl rfl)
theorem dX3_gate_22 : decode cX3_gate 22 = .ok (.if_icmp .ne 9, 3) := dk_160 0 9 (dk_at dksX3_gate_1 0 rfl rfl)
theorem dX3_gate_25 : decode cX3_gate 25 = .ok (.lload_n 1, 1) := dk_31 (dk_at dksX3_gate_1 3 rfl rfl)
theorem dX3_gate_26 : decode cX3_gate 26 = .ok (.lload_n 3, 1) := dk_33 (dk_at dksX3_gate_1 4 rfl rfl)
theorem dX3_gate_27 : decode cX3_gate 27 = .ok (.lor, 1) := dk_129 (dk_at dksX3_gate_1 5 rfl rfl)
theorem dX3_gate_28 : decode cX3_gate 28 = .ok (.goto 20, 3) := dk_167 0 20 (dk_at dksX3_gate_1 6 rfl rfl)
theorem dX3_gate_31 : decode cX3_gate 31 = .ok (.iload_n 0, 1) := dk_26 (dk_at dksX3_gate_1 9 rfl rfl)
theorem dX3_gate_32 : decode cX3_gate 32 = .ok (.iconst 2, 1) := dk_5 (dk_at dksX3_gate_1 10 rfl rfl)
theorem dX3_gate_33 : decode cX3_gate 33 = .ok (.if_icmp .eq 8, 3) := dk_159 0 8 (dk_at dksX3_gate_1 11 rfl rfl)
theorem dX3_gate_36 : decode cX3_gate 36 = .ok (.iload_n 0, 1) := dk_26 (dk_at dksX3_gate_1 14 rfl rfl)
theorem dX3_gate_37 : decode cX3_gate 37 = .ok (.iconst 5, 1) := dk_8 (dk_at dksX3_gate_1 15 rfl rfl)
theorem dX3_gate_38 : decode cX3_gate 38 = .ok (.if_icmp .ne 9, 3) := dk_160 0 9 (dk_at dksX3_gate_1 16 rfl rfl)
theorem dX3_gate_41 : decode cX3_gate 41 = .ok (.lload_n 1, 1) := dk_31 (dk_at dksX3_gate_1 19 rfl rfl)
theorem dX3_gate_42 : decode cX3_gate 42 = .ok (.lload_n 3, 1) := dk_33 (dk_at dksX3_gate_1 20 rfl rfl)
theorem dX3_gate_43 : decode cX3_gate 43 = .ok (.lxor, 1) := dk_131 (dk_at dksX3_gate_1 21 rfl rfl)
theorem dX3_gate_44 : decode cX3_gate 44 = .ok (.goto 4, 3) := dk_167 0 4 (dk_at dksX3_gate_2 0 rfl rfl)
theorem dX3_gate_47 : decode cX3_gate 47 = .ok (.lload_n 1, 1) := dk_31 (dk_at dksX3_gate_2 3 rfl rfl)
theorem dX3_gate_48 : decode cX3_gate 48 = .ok (.lstore 5, 2) := dk_55 5 (dk_at dksX3_gate_2 4 rfl rfl)
theorem dX3_gate_50 : decode cX3_gate 50 = .ok (.iload_n 0, 1) := dk_26 (dk_at dksX3_gate_2 6 rfl rfl)
theorem dX3_gate_51 : decode cX3_gate 51 = .ok (.iconst 3, 1) := dk_6 (dk_at dksX3_gate_2 7 rfl rfl)
theorem dX3_gate_52 : decode cX3_gate 52 = .ok (.if_icmp .lt 9, 3) := dk_161 0 9 (dk_at dksX3_gate_2 8 rfl rfl)
theorem dX3_gate_55 : decode cX3_gate 55 = .ok (.iload_n 0, 1) := dk_26 (dk_at dksX3_gate_2 11 rfl rfl)
theorem dX3_gate_56 : decode cX3_gate 56 = .ok (.bipush 7, 2) := dk_16 7 (dk_at dksX3_gate_2 12 rfl rfl)
theorem dX3_gate_58 : decode cX3_gate 58 = .ok (.if_icmp .ne 8, 3) := dk_160 0 8 (dk_at dksX3_gate_2 14 rfl rfl)
theorem dX3_gate_61 : decode cX3_gate 61 = .ok (.lload 5, 2) := dk_22 5 (dk_at dksX3_gate_2 17 rfl rfl)
theorem dX3_gate_63 : decode cX3_gate 63 = .ok (.goto 9, 3) := dk_167 0 9 (dk_at dksX3_gate_2 19 rfl rfl)
theorem dX3_gate_66 : decode cX3_gate 66 = .ok (.lload 5, 2) := dk_22 5 (dk_at dksX3_gate_2 22 rfl rfl)
theorem dX3_gate_68 : decode cX3_gate 68 = .ok (.ldc2_w 72, 3) := dk_20 0 72 (dk_at dksX3_gate_3 0 rfl rfl)
theorem dX3_gate_71 : decode cX3_gate 71 = .ok (.lxor, 1) := dk_131 (dk_at dksX3_gate_3 3 rfl rfl)
theorem dX3_gate_72 : decode cX3_gate 72 = .ok (.lreturn, 1) := dk_173 (dk_at dksX3_gate_3 4 rfl rfl)
abbrev cX3_answer : ByteArray := prog_9_method_20_code
def yX3_answer : MethodName := ⟨RX3, "answer", "(I)I"⟩
def dkwX3_answer_1 : List UInt8 := [29, 120, 128, 61, 132, 3, 1, 167, 255, 229, 28, 172]
abbrev dktX3_answer_1 : List UInt8 := dkwX3_answer_1 ++ []
def dkwX3_answer_0 : List UInt8 := [3, 61, 3, 62, 29, 42, 180, 0, 90, 162, 0, 25, 28, 42, 180, 0, 26, 29, 47, 27, 125, 10, 127, 136]
abbrev dktX3_answer_0 : List UInt8 := dkwX3_answer_0 ++ dktX3_answer_1
theorem dksX3_answer_0 : cX3_answer.data.toList.drop 0 = dktX3_answer_0 := by decide +kernel
theorem dksX3_answer_1 : cX3_answer.data.toList.drop 24 = dktX3_answer_1 := dk_seg dksX3_answer_0 24 rfl rfl
theorem dX3_answer_0 : decode cX3_answer 0 = .ok (.iconst 0, 1) := dk_3 (dk_at dksX3_answer_0 0 rfl rfl)
theorem dX3_answer_1 : decode cX3_answer 1 = .ok (.istore_n 2, 1) := dk_61 (dk_at dksX3_answer_0 1 rfl rfl)
theorem dX3_answer_2 : decode cX3_answer 2 = .ok (.iconst 0, 1) := dk_3 (dk_at dksX3_answer_0 2 rfl rfl)
theorem dX3_answer_3 : decode cX3_answer 3 = .ok (.istore_n 3, 1) := dk_62 (dk_at dksX3_answer_0 3 rfl rfl)
theorem dX3_answer_4 : decode cX3_answer 4 = .ok (.iload_n 3, 1) := dk_29 (dk_at dksX3_answer_0 4 rfl rfl)
theorem dX3_answer_5 : decode cX3_answer 5 = .ok (.aload_n 0, 1) := dk_42 (dk_at dksX3_answer_0 5 rfl rfl)
theorem dX3_answer_6 : decode cX3_answer 6 = .ok (.getfield 90, 3) := dk_180 0 90 (dk_at dksX3_answer_0 6 rfl rfl)
theorem dX3_answer_9 : decode cX3_answer 9 = .ok (.if_icmp .ge 25, 3) := dk_162 0 25 (dk_at dksX3_answer_0 9 rfl rfl)
theorem dX3_answer_12 : decode cX3_answer 12 = .ok (.iload_n 2, 1) := dk_28 (dk_at dksX3_answer_0 12 rfl rfl)
theorem dX3_answer_13 : decode cX3_answer 13 = .ok (.aload_n 0, 1) := dk_42 (dk_at dksX3_answer_0 13 rfl rfl)
theorem dX3_answer_14 : decode cX3_answer 14 = .ok (.getfield 26, 3) := dk_180 0 26 (dk_at dksX3_answer_0 14 rfl rfl)
theorem dX3_answer_17 : decode cX3_answer 17 = .ok (.iload_n 3, 1) := dk_29 (dk_at dksX3_answer_0 17 rfl rfl)
theorem dX3_answer_18 : decode cX3_answer 18 = .ok (.laload, 1) := dk_47 (dk_at dksX3_answer_0 18 rfl rfl)
theorem dX3_answer_19 : decode cX3_answer 19 = .ok (.iload_n 1, 1) := dk_27 (dk_at dksX3_answer_0 19 rfl rfl)
theorem dX3_answer_20 : decode cX3_answer 20 = .ok (.lushr, 1) := dk_125 (dk_at dksX3_answer_0 20 rfl rfl)
theorem dX3_answer_21 : decode cX3_answer 21 = .ok (.lconst 1, 1) := dk_10 (dk_at dksX3_answer_0 21 rfl rfl)
theorem dX3_answer_22 : decode cX3_answer 22 = .ok (.land, 1) := dk_127 (dk_at dksX3_answer_0 22 rfl rfl)
theorem dX3_answer_23 : decode cX3_answer 23 = .ok (.l2i, 1) := dk_136 (dk_at dksX3_answer_0 23 rfl rfl)
theorem dX3_answer_24 : decode cX3_answer 24 = .ok (.iload_n 3, 1) := dk_29 (dk_at dksX3_answer_1 0 rfl rfl)
theorem dX3_answer_25 : decode cX3_answer 25 = .ok (.ishl, 1) := dk_120 (dk_at dksX3_answer_1 1 rfl rfl)
theorem dX3_answer_26 : decode cX3_answer 26 = .ok (.ior, 1) := dk_128 (dk_at dksX3_answer_1 2 rfl rfl)
theorem dX3_answer_27 : decode cX3_answer 27 = .ok (.istore_n 2, 1) := dk_61 (dk_at dksX3_answer_1 3 rfl rfl)
theorem dX3_answer_28 : decode cX3_answer 28 = .ok (.iinc 3 1, 3) := dk_132 3 1 (dk_at dksX3_answer_1 4 rfl rfl)
theorem dX3_answer_31 : decode cX3_answer 31 = .ok (.goto (-27), 3) := dk_167 255 229 (dk_at dksX3_answer_1 7 rfl rfl)
theorem dX3_answer_34 : decode cX3_answer 34 = .ok (.iload_n 2, 1) := dk_28 (dk_at dksX3_answer_1 10 rfl rfl)
theorem dX3_answer_35 : decode cX3_answer 35 = .ok (.ireturn, 1) := dk_172 (dk_at dksX3_answer_1 11 rfl rfl)
abbrev cX3_askBest : ByteArray := prog_9_method_48_code
def yX3_askBest : MethodName := ⟨RX3, "askBest", "(I)I"⟩
def dkwX3_askBest_3 : List UInt8 := [182, 0, 144, 87, 132, 2, 1, 42, 2, 4, 182, 0, 168, 167, 255, 214, 28, 172]
abbrev dktX3_askBest_3 : List UInt8 := dkwX3_askBest_3 ++ []
def dkwX3_askBest_2 : List UInt8 := [180, 0, 7, 16, 41, 46, 16, 12, 162, 0, 31, 42, 180, 0, 153, 154, 0, 24, 42, 42, 182, 0, 172]
abbrev dktX3_askBest_2 : List UInt8 := dkwX3_askBest_2 ++ dktX3_askBest_3
def dkwX3_askBest_1 : List UInt8 := [158, 0, 5, 3, 172, 42, 182, 0, 69, 3, 61, 42, 2, 4, 182, 0, 168, 28, 27, 162, 0, 43, 42]
abbrev dktX3_askBest_1 : List UInt8 := dkwX3_askBest_1 ++ dktX3_askBest_2
def dkwX3_askBest_0 : List UInt8 := [42, 27, 4, 16, 12, 184, 0, 58, 153, 0, 7, 3, 167, 0, 4, 4, 181, 0, 50, 42, 180, 0, 50]
abbrev dktX3_askBest_0 : List UInt8 := dkwX3_askBest_0 ++ dktX3_askBest_1
theorem dksX3_askBest_0 : cX3_askBest.data.toList.drop 0 = dktX3_askBest_0 := by decide +kernel
theorem dksX3_askBest_1 : cX3_askBest.data.toList.drop 23 = dktX3_askBest_1 := dk_seg dksX3_askBest_0 23 rfl rfl
theorem dksX3_askBest_2 : cX3_askBest.data.toList.drop 46 = dktX3_askBest_2 := dk_seg dksX3_askBest_1 23 rfl rfl
theorem dksX3_askBest_3 : cX3_askBest.data.toList.drop 69 = dktX3_askBest_3 := dk_seg dksX3_askBest_2 23 rfl rfl
theorem dX3_askBest_0 : decode cX3_askBest 0 = .ok (.aload_n 0, 1) := dk_42 (dk_at dksX3_askBest_0 0 rfl rfl)
theorem dX3_askBest_1 : decode cX3_askBest 1 = .ok (.iload_n 1, 1) := dk_27 (dk_at dksX3_askBest_0 1 rfl rfl)
theorem dX3_askBest_2 : decode cX3_askBest 2 = .ok (.iconst 1, 1) := dk_4 (dk_at dksX3_askBest_0 2 rfl rfl)
theorem dX3_askBest_3 : decode cX3_askBest 3 = .ok (.bipush 12, 2) := dk_16 12 (dk_at dksX3_askBest_0 3 rfl rfl)
theorem dX3_askBest_5 : decode cX3_askBest 5 = .ok (.invokestatic 58, 3) := dk_184 0 58 (dk_at dksX3_askBest_0 5 rfl rfl)
theorem dX3_askBest_8 : decode cX3_askBest 8 = .ok (.ifCond .eq 7, 3) := dk_153 0 7 (dk_at dksX3_askBest_0 8 rfl rfl)
theorem dX3_askBest_11 : decode cX3_askBest 11 = .ok (.iconst 0, 1) := dk_3 (dk_at dksX3_askBest_0 11 rfl rfl)
theorem dX3_askBest_12 : decode cX3_askBest 12 = .ok (.goto 4, 3) := dk_167 0 4 (dk_at dksX3_askBest_0 12 rfl rfl)
theorem dX3_askBest_15 : decode cX3_askBest 15 = .ok (.iconst 1, 1) := dk_4 (dk_at dksX3_askBest_0 15 rfl rfl)
theorem dX3_askBest_16 : decode cX3_askBest 16 = .ok (.putfield 50, 3) := dk_181 0 50 (dk_at dksX3_askBest_0 16 rfl rfl)
theorem dX3_askBest_19 : decode cX3_askBest 19 = .ok (.aload_n 0, 1) := dk_42 (dk_at dksX3_askBest_0 19 rfl rfl)
theorem dX3_askBest_20 : decode cX3_askBest 20 = .ok (.getfield 50, 3) := dk_180 0 50 (dk_at dksX3_askBest_0 20 rfl rfl)
theorem dX3_askBest_23 : decode cX3_askBest 23 = .ok (.ifCond .le 5, 3) := dk_158 0 5 (dk_at dksX3_askBest_1 0 rfl rfl)
theorem dX3_askBest_26 : decode cX3_askBest 26 = .ok (.iconst 0, 1) := dk_3 (dk_at dksX3_askBest_1 3 rfl rfl)
theorem dX3_askBest_27 : decode cX3_askBest 27 = .ok (.ireturn, 1) := dk_172 (dk_at dksX3_askBest_1 4 rfl rfl)
theorem dX3_askBest_28 : decode cX3_askBest 28 = .ok (.aload_n 0, 1) := dk_42 (dk_at dksX3_askBest_1 5 rfl rfl)
theorem dX3_askBest_29 : decode cX3_askBest 29 = .ok (.invokevirtual 69, 3) := dk_182 0 69 (dk_at dksX3_askBest_1 6 rfl rfl)
theorem dX3_askBest_32 : decode cX3_askBest 32 = .ok (.iconst 0, 1) := dk_3 (dk_at dksX3_askBest_1 9 rfl rfl)
theorem dX3_askBest_33 : decode cX3_askBest 33 = .ok (.istore_n 2, 1) := dk_61 (dk_at dksX3_askBest_1 10 rfl rfl)
theorem dX3_askBest_34 : decode cX3_askBest 34 = .ok (.aload_n 0, 1) := dk_42 (dk_at dksX3_askBest_1 11 rfl rfl)
theorem dX3_askBest_35 : decode cX3_askBest 35 = .ok (.iconst (-1), 1) := dk_2 (dk_at dksX3_askBest_1 12 rfl rfl)
theorem dX3_askBest_36 : decode cX3_askBest 36 = .ok (.iconst 1, 1) := dk_4 (dk_at dksX3_askBest_1 13 rfl rfl)
theorem dX3_askBest_37 : decode cX3_askBest 37 = .ok (.invokevirtual 168, 3) := dk_182 0 168 (dk_at dksX3_askBest_1 14 rfl rfl)
theorem dX3_askBest_40 : decode cX3_askBest 40 = .ok (.iload_n 2, 1) := dk_28 (dk_at dksX3_askBest_1 17 rfl rfl)
theorem dX3_askBest_41 : decode cX3_askBest 41 = .ok (.iload_n 1, 1) := dk_27 (dk_at dksX3_askBest_1 18 rfl rfl)
theorem dX3_askBest_42 : decode cX3_askBest 42 = .ok (.if_icmp .ge 43, 3) := dk_162 0 43 (dk_at dksX3_askBest_1 19 rfl rfl)
theorem dX3_askBest_45 : decode cX3_askBest 45 = .ok (.aload_n 0, 1) := dk_42 (dk_at dksX3_askBest_1 22 rfl rfl)
theorem dX3_askBest_46 : decode cX3_askBest 46 = .ok (.getfield 7, 3) := dk_180 0 7 (dk_at dksX3_askBest_2 0 rfl rfl)
theorem dX3_askBest_49 : decode cX3_askBest 49 = .ok (.bipush 41, 2) := dk_16 41 (dk_at dksX3_askBest_2 3 rfl rfl)
theorem dX3_askBest_51 : decode cX3_askBest 51 = .ok (.iaload, 1) := dk_46 (dk_at dksX3_askBest_2 5 rfl rfl)
theorem dX3_askBest_52 : decode cX3_askBest 52 = .ok (.bipush 12, 2) := dk_16 12 (dk_at dksX3_askBest_2 6 rfl rfl)
theorem dX3_askBest_54 : decode cX3_askBest 54 = .ok (.if_icmp .ge 31, 3) := dk_162 0 31 (dk_at dksX3_askBest_2 8 rfl rfl)
theorem dX3_askBest_57 : decode cX3_askBest 57 = .ok (.aload_n 0, 1) := dk_42 (dk_at dksX3_askBest_2 11 rfl rfl)
theorem dX3_askBest_58 : decode cX3_askBest 58 = .ok (.getfield 153, 3) := dk_180 0 153 (dk_at dksX3_askBest_2 12 rfl rfl)
theorem dX3_askBest_61 : decode cX3_askBest 61 = .ok (.ifCond .ne 24, 3) := dk_154 0 24 (dk_at dksX3_askBest_2 15 rfl rfl)
theorem dX3_askBest_64 : decode cX3_askBest 64 = .ok (.aload_n 0, 1) := dk_42 (dk_at dksX3_askBest_2 18 rfl rfl)
theorem dX3_askBest_65 : decode cX3_askBest 65 = .ok (.aload_n 0, 1) := dk_42 (dk_at dksX3_askBest_2 19 rfl rfl)
theorem dX3_askBest_66 : decode cX3_askBest 66 = .ok (.invokevirtual 172, 3) := dk_182 0 172 (dk_at dksX3_askBest_2 20 rfl rfl)
theorem dX3_askBest_69 : decode cX3_askBest 69 = .ok (.invokevirtual 144, 3) := dk_182 0 144 (dk_at dksX3_askBest_3 0 rfl rfl)
theorem dX3_askBest_72 : decode cX3_askBest 72 = .ok (.pop, 1) := dk_87 (dk_at dksX3_askBest_3 3 rfl rfl)
theorem dX3_askBest_73 : decode cX3_askBest 73 = .ok (.iinc 2 1, 3) := dk_132 2 1 (dk_at dksX3_askBest_3 4 rfl rfl)
theorem dX3_askBest_76 : decode cX3_askBest 76 = .ok (.aload_n 0, 1) := dk_42 (dk_at dksX3_askBest_3 7 rfl rfl)
theorem dX3_askBest_77 : decode cX3_askBest 77 = .ok (.iconst (-1), 1) := dk_2 (dk_at dksX3_askBest_3 8 rfl rfl)
theorem dX3_askBest_78 : decode cX3_askBest 78 = .ok (.iconst 1, 1) := dk_4 (dk_at dksX3_askBest_3 9 rfl rfl)
theorem dX3_askBest_79 : decode cX3_askBest 79 = .ok (.invokevirtual 168, 3) := dk_182 0 168 (dk_at dksX3_askBest_3 10 rfl rfl)
theorem dX3_askBest_82 : decode cX3_askBest 82 = .ok (.goto (-42), 3) := dk_167 255 214 (dk_at dksX3_askBest_3 13 rfl rfl)
theorem dX3_askBest_85 : decode cX3_askBest 85 = .ok (.iload_n 2, 1) := dk_28 (dk_at dksX3_askBest_3 16 rfl rfl)
theorem dX3_askBest_86 : decode cX3_askBest 86 = .ok (.ireturn, 1) := dk_172 (dk_at dksX3_askBest_3 17 rfl rfl)
abbrev cX3_goThrough : ByteArray := prog_9_method_45_code
def yX3_goThrough : MethodName := ⟨RX3, "goThrough", "(IZ)V"⟩
def dkwX3_goThrough_11 : List UInt8 := [177]
abbrev dktX3_goThrough_11 : List UInt8 := dkwX3_goThrough_11 ++ []
def dkwX3_goThrough_10 : List UInt8 := [96, 92, 46, 4, 96, 79, 132, 7, 1, 167, 255, 221, 132, 6, 1, 167, 255, 72, 132, 5, 1, 167, 255, 57]
abbrev dktX3_goThrough_10 : List UInt8 := dkwX3_goThrough_10 ++ dktX3_goThrough_11
def dkwX3_goThrough_9 : List UInt8 := [16, 64, 162, 0, 34, 28, 153, 0, 30, 42, 180, 0, 35, 16, 16, 21, 7, 104, 42, 21, 7, 182, 0, 141]
abbrev dktX3_goThrough_9 : List UInt8 := dkwX3_goThrough_9 ++ dktX3_goThrough_10
def dkwX3_goThrough_8 : List UInt8 := [181, 0, 153, 132, 7, 1, 167, 255, 179, 42, 89, 180, 0, 147, 4, 96, 181, 0, 147, 3, 54, 7, 21, 7]
abbrev dktX3_goThrough_8 : List UInt8 := dkwX3_goThrough_8 ++ dktX3_goThrough_9
def dkwX3_goThrough_7 : List UInt8 := [180, 0, 29, 21, 7, 47, 42, 180, 0, 26, 21, 7, 47, 148, 154, 0, 7, 4, 167, 0, 4, 3]
abbrev dktX3_goThrough_7 : List UInt8 := dkwX3_goThrough_7 ++ dktX3_goThrough_8
def dkwX3_goThrough_6 : List UInt8 := [21, 7, 47, 167, 0, 10, 42, 180, 0, 29, 21, 7, 47, 80, 42, 42, 180, 0, 153, 153, 0, 25, 42]
abbrev dktX3_goThrough_6 : List UInt8 := dkwX3_goThrough_6 ++ dktX3_goThrough_7
def dkwX3_goThrough_5 : List UInt8 := [180, 0, 90, 162, 0, 74, 42, 180, 0, 29, 21, 7, 42, 180, 0, 147, 154, 0, 13, 42, 180, 0, 26]
abbrev dktX3_goThrough_5 : List UInt8 := dkwX3_goThrough_5 ++ dktX3_goThrough_6
def dkwX3_goThrough_4 : List UInt8 := [104, 21, 6, 96, 4, 96, 167, 0, 7, 42, 180, 0, 150, 181, 0, 150, 3, 54, 7, 21, 7, 42]
abbrev dktX3_goThrough_4 : List UInt8 := dkwX3_goThrough_4 ++ dktX3_goThrough_5
def dkwX3_goThrough_3 : List UInt8 := [42, 21, 5, 21, 6, 182, 0, 162, 153, 0, 166, 42, 42, 180, 0, 147, 27, 160, 0, 16, 16, 37, 21, 5]
abbrev dktX3_goThrough_3 : List UInt8 := dkwX3_goThrough_3 ++ dktX3_goThrough_4
def dkwX3_goThrough_2 : List UInt8 := [182, 0, 159, 54, 4, 3, 54, 5, 21, 5, 29, 162, 0, 199, 2, 54, 6, 21, 6, 21, 4, 162, 0, 183]
abbrev dktX3_goThrough_2 : List UInt8 := dkwX3_goThrough_2 ++ dktX3_goThrough_3
def dkwX3_goThrough_1 : List UInt8 := [28, 153, 0, 16, 42, 180, 0, 35, 29, 3, 79, 132, 3, 1, 167, 255, 235, 42, 182, 0, 156, 62, 42]
abbrev dktX3_goThrough_1 : List UInt8 := dkwX3_goThrough_1 ++ dktX3_goThrough_2
def dkwX3_goThrough_0 : List UInt8 := [42, 3, 181, 0, 147, 42, 2, 181, 0, 150, 42, 4, 181, 0, 153, 3, 62, 29, 17, 4, 0, 162, 0, 20]
abbrev dktX3_goThrough_0 : List UInt8 := dkwX3_goThrough_0 ++ dktX3_goThrough_1
theorem dksX3_goThrough_0 : cX3_goThrough.data.toList.drop 0 = dktX3_goThrough_0 := by decide +kernel
theorem dksX3_goThrough_1 : cX3_goThrough.data.toList.drop 24 = dktX3_goThrough_1 := dk_seg dksX3_goThrough_0 24 rfl rfl
theorem dksX3_goThrough_2 : cX3_goThrough.data.toList.drop 47 = dktX3_goThrough_2 := dk_seg dksX3_goThrough_1 23 rfl rfl
theorem dksX3_goThrough_3 : cX3_goThrough.data.toList.drop 71 = dktX3_goThrough_3 := dk_seg dksX3_goThrough_2 24 rfl rfl
theorem dksX3_goThrough_4 : cX3_goThrough.data.toList.drop 95 = dktX3_goThrough_4 := dk_seg dksX3_goThrough_3 24 rfl rfl
theorem dksX3_goThrough_5 : cX3_goThrough.data.toList.drop 117 = dktX3_goThrough_5 := dk_seg dksX3_goThrough_4 22 rfl rfl
theorem dksX3_goThrough_6 : cX3_goThrough.data.toList.drop 140 = dktX3_goThrough_6 := dk_seg dksX3_goThrough_5 23 rfl rfl
theorem dksX3_goThrough_7 : cX3_goThrough.data.toList.drop 163 = dktX3_goThrough_7 := dk_seg dksX3_goThrough_6 23 rfl rfl
theorem dksX3_goThrough_8 : cX3_goThrough.data.toList.drop 185 = dktX3_goThrough_8 := dk_seg dksX3_goThrough_7 22 rfl rfl
theorem dksX3_goThrough_9 : cX3_goThrough.data.toList.drop 209 = dktX3_goThrough_9 := dk_seg dksX3_goThrough_8 24 rfl rfl
theorem dksX3_goThrough_10 : cX3_goThrough.data.toList.drop 233 = dktX3_goThrough_10 := dk_seg dksX3_goThrough_9 24 rfl rfl
theorem dksX3_goThrough_11 : cX3_goThrough.data.toList.drop 257 = dktX3_goThrough_11 := dk_seg dksX3_goThrough_10 24 rfl rfl
theorem dX3_goThrough_0 : decode cX3_goThrough 0 = .ok (.aload_n 0, 1) := dk_42 (dk_at dksX3_goThrough_0 0 rfl rfl)
theorem dX3_goThrough_1 : decode cX3_goThrough 1 = .ok (.iconst 0, 1) := dk_3 (dk_at dksX3_goThrough_0 1 rfl rfl)
theorem dX3_goThrough_2 : decode cX3_goThrough 2 = .ok (.putfield 147, 3) := dk_181 0 147 (dk_at dksX3_goThrough_0 2 rfl rfl)
theorem dX3_goThrough_5 : decode cX3_goThrough 5 = .ok (.aload_n 0, 1) := dk_42 (dk_at dksX3_goThrough_0 5 rfl rfl)
theorem dX3_goThrough_6 : decode cX3_goThrough 6 = .ok (.iconst (-1), 1) := dk_2 (dk_at dksX3_goThrough_0 6 rfl rfl)
theorem dX3_goThrough_7 : decode cX3_goThrough 7 = .ok (.putfield 150, 3) := dk_181 0 150 (dk_at dksX3_goThrough_0 7 rfl rfl)
theorem dX3_goThrough_10 : decode cX3_goThrough 10 = .ok (.aload_n 0, 1) := dk_42 (dk_at dksX3_goThrough_0 10 rfl rfl)
theorem dX3_goThrough_11 : decode cX3_goThrough 11 = .ok (.iconst 1, 1) := dk_4 (dk_at dksX3_goThrough_0 11 rfl rfl)
theorem dX3_goThrough_12 : decode cX3_goThrough 12 = .ok (.putfield 153, 3) := dk_181 0 153 (dk_at dksX3_goThrough_0 12 rfl rfl)
theorem dX3_goThrough_15 : decode cX3_goThrough 15 = .ok (.iconst 0, 1) := dk_3 (dk_at dksX3_goThrough_0 15 rfl rfl)
theorem dX3_goThrough_16 : decode cX3_goThrough 16 = .ok (.istore_n 3, 1) := dk_62 (dk_at dksX3_goThrough_0 16 rfl rfl)
theorem dX3_goThrough_17 : decode cX3_goThrough 17 = .ok (.iload_n 3, 1) := dk_29 (dk_at dksX3_goThrough_0 17 rfl rfl)
theorem dX3_goThrough_18 : decode cX3_goThrough 18 = .ok (.sipush 1024, 3) := dk_17 4 0 (dk_at dksX3_goThrough_0 18 rfl rfl)
theorem dX3_goThrough_21 : decode cX3_goThrough 21 = .ok (.if_icmp .ge 20, 3) := dk_162 0 20 (dk_at dksX3_goThrough_0 21 rfl rfl)
theorem dX3_goThrough_24 : decode cX3_goThrough 24 = .ok (.iload_n 2, 1) := dk_28 (dk_at dksX3_goThrough_1 0 rfl rfl)
theorem dX3_goThrough_25 : decode cX3_goThrough 25 = .ok (.ifCond .eq 16, 3) := dk_153 0 16 (dk_at dksX3_goThrough_1 1 rfl rfl)
theorem dX3_goThrough_28 : decode cX3_goThrough 28 = .ok (.aload_n 0, 1) := dk_42 (dk_at dksX3_goThrough_1 4 rfl rfl)
theorem dX3_goThrough_29 : decode cX3_goThrough 29 = .ok (.getfield 35, 3) := dk_180 0 35 (dk_at dksX3_goThrough_1 5 rfl rfl)
theorem dX3_goThrough_32 : decode cX3_goThrough 32 = .ok (.iload_n 3, 1) := dk_29 (dk_at dksX3_goThrough_1 8 rfl rfl)
theorem dX3_goThrough_33 : decode cX3_goThrough 33 = .ok (.iconst 0, 1) := dk_3 (dk_at dksX3_goThrough_1 9 rfl rfl)
theorem dX3_goThrough_34 : decode cX3_goThrough 34 = .ok (.iastore, 1) := dk_79 (dk_at dksX3_goThrough_1 10 rfl rfl)
theorem dX3_goThrough_35 : decode cX3_goThrough 35 = .ok (.iinc 3 1, 3) := dk_132 3 1 (dk_at dksX3_goThrough_1 11 rfl rfl)
theorem dX3_goThrough_38 : decode cX3_goThrough 38 = .ok (.goto (-21), 3) := dk_167 255 235 (dk_at dksX3_goThrough_1 14 rfl rfl)
theorem dX3_goThrough_41 : decode cX3_goThrough 41 = .ok (.aload_n 0, 1) := dk_42 (dk_at dksX3_goThrough_1 17 rfl rfl)
theorem dX3_goThrough_42 : decode cX3_goThrough 42 = .ok (.invokevirtual 156, 3) := dk_182 0 156 (dk_at dksX3_goThrough_1 18 rfl rfl)
theorem dX3_goThrough_45 : decode cX3_goThrough 45 = .ok (.istore_n 3, 1) := dk_62 (dk_at dksX3_goThrough_1 21 rfl rfl)
theorem dX3_goThrough_46 : decode cX3_goThrough 46 = .ok (.aload_n 0, 1) := dk_42 (dk_at dksX3_goThrough_1 22 rfl rfl)
theorem dX3_goThrough_47 : decode cX3_goThrough 47 = .ok (.invokevirtual 159, 3) := dk_182 0 159 (dk_at dksX3_goThrough_2 0 rfl rfl)
theorem dX3_goThrough_50 : decode cX3_goThrough 50 = .ok (.istore 4, 2) := dk_54 4 (dk_at dksX3_goThrough_2 3 rfl rfl)
theorem dX3_goThrough_52 : decode cX3_goThrough 52 = .ok (.iconst 0, 1) := dk_3 (dk_at dksX3_goThrough_2 5 rfl rfl)
theorem dX3_goThrough_53 : decode cX3_goThrough 53 = .ok (.istore 5, 2) := dk_54 5 (dk_at dksX3_goThrough_2 6 rfl rfl)
theorem dX3_goThrough_55 : decode cX3_goThrough 55 = .ok (.iload 5, 2) := dk_21 5 (dk_at dksX3_goThrough_2 8 rfl rfl)
theorem dX3_goThrough_57 : decode cX3_goThrough 57 = .ok (.iload_n 3, 1) := dk_29 (dk_at dksX3_goThrough_2 10 rfl rfl)
theorem dX3_goThrough_58 : decode cX3_goThrough 58 = .ok (.if_icmp .ge 199, 3) := dk_162 0 199 (dk_at dksX3_goThrough_2 11 rfl rfl)
theorem dX3_goThrough_61 : decode cX3_goThrough 61 = .ok (.iconst (-1), 1) := dk_2 (dk_at dksX3_goThrough_2 14 rfl rfl)
theorem dX3_goThrough_62 : decode cX3_goThrough 62 = .ok (.istore 6, 2) := dk_54 6 (dk_at dksX3_goThrough_2 15 rfl rfl)
theorem dX3_goThrough_64 : decode cX3_goThrough 64 = .ok (.iload 6, 2) := dk_21 6 (dk_at dksX3_goThrough_2 17 rfl rfl)
theorem dX3_goThrough_66 : decode cX3_goThrough 66 = .ok (.iload 4, 2) := dk_21 4 (dk_at dksX3_goThrough_2 19 rfl rfl)
theorem dX3_goThrough_68 : decode cX3_goThrough 68 = .ok (.if_icmp .ge 183, 3) := dk_162 0 183 (dk_at dksX3_goThrough_2 21 rfl rfl)
theorem dX3_goThrough_71 : decode cX3_goThrough 71 = .ok (.aload_n 0, 1) := dk_42 (dk_at dksX3_goThrough_3 0 rfl rfl)
theorem dX3_goThrough_72 : decode cX3_goThrough 72 = .ok (.iload 5, 2) := dk_21 5 (dk_at dksX3_goThrough_3 1 rfl rfl)
theorem dX3_goThrough_74 : decode cX3_goThrough 74 = .ok (.iload 6, 2) := dk_21 6 (dk_at dksX3_goThrough_3 3 rfl rfl)
theorem dX3_goThrough_76 : decode cX3_goThrough 76 = .ok (.invokevirtual 162, 3) := dk_182 0 162 (dk_at dksX3_goThrough_3 5 rfl rfl)
theorem dX3_goThrough_79 : decode cX3_goThrough 79 = .ok (.ifCond .eq 166, 3) := dk_153 0 166 (dk_at dksX3_goThrough_3 8 rfl rfl)
theorem dX3_goThrough_82 : decode cX3_goThrough 82 = .ok (.aload_n 0, 1) := dk_42 (dk_at dksX3_goThrough_3 11 rfl rfl)
theorem dX3_goThrough_83 : decode cX3_goThrough 83 = .ok (.aload_n 0, 1) := dk_42 (dk_at dksX3_goThrough_3 12 rfl rfl)
theorem dX3_goThrough_84 : decode cX3_goThrough 84 = .ok (.getfield 147, 3) := dk_180 0 147 (dk_at dksX3_goThrough_3 13 rfl rfl)
theorem dX3_goThrough_87 : decode cX3_goThrough 87 = .ok (.iload_n 1, 1) := dk_27 (dk_at dksX3_goThrough_3 16 rfl rfl)
theorem dX3_goThrough_88 : decode cX3_goThrough 88 = .ok (.if_icmp .ne 16, 3) := dk_160 0 16 (dk_at dksX3_goThrough_3 17 rfl rfl)
theorem dX3_goThrough_91 : decode cX3_goThrough 91 = .ok (.bipush 37, 2) := dk_16 37 (dk_at dksX3_goThrough_3 20 rfl rfl)
theorem dX3_goThrough_93 : decode cX3_goThrough 93 = .ok (.iload 5, 2) := dk_21 5 (dk_at dksX3_goThrough_3 22 rfl rfl)
theorem dX3_goThrough_95 : decode cX3_goThrough 95 = .ok (.imul, 1) := dk_104 (dk_at dksX3_goThrough_4 0 rfl rfl)
theorem dX3_goThrough_96 : decode cX3_goThrough 96 = .ok (.iload 6, 2) := dk_21 6 (dk_at dksX3_goThrough_4 1 rfl rfl)
theorem dX3_goThrough_98 : decode cX3_goThrough 98 = .ok (.iadd, 1) := dk_96 (dk_at dksX3_goThrough_4 3 rfl rfl)
theorem dX3_goThrough_99 : decode cX3_goThrough 99 = .ok (.iconst 1, 1) := dk_4 (dk_at dksX3_goThrough_4 4 rfl rfl)
theorem dX3_goThrough_100 : decode cX3_goThrough 100 = .ok (.iadd, 1) := dk_96 (dk_at dksX3_goThrough_4 5 rfl rfl)
theorem dX3_goThrough_101 : decode cX3_goThrough 101 = .ok (.goto 7, 3) := dk_167 0 7 (dk_at dksX3_goThrough_4 6 rfl rfl)
theorem dX3_goThrough_104 : decode cX3_goThrough 104 = .ok (.aload_n 0, 1) := dk_42 (dk_at dksX3_goThrough_4 9 rfl rfl)
theorem dX3_goThrough_105 : decode cX3_goThrough 105 = .ok (.getfield 150, 3) := dk_180 0 150 (dk_at dksX3_goThrough_4 10 rfl rfl)
theorem dX3_goThrough_108 : decode cX3_goThrough 108 = .ok (.putfield 150, 3) := dk_181 0 150 (dk_at dksX3_goThrough_4 13 rfl rfl)
theorem dX3_goThrough_111 : decode cX3_goThrough 111 = .ok (.iconst 0, 1) := dk_3 (dk_at dksX3_goThrough_4 16 rfl rfl)
theorem dX3_goThrough_112 : decode cX3_goThrough 112 = .ok (.istore 7, 2) := dk_54 7 (dk_at dksX3_goThrough_4 17 rfl rfl)
theorem dX3_goThrough_114 : decode cX3_goThrough 114 = .ok (.iload 7, 2) := dk_21 7 (dk_at dksX3_goThrough_4 19 rfl rfl)
theorem dX3_goThrough_116 : decode cX3_goThrough 116 = .ok (.aload_n 0, 1) := dk_42 (dk_at dksX3_goThrough_4 21 rfl rfl)
theorem dX3_goThrough_117 : decode cX3_goThrough 117 = .ok (.getfield 90, 3) := dk_180 0 90 (dk_at dksX3_goThrough_5 0 rfl rfl)
theorem dX3_goThrough_120 : decode cX3_goThrough 120 = .ok (.if_icmp .ge 74, 3) := dk_162 0 74 (dk_at dksX3_goThrough_5 3 rfl rfl)
theorem dX3_goThrough_123 : decode cX3_goThrough 123 = .ok (.aload_n 0, 1) := dk_42 (dk_at dksX3_goThrough_5 6 rfl rfl)
theorem dX3_goThrough_124 : decode cX3_goThrough 124 = .ok (.getfield 29, 3) := dk_180 0 29 (dk_at dksX3_goThrough_5 7 rfl rfl)
theorem dX3_goThrough_127 : decode cX3_goThrough 127 = .ok (.iload 7, 2) := dk_21 7 (dk_at dksX3_goThrough_5 10 rfl rfl)
theorem dX3_goThrough_129 : decode cX3_goThrough 129 = .ok (.aload_n 0, 1) := dk_42 (dk_at dksX3_goThrough_5 12 rfl rfl)
theorem dX3_goThrough_130 : decode cX3_goThrough 130 = .ok (.getfield 147, 3) := dk_180 0 147 (dk_at dksX3_goThrough_5 13 rfl rfl)
theorem dX3_goThrough_133 : decode cX3_goThrough 133 = .ok (.ifCond .ne 13, 3) := dk_154 0 13 (dk_at dksX3_goThrough_5 16 rfl rfl)
theorem dX3_goThrough_136 : decode cX3_goThrough 136 = .ok (.aload_n 0, 1) := dk_42 (dk_at dksX3_goThrough_5 19 rfl rfl)
theorem dX3_goThrough_137 : decode cX3_goThrough 137 = .ok (.getfield 26, 3) := dk_180 0 26 (dk_at dksX3_goThrough_5 20 rfl rfl)
theorem dX3_goThrough_140 : decode cX3_goThrough 140 = .ok (.iload 7, 2) := dk_21 7 (dk_at dksX3_goThrough_6 0 rfl rfl)
theorem dX3_goThrough_142 : decode cX3_goThrough 142 = .ok (.laload, 1) := dk_47 (dk_at dksX3_goThrough_6 2 rfl rfl)
theorem dX3_goThrough_143 : decode cX3_goThrough 143 = .ok (.goto 10, 3) := dk_167 0 10 (dk_at dksX3_goThrough_6 3 rfl rfl)
theorem dX3_goThrough_146 : decode cX3_goThrough 146 = .ok (.aload_n 0, 1) := dk_42 (dk_at dksX3_goThrough_6 6 rfl rfl)
theorem dX3_goThrough_147 : decode cX3_goThrough 147 = .ok (.getfield 29, 3) := dk_180 0 29 (dk_at dksX3_goThrough_6 7 rfl rfl)
theorem dX3_goThrough_150 : decode cX3_goThrough 150 = .ok (.iload 7, 2) := dk_21 7 (dk_at dksX3_goThrough_6 10 rfl rfl)
theorem dX3_goThrough_152 : decode cX3_goThrough 152 = .ok (.laload, 1) := dk_47 (dk_at dksX3_goThrough_6 12 rfl rfl)
theorem dX3_goThrough_153 : decode cX3_goThrough 153 = .ok (.lastore, 1) := dk_80 (dk_at dksX3_goThrough_6 13 rfl rfl)
theorem dX3_goThrough_154 : decode cX3_goThrough 154 = .ok (.aload_n 0, 1) := dk_42 (dk_at dksX3_goThrough_6 14 rfl rfl)
theorem dX3_goThrough_155 : decode cX3_goThrough 155 = .ok (.aload_n 0, 1) := dk_42 (dk_at dksX3_goThrough_6 15 rfl rfl)
theorem dX3_goThrough_156 : decode cX3_goThrough 156 = .ok (.getfield 153, 3) := dk_180 0 153 (dk_at dksX3_goThrough_6 16 rfl rfl)
theorem dX3_goThrough_159 : decode cX3_goThrough 159 = .ok (.ifCond .eq 25, 3) := dk_153 0 25 (dk_at dksX3_goThrough_6 19 rfl rfl)
theorem dX3_goThrough_162 : decode cX3_goThrough 162 = .ok (.aload_n 0, 1) := dk_42 (dk_at dksX3_goThrough_6 22 rfl rfl)
theorem dX3_goThrough_163 : decode cX3_goThrough 163 = .ok (.getfield 29, 3) := dk_180 0 29 (dk_at dksX3_goThrough_7 0 rfl rfl)
theorem dX3_goThrough_166 : decode cX3_goThrough 166 = .ok (.iload 7, 2) := dk_21 7 (dk_at dksX3_goThrough_7 3 rfl rfl)
theorem dX3_goThrough_168 : decode cX3_goThrough 168 = .ok (.laload, 1) := dk_47 (dk_at dksX3_goThrough_7 5 rfl rfl)
theorem dX3_goThrough_169 : decode cX3_goThrough 169 = .ok (.aload_n 0, 1) := dk_42 (dk_at dksX3_goThrough_7 6 rfl rfl)
theorem dX3_goThrough_170 : decode cX3_goThrough 170 = .ok (.getfield 26, 3) := dk_180 0 26 (dk_at dksX3_goThrough_7 7 rfl rfl)
theorem dX3_goThrough_173 : decode cX3_goThrough 173 = .ok (.iload 7, 2) := dk_21 7 (dk_at dksX3_goThrough_7 10 rfl rfl)
theorem dX3_goThrough_175 : decode cX3_goThrough 175 = .ok (.laload, 1) := dk_47 (dk_at dksX3_goThrough_7 12 rfl rfl)
theorem dX3_goThrough_176 : decode cX3_goThrough 176 = .ok (.lcmp, 1) := dk_148 (dk_at dksX3_goThrough_7 13 rfl rfl)
theorem dX3_goThrough_177 : decode cX3_goThrough 177 = .ok (.ifCond .ne 7, 3) := dk_154 0 7 (dk_at dksX3_goThrough_7 14 rfl rfl)
theorem dX3_goThrough_180 : decode cX3_goThrough 180 = .ok (.iconst 1, 1) := dk_4 (dk_at dksX3_goThrough_7 17 rfl rfl)
theorem dX3_goThrough_181 : decode cX3_goThrough 181 = .ok (.goto 4, 3) := dk_167 0 4 (dk_at dksX3_goThrough_7 18 rfl rfl)
theorem dX3_goThrough_184 : decode cX3_goThrough 184 = .ok (.iconst 0, 1) := dk_3 (dk_at dksX3_goThrough_7 21 rfl rfl)
theorem dX3_goThrough_185 : decode cX3_goThrough 185 = .ok (.putfield 153, 3) := dk_181 0 153 (dk_at dksX3_goThrough_8 0 rfl rfl)
theorem dX3_goThrough_188 : decode cX3_goThrough 188 = .ok (.iinc 7 1, 3) := dk_132 7 1 (dk_at dksX3_goThrough_8 3 rfl rfl)
theorem dX3_goThrough_191 : decode cX3_goThrough 191 = .ok (.goto (-77), 3) := dk_167 255 179 (dk_at dksX3_goThrough_8 6 rfl rfl)
theorem dX3_goThrough_194 : decode cX3_goThrough 194 = .ok (.aload_n 0, 1) := dk_42 (dk_at dksX3_goThrough_8 9 rfl rfl)
theorem dX3_goThrough_195 : decode cX3_goThrough 195 = .ok (.dup, 1) := dk_89 (dk_at dksX3_goThrough_8 10 rfl rfl)
theorem dX3_goThrough_196 : decode cX3_goThrough 196 = .ok (.getfield 147, 3) := dk_180 0 147 (dk_at dksX3_goThrough_8 11 rfl rfl)
theorem dX3_goThrough_199 : decode cX3_goThrough 199 = .ok (.iconst 1, 1) := dk_4 (dk_at dksX3_goThrough_8 14 rfl rfl)
theorem dX3_goThrough_200 : decode cX3_goThrough 200 = .ok (.iadd, 1) := dk_96 (dk_at dksX3_goThrough_8 15 rfl rfl)
theorem dX3_goThrough_201 : decode cX3_goThrough 201 = .ok (.putfield 147, 3) := dk_181 0 147 (dk_at dksX3_goThrough_8 16 rfl rfl)
theorem dX3_goThrough_204 : decode cX3_goThrough 204 = .ok (.iconst 0, 1) := dk_3 (dk_at dksX3_goThrough_8 19 rfl rfl)
theorem dX3_goThrough_205 : decode cX3_goThrough 205 = .ok (.istore 7, 2) := dk_54 7 (dk_at dksX3_goThrough_8 20 rfl rfl)
theorem dX3_goThrough_207 : decode cX3_goThrough 207 = .ok (.iload 7, 2) := dk_21 7 (dk_at dksX3_goThrough_8 22 rfl rfl)
theorem dX3_goThrough_209 : decode cX3_goThrough 209 = .ok (.bipush 64, 2) := dk_16 64 (dk_at dksX3_goThrough_9 0 rfl rfl)
theorem dX3_goThrough_211 : decode cX3_goThrough 211 = .ok (.if_icmp .ge 34, 3) := dk_162 0 34 (dk_at dksX3_goThrough_9 2 rfl rfl)
theorem dX3_goThrough_214 : decode cX3_goThrough 214 = .ok (.iload_n 2, 1) := dk_28 (dk_at dksX3_goThrough_9 5 rfl rfl)
theorem dX3_goThrough_215 : decode cX3_goThrough 215 = .ok (.ifCond .eq 30, 3) := dk_153 0 30 (dk_at dksX3_goThrough_9 6 rfl rfl)
theorem dX3_goThrough_218 : decode cX3_goThrough 218 = .ok (.aload_n 0, 1) := dk_42 (dk_at dksX3_goThrough_9 9 rfl rfl)
theorem dX3_goThrough_219 : decode cX3_goThrough 219 = .ok (.getfield 35, 3) := dk_180 0 35 (dk_at dksX3_goThrough_9 10 rfl rfl)
theorem dX3_goThrough_222 : decode cX3_goThrough 222 = .ok (.bipush 16, 2) := dk_16 16 (dk_at dksX3_goThrough_9 13 rfl rfl)
theorem dX3_goThrough_224 : decode cX3_goThrough 224 = .ok (.iload 7, 2) := dk_21 7 (dk_at dksX3_goThrough_9 15 rfl rfl)
theorem dX3_goThrough_226 : decode cX3_goThrough 226 = .ok (.imul, 1) := dk_104 (dk_at dksX3_goThrough_9 17 rfl rfl)
theorem dX3_goThrough_227 : decode cX3_goThrough 227 = .ok (.aload_n 0, 1) := dk_42 (dk_at dksX3_goThrough_9 18 rfl rfl)
theorem dX3_goThrough_228 : decode cX3_goThrough 228 = .ok (.iload 7, 2) := dk_21 7 (dk_at dksX3_goThrough_9 19 rfl rfl)
theorem dX3_goThrough_230 : decode cX3_goThrough 230 = .ok (.invokevirtual 141, 3) := dk_182 0 141 (dk_at dksX3_goThrough_9 21 rfl rfl)
theorem dX3_goThrough_233 : decode cX3_goThrough 233 = .ok (.iadd, 1) := dk_96 (dk_at dksX3_goThrough_10 0 rfl rfl)
theorem dX3_goThrough_234 : decode cX3_goThrough 234 = .ok (.dup2, 1) := dk_92 (dk_at dksX3_goThrough_10 1 rfl rfl)
theorem dX3_goThrough_235 : decode cX3_goThrough 235 = .ok (.iaload, 1) := dk_46 (dk_at dksX3_goThrough_10 2 rfl rfl)
theorem dX3_goThrough_236 : decode cX3_goThrough 236 = .ok (.iconst 1, 1) := dk_4 (dk_at dksX3_goThrough_10 3 rfl rfl)
theorem dX3_goThrough_237 : decode cX3_goThrough 237 = .ok (.iadd, 1) := dk_96 (dk_at dksX3_goThrough_10 4 rfl rfl)
theorem dX3_goThrough_238 : decode cX3_goThrough 238 = .ok (.iastore, 1) := dk_79 (dk_at dksX3_goThrough_10 5 rfl rfl)
theorem dX3_goThrough_239 : decode cX3_goThrough 239 = .ok (.iinc 7 1, 3) := dk_132 7 1 (dk_at dksX3_goThrough_10 6 rfl rfl)
theorem dX3_goThrough_242 : decode cX3_goThrough 242 = .ok (.goto (-35), 3) := dk_167 255 221 (dk_at dksX3_goThrough_10 9 rfl rfl)
theorem dX3_goThrough_245 : decode cX3_goThrough 245 = .ok (.iinc 6 1, 3) := dk_132 6 1 (dk_at dksX3_goThrough_10 12 rfl rfl)
theorem dX3_goThrough_248 : decode cX3_goThrough 248 = .ok (.goto (-184), 3) := dk_167 255 72 (dk_at dksX3_goThrough_10 15 rfl rfl)
theorem dX3_goThrough_251 : decode cX3_goThrough 251 = .ok (.iinc 5 1, 3) := dk_132 5 1 (dk_at dksX3_goThrough_10 18 rfl rfl)
theorem dX3_goThrough_254 : decode cX3_goThrough 254 = .ok (.goto (-199), 3) := dk_167 255 57 (dk_at dksX3_goThrough_10 21 rfl rfl)
theorem dX3_goThrough_257 : decode cX3_goThrough 257 = .ok (.return_, 1) := dk_177 (dk_at dksX3_goThrough_11 0 rfl rfl)
abbrev cX3_kindSums : ByteArray := prog_9_method_42_code
def yX3_kindSums : MethodName := ⟨RX3, "kindSums", "()I"⟩
def dkwX3_kindSums_1 : List UInt8 := [184, 0, 82, 153, 0, 8, 16, 6, 167, 0, 4, 4, 104, 60, 132, 2, 1, 167, 255, 220, 27, 172]
abbrev dktX3_kindSums_1 : List UInt8 := dkwX3_kindSums_1 ++ []
def dkwX3_kindSums_0 : List UInt8 := [4, 60, 3, 61, 28, 42, 180, 0, 7, 3, 46, 162, 0, 32, 27, 42, 180, 0, 7, 16, 38, 46, 28]
abbrev dktX3_kindSums_0 : List UInt8 := dkwX3_kindSums_0 ++ dktX3_kindSums_1
theorem dksX3_kindSums_0 : cX3_kindSums.data.toList.drop 0 = dktX3_kindSums_0 := by decide +kernel
theorem dksX3_kindSums_1 : cX3_kindSums.data.toList.drop 23 = dktX3_kindSums_1 := dk_seg dksX3_kindSums_0 23 rfl rfl
theorem dX3_kindSums_0 : decode cX3_kindSums 0 = .ok (.iconst 1, 1) := dk_4 (dk_at dksX3_kindSums_0 0 rfl rfl)
theorem dX3_kindSums_1 : decode cX3_kindSums 1 = .ok (.istore_n 1, 1) := dk_60 (dk_at dksX3_kindSums_0 1 rfl rfl)
theorem dX3_kindSums_2 : decode cX3_kindSums 2 = .ok (.iconst 0, 1) := dk_3 (dk_at dksX3_kindSums_0 2 rfl rfl)
theorem dX3_kindSums_3 : decode cX3_kindSums 3 = .ok (.istore_n 2, 1) := dk_61 (dk_at dksX3_kindSums_0 3 rfl rfl)
theorem dX3_kindSums_4 : decode cX3_kindSums 4 = .ok (.iload_n 2, 1) := dk_28 (dk_at dksX3_kindSums_0 4 rfl rfl)
theorem dX3_kindSums_5 : decode cX3_kindSums 5 = .ok (.aload_n 0, 1) := dk_42 (dk_at dksX3_kindSums_0 5 rfl rfl)
theorem dX3_kindSums_6 : decode cX3_kindSums 6 = .ok (.getfield 7, 3) := dk_180 0 7 (dk_at dksX3_kindSums_0 6 rfl rfl)
theorem dX3_kindSums_9 : decode cX3_kindSums 9 = .ok (.iconst 0, 1) := dk_3 (dk_at dksX3_kindSums_0 9 rfl rfl)
theorem dX3_kindSums_10 : decode cX3_kindSums 10 = .ok (.iaload, 1) := dk_46 (dk_at dksX3_kindSums_0 10 rfl rfl)
theorem dX3_kindSums_11 : decode cX3_kindSums 11 = .ok (.if_icmp .ge 32, 3) := dk_162 0 32 (dk_at dksX3_kindSums_0 11 rfl rfl)
theorem dX3_kindSums_14 : decode cX3_kindSums 14 = .ok (.iload_n 1, 1) := dk_27 (dk_at dksX3_kindSums_0 14 rfl rfl)
theorem dX3_kindSums_15 : decode cX3_kindSums 15 = .ok (.aload_n 0, 1) := dk_42 (dk_at dksX3_kindSums_0 15 rfl rfl)
theorem dX3_kindSums_16 : decode cX3_kindSums 16 = .ok (.getfield 7, 3) := dk_180 0 7 (dk_at dksX3_kindSums_0 16 rfl rfl)
theorem dX3_kindSums_19 : decode cX3_kindSums 19 = .ok (.bipush 38, 2) := dk_16 38 (dk_at dksX3_kindSums_0 19 rfl rfl)
theorem dX3_kindSums_21 : decode cX3_kindSums 21 = .ok (.iaload, 1) := dk_46 (dk_at dksX3_kindSums_0 21 rfl rfl)
theorem dX3_kindSums_22 : decode cX3_kindSums 22 = .ok (.iload_n 2, 1) := dk_28 (dk_at dksX3_kindSums_0 22 rfl rfl)
theorem dX3_kindSums_23 : decode cX3_kindSums 23 = .ok (.invokestatic 82, 3) := dk_184 0 82 (dk_at dksX3_kindSums_1 0 rfl rfl)
theorem dX3_kindSums_26 : decode cX3_kindSums 26 = .ok (.ifCond .eq 8, 3) := dk_153 0 8 (dk_at dksX3_kindSums_1 3 rfl rfl)
theorem dX3_kindSums_29 : decode cX3_kindSums 29 = .ok (.bipush 6, 2) := dk_16 6 (dk_at dksX3_kindSums_1 6 rfl rfl)
theorem dX3_kindSums_31 : decode cX3_kindSums 31 = .ok (.goto 4, 3) := dk_167 0 4 (dk_at dksX3_kindSums_1 8 rfl rfl)
theorem dX3_kindSums_34 : decode cX3_kindSums 34 = .ok (.iconst 1, 1) := dk_4 (dk_at dksX3_kindSums_1 11 rfl rfl)
theorem dX3_kindSums_35 : decode cX3_kindSums 35 = .ok (.imul, 1) := dk_104 (dk_at dksX3_kindSums_1 12 rfl rfl)
theorem dX3_kindSums_36 : decode cX3_kindSums 36 = .ok (.istore_n 1, 1) := dk_60 (dk_at dksX3_kindSums_1 13 rfl rfl)
theorem dX3_kindSums_37 : decode cX3_kindSums 37 = .ok (.iinc 2 1, 3) := dk_132 2 1 (dk_at dksX3_kindSums_1 14 rfl rfl)
theorem dX3_kindSums_40 : decode cX3_kindSums 40 = .ok (.goto (-36), 3) := dk_167 255 220 (dk_at dksX3_kindSums_1 17 rfl rfl)
theorem dX3_kindSums_43 : decode cX3_kindSums 43 = .ok (.iload_n 1, 1) := dk_27 (dk_at dksX3_kindSums_1 20 rfl rfl)
theorem dX3_kindSums_44 : decode cX3_kindSums 44 = .ok (.ireturn, 1) := dk_172 (dk_at dksX3_kindSums_1 21 rfl rfl)
abbrev cX3_faults : ByteArray := prog_9_method_43_code
def yX3_faults : MethodName := ⟨RX3, "faults", "()I"⟩
def dkwX3_faults_0 : List UInt8 := [42, 180, 0, 7, 16, 40, 46, 4, 160, 0, 12, 5, 42, 182, 0, 54, 104, 167, 0, 4, 3, 172]
abbrev dktX3_faults_0 : List UInt8 := dkwX3_faults_0 ++ []
theorem dksX3_faults_0 : cX3_faults.data.toList.drop 0 = dktX3_faults_0 := by decide +kernel
theorem dX3_faults_0 : decode cX3_faults 0 = .ok (.aload_n 0, 1) := dk_42 (dk_at dksX3_faults_0 0 rfl rfl)
theorem dX3_faults_1 : decode cX3_faults 1 = .ok (.getfield 7, 3) := dk_180 0 7 (dk_at dksX3_faults_0 1 rfl rfl)
theorem dX3_faults_4 : decode cX3_faults 4 = .ok (.bipush 40, 2) := dk_16 40 (dk_at dksX3_faults_0 4 rfl rfl)
theorem dX3_faults_6 : decode cX3_faults 6 = .ok (.iaload, 1) := dk_46 (dk_at dksX3_faults_0 6 rfl rfl)
theorem dX3_faults_7 : decode cX3_faults 7 = .ok (.iconst 1, 1) := dk_4 (dk_at dksX3_faults_0 7 rfl rfl)
theorem dX3_faults_8 : decode cX3_faults 8 = .ok (.if_icmp .ne 12, 3) := dk_160 0 12 (dk_at dksX3_faults_0 8 rfl rfl)
theorem dX3_faults_11 : decode cX3_faults 11 = .ok (.iconst 2, 1) := dk_5 (dk_at dksX3_faults_0 11 rfl rfl)
theorem dX3_faults_12 : decode cX3_faults 12 = .ok (.aload_n 0, 1) := dk_42 (dk_at dksX3_faults_0 12 rfl rfl)
theorem dX3_faults_13 : decode cX3_faults 13 = .ok (.invokevirtual 54, 3) := dk_182 0 54 (dk_at dksX3_faults_0 13 rfl rfl)
theorem dX3_faults_16 : decode cX3_faults 16 = .ok (.imul, 1) := dk_104 (dk_at dksX3_faults_0 16 rfl rfl)
theorem dX3_faults_17 : decode cX3_faults 17 = .ok (.goto 4, 3) := dk_167 0 4 (dk_at dksX3_faults_0 17 rfl rfl)
theorem dX3_faults_20 : decode cX3_faults 20 = .ok (.iconst 0, 1) := dk_3 (dk_at dksX3_faults_0 20 rfl rfl)
theorem dX3_faults_21 : decode cX3_faults 21 = .ok (.ireturn, 1) := dk_172 (dk_at dksX3_faults_0 21 rfl rfl)
abbrev cX3_isCandidate : ByteArray := prog_9_method_44_code
def yX3_isCandidate : MethodName := ⟨RX3, "isCandidate", "(II)Z"⟩
def dkwX3_isCandidate_2 : List UInt8 := [21, 4, 96, 46, 160, 0, 7, 4, 167, 0, 4, 3, 62, 132, 4, 1, 167, 255, 204, 29, 172]
abbrev dktX3_isCandidate_2 : List UInt8 := dkwX3_isCandidate_2 ++ []
def dkwX3_isCandidate_1 : List UInt8 := [153, 0, 42, 42, 42, 180, 0, 7, 16, 42, 21, 4, 96, 46, 182, 0, 141, 42, 180, 0, 7, 16, 54]
abbrev dktX3_isCandidate_1 : List UInt8 := dkwX3_isCandidate_1 ++ dktX3_isCandidate_2
def dkwX3_isCandidate_0 : List UInt8 := [42, 27, 28, 182, 0, 93, 4, 62, 3, 54, 4, 21, 4, 42, 180, 0, 7, 16, 41, 46, 162, 0, 46, 29]
abbrev dktX3_isCandidate_0 : List UInt8 := dkwX3_isCandidate_0 ++ dktX3_isCandidate_1
theorem dksX3_isCandidate_0 : cX3_isCandidate.data.toList.drop 0 = dktX3_isCandidate_0 := by decide +kernel
theorem dksX3_isCandidate_1 : cX3_isCandidate.data.toList.drop 24 = dktX3_isCandidate_1 := dk_seg dksX3_isCandidate_0 24 rfl rfl
theorem dksX3_isCandidate_2 : cX3_isCandidate.data.toList.drop 47 = dktX3_isCandidate_2 := dk_seg dksX3_isCandidate_1 23 rfl rfl
theorem dX3_isCandidate_0 : decode cX3_isCandidate 0 = .ok (.aload_n 0, 1) := dk_42 (dk_at dksX3_isCandidate_0 0 rfl rfl)
theorem dX3_isCandidate_1 : decode cX3_isCandidate 1 = .ok (.iload_n 1, 1) := dk_27 (dk_at dksX3_isCandidate_0 1 rfl rfl)
theorem dX3_isCandidate_2 : decode cX3_isCandidate 2 = .ok (.iload_n 2, 1) := dk_28 (dk_at dksX3_isCandidate_0 2 rfl rfl)
theorem dX3_isCandidate_3 : decode cX3_isCandidate 3 = .ok (.invokevirtual 93, 3) := dk_182 0 93 (dk_at dksX3_isCandidate_0 3 rfl rfl)
theorem dX3_isCandidate_6 : decode cX3_isCandidate 6 = .ok (.iconst 1, 1) := dk_4 (dk_at dksX3_isCandidate_0 6 rfl rfl)
theorem dX3_isCandidate_7 : decode cX3_isCandidate 7 = .ok (.istore_n 3, 1) := dk_62 (dk_at dksX3_isCandidate_0 7 rfl rfl)
theorem dX3_isCandidate_8 : decode cX3_isCandidate 8 = .ok (.iconst 0, 1) := dk_3 (dk_at dksX3_isCandidate_0 8 rfl rfl)
theorem dX3_isCandidate_9 : decode cX3_isCandidate 9 = .ok (.istore 4, 2) := dk_54 4 (dk_at dksX3_isCandidate_0 9 rfl rfl)
theorem dX3_isCandidate_11 : decode cX3_isCandidate 11 = .ok (.iload 4, 2) := dk_21 4 (dk_at dksX3_isCandidate_0 11 rfl rfl)
theorem dX3_isCandidate_13 : decode cX3_isCandidate 13 = .ok (.aload_n 0, 1) := dk_42 (dk_at dksX3_isCandidate_0 13 rfl rfl)
theorem dX3_isCandidate_14 : decode cX3_isCandidate 14 = .ok (.getfield 7, 3) := dk_180 0 7 (dk_at dksX3_isCandidate_0 14 rfl rfl)
theorem dX3_isCandidate_17 : decode cX3_isCandidate 17 = .ok (.bipush 41, 2) := dk_16 41 (dk_at dksX3_isCandidate_0 17 rfl rfl)
theorem dX3_isCandidate_19 : decode cX3_isCandidate 19 = .ok (.iaload, 1) := dk_46 (dk_at dksX3_isCandidate_0 19 rfl rfl)
theorem dX3_isCandidate_20 : decode cX3_isCandidate 20 = .ok (.if_icmp .ge 46, 3) := dk_162 0 46 (dk_at dksX3_isCandidate_0 20 rfl rfl)
theorem dX3_isCandidate_23 : decode cX3_isCandidate 23 = .ok (.iload_n 3, 1) := dk_29 (dk_at dksX3_isCandidate_0 23 rfl rfl)
theorem dX3_isCandidate_24 : decode cX3_isCandidate 24 = .ok (.ifCond .eq 42, 3) := dk_153 0 42 (dk_at dksX3_isCandidate_1 0 rfl rfl)
theorem dX3_isCandidate_27 : decode cX3_isCandidate 27 = .ok (.aload_n 0, 1) := dk_42 (dk_at dksX3_isCandidate_1 3 rfl rfl)
theorem dX3_isCandidate_28 : decode cX3_isCandidate 28 = .ok (.aload_n 0, 1) := dk_42 (dk_at dksX3_isCandidate_1 4 rfl rfl)
theorem dX3_isCandidate_29 : decode cX3_isCandidate 29 = .ok (.getfield 7, 3) := dk_180 0 7 (dk_at dksX3_isCandidate_1 5 rfl rfl)
theorem dX3_isCandidate_32 : decode cX3_isCandidate 32 = .ok (.bipush 42, 2) := dk_16 42 (dk_at dksX3_isCandidate_1 8 rfl rfl)
theorem dX3_isCandidate_34 : decode cX3_isCandidate 34 = .ok (.iload 4, 2) := dk_21 4 (dk_at dksX3_isCandidate_1 10 rfl rfl)
theorem dX3_isCandidate_36 : decode cX3_isCandidate 36 = .ok (.iadd, 1) := dk_96 (dk_at dksX3_isCandidate_1 12 rfl rfl)
theorem dX3_isCandidate_37 : decode cX3_isCandidate 37 = .ok (.iaload, 1) := dk_46 (dk_at dksX3_isCandidate_1 13 rfl rfl)
theorem dX3_isCandidate_38 : decode cX3_isCandidate 38 = .ok (.invokevirtual 141, 3) := dk_182 0 141 (dk_at dksX3_isCandidate_1 14 rfl rfl)
theorem dX3_isCandidate_41 : decode cX3_isCandidate 41 = .ok (.aload_n 0, 1) := dk_42 (dk_at dksX3_isCandidate_1 17 rfl rfl)
theorem dX3_isCandidate_42 : decode cX3_isCandidate 42 = .ok (.getfield 7, 3) := dk_180 0 7 (dk_at dksX3_isCandidate_1 18 rfl rfl)
theorem dX3_isCandidate_45 : decode cX3_isCandidate 45 = .ok (.bipush 54, 2) := dk_16 54 (dk_at dksX3_isCandidate_1 21 rfl rfl)
theorem dX3_isCandidate_47 : decode cX3_isCandidate 47 = .ok (.iload 4, 2) := dk_21 4 (dk_at dksX3_isCandidate_2 0 rfl rfl)
theorem dX3_isCandidate_49 : decode cX3_isCandidate 49 = .ok (.iadd, 1) := dk_96 (dk_at dksX3_isCandidate_2 2 rfl rfl)
theorem dX3_isCandidate_50 : decode cX3_isCandidate 50 = .ok (.iaload, 1) := dk_46 (dk_at dksX3_isCandidate_2 3 rfl rfl)
theorem dX3_isCandidate_51 : decode cX3_isCandidate 51 = .ok (.if_icmp .ne 7, 3) := dk_160 0 7 (dk_at dksX3_isCandidate_2 4 rfl rfl)
theorem dX3_isCandidate_54 : decode cX3_isCandidate 54 = .ok (.iconst 1, 1) := dk_4 (dk_at dksX3_isCandidate_2 7 rfl rfl)
theorem dX3_isCandidate_55 : decode cX3_isCandidate 55 = .ok (.goto 4, 3) := dk_167 0 4 (dk_at dksX3_isCandidate_2 8 rfl rfl)
theorem dX3_isCandidate_58 : decode cX3_isCandidate 58 = .ok (.iconst 0, 1) := dk_3 (dk_at dksX3_isCandidate_2 11 rfl rfl)
theorem dX3_isCandidate_59 : decode cX3_isCandidate 59 = .ok (.istore_n 3, 1) := dk_62 (dk_at dksX3_isCandidate_2 12 rfl rfl)
theorem dX3_isCandidate_60 : decode cX3_isCandidate 60 = .ok (.iinc 4 1, 3) := dk_132 4 1 (dk_at dksX3_isCandidate_2 13 rfl rfl)
theorem dX3_isCandidate_63 : decode cX3_isCandidate 63 = .ok (.goto (-52), 3) := dk_167 255 204 (dk_at dksX3_isCandidate_2 16 rfl rfl)
theorem dX3_isCandidate_66 : decode cX3_isCandidate 66 = .ok (.iload_n 3, 1) := dk_29 (dk_at dksX3_isCandidate_2 19 rfl rfl)
theorem dX3_isCandidate_67 : decode cX3_isCandidate 67 = .ok (.ireturn, 1) := dk_172 (dk_at dksX3_isCandidate_2 20 rfl rfl)
abbrev cX3_best : ByteArray := prog_9_method_47_code
def yX3_best : MethodName := ⟨RX3, "best", "()I"⟩
def dkwX3_best_1 : List UInt8 := [167, 0, 4, 27, 60, 132, 2, 1, 167, 255, 228, 27, 172]
abbrev dktX3_best_1 : List UInt8 := dkwX3_best_1 ++ []
def dkwX3_best_0 : List UInt8 := [3, 60, 4, 61, 28, 16, 64, 162, 0, 28, 42, 28, 182, 0, 165, 42, 27, 182, 0, 165, 162, 0, 7, 28]
abbrev dktX3_best_0 : List UInt8 := dkwX3_best_0 ++ dktX3_best_1
theorem dksX3_best_0 : cX3_best.data.toList.drop 0 = dktX3_best_0 := by decide +kernel
theorem dksX3_best_1 : cX3_best.data.toList.drop 24 = dktX3_best_1 := dk_seg dksX3_best_0 24 rfl rfl
theorem dX3_best_0 : decode cX3_best 0 = .ok (.iconst 0, 1) := dk_3 (dk_at dksX3_best_0 0 rfl rfl)
theorem dX3_best_1 : decode cX3_best 1 = .ok (.istore_n 1, 1) := dk_60 (dk_at dksX3_best_0 1 rfl rfl)
theorem dX3_best_2 : decode cX3_best 2 = .ok (.iconst 1, 1) := dk_4 (dk_at dksX3_best_0 2 rfl rfl)
theorem dX3_best_3 : decode cX3_best 3 = .ok (.istore_n 2, 1) := dk_61 (dk_at dksX3_best_0 3 rfl rfl)
theorem dX3_best_4 : decode cX3_best 4 = .ok (.iload_n 2, 1) := dk_28 (dk_at dksX3_best_0 4 rfl rfl)
theorem dX3_best_5 : decode cX3_best 5 = .ok (.bipush 64, 2) := dk_16 64 (dk_at dksX3_best_0 5 rfl rfl)
theorem dX3_best_7 : decode cX3_best 7 = .ok (.if_icmp .ge 28, 3) := dk_162 0 28 (dk_at dksX3_best_0 7 rfl rfl)
theorem dX3_best_10 : decode cX3_best 10 = .ok (.aload_n 0, 1) := dk_42 (dk_at dksX3_best_0 10 rfl rfl)
theorem dX3_best_11 : decode cX3_best 11 = .ok (.iload_n 2, 1) := dk_28 (dk_at dksX3_best_0 11 rfl rfl)
theorem dX3_best_12 : decode cX3_best 12 = .ok (.invokevirtual 165, 3) := dk_182 0 165 (dk_at dksX3_best_0 12 rfl rfl)
theorem dX3_best_15 : decode cX3_best 15 = .ok (.aload_n 0, 1) := dk_42 (dk_at dksX3_best_0 15 rfl rfl)
theorem dX3_best_16 : decode cX3_best 16 = .ok (.iload_n 1, 1) := dk_27 (dk_at dksX3_best_0 16 rfl rfl)
theorem dX3_best_17 : decode cX3_best 17 = .ok (.invokevirtual 165, 3) := dk_182 0 165 (dk_at dksX3_best_0 17 rfl rfl)
theorem dX3_best_20 : decode cX3_best 20 = .ok (.if_icmp .ge 7, 3) := dk_162 0 7 (dk_at dksX3_best_0 20 rfl rfl)
theorem dX3_best_23 : decode cX3_best 23 = .ok (.iload_n 2, 1) := dk_28 (dk_at dksX3_best_0 23 rfl rfl)
theorem dX3_best_24 : decode cX3_best 24 = .ok (.goto 4, 3) := dk_167 0 4 (dk_at dksX3_best_1 0 rfl rfl)
theorem dX3_best_27 : decode cX3_best 27 = .ok (.iload_n 1, 1) := dk_27 (dk_at dksX3_best_1 3 rfl rfl)
theorem dX3_best_28 : decode cX3_best 28 = .ok (.istore_n 1, 1) := dk_60 (dk_at dksX3_best_1 4 rfl rfl)
theorem dX3_best_29 : decode cX3_best 29 = .ok (.iinc 2 1, 3) := dk_132 2 1 (dk_at dksX3_best_1 5 rfl rfl)
theorem dX3_best_32 : decode cX3_best 32 = .ok (.goto (-28), 3) := dk_167 255 228 (dk_at dksX3_best_1 8 rfl rfl)
theorem dX3_best_35 : decode cX3_best 35 = .ok (.iload_n 1, 1) := dk_27 (dk_at dksX3_best_1 11 rfl rfl)
theorem dX3_best_36 : decode cX3_best 36 = .ok (.ireturn, 1) := dk_172 (dk_at dksX3_best_1 12 rfl rfl)
abbrev cX3_worst : ByteArray := prog_9_method_46_code
def yX3_worst : MethodName := ⟨RX3, "worst", "(I)I"⟩
def dkwX3_worst_1 : List UInt8 := [28, 164, 0, 12, 42, 180, 0, 35, 29, 46, 167, 0, 4, 28, 61, 132, 3, 1, 167, 255, 221, 28, 172]
abbrev dktX3_worst_1 : List UInt8 := dkwX3_worst_1 ++ []
def dkwX3_worst_0 : List UInt8 := [3, 61, 16, 16, 27, 104, 62, 29, 16, 16, 27, 104, 16, 16, 96, 162, 0, 30, 42, 180, 0, 35, 29, 46]
abbrev dktX3_worst_0 : List UInt8 := dkwX3_worst_0 ++ dktX3_worst_1
theorem dksX3_worst_0 : cX3_worst.data.toList.drop 0 = dktX3_worst_0 := by decide +kernel
theorem dksX3_worst_1 : cX3_worst.data.toList.drop 24 = dktX3_worst_1 := dk_seg dksX3_worst_0 24 rfl rfl
theorem dX3_worst_0 : decode cX3_worst 0 = .ok (.iconst 0, 1) := dk_3 (dk_at dksX3_worst_0 0 rfl rfl)
theorem dX3_worst_1 : decode cX3_worst 1 = .ok (.istore_n 2, 1) := dk_61 (dk_at dksX3_worst_0 1 rfl rfl)
theorem dX3_worst_2 : decode cX3_worst 2 = .ok (.bipush 16, 2) := dk_16 16 (dk_at dksX3_worst_0 2 rfl rfl)
theorem dX3_worst_4 : decode cX3_worst 4 = .ok (.iload_n 1, 1) := dk_27 (dk_at dksX3_worst_0 4 rfl rfl)
theorem dX3_worst_5 : decode cX3_worst 5 = .ok (.imul, 1) := dk_104 (dk_at dksX3_worst_0 5 rfl rfl)
theorem dX3_worst_6 : decode cX3_worst 6 = .ok (.istore_n 3, 1) := dk_62 (dk_at dksX3_worst_0 6 rfl rfl)
theorem dX3_worst_7 : decode cX3_worst 7 = .ok (.iload_n 3, 1) := dk_29 (dk_at dksX3_worst_0 7 rfl rfl)
theorem dX3_worst_8 : decode cX3_worst 8 = .ok (.bipush 16, 2) := dk_16 16 (dk_at dksX3_worst_0 8 rfl rfl)
theorem dX3_worst_10 : decode cX3_worst 10 = .ok (.iload_n 1, 1) := dk_27 (dk_at dksX3_worst_0 10 rfl rfl)
theorem dX3_worst_11 : decode cX3_worst 11 = .ok (.imul, 1) := dk_104 (dk_at dksX3_worst_0 11 rfl rfl)
theorem dX3_worst_12 : decode cX3_worst 12 = .ok (.bipush 16, 2) := dk_16 16 (dk_at dksX3_worst_0 12 rfl rfl)
theorem dX3_worst_14 : decode cX3_worst 14 = .ok (.iadd, 1) := dk_96 (dk_at dksX3_worst_0 14 rfl rfl)
theorem dX3_worst_15 : decode cX3_worst 15 = .ok (.if_icmp .ge 30, 3) := dk_162 0 30 (dk_at dksX3_worst_0 15 rfl rfl)
theorem dX3_worst_18 : decode cX3_worst 18 = .ok (.aload_n 0, 1) := dk_42 (dk_at dksX3_worst_0 18 rfl rfl)
theorem dX3_worst_19 : decode cX3_worst 19 = .ok (.getfield 35, 3) := dk_180 0 35 (dk_at dksX3_worst_0 19 rfl rfl)
theorem dX3_worst_22 : decode cX3_worst 22 = .ok (.iload_n 3, 1) := dk_29 (dk_at dksX3_worst_0 22 rfl rfl)
theorem dX3_worst_23 : decode cX3_worst 23 = .ok (.iaload, 1) := dk_46 (dk_at dksX3_worst_0 23 rfl rfl)
theorem dX3_worst_24 : decode cX3_worst 24 = .ok (.iload_n 2, 1) := dk_28 (dk_at dksX3_worst_1 0 rfl rfl)
theorem dX3_worst_25 : decode cX3_worst 25 = .ok (.if_icmp .le 12, 3) := dk_164 0 12 (dk_at dksX3_worst_1 1 rfl rfl)
theorem dX3_worst_28 : decode cX3_worst 28 = .ok (.aload_n 0, 1) := dk_42 (dk_at dksX3_worst_1 4 rfl rfl)
theorem dX3_worst_29 : decode cX3_worst 29 = .ok (.getfield 35, 3) := dk_180 0 35 (dk_at dksX3_worst_1 5 rfl rfl)
theorem dX3_worst_32 : decode cX3_worst 32 = .ok (.iload_n 3, 1) := dk_29 (dk_at dksX3_worst_1 8 rfl rfl)
theorem dX3_worst_33 : decode cX3_worst 33 = .ok (.iaload, 1) := dk_46 (dk_at dksX3_worst_1 9 rfl rfl)
theorem dX3_worst_34 : decode cX3_worst 34 = .ok (.goto 4, 3) := dk_167 0 4 (dk_at dksX3_worst_1 10 rfl rfl)
theorem dX3_worst_37 : decode cX3_worst 37 = .ok (.iload_n 2, 1) := dk_28 (dk_at dksX3_worst_1 13 rfl rfl)
theorem dX3_worst_38 : decode cX3_worst 38 = .ok (.istore_n 2, 1) := dk_61 (dk_at dksX3_worst_1 14 rfl rfl)
theorem dX3_worst_39 : decode cX3_worst 39 = .ok (.iinc 3 1, 3) := dk_132 3 1 (dk_at dksX3_worst_1 15 rfl rfl)
theorem dX3_worst_42 : decode cX3_worst 42 = .ok (.goto (-35), 3) := dk_167 255 221 (dk_at dksX3_worst_1 18 rfl rfl)
theorem dX3_worst_45 : decode cX3_worst 45 = .ok (.iload_n 2, 1) := dk_28 (dk_at dksX3_worst_1 21 rfl rfl)
theorem dX3_worst_46 : decode cX3_worst 46 = .ok (.ireturn, 1) := dk_172 (dk_at dksX3_worst_1 22 rfl rfl)
abbrev cX3_choose : ByteArray := prog_9_method_50_code
def yX3_choose : MethodName := ⟨RX3, "choose", "()I"⟩
def dkwX3_choose_5 : List UInt8 := [180, 0, 7, 16, 67, 33, 16, 32, 125, 136, 79, 21, 5, 172]
abbrev dktX3_choose_5 : List UInt8 := dkwX3_choose_5 ++ []
def dkwX3_choose_4 : List UInt8 := [47, 20, 0, 72, 131, 127, 64, 132, 5, 1, 167, 255, 171, 42, 180, 0, 7, 16, 66, 33, 136, 79, 42]
abbrev dktX3_choose_4 : List UInt8 := dkwX3_choose_4 ++ dktX3_choose_5
def dkwX3_choose_3 : List UInt8 := [21, 6, 54, 6, 132, 7, 1, 167, 255, 210, 33, 10, 21, 6, 121, 129, 66, 31, 42, 180, 0, 38, 21, 6]
abbrev dktX3_choose_3 : List UInt8 := dkwX3_choose_3 ++ dktX3_choose_4
def dkwX3_choose_2 : List UInt8 := [127, 184, 0, 183, 42, 180, 0, 38, 21, 6, 47, 31, 127, 184, 0, 183, 164, 0, 8, 21, 7, 167, 0, 5]
abbrev dktX3_choose_2 : List UInt8 := dkwX3_choose_2 ++ dktX3_choose_3
def dkwX3_choose_1 : List UInt8 := [153, 0, 85, 3, 54, 6, 4, 54, 7, 21, 7, 16, 64, 162, 0, 45, 42, 180, 0, 38, 21, 7, 47, 31]
abbrev dktX3_choose_1 : List UInt8 := dkwX3_choose_1 ++ dktX3_choose_2
def dkwX3_choose_0 : List UInt8 := [42, 3, 181, 0, 50, 42, 182, 0, 69, 42, 182, 0, 179, 64, 9, 66, 3, 54, 5, 31, 9, 148]
abbrev dktX3_choose_0 : List UInt8 := dkwX3_choose_0 ++ dktX3_choose_1
theorem dksX3_choose_0 : cX3_choose.data.toList.drop 0 = dktX3_choose_0 := by decide +kernel
theorem dksX3_choose_1 : cX3_choose.data.toList.drop 22 = dktX3_choose_1 := dk_seg dksX3_choose_0 22 rfl rfl
theorem dksX3_choose_2 : cX3_choose.data.toList.drop 46 = dktX3_choose_2 := dk_seg dksX3_choose_1 24 rfl rfl
theorem dksX3_choose_3 : cX3_choose.data.toList.drop 70 = dktX3_choose_3 := dk_seg dksX3_choose_2 24 rfl rfl
theorem dksX3_choose_4 : cX3_choose.data.toList.drop 94 = dktX3_choose_4 := dk_seg dksX3_choose_3 24 rfl rfl
theorem dksX3_choose_5 : cX3_choose.data.toList.drop 117 = dktX3_choose_5 := dk_seg dksX3_choose_4 23 rfl rfl
theorem dX3_choose_0 : decode cX3_choose 0 = .ok (.aload_n 0, 1) := dk_42 (dk_at dksX3_choose_0 0 rfl rfl)
theorem dX3_choose_1 : decode cX3_choose 1 = .ok (.iconst 0, 1) := dk_3 (dk_at dksX3_choose_0 1 rfl rfl)
theorem dX3_choose_2 : decode cX3_choose 2 = .ok (.putfield 50, 3) := dk_181 0 50 (dk_at dksX3_choose_0 2 rfl rfl)
theorem dX3_choose_5 : decode cX3_choose 5 = .ok (.aload_n 0, 1) := dk_42 (dk_at dksX3_choose_0 5 rfl rfl)
theorem dX3_choose_6 : decode cX3_choose 6 = .ok (.invokevirtual 69, 3) := dk_182 0 69 (dk_at dksX3_choose_0 6 rfl rfl)
theorem dX3_choose_9 : decode cX3_choose 9 = .ok (.aload_n 0, 1) := dk_42 (dk_at dksX3_choose_0 9 rfl rfl)
theorem dX3_choose_10 : decode cX3_choose 10 = .ok (.invokevirtual 179, 3) := dk_182 0 179 (dk_at dksX3_choose_0 10 rfl rfl)
theorem dX3_choose_13 : decode cX3_choose 13 = .ok (.lstore_n 1, 1) := dk_64 (dk_at dksX3_choose_0 13 rfl rfl)
theorem dX3_choose_14 : decode cX3_choose 14 = .ok (.lconst 0, 1) := dk_9 (dk_at dksX3_choose_0 14 rfl rfl)
theorem dX3_choose_15 : decode cX3_choose 15 = .ok (.lstore_n 3, 1) := dk_66 (dk_at dksX3_choose_0 15 rfl rfl)
theorem dX3_choose_16 : decode cX3_choose 16 = .ok (.iconst 0, 1) := dk_3 (dk_at dksX3_choose_0 16 rfl rfl)
theorem dX3_choose_17 : decode cX3_choose 17 = .ok (.istore 5, 2) := dk_54 5 (dk_at dksX3_choose_0 17 rfl rfl)
theorem dX3_choose_19 : decode cX3_choose 19 = .ok (.lload_n 1, 1) := dk_31 (dk_at dksX3_choose_0 19 rfl rfl)
theorem dX3_choose_20 : decode cX3_choose 20 = .ok (.lconst 0, 1) := dk_9 (dk_at dksX3_choose_0 20 rfl rfl)
theorem dX3_choose_21 : decode cX3_choose 21 = .ok (.lcmp, 1) := dk_148 (dk_at dksX3_choose_0 21 rfl rfl)
theorem dX3_choose_22 : decode cX3_choose 22 = .ok (.ifCond .eq 85, 3) := dk_153 0 85 (dk_at dksX3_choose_1 0 rfl rfl)
theorem dX3_choose_25 : decode cX3_choose 25 = .ok (.iconst 0, 1) := dk_3 (dk_at dksX3_choose_1 3 rfl rfl)
theorem dX3_choose_26 : decode cX3_choose 26 = .ok (.istore 6, 2) := dk_54 6 (dk_at dksX3_choose_1 4 rfl rfl)
theorem dX3_choose_28 : decode cX3_choose 28 = .ok (.iconst 1, 1) := dk_4 (dk_at dksX3_choose_1 6 rfl rfl)
theorem dX3_choose_29 : decode cX3_choose 29 = .ok (.istore 7, 2) := dk_54 7 (dk_at dksX3_choose_1 7 rfl rfl)
theorem dX3_choose_31 : decode cX3_choose 31 = .ok (.iload 7, 2) := dk_21 7 (dk_at dksX3_choose_1 9 rfl rfl)
theorem dX3_choose_33 : decode cX3_choose 33 = .ok (.bipush 64, 2) := dk_16 64 (dk_at dksX3_choose_1 11 rfl rfl)
theorem dX3_choose_35 : decode cX3_choose 35 = .ok (.if_icmp .ge 45, 3) := dk_162 0 45 (dk_at dksX3_choose_1 13 rfl rfl)
theorem dX3_choose_38 : decode cX3_choose 38 = .ok (.aload_n 0, 1) := dk_42 (dk_at dksX3_choose_1 16 rfl rfl)
theorem dX3_choose_39 : decode cX3_choose 39 = .ok (.getfield 38, 3) := dk_180 0 38 (dk_at dksX3_choose_1 17 rfl rfl)
theorem dX3_choose_42 : decode cX3_choose 42 = .ok (.iload 7, 2) := dk_21 7 (dk_at dksX3_choose_1 20 rfl rfl)
theorem dX3_choose_44 : decode cX3_choose 44 = .ok (.laload, 1) := dk_47 (dk_at dksX3_choose_1 22 rfl rfl)
theorem dX3_choose_45 : decode cX3_choose 45 = .ok (.lload_n 1, 1) := dk_31 (dk_at dksX3_choose_1 23 rfl rfl)
theorem dX3_choose_46 : decode cX3_choose 46 = .ok (.land, 1) := dk_127 (dk_at dksX3_choose_2 0 rfl rfl)
theorem dX3_choose_47 : decode cX3_choose 47 = .ok (.invokestatic 183, 3) := dk_184 0 183 (dk_at dksX3_choose_2 1 rfl rfl)
theorem dX3_choose_50 : decode cX3_choose 50 = .ok (.aload_n 0, 1) := dk_42 (dk_at dksX3_choose_2 4 rfl rfl)
theorem dX3_choose_51 : decode cX3_choose 51 = .ok (.getfield 38, 3) := dk_180 0 38 (dk_at dksX3_choose_2 5 rfl rfl)
theorem dX3_choose_54 : decode cX3_choose 54 = .ok (.iload 6, 2) := dk_21 6 (dk_at dksX3_choose_2 8 rfl rfl)
theorem dX3_choose_56 : decode cX3_choose 56 = .ok (.laload, 1) := dk_47 (dk_at dksX3_choose_2 10 rfl rfl)
theorem dX3_choose_57 : decode cX3_choose 57 = .ok (.lload_n 1, 1) := dk_31 (dk_at dksX3_choose_2 11 rfl rfl)
theorem dX3_choose_58 : decode cX3_choose 58 = .ok (.land, 1) := dk_127 (dk_at dksX3_choose_2 12 rfl rfl)
theorem dX3_choose_59 : decode cX3_choose 59 = .ok (.invokestatic 183, 3) := dk_184 0 183 (dk_at dksX3_choose_2 13 rfl rfl)
theorem dX3_choose_62 : decode cX3_choose 62 = .ok (.if_icmp .le 8, 3) := dk_164 0 8 (dk_at dksX3_choose_2 16 rfl rfl)
theorem dX3_choose_65 : decode cX3_choose 65 = .ok (.iload 7, 2) := dk_21 7 (dk_at dksX3_choose_2 19 rfl rfl)
theorem dX3_choose_67 : decode cX3_choose 67 = .ok (.goto 5, 3) := dk_167 0 5 (dk_at dksX3_choose_2 21 rfl rfl)
theorem dX3_choose_70 : decode cX3_choose 70 = .ok (.iload 6, 2) := dk_21 6 (dk_at dksX3_choose_3 0 rfl rfl)
theorem dX3_choose_72 : decode cX3_choose 72 = .ok (.istore 6, 2) := dk_54 6 (dk_at dksX3_choose_3 2 rfl rfl)
theorem dX3_choose_74 : decode cX3_choose 74 = .ok (.iinc 7 1, 3) := dk_132 7 1 (dk_at dksX3_choose_3 4 rfl rfl)
theorem dX3_choose_77 : decode cX3_choose 77 = .ok (.goto (-46), 3) := dk_167 255 210 (dk_at dksX3_choose_3 7 rfl rfl)
theorem dX3_choose_80 : decode cX3_choose 80 = .ok (.lload_n 3, 1) := dk_33 (dk_at dksX3_choose_3 10 rfl rfl)
theorem dX3_choose_81 : decode cX3_choose 81 = .ok (.lconst 1, 1) := dk_10 (dk_at dksX3_choose_3 11 rfl rfl)
theorem dX3_choose_82 : decode cX3_choose 82 = .ok (.iload 6, 2) := dk_21 6 (dk_at dksX3_choose_3 12 rfl rfl)
theorem dX3_choose_84 : decode cX3_choose 84 = .ok (.lshl, 1) := dk_121 (dk_at dksX3_choose_3 14 rfl rfl)
theorem dX3_choose_85 : decode cX3_choose 85 = .ok (.lor, 1) := dk_129 (dk_at dksX3_choose_3 15 rfl rfl)
theorem dX3_choose_86 : decode cX3_choose 86 = .ok (.lstore_n 3, 1) := dk_66 (dk_at dksX3_choose_3 16 rfl rfl)
theorem dX3_choose_87 : decode cX3_choose 87 = .ok (.lload_n 1, 1) := dk_31 (dk_at dksX3_choose_3 17 rfl rfl)
theorem dX3_choose_88 : decode cX3_choose 88 = .ok (.aload_n 0, 1) := dk_42 (dk_at dksX3_choose_3 18 rfl rfl)
theorem dX3_choose_89 : decode cX3_choose 89 = .ok (.getfield 38, 3) := dk_180 0 38 (dk_at dksX3_choose_3 19 rfl rfl)
theorem dX3_choose_92 : decode cX3_choose 92 = .ok (.iload 6, 2) := dk_21 6 (dk_at dksX3_choose_3 22 rfl rfl)
theorem dX3_choose_94 : decode cX3_choose 94 = .ok (.laload, 1) := dk_47 (dk_at dksX3_choose_4 0 rfl rfl)
theorem dX3_choose_95 : decode cX3_choose 95 = .ok (.ldc2_w 72, 3) := dk_20 0 72 (dk_at dksX3_choose_4 1 rfl rfl)
theorem dX3_choose_98 : decode cX3_choose 98 = .ok (.lxor, 1) := dk_131 (dk_at dksX3_choose_4 4 rfl rfl)
theorem dX3_choose_99 : decode cX3_choose 99 = .ok (.land, 1) := dk_127 (dk_at dksX3_choose_4 5 rfl rfl)
theorem dX3_choose_100 : decode cX3_choose 100 = .ok (.lstore_n 1, 1) := dk_64 (dk_at dksX3_choose_4 6 rfl rfl)
theorem dX3_choose_101 : decode cX3_choose 101 = .ok (.iinc 5 1, 3) := dk_132 5 1 (dk_at dksX3_choose_4 7 rfl rfl)
theorem dX3_choose_104 : decode cX3_choose 104 = .ok (.goto (-85), 3) := dk_167 255 171 (dk_at dksX3_choose_4 10 rfl rfl)
theorem dX3_choose_107 : decode cX3_choose 107 = .ok (.aload_n 0, 1) := dk_42 (dk_at dksX3_choose_4 13 rfl rfl)
theorem dX3_choose_108 : decode cX3_choose 108 = .ok (.getfield 7, 3) := dk_180 0 7 (dk_at dksX3_choose_4 14 rfl rfl)
theorem dX3_choose_111 : decode cX3_choose 111 = .ok (.bipush 66, 2) := dk_16 66 (dk_at dksX3_choose_4 17 rfl rfl)
theorem dX3_choose_113 : decode cX3_choose 113 = .ok (.lload_n 3, 1) := dk_33 (dk_at dksX3_choose_4 19 rfl rfl)
theorem dX3_choose_114 : decode cX3_choose 114 = .ok (.l2i, 1) := dk_136 (dk_at dksX3_choose_4 20 rfl rfl)
theorem dX3_choose_115 : decode cX3_choose 115 = .ok (.iastore, 1) := dk_79 (dk_at dksX3_choose_4 21 rfl rfl)
theorem dX3_choose_116 : decode cX3_choose 116 = .ok (.aload_n 0, 1) := dk_42 (dk_at dksX3_choose_4 22 rfl rfl)
theorem dX3_choose_117 : decode cX3_choose 117 = .ok (.getfield 7, 3) := dk_180 0 7 (dk_at dksX3_choose_5 0 rfl rfl)
theorem dX3_choose_120 : decode cX3_choose 120 = .ok (.bipush 67, 2) := dk_16 67 (dk_at dksX3_choose_5 3 rfl rfl)
theorem dX3_choose_122 : decode cX3_choose 122 = .ok (.lload_n 3, 1) := dk_33 (dk_at dksX3_choose_5 5 rfl rfl)
theorem dX3_choose_123 : decode cX3_choose 123 = .ok (.bipush 32, 2) := dk_16 32 (dk_at dksX3_choose_5 6 rfl rfl)
theorem dX3_choose_125 : decode cX3_choose 125 = .ok (.lushr, 1) := dk_125 (dk_at dksX3_choose_5 8 rfl rfl)
theorem dX3_choose_126 : decode cX3_choose 126 = .ok (.l2i, 1) := dk_136 (dk_at dksX3_choose_5 9 rfl rfl)
theorem dX3_choose_127 : decode cX3_choose 127 = .ok (.iastore, 1) := dk_79 (dk_at dksX3_choose_5 10 rfl rfl)
theorem dX3_choose_128 : decode cX3_choose 128 = .ok (.iload 5, 2) := dk_21 5 (dk_at dksX3_choose_5 11 rfl rfl)
theorem dX3_choose_130 : decode cX3_choose 130 = .ok (.ireturn, 1) := dk_172 (dk_at dksX3_choose_5 13 rfl rfl)
abbrev cX3_tellShown : ByteArray := prog_9_method_49_code
def yX3_tellShown : MethodName := ⟨RX3, "tellShown", "()J"⟩
def dkwX3_tellShown_4 : List UInt8 := [132, 3, 1, 167, 255, 183, 31, 173]
abbrev dktX3_tellShown_4 : List UInt8 := dkwX3_tellShown_4 ++ []
def dkwX3_tellShown_3 : List UInt8 := [180, 0, 38, 21, 6, 92, 47, 22, 4, 21, 6, 125, 10, 127, 29, 121, 129, 80, 132, 6, 1, 167, 255, 227]
abbrev dktX3_tellShown_3 : List UInt8 := dkwX3_tellShown_3 ++ dktX3_tellShown_4
def dkwX3_tellShown_2 : List UInt8 := [153, 0, 9, 10, 29, 121, 167, 0, 4, 9, 129, 64, 3, 54, 6, 21, 6, 16, 64, 162, 0, 28, 42]
abbrev dktX3_tellShown_2 : List UInt8 := dkwX3_tellShown_2 ++ dktX3_tellShown_3
def dkwX3_tellShown_1 : List UInt8 := [62, 29, 5, 42, 182, 0, 54, 104, 162, 0, 69, 42, 29, 2, 182, 0, 175, 55, 4, 31, 22, 4, 9, 148]
abbrev dktX3_tellShown_1 : List UInt8 := dkwX3_tellShown_1 ++ dktX3_tellShown_2
def dkwX3_tellShown_0 : List UInt8 := [9, 64, 3, 62, 29, 16, 64, 162, 0, 16, 42, 180, 0, 38, 29, 9, 80, 132, 3, 1, 167, 255, 240, 3]
abbrev dktX3_tellShown_0 : List UInt8 := dkwX3_tellShown_0 ++ dktX3_tellShown_1
theorem dksX3_tellShown_0 : cX3_tellShown.data.toList.drop 0 = dktX3_tellShown_0 := by decide +kernel
theorem dksX3_tellShown_1 : cX3_tellShown.data.toList.drop 24 = dktX3_tellShown_1 := dk_seg dksX3_tellShown_0 24 rfl rfl
theorem dksX3_tellShown_2 : cX3_tellShown.data.toList.drop 48 = dktX3_tellShown_2 := dk_seg dksX3_tellShown_1 24 rfl rfl
theorem dksX3_tellShown_3 : cX3_tellShown.data.toList.drop 71 = dktX3_tellShown_3 := dk_seg dksX3_tellShown_2 23 rfl rfl
theorem dksX3_tellShown_4 : cX3_tellShown.data.toList.drop 95 = dktX3_tellShown_4 := dk_seg dksX3_tellShown_3 24 rfl rfl
theorem dX3_tellShown_0 : decode cX3_tellShown 0 = .ok (.lconst 0, 1) := dk_9 (dk_at dksX3_tellShown_0 0 rfl rfl)
theorem dX3_tellShown_1 : decode cX3_tellShown 1 = .ok (.lstore_n 1, 1) := dk_64 (dk_at dksX3_tellShown_0 1 rfl rfl)
theorem dX3_tellShown_2 : decode cX3_tellShown 2 = .ok (.iconst 0, 1) := dk_3 (dk_at dksX3_tellShown_0 2 rfl rfl)
theorem dX3_tellShown_3 : decode cX3_tellShown 3 = .ok (.istore_n 3, 1) := dk_62 (dk_at dksX3_tellShown_0 3 rfl rfl)
theorem dX3_tellShown_4 : decode cX3_tellShown 4 = .ok (.iload_n 3, 1) := dk_29 (dk_at dksX3_tellShown_0 4 rfl rfl)
theorem dX3_tellShown_5 : decode cX3_tellShown 5 = .ok (.bipush 64, 2) := dk_16 64 (dk_at dksX3_tellShown_0 5 rfl rfl)
theorem dX3_tellShown_7 : decode cX3_tellShown 7 = .ok (.if_icmp .ge 16, 3) := dk_162 0 16 (dk_at dksX3_tellShown_0 7 rfl rfl)
theorem dX3_tellShown_10 : decode cX3_tellShown 10 = .ok (.aload_n 0, 1) := dk_42 (dk_at dksX3_tellShown_0 10 rfl rfl)
theorem dX3_tellShown_11 : decode cX3_tellShown 11 = .ok (.getfield 38, 3) := dk_180 0 38 (dk_at dksX3_tellShown_0 11 rfl rfl)
theorem dX3_tellShown_14 : decode cX3_tellShown 14 = .ok (.iload_n 3, 1) := dk_29 (dk_at dksX3_tellShown_0 14 rfl rfl)
theorem dX3_tellShown_15 : decode cX3_tellShown 15 = .ok (.lconst 0, 1) := dk_9 (dk_at dksX3_tellShown_0 15 rfl rfl)
theorem dX3_tellShown_16 : decode cX3_tellShown 16 = .ok (.lastore, 1) := dk_80 (dk_at dksX3_tellShown_0 16 rfl rfl)
theorem dX3_tellShown_17 : decode cX3_tellShown 17 = .ok (.iinc 3 1, 3) := dk_132 3 1 (dk_at dksX3_tellShown_0 17 rfl rfl)
theorem dX3_tellShown_20 : decode cX3_tellShown 20 = .ok (.goto (-16), 3) := dk_167 255 240 (dk_at dksX3_tellShown_0 20 rfl rfl)
theorem dX3_tellShown_23 : decode cX3_tellShown 23 = .ok (.iconst 0, 1) := dk_3 (dk_at dksX3_tellShown_0 23 rfl rfl)
theorem dX3_tellShown_24 : decode cX3_tellShown 24 = .ok (.istore_n 3, 1) := dk_62 (dk_at dksX3_tellShown_1 0 rfl rfl)
theorem dX3_tellShown_25 : decode cX3_tellShown 25 = .ok (.iload_n 3, 1) := dk_29 (dk_at dksX3_tellShown_1 1 rfl rfl)
theorem dX3_tellShown_26 : decode cX3_tellShown 26 = .ok (.iconst 2, 1) := dk_5 (dk_at dksX3_tellShown_1 2 rfl rfl)
theorem dX3_tellShown_27 : decode cX3_tellShown 27 = .ok (.aload_n 0, 1) := dk_42 (dk_at dksX3_tellShown_1 3 rfl rfl)
theorem dX3_tellShown_28 : decode cX3_tellShown 28 = .ok (.invokevirtual 54, 3) := dk_182 0 54 (dk_at dksX3_tellShown_1 4 rfl rfl)
theorem dX3_tellShown_31 : decode cX3_tellShown 31 = .ok (.imul, 1) := dk_104 (dk_at dksX3_tellShown_1 7 rfl rfl)
theorem dX3_tellShown_32 : decode cX3_tellShown 32 = .ok (.if_icmp .ge 69, 3) := dk_162 0 69 (dk_at dksX3_tellShown_1 8 rfl rfl)
theorem dX3_tellShown_35 : decode cX3_tellShown 35 = .ok (.aload_n 0, 1) := dk_42 (dk_at dksX3_tellShown_1 11 rfl rfl)
theorem dX3_tellShown_36 : decode cX3_tellShown 36 = .ok (.iload_n 3, 1) := dk_29 (dk_at dksX3_tellShown_1 12 rfl rfl)
theorem dX3_tellShown_37 : decode cX3_tellShown 37 = .ok (.iconst (-1), 1) := dk_2 (dk_at dksX3_tellShown_1 13 rfl rfl)
theorem dX3_tellShown_38 : decode cX3_tellShown 38 = .ok (.invokevirtual 175, 3) := dk_182 0 175 (dk_at dksX3_tellShown_1 14 rfl rfl)
theorem dX3_tellShown_41 : decode cX3_tellShown 41 = .ok (.lstore 4, 2) := dk_55 4 (dk_at dksX3_tellShown_1 17 rfl rfl)
theorem dX3_tellShown_43 : decode cX3_tellShown 43 = .ok (.lload_n 1, 1) := dk_31 (dk_at dksX3_tellShown_1 19 rfl rfl)
theorem dX3_tellShown_44 : decode cX3_tellShown 44 = .ok (.lload 4, 2) := dk_22 4 (dk_at dksX3_tellShown_1 20 rfl rfl)
theorem dX3_tellShown_46 : decode cX3_tellShown 46 = .ok (.lconst 0, 1) := dk_9 (dk_at dksX3_tellShown_1 22 rfl rfl)
theorem dX3_tellShown_47 : decode cX3_tellShown 47 = .ok (.lcmp, 1) := dk_148 (dk_at dksX3_tellShown_1 23 rfl rfl)
theorem dX3_tellShown_48 : decode cX3_tellShown 48 = .ok (.ifCond .eq 9, 3) := dk_153 0 9 (dk_at dksX3_tellShown_2 0 rfl rfl)
theorem dX3_tellShown_51 : decode cX3_tellShown 51 = .ok (.lconst 1, 1) := dk_10 (dk_at dksX3_tellShown_2 3 rfl rfl)
theorem dX3_tellShown_52 : decode cX3_tellShown 52 = .ok (.iload_n 3, 1) := dk_29 (dk_at dksX3_tellShown_2 4 rfl rfl)
theorem dX3_tellShown_53 : decode cX3_tellShown 53 = .ok (.lshl, 1) := dk_121 (dk_at dksX3_tellShown_2 5 rfl rfl)
theorem dX3_tellShown_54 : decode cX3_tellShown 54 = .ok (.goto 4, 3) := dk_167 0 4 (dk_at dksX3_tellShown_2 6 rfl rfl)
theorem dX3_tellShown_57 : decode cX3_tellShown 57 = .ok (.lconst 0, 1) := dk_9 (dk_at dksX3_tellShown_2 9 rfl rfl)
theorem dX3_tellShown_58 : decode cX3_tellShown 58 = .ok (.lor, 1) := dk_129 (dk_at dksX3_tellShown_2 10 rfl rfl)
theorem dX3_tellShown_59 : decode cX3_tellShown 59 = .ok (.lstore_n 1, 1) := dk_64 (dk_at dksX3_tellShown_2 11 rfl rfl)
theorem dX3_tellShown_60 : decode cX3_tellShown 60 = .ok (.iconst 0, 1) := dk_3 (dk_at dksX3_tellShown_2 12 rfl rfl)
theorem dX3_tellShown_61 : decode cX3_tellShown 61 = .ok (.istore 6, 2) := dk_54 6 (dk_at dksX3_tellShown_2 13 rfl rfl)
theorem dX3_tellShown_63 : decode cX3_tellShown 63 = .ok (.iload 6, 2) := dk_21 6 (dk_at dksX3_tellShown_2 15 rfl rfl)
theorem dX3_tellShown_65 : decode cX3_tellShown 65 = .ok (.bipush 64, 2) := dk_16 64 (dk_at dksX3_tellShown_2 17 rfl rfl)
theorem dX3_tellShown_67 : decode cX3_tellShown 67 = .ok (.if_icmp .ge 28, 3) := dk_162 0 28 (dk_at dksX3_tellShown_2 19 rfl rfl)
theorem dX3_tellShown_70 : decode cX3_tellShown 70 = .ok (.aload_n 0, 1) := dk_42 (dk_at dksX3_tellShown_2 22 rfl rfl)
theorem dX3_tellShown_71 : decode cX3_tellShown 71 = .ok (.getfield 38, 3) := dk_180 0 38 (dk_at dksX3_tellShown_3 0 rfl rfl)
theorem dX3_tellShown_74 : decode cX3_tellShown 74 = .ok (.iload 6, 2) := dk_21 6 (dk_at dksX3_tellShown_3 3 rfl rfl)
theorem dX3_tellShown_76 : decode cX3_tellShown 76 = .ok (.dup2, 1) := dk_92 (dk_at dksX3_tellShown_3 5 rfl rfl)
theorem dX3_tellShown_77 : decode cX3_tellShown 77 = .ok (.laload, 1) := dk_47 (dk_at dksX3_tellShown_3 6 rfl rfl)
theorem dX3_tellShown_78 : decode cX3_tellShown 78 = .ok (.lload 4, 2) := dk_22 4 (dk_at dksX3_tellShown_3 7 rfl rfl)
theorem dX3_tellShown_80 : decode cX3_tellShown 80 = .ok (.iload 6, 2) := dk_21 6 (dk_at dksX3_tellShown_3 9 rfl rfl)
theorem dX3_tellShown_82 : decode cX3_tellShown 82 = .ok (.lushr, 1) := dk_125 (dk_at dksX3_tellShown_3 11 rfl rfl)
theorem dX3_tellShown_83 : decode cX3_tellShown 83 = .ok (.lconst 1, 1) := dk_10 (dk_at dksX3_tellShown_3 12 rfl rfl)
theorem dX3_tellShown_84 : decode cX3_tellShown 84 = .ok (.land, 1) := dk_127 (dk_at dksX3_tellShown_3 13 rfl rfl)
theorem dX3_tellShown_85 : decode cX3_tellShown 85 = .ok (.iload_n 3, 1) := dk_29 (dk_at dksX3_tellShown_3 14 rfl rfl)
theorem dX3_tellShown_86 : decode cX3_tellShown 86 = .ok (.lshl, 1) := dk_121 (dk_at dksX3_tellShown_3 15 rfl rfl)
theorem dX3_tellShown_87 : decode cX3_tellShown 87 = .ok (.lor, 1) := dk_129 (dk_at dksX3_tellShown_3 16 rfl rfl)
theorem dX3_tellShown_88 : decode cX3_tellShown 88 = .ok (.lastore, 1) := dk_80 (dk_at dksX3_tellShown_3 17 rfl rfl)
theorem dX3_tellShown_89 : decode cX3_tellShown 89 = .ok (.iinc 6 1, 3) := dk_132 6 1 (dk_at dksX3_tellShown_3 18 rfl rfl)
theorem dX3_tellShown_92 : decode cX3_tellShown 92 = .ok (.goto (-29), 3) := dk_167 255 227 (dk_at dksX3_tellShown_3 21 rfl rfl)
theorem dX3_tellShown_95 : decode cX3_tellShown 95 = .ok (.iinc 3 1, 3) := dk_132 3 1 (dk_at dksX3_tellShown_4 0 rfl rfl)
theorem dX3_tellShown_98 : decode cX3_tellShown 98 = .ok (.goto (-73), 3) := dk_167 255 183 (dk_at dksX3_tellShown_4 3 rfl rfl)
theorem dX3_tellShown_101 : decode cX3_tellShown 101 = .ok (.lload_n 1, 1) := dk_31 (dk_at dksX3_tellShown_4 6 rfl rfl)
theorem dX3_tellShown_102 : decode cX3_tellShown 102 = .ok (.lreturn, 1) := dk_173 (dk_at dksX3_tellShown_4 7 rfl rfl)
abbrev cX3_apart : ByteArray := prog_9_method_21_code
def yX3_apart : MethodName := ⟨RX3, "apart", "(II)J"⟩
def dkwX3_apart_3 : List UInt8 := [131, 129, 66, 132, 5, 1, 167, 255, 226, 33, 173]
abbrev dktX3_apart_3 : List UInt8 := dkwX3_apart_3 ++ []
def dkwX3_apart_2 : List UInt8 := [21, 5, 42, 180, 0, 90, 162, 0, 27, 33, 42, 180, 0, 26, 21, 5, 47, 42, 180, 0, 29, 21, 5, 47]
abbrev dktX3_apart_2 : List UInt8 := dkwX3_apart_2 ++ dktX3_apart_3
def dkwX3_apart_1 : List UInt8 := [180, 0, 26, 29, 47, 80, 132, 3, 1, 167, 255, 233, 42, 2, 27, 182, 0, 93, 9, 66, 3, 54, 5]
abbrev dktX3_apart_1 : List UInt8 := dkwX3_apart_1 ++ dktX3_apart_2
def dkwX3_apart_0 : List UInt8 := [42, 2, 28, 182, 0, 93, 3, 62, 29, 42, 180, 0, 90, 162, 0, 21, 42, 180, 0, 29, 29, 42]
abbrev dktX3_apart_0 : List UInt8 := dkwX3_apart_0 ++ dktX3_apart_1
theorem dksX3_apart_0 : cX3_apart.data.toList.drop 0 = dktX3_apart_0 := by decide +kernel
theorem dksX3_apart_1 : cX3_apart.data.toList.drop 22 = dktX3_apart_1 := dk_seg dksX3_apart_0 22 rfl rfl
theorem dksX3_apart_2 : cX3_apart.data.toList.drop 45 = dktX3_apart_2 := dk_seg dksX3_apart_1 23 rfl rfl
theorem dksX3_apart_3 : cX3_apart.data.toList.drop 69 = dktX3_apart_3 := dk_seg dksX3_apart_2 24 rfl rfl
theorem dX3_apart_0 : decode cX3_apart 0 = .ok (.aload_n 0, 1) := dk_42 (dk_at dksX3_apart_0 0 rfl rfl)
theorem dX3_apart_1 : decode cX3_apart 1 = .ok (.iconst (-1), 1) := dk_2 (dk_at dksX3_apart_0 1 rfl rfl)
theorem dX3_apart_2 : decode cX3_apart 2 = .ok (.iload_n 2, 1) := dk_28 (dk_at dksX3_apart_0 2 rfl rfl)
theorem dX3_apart_3 : decode cX3_apart 3 = .ok (.invokevirtual 93, 3) := dk_182 0 93 (dk_at dksX3_apart_0 3 rfl rfl)
theorem dX3_apart_6 : decode cX3_apart 6 = .ok (.iconst 0, 1) := dk_3 (dk_at dksX3_apart_0 6 rfl rfl)
theorem dX3_apart_7 : decode cX3_apart 7 = .ok (.istore_n 3, 1) := dk_62 (dk_at dksX3_apart_0 7 rfl rfl)
theorem dX3_apart_8 : decode cX3_apart 8 = .ok (.iload_n 3, 1) := dk_29 (dk_at dksX3_apart_0 8 rfl rfl)
theorem dX3_apart_9 : decode cX3_apart 9 = .ok (.aload_n 0, 1) := dk_42 (dk_at dksX3_apart_0 9 rfl rfl)
theorem dX3_apart_10 : decode cX3_apart 10 = .ok (.getfield 90, 3) := dk_180 0 90 (dk_at dksX3_apart_0 10 rfl rfl)
theorem dX3_apart_13 : decode cX3_apart 13 = .ok (.if_icmp .ge 21, 3) := dk_162 0 21 (dk_at dksX3_apart_0 13 rfl rfl)
theorem dX3_apart_16 : decode cX3_apart 16 = .ok (.aload_n 0, 1) := dk_42 (dk_at dksX3_apart_0 16 rfl rfl)
theorem dX3_apart_17 : decode cX3_apart 17 = .ok (.getfield 29, 3) := dk_180 0 29 (dk_at dksX3_apart_0 17 rfl rfl)
theorem dX3_apart_20 : decode cX3_apart 20 = .ok (.iload_n 3, 1) := dk_29 (dk_at dksX3_apart_0 20 rfl rfl)
theorem dX3_apart_21 : decode cX3_apart 21 = .ok (.aload_n 0, 1) := dk_42 (dk_at dksX3_apart_0 21 rfl rfl)
theorem dX3_apart_22 : decode cX3_apart 22 = .ok (.getfield 26, 3) := dk_180 0 26 (dk_at dksX3_apart_1 0 rfl rfl)
theorem dX3_apart_25 : decode cX3_apart 25 = .ok (.iload_n 3, 1) := dk_29 (dk_at dksX3_apart_1 3 rfl rfl)
theorem dX3_apart_26 : decode cX3_apart 26 = .ok (.laload, 1) := dk_47 (dk_at dksX3_apart_1 4 rfl rfl)
theorem dX3_apart_27 : decode cX3_apart 27 = .ok (.lastore, 1) := dk_80 (dk_at dksX3_apart_1 5 rfl rfl)
theorem dX3_apart_28 : decode cX3_apart 28 = .ok (.iinc 3 1, 3) := dk_132 3 1 (dk_at dksX3_apart_1 6 rfl rfl)
theorem dX3_apart_31 : decode cX3_apart 31 = .ok (.goto (-23), 3) := dk_167 255 233 (dk_at dksX3_apart_1 9 rfl rfl)
theorem dX3_apart_34 : decode cX3_apart 34 = .ok (.aload_n 0, 1) := dk_42 (dk_at dksX3_apart_1 12 rfl rfl)
theorem dX3_apart_35 : decode cX3_apart 35 = .ok (.iconst (-1), 1) := dk_2 (dk_at dksX3_apart_1 13 rfl rfl)
theorem dX3_apart_36 : decode cX3_apart 36 = .ok (.iload_n 1, 1) := dk_27 (dk_at dksX3_apart_1 14 rfl rfl)
theorem dX3_apart_37 : decode cX3_apart 37 = .ok (.invokevirtual 93, 3) := dk_182 0 93 (dk_at dksX3_apart_1 15 rfl rfl)
theorem dX3_apart_40 : decode cX3_apart 40 = .ok (.lconst 0, 1) := dk_9 (dk_at dksX3_apart_1 18 rfl rfl)
theorem dX3_apart_41 : decode cX3_apart 41 = .ok (.lstore_n 3, 1) := dk_66 (dk_at dksX3_apart_1 19 rfl rfl)
theorem dX3_apart_42 : decode cX3_apart 42 = .ok (.iconst 0, 1) := dk_3 (dk_at dksX3_apart_1 20 rfl rfl)
theorem dX3_apart_43 : decode cX3_apart 43 = .ok (.istore 5, 2) := dk_54 5 (dk_at dksX3_apart_1 21 rfl rfl)
theorem dX3_apart_45 : decode cX3_apart 45 = .ok (.iload 5, 2) := dk_21 5 (dk_at dksX3_apart_2 0 rfl rfl)
theorem dX3_apart_47 : decode cX3_apart 47 = .ok (.aload_n 0, 1) := dk_42 (dk_at dksX3_apart_2 2 rfl rfl)
theorem dX3_apart_48 : decode cX3_apart 48 = .ok (.getfield 90, 3) := dk_180 0 90 (dk_at dksX3_apart_2 3 rfl rfl)
theorem dX3_apart_51 : decode cX3_apart 51 = .ok (.if_icmp .ge 27, 3) := dk_162 0 27 (dk_at dksX3_apart_2 6 rfl rfl)
theorem dX3_apart_54 : decode cX3_apart 54 = .ok (.lload_n 3, 1) := dk_33 (dk_at dksX3_apart_2 9 rfl rfl)
theorem dX3_apart_55 : decode cX3_apart 55 = .ok (.aload_n 0, 1) := dk_42 (dk_at dksX3_apart_2 10 rfl rfl)
theorem dX3_apart_56 : decode cX3_apart 56 = .ok (.getfield 26, 3) := dk_180 0 26 (dk_at dksX3_apart_2 11 rfl rfl)
theorem dX3_apart_59 : decode cX3_apart 59 = .ok (.iload 5, 2) := dk_21 5 (dk_at dksX3_apart_2 14 rfl rfl)
theorem dX3_apart_61 : decode cX3_apart 61 = .ok (.laload, 1) := dk_47 (dk_at dksX3_apart_2 16 rfl rfl)
theorem dX3_apart_62 : decode cX3_apart 62 = .ok (.aload_n 0, 1) := dk_42 (dk_at dksX3_apart_2 17 rfl rfl)
theorem dX3_apart_63 : decode cX3_apart 63 = .ok (.getfield 29, 3) := dk_180 0 29 (dk_at dksX3_apart_2 18 rfl rfl)
theorem dX3_apart_66 : decode cX3_apart 66 = .ok (.iload 5, 2) := dk_21 5 (dk_at dksX3_apart_2 21 rfl rfl)
theorem dX3_apart_68 : decode cX3_apart 68 = .ok (.laload, 1) := dk_47 (dk_at dksX3_apart_2 23 rfl rfl)
theorem dX3_apart_69 : decode cX3_apart 69 = .ok (.lxor, 1) := dk_131 (dk_at dksX3_apart_3 0 rfl rfl)
theorem dX3_apart_70 : decode cX3_apart 70 = .ok (.lor, 1) := dk_129 (dk_at dksX3_apart_3 1 rfl rfl)
theorem dX3_apart_71 : decode cX3_apart 71 = .ok (.lstore_n 3, 1) := dk_66 (dk_at dksX3_apart_3 2 rfl rfl)
theorem dX3_apart_72 : decode cX3_apart 72 = .ok (.iinc 5 1, 3) := dk_132 5 1 (dk_at dksX3_apart_3 3 rfl rfl)
theorem dX3_apart_75 : decode cX3_apart 75 = .ok (.goto (-30), 3) := dk_167 255 226 (dk_at dksX3_apart_3 6 rfl rfl)
theorem dX3_apart_78 : decode cX3_apart 78 = .ok (.lload_n 3, 1) := dk_33 (dk_at dksX3_apart_3 9 rfl rfl)
theorem dX3_apart_79 : decode cX3_apart 79 = .ok (.lreturn, 1) := dk_173 (dk_at dksX3_apart_3 10 rfl rfl)
abbrev cX3_countLong : ByteArray := prog_9_method_10_code
def yX3_countLong : MethodName := ⟨RX3, "countLong", "(J)I"⟩
def dkwX3_countLong_1 : List UInt8 := [167, 255, 238, 28, 172]
abbrev dktX3_countLong_1 : List UInt8 := dkwX3_countLong_1 ++ []
def dkwX3_countLong_0 : List UInt8 := [3, 61, 3, 62, 29, 16, 64, 162, 0, 18, 28, 30, 29, 125, 10, 127, 136, 96, 61, 132, 3, 1]
abbrev dktX3_countLong_0 : List UInt8 := dkwX3_countLong_0 ++ dktX3_countLong_1
theorem dksX3_countLong_0 : cX3_countLong.data.toList.drop 0 = dktX3_countLong_0 := by decide +kernel
theorem dksX3_countLong_1 : cX3_countLong.data.toList.drop 22 = dktX3_countLong_1 := dk_seg dksX3_countLong_0 22 rfl rfl
theorem dX3_countLong_0 : decode cX3_countLong 0 = .ok (.iconst 0, 1) := dk_3 (dk_at dksX3_countLong_0 0 rfl rfl)
theorem dX3_countLong_1 : decode cX3_countLong 1 = .ok (.istore_n 2, 1) := dk_61 (dk_at dksX3_countLong_0 1 rfl rfl)
theorem dX3_countLong_2 : decode cX3_countLong 2 = .ok (.iconst 0, 1) := dk_3 (dk_at dksX3_countLong_0 2 rfl rfl)
theorem dX3_countLong_3 : decode cX3_countLong 3 = .ok (.istore_n 3, 1) := dk_62 (dk_at dksX3_countLong_0 3 rfl rfl)
theorem dX3_countLong_4 : decode cX3_countLong 4 = .ok (.iload_n 3, 1) := dk_29 (dk_at dksX3_countLong_0 4 rfl rfl)
theorem dX3_countLong_5 : decode cX3_countLong 5 = .ok (.bipush 64, 2) := dk_16 64 (dk_at dksX3_countLong_0 5 rfl rfl)
theorem dX3_countLong_7 : decode cX3_countLong 7 = .ok (.if_icmp .ge 18, 3) := dk_162 0 18 (dk_at dksX3_countLong_0 7 rfl rfl)
theorem dX3_countLong_10 : decode cX3_countLong 10 = .ok (.iload_n 2, 1) := dk_28 (dk_at dksX3_countLong_0 10 rfl rfl)
theorem dX3_countLong_11 : decode cX3_countLong 11 = .ok (.lload_n 0, 1) := dk_30 (dk_at dksX3_countLong_0 11 rfl rfl)
theorem dX3_countLong_12 : decode cX3_countLong 12 = .ok (.iload_n 3, 1) := dk_29 (dk_at dksX3_countLong_0 12 rfl rfl)
theorem dX3_countLong_13 : decode cX3_countLong 13 = .ok (.lushr, 1) := dk_125 (dk_at dksX3_countLong_0 13 rfl rfl)
theorem dX3_countLong_14 : decode cX3_countLong 14 = .ok (.lconst 1, 1) := dk_10 (dk_at dksX3_countLong_0 14 rfl rfl)
theorem dX3_countLong_15 : decode cX3_countLong 15 = .ok (.land, 1) := dk_127 (dk_at dksX3_countLong_0 15 rfl rfl)
theorem dX3_countLong_16 : decode cX3_countLong 16 = .ok (.l2i, 1) := dk_136 (dk_at dksX3_countLong_0 16 rfl rfl)
theorem dX3_countLong_17 : decode cX3_countLong 17 = .ok (.iadd, 1) := dk_96 (dk_at dksX3_countLong_0 17 rfl rfl)
theorem dX3_countLong_18 : decode cX3_countLong 18 = .ok (.istore_n 2, 1) := dk_61 (dk_at dksX3_countLong_0 18 rfl rfl)
theorem dX3_countLong_19 : decode cX3_countLong 19 = .ok (.iinc 3 1, 3) := dk_132 3 1 (dk_at dksX3_countLong_0 19 rfl rfl)
theorem dX3_countLong_22 : decode cX3_countLong 22 = .ok (.goto (-18), 3) := dk_167 255 238 (dk_at dksX3_countLong_1 0 rfl rfl)
theorem dX3_countLong_25 : decode cX3_countLong 25 = .ok (.iload_n 2, 1) := dk_28 (dk_at dksX3_countLong_1 3 rfl rfl)
theorem dX3_countLong_26 : decode cX3_countLong 26 = .ok (.ireturn, 1) := dk_172 (dk_at dksX3_countLong_1 4 rfl rfl)
abbrev cX3_fewestTests : ByteArray := prog_9_method_54_code
def yX3_fewestTests : MethodName := ⟨RX3, "fewestTests", "()I"⟩
def dkwX3_fewestTests_1 : List UInt8 := [29, 182, 0, 193, 154, 0, 9, 132, 3, 1, 167, 255, 238, 29, 172]
abbrev dktX3_fewestTests_1 : List UInt8 := dkwX3_fewestTests_1 ++ []
def dkwX3_fewestTests_0 : List UInt8 := [42, 3, 181, 0, 50, 42, 182, 0, 179, 64, 42, 182, 0, 190, 3, 62, 29, 16, 7, 162, 0, 18, 42, 31]
abbrev dktX3_fewestTests_0 : List UInt8 := dkwX3_fewestTests_0 ++ dktX3_fewestTests_1
theorem dksX3_fewestTests_0 : cX3_fewestTests.data.toList.drop 0 = dktX3_fewestTests_0 := by decide +kernel
theorem dksX3_fewestTests_1 : cX3_fewestTests.data.toList.drop 24 = dktX3_fewestTests_1 := dk_seg dksX3_fewestTests_0 24 rfl rfl
theorem dX3_fewestTests_0 : decode cX3_fewestTests 0 = .ok (.aload_n 0, 1) := dk_42 (dk_at dksX3_fewestTests_0 0 rfl rfl)
theorem dX3_fewestTests_1 : decode cX3_fewestTests 1 = .ok (.iconst 0, 1) := dk_3 (dk_at dksX3_fewestTests_0 1 rfl rfl)
theorem dX3_fewestTests_2 : decode cX3_fewestTests 2 = .ok (.putfield 50, 3) := dk_181 0 50 (dk_at dksX3_fewestTests_0 2 rfl rfl)
theorem dX3_fewestTests_5 : decode cX3_fewestTests 5 = .ok (.aload_n 0, 1) := dk_42 (dk_at dksX3_fewestTests_0 5 rfl rfl)
theorem dX3_fewestTests_6 : decode cX3_fewestTests 6 = .ok (.invokevirtual 179, 3) := dk_182 0 179 (dk_at dksX3_fewestTests_0 6 rfl rfl)
theorem dX3_fewestTests_9 : decode cX3_fewestTests 9 = .ok (.lstore_n 1, 1) := dk_64 (dk_at dksX3_fewestTests_0 9 rfl rfl)
theorem dX3_fewestTests_10 : decode cX3_fewestTests 10 = .ok (.aload_n 0, 1) := dk_42 (dk_at dksX3_fewestTests_0 10 rfl rfl)
theorem dX3_fewestTests_11 : decode cX3_fewestTests 11 = .ok (.invokevirtual 190, 3) := dk_182 0 190 (dk_at dksX3_fewestTests_0 11 rfl rfl)
theorem dX3_fewestTests_14 : decode cX3_fewestTests 14 = .ok (.iconst 0, 1) := dk_3 (dk_at dksX3_fewestTests_0 14 rfl rfl)
theorem dX3_fewestTests_15 : decode cX3_fewestTests 15 = .ok (.istore_n 3, 1) := dk_62 (dk_at dksX3_fewestTests_0 15 rfl rfl)
theorem dX3_fewestTests_16 : decode cX3_fewestTests 16 = .ok (.iload_n 3, 1) := dk_29 (dk_at dksX3_fewestTests_0 16 rfl rfl)
theorem dX3_fewestTests_17 : decode cX3_fewestTests 17 = .ok (.bipush 7, 2) := dk_16 7 (dk_at dksX3_fewestTests_0 17 rfl rfl)
theorem dX3_fewestTests_19 : decode cX3_fewestTests 19 = .ok (.if_icmp .ge 18, 3) := dk_162 0 18 (dk_at dksX3_fewestTests_0 19 rfl rfl)
theorem dX3_fewestTests_22 : decode cX3_fewestTests 22 = .ok (.aload_n 0, 1) := dk_42 (dk_at dksX3_fewestTests_0 22 rfl rfl)
theorem dX3_fewestTests_23 : decode cX3_fewestTests 23 = .ok (.lload_n 1, 1) := dk_31 (dk_at dksX3_fewestTests_0 23 rfl rfl)
theorem dX3_fewestTests_24 : decode cX3_fewestTests 24 = .ok (.iload_n 3, 1) := dk_29 (dk_at dksX3_fewestTests_1 0 rfl rfl)
theorem dX3_fewestTests_25 : decode cX3_fewestTests 25 = .ok (.invokevirtual 193, 3) := dk_182 0 193 (dk_at dksX3_fewestTests_1 1 rfl rfl)
theorem dX3_fewestTests_28 : decode cX3_fewestTests 28 = .ok (.ifCond .ne 9, 3) := dk_154 0 9 (dk_at dksX3_fewestTests_1 4 rfl rfl)
theorem dX3_fewestTests_31 : decode cX3_fewestTests 31 = .ok (.iinc 3 1, 3) := dk_132 3 1 (dk_at dksX3_fewestTests_1 7 rfl rfl)
theorem dX3_fewestTests_34 : decode cX3_fewestTests 34 = .ok (.goto (-18), 3) := dk_167 255 238 (dk_at dksX3_fewestTests_1 10 rfl rfl)
theorem dX3_fewestTests_37 : decode cX3_fewestTests 37 = .ok (.iload_n 3, 1) := dk_29 (dk_at dksX3_fewestTests_1 13 rfl rfl)
theorem dX3_fewestTests_38 : decode cX3_fewestTests 38 = .ok (.ireturn, 1) := dk_172 (dk_at dksX3_fewestTests_1 14 rfl rfl)
abbrev cX3_thinOut : ByteArray := prog_9_method_51_code
def yX3_thinOut : MethodName := ⟨RX3, "thinOut", "()V"⟩
def dkwX3_thinOut_4 : List UInt8 := [132, 2, 1, 167, 255, 173, 132, 1, 1, 167, 255, 159, 177]
abbrev dktX3_thinOut_4 : List UInt8 := dkwX3_thinOut_4 ++ []
def dkwX3_thinOut_3 : List UInt8 := [3, 62, 42, 180, 0, 38, 27, 29, 153, 0, 7, 9, 167, 0, 9, 42, 180, 0, 38, 27, 47, 80]
abbrev dktX3_thinOut_3 : List UInt8 := dkwX3_thinOut_3 ++ dktX3_thinOut_4
def dkwX3_thinOut_2 : List UInt8 := [180, 0, 38, 27, 47, 42, 180, 0, 38, 28, 47, 148, 154, 0, 8, 28, 27, 162, 0, 7, 4, 167, 0, 4]
abbrev dktX3_thinOut_2 : List UInt8 := dkwX3_thinOut_2 ++ dktX3_thinOut_3
def dkwX3_thinOut_1 : List UInt8 := [180, 0, 38, 27, 47, 42, 180, 0, 38, 28, 47, 20, 0, 72, 131, 127, 9, 148, 154, 0, 28, 42]
abbrev dktX3_thinOut_1 : List UInt8 := dkwX3_thinOut_1 ++ dktX3_thinOut_2
def dkwX3_thinOut_0 : List UInt8 := [3, 60, 27, 16, 64, 162, 0, 97, 3, 61, 28, 16, 64, 162, 0, 83, 28, 27, 159, 0, 50, 42]
abbrev dktX3_thinOut_0 : List UInt8 := dkwX3_thinOut_0 ++ dktX3_thinOut_1
theorem dksX3_thinOut_0 : cX3_thinOut.data.toList.drop 0 = dktX3_thinOut_0 := by decide +kernel
theorem dksX3_thinOut_1 : cX3_thinOut.data.toList.drop 22 = dktX3_thinOut_1 := dk_seg dksX3_thinOut_0 22 rfl rfl
theorem dksX3_thinOut_2 : cX3_thinOut.data.toList.drop 44 = dktX3_thinOut_2 := dk_seg dksX3_thinOut_1 22 rfl rfl
theorem dksX3_thinOut_3 : cX3_thinOut.data.toList.drop 68 = dktX3_thinOut_3 := dk_seg dksX3_thinOut_2 24 rfl rfl
theorem dksX3_thinOut_4 : cX3_thinOut.data.toList.drop 90 = dktX3_thinOut_4 := dk_seg dksX3_thinOut_3 22 rfl rfl
theorem dX3_thinOut_0 : decode cX3_thinOut 0 = .ok (.iconst 0, 1) := dk_3 (dk_at dksX3_thinOut_0 0 rfl rfl)
theorem dX3_thinOut_1 : decode cX3_thinOut 1 = .ok (.istore_n 1, 1) := dk_60 (dk_at dksX3_thinOut_0 1 rfl rfl)
theorem dX3_thinOut_2 : decode cX3_thinOut 2 = .ok (.iload_n 1, 1) := dk_27 (dk_at dksX3_thinOut_0 2 rfl rfl)
theorem dX3_thinOut_3 : decode cX3_thinOut 3 = .ok (.bipush 64, 2) := dk_16 64 (dk_at dksX3_thinOut_0 3 rfl rfl)
theorem dX3_thinOut_5 : decode cX3_thinOut 5 = .ok (.if_icmp .ge 97, 3) := dk_162 0 97 (dk_at dksX3_thinOut_0 5 rfl rfl)
theorem dX3_thinOut_8 : decode cX3_thinOut 8 = .ok (.iconst 0, 1) := dk_3 (dk_at dksX3_thinOut_0 8 rfl rfl)
theorem dX3_thinOut_9 : decode cX3_thinOut 9 = .ok (.istore_n 2, 1) := dk_61 (dk_at dksX3_thinOut_0 9 rfl rfl)
theorem dX3_thinOut_10 : decode cX3_thinOut 10 = .ok (.iload_n 2, 1) := dk_28 (dk_at dksX3_thinOut_0 10 rfl rfl)
theorem dX3_thinOut_11 : decode cX3_thinOut 11 = .ok (.bipush 64, 2) := dk_16 64 (dk_at dksX3_thinOut_0 11 rfl rfl)
theorem dX3_thinOut_13 : decode cX3_thinOut 13 = .ok (.if_icmp .ge 83, 3) := dk_162 0 83 (dk_at dksX3_thinOut_0 13 rfl rfl)
theorem dX3_thinOut_16 : decode cX3_thinOut 16 = .ok (.iload_n 2, 1) := dk_28 (dk_at dksX3_thinOut_0 16 rfl rfl)
theorem dX3_thinOut_17 : decode cX3_thinOut 17 = .ok (.iload_n 1, 1) := dk_27 (dk_at dksX3_thinOut_0 17 rfl rfl)
theorem dX3_thinOut_18 : decode cX3_thinOut 18 = .ok (.if_icmp .eq 50, 3) := dk_159 0 50 (dk_at dksX3_thinOut_0 18 rfl rfl)
theorem dX3_thinOut_21 : decode cX3_thinOut 21 = .ok (.aload_n 0, 1) := dk_42 (dk_at dksX3_thinOut_0 21 rfl rfl)
theorem dX3_thinOut_22 : decode cX3_thinOut 22 = .ok (.getfield 38, 3) := dk_180 0 38 (dk_at dksX3_thinOut_1 0 rfl rfl)
theorem dX3_thinOut_25 : decode cX3_thinOut 25 = .ok (.iload_n 1, 1) := dk_27 (dk_at dksX3_thinOut_1 3 rfl rfl)
theorem dX3_thinOut_26 : decode cX3_thinOut 26 = .ok (.laload, 1) := dk_47 (dk_at dksX3_thinOut_1 4 rfl rfl)
theorem dX3_thinOut_27 : decode cX3_thinOut 27 = .ok (.aload_n 0, 1) := dk_42 (dk_at dksX3_thinOut_1 5 rfl rfl)
theorem dX3_thinOut_28 : decode cX3_thinOut 28 = .ok (.getfield 38, 3) := dk_180 0 38 (dk_at dksX3_thinOut_1 6 rfl rfl)
theorem dX3_thinOut_31 : decode cX3_thinOut 31 = .ok (.iload_n 2, 1) := dk_28 (dk_at dksX3_thinOut_1 9 rfl rfl)
theorem dX3_thinOut_32 : decode cX3_thinOut 32 = .ok (.laload, 1) := dk_47 (dk_at dksX3_thinOut_1 10 rfl rfl)
theorem dX3_thinOut_33 : decode cX3_thinOut 33 = .ok (.ldc2_w 72, 3) := dk_20 0 72 (dk_at dksX3_thinOut_1 11 rfl rfl)
theorem dX3_thinOut_36 : decode cX3_thinOut 36 = .ok (.lxor, 1) := dk_131 (dk_at dksX3_thinOut_1 14 rfl rfl)
theorem dX3_thinOut_37 : decode cX3_thinOut 37 = .ok (.land, 1) := dk_127 (dk_at dksX3_thinOut_1 15 rfl rfl)
theorem dX3_thinOut_38 : decode cX3_thinOut 38 = .ok (.lconst 0, 1) := dk_9 (dk_at dksX3_thinOut_1 16 rfl rfl)
theorem dX3_thinOut_39 : decode cX3_thinOut 39 = .ok (.lcmp, 1) := dk_148 (dk_at dksX3_thinOut_1 17 rfl rfl)
theorem dX3_thinOut_40 : decode cX3_thinOut 40 = .ok (.ifCond .ne 28, 3) := dk_154 0 28 (dk_at dksX3_thinOut_1 18 rfl rfl)
theorem dX3_thinOut_43 : decode cX3_thinOut 43 = .ok (.aload_n 0, 1) := dk_42 (dk_at dksX3_thinOut_1 21 rfl rfl)
theorem dX3_thinOut_44 : decode cX3_thinOut 44 = .ok (.getfield 38, 3) := dk_180 0 38 (dk_at dksX3_thinOut_2 0 rfl rfl)
theorem dX3_thinOut_47 : decode cX3_thinOut 47 = .ok (.iload_n 1, 1) := dk_27 (dk_at dksX3_thinOut_2 3 rfl rfl)
theorem dX3_thinOut_48 : decode cX3_thinOut 48 = .ok (.laload, 1) := dk_47 (dk_at dksX3_thinOut_2 4 rfl rfl)
theorem dX3_thinOut_49 : decode cX3_thinOut 49 = .ok (.aload_n 0, 1) := dk_42 (dk_at dksX3_thinOut_2 5 rfl rfl)
theorem dX3_thinOut_50 : decode cX3_thinOut 50 = .ok (.getfield 38, 3) := dk_180 0 38 (dk_at dksX3_thinOut_2 6 rfl rfl)
theorem dX3_thinOut_53 : decode cX3_thinOut 53 = .ok (.iload_n 2, 1) := dk_28 (dk_at dksX3_thinOut_2 9 rfl rfl)
theorem dX3_thinOut_54 : decode cX3_thinOut 54 = .ok (.laload, 1) := dk_47 (dk_at dksX3_thinOut_2 10 rfl rfl)
theorem dX3_thinOut_55 : decode cX3_thinOut 55 = .ok (.lcmp, 1) := dk_148 (dk_at dksX3_thinOut_2 11 rfl rfl)
theorem dX3_thinOut_56 : decode cX3_thinOut 56 = .ok (.ifCond .ne 8, 3) := dk_154 0 8 (dk_at dksX3_thinOut_2 12 rfl rfl)
theorem dX3_thinOut_59 : decode cX3_thinOut 59 = .ok (.iload_n 2, 1) := dk_28 (dk_at dksX3_thinOut_2 15 rfl rfl)
theorem dX3_thinOut_60 : decode cX3_thinOut 60 = .ok (.iload_n 1, 1) := dk_27 (dk_at dksX3_thinOut_2 16 rfl rfl)
theorem dX3_thinOut_61 : decode cX3_thinOut 61 = .ok (.if_icmp .ge 7, 3) := dk_162 0 7 (dk_at dksX3_thinOut_2 17 rfl rfl)
theorem dX3_thinOut_64 : decode cX3_thinOut 64 = .ok (.iconst 1, 1) := dk_4 (dk_at dksX3_thinOut_2 20 rfl rfl)
theorem dX3_thinOut_65 : decode cX3_thinOut 65 = .ok (.goto 4, 3) := dk_167 0 4 (dk_at dksX3_thinOut_2 21 rfl rfl)
theorem dX3_thinOut_68 : decode cX3_thinOut 68 = .ok (.iconst 0, 1) := dk_3 (dk_at dksX3_thinOut_3 0 rfl rfl)
theorem dX3_thinOut_69 : decode cX3_thinOut 69 = .ok (.istore_n 3, 1) := dk_62 (dk_at dksX3_thinOut_3 1 rfl rfl)
theorem dX3_thinOut_70 : decode cX3_thinOut 70 = .ok (.aload_n 0, 1) := dk_42 (dk_at dksX3_thinOut_3 2 rfl rfl)
theorem dX3_thinOut_71 : decode cX3_thinOut 71 = .ok (.getfield 38, 3) := dk_180 0 38 (dk_at dksX3_thinOut_3 3 rfl rfl)
theorem dX3_thinOut_74 : decode cX3_thinOut 74 = .ok (.iload_n 1, 1) := dk_27 (dk_at dksX3_thinOut_3 6 rfl rfl)
theorem dX3_thinOut_75 : decode cX3_thinOut 75 = .ok (.iload_n 3, 1) := dk_29 (dk_at dksX3_thinOut_3 7 rfl rfl)
theorem dX3_thinOut_76 : decode cX3_thinOut 76 = .ok (.ifCond .eq 7, 3) := dk_153 0 7 (dk_at dksX3_thinOut_3 8 rfl rfl)
theorem dX3_thinOut_79 : decode cX3_thinOut 79 = .ok (.lconst 0, 1) := dk_9 (dk_at dksX3_thinOut_3 11 rfl rfl)
theorem dX3_thinOut_80 : decode cX3_thinOut 80 = .ok (.goto 9, 3) := dk_167 0 9 (dk_at dksX3_thinOut_3 12 rfl rfl)
theorem dX3_thinOut_83 : decode cX3_thinOut 83 = .ok (.aload_n 0, 1) := dk_42 (dk_at dksX3_thinOut_3 15 rfl rfl)
theorem dX3_thinOut_84 : decode cX3_thinOut 84 = .ok (.getfield 38, 3) := dk_180 0 38 (dk_at dksX3_thinOut_3 16 rfl rfl)
theorem dX3_thinOut_87 : decode cX3_thinOut 87 = .ok (.iload_n 1, 1) := dk_27 (dk_at dksX3_thinOut_3 19 rfl rfl)
theorem dX3_thinOut_88 : decode cX3_thinOut 88 = .ok (.laload, 1) := dk_47 (dk_at dksX3_thinOut_3 20 rfl rfl)
theorem dX3_thinOut_89 : decode cX3_thinOut 89 = .ok (.lastore, 1) := dk_80 (dk_at dksX3_thinOut_3 21 rfl rfl)
theorem dX3_thinOut_90 : decode cX3_thinOut 90 = .ok (.iinc 2 1, 3) := dk_132 2 1 (dk_at dksX3_thinOut_4 0 rfl rfl)
theorem dX3_thinOut_93 : decode cX3_thinOut 93 = .ok (.goto (-83), 3) := dk_167 255 173 (dk_at dksX3_thinOut_4 3 rfl rfl)
theorem dX3_thinOut_96 : decode cX3_thinOut 96 = .ok (.iinc 1 1, 3) := dk_132 1 1 (dk_at dksX3_thinOut_4 6 rfl rfl)
theorem dX3_thinOut_99 : decode cX3_thinOut 99 = .ok (.goto (-97), 3) := dk_167 255 159 (dk_at dksX3_thinOut_4 9 rfl rfl)
theorem dX3_thinOut_102 : decode cX3_thinOut 102 = .ok (.return_, 1) := dk_177 (dk_at dksX3_thinOut_4 12 rfl rfl)
abbrev cX3_suffice : ByteArray := prog_9_method_53_code
def yX3_suffice : MethodName := ⟨RX3, "suffice", "(JI)Z"⟩
def dkwX3_suffice_7 : List UInt8 := [182, 0, 187, 79, 132, 4, 1, 167, 255, 113, 3, 172]
abbrev dktX3_suffice_7 : List UInt8 := dkwX3_suffice_7 ++ []
def dkwX3_suffice_6 : List UInt8 := [21, 4, 4, 96, 3, 79, 42, 180, 0, 47, 21, 4, 4, 96, 42, 42, 180, 0, 41, 21, 4, 4, 96, 47]
abbrev dktX3_suffice_6 : List UInt8 := dkwX3_suffice_6 ++ dktX3_suffice_7
def dkwX3_suffice_5 : List UInt8 := [180, 0, 41, 21, 4, 47, 42, 180, 0, 38, 21, 5, 47, 20, 0, 72, 131, 127, 80, 42, 180, 0, 44]
abbrev dktX3_suffice_5 : List UInt8 := dkwX3_suffice_5 ++ dktX3_suffice_6
def dkwX3_suffice_4 : List UInt8 := [180, 0, 47, 21, 4, 46, 125, 10, 127, 10, 148, 154, 0, 66, 42, 180, 0, 41, 21, 4, 4, 96, 42]
abbrev dktX3_suffice_4 : List UInt8 := dkwX3_suffice_4 ++ dktX3_suffice_5
def dkwX3_suffice_3 : List UInt8 := [167, 0, 99, 42, 180, 0, 44, 21, 4, 92, 46, 4, 96, 79, 42, 180, 0, 38, 21, 5, 47, 42]
abbrev dktX3_suffice_3 : List UInt8 := dkwX3_suffice_3 ++ dktX3_suffice_4
def dkwX3_suffice_2 : List UInt8 := [180, 0, 44, 21, 4, 46, 54, 5, 21, 4, 29, 159, 0, 10, 21, 5, 16, 64, 160, 0, 9, 132, 4, 255]
abbrev dktX3_suffice_2 : List UInt8 := dkwX3_suffice_2 ++ dktX3_suffice_3
def dkwX3_suffice_1 : List UInt8 := [182, 0, 187, 79, 21, 4, 155, 0, 144, 42, 180, 0, 41, 21, 4, 47, 9, 148, 154, 0, 5, 4, 172, 42]
abbrev dktX3_suffice_1 : List UInt8 := dkwX3_suffice_1 ++ dktX3_suffice_2
def dkwX3_suffice_0 : List UInt8 := [3, 54, 4, 42, 180, 0, 41, 3, 31, 80, 42, 180, 0, 44, 3, 3, 79, 42, 180, 0, 47, 3, 42, 31]
abbrev dktX3_suffice_0 : List UInt8 := dkwX3_suffice_0 ++ dktX3_suffice_1
theorem dksX3_suffice_0 : cX3_suffice.data.toList.drop 0 = dktX3_suffice_0 := by decide +kernel
theorem dksX3_suffice_1 : cX3_suffice.data.toList.drop 24 = dktX3_suffice_1 := dk_seg dksX3_suffice_0 24 rfl rfl
theorem dksX3_suffice_2 : cX3_suffice.data.toList.drop 48 = dktX3_suffice_2 := dk_seg dksX3_suffice_1 24 rfl rfl
theorem dksX3_suffice_3 : cX3_suffice.data.toList.drop 72 = dktX3_suffice_3 := dk_seg dksX3_suffice_2 24 rfl rfl
theorem dksX3_suffice_4 : cX3_suffice.data.toList.drop 94 = dktX3_suffice_4 := dk_seg dksX3_suffice_3 22 rfl rfl
theorem dksX3_suffice_5 : cX3_suffice.data.toList.drop 117 = dktX3_suffice_5 := dk_seg dksX3_suffice_4 23 rfl rfl
theorem dksX3_suffice_6 : cX3_suffice.data.toList.drop 140 = dktX3_suffice_6 := dk_seg dksX3_suffice_5 23 rfl rfl
theorem dksX3_suffice_7 : cX3_suffice.data.toList.drop 164 = dktX3_suffice_7 := dk_seg dksX3_suffice_6 24 rfl rfl
theorem dX3_suffice_0 : decode cX3_suffice 0 = .ok (.iconst 0, 1) := dk_3 (dk_at dksX3_suffice_0 0 rfl rfl)
theorem dX3_suffice_1 : decode cX3_suffice 1 = .ok (.istore 4, 2) := dk_54 4 (dk_at dksX3_suffice_0 1 rfl rfl)
theorem dX3_suffice_3 : decode cX3_suffice 3 = .ok (.aload_n 0, 1) := dk_42 (dk_at dksX3_suffice_0 3 rfl rfl)
theorem dX3_suffice_4 : decode cX3_suffice 4 = .ok (.getfield 41, 3) := dk_180 0 41 (dk_at dksX3_suffice_0 4 rfl rfl)
theorem dX3_suffice_7 : decode cX3_suffice 7 = .ok (.iconst 0, 1) := dk_3 (dk_at dksX3_suffice_0 7 rfl rfl)
theorem dX3_suffice_8 : decode cX3_suffice 8 = .ok (.lload_n 1, 1) := dk_31 (dk_at dksX3_suffice_0 8 rfl rfl)
theorem dX3_suffice_9 : decode cX3_suffice 9 = .ok (.lastore, 1) := dk_80 (dk_at dksX3_suffice_0 9 rfl rfl)
theorem dX3_suffice_10 : decode cX3_suffice 10 = .ok (.aload_n 0, 1) := dk_42 (dk_at dksX3_suffice_0 10 rfl rfl)
theorem dX3_suffice_11 : decode cX3_suffice 11 = .ok (.getfield 44, 3) := dk_180 0 44 (dk_at dksX3_suffice_0 11 rfl rfl)
theorem dX3_suffice_14 : decode cX3_suffice 14 = .ok (.iconst 0, 1) := dk_3 (dk_at dksX3_suffice_0 14 rfl rfl)
theorem dX3_suffice_15 : decode cX3_suffice 15 = .ok (.iconst 0, 1) := dk_3 (dk_at dksX3_suffice_0 15 rfl rfl)
theorem dX3_suffice_16 : decode cX3_suffice 16 = .ok (.iastore, 1) := dk_79 (dk_at dksX3_suffice_0 16 rfl rfl)
theorem dX3_suffice_17 : decode cX3_suffice 17 = .ok (.aload_n 0, 1) := dk_42 (dk_at dksX3_suffice_0 17 rfl rfl)
theorem dX3_suffice_18 : decode cX3_suffice 18 = .ok (.getfield 47, 3) := dk_180 0 47 (dk_at dksX3_suffice_0 18 rfl rfl)
theorem dX3_suffice_21 : decode cX3_suffice 21 = .ok (.iconst 0, 1) := dk_3 (dk_at dksX3_suffice_0 21 rfl rfl)
theorem dX3_suffice_22 : decode cX3_suffice 22 = .ok (.aload_n 0, 1) := dk_42 (dk_at dksX3_suffice_0 22 rfl rfl)
theorem dX3_suffice_23 : decode cX3_suffice 23 = .ok (.lload_n 1, 1) := dk_31 (dk_at dksX3_suffice_0 23 rfl rfl)
theorem dX3_suffice_24 : decode cX3_suffice 24 = .ok (.invokevirtual 187, 3) := dk_182 0 187 (dk_at dksX3_suffice_1 0 rfl rfl)
theorem dX3_suffice_27 : decode cX3_suffice 27 = .ok (.iastore, 1) := dk_79 (dk_at dksX3_suffice_1 3 rfl rfl)
theorem dX3_suffice_28 : decode cX3_suffice 28 = .ok (.iload 4, 2) := dk_21 4 (dk_at dksX3_suffice_1 4 rfl rfl)
theorem dX3_suffice_30 : decode cX3_suffice 30 = .ok (.ifCond .lt 144, 3) := dk_155 0 144 (dk_at dksX3_suffice_1 6 rfl rfl)
theorem dX3_suffice_33 : decode cX3_suffice 33 = .ok (.aload_n 0, 1) := dk_42 (dk_at dksX3_suffice_1 9 rfl rfl)
theorem dX3_suffice_34 : decode cX3_suffice 34 = .ok (.getfield 41, 3) := dk_180 0 41 (dk_at dksX3_suffice_1 10 rfl rfl)
theorem dX3_suffice_37 : decode cX3_suffice 37 = .ok (.iload 4, 2) := dk_21 4 (dk_at dksX3_suffice_1 13 rfl rfl)
theorem dX3_suffice_39 : decode cX3_suffice 39 = .ok (.laload, 1) := dk_47 (dk_at dksX3_suffice_1 15 rfl rfl)
theorem dX3_suffice_40 : decode cX3_suffice 40 = .ok (.lconst 0, 1) := dk_9 (dk_at dksX3_suffice_1 16 rfl rfl)
theorem dX3_suffice_41 : decode cX3_suffice 41 = .ok (.lcmp, 1) := dk_148 (dk_at dksX3_suffice_1 17 rfl rfl)
theorem dX3_suffice_42 : decode cX3_suffice 42 = .ok (.ifCond .ne 5, 3) := dk_154 0 5 (dk_at dksX3_suffice_1 18 rfl rfl)
theorem dX3_suffice_45 : decode cX3_suffice 45 = .ok (.iconst 1, 1) := dk_4 (dk_at dksX3_suffice_1 21 rfl rfl)
theorem dX3_suffice_46 : decode cX3_suffice 46 = .ok (.ireturn, 1) := dk_172 (dk_at dksX3_suffice_1 22 rfl rfl)
theorem dX3_suffice_47 : decode cX3_suffice 47 = .ok (.aload_n 0, 1) := dk_42 (dk_at dksX3_suffice_1 23 rfl rfl)
theorem dX3_suffice_48 : decode cX3_suffice 48 = .ok (.getfield 44, 3) := dk_180 0 44 (dk_at dksX3_suffice_2 0 rfl rfl)
theorem dX3_suffice_51 : decode cX3_suffice 51 = .ok (.iload 4, 2) := dk_21 4 (dk_at dksX3_suffice_2 3 rfl rfl)
theorem dX3_suffice_53 : decode cX3_suffice 53 = .ok (.iaload, 1) := dk_46 (dk_at dksX3_suffice_2 5 rfl rfl)
theorem dX3_suffice_54 : decode cX3_suffice 54 = .ok (.istore 5, 2) := dk_54 5 (dk_at dksX3_suffice_2 6 rfl rfl)
theorem dX3_suffice_56 : decode cX3_suffice 56 = .ok (.iload 4, 2) := dk_21 4 (dk_at dksX3_suffice_2 8 rfl rfl)
theorem dX3_suffice_58 : decode cX3_suffice 58 = .ok (.iload_n 3, 1) := dk_29 (dk_at dksX3_suffice_2 10 rfl rfl)
theorem dX3_suffice_59 : decode cX3_suffice 59 = .ok (.if_icmp .eq 10, 3) := dk_159 0 10 (dk_at dksX3_suffice_2 11 rfl rfl)
theorem dX3_suffice_62 : decode cX3_suffice 62 = .ok (.iload 5, 2) := dk_21 5 (dk_at dksX3_suffice_2 14 rfl rfl)
theorem dX3_suffice_64 : decode cX3_suffice 64 = .ok (.bipush 64, 2) := dk_16 64 (dk_at dksX3_suffice_2 16 rfl rfl)
theorem dX3_suffice_66 : decode cX3_suffice 66 = .ok (.if_icmp .ne 9, 3) := dk_160 0 9 (dk_at dksX3_suffice_2 18 rfl rfl)
theorem dX3_suffice_69 : decode cX3_suffice 69 = .ok (.iinc 4 (-1), 3) := dk_132 4 255 (dk_at dksX3_suffice_2 21 rfl rfl)
theorem dX3_suffice_72 : decode cX3_suffice 72 = .ok (.goto 99, 3) := dk_167 0 99 (dk_at dksX3_suffice_3 0 rfl rfl)
theorem dX3_suffice_75 : decode cX3_suffice 75 = .ok (.aload_n 0, 1) := dk_42 (dk_at dksX3_suffice_3 3 rfl rfl)
theorem dX3_suffice_76 : decode cX3_suffice 76 = .ok (.getfield 44, 3) := dk_180 0 44 (dk_at dksX3_suffice_3 4 rfl rfl)
theorem dX3_suffice_79 : decode cX3_suffice 79 = .ok (.iload 4, 2) := dk_21 4 (dk_at dksX3_suffice_3 7 rfl rfl)
theorem dX3_suffice_81 : decode cX3_suffice 81 = .ok (.dup2, 1) := dk_92 (dk_at dksX3_suffice_3 9 rfl rfl)
theorem dX3_suffice_82 : decode cX3_suffice 82 = .ok (.iaload, 1) := dk_46 (dk_at dksX3_suffice_3 10 rfl rfl)
theorem dX3_suffice_83 : decode cX3_suffice 83 = .ok (.iconst 1, 1) := dk_4 (dk_at dksX3_suffice_3 11 rfl rfl)
theorem dX3_suffice_84 : decode cX3_suffice 84 = .ok (.iadd, 1) := dk_96 (dk_at dksX3_suffice_3 12 rfl rfl)
theorem dX3_suffice_85 : decode cX3_suffice 85 = .ok (.iastore, 1) := dk_79 (dk_at dksX3_suffice_3 13 rfl rfl)
theorem dX3_suffice_86 : decode cX3_suffice 86 = .ok (.aload_n 0, 1) := dk_42 (dk_at dksX3_suffice_3 14 rfl rfl)
theorem dX3_suffice_87 : decode cX3_suffice 87 = .ok (.getfield 38, 3) := dk_180 0 38 (dk_at dksX3_suffice_3 15 rfl rfl)
theorem dX3_suffice_90 : decode cX3_suffice 90 = .ok (.iload 5, 2) := dk_21 5 (dk_at dksX3_suffice_3 18 rfl rfl)
theorem dX3_suffice_92 : decode cX3_suffice 92 = .ok (.laload, 1) := dk_47 (dk_at dksX3_suffice_3 20 rfl rfl)
theorem dX3_suffice_93 : decode cX3_suffice 93 = .ok (.aload_n 0, 1) := dk_42 (dk_at dksX3_suffice_3 21 rfl rfl)
theorem dX3_suffice_94 : decode cX3_suffice 94 = .ok (.getfield 47, 3) := dk_180 0 47 (dk_at dksX3_suffice_4 0 rfl rfl)
theorem dX3_suffice_97 : decode cX3_suffice 97 = .ok (.iload 4, 2) := dk_21 4 (dk_at dksX3_suffice_4 3 rfl rfl)
theorem dX3_suffice_99 : decode cX3_suffice 99 = .ok (.iaload, 1) := dk_46 (dk_at dksX3_suffice_4 5 rfl rfl)
theorem dX3_suffice_100 : decode cX3_suffice 100 = .ok (.lushr, 1) := dk_125 (dk_at dksX3_suffice_4 6 rfl rfl)
theorem dX3_suffice_101 : decode cX3_suffice 101 = .ok (.lconst 1, 1) := dk_10 (dk_at dksX3_suffice_4 7 rfl rfl)
theorem dX3_suffice_102 : decode cX3_suffice 102 = .ok (.land, 1) := dk_127 (dk_at dksX3_suffice_4 8 rfl rfl)
theorem dX3_suffice_103 : decode cX3_suffice 103 = .ok (.lconst 1, 1) := dk_10 (dk_at dksX3_suffice_4 9 rfl rfl)
theorem dX3_suffice_104 : decode cX3_suffice 104 = .ok (.lcmp, 1) := dk_148 (dk_at dksX3_suffice_4 10 rfl rfl)
theorem dX3_suffice_105 : decode cX3_suffice 105 = .ok (.ifCond .ne 66, 3) := dk_154 0 66 (dk_at dksX3_suffice_4 11 rfl rfl)
theorem dX3_suffice_108 : decode cX3_suffice 108 = .ok (.aload_n 0, 1) := dk_42 (dk_at dksX3_suffice_4 14 rfl rfl)
theorem dX3_suffice_109 : decode cX3_suffice 109 = .ok (.getfield 41, 3) := dk_180 0 41 (dk_at dksX3_suffice_4 15 rfl rfl)
theorem dX3_suffice_112 : decode cX3_suffice 112 = .ok (.iload 4, 2) := dk_21 4 (dk_at dksX3_suffice_4 18 rfl rfl)
theorem dX3_suffice_114 : decode cX3_suffice 114 = .ok (.iconst 1, 1) := dk_4 (dk_at dksX3_suffice_4 20 rfl rfl)
theorem dX3_suffice_115 : decode cX3_suffice 115 = .ok (.iadd, 1) := dk_96 (dk_at dksX3_suffice_4 21 rfl rfl)
theorem dX3_suffice_116 : decode cX3_suffice 116 = .ok (.aload_n 0, 1) := dk_42 (dk_at dksX3_suffice_4 22 rfl rfl)
theorem dX3_suffice_117 : decode cX3_suffice 117 = .ok (.getfield 41, 3) := dk_180 0 41 (dk_at dksX3_suffice_5 0 rfl rfl)
theorem dX3_suffice_120 : decode cX3_suffice 120 = .ok (.iload 4, 2) := dk_21 4 (dk_at dksX3_suffice_5 3 rfl rfl)
theorem dX3_suffice_122 : decode cX3_suffice 122 = .ok (.laload, 1) := dk_47 (dk_at dksX3_suffice_5 5 rfl rfl)
theorem dX3_suffice_123 : decode cX3_suffice 123 = .ok (.aload_n 0, 1) := dk_42 (dk_at dksX3_suffice_5 6 rfl rfl)
theorem dX3_suffice_124 : decode cX3_suffice 124 = .ok (.getfield 38, 3) := dk_180 0 38 (dk_at dksX3_suffice_5 7 rfl rfl)
theorem dX3_suffice_127 : decode cX3_suffice 127 = .ok (.iload 5, 2) := dk_21 5 (dk_at dksX3_suffice_5 10 rfl rfl)
theorem dX3_suffice_129 : decode cX3_suffice 129 = .ok (.laload, 1) := dk_47 (dk_at dksX3_suffice_5 12 rfl rfl)
theorem dX3_suffice_130 : decode cX3_suffice 130 = .ok (.ldc2_w 72, 3) := dk_20 0 72 (dk_at dksX3_suffice_5 13 rfl rfl)
theorem dX3_suffice_133 : decode cX3_suffice 133 = .ok (.lxor, 1) := dk_131 (dk_at dksX3_suffice_5 16 rfl rfl)
theorem dX3_suffice_134 : decode cX3_suffice 134 = .ok (.land, 1) := dk_127 (dk_at dksX3_suffice_5 17 rfl rfl)
theorem dX3_suffice_135 : decode cX3_suffice 135 = .ok (.lastore, 1) := dk_80 (dk_at dksX3_suffice_5 18 rfl rfl)
theorem dX3_suffice_136 : decode cX3_suffice 136 = .ok (.aload_n 0, 1) := dk_42 (dk_at dksX3_suffice_5 19 rfl rfl)
theorem dX3_suffice_137 : decode cX3_suffice 137 = .ok (.getfield 44, 3) := dk_180 0 44 (dk_at dksX3_suffice_5 20 rfl rfl)
theorem dX3_suffice_140 : decode cX3_suffice 140 = .ok (.iload 4, 2) := dk_21 4 (dk_at dksX3_suffice_6 0 rfl rfl)
theorem dX3_suffice_142 : decode cX3_suffice 142 = .ok (.iconst 1, 1) := dk_4 (dk_at dksX3_suffice_6 2 rfl rfl)
theorem dX3_suffice_143 : decode cX3_suffice 143 = .ok (.iadd, 1) := dk_96 (dk_at dksX3_suffice_6 3 rfl rfl)
theorem dX3_suffice_144 : decode cX3_suffice 144 = .ok (.iconst 0, 1) := dk_3 (dk_at dksX3_suffice_6 4 rfl rfl)
theorem dX3_suffice_145 : decode cX3_suffice 145 = .ok (.iastore, 1) := dk_79 (dk_at dksX3_suffice_6 5 rfl rfl)
theorem dX3_suffice_146 : decode cX3_suffice 146 = .ok (.aload_n 0, 1) := dk_42 (dk_at dksX3_suffice_6 6 rfl rfl)
theorem dX3_suffice_147 : decode cX3_suffice 147 = .ok (.getfield 47, 3) := dk_180 0 47 (dk_at dksX3_suffice_6 7 rfl rfl)
theorem dX3_suffice_150 : decode cX3_suffice 150 = .ok (.iload 4, 2) := dk_21 4 (dk_at dksX3_suffice_6 10 rfl rfl)
theorem dX3_suffice_152 : decode cX3_suffice 152 = .ok (.iconst 1, 1) := dk_4 (dk_at dksX3_suffice_6 12 rfl rfl)
theorem dX3_suffice_153 : decode cX3_suffice 153 = .ok (.iadd, 1) := dk_96 (dk_at dksX3_suffice_6 13 rfl rfl)
theorem dX3_suffice_154 : decode cX3_suffice 154 = .ok (.aload_n 0, 1) := dk_42 (dk_at dksX3_suffice_6 14 rfl rfl)
theorem dX3_suffice_155 : decode cX3_suffice 155 = .ok (.aload_n 0, 1) := dk_42 (dk_at dksX3_suffice_6 15 rfl rfl)
theorem dX3_suffice_156 : decode cX3_suffice 156 = .ok (.getfield 41, 3) := dk_180 0 41 (dk_at dksX3_suffice_6 16 rfl rfl)
theorem dX3_suffice_159 : decode cX3_suffice 159 = .ok (.iload 4, 2) := dk_21 4 (dk_at dksX3_suffice_6 19 rfl rfl)
theorem dX3_suffice_161 : decode cX3_suffice 161 = .ok (.iconst 1, 1) := dk_4 (dk_at dksX3_suffice_6 21 rfl rfl)
theorem dX3_suffice_162 : decode cX3_suffice 162 = .ok (.iadd, 1) := dk_96 (dk_at dksX3_suffice_6 22 rfl rfl)
theorem dX3_suffice_163 : decode cX3_suffice 163 = .ok (.laload, 1) := dk_47 (dk_at dksX3_suffice_6 23 rfl rfl)
theorem dX3_suffice_164 : decode cX3_suffice 164 = .ok (.invokevirtual 187, 3) := dk_182 0 187 (dk_at dksX3_suffice_7 0 rfl rfl)
theorem dX3_suffice_167 : decode cX3_suffice 167 = .ok (.iastore, 1) := dk_79 (dk_at dksX3_suffice_7 3 rfl rfl)
theorem dX3_suffice_168 : decode cX3_suffice 168 = .ok (.iinc 4 1, 3) := dk_132 4 1 (dk_at dksX3_suffice_7 4 rfl rfl)
theorem dX3_suffice_171 : decode cX3_suffice 171 = .ok (.goto (-143), 3) := dk_167 255 113 (dk_at dksX3_suffice_7 7 rfl rfl)
theorem dX3_suffice_174 : decode cX3_suffice 174 = .ok (.iconst 0, 1) := dk_3 (dk_at dksX3_suffice_7 10 rfl rfl)
theorem dX3_suffice_175 : decode cX3_suffice 175 = .ok (.ireturn, 1) := dk_172 (dk_at dksX3_suffice_7 11 rfl rfl)
abbrev cX3_rarest : ByteArray := prog_9_method_52_code
def yX3_rarest : MethodName := ⟨RX3, "rarest", "(J)I"⟩
def dkwX3_rarest_4 : List UInt8 := [132, 5, 1, 167, 255, 168, 29, 172]
abbrev dktX3_rarest_4 : List UInt8 := dkwX3_rarest_4 ++ []
def dkwX3_rarest_3 : List UInt8 := [21, 5, 167, 0, 4, 29, 62, 21, 6, 21, 4, 162, 0, 8, 21, 6, 167, 0, 5, 21, 4, 54, 4]
abbrev dktX3_rarest_3 : List UInt8 := dkwX3_rarest_3 ++ dktX3_rarest_4
def dkwX3_rarest_2 : List UInt8 := [47, 21, 5, 125, 10, 127, 136, 96, 54, 6, 132, 7, 1, 167, 255, 228, 21, 6, 21, 4, 162, 0, 8]
abbrev dktX3_rarest_2 : List UInt8 := dkwX3_rarest_2 ++ dktX3_rarest_3
def dkwX3_rarest_1 : List UInt8 := [154, 0, 70, 3, 54, 6, 3, 54, 7, 21, 7, 16, 64, 162, 0, 27, 21, 6, 42, 180, 0, 38, 21, 7]
abbrev dktX3_rarest_1 : List UInt8 := dkwX3_rarest_1 ++ dktX3_rarest_2
def dkwX3_rarest_0 : List UInt8 := [2, 62, 16, 65, 54, 4, 3, 54, 5, 21, 5, 16, 36, 162, 0, 87, 31, 21, 5, 125, 10, 127, 10, 148]
abbrev dktX3_rarest_0 : List UInt8 := dkwX3_rarest_0 ++ dktX3_rarest_1
theorem dksX3_rarest_0 : cX3_rarest.data.toList.drop 0 = dktX3_rarest_0 := by decide +kernel
theorem dksX3_rarest_1 : cX3_rarest.data.toList.drop 24 = dktX3_rarest_1 := dk_seg dksX3_rarest_0 24 rfl rfl
theorem dksX3_rarest_2 : cX3_rarest.data.toList.drop 48 = dktX3_rarest_2 := dk_seg dksX3_rarest_1 24 rfl rfl
theorem dksX3_rarest_3 : cX3_rarest.data.toList.drop 71 = dktX3_rarest_3 := dk_seg dksX3_rarest_2 23 rfl rfl
theorem dksX3_rarest_4 : cX3_rarest.data.toList.drop 94 = dktX3_rarest_4 := dk_seg dksX3_rarest_3 23 rfl rfl
theorem dX3_rarest_0 : decode cX3_rarest 0 = .ok (.iconst (-1), 1) := dk_2 (dk_at dksX3_rarest_0 0 rfl rfl)
theorem dX3_rarest_1 : decode cX3_rarest 1 = .ok (.istore_n 3, 1) := dk_62 (dk_at dksX3_rarest_0 1 rfl rfl)
theorem dX3_rarest_2 : decode cX3_rarest 2 = .ok (.bipush 65, 2) := dk_16 65 (dk_at dksX3_rarest_0 2 rfl rfl)
theorem dX3_rarest_4 : decode cX3_rarest 4 = .ok (.istore 4, 2) := dk_54 4 (dk_at dksX3_rarest_0 4 rfl rfl)
theorem dX3_rarest_6 : decode cX3_rarest 6 = .ok (.iconst 0, 1) := dk_3 (dk_at dksX3_rarest_0 6 rfl rfl)
theorem dX3_rarest_7 : decode cX3_rarest 7 = .ok (.istore 5, 2) := dk_54 5 (dk_at dksX3_rarest_0 7 rfl rfl)
theorem dX3_rarest_9 : decode cX3_rarest 9 = .ok (.iload 5, 2) := dk_21 5 (dk_at dksX3_rarest_0 9 rfl rfl)
theorem dX3_rarest_11 : decode cX3_rarest 11 = .ok (.bipush 36, 2) := dk_16 36 (dk_at dksX3_rarest_0 11 rfl rfl)
theorem dX3_rarest_13 : decode cX3_rarest 13 = .ok (.if_icmp .ge 87, 3) := dk_162 0 87 (dk_at dksX3_rarest_0 13 rfl rfl)
theorem dX3_rarest_16 : decode cX3_rarest 16 = .ok (.lload_n 1, 1) := dk_31 (dk_at dksX3_rarest_0 16 rfl rfl)
theorem dX3_rarest_17 : decode cX3_rarest 17 = .ok (.iload 5, 2) := dk_21 5 (dk_at dksX3_rarest_0 17 rfl rfl)
theorem dX3_rarest_19 : decode cX3_rarest 19 = .ok (.lushr, 1) := dk_125 (dk_at dksX3_rarest_0 19 rfl rfl)
theorem dX3_rarest_20 : decode cX3_rarest 20 = .ok (.lconst 1, 1) := dk_10 (dk_at dksX3_rarest_0 20 rfl rfl)
theorem dX3_rarest_21 : decode cX3_rarest 21 = .ok (.land, 1) := dk_127 (dk_at dksX3_rarest_0 21 rfl rfl)
theorem dX3_rarest_22 : decode cX3_rarest 22 = .ok (.lconst 1, 1) := dk_10 (dk_at dksX3_rarest_0 22 rfl rfl)
theorem dX3_rarest_23 : decode cX3_rarest 23 = .ok (.lcmp, 1) := dk_148 (dk_at dksX3_rarest_0 23 rfl rfl)
theorem dX3_rarest_24 : decode cX3_rarest 24 = .ok (.ifCond .ne 70, 3) := dk_154 0 70 (dk_at dksX3_rarest_1 0 rfl rfl)
theorem dX3_rarest_27 : decode cX3_rarest 27 = .ok (.iconst 0, 1) := dk_3 (dk_at dksX3_rarest_1 3 rfl rfl)
theorem dX3_rarest_28 : decode cX3_rarest 28 = .ok (.istore 6, 2) := dk_54 6 (dk_at dksX3_rarest_1 4 rfl rfl)
theorem dX3_rarest_30 : decode cX3_rarest 30 = .ok (.iconst 0, 1) := dk_3 (dk_at dksX3_rarest_1 6 rfl rfl)
theorem dX3_rarest_31 : decode cX3_rarest 31 = .ok (.istore 7, 2) := dk_54 7 (dk_at dksX3_rarest_1 7 rfl rfl)
theorem dX3_rarest_33 : decode cX3_rarest 33 = .ok (.iload 7, 2) := dk_21 7 (dk_at dksX3_rarest_1 9 rfl rfl)
theorem dX3_rarest_35 : decode cX3_rarest 35 = .ok (.bipush 64, 2) := dk_16 64 (dk_at dksX3_rarest_1 11 rfl rfl)
theorem dX3_rarest_37 : decode cX3_rarest 37 = .ok (.if_icmp .ge 27, 3) := dk_162 0 27 (dk_at dksX3_rarest_1 13 rfl rfl)
theorem dX3_rarest_40 : decode cX3_rarest 40 = .ok (.iload 6, 2) := dk_21 6 (dk_at dksX3_rarest_1 16 rfl rfl)
theorem dX3_rarest_42 : decode cX3_rarest 42 = .ok (.aload_n 0, 1) := dk_42 (dk_at dksX3_rarest_1 18 rfl rfl)
theorem dX3_rarest_43 : decode cX3_rarest 43 = .ok (.getfield 38, 3) := dk_180 0 38 (dk_at dksX3_rarest_1 19 rfl rfl)
theorem dX3_rarest_46 : decode cX3_rarest 46 = .ok (.iload 7, 2) := dk_21 7 (dk_at dksX3_rarest_1 22 rfl rfl)
theorem dX3_rarest_48 : decode cX3_rarest 48 = .ok (.laload, 1) := dk_47 (dk_at dksX3_rarest_2 0 rfl rfl)
theorem dX3_rarest_49 : decode cX3_rarest 49 = .ok (.iload 5, 2) := dk_21 5 (dk_at dksX3_rarest_2 1 rfl rfl)
theorem dX3_rarest_51 : decode cX3_rarest 51 = .ok (.lushr, 1) := dk_125 (dk_at dksX3_rarest_2 3 rfl rfl)
theorem dX3_rarest_52 : decode cX3_rarest 52 = .ok (.lconst 1, 1) := dk_10 (dk_at dksX3_rarest_2 4 rfl rfl)
theorem dX3_rarest_53 : decode cX3_rarest 53 = .ok (.land, 1) := dk_127 (dk_at dksX3_rarest_2 5 rfl rfl)
theorem dX3_rarest_54 : decode cX3_rarest 54 = .ok (.l2i, 1) := dk_136 (dk_at dksX3_rarest_2 6 rfl rfl)
theorem dX3_rarest_55 : decode cX3_rarest 55 = .ok (.iadd, 1) := dk_96 (dk_at dksX3_rarest_2 7 rfl rfl)
theorem dX3_rarest_56 : decode cX3_rarest 56 = .ok (.istore 6, 2) := dk_54 6 (dk_at dksX3_rarest_2 8 rfl rfl)
theorem dX3_rarest_58 : decode cX3_rarest 58 = .ok (.iinc 7 1, 3) := dk_132 7 1 (dk_at dksX3_rarest_2 10 rfl rfl)
theorem dX3_rarest_61 : decode cX3_rarest 61 = .ok (.goto (-28), 3) := dk_167 255 228 (dk_at dksX3_rarest_2 13 rfl rfl)
theorem dX3_rarest_64 : decode cX3_rarest 64 = .ok (.iload 6, 2) := dk_21 6 (dk_at dksX3_rarest_2 16 rfl rfl)
theorem dX3_rarest_66 : decode cX3_rarest 66 = .ok (.iload 4, 2) := dk_21 4 (dk_at dksX3_rarest_2 18 rfl rfl)
theorem dX3_rarest_68 : decode cX3_rarest 68 = .ok (.if_icmp .ge 8, 3) := dk_162 0 8 (dk_at dksX3_rarest_2 20 rfl rfl)
theorem dX3_rarest_71 : decode cX3_rarest 71 = .ok (.iload 5, 2) := dk_21 5 (dk_at dksX3_rarest_3 0 rfl rfl)
theorem dX3_rarest_73 : decode cX3_rarest 73 = .ok (.goto 4, 3) := dk_167 0 4 (dk_at dksX3_rarest_3 2 rfl rfl)
theorem dX3_rarest_76 : decode cX3_rarest 76 = .ok (.iload_n 3, 1) := dk_29 (dk_at dksX3_rarest_3 5 rfl rfl)
theorem dX3_rarest_77 : decode cX3_rarest 77 = .ok (.istore_n 3, 1) := dk_62 (dk_at dksX3_rarest_3 6 rfl rfl)
theorem dX3_rarest_78 : decode cX3_rarest 78 = .ok (.iload 6, 2) := dk_21 6 (dk_at dksX3_rarest_3 7 rfl rfl)
theorem dX3_rarest_80 : decode cX3_rarest 80 = .ok (.iload 4, 2) := dk_21 4 (dk_at dksX3_rarest_3 9 rfl rfl)
theorem dX3_rarest_82 : decode cX3_rarest 82 = .ok (.if_icmp .ge 8, 3) := dk_162 0 8 (dk_at dksX3_rarest_3 11 rfl rfl)
theorem dX3_rarest_85 : decode cX3_rarest 85 = .ok (.iload 6, 2) := dk_21 6 (dk_at dksX3_rarest_3 14 rfl rfl)
theorem dX3_rarest_87 : decode cX3_rarest 87 = .ok (.goto 5, 3) := dk_167 0 5 (dk_at dksX3_rarest_3 16 rfl rfl)
theorem dX3_rarest_90 : decode cX3_rarest 90 = .ok (.iload 4, 2) := dk_21 4 (dk_at dksX3_rarest_3 19 rfl rfl)
theorem dX3_rarest_92 : decode cX3_rarest 92 = .ok (.istore 4, 2) := dk_54 4 (dk_at dksX3_rarest_3 21 rfl rfl)
theorem dX3_rarest_94 : decode cX3_rarest 94 = .ok (.iinc 5 1, 3) := dk_132 5 1 (dk_at dksX3_rarest_4 0 rfl rfl)
theorem dX3_rarest_97 : decode cX3_rarest 97 = .ok (.goto (-88), 3) := dk_167 255 168 (dk_at dksX3_rarest_4 3 rfl rfl)
theorem dX3_rarest_100 : decode cX3_rarest 100 = .ok (.iload_n 3, 1) := dk_29 (dk_at dksX3_rarest_4 6 rfl rfl)
theorem dX3_rarest_101 : decode cX3_rarest 101 = .ok (.ireturn, 1) := dk_172 (dk_at dksX3_rarest_4 7 rfl rfl)
abbrev cX3_neededTests : ByteArray := prog_9_method_55_code
def yX3_neededTests : MethodName := ⟨RX3, "neededTests", "()J"⟩
def dkwX3_neededTests_2 : List UInt8 := [132, 3, 1, 167, 255, 217, 31, 173]
abbrev dktX3_neededTests_2 : List UInt8 := dkwX3_neededTests_2 ++ []
def dkwX3_neededTests_1 : List UInt8 := [182, 0, 175, 55, 4, 31, 22, 4, 184, 0, 183, 4, 160, 0, 8, 22, 4, 167, 0, 4, 9, 129, 64]
abbrev dktX3_neededTests_1 : List UInt8 := dkwX3_neededTests_1 ++ dktX3_neededTests_2
def dkwX3_neededTests_0 : List UInt8 := [42, 3, 181, 0, 50, 9, 64, 3, 62, 29, 5, 42, 182, 0, 54, 104, 162, 0, 35, 42, 29, 2]
abbrev dktX3_neededTests_0 : List UInt8 := dkwX3_neededTests_0 ++ dktX3_neededTests_1
theorem dksX3_neededTests_0 : cX3_neededTests.data.toList.drop 0 = dktX3_neededTests_0 := by decide +kernel
theorem dksX3_neededTests_1 : cX3_neededTests.data.toList.drop 22 = dktX3_neededTests_1 := dk_seg dksX3_neededTests_0 22 rfl rfl
theorem dksX3_neededTests_2 : cX3_neededTests.data.toList.drop 45 = dktX3_neededTests_2 := dk_seg dksX3_neededTests_1 23 rfl rfl
theorem dX3_neededTests_0 : decode cX3_neededTests 0 = .ok (.aload_n 0, 1) := dk_42 (dk_at dksX3_neededTests_0 0 rfl rfl)
theorem dX3_neededTests_1 : decode cX3_neededTests 1 = .ok (.iconst 0, 1) := dk_3 (dk_at dksX3_neededTests_0 1 rfl rfl)
theorem dX3_neededTests_2 : decode cX3_neededTests 2 = .ok (.putfield 50, 3) := dk_181 0 50 (dk_at dksX3_neededTests_0 2 rfl rfl)
theorem dX3_neededTests_5 : decode cX3_neededTests 5 = .ok (.lconst 0, 1) := dk_9 (dk_at dksX3_neededTests_0 5 rfl rfl)
theorem dX3_neededTests_6 : decode cX3_neededTests 6 = .ok (.lstore_n 1, 1) := dk_64 (dk_at dksX3_neededTests_0 6 rfl rfl)
theorem dX3_neededTests_7 : decode cX3_neededTests 7 = .ok (.iconst 0, 1) := dk_3 (dk_at dksX3_neededTests_0 7 rfl rfl)
theorem dX3_neededTests_8 : decode cX3_neededTests 8 = .ok (.istore_n 3, 1) := dk_62 (dk_at dksX3_neededTests_0 8 rfl rfl)
theorem dX3_neededTests_9 : decode cX3_neededTests 9 = .ok (.iload_n 3, 1) := dk_29 (dk_at dksX3_neededTests_0 9 rfl rfl)
theorem dX3_neededTests_10 : decode cX3_neededTests 10 = .ok (.iconst 2, 1) := dk_5 (dk_at dksX3_neededTests_0 10 rfl rfl)
theorem dX3_neededTests_11 : decode cX3_neededTests 11 = .ok (.aload_n 0, 1) := dk_42 (dk_at dksX3_neededTests_0 11 rfl rfl)
theorem dX3_neededTests_12 : decode cX3_neededTests 12 = .ok (.invokevirtual 54, 3) := dk_182 0 54 (dk_at dksX3_neededTests_0 12 rfl rfl)
theorem dX3_neededTests_15 : decode cX3_neededTests 15 = .ok (.imul, 1) := dk_104 (dk_at dksX3_neededTests_0 15 rfl rfl)
theorem dX3_neededTests_16 : decode cX3_neededTests 16 = .ok (.if_icmp .ge 35, 3) := dk_162 0 35 (dk_at dksX3_neededTests_0 16 rfl rfl)
theorem dX3_neededTests_19 : decode cX3_neededTests 19 = .ok (.aload_n 0, 1) := dk_42 (dk_at dksX3_neededTests_0 19 rfl rfl)
theorem dX3_neededTests_20 : decode cX3_neededTests 20 = .ok (.iload_n 3, 1) := dk_29 (dk_at dksX3_neededTests_0 20 rfl rfl)
theorem dX3_neededTests_21 : decode cX3_neededTests 21 = .ok (.iconst (-1), 1) := dk_2 (dk_at dksX3_neededTests_0 21 rfl rfl)
theorem dX3_neededTests_22 : decode cX3_neededTests 22 = .ok (.invokevirtual 175, 3) := dk_182 0 175 (dk_at dksX3_neededTests_1 0 rfl rfl)
theorem dX3_neededTests_25 : decode cX3_neededTests 25 = .ok (.lstore 4, 2) := dk_55 4 (dk_at dksX3_neededTests_1 3 rfl rfl)
theorem dX3_neededTests_27 : decode cX3_neededTests 27 = .ok (.lload_n 1, 1) := dk_31 (dk_at dksX3_neededTests_1 5 rfl rfl)
theorem dX3_neededTests_28 : decode cX3_neededTests 28 = .ok (.lload 4, 2) := dk_22 4 (dk_at dksX3_neededTests_1 6 rfl rfl)
theorem dX3_neededTests_30 : decode cX3_neededTests 30 = .ok (.invokestatic 183, 3) := dk_184 0 183 (dk_at dksX3_neededTests_1 8 rfl rfl)
theorem dX3_neededTests_33 : decode cX3_neededTests 33 = .ok (.iconst 1, 1) := dk_4 (dk_at dksX3_neededTests_1 11 rfl rfl)
theorem dX3_neededTests_34 : decode cX3_neededTests 34 = .ok (.if_icmp .ne 8, 3) := dk_160 0 8 (dk_at dksX3_neededTests_1 12 rfl rfl)
theorem dX3_neededTests_37 : decode cX3_neededTests 37 = .ok (.lload 4, 2) := dk_22 4 (dk_at dksX3_neededTests_1 15 rfl rfl)
theorem dX3_neededTests_39 : decode cX3_neededTests 39 = .ok (.goto 4, 3) := dk_167 0 4 (dk_at dksX3_neededTests_1 17 rfl rfl)
theorem dX3_neededTests_42 : decode cX3_neededTests 42 = .ok (.lconst 0, 1) := dk_9 (dk_at dksX3_neededTests_1 20 rfl rfl)
theorem dX3_neededTests_43 : decode cX3_neededTests 43 = .ok (.lor, 1) := dk_129 (dk_at dksX3_neededTests_1 21 rfl rfl)
theorem dX3_neededTests_44 : decode cX3_neededTests 44 = .ok (.lstore_n 1, 1) := dk_64 (dk_at dksX3_neededTests_1 22 rfl rfl)
theorem dX3_neededTests_45 : decode cX3_neededTests 45 = .ok (.iinc 3 1, 3) := dk_132 3 1 (dk_at dksX3_neededTests_2 0 rfl rfl)
theorem dX3_neededTests_48 : decode cX3_neededTests 48 = .ok (.goto (-39), 3) := dk_167 255 217 (dk_at dksX3_neededTests_2 3 rfl rfl)
theorem dX3_neededTests_51 : decode cX3_neededTests 51 = .ok (.lload_n 1, 1) := dk_31 (dk_at dksX3_neededTests_2 6 rfl rfl)
theorem dX3_neededTests_52 : decode cX3_neededTests 52 = .ok (.lreturn, 1) := dk_173 (dk_at dksX3_neededTests_2 7 rfl rfl)
abbrev cX3_append : ByteArray := prog_9_method_56_code
def yX3_append : MethodName := ⟨RX3, "append", "(I)I"⟩
def dkwX3_append_2 : List UInt8 := [42, 180, 0, 197, 27, 79, 42, 89, 180, 0, 197, 4, 96, 181, 0, 197, 42, 180, 0, 197, 172]
abbrev dktX3_append_2 : List UInt8 := dkwX3_append_2 ++ []
def dkwX3_append_1 : List UInt8 := [160, 0, 7, 5, 167, 0, 4, 3, 181, 0, 50, 42, 180, 0, 50, 158, 0, 5, 3, 172, 42, 180, 0, 19]
abbrev dktX3_append_1 : List UInt8 := dkwX3_append_1 ++ dktX3_append_2
def dkwX3_append_0 : List UInt8 := [42, 27, 16, 32, 16, 126, 184, 0, 58, 154, 0, 7, 4, 167, 0, 17, 42, 180, 0, 197, 16, 60]
abbrev dktX3_append_0 : List UInt8 := dkwX3_append_0 ++ dktX3_append_1
theorem dksX3_append_0 : cX3_append.data.toList.drop 0 = dktX3_append_0 := by decide +kernel
theorem dksX3_append_1 : cX3_append.data.toList.drop 22 = dktX3_append_1 := dk_seg dksX3_append_0 22 rfl rfl
theorem dksX3_append_2 : cX3_append.data.toList.drop 46 = dktX3_append_2 := dk_seg dksX3_append_1 24 rfl rfl
theorem dX3_append_0 : decode cX3_append 0 = .ok (.aload_n 0, 1) := dk_42 (dk_at dksX3_append_0 0 rfl rfl)
theorem dX3_append_1 : decode cX3_append 1 = .ok (.iload_n 1, 1) := dk_27 (dk_at dksX3_append_0 1 rfl rfl)
theorem dX3_append_2 : decode cX3_append 2 = .ok (.bipush 32, 2) := dk_16 32 (dk_at dksX3_append_0 2 rfl rfl)
theorem dX3_append_4 : decode cX3_append 4 = .ok (.bipush 126, 2) := dk_16 126 (dk_at dksX3_append_0 4 rfl rfl)
theorem dX3_append_6 : decode cX3_append 6 = .ok (.invokestatic 58, 3) := dk_184 0 58 (dk_at dksX3_append_0 6 rfl rfl)
theorem dX3_append_9 : decode cX3_append 9 = .ok (.ifCond .ne 7, 3) := dk_154 0 7 (dk_at dksX3_append_0 9 rfl rfl)
theorem dX3_append_12 : decode cX3_append 12 = .ok (.iconst 1, 1) := dk_4 (dk_at dksX3_append_0 12 rfl rfl)
theorem dX3_append_13 : decode cX3_append 13 = .ok (.goto 17, 3) := dk_167 0 17 (dk_at dksX3_append_0 13 rfl rfl)
theorem dX3_append_16 : decode cX3_append 16 = .ok (.aload_n 0, 1) := dk_42 (dk_at dksX3_append_0 16 rfl rfl)
theorem dX3_append_17 : decode cX3_append 17 = .ok (.getfield 197, 3) := dk_180 0 197 (dk_at dksX3_append_0 17 rfl rfl)
theorem dX3_append_20 : decode cX3_append 20 = .ok (.bipush 60, 2) := dk_16 60 (dk_at dksX3_append_0 20 rfl rfl)
theorem dX3_append_22 : decode cX3_append 22 = .ok (.if_icmp .ne 7, 3) := dk_160 0 7 (dk_at dksX3_append_1 0 rfl rfl)
theorem dX3_append_25 : decode cX3_append 25 = .ok (.iconst 2, 1) := dk_5 (dk_at dksX3_append_1 3 rfl rfl)
theorem dX3_append_26 : decode cX3_append 26 = .ok (.goto 4, 3) := dk_167 0 4 (dk_at dksX3_append_1 4 rfl rfl)
theorem dX3_append_29 : decode cX3_append 29 = .ok (.iconst 0, 1) := dk_3 (dk_at dksX3_append_1 7 rfl rfl)
theorem dX3_append_30 : decode cX3_append 30 = .ok (.putfield 50, 3) := dk_181 0 50 (dk_at dksX3_append_1 8 rfl rfl)
theorem dX3_append_33 : decode cX3_append 33 = .ok (.aload_n 0, 1) := dk_42 (dk_at dksX3_append_1 11 rfl rfl)
theorem dX3_append_34 : decode cX3_append 34 = .ok (.getfield 50, 3) := dk_180 0 50 (dk_at dksX3_append_1 12 rfl rfl)
theorem dX3_append_37 : decode cX3_append 37 = .ok (.ifCond .le 5, 3) := dk_158 0 5 (dk_at dksX3_append_1 15 rfl rfl)
theorem dX3_append_40 : decode cX3_append 40 = .ok (.iconst 0, 1) := dk_3 (dk_at dksX3_append_1 18 rfl rfl)
theorem dX3_append_41 : decode cX3_append 41 = .ok (.ireturn, 1) := dk_172 (dk_at dksX3_append_1 19 rfl rfl)
theorem dX3_append_42 : decode cX3_append 42 = .ok (.aload_n 0, 1) := dk_42 (dk_at dksX3_append_1 20 rfl rfl)
theorem dX3_append_43 : decode cX3_append 43 = .ok (.getfield 19, 3) := dk_180 0 19 (dk_at dksX3_append_1 21 rfl rfl)
theorem dX3_append_46 : decode cX3_append 46 = .ok (.aload_n 0, 1) := dk_42 (dk_at dksX3_append_2 0 rfl rfl)
theorem dX3_append_47 : decode cX3_append 47 = .ok (.getfield 197, 3) := dk_180 0 197 (dk_at dksX3_append_2 1 rfl rfl)
theorem dX3_append_50 : decode cX3_append 50 = .ok (.iload_n 1, 1) := dk_27 (dk_at dksX3_append_2 4 rfl rfl)
theorem dX3_append_51 : decode cX3_append 51 = .ok (.iastore, 1) := dk_79 (dk_at dksX3_append_2 5 rfl rfl)
theorem dX3_append_52 : decode cX3_append 52 = .ok (.aload_n 0, 1) := dk_42 (dk_at dksX3_append_2 6 rfl rfl)
theorem dX3_append_53 : decode cX3_append 53 = .ok (.dup, 1) := dk_89 (dk_at dksX3_append_2 7 rfl rfl)
theorem dX3_append_54 : decode cX3_append 54 = .ok (.getfield 197, 3) := dk_180 0 197 (dk_at dksX3_append_2 8 rfl rfl)
theorem dX3_append_57 : decode cX3_append 57 = .ok (.iconst 1, 1) := dk_4 (dk_at dksX3_append_2 11 rfl rfl)
theorem dX3_append_58 : decode cX3_append 58 = .ok (.iadd, 1) := dk_96 (dk_at dksX3_append_2 12 rfl rfl)
theorem dX3_append_59 : decode cX3_append 59 = .ok (.putfield 197, 3) := dk_181 0 197 (dk_at dksX3_append_2 13 rfl rfl)
theorem dX3_append_62 : decode cX3_append 62 = .ok (.aload_n 0, 1) := dk_42 (dk_at dksX3_append_2 16 rfl rfl)
theorem dX3_append_63 : decode cX3_append 63 = .ok (.getfield 197, 3) := dk_180 0 197 (dk_at dksX3_append_2 17 rfl rfl)
theorem dX3_append_66 : decode cX3_append 66 = .ok (.ireturn, 1) := dk_172 (dk_at dksX3_append_2 20 rfl rfl)
abbrev cX3_clearText : ByteArray := prog_9_method_57_code
def yX3_clearText : MethodName := ⟨RX3, "clearText", "()I"⟩
def dkwX3_clearText_0 : List UInt8 := [42, 3, 181, 0, 50, 42, 180, 0, 197, 60, 42, 3, 181, 0, 197, 27, 172]
abbrev dktX3_clearText_0 : List UInt8 := dkwX3_clearText_0 ++ []
theorem dksX3_clearText_0 : cX3_clearText.data.toList.drop 0 = dktX3_clearText_0 := by decide +kernel
theorem dX3_clearText_0 : decode cX3_clearText 0 = .ok (.aload_n 0, 1) := dk_42 (dk_at dksX3_clearText_0 0 rfl rfl)
theorem dX3_clearText_1 : decode cX3_clearText 1 = .ok (.iconst 0, 1) := dk_3 (dk_at dksX3_clearText_0 1 rfl rfl)
theorem dX3_clearText_2 : decode cX3_clearText 2 = .ok (.putfield 50, 3) := dk_181 0 50 (dk_at dksX3_clearText_0 2 rfl rfl)
theorem dX3_clearText_5 : decode cX3_clearText 5 = .ok (.aload_n 0, 1) := dk_42 (dk_at dksX3_clearText_0 5 rfl rfl)
theorem dX3_clearText_6 : decode cX3_clearText 6 = .ok (.getfield 197, 3) := dk_180 0 197 (dk_at dksX3_clearText_0 6 rfl rfl)
theorem dX3_clearText_9 : decode cX3_clearText 9 = .ok (.istore_n 1, 1) := dk_60 (dk_at dksX3_clearText_0 9 rfl rfl)
theorem dX3_clearText_10 : decode cX3_clearText 10 = .ok (.aload_n 0, 1) := dk_42 (dk_at dksX3_clearText_0 10 rfl rfl)
theorem dX3_clearText_11 : decode cX3_clearText 11 = .ok (.iconst 0, 1) := dk_3 (dk_at dksX3_clearText_0 11 rfl rfl)
theorem dX3_clearText_12 : decode cX3_clearText 12 = .ok (.putfield 197, 3) := dk_181 0 197 (dk_at dksX3_clearText_0 12 rfl rfl)
theorem dX3_clearText_15 : decode cX3_clearText 15 = .ok (.iload_n 1, 1) := dk_27 (dk_at dksX3_clearText_0 15 rfl rfl)
theorem dX3_clearText_16 : decode cX3_clearText 16 = .ok (.ireturn, 1) := dk_172 (dk_at dksX3_clearText_0 16 rfl rfl)
abbrev cX3_fault : ByteArray := prog_9_method_64_code
def yX3_fault : MethodName := ⟨RX3, "fault", "()I"⟩
def dkwX3_fault_1 : List UInt8 := [172]
abbrev dktX3_fault_1 : List UInt8 := dkwX3_fault_1 ++ []
def dkwX3_fault_0 : List UInt8 := [42, 3, 181, 0, 50, 42, 182, 0, 230, 42, 180, 0, 203, 153, 0, 10, 42, 180, 0, 200, 167, 0, 4, 2]
abbrev dktX3_fault_0 : List UInt8 := dkwX3_fault_0 ++ dktX3_fault_1
theorem dksX3_fault_0 : cX3_fault.data.toList.drop 0 = dktX3_fault_0 := by decide +kernel
theorem dksX3_fault_1 : cX3_fault.data.toList.drop 24 = dktX3_fault_1 := dk_seg dksX3_fault_0 24 rfl rfl
theorem dX3_fault_0 : decode cX3_fault 0 = .ok (.aload_n 0, 1) := dk_42 (dk_at dksX3_fault_0 0 rfl rfl)
theorem dX3_fault_1 : decode cX3_fault 1 = .ok (.iconst 0, 1) := dk_3 (dk_at dksX3_fault_0 1 rfl rfl)
theorem dX3_fault_2 : decode cX3_fault 2 = .ok (.putfield 50, 3) := dk_181 0 50 (dk_at dksX3_fault_0 2 rfl rfl)
theorem dX3_fault_5 : decode cX3_fault 5 = .ok (.aload_n 0, 1) := dk_42 (dk_at dksX3_fault_0 5 rfl rfl)
theorem dX3_fault_6 : decode cX3_fault 6 = .ok (.invokevirtual 230, 3) := dk_182 0 230 (dk_at dksX3_fault_0 6 rfl rfl)
theorem dX3_fault_9 : decode cX3_fault 9 = .ok (.aload_n 0, 1) := dk_42 (dk_at dksX3_fault_0 9 rfl rfl)
theorem dX3_fault_10 : decode cX3_fault 10 = .ok (.getfield 203, 3) := dk_180 0 203 (dk_at dksX3_fault_0 10 rfl rfl)
theorem dX3_fault_13 : decode cX3_fault 13 = .ok (.ifCond .eq 10, 3) := dk_153 0 10 (dk_at dksX3_fault_0 13 rfl rfl)
theorem dX3_fault_16 : decode cX3_fault 16 = .ok (.aload_n 0, 1) := dk_42 (dk_at dksX3_fault_0 16 rfl rfl)
theorem dX3_fault_17 : decode cX3_fault 17 = .ok (.getfield 200, 3) := dk_180 0 200 (dk_at dksX3_fault_0 17 rfl rfl)
theorem dX3_fault_20 : decode cX3_fault 20 = .ok (.goto 4, 3) := dk_167 0 4 (dk_at dksX3_fault_0 20 rfl rfl)
theorem dX3_fault_23 : decode cX3_fault 23 = .ok (.iconst (-1), 1) := dk_2 (dk_at dksX3_fault_0 23 rfl rfl)
theorem dX3_fault_24 : decode cX3_fault 24 = .ok (.ireturn, 1) := dk_172 (dk_at dksX3_fault_1 0 rfl rfl)
abbrev cX3_parse : ByteArray := prog_9_method_63_code
def yX3_parse : MethodName := ⟨RX3, "parse", "()V"⟩
def dkwX3_parse_3 : List UInt8 := [181, 0, 200, 42, 182, 0, 227, 167, 255, 195, 177]
abbrev dktX3_parse_3 : List UInt8 := dkwX3_parse_3 ++ []
def dkwX3_parse_2 : List UInt8 := [3, 181, 0, 203, 42, 89, 180, 0, 200, 42, 180, 0, 203, 153, 0, 7, 3, 167, 0, 4, 4, 96]
abbrev dktX3_parse_2 : List UInt8 := dkwX3_parse_2 ++ dktX3_parse_3
def dkwX3_parse_1 : List UInt8 := [180, 0, 200, 42, 180, 0, 197, 162, 0, 49, 42, 42, 182, 0, 206, 16, 44, 159, 0, 7, 4, 167, 0, 4]
abbrev dktX3_parse_1 : List UInt8 := dkwX3_parse_1 ++ dktX3_parse_2
def dkwX3_parse_0 : List UInt8 := [42, 3, 181, 0, 200, 42, 3, 181, 0, 203, 42, 182, 0, 227, 42, 180, 0, 203, 154, 0, 60, 42]
abbrev dktX3_parse_0 : List UInt8 := dkwX3_parse_0 ++ dktX3_parse_1
theorem dksX3_parse_0 : cX3_parse.data.toList.drop 0 = dktX3_parse_0 := by decide +kernel
theorem dksX3_parse_1 : cX3_parse.data.toList.drop 22 = dktX3_parse_1 := dk_seg dksX3_parse_0 22 rfl rfl
theorem dksX3_parse_2 : cX3_parse.data.toList.drop 46 = dktX3_parse_2 := dk_seg dksX3_parse_1 24 rfl rfl
theorem dksX3_parse_3 : cX3_parse.data.toList.drop 68 = dktX3_parse_3 := dk_seg dksX3_parse_2 22 rfl rfl
theorem dX3_parse_0 : decode cX3_parse 0 = .ok (.aload_n 0, 1) := dk_42 (dk_at dksX3_parse_0 0 rfl rfl)
theorem dX3_parse_1 : decode cX3_parse 1 = .ok (.iconst 0, 1) := dk_3 (dk_at dksX3_parse_0 1 rfl rfl)
theorem dX3_parse_2 : decode cX3_parse 2 = .ok (.putfield 200, 3) := dk_181 0 200 (dk_at dksX3_parse_0 2 rfl rfl)
theorem dX3_parse_5 : decode cX3_parse 5 = .ok (.aload_n 0, 1) := dk_42 (dk_at dksX3_parse_0 5 rfl rfl)
theorem dX3_parse_6 : decode cX3_parse 6 = .ok (.iconst 0, 1) := dk_3 (dk_at dksX3_parse_0 6 rfl rfl)
theorem dX3_parse_7 : decode cX3_parse 7 = .ok (.putfield 203, 3) := dk_181 0 203 (dk_at dksX3_parse_0 7 rfl rfl)
theorem dX3_parse_10 : decode cX3_parse 10 = .ok (.aload_n 0, 1) := dk_42 (dk_at dksX3_parse_0 10 rfl rfl)
theorem dX3_parse_11 : decode cX3_parse 11 = .ok (.invokevirtual 227, 3) := dk_182 0 227 (dk_at dksX3_parse_0 11 rfl rfl)
theorem dX3_parse_14 : decode cX3_parse 14 = .ok (.aload_n 0, 1) := dk_42 (dk_at dksX3_parse_0 14 rfl rfl)
theorem dX3_parse_15 : decode cX3_parse 15 = .ok (.getfield 203, 3) := dk_180 0 203 (dk_at dksX3_parse_0 15 rfl rfl)
theorem dX3_parse_18 : decode cX3_parse 18 = .ok (.ifCond .ne 60, 3) := dk_154 0 60 (dk_at dksX3_parse_0 18 rfl rfl)
theorem dX3_parse_21 : decode cX3_parse 21 = .ok (.aload_n 0, 1) := dk_42 (dk_at dksX3_parse_0 21 rfl rfl)
theorem dX3_parse_22 : decode cX3_parse 22 = .ok (.getfield 200, 3) := dk_180 0 200 (dk_at dksX3_parse_1 0 rfl rfl)
theorem dX3_parse_25 : decode cX3_parse 25 = .ok (.aload_n 0, 1) := dk_42 (dk_at dksX3_parse_1 3 rfl rfl)
theorem dX3_parse_26 : decode cX3_parse 26 = .ok (.getfield 197, 3) := dk_180 0 197 (dk_at dksX3_parse_1 4 rfl rfl)
theorem dX3_parse_29 : decode cX3_parse 29 = .ok (.if_icmp .ge 49, 3) := dk_162 0 49 (dk_at dksX3_parse_1 7 rfl rfl)
theorem dX3_parse_32 : decode cX3_parse 32 = .ok (.aload_n 0, 1) := dk_42 (dk_at dksX3_parse_1 10 rfl rfl)
theorem dX3_parse_33 : decode cX3_parse 33 = .ok (.aload_n 0, 1) := dk_42 (dk_at dksX3_parse_1 11 rfl rfl)
theorem dX3_parse_34 : decode cX3_parse 34 = .ok (.invokevirtual 206, 3) := dk_182 0 206 (dk_at dksX3_parse_1 12 rfl rfl)
theorem dX3_parse_37 : decode cX3_parse 37 = .ok (.bipush 44, 2) := dk_16 44 (dk_at dksX3_parse_1 15 rfl rfl)
theorem dX3_parse_39 : decode cX3_parse 39 = .ok (.if_icmp .eq 7, 3) := dk_159 0 7 (dk_at dksX3_parse_1 17 rfl rfl)
theorem dX3_parse_42 : decode cX3_parse 42 = .ok (.iconst 1, 1) := dk_4 (dk_at dksX3_parse_1 20 rfl rfl)
theorem dX3_parse_43 : decode cX3_parse 43 = .ok (.goto 4, 3) := dk_167 0 4 (dk_at dksX3_parse_1 21 rfl rfl)
theorem dX3_parse_46 : decode cX3_parse 46 = .ok (.iconst 0, 1) := dk_3 (dk_at dksX3_parse_2 0 rfl rfl)
theorem dX3_parse_47 : decode cX3_parse 47 = .ok (.putfield 203, 3) := dk_181 0 203 (dk_at dksX3_parse_2 1 rfl rfl)
theorem dX3_parse_50 : decode cX3_parse 50 = .ok (.aload_n 0, 1) := dk_42 (dk_at dksX3_parse_2 4 rfl rfl)
theorem dX3_parse_51 : decode cX3_parse 51 = .ok (.dup, 1) := dk_89 (dk_at dksX3_parse_2 5 rfl rfl)
theorem dX3_parse_52 : decode cX3_parse 52 = .ok (.getfield 200, 3) := dk_180 0 200 (dk_at dksX3_parse_2 6 rfl rfl)
theorem dX3_parse_55 : decode cX3_parse 55 = .ok (.aload_n 0, 1) := dk_42 (dk_at dksX3_parse_2 9 rfl rfl)
theorem dX3_parse_56 : decode cX3_parse 56 = .ok (.getfield 203, 3) := dk_180 0 203 (dk_at dksX3_parse_2 10 rfl rfl)
theorem dX3_parse_59 : decode cX3_parse 59 = .ok (.ifCond .eq 7, 3) := dk_153 0 7 (dk_at dksX3_parse_2 13 rfl rfl)
theorem dX3_parse_62 : decode cX3_parse 62 = .ok (.iconst 0, 1) := dk_3 (dk_at dksX3_parse_2 16 rfl rfl)
theorem dX3_parse_63 : decode cX3_parse 63 = .ok (.goto 4, 3) := dk_167 0 4 (dk_at dksX3_parse_2 17 rfl rfl)
theorem dX3_parse_66 : decode cX3_parse 66 = .ok (.iconst 1, 1) := dk_4 (dk_at dksX3_parse_2 20 rfl rfl)
theorem dX3_parse_67 : decode cX3_parse 67 = .ok (.iadd, 1) := dk_96 (dk_at dksX3_parse_2 21 rfl rfl)
theorem dX3_parse_68 : decode cX3_parse 68 = .ok (.putfield 200, 3) := dk_181 0 200 (dk_at dksX3_parse_3 0 rfl rfl)
theorem dX3_parse_71 : decode cX3_parse 71 = .ok (.aload_n 0, 1) := dk_42 (dk_at dksX3_parse_3 3 rfl rfl)
theorem dX3_parse_72 : decode cX3_parse 72 = .ok (.invokevirtual 227, 3) := dk_182 0 227 (dk_at dksX3_parse_3 4 rfl rfl)
theorem dX3_parse_75 : decode cX3_parse 75 = .ok (.goto (-61), 3) := dk_167 255 195 (dk_at dksX3_parse_3 7 rfl rfl)
theorem dX3_parse_78 : decode cX3_parse 78 = .ok (.return_, 1) := dk_177 (dk_at dksX3_parse_3 10 rfl rfl)
abbrev cX3_order : ByteArray := prog_9_method_62_code
def yX3_order : MethodName := ⟨RX3, "order", "()V"⟩
def dkwX3_order_6 : List UInt8 := [182, 0, 215, 181, 0, 221, 42, 180, 0, 209, 16, 63, 160, 0, 11, 42, 42, 182, 0, 224, 181, 0, 218, 177]
abbrev dktX3_order_6 : List UInt8 := dkwX3_order_6 ++ []
def dkwX3_order_5 : List UInt8 := [180, 0, 209, 16, 35, 160, 0, 11, 42, 42, 182, 0, 215, 181, 0, 218, 27, 153, 0, 11, 42, 42]
abbrev dktX3_order_5 : List UInt8 := dkwX3_order_5 ++ dktX3_order_6
def dkwX3_order_4 : List UInt8 := [167, 0, 4, 4, 96, 181, 0, 200, 27, 154, 0, 21, 42, 180, 0, 209, 16, 62, 159, 0, 12, 42]
abbrev dktX3_order_4 : List UInt8 := dkwX3_order_4 ++ dktX3_order_5
def dkwX3_order_3 : List UInt8 := [159, 0, 7, 4, 167, 0, 4, 3, 181, 0, 203, 42, 89, 180, 0, 200, 42, 180, 0, 203, 153, 0, 7, 3]
abbrev dktX3_order_3 : List UInt8 := dkwX3_order_3 ++ dktX3_order_4
def dkwX3_order_2 : List UInt8 := [180, 0, 209, 16, 35, 159, 0, 25, 42, 180, 0, 209, 16, 63, 159, 0, 16, 42, 180, 0, 209, 16, 37]
abbrev dktX3_order_2 : List UInt8 := dkwX3_order_2 ++ dktX3_order_3
def dkwX3_order_1 : List UInt8 := [60, 42, 42, 180, 0, 203, 154, 0, 43, 27, 154, 0, 43, 42, 180, 0, 209, 16, 62, 159, 0, 34, 42]
abbrev dktX3_order_1 : List UInt8 := dkwX3_order_1 ++ dktX3_order_2
def dkwX3_order_0 : List UInt8 := [42, 42, 182, 0, 206, 181, 0, 209, 42, 180, 0, 209, 184, 0, 212, 2, 159, 0, 7, 4, 167, 0, 4, 3]
abbrev dktX3_order_0 : List UInt8 := dkwX3_order_0 ++ dktX3_order_1
theorem dksX3_order_0 : cX3_order.data.toList.drop 0 = dktX3_order_0 := by decide +kernel
theorem dksX3_order_1 : cX3_order.data.toList.drop 24 = dktX3_order_1 := dk_seg dksX3_order_0 24 rfl rfl
theorem dksX3_order_2 : cX3_order.data.toList.drop 47 = dktX3_order_2 := dk_seg dksX3_order_1 23 rfl rfl
theorem dksX3_order_3 : cX3_order.data.toList.drop 70 = dktX3_order_3 := dk_seg dksX3_order_2 23 rfl rfl
theorem dksX3_order_4 : cX3_order.data.toList.drop 94 = dktX3_order_4 := dk_seg dksX3_order_3 24 rfl rfl
theorem dksX3_order_5 : cX3_order.data.toList.drop 116 = dktX3_order_5 := dk_seg dksX3_order_4 22 rfl rfl
theorem dksX3_order_6 : cX3_order.data.toList.drop 138 = dktX3_order_6 := dk_seg dksX3_order_5 22 rfl rfl
theorem dX3_order_0 : decode cX3_order 0 = .ok (.aload_n 0, 1) := dk_42 (dk_at dksX3_order_0 0 rfl rfl)
theorem dX3_order_1 : decode cX3_order 1 = .ok (.aload_n 0, 1) := dk_42 (dk_at dksX3_order_0 1 rfl rfl)
theorem dX3_order_2 : decode cX3_order 2 = .ok (.invokevirtual 206, 3) := dk_182 0 206 (dk_at dksX3_order_0 2 rfl rfl)
theorem dX3_order_5 : decode cX3_order 5 = .ok (.putfield 209, 3) := dk_181 0 209 (dk_at dksX3_order_0 5 rfl rfl)
theorem dX3_order_8 : decode cX3_order 8 = .ok (.aload_n 0, 1) := dk_42 (dk_at dksX3_order_0 8 rfl rfl)
theorem dX3_order_9 : decode cX3_order 9 = .ok (.getfield 209, 3) := dk_180 0 209 (dk_at dksX3_order_0 9 rfl rfl)
theorem dX3_order_12 : decode cX3_order 12 = .ok (.invokestatic 212, 3) := dk_184 0 212 (dk_at dksX3_order_0 12 rfl rfl)
theorem dX3_order_15 : decode cX3_order 15 = .ok (.iconst (-1), 1) := dk_2 (dk_at dksX3_order_0 15 rfl rfl)
theorem dX3_order_16 : decode cX3_order 16 = .ok (.if_icmp .eq 7, 3) := dk_159 0 7 (dk_at dksX3_order_0 16 rfl rfl)
theorem dX3_order_19 : decode cX3_order 19 = .ok (.iconst 1, 1) := dk_4 (dk_at dksX3_order_0 19 rfl rfl)
theorem dX3_order_20 : decode cX3_order 20 = .ok (.goto 4, 3) := dk_167 0 4 (dk_at dksX3_order_0 20 rfl rfl)
theorem dX3_order_23 : decode cX3_order 23 = .ok (.iconst 0, 1) := dk_3 (dk_at dksX3_order_0 23 rfl rfl)
theorem dX3_order_24 : decode cX3_order 24 = .ok (.istore_n 1, 1) := dk_60 (dk_at dksX3_order_1 0 rfl rfl)
theorem dX3_order_25 : decode cX3_order 25 = .ok (.aload_n 0, 1) := dk_42 (dk_at dksX3_order_1 1 rfl rfl)
theorem dX3_order_26 : decode cX3_order 26 = .ok (.aload_n 0, 1) := dk_42 (dk_at dksX3_order_1 2 rfl rfl)
theorem dX3_order_27 : decode cX3_order 27 = .ok (.getfield 203, 3) := dk_180 0 203 (dk_at dksX3_order_1 3 rfl rfl)
theorem dX3_order_30 : decode cX3_order 30 = .ok (.ifCond .ne 43, 3) := dk_154 0 43 (dk_at dksX3_order_1 6 rfl rfl)
theorem dX3_order_33 : decode cX3_order 33 = .ok (.iload_n 1, 1) := dk_27 (dk_at dksX3_order_1 9 rfl rfl)
theorem dX3_order_34 : decode cX3_order 34 = .ok (.ifCond .ne 43, 3) := dk_154 0 43 (dk_at dksX3_order_1 10 rfl rfl)
theorem dX3_order_37 : decode cX3_order 37 = .ok (.aload_n 0, 1) := dk_42 (dk_at dksX3_order_1 13 rfl rfl)
theorem dX3_order_38 : decode cX3_order 38 = .ok (.getfield 209, 3) := dk_180 0 209 (dk_at dksX3_order_1 14 rfl rfl)
theorem dX3_order_41 : decode cX3_order 41 = .ok (.bipush 62, 2) := dk_16 62 (dk_at dksX3_order_1 17 rfl rfl)
theorem dX3_order_43 : decode cX3_order 43 = .ok (.if_icmp .eq 34, 3) := dk_159 0 34 (dk_at dksX3_order_1 19 rfl rfl)
theorem dX3_order_46 : decode cX3_order 46 = .ok (.aload_n 0, 1) := dk_42 (dk_at dksX3_order_1 22 rfl rfl)
theorem dX3_order_47 : decode cX3_order 47 = .ok (.getfield 209, 3) := dk_180 0 209 (dk_at dksX3_order_2 0 rfl rfl)
theorem dX3_order_50 : decode cX3_order 50 = .ok (.bipush 35, 2) := dk_16 35 (dk_at dksX3_order_2 3 rfl rfl)
theorem dX3_order_52 : decode cX3_order 52 = .ok (.if_icmp .eq 25, 3) := dk_159 0 25 (dk_at dksX3_order_2 5 rfl rfl)
theorem dX3_order_55 : decode cX3_order 55 = .ok (.aload_n 0, 1) := dk_42 (dk_at dksX3_order_2 8 rfl rfl)
theorem dX3_order_56 : decode cX3_order 56 = .ok (.getfield 209, 3) := dk_180 0 209 (dk_at dksX3_order_2 9 rfl rfl)
theorem dX3_order_59 : decode cX3_order 59 = .ok (.bipush 63, 2) := dk_16 63 (dk_at dksX3_order_2 12 rfl rfl)
theorem dX3_order_61 : decode cX3_order 61 = .ok (.if_icmp .eq 16, 3) := dk_159 0 16 (dk_at dksX3_order_2 14 rfl rfl)
theorem dX3_order_64 : decode cX3_order 64 = .ok (.aload_n 0, 1) := dk_42 (dk_at dksX3_order_2 17 rfl rfl)
theorem dX3_order_65 : decode cX3_order 65 = .ok (.getfield 209, 3) := dk_180 0 209 (dk_at dksX3_order_2 18 rfl rfl)
theorem dX3_order_68 : decode cX3_order 68 = .ok (.bipush 37, 2) := dk_16 37 (dk_at dksX3_order_2 21 rfl rfl)
theorem dX3_order_70 : decode cX3_order 70 = .ok (.if_icmp .eq 7, 3) := dk_159 0 7 (dk_at dksX3_order_3 0 rfl rfl)
theorem dX3_order_73 : decode cX3_order 73 = .ok (.iconst 1, 1) := dk_4 (dk_at dksX3_order_3 3 rfl rfl)
theorem dX3_order_74 : decode cX3_order 74 = .ok (.goto 4, 3) := dk_167 0 4 (dk_at dksX3_order_3 4 rfl rfl)
theorem dX3_order_77 : decode cX3_order 77 = .ok (.iconst 0, 1) := dk_3 (dk_at dksX3_order_3 7 rfl rfl)
theorem dX3_order_78 : decode cX3_order 78 = .ok (.putfield 203, 3) := dk_181 0 203 (dk_at dksX3_order_3 8 rfl rfl)
theorem dX3_order_81 : decode cX3_order 81 = .ok (.aload_n 0, 1) := dk_42 (dk_at dksX3_order_3 11 rfl rfl)
theorem dX3_order_82 : decode cX3_order 82 = .ok (.dup, 1) := dk_89 (dk_at dksX3_order_3 12 rfl rfl)
theorem dX3_order_83 : decode cX3_order 83 = .ok (.getfield 200, 3) := dk_180 0 200 (dk_at dksX3_order_3 13 rfl rfl)
theorem dX3_order_86 : decode cX3_order 86 = .ok (.aload_n 0, 1) := dk_42 (dk_at dksX3_order_3 16 rfl rfl)
theorem dX3_order_87 : decode cX3_order 87 = .ok (.getfield 203, 3) := dk_180 0 203 (dk_at dksX3_order_3 17 rfl rfl)
theorem dX3_order_90 : decode cX3_order 90 = .ok (.ifCond .eq 7, 3) := dk_153 0 7 (dk_at dksX3_order_3 20 rfl rfl)
theorem dX3_order_93 : decode cX3_order 93 = .ok (.iconst 0, 1) := dk_3 (dk_at dksX3_order_3 23 rfl rfl)
theorem dX3_order_94 : decode cX3_order 94 = .ok (.goto 4, 3) := dk_167 0 4 (dk_at dksX3_order_4 0 rfl rfl)
theorem dX3_order_97 : decode cX3_order 97 = .ok (.iconst 1, 1) := dk_4 (dk_at dksX3_order_4 3 rfl rfl)
theorem dX3_order_98 : decode cX3_order 98 = .ok (.iadd, 1) := dk_96 (dk_at dksX3_order_4 4 rfl rfl)
theorem dX3_order_99 : decode cX3_order 99 = .ok (.putfield 200, 3) := dk_181 0 200 (dk_at dksX3_order_4 5 rfl rfl)
theorem dX3_order_102 : decode cX3_order 102 = .ok (.iload_n 1, 1) := dk_27 (dk_at dksX3_order_4 8 rfl rfl)
theorem dX3_order_103 : decode cX3_order 103 = .ok (.ifCond .ne 21, 3) := dk_154 0 21 (dk_at dksX3_order_4 9 rfl rfl)
theorem dX3_order_106 : decode cX3_order 106 = .ok (.aload_n 0, 1) := dk_42 (dk_at dksX3_order_4 12 rfl rfl)
theorem dX3_order_107 : decode cX3_order 107 = .ok (.getfield 209, 3) := dk_180 0 209 (dk_at dksX3_order_4 13 rfl rfl)
theorem dX3_order_110 : decode cX3_order 110 = .ok (.bipush 62, 2) := dk_16 62 (dk_at dksX3_order_4 16 rfl rfl)
theorem dX3_order_112 : decode cX3_order 112 = .ok (.if_icmp .eq 12, 3) := dk_159 0 12 (dk_at dksX3_order_4 18 rfl rfl)
theorem dX3_order_115 : decode cX3_order 115 = .ok (.aload_n 0, 1) := dk_42 (dk_at dksX3_order_4 21 rfl rfl)
theorem dX3_order_116 : decode cX3_order 116 = .ok (.getfield 209, 3) := dk_180 0 209 (dk_at dksX3_order_5 0 rfl rfl)
theorem dX3_order_119 : decode cX3_order 119 = .ok (.bipush 35, 2) := dk_16 35 (dk_at dksX3_order_5 3 rfl rfl)
theorem dX3_order_121 : decode cX3_order 121 = .ok (.if_icmp .ne 11, 3) := dk_160 0 11 (dk_at dksX3_order_5 5 rfl rfl)
theorem dX3_order_124 : decode cX3_order 124 = .ok (.aload_n 0, 1) := dk_42 (dk_at dksX3_order_5 8 rfl rfl)
theorem dX3_order_125 : decode cX3_order 125 = .ok (.aload_n 0, 1) := dk_42 (dk_at dksX3_order_5 9 rfl rfl)
theorem dX3_order_126 : decode cX3_order 126 = .ok (.invokevirtual 215, 3) := dk_182 0 215 (dk_at dksX3_order_5 10 rfl rfl)
theorem dX3_order_129 : decode cX3_order 129 = .ok (.putfield 218, 3) := dk_181 0 218 (dk_at dksX3_order_5 13 rfl rfl)
theorem dX3_order_132 : decode cX3_order 132 = .ok (.iload_n 1, 1) := dk_27 (dk_at dksX3_order_5 16 rfl rfl)
theorem dX3_order_133 : decode cX3_order 133 = .ok (.ifCond .eq 11, 3) := dk_153 0 11 (dk_at dksX3_order_5 17 rfl rfl)
theorem dX3_order_136 : decode cX3_order 136 = .ok (.aload_n 0, 1) := dk_42 (dk_at dksX3_order_5 20 rfl rfl)
theorem dX3_order_137 : decode cX3_order 137 = .ok (.aload_n 0, 1) := dk_42 (dk_at dksX3_order_5 21 rfl rfl)
theorem dX3_order_138 : decode cX3_order 138 = .ok (.invokevirtual 215, 3) := dk_182 0 215 (dk_at dksX3_order_6 0 rfl rfl)
theorem dX3_order_141 : decode cX3_order 141 = .ok (.putfield 221, 3) := dk_181 0 221 (dk_at dksX3_order_6 3 rfl rfl)
theorem dX3_order_144 : decode cX3_order 144 = .ok (.aload_n 0, 1) := dk_42 (dk_at dksX3_order_6 6 rfl rfl)
theorem dX3_order_145 : decode cX3_order 145 = .ok (.getfield 209, 3) := dk_180 0 209 (dk_at dksX3_order_6 7 rfl rfl)
theorem dX3_order_148 : decode cX3_order 148 = .ok (.bipush 63, 2) := dk_16 63 (dk_at dksX3_order_6 10 rfl rfl)
theorem dX3_order_150 : decode cX3_order 150 = .ok (.if_icmp .ne 11, 3) := dk_160 0 11 (dk_at dksX3_order_6 12 rfl rfl)
theorem dX3_order_153 : decode cX3_order 153 = .ok (.aload_n 0, 1) := dk_42 (dk_at dksX3_order_6 15 rfl rfl)
theorem dX3_order_154 : decode cX3_order 154 = .ok (.aload_n 0, 1) := dk_42 (dk_at dksX3_order_6 16 rfl rfl)
theorem dX3_order_155 : decode cX3_order 155 = .ok (.invokevirtual 224, 3) := dk_182 0 224 (dk_at dksX3_order_6 17 rfl rfl)
theorem dX3_order_158 : decode cX3_order 158 = .ok (.putfield 218, 3) := dk_181 0 218 (dk_at dksX3_order_6 20 rfl rfl)
theorem dX3_order_161 : decode cX3_order 161 = .ok (.return_, 1) := dk_177 (dk_at dksX3_order_6 23 rfl rfl)
abbrev cX3_here : ByteArray := prog_9_method_58_code
def yX3_here : MethodName := ⟨RX3, "here", "()I"⟩
def dkwX3_here_1 : List UInt8 := [172]
abbrev dktX3_here_1 : List UInt8 := dkwX3_here_1 ++ []
def dkwX3_here_0 : List UInt8 := [42, 180, 0, 200, 42, 180, 0, 197, 162, 0, 15, 42, 180, 0, 19, 42, 180, 0, 200, 46, 167, 0, 4, 3]
abbrev dktX3_here_0 : List UInt8 := dkwX3_here_0 ++ dktX3_here_1
theorem dksX3_here_0 : cX3_here.data.toList.drop 0 = dktX3_here_0 := by decide +kernel
theorem dksX3_here_1 : cX3_here.data.toList.drop 24 = dktX3_here_1 := dk_seg dksX3_here_0 24 rfl rfl
theorem dX3_here_0 : decode cX3_here 0 = .ok (.aload_n 0, 1) := dk_42 (dk_at dksX3_here_0 0 rfl rfl)
theorem dX3_here_1 : decode cX3_here 1 = .ok (.getfield 200, 3) := dk_180 0 200 (dk_at dksX3_here_0 1 rfl rfl)
theorem dX3_here_4 : decode cX3_here 4 = .ok (.aload_n 0, 1) := dk_42 (dk_at dksX3_here_0 4 rfl rfl)
theorem dX3_here_5 : decode cX3_here 5 = .ok (.getfield 197, 3) := dk_180 0 197 (dk_at dksX3_here_0 5 rfl rfl)
theorem dX3_here_8 : decode cX3_here 8 = .ok (.if_icmp .ge 15, 3) := dk_162 0 15 (dk_at dksX3_here_0 8 rfl rfl)
theorem dX3_here_11 : decode cX3_here 11 = .ok (.aload_n 0, 1) := dk_42 (dk_at dksX3_here_0 11 rfl rfl)
theorem dX3_here_12 : decode cX3_here 12 = .ok (.getfield 19, 3) := dk_180 0 19 (dk_at dksX3_here_0 12 rfl rfl)
theorem dX3_here_15 : decode cX3_here 15 = .ok (.aload_n 0, 1) := dk_42 (dk_at dksX3_here_0 15 rfl rfl)
theorem dX3_here_16 : decode cX3_here 16 = .ok (.getfield 200, 3) := dk_180 0 200 (dk_at dksX3_here_0 16 rfl rfl)
theorem dX3_here_19 : decode cX3_here 19 = .ok (.iaload, 1) := dk_46 (dk_at dksX3_here_0 19 rfl rfl)
theorem dX3_here_20 : decode cX3_here 20 = .ok (.goto 4, 3) := dk_167 0 4 (dk_at dksX3_here_0 20 rfl rfl)
theorem dX3_here_23 : decode cX3_here 23 = .ok (.iconst 0, 1) := dk_3 (dk_at dksX3_here_0 23 rfl rfl)
theorem dX3_here_24 : decode cX3_here 24 = .ok (.ireturn, 1) := dk_172 (dk_at dksX3_here_1 0 rfl rfl)
abbrev cX3_kindFor : ByteArray := prog_9_method_61_code
def yX3_kindFor : MethodName := ⟨RX3, "kindFor", "(I)I"⟩
def dkwX3_kindFor_3 : List UInt8 := [26, 16, 67, 160, 0, 8, 16, 7, 167, 0, 4, 2, 172]
abbrev dktX3_kindFor_3 : List UInt8 := dkwX3_kindFor_3 ++ []
def dkwX3_kindFor_2 : List UInt8 := [167, 0, 36, 26, 16, 83, 160, 0, 7, 8, 167, 0, 26, 26, 16, 73, 160, 0, 8, 16, 6, 167, 0, 15]
abbrev dktX3_kindFor_2 : List UInt8 := dkwX3_kindFor_2 ++ dktX3_kindFor_3
def dkwX3_kindFor_1 : List UInt8 := [160, 0, 7, 5, 167, 0, 56, 26, 16, 78, 160, 0, 7, 6, 167, 0, 46, 26, 16, 82, 160, 0, 7, 7]
abbrev dktX3_kindFor_1 : List UInt8 := dkwX3_kindFor_1 ++ dktX3_kindFor_2
def dkwX3_kindFor_0 : List UInt8 := [26, 16, 65, 160, 0, 7, 3, 167, 0, 76, 26, 16, 79, 160, 0, 7, 4, 167, 0, 66, 26, 16, 88]
abbrev dktX3_kindFor_0 : List UInt8 := dkwX3_kindFor_0 ++ dktX3_kindFor_1
theorem dksX3_kindFor_0 : cX3_kindFor.data.toList.drop 0 = dktX3_kindFor_0 := by decide +kernel
theorem dksX3_kindFor_1 : cX3_kindFor.data.toList.drop 23 = dktX3_kindFor_1 := dk_seg dksX3_kindFor_0 23 rfl rfl
theorem dksX3_kindFor_2 : cX3_kindFor.data.toList.drop 47 = dktX3_kindFor_2 := dk_seg dksX3_kindFor_1 24 rfl rfl
theorem dksX3_kindFor_3 : cX3_kindFor.data.toList.drop 71 = dktX3_kindFor_3 := dk_seg dksX3_kindFor_2 24 rfl rfl
theorem dX3_kindFor_0 : decode cX3_kindFor 0 = .ok (.iload_n 0, 1) := dk_26 (dk_at dksX3_kindFor_0 0 rfl rfl)
theorem dX3_kindFor_1 : decode cX3_kindFor 1 = .ok (.bipush 65, 2) := dk_16 65 (dk_at dksX3_kindFor_0 1 rfl rfl)
theorem dX3_kindFor_3 : decode cX3_kindFor 3 = .ok (.if_icmp .ne 7, 3) := dk_160 0 7 (dk_at dksX3_kindFor_0 3 rfl rfl)
theorem dX3_kindFor_6 : decode cX3_kindFor 6 = .ok (.iconst 0, 1) := dk_3 (dk_at dksX3_kindFor_0 6 rfl rfl)
theorem dX3_kindFor_7 : decode cX3_kindFor 7 = .ok (.goto 76, 3) := dk_167 0 76 (dk_at dksX3_kindFor_0 7 rfl rfl)
theorem dX3_kindFor_10 : decode cX3_kindFor 10 = .ok (.iload_n 0, 1) := dk_26 (dk_at dksX3_kindFor_0 10 rfl rfl)
theorem dX3_kindFor_11 : decode cX3_kindFor 11 = .ok (.bipush 79, 2) := dk_16 79 (dk_at dksX3_kindFor_0 11 rfl rfl)
theorem dX3_kindFor_13 : decode cX3_kindFor 13 = .ok (.if_icmp .ne 7, 3) := dk_160 0 7 (dk_at dksX3_kindFor_0 13 rfl rfl)
theorem dX3_kindFor_16 : decode cX3_kindFor 16 = .ok (.iconst 1, 1) := dk_4 (dk_at dksX3_kindFor_0 16 rfl rfl)
theorem dX3_kindFor_17 : decode cX3_kindFor 17 = .ok (.goto 66, 3) := dk_167 0 66 (dk_at dksX3_kindFor_0 17 rfl rfl)
theorem dX3_kindFor_20 : decode cX3_kindFor 20 = .ok (.iload_n 0, 1) := dk_26 (dk_at dksX3_kindFor_0 20 rfl rfl)
theorem dX3_kindFor_21 : decode cX3_kindFor 21 = .ok (.bipush 88, 2) := dk_16 88 (dk_at dksX3_kindFor_0 21 rfl rfl)
theorem dX3_kindFor_23 : decode cX3_kindFor 23 = .ok (.if_icmp .ne 7, 3) := dk_160 0 7 (dk_at dksX3_kindFor_1 0 rfl rfl)
theorem dX3_kindFor_26 : decode cX3_kindFor 26 = .ok (.iconst 2, 1) := dk_5 (dk_at dksX3_kindFor_1 3 rfl rfl)
theorem dX3_kindFor_27 : decode cX3_kindFor 27 = .ok (.goto 56, 3) := dk_167 0 56 (dk_at dksX3_kindFor_1 4 rfl rfl)
theorem dX3_kindFor_30 : decode cX3_kindFor 30 = .ok (.iload_n 0, 1) := dk_26 (dk_at dksX3_kindFor_1 7 rfl rfl)
theorem dX3_kindFor_31 : decode cX3_kindFor 31 = .ok (.bipush 78, 2) := dk_16 78 (dk_at dksX3_kindFor_1 8 rfl rfl)
theorem dX3_kindFor_33 : decode cX3_kindFor 33 = .ok (.if_icmp .ne 7, 3) := dk_160 0 7 (dk_at dksX3_kindFor_1 10 rfl rfl)
theorem dX3_kindFor_36 : decode cX3_kindFor 36 = .ok (.iconst 3, 1) := dk_6 (dk_at dksX3_kindFor_1 13 rfl rfl)
theorem dX3_kindFor_37 : decode cX3_kindFor 37 = .ok (.goto 46, 3) := dk_167 0 46 (dk_at dksX3_kindFor_1 14 rfl rfl)
theorem dX3_kindFor_40 : decode cX3_kindFor 40 = .ok (.iload_n 0, 1) := dk_26 (dk_at dksX3_kindFor_1 17 rfl rfl)
theorem dX3_kindFor_41 : decode cX3_kindFor 41 = .ok (.bipush 82, 2) := dk_16 82 (dk_at dksX3_kindFor_1 18 rfl rfl)
theorem dX3_kindFor_43 : decode cX3_kindFor 43 = .ok (.if_icmp .ne 7, 3) := dk_160 0 7 (dk_at dksX3_kindFor_1 20 rfl rfl)
theorem dX3_kindFor_46 : decode cX3_kindFor 46 = .ok (.iconst 4, 1) := dk_7 (dk_at dksX3_kindFor_1 23 rfl rfl)
theorem dX3_kindFor_47 : decode cX3_kindFor 47 = .ok (.goto 36, 3) := dk_167 0 36 (dk_at dksX3_kindFor_2 0 rfl rfl)
theorem dX3_kindFor_50 : decode cX3_kindFor 50 = .ok (.iload_n 0, 1) := dk_26 (dk_at dksX3_kindFor_2 3 rfl rfl)
theorem dX3_kindFor_51 : decode cX3_kindFor 51 = .ok (.bipush 83, 2) := dk_16 83 (dk_at dksX3_kindFor_2 4 rfl rfl)
theorem dX3_kindFor_53 : decode cX3_kindFor 53 = .ok (.if_icmp .ne 7, 3) := dk_160 0 7 (dk_at dksX3_kindFor_2 6 rfl rfl)
theorem dX3_kindFor_56 : decode cX3_kindFor 56 = .ok (.iconst 5, 1) := dk_8 (dk_at dksX3_kindFor_2 9 rfl rfl)
theorem dX3_kindFor_57 : decode cX3_kindFor 57 = .ok (.goto 26, 3) := dk_167 0 26 (dk_at dksX3_kindFor_2 10 rfl rfl)
theorem dX3_kindFor_60 : decode cX3_kindFor 60 = .ok (.iload_n 0, 1) := dk_26 (dk_at dksX3_kindFor_2 13 rfl rfl)
theorem dX3_kindFor_61 : decode cX3_kindFor 61 = .ok (.bipush 73, 2) := dk_16 73 (dk_at dksX3_kindFor_2 14 rfl rfl)
theorem dX3_kindFor_63 : decode cX3_kindFor 63 = .ok (.if_icmp .ne 8, 3) := dk_160 0 8 (dk_at dksX3_kindFor_2 16 rfl rfl)
theorem dX3_kindFor_66 : decode cX3_kindFor 66 = .ok (.bipush 6, 2) := dk_16 6 (dk_at dksX3_kindFor_2 19 rfl rfl)
theorem dX3_kindFor_68 : decode cX3_kindFor 68 = .ok (.goto 15, 3) := dk_167 0 15 (dk_at dksX3_kindFor_2 21 rfl rfl)
theorem dX3_kindFor_71 : decode cX3_kindFor 71 = .ok (.iload_n 0, 1) := dk_26 (dk_at dksX3_kindFor_3 0 rfl rfl)
theorem dX3_kindFor_72 : decode cX3_kindFor 72 = .ok (.bipush 67, 2) := dk_16 67 (dk_at dksX3_kindFor_3 1 rfl rfl)
theorem dX3_kindFor_74 : decode cX3_kindFor 74 = .ok (.if_icmp .ne 8, 3) := dk_160 0 8 (dk_at dksX3_kindFor_3 3 rfl rfl)
theorem dX3_kindFor_77 : decode cX3_kindFor 77 = .ok (.bipush 7, 2) := dk_16 7 (dk_at dksX3_kindFor_3 6 rfl rfl)
theorem dX3_kindFor_79 : decode cX3_kindFor 79 = .ok (.goto 4, 3) := dk_167 0 4 (dk_at dksX3_kindFor_3 8 rfl rfl)
theorem dX3_kindFor_82 : decode cX3_kindFor 82 = .ok (.iconst (-1), 1) := dk_2 (dk_at dksX3_kindFor_3 11 rfl rfl)
theorem dX3_kindFor_83 : decode cX3_kindFor 83 = .ok (.ireturn, 1) := dk_172 (dk_at dksX3_kindFor_3 12 rfl rfl)
abbrev cX3_lineHere : ByteArray := prog_9_method_59_code
def yX3_lineHere : MethodName := ⟨RX3, "lineHere", "()I"⟩
def dkwX3_lineHere_2 : List UInt8 := [181, 0, 200, 42, 180, 0, 19, 42, 180, 0, 200, 4, 100, 46, 16, 97, 100, 172]
abbrev dktX3_lineHere_2 : List UInt8 := dkwX3_lineHere_2 ++ []
def dkwX3_lineHere_1 : List UInt8 := [167, 0, 4, 3, 181, 0, 203, 42, 180, 0, 203, 153, 0, 5, 3, 172, 42, 89, 180, 0, 200, 4, 96]
abbrev dktX3_lineHere_1 : List UInt8 := dkwX3_lineHere_1 ++ dktX3_lineHere_2
def dkwX3_lineHere_0 : List UInt8 := [42, 42, 180, 0, 203, 154, 0, 17, 42, 182, 0, 206, 16, 97, 16, 114, 184, 0, 58, 154, 0, 7, 4]
abbrev dktX3_lineHere_0 : List UInt8 := dkwX3_lineHere_0 ++ dktX3_lineHere_1
theorem dksX3_lineHere_0 : cX3_lineHere.data.toList.drop 0 = dktX3_lineHere_0 := by decide +kernel
theorem dksX3_lineHere_1 : cX3_lineHere.data.toList.drop 23 = dktX3_lineHere_1 := dk_seg dksX3_lineHere_0 23 rfl rfl
theorem dksX3_lineHere_2 : cX3_lineHere.data.toList.drop 46 = dktX3_lineHere_2 := dk_seg dksX3_lineHere_1 23 rfl rfl
theorem dX3_lineHere_0 : decode cX3_lineHere 0 = .ok (.aload_n 0, 1) := dk_42 (dk_at dksX3_lineHere_0 0 rfl rfl)
theorem dX3_lineHere_1 : decode cX3_lineHere 1 = .ok (.aload_n 0, 1) := dk_42 (dk_at dksX3_lineHere_0 1 rfl rfl)
theorem dX3_lineHere_2 : decode cX3_lineHere 2 = .ok (.getfield 203, 3) := dk_180 0 203 (dk_at dksX3_lineHere_0 2 rfl rfl)
theorem dX3_lineHere_5 : decode cX3_lineHere 5 = .ok (.ifCond .ne 17, 3) := dk_154 0 17 (dk_at dksX3_lineHere_0 5 rfl rfl)
theorem dX3_lineHere_8 : decode cX3_lineHere 8 = .ok (.aload_n 0, 1) := dk_42 (dk_at dksX3_lineHere_0 8 rfl rfl)
theorem dX3_lineHere_9 : decode cX3_lineHere 9 = .ok (.invokevirtual 206, 3) := dk_182 0 206 (dk_at dksX3_lineHere_0 9 rfl rfl)
theorem dX3_lineHere_12 : decode cX3_lineHere 12 = .ok (.bipush 97, 2) := dk_16 97 (dk_at dksX3_lineHere_0 12 rfl rfl)
theorem dX3_lineHere_14 : decode cX3_lineHere 14 = .ok (.bipush 114, 2) := dk_16 114 (dk_at dksX3_lineHere_0 14 rfl rfl)
theorem dX3_lineHere_16 : decode cX3_lineHere 16 = .ok (.invokestatic 58, 3) := dk_184 0 58 (dk_at dksX3_lineHere_0 16 rfl rfl)
theorem dX3_lineHere_19 : decode cX3_lineHere 19 = .ok (.ifCond .ne 7, 3) := dk_154 0 7 (dk_at dksX3_lineHere_0 19 rfl rfl)
theorem dX3_lineHere_22 : decode cX3_lineHere 22 = .ok (.iconst 1, 1) := dk_4 (dk_at dksX3_lineHere_0 22 rfl rfl)
theorem dX3_lineHere_23 : decode cX3_lineHere 23 = .ok (.goto 4, 3) := dk_167 0 4 (dk_at dksX3_lineHere_1 0 rfl rfl)
theorem dX3_lineHere_26 : decode cX3_lineHere 26 = .ok (.iconst 0, 1) := dk_3 (dk_at dksX3_lineHere_1 3 rfl rfl)
theorem dX3_lineHere_27 : decode cX3_lineHere 27 = .ok (.putfield 203, 3) := dk_181 0 203 (dk_at dksX3_lineHere_1 4 rfl rfl)
theorem dX3_lineHere_30 : decode cX3_lineHere 30 = .ok (.aload_n 0, 1) := dk_42 (dk_at dksX3_lineHere_1 7 rfl rfl)
theorem dX3_lineHere_31 : decode cX3_lineHere 31 = .ok (.getfield 203, 3) := dk_180 0 203 (dk_at dksX3_lineHere_1 8 rfl rfl)
theorem dX3_lineHere_34 : decode cX3_lineHere 34 = .ok (.ifCond .eq 5, 3) := dk_153 0 5 (dk_at dksX3_lineHere_1 11 rfl rfl)
theorem dX3_lineHere_37 : decode cX3_lineHere 37 = .ok (.iconst 0, 1) := dk_3 (dk_at dksX3_lineHere_1 14 rfl rfl)
theorem dX3_lineHere_38 : decode cX3_lineHere 38 = .ok (.ireturn, 1) := dk_172 (dk_at dksX3_lineHere_1 15 rfl rfl)
theorem dX3_lineHere_39 : decode cX3_lineHere 39 = .ok (.aload_n 0, 1) := dk_42 (dk_at dksX3_lineHere_1 16 rfl rfl)
theorem dX3_lineHere_40 : decode cX3_lineHere 40 = .ok (.dup, 1) := dk_89 (dk_at dksX3_lineHere_1 17 rfl rfl)
theorem dX3_lineHere_41 : decode cX3_lineHere 41 = .ok (.getfield 200, 3) := dk_180 0 200 (dk_at dksX3_lineHere_1 18 rfl rfl)
theorem dX3_lineHere_44 : decode cX3_lineHere 44 = .ok (.iconst 1, 1) := dk_4 (dk_at dksX3_lineHere_1 21 rfl rfl)
theorem dX3_lineHere_45 : decode cX3_lineHere 45 = .ok (.iadd, 1) := dk_96 (dk_at dksX3_lineHere_1 22 rfl rfl)
theorem dX3_lineHere_46 : decode cX3_lineHere 46 = .ok (.putfield 200, 3) := dk_181 0 200 (dk_at dksX3_lineHere_2 0 rfl rfl)
theorem dX3_lineHere_49 : decode cX3_lineHere 49 = .ok (.aload_n 0, 1) := dk_42 (dk_at dksX3_lineHere_2 3 rfl rfl)
theorem dX3_lineHere_50 : decode cX3_lineHere 50 = .ok (.getfield 19, 3) := dk_180 0 19 (dk_at dksX3_lineHere_2 4 rfl rfl)
theorem dX3_lineHere_53 : decode cX3_lineHere 53 = .ok (.aload_n 0, 1) := dk_42 (dk_at dksX3_lineHere_2 7 rfl rfl)
theorem dX3_lineHere_54 : decode cX3_lineHere 54 = .ok (.getfield 200, 3) := dk_180 0 200 (dk_at dksX3_lineHere_2 8 rfl rfl)
theorem dX3_lineHere_57 : decode cX3_lineHere 57 = .ok (.iconst 1, 1) := dk_4 (dk_at dksX3_lineHere_2 11 rfl rfl)
theorem dX3_lineHere_58 : decode cX3_lineHere 58 = .ok (.isub, 1) := dk_100 (dk_at dksX3_lineHere_2 12 rfl rfl)
theorem dX3_lineHere_59 : decode cX3_lineHere 59 = .ok (.iaload, 1) := dk_46 (dk_at dksX3_lineHere_2 13 rfl rfl)
theorem dX3_lineHere_60 : decode cX3_lineHere 60 = .ok (.bipush 97, 2) := dk_16 97 (dk_at dksX3_lineHere_2 14 rfl rfl)
theorem dX3_lineHere_62 : decode cX3_lineHere 62 = .ok (.isub, 1) := dk_100 (dk_at dksX3_lineHere_2 16 rfl rfl)
theorem dX3_lineHere_63 : decode cX3_lineHere 63 = .ok (.ireturn, 1) := dk_172 (dk_at dksX3_lineHere_2 17 rfl rfl)
abbrev cX3_testHere : ByteArray := prog_9_method_60_code
def yX3_testHere : MethodName := ⟨RX3, "testHere", "()I"⟩
def dkwX3_testHere_4 : List UInt8 := [42, 182, 0, 206, 96, 16, 48, 100, 60, 42, 89, 180, 0, 200, 4, 96, 181, 0, 200, 27, 172]
abbrev dktX3_testHere_4 : List UInt8 := dkwX3_testHere_4 ++ []
def dkwX3_testHere_3 : List UInt8 := [153, 0, 43, 16, 10, 27, 104, 42, 182, 0, 206, 96, 16, 48, 100, 16, 64, 162, 0, 26, 16, 10, 27, 104]
abbrev dktX3_testHere_3 : List UInt8 := dkwX3_testHere_3 ++ dktX3_testHere_4
def dkwX3_testHere_2 : List UInt8 := [180, 0, 200, 4, 96, 181, 0, 200, 27, 158, 0, 57, 42, 182, 0, 206, 16, 48, 16, 57, 184, 0, 58]
abbrev dktX3_testHere_2 : List UInt8 := dkwX3_testHere_2 ++ dktX3_testHere_3
def dkwX3_testHere_1 : List UInt8 := [154, 0, 7, 4, 167, 0, 4, 3, 181, 0, 203, 42, 180, 0, 203, 153, 0, 5, 3, 172, 42, 89]
abbrev dktX3_testHere_1 : List UInt8 := dkwX3_testHere_1 ++ dktX3_testHere_2
def dkwX3_testHere_0 : List UInt8 := [42, 182, 0, 206, 16, 48, 100, 60, 42, 42, 180, 0, 203, 154, 0, 13, 27, 3, 16, 9, 184, 0, 58]
abbrev dktX3_testHere_0 : List UInt8 := dkwX3_testHere_0 ++ dktX3_testHere_1
theorem dksX3_testHere_0 : cX3_testHere.data.toList.drop 0 = dktX3_testHere_0 := by decide +kernel
theorem dksX3_testHere_1 : cX3_testHere.data.toList.drop 23 = dktX3_testHere_1 := dk_seg dksX3_testHere_0 23 rfl rfl
theorem dksX3_testHere_2 : cX3_testHere.data.toList.drop 45 = dktX3_testHere_2 := dk_seg dksX3_testHere_1 22 rfl rfl
theorem dksX3_testHere_3 : cX3_testHere.data.toList.drop 68 = dktX3_testHere_3 := dk_seg dksX3_testHere_2 23 rfl rfl
theorem dksX3_testHere_4 : cX3_testHere.data.toList.drop 92 = dktX3_testHere_4 := dk_seg dksX3_testHere_3 24 rfl rfl
theorem dX3_testHere_0 : decode cX3_testHere 0 = .ok (.aload_n 0, 1) := dk_42 (dk_at dksX3_testHere_0 0 rfl rfl)
theorem dX3_testHere_1 : decode cX3_testHere 1 = .ok (.invokevirtual 206, 3) := dk_182 0 206 (dk_at dksX3_testHere_0 1 rfl rfl)
theorem dX3_testHere_4 : decode cX3_testHere 4 = .ok (.bipush 48, 2) := dk_16 48 (dk_at dksX3_testHere_0 4 rfl rfl)
theorem dX3_testHere_6 : decode cX3_testHere 6 = .ok (.isub, 1) := dk_100 (dk_at dksX3_testHere_0 6 rfl rfl)
theorem dX3_testHere_7 : decode cX3_testHere 7 = .ok (.istore_n 1, 1) := dk_60 (dk_at dksX3_testHere_0 7 rfl rfl)
theorem dX3_testHere_8 : decode cX3_testHere 8 = .ok (.aload_n 0, 1) := dk_42 (dk_at dksX3_testHere_0 8 rfl rfl)
theorem dX3_testHere_9 : decode cX3_testHere 9 = .ok (.aload_n 0, 1) := dk_42 (dk_at dksX3_testHere_0 9 rfl rfl)
theorem dX3_testHere_10 : decode cX3_testHere 10 = .ok (.getfield 203, 3) := dk_180 0 203 (dk_at dksX3_testHere_0 10 rfl rfl)
theorem dX3_testHere_13 : decode cX3_testHere 13 = .ok (.ifCond .ne 13, 3) := dk_154 0 13 (dk_at dksX3_testHere_0 13 rfl rfl)
theorem dX3_testHere_16 : decode cX3_testHere 16 = .ok (.iload_n 1, 1) := dk_27 (dk_at dksX3_testHere_0 16 rfl rfl)
theorem dX3_testHere_17 : decode cX3_testHere 17 = .ok (.iconst 0, 1) := dk_3 (dk_at dksX3_testHere_0 17 rfl rfl)
theorem dX3_testHere_18 : decode cX3_testHere 18 = .ok (.bipush 9, 2) := dk_16 9 (dk_at dksX3_testHere_0 18 rfl rfl)
theorem dX3_testHere_20 : decode cX3_testHere 20 = .ok (.invokestatic 58, 3) := dk_184 0 58 (dk_at dksX3_testHere_0 20 rfl rfl)
theorem dX3_testHere_23 : decode cX3_testHere 23 = .ok (.ifCond .ne 7, 3) := dk_154 0 7 (dk_at dksX3_testHere_1 0 rfl rfl)
theorem dX3_testHere_26 : decode cX3_testHere 26 = .ok (.iconst 1, 1) := dk_4 (dk_at dksX3_testHere_1 3 rfl rfl)
theorem dX3_testHere_27 : decode cX3_testHere 27 = .ok (.goto 4, 3) := dk_167 0 4 (dk_at dksX3_testHere_1 4 rfl rfl)
theorem dX3_testHere_30 : decode cX3_testHere 30 = .ok (.iconst 0, 1) := dk_3 (dk_at dksX3_testHere_1 7 rfl rfl)
theorem dX3_testHere_31 : decode cX3_testHere 31 = .ok (.putfield 203, 3) := dk_181 0 203 (dk_at dksX3_testHere_1 8 rfl rfl)
theorem dX3_testHere_34 : decode cX3_testHere 34 = .ok (.aload_n 0, 1) := dk_42 (dk_at dksX3_testHere_1 11 rfl rfl)
theorem dX3_testHere_35 : decode cX3_testHere 35 = .ok (.getfield 203, 3) := dk_180 0 203 (dk_at dksX3_testHere_1 12 rfl rfl)
theorem dX3_testHere_38 : decode cX3_testHere 38 = .ok (.ifCond .eq 5, 3) := dk_153 0 5 (dk_at dksX3_testHere_1 15 rfl rfl)
theorem dX3_testHere_41 : decode cX3_testHere 41 = .ok (.iconst 0, 1) := dk_3 (dk_at dksX3_testHere_1 18 rfl rfl)
theorem dX3_testHere_42 : decode cX3_testHere 42 = .ok (.ireturn, 1) := dk_172 (dk_at dksX3_testHere_1 19 rfl rfl)
theorem dX3_testHere_43 : decode cX3_testHere 43 = .ok (.aload_n 0, 1) := dk_42 (dk_at dksX3_testHere_1 20 rfl rfl)
theorem dX3_testHere_44 : decode cX3_testHere 44 = .ok (.dup, 1) := dk_89 (dk_at dksX3_testHere_1 21 rfl rfl)
theorem dX3_testHere_45 : decode cX3_testHere 45 = .ok (.getfield 200, 3) := dk_180 0 200 (dk_at dksX3_testHere_2 0 rfl rfl)
theorem dX3_testHere_48 : decode cX3_testHere 48 = .ok (.iconst 1, 1) := dk_4 (dk_at dksX3_testHere_2 3 rfl rfl)
theorem dX3_testHere_49 : decode cX3_testHere 49 = .ok (.iadd, 1) := dk_96 (dk_at dksX3_testHere_2 4 rfl rfl)
theorem dX3_testHere_50 : decode cX3_testHere 50 = .ok (.putfield 200, 3) := dk_181 0 200 (dk_at dksX3_testHere_2 5 rfl rfl)
theorem dX3_testHere_53 : decode cX3_testHere 53 = .ok (.iload_n 1, 1) := dk_27 (dk_at dksX3_testHere_2 8 rfl rfl)
theorem dX3_testHere_54 : decode cX3_testHere 54 = .ok (.ifCond .le 57, 3) := dk_158 0 57 (dk_at dksX3_testHere_2 9 rfl rfl)
theorem dX3_testHere_57 : decode cX3_testHere 57 = .ok (.aload_n 0, 1) := dk_42 (dk_at dksX3_testHere_2 12 rfl rfl)
theorem dX3_testHere_58 : decode cX3_testHere 58 = .ok (.invokevirtual 206, 3) := dk_182 0 206 (dk_at dksX3_testHere_2 13 rfl rfl)
theorem dX3_testHere_61 : decode cX3_testHere 61 = .ok (.bipush 48, 2) := dk_16 48 (dk_at dksX3_testHere_2 16 rfl rfl)
theorem dX3_testHere_63 : decode cX3_testHere 63 = .ok (.bipush 57, 2) := dk_16 57 (dk_at dksX3_testHere_2 18 rfl rfl)
theorem dX3_testHere_65 : decode cX3_testHere 65 = .ok (.invokestatic 58, 3) := dk_184 0 58 (dk_at dksX3_testHere_2 20 rfl rfl)
theorem dX3_testHere_68 : decode cX3_testHere 68 = .ok (.ifCond .eq 43, 3) := dk_153 0 43 (dk_at dksX3_testHere_3 0 rfl rfl)
theorem dX3_testHere_71 : decode cX3_testHere 71 = .ok (.bipush 10, 2) := dk_16 10 (dk_at dksX3_testHere_3 3 rfl rfl)
theorem dX3_testHere_73 : decode cX3_testHere 73 = .ok (.iload_n 1, 1) := dk_27 (dk_at dksX3_testHere_3 5 rfl rfl)
theorem dX3_testHere_74 : decode cX3_testHere 74 = .ok (.imul, 1) := dk_104 (dk_at dksX3_testHere_3 6 rfl rfl)
theorem dX3_testHere_75 : decode cX3_testHere 75 = .ok (.aload_n 0, 1) := dk_42 (dk_at dksX3_testHere_3 7 rfl rfl)
theorem dX3_testHere_76 : decode cX3_testHere 76 = .ok (.invokevirtual 206, 3) := dk_182 0 206 (dk_at dksX3_testHere_3 8 rfl rfl)
theorem dX3_testHere_79 : decode cX3_testHere 79 = .ok (.iadd, 1) := dk_96 (dk_at dksX3_testHere_3 11 rfl rfl)
theorem dX3_testHere_80 : decode cX3_testHere 80 = .ok (.bipush 48, 2) := dk_16 48 (dk_at dksX3_testHere_3 12 rfl rfl)
theorem dX3_testHere_82 : decode cX3_testHere 82 = .ok (.isub, 1) := dk_100 (dk_at dksX3_testHere_3 14 rfl rfl)
theorem dX3_testHere_83 : decode cX3_testHere 83 = .ok (.bipush 64, 2) := dk_16 64 (dk_at dksX3_testHere_3 15 rfl rfl)
theorem dX3_testHere_85 : decode cX3_testHere 85 = .ok (.if_icmp .ge 26, 3) := dk_162 0 26 (dk_at dksX3_testHere_3 17 rfl rfl)
theorem dX3_testHere_88 : decode cX3_testHere 88 = .ok (.bipush 10, 2) := dk_16 10 (dk_at dksX3_testHere_3 20 rfl rfl)
theorem dX3_testHere_90 : decode cX3_testHere 90 = .ok (.iload_n 1, 1) := dk_27 (dk_at dksX3_testHere_3 22 rfl rfl)
theorem dX3_testHere_91 : decode cX3_testHere 91 = .ok (.imul, 1) := dk_104 (dk_at dksX3_testHere_3 23 rfl rfl)
theorem dX3_testHere_92 : decode cX3_testHere 92 = .ok (.aload_n 0, 1) := dk_42 (dk_at dksX3_testHere_4 0 rfl rfl)
theorem dX3_testHere_93 : decode cX3_testHere 93 = .ok (.invokevirtual 206, 3) := dk_182 0 206 (dk_at dksX3_testHere_4 1 rfl rfl)
theorem dX3_testHere_96 : decode cX3_testHere 96 = .ok (.iadd, 1) := dk_96 (dk_at dksX3_testHere_4 4 rfl rfl)
theorem dX3_testHere_97 : decode cX3_testHere 97 = .ok (.bipush 48, 2) := dk_16 48 (dk_at dksX3_testHere_4 5 rfl rfl)
theorem dX3_testHere_99 : decode cX3_testHere 99 = .ok (.isub, 1) := dk_100 (dk_at dksX3_testHere_4 7 rfl rfl)
theorem dX3_testHere_100 : decode cX3_testHere 100 = .ok (.istore_n 1, 1) := dk_60 (dk_at dksX3_testHere_4 8 rfl rfl)
theorem dX3_testHere_101 : decode cX3_testHere 101 = .ok (.aload_n 0, 1) := dk_42 (dk_at dksX3_testHere_4 9 rfl rfl)
theorem dX3_testHere_102 : decode cX3_testHere 102 = .ok (.dup, 1) := dk_89 (dk_at dksX3_testHere_4 10 rfl rfl)
theorem dX3_testHere_103 : decode cX3_testHere 103 = .ok (.getfield 200, 3) := dk_180 0 200 (dk_at dksX3_testHere_4 11 rfl rfl)
theorem dX3_testHere_106 : decode cX3_testHere 106 = .ok (.iconst 1, 1) := dk_4 (dk_at dksX3_testHere_4 14 rfl rfl)
theorem dX3_testHere_107 : decode cX3_testHere 107 = .ok (.iadd, 1) := dk_96 (dk_at dksX3_testHere_4 15 rfl rfl)
theorem dX3_testHere_108 : decode cX3_testHere 108 = .ok (.putfield 200, 3) := dk_181 0 200 (dk_at dksX3_testHere_4 16 rfl rfl)
theorem dX3_testHere_111 : decode cX3_testHere 111 = .ok (.iload_n 1, 1) := dk_27 (dk_at dksX3_testHere_4 19 rfl rfl)
theorem dX3_testHere_112 : decode cX3_testHere 112 = .ok (.ireturn, 1) := dk_172 (dk_at dksX3_testHere_4 20 rfl rfl)
abbrev cX3_run : ByteArray := prog_9_method_66_code
def yX3_run : MethodName := ⟨RX3, "run", "()I"⟩
def dkwX3_run_4 : List UInt8 := [167, 0, 4, 3, 96, 60, 167, 255, 199, 27, 172]
abbrev dktX3_run_4 : List UInt8 := dkwX3_run_4 ++ []
def dkwX3_run_3 : List UInt8 := [167, 0, 4, 3, 96, 181, 0, 200, 42, 182, 0, 227, 42, 182, 0, 233, 61, 27, 28, 153, 0, 7, 4]
abbrev dktX3_run_3 : List UInt8 := dkwX3_run_3 ++ dktX3_run_4
def dkwX3_run_2 : List UInt8 := [180, 0, 200, 42, 180, 0, 197, 162, 0, 48, 42, 89, 180, 0, 200, 42, 180, 0, 200, 158, 0, 7, 4]
abbrev dktX3_run_2 : List UInt8 := dkwX3_run_2 ++ dktX3_run_3
def dkwX3_run_1 : List UInt8 := [158, 0, 5, 3, 172, 42, 182, 0, 69, 3, 60, 4, 61, 42, 3, 181, 0, 200, 28, 153, 0, 59, 42]
abbrev dktX3_run_1 : List UInt8 := dkwX3_run_1 ++ dktX3_run_2
def dkwX3_run_0 : List UInt8 := [42, 182, 0, 230, 42, 42, 180, 0, 203, 153, 0, 7, 4, 167, 0, 4, 3, 181, 0, 50, 42, 180, 0, 50]
abbrev dktX3_run_0 : List UInt8 := dkwX3_run_0 ++ dktX3_run_1
theorem dksX3_run_0 : cX3_run.data.toList.drop 0 = dktX3_run_0 := by decide +kernel
theorem dksX3_run_1 : cX3_run.data.toList.drop 24 = dktX3_run_1 := dk_seg dksX3_run_0 24 rfl rfl
theorem dksX3_run_2 : cX3_run.data.toList.drop 47 = dktX3_run_2 := dk_seg dksX3_run_1 23 rfl rfl
theorem dksX3_run_3 : cX3_run.data.toList.drop 70 = dktX3_run_3 := dk_seg dksX3_run_2 23 rfl rfl
theorem dksX3_run_4 : cX3_run.data.toList.drop 93 = dktX3_run_4 := dk_seg dksX3_run_3 23 rfl rfl
theorem dX3_run_0 : decode cX3_run 0 = .ok (.aload_n 0, 1) := dk_42 (dk_at dksX3_run_0 0 rfl rfl)
theorem dX3_run_1 : decode cX3_run 1 = .ok (.invokevirtual 230, 3) := dk_182 0 230 (dk_at dksX3_run_0 1 rfl rfl)
theorem dX3_run_4 : decode cX3_run 4 = .ok (.aload_n 0, 1) := dk_42 (dk_at dksX3_run_0 4 rfl rfl)
theorem dX3_run_5 : decode cX3_run 5 = .ok (.aload_n 0, 1) := dk_42 (dk_at dksX3_run_0 5 rfl rfl)
theorem dX3_run_6 : decode cX3_run 6 = .ok (.getfield 203, 3) := dk_180 0 203 (dk_at dksX3_run_0 6 rfl rfl)
theorem dX3_run_9 : decode cX3_run 9 = .ok (.ifCond .eq 7, 3) := dk_153 0 7 (dk_at dksX3_run_0 9 rfl rfl)
theorem dX3_run_12 : decode cX3_run 12 = .ok (.iconst 1, 1) := dk_4 (dk_at dksX3_run_0 12 rfl rfl)
theorem dX3_run_13 : decode cX3_run 13 = .ok (.goto 4, 3) := dk_167 0 4 (dk_at dksX3_run_0 13 rfl rfl)
theorem dX3_run_16 : decode cX3_run 16 = .ok (.iconst 0, 1) := dk_3 (dk_at dksX3_run_0 16 rfl rfl)
theorem dX3_run_17 : decode cX3_run 17 = .ok (.putfield 50, 3) := dk_181 0 50 (dk_at dksX3_run_0 17 rfl rfl)
theorem dX3_run_20 : decode cX3_run 20 = .ok (.aload_n 0, 1) := dk_42 (dk_at dksX3_run_0 20 rfl rfl)
theorem dX3_run_21 : decode cX3_run 21 = .ok (.getfield 50, 3) := dk_180 0 50 (dk_at dksX3_run_0 21 rfl rfl)
theorem dX3_run_24 : decode cX3_run 24 = .ok (.ifCond .le 5, 3) := dk_158 0 5 (dk_at dksX3_run_1 0 rfl rfl)
theorem dX3_run_27 : decode cX3_run 27 = .ok (.iconst 0, 1) := dk_3 (dk_at dksX3_run_1 3 rfl rfl)
theorem dX3_run_28 : decode cX3_run 28 = .ok (.ireturn, 1) := dk_172 (dk_at dksX3_run_1 4 rfl rfl)
theorem dX3_run_29 : decode cX3_run 29 = .ok (.aload_n 0, 1) := dk_42 (dk_at dksX3_run_1 5 rfl rfl)
theorem dX3_run_30 : decode cX3_run 30 = .ok (.invokevirtual 69, 3) := dk_182 0 69 (dk_at dksX3_run_1 6 rfl rfl)
theorem dX3_run_33 : decode cX3_run 33 = .ok (.iconst 0, 1) := dk_3 (dk_at dksX3_run_1 9 rfl rfl)
theorem dX3_run_34 : decode cX3_run 34 = .ok (.istore_n 1, 1) := dk_60 (dk_at dksX3_run_1 10 rfl rfl)
theorem dX3_run_35 : decode cX3_run 35 = .ok (.iconst 1, 1) := dk_4 (dk_at dksX3_run_1 11 rfl rfl)
theorem dX3_run_36 : decode cX3_run 36 = .ok (.istore_n 2, 1) := dk_61 (dk_at dksX3_run_1 12 rfl rfl)
theorem dX3_run_37 : decode cX3_run 37 = .ok (.aload_n 0, 1) := dk_42 (dk_at dksX3_run_1 13 rfl rfl)
theorem dX3_run_38 : decode cX3_run 38 = .ok (.iconst 0, 1) := dk_3 (dk_at dksX3_run_1 14 rfl rfl)
theorem dX3_run_39 : decode cX3_run 39 = .ok (.putfield 200, 3) := dk_181 0 200 (dk_at dksX3_run_1 15 rfl rfl)
theorem dX3_run_42 : decode cX3_run 42 = .ok (.iload_n 2, 1) := dk_28 (dk_at dksX3_run_1 18 rfl rfl)
theorem dX3_run_43 : decode cX3_run 43 = .ok (.ifCond .eq 59, 3) := dk_153 0 59 (dk_at dksX3_run_1 19 rfl rfl)
theorem dX3_run_46 : decode cX3_run 46 = .ok (.aload_n 0, 1) := dk_42 (dk_at dksX3_run_1 22 rfl rfl)
theorem dX3_run_47 : decode cX3_run 47 = .ok (.getfield 200, 3) := dk_180 0 200 (dk_at dksX3_run_2 0 rfl rfl)
theorem dX3_run_50 : decode cX3_run 50 = .ok (.aload_n 0, 1) := dk_42 (dk_at dksX3_run_2 3 rfl rfl)
theorem dX3_run_51 : decode cX3_run 51 = .ok (.getfield 197, 3) := dk_180 0 197 (dk_at dksX3_run_2 4 rfl rfl)
theorem dX3_run_54 : decode cX3_run 54 = .ok (.if_icmp .ge 48, 3) := dk_162 0 48 (dk_at dksX3_run_2 7 rfl rfl)
theorem dX3_run_57 : decode cX3_run 57 = .ok (.aload_n 0, 1) := dk_42 (dk_at dksX3_run_2 10 rfl rfl)
theorem dX3_run_58 : decode cX3_run 58 = .ok (.dup, 1) := dk_89 (dk_at dksX3_run_2 11 rfl rfl)
theorem dX3_run_59 : decode cX3_run 59 = .ok (.getfield 200, 3) := dk_180 0 200 (dk_at dksX3_run_2 12 rfl rfl)
theorem dX3_run_62 : decode cX3_run 62 = .ok (.aload_n 0, 1) := dk_42 (dk_at dksX3_run_2 15 rfl rfl)
theorem dX3_run_63 : decode cX3_run 63 = .ok (.getfield 200, 3) := dk_180 0 200 (dk_at dksX3_run_2 16 rfl rfl)
theorem dX3_run_66 : decode cX3_run 66 = .ok (.ifCond .le 7, 3) := dk_158 0 7 (dk_at dksX3_run_2 19 rfl rfl)
theorem dX3_run_69 : decode cX3_run 69 = .ok (.iconst 1, 1) := dk_4 (dk_at dksX3_run_2 22 rfl rfl)
theorem dX3_run_70 : decode cX3_run 70 = .ok (.goto 4, 3) := dk_167 0 4 (dk_at dksX3_run_3 0 rfl rfl)
theorem dX3_run_73 : decode cX3_run 73 = .ok (.iconst 0, 1) := dk_3 (dk_at dksX3_run_3 3 rfl rfl)
theorem dX3_run_74 : decode cX3_run 74 = .ok (.iadd, 1) := dk_96 (dk_at dksX3_run_3 4 rfl rfl)
theorem dX3_run_75 : decode cX3_run 75 = .ok (.putfield 200, 3) := dk_181 0 200 (dk_at dksX3_run_3 5 rfl rfl)
theorem dX3_run_78 : decode cX3_run 78 = .ok (.aload_n 0, 1) := dk_42 (dk_at dksX3_run_3 8 rfl rfl)
theorem dX3_run_79 : decode cX3_run 79 = .ok (.invokevirtual 227, 3) := dk_182 0 227 (dk_at dksX3_run_3 9 rfl rfl)
theorem dX3_run_82 : decode cX3_run 82 = .ok (.aload_n 0, 1) := dk_42 (dk_at dksX3_run_3 12 rfl rfl)
theorem dX3_run_83 : decode cX3_run 83 = .ok (.invokevirtual 233, 3) := dk_182 0 233 (dk_at dksX3_run_3 13 rfl rfl)
theorem dX3_run_86 : decode cX3_run 86 = .ok (.istore_n 2, 1) := dk_61 (dk_at dksX3_run_3 16 rfl rfl)
theorem dX3_run_87 : decode cX3_run 87 = .ok (.iload_n 1, 1) := dk_27 (dk_at dksX3_run_3 17 rfl rfl)
theorem dX3_run_88 : decode cX3_run 88 = .ok (.iload_n 2, 1) := dk_28 (dk_at dksX3_run_3 18 rfl rfl)
theorem dX3_run_89 : decode cX3_run 89 = .ok (.ifCond .eq 7, 3) := dk_153 0 7 (dk_at dksX3_run_3 19 rfl rfl)
theorem dX3_run_92 : decode cX3_run 92 = .ok (.iconst 1, 1) := dk_4 (dk_at dksX3_run_3 22 rfl rfl)
theorem dX3_run_93 : decode cX3_run 93 = .ok (.goto 4, 3) := dk_167 0 4 (dk_at dksX3_run_4 0 rfl rfl)
theorem dX3_run_96 : decode cX3_run 96 = .ok (.iconst 0, 1) := dk_3 (dk_at dksX3_run_4 3 rfl rfl)
theorem dX3_run_97 : decode cX3_run 97 = .ok (.iadd, 1) := dk_96 (dk_at dksX3_run_4 4 rfl rfl)
theorem dX3_run_98 : decode cX3_run 98 = .ok (.istore_n 1, 1) := dk_60 (dk_at dksX3_run_4 5 rfl rfl)
theorem dX3_run_99 : decode cX3_run 99 = .ok (.goto (-57), 3) := dk_167 255 199 (dk_at dksX3_run_4 6 rfl rfl)
theorem dX3_run_102 : decode cX3_run 102 = .ok (.iload_n 1, 1) := dk_27 (dk_at dksX3_run_4 9 rfl rfl)
theorem dX3_run_103 : decode cX3_run 103 = .ok (.ireturn, 1) := dk_172 (dk_at dksX3_run_4 10 rfl rfl)
abbrev cX3_does : ByteArray := prog_9_method_65_code
def yX3_does : MethodName := ⟨RX3, "does", "()Z"⟩
def dkwX3_does_8 : List UInt8 := [182, 0, 138, 4, 172]
abbrev dktX3_does_8 : List UInt8 := dkwX3_does_8 ++ []
def dkwX3_does_7 : List UInt8 := [46, 16, 12, 162, 0, 18, 42, 42, 180, 0, 218, 182, 0, 144, 155, 0, 7, 4, 167, 0, 4, 3, 172, 42]
abbrev dktX3_does_7 : List UInt8 := dkwX3_does_7 ++ dktX3_does_8
def dkwX3_does_6 : List UInt8 := [180, 0, 218, 16, 6, 100, 182, 0, 131, 155, 0, 7, 4, 167, 0, 4, 3, 172, 42, 180, 0, 7, 16, 41]
abbrev dktX3_does_6 : List UInt8 := dkwX3_does_6 ++ dktX3_does_7
def dkwX3_does_5 : List UInt8 := [4, 167, 0, 4, 3, 172, 42, 42, 180, 0, 218, 16, 6, 100, 182, 0, 135, 154, 0, 23, 42, 16, 38, 42]
abbrev dktX3_does_5 : List UInt8 := dkwX3_does_5 ++ dktX3_does_6
def dkwX3_does_4 : List UInt8 := [42, 42, 180, 0, 218, 182, 0, 128, 154, 0, 20, 42, 16, 37, 42, 180, 0, 218, 182, 0, 131, 155, 0, 7]
abbrev dktX3_does_4 : List UInt8 := dkwX3_does_4 ++ dktX3_does_5
def dkwX3_does_3 : List UInt8 := [171, 0, 0, 0, 0, 129, 0, 0, 0, 3, 0, 0, 0, 35, 0, 0, 0, 64, 0, 0, 0, 62, 0, 0, 0, 34, 0, 0, 0, 63, 0, 0, 0, 100]
abbrev dktX3_does_3 : List UInt8 := dkwX3_does_3 ++ dktX3_does_4
def dkwX3_does_2 : List UInt8 := [180, 0, 209]
abbrev dktX3_does_2 : List UInt8 := dkwX3_does_2 ++ dktX3_does_3
def dkwX3_does_1 : List UInt8 := [182, 0, 113, 158, 0, 5, 3, 172, 42, 27, 42, 180, 0, 218, 42, 180, 0, 221, 182, 0, 117, 4, 172, 42]
abbrev dktX3_does_1 : List UInt8 := dkwX3_does_1 ++ dktX3_does_2
def dkwX3_does_0 : List UInt8 := [42, 180, 0, 209, 184, 0, 212, 60, 27, 2, 159, 0, 36, 42, 27, 42, 180, 0, 218, 42, 180, 0, 221]
abbrev dktX3_does_0 : List UInt8 := dkwX3_does_0 ++ dktX3_does_1
theorem dksX3_does_0 : cX3_does.data.toList.drop 0 = dktX3_does_0 := by decide +kernel
theorem dksX3_does_1 : cX3_does.data.toList.drop 23 = dktX3_does_1 := dk_seg dksX3_does_0 23 rfl rfl
theorem dksX3_does_2 : cX3_does.data.toList.drop 47 = dktX3_does_2 := dk_seg dksX3_does_1 24 rfl rfl
theorem dksX3_does_3 : cX3_does.data.toList.drop 50 = dktX3_does_3 := dk_seg dksX3_does_2 3 rfl rfl
theorem dksX3_does_4 : cX3_does.data.toList.drop 84 = dktX3_does_4 := dk_seg dksX3_does_3 34 rfl rfl
theorem dksX3_does_5 : cX3_does.data.toList.drop 108 = dktX3_does_5 := dk_seg dksX3_does_4 24 rfl rfl
theorem dksX3_does_6 : cX3_does.data.toList.drop 132 = dktX3_does_6 := dk_seg dksX3_does_5 24 rfl rfl
theorem dksX3_does_7 : cX3_does.data.toList.drop 156 = dktX3_does_7 := dk_seg dksX3_does_6 24 rfl rfl
theorem dksX3_does_8 : cX3_does.data.toList.drop 180 = dktX3_does_8 := dk_seg dksX3_does_7 24 rfl rfl
theorem dX3_does_0 : decode cX3_does 0 = .ok (.aload_n 0, 1) := dk_42 (dk_at dksX3_does_0 0 rfl rfl)
theorem dX3_does_1 : decode cX3_does 1 = .ok (.getfield 209, 3) := dk_180 0 209 (dk_at dksX3_does_0 1 rfl rfl)
theorem dX3_does_4 : decode cX3_does 4 = .ok (.invokestatic 212, 3) := dk_184 0 212 (dk_at dksX3_does_0 4 rfl rfl)
theorem dX3_does_7 : decode cX3_does 7 = .ok (.istore_n 1, 1) := dk_60 (dk_at dksX3_does_0 7 rfl rfl)
theorem dX3_does_8 : decode cX3_does 8 = .ok (.iload_n 1, 1) := dk_27 (dk_at dksX3_does_0 8 rfl rfl)
theorem dX3_does_9 : decode cX3_does 9 = .ok (.iconst (-1), 1) := dk_2 (dk_at dksX3_does_0 9 rfl rfl)
theorem dX3_does_10 : decode cX3_does 10 = .ok (.if_icmp .eq 36, 3) := dk_159 0 36 (dk_at dksX3_does_0 10 rfl rfl)
theorem dX3_does_13 : decode cX3_does 13 = .ok (.aload_n 0, 1) := dk_42 (dk_at dksX3_does_0 13 rfl rfl)
theorem dX3_does_14 : decode cX3_does 14 = .ok (.iload_n 1, 1) := dk_27 (dk_at dksX3_does_0 14 rfl rfl)
theorem dX3_does_15 : decode cX3_does 15 = .ok (.aload_n 0, 1) := dk_42 (dk_at dksX3_does_0 15 rfl rfl)
theorem dX3_does_16 : decode cX3_does 16 = .ok (.getfield 218, 3) := dk_180 0 218 (dk_at dksX3_does_0 16 rfl rfl)
theorem dX3_does_19 : decode cX3_does 19 = .ok (.aload_n 0, 1) := dk_42 (dk_at dksX3_does_0 19 rfl rfl)
theorem dX3_does_20 : decode cX3_does 20 = .ok (.getfield 221, 3) := dk_180 0 221 (dk_at dksX3_does_0 20 rfl rfl)
theorem dX3_does_23 : decode cX3_does 23 = .ok (.invokevirtual 113, 3) := dk_182 0 113 (dk_at dksX3_does_1 0 rfl rfl)
theorem dX3_does_26 : decode cX3_does 26 = .ok (.ifCond .le 5, 3) := dk_158 0 5 (dk_at dksX3_does_1 3 rfl rfl)
theorem dX3_does_29 : decode cX3_does 29 = .ok (.iconst 0, 1) := dk_3 (dk_at dksX3_does_1 6 rfl rfl)
theorem dX3_does_30 : decode cX3_does 30 = .ok (.ireturn, 1) := dk_172 (dk_at dksX3_does_1 7 rfl rfl)
theorem dX3_does_31 : decode cX3_does 31 = .ok (.aload_n 0, 1) := dk_42 (dk_at dksX3_does_1 8 rfl rfl)
theorem dX3_does_32 : decode cX3_does 32 = .ok (.iload_n 1, 1) := dk_27 (dk_at dksX3_does_1 9 rfl rfl)
theorem dX3_does_33 : decode cX3_does 33 = .ok (.aload_n 0, 1) := dk_42 (dk_at dksX3_does_1 10 rfl rfl)
theorem dX3_does_34 : decode cX3_does 34 = .ok (.getfield 218, 3) := dk_180 0 218 (dk_at dksX3_does_1 11 rfl rfl)
theorem dX3_does_37 : decode cX3_does 37 = .ok (.aload_n 0, 1) := dk_42 (dk_at dksX3_does_1 14 rfl rfl)
theorem dX3_does_38 : decode cX3_does 38 = .ok (.getfield 221, 3) := dk_180 0 221 (dk_at dksX3_does_1 15 rfl rfl)
theorem dX3_does_41 : decode cX3_does 41 = .ok (.invokevirtual 117, 3) := dk_182 0 117 (dk_at dksX3_does_1 18 rfl rfl)
theorem dX3_does_44 : decode cX3_does 44 = .ok (.iconst 1, 1) := dk_4 (dk_at dksX3_does_1 21 rfl rfl)
theorem dX3_does_45 : decode cX3_does 45 = .ok (.ireturn, 1) := dk_172 (dk_at dksX3_does_1 22 rfl rfl)
theorem dX3_does_46 : decode cX3_does 46 = .ok (.aload_n 0, 1) := dk_42 (dk_at dksX3_does_1 23 rfl rfl)
theorem dX3_does_47 : decode cX3_does 47 = .ok (.getfield 209, 3) := dk_180 0 209 (dk_at dksX3_does_2 0 rfl rfl)
theorem dX3_does_50 : decode cX3_does 50 = .ok (.lookupswitch 129 #[(35, 64), (62, 34), (63, 100)], 34) := by decide +kernel
theorem dX3_does_84 : decode cX3_does 84 = .ok (.aload_n 0, 1) := dk_42 (dk_at dksX3_does_4 0 rfl rfl)
theorem dX3_does_85 : decode cX3_does 85 = .ok (.aload_n 0, 1) := dk_42 (dk_at dksX3_does_4 1 rfl rfl)
theorem dX3_does_86 : decode cX3_does 86 = .ok (.getfield 218, 3) := dk_180 0 218 (dk_at dksX3_does_4 2 rfl rfl)
theorem dX3_does_89 : decode cX3_does 89 = .ok (.invokevirtual 128, 3) := dk_182 0 128 (dk_at dksX3_does_4 5 rfl rfl)
theorem dX3_does_92 : decode cX3_does 92 = .ok (.ifCond .ne 20, 3) := dk_154 0 20 (dk_at dksX3_does_4 8 rfl rfl)
theorem dX3_does_95 : decode cX3_does 95 = .ok (.aload_n 0, 1) := dk_42 (dk_at dksX3_does_4 11 rfl rfl)
theorem dX3_does_96 : decode cX3_does 96 = .ok (.bipush 37, 2) := dk_16 37 (dk_at dksX3_does_4 12 rfl rfl)
theorem dX3_does_98 : decode cX3_does 98 = .ok (.aload_n 0, 1) := dk_42 (dk_at dksX3_does_4 14 rfl rfl)
theorem dX3_does_99 : decode cX3_does 99 = .ok (.getfield 218, 3) := dk_180 0 218 (dk_at dksX3_does_4 15 rfl rfl)
theorem dX3_does_102 : decode cX3_does 102 = .ok (.invokevirtual 131, 3) := dk_182 0 131 (dk_at dksX3_does_4 18 rfl rfl)
theorem dX3_does_105 : decode cX3_does 105 = .ok (.ifCond .lt 7, 3) := dk_155 0 7 (dk_at dksX3_does_4 21 rfl rfl)
theorem dX3_does_108 : decode cX3_does 108 = .ok (.iconst 1, 1) := dk_4 (dk_at dksX3_does_5 0 rfl rfl)
theorem dX3_does_109 : decode cX3_does 109 = .ok (.goto 4, 3) := dk_167 0 4 (dk_at dksX3_does_5 1 rfl rfl)
theorem dX3_does_112 : decode cX3_does 112 = .ok (.iconst 0, 1) := dk_3 (dk_at dksX3_does_5 4 rfl rfl)
theorem dX3_does_113 : decode cX3_does 113 = .ok (.ireturn, 1) := dk_172 (dk_at dksX3_does_5 5 rfl rfl)
theorem dX3_does_114 : decode cX3_does 114 = .ok (.aload_n 0, 1) := dk_42 (dk_at dksX3_does_5 6 rfl rfl)
theorem dX3_does_115 : decode cX3_does 115 = .ok (.aload_n 0, 1) := dk_42 (dk_at dksX3_does_5 7 rfl rfl)
theorem dX3_does_116 : decode cX3_does 116 = .ok (.getfield 218, 3) := dk_180 0 218 (dk_at dksX3_does_5 8 rfl rfl)
theorem dX3_does_119 : decode cX3_does 119 = .ok (.bipush 6, 2) := dk_16 6 (dk_at dksX3_does_5 11 rfl rfl)
theorem dX3_does_121 : decode cX3_does 121 = .ok (.isub, 1) := dk_100 (dk_at dksX3_does_5 13 rfl rfl)
theorem dX3_does_122 : decode cX3_does 122 = .ok (.invokevirtual 135, 3) := dk_182 0 135 (dk_at dksX3_does_5 14 rfl rfl)
theorem dX3_does_125 : decode cX3_does 125 = .ok (.ifCond .ne 23, 3) := dk_154 0 23 (dk_at dksX3_does_5 17 rfl rfl)
theorem dX3_does_128 : decode cX3_does 128 = .ok (.aload_n 0, 1) := dk_42 (dk_at dksX3_does_5 20 rfl rfl)
theorem dX3_does_129 : decode cX3_does 129 = .ok (.bipush 38, 2) := dk_16 38 (dk_at dksX3_does_5 21 rfl rfl)
theorem dX3_does_131 : decode cX3_does 131 = .ok (.aload_n 0, 1) := dk_42 (dk_at dksX3_does_5 23 rfl rfl)
theorem dX3_does_132 : decode cX3_does 132 = .ok (.getfield 218, 3) := dk_180 0 218 (dk_at dksX3_does_6 0 rfl rfl)
theorem dX3_does_135 : decode cX3_does 135 = .ok (.bipush 6, 2) := dk_16 6 (dk_at dksX3_does_6 3 rfl rfl)
theorem dX3_does_137 : decode cX3_does 137 = .ok (.isub, 1) := dk_100 (dk_at dksX3_does_6 5 rfl rfl)
theorem dX3_does_138 : decode cX3_does 138 = .ok (.invokevirtual 131, 3) := dk_182 0 131 (dk_at dksX3_does_6 6 rfl rfl)
theorem dX3_does_141 : decode cX3_does 141 = .ok (.ifCond .lt 7, 3) := dk_155 0 7 (dk_at dksX3_does_6 9 rfl rfl)
theorem dX3_does_144 : decode cX3_does 144 = .ok (.iconst 1, 1) := dk_4 (dk_at dksX3_does_6 12 rfl rfl)
theorem dX3_does_145 : decode cX3_does 145 = .ok (.goto 4, 3) := dk_167 0 4 (dk_at dksX3_does_6 13 rfl rfl)
theorem dX3_does_148 : decode cX3_does 148 = .ok (.iconst 0, 1) := dk_3 (dk_at dksX3_does_6 16 rfl rfl)
theorem dX3_does_149 : decode cX3_does 149 = .ok (.ireturn, 1) := dk_172 (dk_at dksX3_does_6 17 rfl rfl)
theorem dX3_does_150 : decode cX3_does 150 = .ok (.aload_n 0, 1) := dk_42 (dk_at dksX3_does_6 18 rfl rfl)
theorem dX3_does_151 : decode cX3_does 151 = .ok (.getfield 7, 3) := dk_180 0 7 (dk_at dksX3_does_6 19 rfl rfl)
theorem dX3_does_154 : decode cX3_does 154 = .ok (.bipush 41, 2) := dk_16 41 (dk_at dksX3_does_6 22 rfl rfl)
theorem dX3_does_156 : decode cX3_does 156 = .ok (.iaload, 1) := dk_46 (dk_at dksX3_does_7 0 rfl rfl)
theorem dX3_does_157 : decode cX3_does 157 = .ok (.bipush 12, 2) := dk_16 12 (dk_at dksX3_does_7 1 rfl rfl)
theorem dX3_does_159 : decode cX3_does 159 = .ok (.if_icmp .ge 18, 3) := dk_162 0 18 (dk_at dksX3_does_7 3 rfl rfl)
theorem dX3_does_162 : decode cX3_does 162 = .ok (.aload_n 0, 1) := dk_42 (dk_at dksX3_does_7 6 rfl rfl)
theorem dX3_does_163 : decode cX3_does 163 = .ok (.aload_n 0, 1) := dk_42 (dk_at dksX3_does_7 7 rfl rfl)
theorem dX3_does_164 : decode cX3_does 164 = .ok (.getfield 218, 3) := dk_180 0 218 (dk_at dksX3_does_7 8 rfl rfl)
theorem dX3_does_167 : decode cX3_does 167 = .ok (.invokevirtual 144, 3) := dk_182 0 144 (dk_at dksX3_does_7 11 rfl rfl)
theorem dX3_does_170 : decode cX3_does 170 = .ok (.ifCond .lt 7, 3) := dk_155 0 7 (dk_at dksX3_does_7 14 rfl rfl)
theorem dX3_does_173 : decode cX3_does 173 = .ok (.iconst 1, 1) := dk_4 (dk_at dksX3_does_7 17 rfl rfl)
theorem dX3_does_174 : decode cX3_does 174 = .ok (.goto 4, 3) := dk_167 0 4 (dk_at dksX3_does_7 18 rfl rfl)
theorem dX3_does_177 : decode cX3_does 177 = .ok (.iconst 0, 1) := dk_3 (dk_at dksX3_does_7 21 rfl rfl)
theorem dX3_does_178 : decode cX3_does 178 = .ok (.ireturn, 1) := dk_172 (dk_at dksX3_does_7 22 rfl rfl)
theorem dX3_does_179 : decode cX3_does 179 = .ok (.aload_n 0, 1) := dk_42 (dk_at dksX3_does_7 23 rfl rfl)
theorem dX3_does_180 : decode cX3_does 180 = .ok (.invokevirtual 138, 3) := dk_182 0 138 (dk_at dksX3_does_8 0 rfl rfl)
theorem dX3_does_183 : decode cX3_does 183 = .ok (.iconst 1, 1) := dk_4 (dk_at dksX3_does_8 3 rfl rfl)
theorem dX3_does_184 : decode cX3_does 184 = .ok (.ireturn, 1) := dk_172 (dk_at dksX3_does_8 4 rfl rfl)
abbrev cX3_gates : ByteArray := prog_9_method_67_code
def yX3_gates : MethodName := ⟨RX3, "gates", "()I"⟩
def dkwX3_gates_0 : List UInt8 := [42, 3, 181, 0, 50, 42, 180, 0, 7, 3, 46, 172]
abbrev dktX3_gates_0 : List UInt8 := dkwX3_gates_0 ++ []
theorem dksX3_gates_0 : cX3_gates.data.toList.drop 0 = dktX3_gates_0 := by decide +kernel
theorem dX3_gates_0 : decode cX3_gates 0 = .ok (.aload_n 0, 1) := dk_42 (dk_at dksX3_gates_0 0 rfl rfl)
theorem dX3_gates_1 : decode cX3_gates 1 = .ok (.iconst 0, 1) := dk_3 (dk_at dksX3_gates_0 1 rfl rfl)
theorem dX3_gates_2 : decode cX3_gates 2 = .ok (.putfield 50, 3) := dk_181 0 50 (dk_at dksX3_gates_0 2 rfl rfl)
theorem dX3_gates_5 : decode cX3_gates 5 = .ok (.aload_n 0, 1) := dk_42 (dk_at dksX3_gates_0 5 rfl rfl)
theorem dX3_gates_6 : decode cX3_gates 6 = .ok (.getfield 7, 3) := dk_180 0 7 (dk_at dksX3_gates_0 6 rfl rfl)
theorem dX3_gates_9 : decode cX3_gates 9 = .ok (.iconst 0, 1) := dk_3 (dk_at dksX3_gates_0 9 rfl rfl)
theorem dX3_gates_10 : decode cX3_gates 10 = .ok (.iaload, 1) := dk_46 (dk_at dksX3_gates_0 10 rfl rfl)
theorem dX3_gates_11 : decode cX3_gates 11 = .ok (.ireturn, 1) := dk_172 (dk_at dksX3_gates_0 11 rfl rfl)
abbrev cX3_kindOf : ByteArray := prog_9_method_68_code
def yX3_kindOf : MethodName := ⟨RX3, "kindOf", "(I)I"⟩
def dkwX3_kindOf_1 : List UInt8 := [3, 167, 0, 11, 42, 180, 0, 7, 4, 27, 96, 46, 172]
abbrev dktX3_kindOf_1 : List UInt8 := dkwX3_kindOf_1 ++ []
def dkwX3_kindOf_0 : List UInt8 := [42, 42, 27, 182, 0, 121, 153, 0, 7, 3, 167, 0, 4, 4, 181, 0, 50, 42, 180, 0, 50, 158, 0, 7]
abbrev dktX3_kindOf_0 : List UInt8 := dkwX3_kindOf_0 ++ dktX3_kindOf_1
theorem dksX3_kindOf_0 : cX3_kindOf.data.toList.drop 0 = dktX3_kindOf_0 := by decide +kernel
theorem dksX3_kindOf_1 : cX3_kindOf.data.toList.drop 24 = dktX3_kindOf_1 := dk_seg dksX3_kindOf_0 24 rfl rfl
theorem dX3_kindOf_0 : decode cX3_kindOf 0 = .ok (.aload_n 0, 1) := dk_42 (dk_at dksX3_kindOf_0 0 rfl rfl)
theorem dX3_kindOf_1 : decode cX3_kindOf 1 = .ok (.aload_n 0, 1) := dk_42 (dk_at dksX3_kindOf_0 1 rfl rfl)
theorem dX3_kindOf_2 : decode cX3_kindOf 2 = .ok (.iload_n 1, 1) := dk_27 (dk_at dksX3_kindOf_0 2 rfl rfl)
theorem dX3_kindOf_3 : decode cX3_kindOf 3 = .ok (.invokevirtual 121, 3) := dk_182 0 121 (dk_at dksX3_kindOf_0 3 rfl rfl)
theorem dX3_kindOf_6 : decode cX3_kindOf 6 = .ok (.ifCond .eq 7, 3) := dk_153 0 7 (dk_at dksX3_kindOf_0 6 rfl rfl)
theorem dX3_kindOf_9 : decode cX3_kindOf 9 = .ok (.iconst 0, 1) := dk_3 (dk_at dksX3_kindOf_0 9 rfl rfl)
theorem dX3_kindOf_10 : decode cX3_kindOf 10 = .ok (.goto 4, 3) := dk_167 0 4 (dk_at dksX3_kindOf_0 10 rfl rfl)
theorem dX3_kindOf_13 : decode cX3_kindOf 13 = .ok (.iconst 1, 1) := dk_4 (dk_at dksX3_kindOf_0 13 rfl rfl)
theorem dX3_kindOf_14 : decode cX3_kindOf 14 = .ok (.putfield 50, 3) := dk_181 0 50 (dk_at dksX3_kindOf_0 14 rfl rfl)
theorem dX3_kindOf_17 : decode cX3_kindOf 17 = .ok (.aload_n 0, 1) := dk_42 (dk_at dksX3_kindOf_0 17 rfl rfl)
theorem dX3_kindOf_18 : decode cX3_kindOf 18 = .ok (.getfield 50, 3) := dk_180 0 50 (dk_at dksX3_kindOf_0 18 rfl rfl)
theorem dX3_kindOf_21 : decode cX3_kindOf 21 = .ok (.ifCond .le 7, 3) := dk_158 0 7 (dk_at dksX3_kindOf_0 21 rfl rfl)
theorem dX3_kindOf_24 : decode cX3_kindOf 24 = .ok (.iconst 0, 1) := dk_3 (dk_at dksX3_kindOf_1 0 rfl rfl)
theorem dX3_kindOf_25 : decode cX3_kindOf 25 = .ok (.goto 11, 3) := dk_167 0 11 (dk_at dksX3_kindOf_1 1 rfl rfl)
theorem dX3_kindOf_28 : decode cX3_kindOf 28 = .ok (.aload_n 0, 1) := dk_42 (dk_at dksX3_kindOf_1 4 rfl rfl)
theorem dX3_kindOf_29 : decode cX3_kindOf 29 = .ok (.getfield 7, 3) := dk_180 0 7 (dk_at dksX3_kindOf_1 5 rfl rfl)
theorem dX3_kindOf_32 : decode cX3_kindOf 32 = .ok (.iconst 1, 1) := dk_4 (dk_at dksX3_kindOf_1 8 rfl rfl)
theorem dX3_kindOf_33 : decode cX3_kindOf 33 = .ok (.iload_n 1, 1) := dk_27 (dk_at dksX3_kindOf_1 9 rfl rfl)
theorem dX3_kindOf_34 : decode cX3_kindOf 34 = .ok (.iadd, 1) := dk_96 (dk_at dksX3_kindOf_1 10 rfl rfl)
theorem dX3_kindOf_35 : decode cX3_kindOf 35 = .ok (.iaload, 1) := dk_46 (dk_at dksX3_kindOf_1 11 rfl rfl)
theorem dX3_kindOf_36 : decode cX3_kindOf 36 = .ok (.ireturn, 1) := dk_172 (dk_at dksX3_kindOf_1 12 rfl rfl)
abbrev cX3_sourceOf : ByteArray := prog_9_method_69_code
def yX3_sourceOf : MethodName := ⟨RX3, "sourceOf", "(II)I"⟩
def dkwX3_sourceOf_2 : List UInt8 := [154, 0, 8, 16, 13, 167, 0, 5, 16, 25, 27, 96, 46, 172]
abbrev dktX3_sourceOf_2 : List UInt8 := dkwX3_sourceOf_2 ++ []
def dkwX3_sourceOf_1 : List UInt8 := [167, 0, 4, 5, 181, 0, 50, 42, 180, 0, 50, 158, 0, 7, 3, 167, 0, 21, 42, 180, 0, 7, 28]
abbrev dktX3_sourceOf_1 : List UInt8 := dkwX3_sourceOf_1 ++ dktX3_sourceOf_2
def dkwX3_sourceOf_0 : List UInt8 := [42, 42, 27, 182, 0, 121, 154, 0, 7, 4, 167, 0, 17, 28, 3, 4, 184, 0, 58, 153, 0, 7, 3]
abbrev dktX3_sourceOf_0 : List UInt8 := dkwX3_sourceOf_0 ++ dktX3_sourceOf_1
theorem dksX3_sourceOf_0 : cX3_sourceOf.data.toList.drop 0 = dktX3_sourceOf_0 := by decide +kernel
theorem dksX3_sourceOf_1 : cX3_sourceOf.data.toList.drop 23 = dktX3_sourceOf_1 := dk_seg dksX3_sourceOf_0 23 rfl rfl
theorem dksX3_sourceOf_2 : cX3_sourceOf.data.toList.drop 46 = dktX3_sourceOf_2 := dk_seg dksX3_sourceOf_1 23 rfl rfl
theorem dX3_sourceOf_0 : decode cX3_sourceOf 0 = .ok (.aload_n 0, 1) := dk_42 (dk_at dksX3_sourceOf_0 0 rfl rfl)
theorem dX3_sourceOf_1 : decode cX3_sourceOf 1 = .ok (.aload_n 0, 1) := dk_42 (dk_at dksX3_sourceOf_0 1 rfl rfl)
theorem dX3_sourceOf_2 : decode cX3_sourceOf 2 = .ok (.iload_n 1, 1) := dk_27 (dk_at dksX3_sourceOf_0 2 rfl rfl)
theorem dX3_sourceOf_3 : decode cX3_sourceOf 3 = .ok (.invokevirtual 121, 3) := dk_182 0 121 (dk_at dksX3_sourceOf_0 3 rfl rfl)
theorem dX3_sourceOf_6 : decode cX3_sourceOf 6 = .ok (.ifCond .ne 7, 3) := dk_154 0 7 (dk_at dksX3_sourceOf_0 6 rfl rfl)
theorem dX3_sourceOf_9 : decode cX3_sourceOf 9 = .ok (.iconst 1, 1) := dk_4 (dk_at dksX3_sourceOf_0 9 rfl rfl)
theorem dX3_sourceOf_10 : decode cX3_sourceOf 10 = .ok (.goto 17, 3) := dk_167 0 17 (dk_at dksX3_sourceOf_0 10 rfl rfl)
theorem dX3_sourceOf_13 : decode cX3_sourceOf 13 = .ok (.iload_n 2, 1) := dk_28 (dk_at dksX3_sourceOf_0 13 rfl rfl)
theorem dX3_sourceOf_14 : decode cX3_sourceOf 14 = .ok (.iconst 0, 1) := dk_3 (dk_at dksX3_sourceOf_0 14 rfl rfl)
theorem dX3_sourceOf_15 : decode cX3_sourceOf 15 = .ok (.iconst 1, 1) := dk_4 (dk_at dksX3_sourceOf_0 15 rfl rfl)
theorem dX3_sourceOf_16 : decode cX3_sourceOf 16 = .ok (.invokestatic 58, 3) := dk_184 0 58 (dk_at dksX3_sourceOf_0 16 rfl rfl)
theorem dX3_sourceOf_19 : decode cX3_sourceOf 19 = .ok (.ifCond .eq 7, 3) := dk_153 0 7 (dk_at dksX3_sourceOf_0 19 rfl rfl)
theorem dX3_sourceOf_22 : decode cX3_sourceOf 22 = .ok (.iconst 0, 1) := dk_3 (dk_at dksX3_sourceOf_0 22 rfl rfl)
theorem dX3_sourceOf_23 : decode cX3_sourceOf 23 = .ok (.goto 4, 3) := dk_167 0 4 (dk_at dksX3_sourceOf_1 0 rfl rfl)
theorem dX3_sourceOf_26 : decode cX3_sourceOf 26 = .ok (.iconst 2, 1) := dk_5 (dk_at dksX3_sourceOf_1 3 rfl rfl)
theorem dX3_sourceOf_27 : decode cX3_sourceOf 27 = .ok (.putfield 50, 3) := dk_181 0 50 (dk_at dksX3_sourceOf_1 4 rfl rfl)
theorem dX3_sourceOf_30 : decode cX3_sourceOf 30 = .ok (.aload_n 0, 1) := dk_42 (dk_at dksX3_sourceOf_1 7 rfl rfl)
theorem dX3_sourceOf_31 : decode cX3_sourceOf 31 = .ok (.getfield 50, 3) := dk_180 0 50 (dk_at dksX3_sourceOf_1 8 rfl rfl)
theorem dX3_sourceOf_34 : decode cX3_sourceOf 34 = .ok (.ifCond .le 7, 3) := dk_158 0 7 (dk_at dksX3_sourceOf_1 11 rfl rfl)
theorem dX3_sourceOf_37 : decode cX3_sourceOf 37 = .ok (.iconst 0, 1) := dk_3 (dk_at dksX3_sourceOf_1 14 rfl rfl)
theorem dX3_sourceOf_38 : decode cX3_sourceOf 38 = .ok (.goto 21, 3) := dk_167 0 21 (dk_at dksX3_sourceOf_1 15 rfl rfl)
theorem dX3_sourceOf_41 : decode cX3_sourceOf 41 = .ok (.aload_n 0, 1) := dk_42 (dk_at dksX3_sourceOf_1 18 rfl rfl)
theorem dX3_sourceOf_42 : decode cX3_sourceOf 42 = .ok (.getfield 7, 3) := dk_180 0 7 (dk_at dksX3_sourceOf_1 19 rfl rfl)
theorem dX3_sourceOf_45 : decode cX3_sourceOf 45 = .ok (.iload_n 2, 1) := dk_28 (dk_at dksX3_sourceOf_1 22 rfl rfl)
theorem dX3_sourceOf_46 : decode cX3_sourceOf 46 = .ok (.ifCond .ne 8, 3) := dk_154 0 8 (dk_at dksX3_sourceOf_2 0 rfl rfl)
theorem dX3_sourceOf_49 : decode cX3_sourceOf 49 = .ok (.bipush 13, 2) := dk_16 13 (dk_at dksX3_sourceOf_2 3 rfl rfl)
theorem dX3_sourceOf_51 : decode cX3_sourceOf 51 = .ok (.goto 5, 3) := dk_167 0 5 (dk_at dksX3_sourceOf_2 5 rfl rfl)
theorem dX3_sourceOf_54 : decode cX3_sourceOf 54 = .ok (.bipush 25, 2) := dk_16 25 (dk_at dksX3_sourceOf_2 8 rfl rfl)
theorem dX3_sourceOf_56 : decode cX3_sourceOf 56 = .ok (.iload_n 1, 1) := dk_27 (dk_at dksX3_sourceOf_2 10 rfl rfl)
theorem dX3_sourceOf_57 : decode cX3_sourceOf 57 = .ok (.iadd, 1) := dk_96 (dk_at dksX3_sourceOf_2 11 rfl rfl)
theorem dX3_sourceOf_58 : decode cX3_sourceOf 58 = .ok (.iaload, 1) := dk_46 (dk_at dksX3_sourceOf_2 12 rfl rfl)
theorem dX3_sourceOf_59 : decode cX3_sourceOf 59 = .ok (.ireturn, 1) := dk_172 (dk_at dksX3_sourceOf_2 13 rfl rfl)
abbrev cX3_outputs : ByteArray := prog_9_method_70_code
def yX3_outputs : MethodName := ⟨RX3, "outputs", "()I"⟩
def dkwX3_outputs_0 : List UInt8 := [42, 3, 181, 0, 50, 42, 180, 0, 7, 16, 37, 46, 172]
abbrev dktX3_outputs_0 : List UInt8 := dkwX3_outputs_0 ++ []
theorem dksX3_outputs_0 : cX3_outputs.data.toList.drop 0 = dktX3_outputs_0 := by decide +kernel
theorem dX3_outputs_0 : decode cX3_outputs 0 = .ok (.aload_n 0, 1) := dk_42 (dk_at dksX3_outputs_0 0 rfl rfl)
theorem dX3_outputs_1 : decode cX3_outputs 1 = .ok (.iconst 0, 1) := dk_3 (dk_at dksX3_outputs_0 1 rfl rfl)
theorem dX3_outputs_2 : decode cX3_outputs 2 = .ok (.putfield 50, 3) := dk_181 0 50 (dk_at dksX3_outputs_0 2 rfl rfl)
theorem dX3_outputs_5 : decode cX3_outputs 5 = .ok (.aload_n 0, 1) := dk_42 (dk_at dksX3_outputs_0 5 rfl rfl)
theorem dX3_outputs_6 : decode cX3_outputs 6 = .ok (.getfield 7, 3) := dk_180 0 7 (dk_at dksX3_outputs_0 6 rfl rfl)
theorem dX3_outputs_9 : decode cX3_outputs 9 = .ok (.bipush 37, 2) := dk_16 37 (dk_at dksX3_outputs_0 9 rfl rfl)
theorem dX3_outputs_11 : decode cX3_outputs 11 = .ok (.iaload, 1) := dk_46 (dk_at dksX3_outputs_0 11 rfl rfl)
theorem dX3_outputs_12 : decode cX3_outputs 12 = .ok (.ireturn, 1) := dk_172 (dk_at dksX3_outputs_0 12 rfl rfl)
abbrev cX3_boxes : ByteArray := prog_9_method_71_code
def yX3_boxes : MethodName := ⟨RX3, "boxes", "()I"⟩
def dkwX3_boxes_0 : List UInt8 := [42, 3, 181, 0, 50, 42, 180, 0, 7, 16, 38, 46, 172]
abbrev dktX3_boxes_0 : List UInt8 := dkwX3_boxes_0 ++ []
theorem dksX3_boxes_0 : cX3_boxes.data.toList.drop 0 = dktX3_boxes_0 := by decide +kernel
theorem dX3_boxes_0 : decode cX3_boxes 0 = .ok (.aload_n 0, 1) := dk_42 (dk_at dksX3_boxes_0 0 rfl rfl)
theorem dX3_boxes_1 : decode cX3_boxes 1 = .ok (.iconst 0, 1) := dk_3 (dk_at dksX3_boxes_0 1 rfl rfl)
theorem dX3_boxes_2 : decode cX3_boxes 2 = .ok (.putfield 50, 3) := dk_181 0 50 (dk_at dksX3_boxes_0 2 rfl rfl)
theorem dX3_boxes_5 : decode cX3_boxes 5 = .ok (.aload_n 0, 1) := dk_42 (dk_at dksX3_boxes_0 5 rfl rfl)
theorem dX3_boxes_6 : decode cX3_boxes 6 = .ok (.getfield 7, 3) := dk_180 0 7 (dk_at dksX3_boxes_0 6 rfl rfl)
theorem dX3_boxes_9 : decode cX3_boxes 9 = .ok (.bipush 38, 2) := dk_16 38 (dk_at dksX3_boxes_0 9 rfl rfl)
theorem dX3_boxes_11 : decode cX3_boxes 11 = .ok (.iaload, 1) := dk_46 (dk_at dksX3_boxes_0 11 rfl rfl)
theorem dX3_boxes_12 : decode cX3_boxes 12 = .ok (.ireturn, 1) := dk_172 (dk_at dksX3_boxes_0 12 rfl rfl)
abbrev cX3_valueOf : ByteArray := prog_9_method_72_code
def yX3_valueOf : MethodName := ⟨RX3, "valueOf", "(II)I"⟩
def dkwX3_valueOf_2 : List UInt8 := [180, 0, 22, 27, 47, 28, 125, 10, 127, 136, 172]
abbrev dktX3_valueOf_2 : List UInt8 := dkwX3_valueOf_2 ++ []
def dkwX3_valueOf_1 : List UInt8 := [167, 0, 4, 5, 181, 0, 50, 42, 180, 0, 50, 158, 0, 5, 3, 172, 42, 2, 2, 182, 0, 93, 42]
abbrev dktX3_valueOf_1 : List UInt8 := dkwX3_valueOf_1 ++ dktX3_valueOf_2
def dkwX3_valueOf_0 : List UInt8 := [42, 42, 27, 182, 0, 107, 154, 0, 7, 4, 167, 0, 18, 28, 3, 16, 63, 184, 0, 58, 153, 0, 7, 3]
abbrev dktX3_valueOf_0 : List UInt8 := dkwX3_valueOf_0 ++ dktX3_valueOf_1
theorem dksX3_valueOf_0 : cX3_valueOf.data.toList.drop 0 = dktX3_valueOf_0 := by decide +kernel
theorem dksX3_valueOf_1 : cX3_valueOf.data.toList.drop 24 = dktX3_valueOf_1 := dk_seg dksX3_valueOf_0 24 rfl rfl
theorem dksX3_valueOf_2 : cX3_valueOf.data.toList.drop 47 = dktX3_valueOf_2 := dk_seg dksX3_valueOf_1 23 rfl rfl
theorem dX3_valueOf_0 : decode cX3_valueOf 0 = .ok (.aload_n 0, 1) := dk_42 (dk_at dksX3_valueOf_0 0 rfl rfl)
theorem dX3_valueOf_1 : decode cX3_valueOf 1 = .ok (.aload_n 0, 1) := dk_42 (dk_at dksX3_valueOf_0 1 rfl rfl)
theorem dX3_valueOf_2 : decode cX3_valueOf 2 = .ok (.iload_n 1, 1) := dk_27 (dk_at dksX3_valueOf_0 2 rfl rfl)
theorem dX3_valueOf_3 : decode cX3_valueOf 3 = .ok (.invokevirtual 107, 3) := dk_182 0 107 (dk_at dksX3_valueOf_0 3 rfl rfl)
theorem dX3_valueOf_6 : decode cX3_valueOf 6 = .ok (.ifCond .ne 7, 3) := dk_154 0 7 (dk_at dksX3_valueOf_0 6 rfl rfl)
theorem dX3_valueOf_9 : decode cX3_valueOf 9 = .ok (.iconst 1, 1) := dk_4 (dk_at dksX3_valueOf_0 9 rfl rfl)
theorem dX3_valueOf_10 : decode cX3_valueOf 10 = .ok (.goto 18, 3) := dk_167 0 18 (dk_at dksX3_valueOf_0 10 rfl rfl)
theorem dX3_valueOf_13 : decode cX3_valueOf 13 = .ok (.iload_n 2, 1) := dk_28 (dk_at dksX3_valueOf_0 13 rfl rfl)
theorem dX3_valueOf_14 : decode cX3_valueOf 14 = .ok (.iconst 0, 1) := dk_3 (dk_at dksX3_valueOf_0 14 rfl rfl)
theorem dX3_valueOf_15 : decode cX3_valueOf 15 = .ok (.bipush 63, 2) := dk_16 63 (dk_at dksX3_valueOf_0 15 rfl rfl)
theorem dX3_valueOf_17 : decode cX3_valueOf 17 = .ok (.invokestatic 58, 3) := dk_184 0 58 (dk_at dksX3_valueOf_0 17 rfl rfl)
theorem dX3_valueOf_20 : decode cX3_valueOf 20 = .ok (.ifCond .eq 7, 3) := dk_153 0 7 (dk_at dksX3_valueOf_0 20 rfl rfl)
theorem dX3_valueOf_23 : decode cX3_valueOf 23 = .ok (.iconst 0, 1) := dk_3 (dk_at dksX3_valueOf_0 23 rfl rfl)
theorem dX3_valueOf_24 : decode cX3_valueOf 24 = .ok (.goto 4, 3) := dk_167 0 4 (dk_at dksX3_valueOf_1 0 rfl rfl)
theorem dX3_valueOf_27 : decode cX3_valueOf 27 = .ok (.iconst 2, 1) := dk_5 (dk_at dksX3_valueOf_1 3 rfl rfl)
theorem dX3_valueOf_28 : decode cX3_valueOf 28 = .ok (.putfield 50, 3) := dk_181 0 50 (dk_at dksX3_valueOf_1 4 rfl rfl)
theorem dX3_valueOf_31 : decode cX3_valueOf 31 = .ok (.aload_n 0, 1) := dk_42 (dk_at dksX3_valueOf_1 7 rfl rfl)
theorem dX3_valueOf_32 : decode cX3_valueOf 32 = .ok (.getfield 50, 3) := dk_180 0 50 (dk_at dksX3_valueOf_1 8 rfl rfl)
theorem dX3_valueOf_35 : decode cX3_valueOf 35 = .ok (.ifCond .le 5, 3) := dk_158 0 5 (dk_at dksX3_valueOf_1 11 rfl rfl)
theorem dX3_valueOf_38 : decode cX3_valueOf 38 = .ok (.iconst 0, 1) := dk_3 (dk_at dksX3_valueOf_1 14 rfl rfl)
theorem dX3_valueOf_39 : decode cX3_valueOf 39 = .ok (.ireturn, 1) := dk_172 (dk_at dksX3_valueOf_1 15 rfl rfl)
theorem dX3_valueOf_40 : decode cX3_valueOf 40 = .ok (.aload_n 0, 1) := dk_42 (dk_at dksX3_valueOf_1 16 rfl rfl)
theorem dX3_valueOf_41 : decode cX3_valueOf 41 = .ok (.iconst (-1), 1) := dk_2 (dk_at dksX3_valueOf_1 17 rfl rfl)
theorem dX3_valueOf_42 : decode cX3_valueOf 42 = .ok (.iconst (-1), 1) := dk_2 (dk_at dksX3_valueOf_1 18 rfl rfl)
theorem dX3_valueOf_43 : decode cX3_valueOf 43 = .ok (.invokevirtual 93, 3) := dk_182 0 93 (dk_at dksX3_valueOf_1 19 rfl rfl)
theorem dX3_valueOf_46 : decode cX3_valueOf 46 = .ok (.aload_n 0, 1) := dk_42 (dk_at dksX3_valueOf_1 22 rfl rfl)
theorem dX3_valueOf_47 : decode cX3_valueOf 47 = .ok (.getfield 22, 3) := dk_180 0 22 (dk_at dksX3_valueOf_2 0 rfl rfl)
theorem dX3_valueOf_50 : decode cX3_valueOf 50 = .ok (.iload_n 1, 1) := dk_27 (dk_at dksX3_valueOf_2 3 rfl rfl)
theorem dX3_valueOf_51 : decode cX3_valueOf 51 = .ok (.laload, 1) := dk_47 (dk_at dksX3_valueOf_2 4 rfl rfl)
theorem dX3_valueOf_52 : decode cX3_valueOf 52 = .ok (.iload_n 2, 1) := dk_28 (dk_at dksX3_valueOf_2 5 rfl rfl)
theorem dX3_valueOf_53 : decode cX3_valueOf 53 = .ok (.lushr, 1) := dk_125 (dk_at dksX3_valueOf_2 6 rfl rfl)
theorem dX3_valueOf_54 : decode cX3_valueOf 54 = .ok (.lconst 1, 1) := dk_10 (dk_at dksX3_valueOf_2 7 rfl rfl)
theorem dX3_valueOf_55 : decode cX3_valueOf 55 = .ok (.land, 1) := dk_127 (dk_at dksX3_valueOf_2 8 rfl rfl)
theorem dX3_valueOf_56 : decode cX3_valueOf 56 = .ok (.l2i, 1) := dk_136 (dk_at dksX3_valueOf_2 9 rfl rfl)
theorem dX3_valueOf_57 : decode cX3_valueOf 57 = .ok (.ireturn, 1) := dk_172 (dk_at dksX3_valueOf_2 10 rfl rfl)
abbrev cX3_tableOf : ByteArray := prog_9_method_73_code
def yX3_tableOf : MethodName := ⟨RX3, "tableOf", "(IZ)J"⟩
def dkwX3_tableOf_1 : List UInt8 := [9, 173, 42, 2, 2, 182, 0, 93, 42, 180, 0, 22, 27, 47, 173]
abbrev dktX3_tableOf_1 : List UInt8 := dkwX3_tableOf_1 ++ []
def dkwX3_tableOf_0 : List UInt8 := [42, 42, 27, 182, 0, 107, 153, 0, 7, 3, 167, 0, 4, 4, 181, 0, 50, 42, 180, 0, 50, 158, 0, 5]
abbrev dktX3_tableOf_0 : List UInt8 := dkwX3_tableOf_0 ++ dktX3_tableOf_1
theorem dksX3_tableOf_0 : cX3_tableOf.data.toList.drop 0 = dktX3_tableOf_0 := by decide +kernel
theorem dksX3_tableOf_1 : cX3_tableOf.data.toList.drop 24 = dktX3_tableOf_1 := dk_seg dksX3_tableOf_0 24 rfl rfl
theorem dX3_tableOf_0 : decode cX3_tableOf 0 = .ok (.aload_n 0, 1) := dk_42 (dk_at dksX3_tableOf_0 0 rfl rfl)
theorem dX3_tableOf_1 : decode cX3_tableOf 1 = .ok (.aload_n 0, 1) := dk_42 (dk_at dksX3_tableOf_0 1 rfl rfl)
theorem dX3_tableOf_2 : decode cX3_tableOf 2 = .ok (.iload_n 1, 1) := dk_27 (dk_at dksX3_tableOf_0 2 rfl rfl)
theorem dX3_tableOf_3 : decode cX3_tableOf 3 = .ok (.invokevirtual 107, 3) := dk_182 0 107 (dk_at dksX3_tableOf_0 3 rfl rfl)
theorem dX3_tableOf_6 : decode cX3_tableOf 6 = .ok (.ifCond .eq 7, 3) := dk_153 0 7 (dk_at dksX3_tableOf_0 6 rfl rfl)
theorem dX3_tableOf_9 : decode cX3_tableOf 9 = .ok (.iconst 0, 1) := dk_3 (dk_at dksX3_tableOf_0 9 rfl rfl)
theorem dX3_tableOf_10 : decode cX3_tableOf 10 = .ok (.goto 4, 3) := dk_167 0 4 (dk_at dksX3_tableOf_0 10 rfl rfl)
theorem dX3_tableOf_13 : decode cX3_tableOf 13 = .ok (.iconst 1, 1) := dk_4 (dk_at dksX3_tableOf_0 13 rfl rfl)
theorem dX3_tableOf_14 : decode cX3_tableOf 14 = .ok (.putfield 50, 3) := dk_181 0 50 (dk_at dksX3_tableOf_0 14 rfl rfl)
theorem dX3_tableOf_17 : decode cX3_tableOf 17 = .ok (.aload_n 0, 1) := dk_42 (dk_at dksX3_tableOf_0 17 rfl rfl)
theorem dX3_tableOf_18 : decode cX3_tableOf 18 = .ok (.getfield 50, 3) := dk_180 0 50 (dk_at dksX3_tableOf_0 18 rfl rfl)
theorem dX3_tableOf_21 : decode cX3_tableOf 21 = .ok (.ifCond .le 5, 3) := dk_158 0 5 (dk_at dksX3_tableOf_0 21 rfl rfl)
theorem dX3_tableOf_24 : decode cX3_tableOf 24 = .ok (.lconst 0, 1) := dk_9 (dk_at dksX3_tableOf_1 0 rfl rfl)
theorem dX3_tableOf_25 : decode cX3_tableOf 25 = .ok (.lreturn, 1) := dk_173 (dk_at dksX3_tableOf_1 1 rfl rfl)
theorem dX3_tableOf_26 : decode cX3_tableOf 26 = .ok (.aload_n 0, 1) := dk_42 (dk_at dksX3_tableOf_1 2 rfl rfl)
theorem dX3_tableOf_27 : decode cX3_tableOf 27 = .ok (.iconst (-1), 1) := dk_2 (dk_at dksX3_tableOf_1 3 rfl rfl)
theorem dX3_tableOf_28 : decode cX3_tableOf 28 = .ok (.iconst (-1), 1) := dk_2 (dk_at dksX3_tableOf_1 4 rfl rfl)
theorem dX3_tableOf_29 : decode cX3_tableOf 29 = .ok (.invokevirtual 93, 3) := dk_182 0 93 (dk_at dksX3_tableOf_1 5 rfl rfl)
theorem dX3_tableOf_32 : decode cX3_tableOf 32 = .ok (.aload_n 0, 1) := dk_42 (dk_at dksX3_tableOf_1 8 rfl rfl)
theorem dX3_tableOf_33 : decode cX3_tableOf 33 = .ok (.getfield 22, 3) := dk_180 0 22 (dk_at dksX3_tableOf_1 9 rfl rfl)
theorem dX3_tableOf_36 : decode cX3_tableOf 36 = .ok (.iload_n 1, 1) := dk_27 (dk_at dksX3_tableOf_1 12 rfl rfl)
theorem dX3_tableOf_37 : decode cX3_tableOf 37 = .ok (.laload, 1) := dk_47 (dk_at dksX3_tableOf_1 13 rfl rfl)
theorem dX3_tableOf_38 : decode cX3_tableOf 38 = .ok (.lreturn, 1) := dk_173 (dk_at dksX3_tableOf_1 14 rfl rfl)
abbrev cX3_answerTo : ByteArray := prog_9_method_74_code
def yX3_answerTo : MethodName := ⟨RX3, "answerTo", "(I)I"⟩
def dkwX3_answerTo_1 : List UInt8 := [158, 0, 5, 3, 172, 42, 2, 2, 182, 0, 93, 42, 27, 182, 0, 141, 172]
abbrev dktX3_answerTo_1 : List UInt8 := dkwX3_answerTo_1 ++ []
def dkwX3_answerTo_0 : List UInt8 := [42, 27, 3, 16, 63, 184, 0, 58, 153, 0, 7, 3, 167, 0, 4, 4, 181, 0, 50, 42, 180, 0, 50]
abbrev dktX3_answerTo_0 : List UInt8 := dkwX3_answerTo_0 ++ dktX3_answerTo_1
theorem dksX3_answerTo_0 : cX3_answerTo.data.toList.drop 0 = dktX3_answerTo_0 := by decide +kernel
theorem dksX3_answerTo_1 : cX3_answerTo.data.toList.drop 23 = dktX3_answerTo_1 := dk_seg dksX3_answerTo_0 23 rfl rfl
theorem dX3_answerTo_0 : decode cX3_answerTo 0 = .ok (.aload_n 0, 1) := dk_42 (dk_at dksX3_answerTo_0 0 rfl rfl)
theorem dX3_answerTo_1 : decode cX3_answerTo 1 = .ok (.iload_n 1, 1) := dk_27 (dk_at dksX3_answerTo_0 1 rfl rfl)
theorem dX3_answerTo_2 : decode cX3_answerTo 2 = .ok (.iconst 0, 1) := dk_3 (dk_at dksX3_answerTo_0 2 rfl rfl)
theorem dX3_answerTo_3 : decode cX3_answerTo 3 = .ok (.bipush 63, 2) := dk_16 63 (dk_at dksX3_answerTo_0 3 rfl rfl)
theorem dX3_answerTo_5 : decode cX3_answerTo 5 = .ok (.invokestatic 58, 3) := dk_184 0 58 (dk_at dksX3_answerTo_0 5 rfl rfl)
theorem dX3_answerTo_8 : decode cX3_answerTo 8 = .ok (.ifCond .eq 7, 3) := dk_153 0 7 (dk_at dksX3_answerTo_0 8 rfl rfl)
theorem dX3_answerTo_11 : decode cX3_answerTo 11 = .ok (.iconst 0, 1) := dk_3 (dk_at dksX3_answerTo_0 11 rfl rfl)
theorem dX3_answerTo_12 : decode cX3_answerTo 12 = .ok (.goto 4, 3) := dk_167 0 4 (dk_at dksX3_answerTo_0 12 rfl rfl)
theorem dX3_answerTo_15 : decode cX3_answerTo 15 = .ok (.iconst 1, 1) := dk_4 (dk_at dksX3_answerTo_0 15 rfl rfl)
theorem dX3_answerTo_16 : decode cX3_answerTo 16 = .ok (.putfield 50, 3) := dk_181 0 50 (dk_at dksX3_answerTo_0 16 rfl rfl)
theorem dX3_answerTo_19 : decode cX3_answerTo 19 = .ok (.aload_n 0, 1) := dk_42 (dk_at dksX3_answerTo_0 19 rfl rfl)
theorem dX3_answerTo_20 : decode cX3_answerTo 20 = .ok (.getfield 50, 3) := dk_180 0 50 (dk_at dksX3_answerTo_0 20 rfl rfl)
theorem dX3_answerTo_23 : decode cX3_answerTo 23 = .ok (.ifCond .le 5, 3) := dk_158 0 5 (dk_at dksX3_answerTo_1 0 rfl rfl)
theorem dX3_answerTo_26 : decode cX3_answerTo 26 = .ok (.iconst 0, 1) := dk_3 (dk_at dksX3_answerTo_1 3 rfl rfl)
theorem dX3_answerTo_27 : decode cX3_answerTo 27 = .ok (.ireturn, 1) := dk_172 (dk_at dksX3_answerTo_1 4 rfl rfl)
theorem dX3_answerTo_28 : decode cX3_answerTo 28 = .ok (.aload_n 0, 1) := dk_42 (dk_at dksX3_answerTo_1 5 rfl rfl)
theorem dX3_answerTo_29 : decode cX3_answerTo 29 = .ok (.iconst (-1), 1) := dk_2 (dk_at dksX3_answerTo_1 6 rfl rfl)
theorem dX3_answerTo_30 : decode cX3_answerTo 30 = .ok (.iconst (-1), 1) := dk_2 (dk_at dksX3_answerTo_1 7 rfl rfl)
theorem dX3_answerTo_31 : decode cX3_answerTo 31 = .ok (.invokevirtual 93, 3) := dk_182 0 93 (dk_at dksX3_answerTo_1 8 rfl rfl)
theorem dX3_answerTo_34 : decode cX3_answerTo 34 = .ok (.aload_n 0, 1) := dk_42 (dk_at dksX3_answerTo_1 11 rfl rfl)
theorem dX3_answerTo_35 : decode cX3_answerTo 35 = .ok (.iload_n 1, 1) := dk_27 (dk_at dksX3_answerTo_1 12 rfl rfl)
theorem dX3_answerTo_36 : decode cX3_answerTo 36 = .ok (.invokevirtual 141, 3) := dk_182 0 141 (dk_at dksX3_answerTo_1 13 rfl rfl)
theorem dX3_answerTo_39 : decode cX3_answerTo 39 = .ok (.ireturn, 1) := dk_172 (dk_at dksX3_answerTo_1 16 rfl rfl)
abbrev cX3_inputsOf : ByteArray := prog_9_method_75_code
def yX3_inputsOf : MethodName := ⟨RX3, "inputsOf", "(IZ)I"⟩
def dkwX3_inputsOf_8 : List UInt8 := [132, 4, 255, 167, 255, 195, 29, 16, 63, 126, 172]
abbrev dktX3_inputsOf_8 : List UInt8 := dkwX3_inputsOf_8 ++ []
def dkwX3_inputsOf_7 : List UInt8 := [182, 0, 97, 153, 0, 10, 4, 21, 5, 120, 167, 0, 4, 3, 128, 62, 132, 5, 1, 167, 255, 209]
abbrev dktX3_inputsOf_7 : List UInt8 := dkwX3_inputsOf_7 ++ dktX3_inputsOf_8
def dkwX3_inputsOf_6 : List UInt8 := [96, 162, 0, 43, 29, 29, 16, 6, 21, 4, 96, 184, 0, 82, 153, 0, 21, 42, 21, 4, 21, 5]
abbrev dktX3_inputsOf_6 : List UInt8 := dkwX3_inputsOf_6 ++ dktX3_inputsOf_7
def dkwX3_inputsOf_5 : List UInt8 := [42, 180, 0, 7, 3, 46, 4, 100, 54, 4, 21, 4, 155, 0, 62, 3, 54, 5, 21, 5, 16, 6, 21, 4]
abbrev dktX3_inputsOf_5 : List UInt8 := dkwX3_inputsOf_5 ++ dktX3_inputsOf_6
def dkwX3_inputsOf_4 : List UInt8 := [167, 0, 4, 3, 128, 62, 132, 5, 1, 167, 255, 204, 132, 4, 1, 167, 255, 188, 29, 172, 4, 27, 120, 62]
abbrev dktX3_inputsOf_4 : List UInt8 := dkwX3_inputsOf_4 ++ dktX3_inputsOf_5
def dkwX3_inputsOf_3 : List UInt8 := [180, 0, 22, 27, 47, 21, 4, 4, 21, 5, 120, 130, 125, 10, 127, 148, 153, 0, 10, 4, 21, 5, 120]
abbrev dktX3_inputsOf_3 : List UInt8 := dkwX3_inputsOf_3 ++ dktX3_inputsOf_4
def dkwX3_inputsOf_2 : List UInt8 := [3, 54, 5, 21, 5, 16, 6, 162, 0, 51, 29, 42, 180, 0, 22, 27, 47, 21, 4, 125, 10, 127, 42]
abbrev dktX3_inputsOf_2 : List UInt8 := dkwX3_inputsOf_2 ++ dktX3_inputsOf_3
def dkwX3_inputsOf_1 : List UInt8 := [3, 172, 3, 62, 28, 153, 0, 85, 42, 2, 2, 182, 0, 93, 3, 54, 4, 21, 4, 16, 64, 162, 0, 67]
abbrev dktX3_inputsOf_1 : List UInt8 := dkwX3_inputsOf_1 ++ dktX3_inputsOf_2
def dkwX3_inputsOf_0 : List UInt8 := [42, 42, 27, 182, 0, 107, 153, 0, 7, 3, 167, 0, 4, 4, 181, 0, 50, 42, 180, 0, 50, 158, 0, 5]
abbrev dktX3_inputsOf_0 : List UInt8 := dkwX3_inputsOf_0 ++ dktX3_inputsOf_1
theorem dksX3_inputsOf_0 : cX3_inputsOf.data.toList.drop 0 = dktX3_inputsOf_0 := by decide +kernel
theorem dksX3_inputsOf_1 : cX3_inputsOf.data.toList.drop 24 = dktX3_inputsOf_1 := dk_seg dksX3_inputsOf_0 24 rfl rfl
theorem dksX3_inputsOf_2 : cX3_inputsOf.data.toList.drop 48 = dktX3_inputsOf_2 := dk_seg dksX3_inputsOf_1 24 rfl rfl
theorem dksX3_inputsOf_3 : cX3_inputsOf.data.toList.drop 71 = dktX3_inputsOf_3 := dk_seg dksX3_inputsOf_2 23 rfl rfl
theorem dksX3_inputsOf_4 : cX3_inputsOf.data.toList.drop 94 = dktX3_inputsOf_4 := dk_seg dksX3_inputsOf_3 23 rfl rfl
theorem dksX3_inputsOf_5 : cX3_inputsOf.data.toList.drop 118 = dktX3_inputsOf_5 := dk_seg dksX3_inputsOf_4 24 rfl rfl
theorem dksX3_inputsOf_6 : cX3_inputsOf.data.toList.drop 142 = dktX3_inputsOf_6 := dk_seg dksX3_inputsOf_5 24 rfl rfl
theorem dksX3_inputsOf_7 : cX3_inputsOf.data.toList.drop 164 = dktX3_inputsOf_7 := dk_seg dksX3_inputsOf_6 22 rfl rfl
theorem dksX3_inputsOf_8 : cX3_inputsOf.data.toList.drop 186 = dktX3_inputsOf_8 := dk_seg dksX3_inputsOf_7 22 rfl rfl
theorem dX3_inputsOf_0 : decode cX3_inputsOf 0 = .ok (.aload_n 0, 1) := dk_42 (dk_at dksX3_inputsOf_0 0 rfl rfl)
theorem dX3_inputsOf_1 : decode cX3_inputsOf 1 = .ok (.aload_n 0, 1) := dk_42 (dk_at dksX3_inputsOf_0 1 rfl rfl)
theorem dX3_inputsOf_2 : decode cX3_inputsOf 2 = .ok (.iload_n 1, 1) := dk_27 (dk_at dksX3_inputsOf_0 2 rfl rfl)
theorem dX3_inputsOf_3 : decode cX3_inputsOf 3 = .ok (.invokevirtual 107, 3) := dk_182 0 107 (dk_at dksX3_inputsOf_0 3 rfl rfl)
theorem dX3_inputsOf_6 : decode cX3_inputsOf 6 = .ok (.ifCond .eq 7, 3) := dk_153 0 7 (dk_at dksX3_inputsOf_0 6 rfl rfl)
theorem dX3_inputsOf_9 : decode cX3_inputsOf 9 = .ok (.iconst 0, 1) := dk_3 (dk_at dksX3_inputsOf_0 9 rfl rfl)
theorem dX3_inputsOf_10 : decode cX3_inputsOf 10 = .ok (.goto 4, 3) := dk_167 0 4 (dk_at dksX3_inputsOf_0 10 rfl rfl)
theorem dX3_inputsOf_13 : decode cX3_inputsOf 13 = .ok (.iconst 1, 1) := dk_4 (dk_at dksX3_inputsOf_0 13 rfl rfl)
theorem dX3_inputsOf_14 : decode cX3_inputsOf 14 = .ok (.putfield 50, 3) := dk_181 0 50 (dk_at dksX3_inputsOf_0 14 rfl rfl)
theorem dX3_inputsOf_17 : decode cX3_inputsOf 17 = .ok (.aload_n 0, 1) := dk_42 (dk_at dksX3_inputsOf_0 17 rfl rfl)
theorem dX3_inputsOf_18 : decode cX3_inputsOf 18 = .ok (.getfield 50, 3) := dk_180 0 50 (dk_at dksX3_inputsOf_0 18 rfl rfl)
theorem dX3_inputsOf_21 : decode cX3_inputsOf 21 = .ok (.ifCond .le 5, 3) := dk_158 0 5 (dk_at dksX3_inputsOf_0 21 rfl rfl)
theorem dX3_inputsOf_24 : decode cX3_inputsOf 24 = .ok (.iconst 0, 1) := dk_3 (dk_at dksX3_inputsOf_1 0 rfl rfl)
theorem dX3_inputsOf_25 : decode cX3_inputsOf 25 = .ok (.ireturn, 1) := dk_172 (dk_at dksX3_inputsOf_1 1 rfl rfl)
theorem dX3_inputsOf_26 : decode cX3_inputsOf 26 = .ok (.iconst 0, 1) := dk_3 (dk_at dksX3_inputsOf_1 2 rfl rfl)
theorem dX3_inputsOf_27 : decode cX3_inputsOf 27 = .ok (.istore_n 3, 1) := dk_62 (dk_at dksX3_inputsOf_1 3 rfl rfl)
theorem dX3_inputsOf_28 : decode cX3_inputsOf 28 = .ok (.iload_n 2, 1) := dk_28 (dk_at dksX3_inputsOf_1 4 rfl rfl)
theorem dX3_inputsOf_29 : decode cX3_inputsOf 29 = .ok (.ifCond .eq 85, 3) := dk_153 0 85 (dk_at dksX3_inputsOf_1 5 rfl rfl)
theorem dX3_inputsOf_32 : decode cX3_inputsOf 32 = .ok (.aload_n 0, 1) := dk_42 (dk_at dksX3_inputsOf_1 8 rfl rfl)
theorem dX3_inputsOf_33 : decode cX3_inputsOf 33 = .ok (.iconst (-1), 1) := dk_2 (dk_at dksX3_inputsOf_1 9 rfl rfl)
theorem dX3_inputsOf_34 : decode cX3_inputsOf 34 = .ok (.iconst (-1), 1) := dk_2 (dk_at dksX3_inputsOf_1 10 rfl rfl)
theorem dX3_inputsOf_35 : decode cX3_inputsOf 35 = .ok (.invokevirtual 93, 3) := dk_182 0 93 (dk_at dksX3_inputsOf_1 11 rfl rfl)
theorem dX3_inputsOf_38 : decode cX3_inputsOf 38 = .ok (.iconst 0, 1) := dk_3 (dk_at dksX3_inputsOf_1 14 rfl rfl)
theorem dX3_inputsOf_39 : decode cX3_inputsOf 39 = .ok (.istore 4, 2) := dk_54 4 (dk_at dksX3_inputsOf_1 15 rfl rfl)
theorem dX3_inputsOf_41 : decode cX3_inputsOf 41 = .ok (.iload 4, 2) := dk_21 4 (dk_at dksX3_inputsOf_1 17 rfl rfl)
theorem dX3_inputsOf_43 : decode cX3_inputsOf 43 = .ok (.bipush 64, 2) := dk_16 64 (dk_at dksX3_inputsOf_1 19 rfl rfl)
theorem dX3_inputsOf_45 : decode cX3_inputsOf 45 = .ok (.if_icmp .ge 67, 3) := dk_162 0 67 (dk_at dksX3_inputsOf_1 21 rfl rfl)
theorem dX3_inputsOf_48 : decode cX3_inputsOf 48 = .ok (.iconst 0, 1) := dk_3 (dk_at dksX3_inputsOf_2 0 rfl rfl)
theorem dX3_inputsOf_49 : decode cX3_inputsOf 49 = .ok (.istore 5, 2) := dk_54 5 (dk_at dksX3_inputsOf_2 1 rfl rfl)
theorem dX3_inputsOf_51 : decode cX3_inputsOf 51 = .ok (.iload 5, 2) := dk_21 5 (dk_at dksX3_inputsOf_2 3 rfl rfl)
theorem dX3_inputsOf_53 : decode cX3_inputsOf 53 = .ok (.bipush 6, 2) := dk_16 6 (dk_at dksX3_inputsOf_2 5 rfl rfl)
theorem dX3_inputsOf_55 : decode cX3_inputsOf 55 = .ok (.if_icmp .ge 51, 3) := dk_162 0 51 (dk_at dksX3_inputsOf_2 7 rfl rfl)
theorem dX3_inputsOf_58 : decode cX3_inputsOf 58 = .ok (.iload_n 3, 1) := dk_29 (dk_at dksX3_inputsOf_2 10 rfl rfl)
theorem dX3_inputsOf_59 : decode cX3_inputsOf 59 = .ok (.aload_n 0, 1) := dk_42 (dk_at dksX3_inputsOf_2 11 rfl rfl)
theorem dX3_inputsOf_60 : decode cX3_inputsOf 60 = .ok (.getfield 22, 3) := dk_180 0 22 (dk_at dksX3_inputsOf_2 12 rfl rfl)
theorem dX3_inputsOf_63 : decode cX3_inputsOf 63 = .ok (.iload_n 1, 1) := dk_27 (dk_at dksX3_inputsOf_2 15 rfl rfl)
theorem dX3_inputsOf_64 : decode cX3_inputsOf 64 = .ok (.laload, 1) := dk_47 (dk_at dksX3_inputsOf_2 16 rfl rfl)
theorem dX3_inputsOf_65 : decode cX3_inputsOf 65 = .ok (.iload 4, 2) := dk_21 4 (dk_at dksX3_inputsOf_2 17 rfl rfl)
theorem dX3_inputsOf_67 : decode cX3_inputsOf 67 = .ok (.lushr, 1) := dk_125 (dk_at dksX3_inputsOf_2 19 rfl rfl)
theorem dX3_inputsOf_68 : decode cX3_inputsOf 68 = .ok (.lconst 1, 1) := dk_10 (dk_at dksX3_inputsOf_2 20 rfl rfl)
theorem dX3_inputsOf_69 : decode cX3_inputsOf 69 = .ok (.land, 1) := dk_127 (dk_at dksX3_inputsOf_2 21 rfl rfl)
theorem dX3_inputsOf_70 : decode cX3_inputsOf 70 = .ok (.aload_n 0, 1) := dk_42 (dk_at dksX3_inputsOf_2 22 rfl rfl)
theorem dX3_inputsOf_71 : decode cX3_inputsOf 71 = .ok (.getfield 22, 3) := dk_180 0 22 (dk_at dksX3_inputsOf_3 0 rfl rfl)
theorem dX3_inputsOf_74 : decode cX3_inputsOf 74 = .ok (.iload_n 1, 1) := dk_27 (dk_at dksX3_inputsOf_3 3 rfl rfl)
theorem dX3_inputsOf_75 : decode cX3_inputsOf 75 = .ok (.laload, 1) := dk_47 (dk_at dksX3_inputsOf_3 4 rfl rfl)
theorem dX3_inputsOf_76 : decode cX3_inputsOf 76 = .ok (.iload 4, 2) := dk_21 4 (dk_at dksX3_inputsOf_3 5 rfl rfl)
theorem dX3_inputsOf_78 : decode cX3_inputsOf 78 = .ok (.iconst 1, 1) := dk_4 (dk_at dksX3_inputsOf_3 7 rfl rfl)
theorem dX3_inputsOf_79 : decode cX3_inputsOf 79 = .ok (.iload 5, 2) := dk_21 5 (dk_at dksX3_inputsOf_3 8 rfl rfl)
theorem dX3_inputsOf_81 : decode cX3_inputsOf 81 = .ok (.ishl, 1) := dk_120 (dk_at dksX3_inputsOf_3 10 rfl rfl)
theorem dX3_inputsOf_82 : decode cX3_inputsOf 82 = .ok (.ixor, 1) := dk_130 (dk_at dksX3_inputsOf_3 11 rfl rfl)
theorem dX3_inputsOf_83 : decode cX3_inputsOf 83 = .ok (.lushr, 1) := dk_125 (dk_at dksX3_inputsOf_3 12 rfl rfl)
theorem dX3_inputsOf_84 : decode cX3_inputsOf 84 = .ok (.lconst 1, 1) := dk_10 (dk_at dksX3_inputsOf_3 13 rfl rfl)
theorem dX3_inputsOf_85 : decode cX3_inputsOf 85 = .ok (.land, 1) := dk_127 (dk_at dksX3_inputsOf_3 14 rfl rfl)
theorem dX3_inputsOf_86 : decode cX3_inputsOf 86 = .ok (.lcmp, 1) := dk_148 (dk_at dksX3_inputsOf_3 15 rfl rfl)
theorem dX3_inputsOf_87 : decode cX3_inputsOf 87 = .ok (.ifCond .eq 10, 3) := dk_153 0 10 (dk_at dksX3_inputsOf_3 16 rfl rfl)
theorem dX3_inputsOf_90 : decode cX3_inputsOf 90 = .ok (.iconst 1, 1) := dk_4 (dk_at dksX3_inputsOf_3 19 rfl rfl)
theorem dX3_inputsOf_91 : decode cX3_inputsOf 91 = .ok (.iload 5, 2) := dk_21 5 (dk_at dksX3_inputsOf_3 20 rfl rfl)
theorem dX3_inputsOf_93 : decode cX3_inputsOf 93 = .ok (.ishl, 1) := dk_120 (dk_at dksX3_inputsOf_3 22 rfl rfl)
theorem dX3_inputsOf_94 : decode cX3_inputsOf 94 = .ok (.goto 4, 3) := dk_167 0 4 (dk_at dksX3_inputsOf_4 0 rfl rfl)
theorem dX3_inputsOf_97 : decode cX3_inputsOf 97 = .ok (.iconst 0, 1) := dk_3 (dk_at dksX3_inputsOf_4 3 rfl rfl)
theorem dX3_inputsOf_98 : decode cX3_inputsOf 98 = .ok (.ior, 1) := dk_128 (dk_at dksX3_inputsOf_4 4 rfl rfl)
theorem dX3_inputsOf_99 : decode cX3_inputsOf 99 = .ok (.istore_n 3, 1) := dk_62 (dk_at dksX3_inputsOf_4 5 rfl rfl)
theorem dX3_inputsOf_100 : decode cX3_inputsOf 100 = .ok (.iinc 5 1, 3) := dk_132 5 1 (dk_at dksX3_inputsOf_4 6 rfl rfl)
theorem dX3_inputsOf_103 : decode cX3_inputsOf 103 = .ok (.goto (-52), 3) := dk_167 255 204 (dk_at dksX3_inputsOf_4 9 rfl rfl)
theorem dX3_inputsOf_106 : decode cX3_inputsOf 106 = .ok (.iinc 4 1, 3) := dk_132 4 1 (dk_at dksX3_inputsOf_4 12 rfl rfl)
theorem dX3_inputsOf_109 : decode cX3_inputsOf 109 = .ok (.goto (-68), 3) := dk_167 255 188 (dk_at dksX3_inputsOf_4 15 rfl rfl)
theorem dX3_inputsOf_112 : decode cX3_inputsOf 112 = .ok (.iload_n 3, 1) := dk_29 (dk_at dksX3_inputsOf_4 18 rfl rfl)
theorem dX3_inputsOf_113 : decode cX3_inputsOf 113 = .ok (.ireturn, 1) := dk_172 (dk_at dksX3_inputsOf_4 19 rfl rfl)
theorem dX3_inputsOf_114 : decode cX3_inputsOf 114 = .ok (.iconst 1, 1) := dk_4 (dk_at dksX3_inputsOf_4 20 rfl rfl)
theorem dX3_inputsOf_115 : decode cX3_inputsOf 115 = .ok (.iload_n 1, 1) := dk_27 (dk_at dksX3_inputsOf_4 21 rfl rfl)
theorem dX3_inputsOf_116 : decode cX3_inputsOf 116 = .ok (.ishl, 1) := dk_120 (dk_at dksX3_inputsOf_4 22 rfl rfl)
theorem dX3_inputsOf_117 : decode cX3_inputsOf 117 = .ok (.istore_n 3, 1) := dk_62 (dk_at dksX3_inputsOf_4 23 rfl rfl)
theorem dX3_inputsOf_118 : decode cX3_inputsOf 118 = .ok (.aload_n 0, 1) := dk_42 (dk_at dksX3_inputsOf_5 0 rfl rfl)
theorem dX3_inputsOf_119 : decode cX3_inputsOf 119 = .ok (.getfield 7, 3) := dk_180 0 7 (dk_at dksX3_inputsOf_5 1 rfl rfl)
theorem dX3_inputsOf_122 : decode cX3_inputsOf 122 = .ok (.iconst 0, 1) := dk_3 (dk_at dksX3_inputsOf_5 4 rfl rfl)
theorem dX3_inputsOf_123 : decode cX3_inputsOf 123 = .ok (.iaload, 1) := dk_46 (dk_at dksX3_inputsOf_5 5 rfl rfl)
theorem dX3_inputsOf_124 : decode cX3_inputsOf 124 = .ok (.iconst 1, 1) := dk_4 (dk_at dksX3_inputsOf_5 6 rfl rfl)
theorem dX3_inputsOf_125 : decode cX3_inputsOf 125 = .ok (.isub, 1) := dk_100 (dk_at dksX3_inputsOf_5 7 rfl rfl)
theorem dX3_inputsOf_126 : decode cX3_inputsOf 126 = .ok (.istore 4, 2) := dk_54 4 (dk_at dksX3_inputsOf_5 8 rfl rfl)
theorem dX3_inputsOf_128 : decode cX3_inputsOf 128 = .ok (.iload 4, 2) := dk_21 4 (dk_at dksX3_inputsOf_5 10 rfl rfl)
theorem dX3_inputsOf_130 : decode cX3_inputsOf 130 = .ok (.ifCond .lt 62, 3) := dk_155 0 62 (dk_at dksX3_inputsOf_5 12 rfl rfl)
theorem dX3_inputsOf_133 : decode cX3_inputsOf 133 = .ok (.iconst 0, 1) := dk_3 (dk_at dksX3_inputsOf_5 15 rfl rfl)
theorem dX3_inputsOf_134 : decode cX3_inputsOf 134 = .ok (.istore 5, 2) := dk_54 5 (dk_at dksX3_inputsOf_5 16 rfl rfl)
theorem dX3_inputsOf_136 : decode cX3_inputsOf 136 = .ok (.iload 5, 2) := dk_21 5 (dk_at dksX3_inputsOf_5 18 rfl rfl)
theorem dX3_inputsOf_138 : decode cX3_inputsOf 138 = .ok (.bipush 6, 2) := dk_16 6 (dk_at dksX3_inputsOf_5 20 rfl rfl)
theorem dX3_inputsOf_140 : decode cX3_inputsOf 140 = .ok (.iload 4, 2) := dk_21 4 (dk_at dksX3_inputsOf_5 22 rfl rfl)
theorem dX3_inputsOf_142 : decode cX3_inputsOf 142 = .ok (.iadd, 1) := dk_96 (dk_at dksX3_inputsOf_6 0 rfl rfl)
theorem dX3_inputsOf_143 : decode cX3_inputsOf 143 = .ok (.if_icmp .ge 43, 3) := dk_162 0 43 (dk_at dksX3_inputsOf_6 1 rfl rfl)
theorem dX3_inputsOf_146 : decode cX3_inputsOf 146 = .ok (.iload_n 3, 1) := dk_29 (dk_at dksX3_inputsOf_6 4 rfl rfl)
theorem dX3_inputsOf_147 : decode cX3_inputsOf 147 = .ok (.iload_n 3, 1) := dk_29 (dk_at dksX3_inputsOf_6 5 rfl rfl)
theorem dX3_inputsOf_148 : decode cX3_inputsOf 148 = .ok (.bipush 6, 2) := dk_16 6 (dk_at dksX3_inputsOf_6 6 rfl rfl)
theorem dX3_inputsOf_150 : decode cX3_inputsOf 150 = .ok (.iload 4, 2) := dk_21 4 (dk_at dksX3_inputsOf_6 8 rfl rfl)
theorem dX3_inputsOf_152 : decode cX3_inputsOf 152 = .ok (.iadd, 1) := dk_96 (dk_at dksX3_inputsOf_6 10 rfl rfl)
theorem dX3_inputsOf_153 : decode cX3_inputsOf 153 = .ok (.invokestatic 82, 3) := dk_184 0 82 (dk_at dksX3_inputsOf_6 11 rfl rfl)
theorem dX3_inputsOf_156 : decode cX3_inputsOf 156 = .ok (.ifCond .eq 21, 3) := dk_153 0 21 (dk_at dksX3_inputsOf_6 14 rfl rfl)
theorem dX3_inputsOf_159 : decode cX3_inputsOf 159 = .ok (.aload_n 0, 1) := dk_42 (dk_at dksX3_inputsOf_6 17 rfl rfl)
theorem dX3_inputsOf_160 : decode cX3_inputsOf 160 = .ok (.iload 4, 2) := dk_21 4 (dk_at dksX3_inputsOf_6 18 rfl rfl)
theorem dX3_inputsOf_162 : decode cX3_inputsOf 162 = .ok (.iload 5, 2) := dk_21 5 (dk_at dksX3_inputsOf_6 20 rfl rfl)
theorem dX3_inputsOf_164 : decode cX3_inputsOf 164 = .ok (.invokevirtual 97, 3) := dk_182 0 97 (dk_at dksX3_inputsOf_7 0 rfl rfl)
theorem dX3_inputsOf_167 : decode cX3_inputsOf 167 = .ok (.ifCond .eq 10, 3) := dk_153 0 10 (dk_at dksX3_inputsOf_7 3 rfl rfl)
theorem dX3_inputsOf_170 : decode cX3_inputsOf 170 = .ok (.iconst 1, 1) := dk_4 (dk_at dksX3_inputsOf_7 6 rfl rfl)
theorem dX3_inputsOf_171 : decode cX3_inputsOf 171 = .ok (.iload 5, 2) := dk_21 5 (dk_at dksX3_inputsOf_7 7 rfl rfl)
theorem dX3_inputsOf_173 : decode cX3_inputsOf 173 = .ok (.ishl, 1) := dk_120 (dk_at dksX3_inputsOf_7 9 rfl rfl)
theorem dX3_inputsOf_174 : decode cX3_inputsOf 174 = .ok (.goto 4, 3) := dk_167 0 4 (dk_at dksX3_inputsOf_7 10 rfl rfl)
theorem dX3_inputsOf_177 : decode cX3_inputsOf 177 = .ok (.iconst 0, 1) := dk_3 (dk_at dksX3_inputsOf_7 13 rfl rfl)
theorem dX3_inputsOf_178 : decode cX3_inputsOf 178 = .ok (.ior, 1) := dk_128 (dk_at dksX3_inputsOf_7 14 rfl rfl)
theorem dX3_inputsOf_179 : decode cX3_inputsOf 179 = .ok (.istore_n 3, 1) := dk_62 (dk_at dksX3_inputsOf_7 15 rfl rfl)
theorem dX3_inputsOf_180 : decode cX3_inputsOf 180 = .ok (.iinc 5 1, 3) := dk_132 5 1 (dk_at dksX3_inputsOf_7 16 rfl rfl)
theorem dX3_inputsOf_183 : decode cX3_inputsOf 183 = .ok (.goto (-47), 3) := dk_167 255 209 (dk_at dksX3_inputsOf_7 19 rfl rfl)
theorem dX3_inputsOf_186 : decode cX3_inputsOf 186 = .ok (.iinc 4 (-1), 3) := dk_132 4 255 (dk_at dksX3_inputsOf_8 0 rfl rfl)
theorem dX3_inputsOf_189 : decode cX3_inputsOf 189 = .ok (.goto (-61), 3) := dk_167 255 195 (dk_at dksX3_inputsOf_8 3 rfl rfl)
theorem dX3_inputsOf_192 : decode cX3_inputsOf 192 = .ok (.iload_n 3, 1) := dk_29 (dk_at dksX3_inputsOf_8 6 rfl rfl)
theorem dX3_inputsOf_193 : decode cX3_inputsOf 193 = .ok (.bipush 63, 2) := dk_16 63 (dk_at dksX3_inputsOf_8 7 rfl rfl)
theorem dX3_inputsOf_195 : decode cX3_inputsOf 195 = .ok (.iand, 1) := dk_126 (dk_at dksX3_inputsOf_8 9 rfl rfl)
theorem dX3_inputsOf_196 : decode cX3_inputsOf 196 = .ok (.ireturn, 1) := dk_172 (dk_at dksX3_inputsOf_8 10 rfl rfl)
abbrev cX3_reads : ByteArray := prog_9_method_22_code
def yX3_reads : MethodName := ⟨RX3, "reads", "(II)Z"⟩
def dkwX3_reads_1 : List UInt8 := [162, 0, 20, 42, 180, 0, 7, 16, 25, 27, 96, 46, 28, 160, 0, 7, 4, 167, 0, 4, 3, 172]
abbrev dktX3_reads_1 : List UInt8 := dkwX3_reads_1 ++ []
def dkwX3_reads_0 : List UInt8 := [42, 180, 0, 7, 16, 13, 27, 96, 46, 28, 159, 0, 29, 42, 180, 0, 7, 4, 27, 96, 46, 16, 6]
abbrev dktX3_reads_0 : List UInt8 := dkwX3_reads_0 ++ dktX3_reads_1
theorem dksX3_reads_0 : cX3_reads.data.toList.drop 0 = dktX3_reads_0 := by decide +kernel
theorem dksX3_reads_1 : cX3_reads.data.toList.drop 23 = dktX3_reads_1 := dk_seg dksX3_reads_0 23 rfl rfl
theorem dX3_reads_0 : decode cX3_reads 0 = .ok (.aload_n 0, 1) := dk_42 (dk_at dksX3_reads_0 0 rfl rfl)
theorem dX3_reads_1 : decode cX3_reads 1 = .ok (.getfield 7, 3) := dk_180 0 7 (dk_at dksX3_reads_0 1 rfl rfl)
theorem dX3_reads_4 : decode cX3_reads 4 = .ok (.bipush 13, 2) := dk_16 13 (dk_at dksX3_reads_0 4 rfl rfl)
theorem dX3_reads_6 : decode cX3_reads 6 = .ok (.iload_n 1, 1) := dk_27 (dk_at dksX3_reads_0 6 rfl rfl)
theorem dX3_reads_7 : decode cX3_reads 7 = .ok (.iadd, 1) := dk_96 (dk_at dksX3_reads_0 7 rfl rfl)
theorem dX3_reads_8 : decode cX3_reads 8 = .ok (.iaload, 1) := dk_46 (dk_at dksX3_reads_0 8 rfl rfl)
theorem dX3_reads_9 : decode cX3_reads 9 = .ok (.iload_n 2, 1) := dk_28 (dk_at dksX3_reads_0 9 rfl rfl)
theorem dX3_reads_10 : decode cX3_reads 10 = .ok (.if_icmp .eq 29, 3) := dk_159 0 29 (dk_at dksX3_reads_0 10 rfl rfl)
theorem dX3_reads_13 : decode cX3_reads 13 = .ok (.aload_n 0, 1) := dk_42 (dk_at dksX3_reads_0 13 rfl rfl)
theorem dX3_reads_14 : decode cX3_reads 14 = .ok (.getfield 7, 3) := dk_180 0 7 (dk_at dksX3_reads_0 14 rfl rfl)
theorem dX3_reads_17 : decode cX3_reads 17 = .ok (.iconst 1, 1) := dk_4 (dk_at dksX3_reads_0 17 rfl rfl)
theorem dX3_reads_18 : decode cX3_reads 18 = .ok (.iload_n 1, 1) := dk_27 (dk_at dksX3_reads_0 18 rfl rfl)
theorem dX3_reads_19 : decode cX3_reads 19 = .ok (.iadd, 1) := dk_96 (dk_at dksX3_reads_0 19 rfl rfl)
theorem dX3_reads_20 : decode cX3_reads 20 = .ok (.iaload, 1) := dk_46 (dk_at dksX3_reads_0 20 rfl rfl)
theorem dX3_reads_21 : decode cX3_reads 21 = .ok (.bipush 6, 2) := dk_16 6 (dk_at dksX3_reads_0 21 rfl rfl)
theorem dX3_reads_23 : decode cX3_reads 23 = .ok (.if_icmp .ge 20, 3) := dk_162 0 20 (dk_at dksX3_reads_1 0 rfl rfl)
theorem dX3_reads_26 : decode cX3_reads 26 = .ok (.aload_n 0, 1) := dk_42 (dk_at dksX3_reads_1 3 rfl rfl)
theorem dX3_reads_27 : decode cX3_reads 27 = .ok (.getfield 7, 3) := dk_180 0 7 (dk_at dksX3_reads_1 4 rfl rfl)
theorem dX3_reads_30 : decode cX3_reads 30 = .ok (.bipush 25, 2) := dk_16 25 (dk_at dksX3_reads_1 7 rfl rfl)
theorem dX3_reads_32 : decode cX3_reads 32 = .ok (.iload_n 1, 1) := dk_27 (dk_at dksX3_reads_1 9 rfl rfl)
theorem dX3_reads_33 : decode cX3_reads 33 = .ok (.iadd, 1) := dk_96 (dk_at dksX3_reads_1 10 rfl rfl)
theorem dX3_reads_34 : decode cX3_reads 34 = .ok (.iaload, 1) := dk_46 (dk_at dksX3_reads_1 11 rfl rfl)
theorem dX3_reads_35 : decode cX3_reads 35 = .ok (.iload_n 2, 1) := dk_28 (dk_at dksX3_reads_1 12 rfl rfl)
theorem dX3_reads_36 : decode cX3_reads 36 = .ok (.if_icmp .ne 7, 3) := dk_160 0 7 (dk_at dksX3_reads_1 13 rfl rfl)
theorem dX3_reads_39 : decode cX3_reads 39 = .ok (.iconst 1, 1) := dk_4 (dk_at dksX3_reads_1 16 rfl rfl)
theorem dX3_reads_40 : decode cX3_reads 40 = .ok (.goto 4, 3) := dk_167 0 4 (dk_at dksX3_reads_1 17 rfl rfl)
theorem dX3_reads_43 : decode cX3_reads 43 = .ok (.iconst 0, 1) := dk_3 (dk_at dksX3_reads_1 20 rfl rfl)
theorem dX3_reads_44 : decode cX3_reads 44 = .ok (.ireturn, 1) := dk_172 (dk_at dksX3_reads_1 21 rfl rfl)
abbrev cX3_depthOf : ByteArray := prog_9_method_76_code
def yX3_depthOf : MethodName := ⟨RX3, "depthOf", "(I)I"⟩
def dkwX3_depthOf_6 : List UInt8 := [104, 125, 20, 0, 237, 127, 136, 172]
abbrev dktX3_depthOf_6 : List UInt8 := dkwX3_depthOf_6 ++ []
def dkwX3_depthOf_5 : List UInt8 := [129, 65, 132, 4, 1, 167, 255, 163, 27, 16, 6, 162, 0, 7, 3, 167, 0, 16, 32, 8, 27, 16, 6, 100]
abbrev dktX3_depthOf_5 : List UInt8 := dkwX3_depthOf_5 ++ dktX3_depthOf_6
def dkwX3_depthOf_4 : List UInt8 := [167, 0, 5, 21, 5, 54, 5, 132, 6, 1, 167, 255, 200, 32, 21, 5, 4, 96, 133, 8, 21, 4, 104, 121]
abbrev dktX3_depthOf_4 : List UInt8 := dkwX3_depthOf_4 ++ dktX3_depthOf_5
def dkwX3_depthOf_3 : List UInt8 := [127, 136, 54, 7, 42, 21, 4, 21, 6, 182, 0, 97, 153, 0, 15, 21, 7, 21, 5, 164, 0, 8, 21, 7]
abbrev dktX3_depthOf_3 : List UInt8 := dkwX3_depthOf_3 ++ dktX3_depthOf_4
def dkwX3_depthOf_2 : List UInt8 := [54, 6, 21, 6, 16, 6, 21, 4, 96, 162, 0, 52, 32, 8, 21, 6, 16, 6, 100, 104, 125, 20, 0, 237]
abbrev dktX3_depthOf_2 : List UInt8 := dkwX3_depthOf_2 ++ dktX3_depthOf_3
def dkwX3_depthOf_1 : List UInt8 := [3, 172, 9, 65, 3, 54, 4, 21, 4, 42, 180, 0, 7, 3, 46, 162, 0, 88, 3, 54, 5, 16, 6]
abbrev dktX3_depthOf_1 : List UInt8 := dkwX3_depthOf_1 ++ dktX3_depthOf_2
def dkwX3_depthOf_0 : List UInt8 := [42, 42, 27, 182, 0, 107, 153, 0, 7, 3, 167, 0, 4, 4, 181, 0, 50, 42, 180, 0, 50, 158, 0, 5]
abbrev dktX3_depthOf_0 : List UInt8 := dkwX3_depthOf_0 ++ dktX3_depthOf_1
theorem dksX3_depthOf_0 : cX3_depthOf.data.toList.drop 0 = dktX3_depthOf_0 := by decide +kernel
theorem dksX3_depthOf_1 : cX3_depthOf.data.toList.drop 24 = dktX3_depthOf_1 := dk_seg dksX3_depthOf_0 24 rfl rfl
theorem dksX3_depthOf_2 : cX3_depthOf.data.toList.drop 47 = dktX3_depthOf_2 := dk_seg dksX3_depthOf_1 23 rfl rfl
theorem dksX3_depthOf_3 : cX3_depthOf.data.toList.drop 71 = dktX3_depthOf_3 := dk_seg dksX3_depthOf_2 24 rfl rfl
theorem dksX3_depthOf_4 : cX3_depthOf.data.toList.drop 95 = dktX3_depthOf_4 := dk_seg dksX3_depthOf_3 24 rfl rfl
theorem dksX3_depthOf_5 : cX3_depthOf.data.toList.drop 119 = dktX3_depthOf_5 := dk_seg dksX3_depthOf_4 24 rfl rfl
theorem dksX3_depthOf_6 : cX3_depthOf.data.toList.drop 143 = dktX3_depthOf_6 := dk_seg dksX3_depthOf_5 24 rfl rfl
theorem dX3_depthOf_0 : decode cX3_depthOf 0 = .ok (.aload_n 0, 1) := dk_42 (dk_at dksX3_depthOf_0 0 rfl rfl)
theorem dX3_depthOf_1 : decode cX3_depthOf 1 = .ok (.aload_n 0, 1) := dk_42 (dk_at dksX3_depthOf_0 1 rfl rfl)
theorem dX3_depthOf_2 : decode cX3_depthOf 2 = .ok (.iload_n 1, 1) := dk_27 (dk_at dksX3_depthOf_0 2 rfl rfl)
theorem dX3_depthOf_3 : decode cX3_depthOf 3 = .ok (.invokevirtual 107, 3) := dk_182 0 107 (dk_at dksX3_depthOf_0 3 rfl rfl)
theorem dX3_depthOf_6 : decode cX3_depthOf 6 = .ok (.ifCond .eq 7, 3) := dk_153 0 7 (dk_at dksX3_depthOf_0 6 rfl rfl)
theorem dX3_depthOf_9 : decode cX3_depthOf 9 = .ok (.iconst 0, 1) := dk_3 (dk_at dksX3_depthOf_0 9 rfl rfl)
theorem dX3_depthOf_10 : decode cX3_depthOf 10 = .ok (.goto 4, 3) := dk_167 0 4 (dk_at dksX3_depthOf_0 10 rfl rfl)
theorem dX3_depthOf_13 : decode cX3_depthOf 13 = .ok (.iconst 1, 1) := dk_4 (dk_at dksX3_depthOf_0 13 rfl rfl)
theorem dX3_depthOf_14 : decode cX3_depthOf 14 = .ok (.putfield 50, 3) := dk_181 0 50 (dk_at dksX3_depthOf_0 14 rfl rfl)
theorem dX3_depthOf_17 : decode cX3_depthOf 17 = .ok (.aload_n 0, 1) := dk_42 (dk_at dksX3_depthOf_0 17 rfl rfl)
theorem dX3_depthOf_18 : decode cX3_depthOf 18 = .ok (.getfield 50, 3) := dk_180 0 50 (dk_at dksX3_depthOf_0 18 rfl rfl)
theorem dX3_depthOf_21 : decode cX3_depthOf 21 = .ok (.ifCond .le 5, 3) := dk_158 0 5 (dk_at dksX3_depthOf_0 21 rfl rfl)
theorem dX3_depthOf_24 : decode cX3_depthOf 24 = .ok (.iconst 0, 1) := dk_3 (dk_at dksX3_depthOf_1 0 rfl rfl)
theorem dX3_depthOf_25 : decode cX3_depthOf 25 = .ok (.ireturn, 1) := dk_172 (dk_at dksX3_depthOf_1 1 rfl rfl)
theorem dX3_depthOf_26 : decode cX3_depthOf 26 = .ok (.lconst 0, 1) := dk_9 (dk_at dksX3_depthOf_1 2 rfl rfl)
theorem dX3_depthOf_27 : decode cX3_depthOf 27 = .ok (.lstore_n 2, 1) := dk_65 (dk_at dksX3_depthOf_1 3 rfl rfl)
theorem dX3_depthOf_28 : decode cX3_depthOf 28 = .ok (.iconst 0, 1) := dk_3 (dk_at dksX3_depthOf_1 4 rfl rfl)
theorem dX3_depthOf_29 : decode cX3_depthOf 29 = .ok (.istore 4, 2) := dk_54 4 (dk_at dksX3_depthOf_1 5 rfl rfl)
theorem dX3_depthOf_31 : decode cX3_depthOf 31 = .ok (.iload 4, 2) := dk_21 4 (dk_at dksX3_depthOf_1 7 rfl rfl)
theorem dX3_depthOf_33 : decode cX3_depthOf 33 = .ok (.aload_n 0, 1) := dk_42 (dk_at dksX3_depthOf_1 9 rfl rfl)
theorem dX3_depthOf_34 : decode cX3_depthOf 34 = .ok (.getfield 7, 3) := dk_180 0 7 (dk_at dksX3_depthOf_1 10 rfl rfl)
theorem dX3_depthOf_37 : decode cX3_depthOf 37 = .ok (.iconst 0, 1) := dk_3 (dk_at dksX3_depthOf_1 13 rfl rfl)
theorem dX3_depthOf_38 : decode cX3_depthOf 38 = .ok (.iaload, 1) := dk_46 (dk_at dksX3_depthOf_1 14 rfl rfl)
theorem dX3_depthOf_39 : decode cX3_depthOf 39 = .ok (.if_icmp .ge 88, 3) := dk_162 0 88 (dk_at dksX3_depthOf_1 15 rfl rfl)
theorem dX3_depthOf_42 : decode cX3_depthOf 42 = .ok (.iconst 0, 1) := dk_3 (dk_at dksX3_depthOf_1 18 rfl rfl)
theorem dX3_depthOf_43 : decode cX3_depthOf 43 = .ok (.istore 5, 2) := dk_54 5 (dk_at dksX3_depthOf_1 19 rfl rfl)
theorem dX3_depthOf_45 : decode cX3_depthOf 45 = .ok (.bipush 6, 2) := dk_16 6 (dk_at dksX3_depthOf_1 21 rfl rfl)
theorem dX3_depthOf_47 : decode cX3_depthOf 47 = .ok (.istore 6, 2) := dk_54 6 (dk_at dksX3_depthOf_2 0 rfl rfl)
theorem dX3_depthOf_49 : decode cX3_depthOf 49 = .ok (.iload 6, 2) := dk_21 6 (dk_at dksX3_depthOf_2 2 rfl rfl)
theorem dX3_depthOf_51 : decode cX3_depthOf 51 = .ok (.bipush 6, 2) := dk_16 6 (dk_at dksX3_depthOf_2 4 rfl rfl)
theorem dX3_depthOf_53 : decode cX3_depthOf 53 = .ok (.iload 4, 2) := dk_21 4 (dk_at dksX3_depthOf_2 6 rfl rfl)
theorem dX3_depthOf_55 : decode cX3_depthOf 55 = .ok (.iadd, 1) := dk_96 (dk_at dksX3_depthOf_2 8 rfl rfl)
theorem dX3_depthOf_56 : decode cX3_depthOf 56 = .ok (.if_icmp .ge 52, 3) := dk_162 0 52 (dk_at dksX3_depthOf_2 9 rfl rfl)
theorem dX3_depthOf_59 : decode cX3_depthOf 59 = .ok (.lload_n 2, 1) := dk_32 (dk_at dksX3_depthOf_2 12 rfl rfl)
theorem dX3_depthOf_60 : decode cX3_depthOf 60 = .ok (.iconst 5, 1) := dk_8 (dk_at dksX3_depthOf_2 13 rfl rfl)
theorem dX3_depthOf_61 : decode cX3_depthOf 61 = .ok (.iload 6, 2) := dk_21 6 (dk_at dksX3_depthOf_2 14 rfl rfl)
theorem dX3_depthOf_63 : decode cX3_depthOf 63 = .ok (.bipush 6, 2) := dk_16 6 (dk_at dksX3_depthOf_2 16 rfl rfl)
theorem dX3_depthOf_65 : decode cX3_depthOf 65 = .ok (.isub, 1) := dk_100 (dk_at dksX3_depthOf_2 18 rfl rfl)
theorem dX3_depthOf_66 : decode cX3_depthOf 66 = .ok (.imul, 1) := dk_104 (dk_at dksX3_depthOf_2 19 rfl rfl)
theorem dX3_depthOf_67 : decode cX3_depthOf 67 = .ok (.lushr, 1) := dk_125 (dk_at dksX3_depthOf_2 20 rfl rfl)
theorem dX3_depthOf_68 : decode cX3_depthOf 68 = .ok (.ldc2_w 237, 3) := dk_20 0 237 (dk_at dksX3_depthOf_2 21 rfl rfl)
theorem dX3_depthOf_71 : decode cX3_depthOf 71 = .ok (.land, 1) := dk_127 (dk_at dksX3_depthOf_3 0 rfl rfl)
theorem dX3_depthOf_72 : decode cX3_depthOf 72 = .ok (.l2i, 1) := dk_136 (dk_at dksX3_depthOf_3 1 rfl rfl)
theorem dX3_depthOf_73 : decode cX3_depthOf 73 = .ok (.istore 7, 2) := dk_54 7 (dk_at dksX3_depthOf_3 2 rfl rfl)
theorem dX3_depthOf_75 : decode cX3_depthOf 75 = .ok (.aload_n 0, 1) := dk_42 (dk_at dksX3_depthOf_3 4 rfl rfl)
theorem dX3_depthOf_76 : decode cX3_depthOf 76 = .ok (.iload 4, 2) := dk_21 4 (dk_at dksX3_depthOf_3 5 rfl rfl)
theorem dX3_depthOf_78 : decode cX3_depthOf 78 = .ok (.iload 6, 2) := dk_21 6 (dk_at dksX3_depthOf_3 7 rfl rfl)
theorem dX3_depthOf_80 : decode cX3_depthOf 80 = .ok (.invokevirtual 97, 3) := dk_182 0 97 (dk_at dksX3_depthOf_3 9 rfl rfl)
theorem dX3_depthOf_83 : decode cX3_depthOf 83 = .ok (.ifCond .eq 15, 3) := dk_153 0 15 (dk_at dksX3_depthOf_3 12 rfl rfl)
theorem dX3_depthOf_86 : decode cX3_depthOf 86 = .ok (.iload 7, 2) := dk_21 7 (dk_at dksX3_depthOf_3 15 rfl rfl)
theorem dX3_depthOf_88 : decode cX3_depthOf 88 = .ok (.iload 5, 2) := dk_21 5 (dk_at dksX3_depthOf_3 17 rfl rfl)
theorem dX3_depthOf_90 : decode cX3_depthOf 90 = .ok (.if_icmp .le 8, 3) := dk_164 0 8 (dk_at dksX3_depthOf_3 19 rfl rfl)
theorem dX3_depthOf_93 : decode cX3_depthOf 93 = .ok (.iload 7, 2) := dk_21 7 (dk_at dksX3_depthOf_3 22 rfl rfl)
theorem dX3_depthOf_95 : decode cX3_depthOf 95 = .ok (.goto 5, 3) := dk_167 0 5 (dk_at dksX3_depthOf_4 0 rfl rfl)
theorem dX3_depthOf_98 : decode cX3_depthOf 98 = .ok (.iload 5, 2) := dk_21 5 (dk_at dksX3_depthOf_4 3 rfl rfl)
theorem dX3_depthOf_100 : decode cX3_depthOf 100 = .ok (.istore 5, 2) := dk_54 5 (dk_at dksX3_depthOf_4 5 rfl rfl)
theorem dX3_depthOf_102 : decode cX3_depthOf 102 = .ok (.iinc 6 1, 3) := dk_132 6 1 (dk_at dksX3_depthOf_4 7 rfl rfl)
theorem dX3_depthOf_105 : decode cX3_depthOf 105 = .ok (.goto (-56), 3) := dk_167 255 200 (dk_at dksX3_depthOf_4 10 rfl rfl)
theorem dX3_depthOf_108 : decode cX3_depthOf 108 = .ok (.lload_n 2, 1) := dk_32 (dk_at dksX3_depthOf_4 13 rfl rfl)
theorem dX3_depthOf_109 : decode cX3_depthOf 109 = .ok (.iload 5, 2) := dk_21 5 (dk_at dksX3_depthOf_4 14 rfl rfl)
theorem dX3_depthOf_111 : decode cX3_depthOf 111 = .ok (.iconst 1, 1) := dk_4 (dk_at dksX3_depthOf_4 16 rfl rfl)
theorem dX3_depthOf_112 : decode cX3_depthOf 112 = .ok (.iadd, 1) := dk_96 (dk_at dksX3_depthOf_4 17 rfl rfl)
theorem dX3_depthOf_113 : decode cX3_depthOf 113 = .ok (.i2l, 1) := dk_133 (dk_at dksX3_depthOf_4 18 rfl rfl)
theorem dX3_depthOf_114 : decode cX3_depthOf 114 = .ok (.iconst 5, 1) := dk_8 (dk_at dksX3_depthOf_4 19 rfl rfl)
theorem dX3_depthOf_115 : decode cX3_depthOf 115 = .ok (.iload 4, 2) := dk_21 4 (dk_at dksX3_depthOf_4 20 rfl rfl)
theorem dX3_depthOf_117 : decode cX3_depthOf 117 = .ok (.imul, 1) := dk_104 (dk_at dksX3_depthOf_4 22 rfl rfl)
theorem dX3_depthOf_118 : decode cX3_depthOf 118 = .ok (.lshl, 1) := dk_121 (dk_at dksX3_depthOf_4 23 rfl rfl)
theorem dX3_depthOf_119 : decode cX3_depthOf 119 = .ok (.lor, 1) := dk_129 (dk_at dksX3_depthOf_5 0 rfl rfl)
theorem dX3_depthOf_120 : decode cX3_depthOf 120 = .ok (.lstore_n 2, 1) := dk_65 (dk_at dksX3_depthOf_5 1 rfl rfl)
theorem dX3_depthOf_121 : decode cX3_depthOf 121 = .ok (.iinc 4 1, 3) := dk_132 4 1 (dk_at dksX3_depthOf_5 2 rfl rfl)
theorem dX3_depthOf_124 : decode cX3_depthOf 124 = .ok (.goto (-93), 3) := dk_167 255 163 (dk_at dksX3_depthOf_5 5 rfl rfl)
theorem dX3_depthOf_127 : decode cX3_depthOf 127 = .ok (.iload_n 1, 1) := dk_27 (dk_at dksX3_depthOf_5 8 rfl rfl)
theorem dX3_depthOf_128 : decode cX3_depthOf 128 = .ok (.bipush 6, 2) := dk_16 6 (dk_at dksX3_depthOf_5 9 rfl rfl)
theorem dX3_depthOf_130 : decode cX3_depthOf 130 = .ok (.if_icmp .ge 7, 3) := dk_162 0 7 (dk_at dksX3_depthOf_5 11 rfl rfl)
theorem dX3_depthOf_133 : decode cX3_depthOf 133 = .ok (.iconst 0, 1) := dk_3 (dk_at dksX3_depthOf_5 14 rfl rfl)
theorem dX3_depthOf_134 : decode cX3_depthOf 134 = .ok (.goto 16, 3) := dk_167 0 16 (dk_at dksX3_depthOf_5 15 rfl rfl)
theorem dX3_depthOf_137 : decode cX3_depthOf 137 = .ok (.lload_n 2, 1) := dk_32 (dk_at dksX3_depthOf_5 18 rfl rfl)
theorem dX3_depthOf_138 : decode cX3_depthOf 138 = .ok (.iconst 5, 1) := dk_8 (dk_at dksX3_depthOf_5 19 rfl rfl)
theorem dX3_depthOf_139 : decode cX3_depthOf 139 = .ok (.iload_n 1, 1) := dk_27 (dk_at dksX3_depthOf_5 20 rfl rfl)
theorem dX3_depthOf_140 : decode cX3_depthOf 140 = .ok (.bipush 6, 2) := dk_16 6 (dk_at dksX3_depthOf_5 21 rfl rfl)
theorem dX3_depthOf_142 : decode cX3_depthOf 142 = .ok (.isub, 1) := dk_100 (dk_at dksX3_depthOf_5 23 rfl rfl)
theorem dX3_depthOf_143 : decode cX3_depthOf 143 = .ok (.imul, 1) := dk_104 (dk_at dksX3_depthOf_6 0 rfl rfl)
theorem dX3_depthOf_144 : decode cX3_depthOf 144 = .ok (.lushr, 1) := dk_125 (dk_at dksX3_depthOf_6 1 rfl rfl)
theorem dX3_depthOf_145 : decode cX3_depthOf 145 = .ok (.ldc2_w 237, 3) := dk_20 0 237 (dk_at dksX3_depthOf_6 2 rfl rfl)
theorem dX3_depthOf_148 : decode cX3_depthOf 148 = .ok (.land, 1) := dk_127 (dk_at dksX3_depthOf_6 5 rfl rfl)
theorem dX3_depthOf_149 : decode cX3_depthOf 149 = .ok (.l2i, 1) := dk_136 (dk_at dksX3_depthOf_6 6 rfl rfl)
theorem dX3_depthOf_150 : decode cX3_depthOf 150 = .ok (.ireturn, 1) := dk_172 (dk_at dksX3_depthOf_6 7 rfl rfl)
abbrev cX3_idleLines : ByteArray := prog_9_method_77_code
def yX3_idleLines : MethodName := ⟨RX3, "idleLines", "()I"⟩
def dkwX3_idleLines_0 : List UInt8 := [42, 3, 181, 0, 50, 4, 42, 182, 0, 54, 120, 4, 100, 42, 182, 0, 239, 2, 130, 126, 172]
abbrev dktX3_idleLines_0 : List UInt8 := dkwX3_idleLines_0 ++ []
theorem dksX3_idleLines_0 : cX3_idleLines.data.toList.drop 0 = dktX3_idleLines_0 := by decide +kernel
theorem dX3_idleLines_0 : decode cX3_idleLines 0 = .ok (.aload_n 0, 1) := dk_42 (dk_at dksX3_idleLines_0 0 rfl rfl)
theorem dX3_idleLines_1 : decode cX3_idleLines 1 = .ok (.iconst 0, 1) := dk_3 (dk_at dksX3_idleLines_0 1 rfl rfl)
theorem dX3_idleLines_2 : decode cX3_idleLines 2 = .ok (.putfield 50, 3) := dk_181 0 50 (dk_at dksX3_idleLines_0 2 rfl rfl)
theorem dX3_idleLines_5 : decode cX3_idleLines 5 = .ok (.iconst 1, 1) := dk_4 (dk_at dksX3_idleLines_0 5 rfl rfl)
theorem dX3_idleLines_6 : decode cX3_idleLines 6 = .ok (.aload_n 0, 1) := dk_42 (dk_at dksX3_idleLines_0 6 rfl rfl)
theorem dX3_idleLines_7 : decode cX3_idleLines 7 = .ok (.invokevirtual 54, 3) := dk_182 0 54 (dk_at dksX3_idleLines_0 7 rfl rfl)
theorem dX3_idleLines_10 : decode cX3_idleLines 10 = .ok (.ishl, 1) := dk_120 (dk_at dksX3_idleLines_0 10 rfl rfl)
theorem dX3_idleLines_11 : decode cX3_idleLines 11 = .ok (.iconst 1, 1) := dk_4 (dk_at dksX3_idleLines_0 11 rfl rfl)
theorem dX3_idleLines_12 : decode cX3_idleLines 12 = .ok (.isub, 1) := dk_100 (dk_at dksX3_idleLines_0 12 rfl rfl)
theorem dX3_idleLines_13 : decode cX3_idleLines 13 = .ok (.aload_n 0, 1) := dk_42 (dk_at dksX3_idleLines_0 13 rfl rfl)
theorem dX3_idleLines_14 : decode cX3_idleLines 14 = .ok (.invokevirtual 239, 3) := dk_182 0 239 (dk_at dksX3_idleLines_0 14 rfl rfl)
theorem dX3_idleLines_17 : decode cX3_idleLines 17 = .ok (.iconst (-1), 1) := dk_2 (dk_at dksX3_idleLines_0 17 rfl rfl)
theorem dX3_idleLines_18 : decode cX3_idleLines 18 = .ok (.ixor, 1) := dk_130 (dk_at dksX3_idleLines_0 18 rfl rfl)
theorem dX3_idleLines_19 : decode cX3_idleLines 19 = .ok (.iand, 1) := dk_126 (dk_at dksX3_idleLines_0 19 rfl rfl)
theorem dX3_idleLines_20 : decode cX3_idleLines 20 = .ok (.ireturn, 1) := dk_172 (dk_at dksX3_idleLines_0 20 rfl rfl)
abbrev cX3_busy : ByteArray := prog_9_method_23_code
def yX3_busy : MethodName := ⟨RX3, "busy", "()I"⟩
def dkwX3_busy_3 : List UInt8 := [167, 255, 203, 27, 172]
abbrev dktX3_busy_3 : List UInt8 := dkwX3_busy_3 ++ []
def dkwX3_busy_2 : List UInt8 := [182, 0, 97, 153, 0, 9, 4, 29, 120, 167, 0, 4, 3, 128, 60, 132, 3, 1, 167, 255, 215, 132, 2, 255]
abbrev dktX3_busy_2 : List UInt8 := dkwX3_busy_2 ++ dktX3_busy_3
def dkwX3_busy_1 : List UInt8 := [16, 6, 28, 96, 162, 0, 39, 27, 27, 16, 6, 28, 96, 184, 0, 82, 153, 0, 18, 42, 28, 29]
abbrev dktX3_busy_1 : List UInt8 := dkwX3_busy_1 ++ dktX3_busy_2
def dkwX3_busy_0 : List UInt8 := [42, 180, 0, 7, 16, 37, 46, 60, 42, 180, 0, 7, 3, 46, 4, 100, 61, 28, 155, 0, 55, 3, 62, 29]
abbrev dktX3_busy_0 : List UInt8 := dkwX3_busy_0 ++ dktX3_busy_1
theorem dksX3_busy_0 : cX3_busy.data.toList.drop 0 = dktX3_busy_0 := by decide +kernel
theorem dksX3_busy_1 : cX3_busy.data.toList.drop 24 = dktX3_busy_1 := dk_seg dksX3_busy_0 24 rfl rfl
theorem dksX3_busy_2 : cX3_busy.data.toList.drop 46 = dktX3_busy_2 := dk_seg dksX3_busy_1 22 rfl rfl
theorem dksX3_busy_3 : cX3_busy.data.toList.drop 70 = dktX3_busy_3 := dk_seg dksX3_busy_2 24 rfl rfl
theorem dX3_busy_0 : decode cX3_busy 0 = .ok (.aload_n 0, 1) := dk_42 (dk_at dksX3_busy_0 0 rfl rfl)
theorem dX3_busy_1 : decode cX3_busy 1 = .ok (.getfield 7, 3) := dk_180 0 7 (dk_at dksX3_busy_0 1 rfl rfl)
theorem dX3_busy_4 : decode cX3_busy 4 = .ok (.bipush 37, 2) := dk_16 37 (dk_at dksX3_busy_0 4 rfl rfl)
theorem dX3_busy_6 : decode cX3_busy 6 = .ok (.iaload, 1) := dk_46 (dk_at dksX3_busy_0 6 rfl rfl)
theorem dX3_busy_7 : decode cX3_busy 7 = .ok (.istore_n 1, 1) := dk_60 (dk_at dksX3_busy_0 7 rfl rfl)
theorem dX3_busy_8 : decode cX3_busy 8 = .ok (.aload_n 0, 1) := dk_42 (dk_at dksX3_busy_0 8 rfl rfl)
theorem dX3_busy_9 : decode cX3_busy 9 = .ok (.getfield 7, 3) := dk_180 0 7 (dk_at dksX3_busy_0 9 rfl rfl)
theorem dX3_busy_12 : decode cX3_busy 12 = .ok (.iconst 0, 1) := dk_3 (dk_at dksX3_busy_0 12 rfl rfl)
theorem dX3_busy_13 : decode cX3_busy 13 = .ok (.iaload, 1) := dk_46 (dk_at dksX3_busy_0 13 rfl rfl)
theorem dX3_busy_14 : decode cX3_busy 14 = .ok (.iconst 1, 1) := dk_4 (dk_at dksX3_busy_0 14 rfl rfl)
theorem dX3_busy_15 : decode cX3_busy 15 = .ok (.isub, 1) := dk_100 (dk_at dksX3_busy_0 15 rfl rfl)
theorem dX3_busy_16 : decode cX3_busy 16 = .ok (.istore_n 2, 1) := dk_61 (dk_at dksX3_busy_0 16 rfl rfl)
theorem dX3_busy_17 : decode cX3_busy 17 = .ok (.iload_n 2, 1) := dk_28 (dk_at dksX3_busy_0 17 rfl rfl)
theorem dX3_busy_18 : decode cX3_busy 18 = .ok (.ifCond .lt 55, 3) := dk_155 0 55 (dk_at dksX3_busy_0 18 rfl rfl)
theorem dX3_busy_21 : decode cX3_busy 21 = .ok (.iconst 0, 1) := dk_3 (dk_at dksX3_busy_0 21 rfl rfl)
theorem dX3_busy_22 : decode cX3_busy 22 = .ok (.istore_n 3, 1) := dk_62 (dk_at dksX3_busy_0 22 rfl rfl)
theorem dX3_busy_23 : decode cX3_busy 23 = .ok (.iload_n 3, 1) := dk_29 (dk_at dksX3_busy_0 23 rfl rfl)
theorem dX3_busy_24 : decode cX3_busy 24 = .ok (.bipush 6, 2) := dk_16 6 (dk_at dksX3_busy_1 0 rfl rfl)
theorem dX3_busy_26 : decode cX3_busy 26 = .ok (.iload_n 2, 1) := dk_28 (dk_at dksX3_busy_1 2 rfl rfl)
theorem dX3_busy_27 : decode cX3_busy 27 = .ok (.iadd, 1) := dk_96 (dk_at dksX3_busy_1 3 rfl rfl)
theorem dX3_busy_28 : decode cX3_busy 28 = .ok (.if_icmp .ge 39, 3) := dk_162 0 39 (dk_at dksX3_busy_1 4 rfl rfl)
theorem dX3_busy_31 : decode cX3_busy 31 = .ok (.iload_n 1, 1) := dk_27 (dk_at dksX3_busy_1 7 rfl rfl)
theorem dX3_busy_32 : decode cX3_busy 32 = .ok (.iload_n 1, 1) := dk_27 (dk_at dksX3_busy_1 8 rfl rfl)
theorem dX3_busy_33 : decode cX3_busy 33 = .ok (.bipush 6, 2) := dk_16 6 (dk_at dksX3_busy_1 9 rfl rfl)
theorem dX3_busy_35 : decode cX3_busy 35 = .ok (.iload_n 2, 1) := dk_28 (dk_at dksX3_busy_1 11 rfl rfl)
theorem dX3_busy_36 : decode cX3_busy 36 = .ok (.iadd, 1) := dk_96 (dk_at dksX3_busy_1 12 rfl rfl)
theorem dX3_busy_37 : decode cX3_busy 37 = .ok (.invokestatic 82, 3) := dk_184 0 82 (dk_at dksX3_busy_1 13 rfl rfl)
theorem dX3_busy_40 : decode cX3_busy 40 = .ok (.ifCond .eq 18, 3) := dk_153 0 18 (dk_at dksX3_busy_1 16 rfl rfl)
theorem dX3_busy_43 : decode cX3_busy 43 = .ok (.aload_n 0, 1) := dk_42 (dk_at dksX3_busy_1 19 rfl rfl)
theorem dX3_busy_44 : decode cX3_busy 44 = .ok (.iload_n 2, 1) := dk_28 (dk_at dksX3_busy_1 20 rfl rfl)
theorem dX3_busy_45 : decode cX3_busy 45 = .ok (.iload_n 3, 1) := dk_29 (dk_at dksX3_busy_1 21 rfl rfl)
theorem dX3_busy_46 : decode cX3_busy 46 = .ok (.invokevirtual 97, 3) := dk_182 0 97 (dk_at dksX3_busy_2 0 rfl rfl)
theorem dX3_busy_49 : decode cX3_busy 49 = .ok (.ifCond .eq 9, 3) := dk_153 0 9 (dk_at dksX3_busy_2 3 rfl rfl)
theorem dX3_busy_52 : decode cX3_busy 52 = .ok (.iconst 1, 1) := dk_4 (dk_at dksX3_busy_2 6 rfl rfl)
theorem dX3_busy_53 : decode cX3_busy 53 = .ok (.iload_n 3, 1) := dk_29 (dk_at dksX3_busy_2 7 rfl rfl)
theorem dX3_busy_54 : decode cX3_busy 54 = .ok (.ishl, 1) := dk_120 (dk_at dksX3_busy_2 8 rfl rfl)
theorem dX3_busy_55 : decode cX3_busy 55 = .ok (.goto 4, 3) := dk_167 0 4 (dk_at dksX3_busy_2 9 rfl rfl)
theorem dX3_busy_58 : decode cX3_busy 58 = .ok (.iconst 0, 1) := dk_3 (dk_at dksX3_busy_2 12 rfl rfl)
theorem dX3_busy_59 : decode cX3_busy 59 = .ok (.ior, 1) := dk_128 (dk_at dksX3_busy_2 13 rfl rfl)
theorem dX3_busy_60 : decode cX3_busy 60 = .ok (.istore_n 1, 1) := dk_60 (dk_at dksX3_busy_2 14 rfl rfl)
theorem dX3_busy_61 : decode cX3_busy 61 = .ok (.iinc 3 1, 3) := dk_132 3 1 (dk_at dksX3_busy_2 15 rfl rfl)
theorem dX3_busy_64 : decode cX3_busy 64 = .ok (.goto (-41), 3) := dk_167 255 215 (dk_at dksX3_busy_2 18 rfl rfl)
theorem dX3_busy_67 : decode cX3_busy 67 = .ok (.iinc 2 (-1), 3) := dk_132 2 255 (dk_at dksX3_busy_2 21 rfl rfl)
theorem dX3_busy_70 : decode cX3_busy 70 = .ok (.goto (-53), 3) := dk_167 255 203 (dk_at dksX3_busy_3 0 rfl rfl)
theorem dX3_busy_73 : decode cX3_busy 73 = .ok (.iload_n 1, 1) := dk_27 (dk_at dksX3_busy_3 3 rfl rfl)
theorem dX3_busy_74 : decode cX3_busy 74 = .ok (.ireturn, 1) := dk_172 (dk_at dksX3_busy_3 4 rfl rfl)
abbrev cX3_shows : ByteArray := prog_9_method_78_code
def yX3_shows : MethodName := ⟨RX3, "shows", "(II)Z"⟩
def dkwX3_shows_2 : List UInt8 := [154, 0, 7, 4, 167, 0, 4, 3, 172]
abbrev dktX3_shows_2 : List UInt8 := dkwX3_shows_2 ++ []
def dkwX3_shows_1 : List UInt8 := [181, 0, 50, 42, 180, 0, 50, 154, 0, 22, 42, 28, 2, 182, 0, 175, 27, 125, 10, 127, 10, 148]
abbrev dktX3_shows_1 : List UInt8 := dkwX3_shows_1 ++ dktX3_shows_2
def dkwX3_shows_0 : List UInt8 := [42, 42, 28, 182, 0, 103, 153, 0, 17, 27, 3, 16, 63, 184, 0, 58, 153, 0, 7, 3, 167, 0, 4, 4]
abbrev dktX3_shows_0 : List UInt8 := dkwX3_shows_0 ++ dktX3_shows_1
theorem dksX3_shows_0 : cX3_shows.data.toList.drop 0 = dktX3_shows_0 := by decide +kernel
theorem dksX3_shows_1 : cX3_shows.data.toList.drop 24 = dktX3_shows_1 := dk_seg dksX3_shows_0 24 rfl rfl
theorem dksX3_shows_2 : cX3_shows.data.toList.drop 46 = dktX3_shows_2 := dk_seg dksX3_shows_1 22 rfl rfl
theorem dX3_shows_0 : decode cX3_shows 0 = .ok (.aload_n 0, 1) := dk_42 (dk_at dksX3_shows_0 0 rfl rfl)
theorem dX3_shows_1 : decode cX3_shows 1 = .ok (.aload_n 0, 1) := dk_42 (dk_at dksX3_shows_0 1 rfl rfl)
theorem dX3_shows_2 : decode cX3_shows 2 = .ok (.iload_n 2, 1) := dk_28 (dk_at dksX3_shows_0 2 rfl rfl)
theorem dX3_shows_3 : decode cX3_shows 3 = .ok (.invokevirtual 103, 3) := dk_182 0 103 (dk_at dksX3_shows_0 3 rfl rfl)
theorem dX3_shows_6 : decode cX3_shows 6 = .ok (.ifCond .eq 17, 3) := dk_153 0 17 (dk_at dksX3_shows_0 6 rfl rfl)
theorem dX3_shows_9 : decode cX3_shows 9 = .ok (.iload_n 1, 1) := dk_27 (dk_at dksX3_shows_0 9 rfl rfl)
theorem dX3_shows_10 : decode cX3_shows 10 = .ok (.iconst 0, 1) := dk_3 (dk_at dksX3_shows_0 10 rfl rfl)
theorem dX3_shows_11 : decode cX3_shows 11 = .ok (.bipush 63, 2) := dk_16 63 (dk_at dksX3_shows_0 11 rfl rfl)
theorem dX3_shows_13 : decode cX3_shows 13 = .ok (.invokestatic 58, 3) := dk_184 0 58 (dk_at dksX3_shows_0 13 rfl rfl)
theorem dX3_shows_16 : decode cX3_shows 16 = .ok (.ifCond .eq 7, 3) := dk_153 0 7 (dk_at dksX3_shows_0 16 rfl rfl)
theorem dX3_shows_19 : decode cX3_shows 19 = .ok (.iconst 0, 1) := dk_3 (dk_at dksX3_shows_0 19 rfl rfl)
theorem dX3_shows_20 : decode cX3_shows 20 = .ok (.goto 4, 3) := dk_167 0 4 (dk_at dksX3_shows_0 20 rfl rfl)
theorem dX3_shows_23 : decode cX3_shows 23 = .ok (.iconst 1, 1) := dk_4 (dk_at dksX3_shows_0 23 rfl rfl)
theorem dX3_shows_24 : decode cX3_shows 24 = .ok (.putfield 50, 3) := dk_181 0 50 (dk_at dksX3_shows_1 0 rfl rfl)
theorem dX3_shows_27 : decode cX3_shows 27 = .ok (.aload_n 0, 1) := dk_42 (dk_at dksX3_shows_1 3 rfl rfl)
theorem dX3_shows_28 : decode cX3_shows 28 = .ok (.getfield 50, 3) := dk_180 0 50 (dk_at dksX3_shows_1 4 rfl rfl)
theorem dX3_shows_31 : decode cX3_shows 31 = .ok (.ifCond .ne 22, 3) := dk_154 0 22 (dk_at dksX3_shows_1 7 rfl rfl)
theorem dX3_shows_34 : decode cX3_shows 34 = .ok (.aload_n 0, 1) := dk_42 (dk_at dksX3_shows_1 10 rfl rfl)
theorem dX3_shows_35 : decode cX3_shows 35 = .ok (.iload_n 2, 1) := dk_28 (dk_at dksX3_shows_1 11 rfl rfl)
theorem dX3_shows_36 : decode cX3_shows 36 = .ok (.iconst (-1), 1) := dk_2 (dk_at dksX3_shows_1 12 rfl rfl)
theorem dX3_shows_37 : decode cX3_shows 37 = .ok (.invokevirtual 175, 3) := dk_182 0 175 (dk_at dksX3_shows_1 13 rfl rfl)
theorem dX3_shows_40 : decode cX3_shows 40 = .ok (.iload_n 1, 1) := dk_27 (dk_at dksX3_shows_1 16 rfl rfl)
theorem dX3_shows_41 : decode cX3_shows 41 = .ok (.lushr, 1) := dk_125 (dk_at dksX3_shows_1 17 rfl rfl)
theorem dX3_shows_42 : decode cX3_shows 42 = .ok (.lconst 1, 1) := dk_10 (dk_at dksX3_shows_1 18 rfl rfl)
theorem dX3_shows_43 : decode cX3_shows 43 = .ok (.land, 1) := dk_127 (dk_at dksX3_shows_1 19 rfl rfl)
theorem dX3_shows_44 : decode cX3_shows 44 = .ok (.lconst 1, 1) := dk_10 (dk_at dksX3_shows_1 20 rfl rfl)
theorem dX3_shows_45 : decode cX3_shows 45 = .ok (.lcmp, 1) := dk_148 (dk_at dksX3_shows_1 21 rfl rfl)
theorem dX3_shows_46 : decode cX3_shows 46 = .ok (.ifCond .ne 7, 3) := dk_154 0 7 (dk_at dksX3_shows_2 0 rfl rfl)
theorem dX3_shows_49 : decode cX3_shows 49 = .ok (.iconst 1, 1) := dk_4 (dk_at dksX3_shows_2 3 rfl rfl)
theorem dX3_shows_50 : decode cX3_shows 50 = .ok (.goto 4, 3) := dk_167 0 4 (dk_at dksX3_shows_2 4 rfl rfl)
theorem dX3_shows_53 : decode cX3_shows 53 = .ok (.iconst 0, 1) := dk_3 (dk_at dksX3_shows_2 7 rfl rfl)
theorem dX3_shows_54 : decode cX3_shows 54 = .ok (.ireturn, 1) := dk_172 (dk_at dksX3_shows_2 8 rfl rfl)
abbrev cX3_testsFor : ByteArray := prog_9_method_79_code
def yX3_testsFor : MethodName := ⟨RX3, "testsFor", "(I)J"⟩
def dkwX3_testsFor_1 : List UInt8 := [9, 167, 0, 9, 42, 27, 2, 182, 0, 175, 173]
abbrev dktX3_testsFor_1 : List UInt8 := dkwX3_testsFor_1 ++ []
def dkwX3_testsFor_0 : List UInt8 := [42, 42, 27, 182, 0, 103, 153, 0, 7, 3, 167, 0, 4, 4, 181, 0, 50, 42, 180, 0, 50, 158, 0, 7]
abbrev dktX3_testsFor_0 : List UInt8 := dkwX3_testsFor_0 ++ dktX3_testsFor_1
theorem dksX3_testsFor_0 : cX3_testsFor.data.toList.drop 0 = dktX3_testsFor_0 := by decide +kernel
theorem dksX3_testsFor_1 : cX3_testsFor.data.toList.drop 24 = dktX3_testsFor_1 := dk_seg dksX3_testsFor_0 24 rfl rfl
theorem dX3_testsFor_0 : decode cX3_testsFor 0 = .ok (.aload_n 0, 1) := dk_42 (dk_at dksX3_testsFor_0 0 rfl rfl)
theorem dX3_testsFor_1 : decode cX3_testsFor 1 = .ok (.aload_n 0, 1) := dk_42 (dk_at dksX3_testsFor_0 1 rfl rfl)
theorem dX3_testsFor_2 : decode cX3_testsFor 2 = .ok (.iload_n 1, 1) := dk_27 (dk_at dksX3_testsFor_0 2 rfl rfl)
theorem dX3_testsFor_3 : decode cX3_testsFor 3 = .ok (.invokevirtual 103, 3) := dk_182 0 103 (dk_at dksX3_testsFor_0 3 rfl rfl)
theorem dX3_testsFor_6 : decode cX3_testsFor 6 = .ok (.ifCond .eq 7, 3) := dk_153 0 7 (dk_at dksX3_testsFor_0 6 rfl rfl)
theorem dX3_testsFor_9 : decode cX3_testsFor 9 = .ok (.iconst 0, 1) := dk_3 (dk_at dksX3_testsFor_0 9 rfl rfl)
theorem dX3_testsFor_10 : decode cX3_testsFor 10 = .ok (.goto 4, 3) := dk_167 0 4 (dk_at dksX3_testsFor_0 10 rfl rfl)
theorem dX3_testsFor_13 : decode cX3_testsFor 13 = .ok (.iconst 1, 1) := dk_4 (dk_at dksX3_testsFor_0 13 rfl rfl)
theorem dX3_testsFor_14 : decode cX3_testsFor 14 = .ok (.putfield 50, 3) := dk_181 0 50 (dk_at dksX3_testsFor_0 14 rfl rfl)
theorem dX3_testsFor_17 : decode cX3_testsFor 17 = .ok (.aload_n 0, 1) := dk_42 (dk_at dksX3_testsFor_0 17 rfl rfl)
theorem dX3_testsFor_18 : decode cX3_testsFor 18 = .ok (.getfield 50, 3) := dk_180 0 50 (dk_at dksX3_testsFor_0 18 rfl rfl)
theorem dX3_testsFor_21 : decode cX3_testsFor 21 = .ok (.ifCond .le 7, 3) := dk_158 0 7 (dk_at dksX3_testsFor_0 21 rfl rfl)
theorem dX3_testsFor_24 : decode cX3_testsFor 24 = .ok (.lconst 0, 1) := dk_9 (dk_at dksX3_testsFor_1 0 rfl rfl)
theorem dX3_testsFor_25 : decode cX3_testsFor 25 = .ok (.goto 9, 3) := dk_167 0 9 (dk_at dksX3_testsFor_1 1 rfl rfl)
theorem dX3_testsFor_28 : decode cX3_testsFor 28 = .ok (.aload_n 0, 1) := dk_42 (dk_at dksX3_testsFor_1 4 rfl rfl)
theorem dX3_testsFor_29 : decode cX3_testsFor 29 = .ok (.iload_n 1, 1) := dk_27 (dk_at dksX3_testsFor_1 5 rfl rfl)
theorem dX3_testsFor_30 : decode cX3_testsFor 30 = .ok (.iconst (-1), 1) := dk_2 (dk_at dksX3_testsFor_1 6 rfl rfl)
theorem dX3_testsFor_31 : decode cX3_testsFor 31 = .ok (.invokevirtual 175, 3) := dk_182 0 175 (dk_at dksX3_testsFor_1 7 rfl rfl)
theorem dX3_testsFor_34 : decode cX3_testsFor 34 = .ok (.lreturn, 1) := dk_173 (dk_at dksX3_testsFor_1 10 rfl rfl)
abbrev cX3_hiddenFaults : ByteArray := prog_9_method_80_code
def yX3_hiddenFaults : MethodName := ⟨RX3, "hiddenFaults", "()J"⟩
def dkwX3_hiddenFaults_2 : List UInt8 := [173]
abbrev dktX3_hiddenFaults_2 : List UInt8 := dkwX3_hiddenFaults_2 ++ []
def dkwX3_hiddenFaults_1 : List UInt8 := [182, 0, 175, 9, 148, 154, 0, 9, 10, 29, 121, 167, 0, 4, 9, 129, 64, 132, 3, 1, 167, 255, 222, 31]
abbrev dktX3_hiddenFaults_1 : List UInt8 := dkwX3_hiddenFaults_1 ++ dktX3_hiddenFaults_2
def dkwX3_hiddenFaults_0 : List UInt8 := [42, 3, 181, 0, 50, 9, 64, 3, 62, 29, 5, 42, 182, 0, 54, 104, 162, 0, 30, 31, 42, 29, 2]
abbrev dktX3_hiddenFaults_0 : List UInt8 := dkwX3_hiddenFaults_0 ++ dktX3_hiddenFaults_1
theorem dksX3_hiddenFaults_0 : cX3_hiddenFaults.data.toList.drop 0 = dktX3_hiddenFaults_0 := by decide +kernel
theorem dksX3_hiddenFaults_1 : cX3_hiddenFaults.data.toList.drop 23 = dktX3_hiddenFaults_1 := dk_seg dksX3_hiddenFaults_0 23 rfl rfl
theorem dksX3_hiddenFaults_2 : cX3_hiddenFaults.data.toList.drop 47 = dktX3_hiddenFaults_2 := dk_seg dksX3_hiddenFaults_1 24 rfl rfl
theorem dX3_hiddenFaults_0 : decode cX3_hiddenFaults 0 = .ok (.aload_n 0, 1) := dk_42 (dk_at dksX3_hiddenFaults_0 0 rfl rfl)
theorem dX3_hiddenFaults_1 : decode cX3_hiddenFaults 1 = .ok (.iconst 0, 1) := dk_3 (dk_at dksX3_hiddenFaults_0 1 rfl rfl)
theorem dX3_hiddenFaults_2 : decode cX3_hiddenFaults 2 = .ok (.putfield 50, 3) := dk_181 0 50 (dk_at dksX3_hiddenFaults_0 2 rfl rfl)
theorem dX3_hiddenFaults_5 : decode cX3_hiddenFaults 5 = .ok (.lconst 0, 1) := dk_9 (dk_at dksX3_hiddenFaults_0 5 rfl rfl)
theorem dX3_hiddenFaults_6 : decode cX3_hiddenFaults 6 = .ok (.lstore_n 1, 1) := dk_64 (dk_at dksX3_hiddenFaults_0 6 rfl rfl)
theorem dX3_hiddenFaults_7 : decode cX3_hiddenFaults 7 = .ok (.iconst 0, 1) := dk_3 (dk_at dksX3_hiddenFaults_0 7 rfl rfl)
theorem dX3_hiddenFaults_8 : decode cX3_hiddenFaults 8 = .ok (.istore_n 3, 1) := dk_62 (dk_at dksX3_hiddenFaults_0 8 rfl rfl)
theorem dX3_hiddenFaults_9 : decode cX3_hiddenFaults 9 = .ok (.iload_n 3, 1) := dk_29 (dk_at dksX3_hiddenFaults_0 9 rfl rfl)
theorem dX3_hiddenFaults_10 : decode cX3_hiddenFaults 10 = .ok (.iconst 2, 1) := dk_5 (dk_at dksX3_hiddenFaults_0 10 rfl rfl)
theorem dX3_hiddenFaults_11 : decode cX3_hiddenFaults 11 = .ok (.aload_n 0, 1) := dk_42 (dk_at dksX3_hiddenFaults_0 11 rfl rfl)
theorem dX3_hiddenFaults_12 : decode cX3_hiddenFaults 12 = .ok (.invokevirtual 54, 3) := dk_182 0 54 (dk_at dksX3_hiddenFaults_0 12 rfl rfl)
theorem dX3_hiddenFaults_15 : decode cX3_hiddenFaults 15 = .ok (.imul, 1) := dk_104 (dk_at dksX3_hiddenFaults_0 15 rfl rfl)
theorem dX3_hiddenFaults_16 : decode cX3_hiddenFaults 16 = .ok (.if_icmp .ge 30, 3) := dk_162 0 30 (dk_at dksX3_hiddenFaults_0 16 rfl rfl)
theorem dX3_hiddenFaults_19 : decode cX3_hiddenFaults 19 = .ok (.lload_n 1, 1) := dk_31 (dk_at dksX3_hiddenFaults_0 19 rfl rfl)
theorem dX3_hiddenFaults_20 : decode cX3_hiddenFaults 20 = .ok (.aload_n 0, 1) := dk_42 (dk_at dksX3_hiddenFaults_0 20 rfl rfl)
theorem dX3_hiddenFaults_21 : decode cX3_hiddenFaults 21 = .ok (.iload_n 3, 1) := dk_29 (dk_at dksX3_hiddenFaults_0 21 rfl rfl)
theorem dX3_hiddenFaults_22 : decode cX3_hiddenFaults 22 = .ok (.iconst (-1), 1) := dk_2 (dk_at dksX3_hiddenFaults_0 22 rfl rfl)
theorem dX3_hiddenFaults_23 : decode cX3_hiddenFaults 23 = .ok (.invokevirtual 175, 3) := dk_182 0 175 (dk_at dksX3_hiddenFaults_1 0 rfl rfl)
theorem dX3_hiddenFaults_26 : decode cX3_hiddenFaults 26 = .ok (.lconst 0, 1) := dk_9 (dk_at dksX3_hiddenFaults_1 3 rfl rfl)
theorem dX3_hiddenFaults_27 : decode cX3_hiddenFaults 27 = .ok (.lcmp, 1) := dk_148 (dk_at dksX3_hiddenFaults_1 4 rfl rfl)
theorem dX3_hiddenFaults_28 : decode cX3_hiddenFaults 28 = .ok (.ifCond .ne 9, 3) := dk_154 0 9 (dk_at dksX3_hiddenFaults_1 5 rfl rfl)
theorem dX3_hiddenFaults_31 : decode cX3_hiddenFaults 31 = .ok (.lconst 1, 1) := dk_10 (dk_at dksX3_hiddenFaults_1 8 rfl rfl)
theorem dX3_hiddenFaults_32 : decode cX3_hiddenFaults 32 = .ok (.iload_n 3, 1) := dk_29 (dk_at dksX3_hiddenFaults_1 9 rfl rfl)
theorem dX3_hiddenFaults_33 : decode cX3_hiddenFaults 33 = .ok (.lshl, 1) := dk_121 (dk_at dksX3_hiddenFaults_1 10 rfl rfl)
theorem dX3_hiddenFaults_34 : decode cX3_hiddenFaults 34 = .ok (.goto 4, 3) := dk_167 0 4 (dk_at dksX3_hiddenFaults_1 11 rfl rfl)
theorem dX3_hiddenFaults_37 : decode cX3_hiddenFaults 37 = .ok (.lconst 0, 1) := dk_9 (dk_at dksX3_hiddenFaults_1 14 rfl rfl)
theorem dX3_hiddenFaults_38 : decode cX3_hiddenFaults 38 = .ok (.lor, 1) := dk_129 (dk_at dksX3_hiddenFaults_1 15 rfl rfl)
theorem dX3_hiddenFaults_39 : decode cX3_hiddenFaults 39 = .ok (.lstore_n 1, 1) := dk_64 (dk_at dksX3_hiddenFaults_1 16 rfl rfl)
theorem dX3_hiddenFaults_40 : decode cX3_hiddenFaults 40 = .ok (.iinc 3 1, 3) := dk_132 3 1 (dk_at dksX3_hiddenFaults_1 17 rfl rfl)
theorem dX3_hiddenFaults_43 : decode cX3_hiddenFaults 43 = .ok (.goto (-34), 3) := dk_167 255 222 (dk_at dksX3_hiddenFaults_1 20 rfl rfl)
theorem dX3_hiddenFaults_46 : decode cX3_hiddenFaults 46 = .ok (.lload_n 1, 1) := dk_31 (dk_at dksX3_hiddenFaults_1 23 rfl rfl)
theorem dX3_hiddenFaults_47 : decode cX3_hiddenFaults 47 = .ok (.lreturn, 1) := dk_173 (dk_at dksX3_hiddenFaults_2 0 rfl rfl)
abbrev cX3_whyHidden : ByteArray := prog_9_method_81_code
def yX3_whyHidden : MethodName := ⟨RX3, "whyHidden", "(I)I"⟩
def dkwX3_whyHidden_3 : List UInt8 := [160, 0, 9, 20, 0, 72, 167, 0, 4, 9, 148, 154, 0, 7, 5, 167, 0, 4, 6, 172]
abbrev dktX3_whyHidden_3 : List UInt8 := dkwX3_whyHidden_3 ++ []
def dkwX3_whyHidden_2 : List UInt8 := [154, 0, 5, 4, 172, 42, 2, 2, 182, 0, 93, 42, 180, 0, 22, 27, 5, 108, 47, 27, 5, 112, 4]
abbrev dktX3_whyHidden_2 : List UInt8 := dkwX3_whyHidden_2 ++ dktX3_whyHidden_3
def dkwX3_whyHidden_1 : List UInt8 := [42, 27, 2, 182, 0, 175, 9, 148, 153, 0, 5, 3, 172, 42, 182, 0, 239, 27, 5, 108, 184, 0, 82]
abbrev dktX3_whyHidden_1 : List UInt8 := dkwX3_whyHidden_1 ++ dktX3_whyHidden_2
def dkwX3_whyHidden_0 : List UInt8 := [42, 42, 27, 182, 0, 103, 153, 0, 7, 3, 167, 0, 4, 4, 181, 0, 50, 42, 180, 0, 50, 157, 0, 14]
abbrev dktX3_whyHidden_0 : List UInt8 := dkwX3_whyHidden_0 ++ dktX3_whyHidden_1
theorem dksX3_whyHidden_0 : cX3_whyHidden.data.toList.drop 0 = dktX3_whyHidden_0 := by decide +kernel
theorem dksX3_whyHidden_1 : cX3_whyHidden.data.toList.drop 24 = dktX3_whyHidden_1 := dk_seg dksX3_whyHidden_0 24 rfl rfl
theorem dksX3_whyHidden_2 : cX3_whyHidden.data.toList.drop 47 = dktX3_whyHidden_2 := dk_seg dksX3_whyHidden_1 23 rfl rfl
theorem dksX3_whyHidden_3 : cX3_whyHidden.data.toList.drop 70 = dktX3_whyHidden_3 := dk_seg dksX3_whyHidden_2 23 rfl rfl
theorem dX3_whyHidden_0 : decode cX3_whyHidden 0 = .ok (.aload_n 0, 1) := dk_42 (dk_at dksX3_whyHidden_0 0 rfl rfl)
theorem dX3_whyHidden_1 : decode cX3_whyHidden 1 = .ok (.aload_n 0, 1) := dk_42 (dk_at dksX3_whyHidden_0 1 rfl rfl)
theorem dX3_whyHidden_2 : decode cX3_whyHidden 2 = .ok (.iload_n 1, 1) := dk_27 (dk_at dksX3_whyHidden_0 2 rfl rfl)
theorem dX3_whyHidden_3 : decode cX3_whyHidden 3 = .ok (.invokevirtual 103, 3) := dk_182 0 103 (dk_at dksX3_whyHidden_0 3 rfl rfl)
theorem dX3_whyHidden_6 : decode cX3_whyHidden 6 = .ok (.ifCond .eq 7, 3) := dk_153 0 7 (dk_at dksX3_whyHidden_0 6 rfl rfl)
theorem dX3_whyHidden_9 : decode cX3_whyHidden 9 = .ok (.iconst 0, 1) := dk_3 (dk_at dksX3_whyHidden_0 9 rfl rfl)
theorem dX3_whyHidden_10 : decode cX3_whyHidden 10 = .ok (.goto 4, 3) := dk_167 0 4 (dk_at dksX3_whyHidden_0 10 rfl rfl)
theorem dX3_whyHidden_13 : decode cX3_whyHidden 13 = .ok (.iconst 1, 1) := dk_4 (dk_at dksX3_whyHidden_0 13 rfl rfl)
theorem dX3_whyHidden_14 : decode cX3_whyHidden 14 = .ok (.putfield 50, 3) := dk_181 0 50 (dk_at dksX3_whyHidden_0 14 rfl rfl)
theorem dX3_whyHidden_17 : decode cX3_whyHidden 17 = .ok (.aload_n 0, 1) := dk_42 (dk_at dksX3_whyHidden_0 17 rfl rfl)
theorem dX3_whyHidden_18 : decode cX3_whyHidden 18 = .ok (.getfield 50, 3) := dk_180 0 50 (dk_at dksX3_whyHidden_0 18 rfl rfl)
theorem dX3_whyHidden_21 : decode cX3_whyHidden 21 = .ok (.ifCond .gt 14, 3) := dk_157 0 14 (dk_at dksX3_whyHidden_0 21 rfl rfl)
theorem dX3_whyHidden_24 : decode cX3_whyHidden 24 = .ok (.aload_n 0, 1) := dk_42 (dk_at dksX3_whyHidden_1 0 rfl rfl)
theorem dX3_whyHidden_25 : decode cX3_whyHidden 25 = .ok (.iload_n 1, 1) := dk_27 (dk_at dksX3_whyHidden_1 1 rfl rfl)
theorem dX3_whyHidden_26 : decode cX3_whyHidden 26 = .ok (.iconst (-1), 1) := dk_2 (dk_at dksX3_whyHidden_1 2 rfl rfl)
theorem dX3_whyHidden_27 : decode cX3_whyHidden 27 = .ok (.invokevirtual 175, 3) := dk_182 0 175 (dk_at dksX3_whyHidden_1 3 rfl rfl)
theorem dX3_whyHidden_30 : decode cX3_whyHidden 30 = .ok (.lconst 0, 1) := dk_9 (dk_at dksX3_whyHidden_1 6 rfl rfl)
theorem dX3_whyHidden_31 : decode cX3_whyHidden 31 = .ok (.lcmp, 1) := dk_148 (dk_at dksX3_whyHidden_1 7 rfl rfl)
theorem dX3_whyHidden_32 : decode cX3_whyHidden 32 = .ok (.ifCond .eq 5, 3) := dk_153 0 5 (dk_at dksX3_whyHidden_1 8 rfl rfl)
theorem dX3_whyHidden_35 : decode cX3_whyHidden 35 = .ok (.iconst 0, 1) := dk_3 (dk_at dksX3_whyHidden_1 11 rfl rfl)
theorem dX3_whyHidden_36 : decode cX3_whyHidden 36 = .ok (.ireturn, 1) := dk_172 (dk_at dksX3_whyHidden_1 12 rfl rfl)
theorem dX3_whyHidden_37 : decode cX3_whyHidden 37 = .ok (.aload_n 0, 1) := dk_42 (dk_at dksX3_whyHidden_1 13 rfl rfl)
theorem dX3_whyHidden_38 : decode cX3_whyHidden 38 = .ok (.invokevirtual 239, 3) := dk_182 0 239 (dk_at dksX3_whyHidden_1 14 rfl rfl)
theorem dX3_whyHidden_41 : decode cX3_whyHidden 41 = .ok (.iload_n 1, 1) := dk_27 (dk_at dksX3_whyHidden_1 17 rfl rfl)
theorem dX3_whyHidden_42 : decode cX3_whyHidden 42 = .ok (.iconst 2, 1) := dk_5 (dk_at dksX3_whyHidden_1 18 rfl rfl)
theorem dX3_whyHidden_43 : decode cX3_whyHidden 43 = .ok (.idiv, 1) := dk_108 (dk_at dksX3_whyHidden_1 19 rfl rfl)
theorem dX3_whyHidden_44 : decode cX3_whyHidden 44 = .ok (.invokestatic 82, 3) := dk_184 0 82 (dk_at dksX3_whyHidden_1 20 rfl rfl)
theorem dX3_whyHidden_47 : decode cX3_whyHidden 47 = .ok (.ifCond .ne 5, 3) := dk_154 0 5 (dk_at dksX3_whyHidden_2 0 rfl rfl)
theorem dX3_whyHidden_50 : decode cX3_whyHidden 50 = .ok (.iconst 1, 1) := dk_4 (dk_at dksX3_whyHidden_2 3 rfl rfl)
theorem dX3_whyHidden_51 : decode cX3_whyHidden 51 = .ok (.ireturn, 1) := dk_172 (dk_at dksX3_whyHidden_2 4 rfl rfl)
theorem dX3_whyHidden_52 : decode cX3_whyHidden 52 = .ok (.aload_n 0, 1) := dk_42 (dk_at dksX3_whyHidden_2 5 rfl rfl)
theorem dX3_whyHidden_53 : decode cX3_whyHidden 53 = .ok (.iconst (-1), 1) := dk_2 (dk_at dksX3_whyHidden_2 6 rfl rfl)
theorem dX3_whyHidden_54 : decode cX3_whyHidden 54 = .ok (.iconst (-1), 1) := dk_2 (dk_at dksX3_whyHidden_2 7 rfl rfl)
theorem dX3_whyHidden_55 : decode cX3_whyHidden 55 = .ok (.invokevirtual 93, 3) := dk_182 0 93 (dk_at dksX3_whyHidden_2 8 rfl rfl)
theorem dX3_whyHidden_58 : decode cX3_whyHidden 58 = .ok (.aload_n 0, 1) := dk_42 (dk_at dksX3_whyHidden_2 11 rfl rfl)
theorem dX3_whyHidden_59 : decode cX3_whyHidden 59 = .ok (.getfield 22, 3) := dk_180 0 22 (dk_at dksX3_whyHidden_2 12 rfl rfl)
theorem dX3_whyHidden_62 : decode cX3_whyHidden 62 = .ok (.iload_n 1, 1) := dk_27 (dk_at dksX3_whyHidden_2 15 rfl rfl)
theorem dX3_whyHidden_63 : decode cX3_whyHidden 63 = .ok (.iconst 2, 1) := dk_5 (dk_at dksX3_whyHidden_2 16 rfl rfl)
theorem dX3_whyHidden_64 : decode cX3_whyHidden 64 = .ok (.idiv, 1) := dk_108 (dk_at dksX3_whyHidden_2 17 rfl rfl)
theorem dX3_whyHidden_65 : decode cX3_whyHidden 65 = .ok (.laload, 1) := dk_47 (dk_at dksX3_whyHidden_2 18 rfl rfl)
theorem dX3_whyHidden_66 : decode cX3_whyHidden 66 = .ok (.iload_n 1, 1) := dk_27 (dk_at dksX3_whyHidden_2 19 rfl rfl)
theorem dX3_whyHidden_67 : decode cX3_whyHidden 67 = .ok (.iconst 2, 1) := dk_5 (dk_at dksX3_whyHidden_2 20 rfl rfl)
theorem dX3_whyHidden_68 : decode cX3_whyHidden 68 = .ok (.irem, 1) := dk_112 (dk_at dksX3_whyHidden_2 21 rfl rfl)
theorem dX3_whyHidden_69 : decode cX3_whyHidden 69 = .ok (.iconst 1, 1) := dk_4 (dk_at dksX3_whyHidden_2 22 rfl rfl)
theorem dX3_whyHidden_70 : decode cX3_whyHidden 70 = .ok (.if_icmp .ne 9, 3) := dk_160 0 9 (dk_at dksX3_whyHidden_3 0 rfl rfl)
theorem dX3_whyHidden_73 : decode cX3_whyHidden 73 = .ok (.ldc2_w 72, 3) := dk_20 0 72 (dk_at dksX3_whyHidden_3 3 rfl rfl)
theorem dX3_whyHidden_76 : decode cX3_whyHidden 76 = .ok (.goto 4, 3) := dk_167 0 4 (dk_at dksX3_whyHidden_3 6 rfl rfl)
theorem dX3_whyHidden_79 : decode cX3_whyHidden 79 = .ok (.lconst 0, 1) := dk_9 (dk_at dksX3_whyHidden_3 9 rfl rfl)
theorem dX3_whyHidden_80 : decode cX3_whyHidden 80 = .ok (.lcmp, 1) := dk_148 (dk_at dksX3_whyHidden_3 10 rfl rfl)
theorem dX3_whyHidden_81 : decode cX3_whyHidden 81 = .ok (.ifCond .ne 7, 3) := dk_154 0 7 (dk_at dksX3_whyHidden_3 11 rfl rfl)
theorem dX3_whyHidden_84 : decode cX3_whyHidden 84 = .ok (.iconst 2, 1) := dk_5 (dk_at dksX3_whyHidden_3 14 rfl rfl)
theorem dX3_whyHidden_85 : decode cX3_whyHidden 85 = .ok (.goto 4, 3) := dk_167 0 4 (dk_at dksX3_whyHidden_3 15 rfl rfl)
theorem dX3_whyHidden_88 : decode cX3_whyHidden 88 = .ok (.iconst 3, 1) := dk_6 (dk_at dksX3_whyHidden_3 18 rfl rfl)
theorem dX3_whyHidden_89 : decode cX3_whyHidden 89 = .ok (.ireturn, 1) := dk_172 (dk_at dksX3_whyHidden_3 19 rfl rfl)
abbrev cX3_alike : ByteArray := prog_9_method_82_code
def yX3_alike : MethodName := ⟨RX3, "alike", "(I)J"⟩
def dkwX3_alike_2 : List UInt8 := [9, 148, 154, 0, 10, 10, 21, 4, 121, 167, 0, 4, 9, 129, 65, 132, 4, 1, 167, 255, 212, 32, 173]
abbrev dktX3_alike_2 : List UInt8 := dkwX3_alike_2 ++ []
def dkwX3_alike_1 : List UInt8 := [5, 42, 182, 0, 54, 104, 162, 0, 39, 42, 180, 0, 50, 154, 0, 32, 32, 42, 21, 4, 27, 182, 0, 175]
abbrev dktX3_alike_1 : List UInt8 := dkwX3_alike_1 ++ dktX3_alike_2
def dkwX3_alike_0 : List UInt8 := [42, 42, 27, 182, 0, 103, 153, 0, 7, 3, 167, 0, 4, 4, 181, 0, 50, 9, 65, 3, 54, 4, 21, 4]
abbrev dktX3_alike_0 : List UInt8 := dkwX3_alike_0 ++ dktX3_alike_1
theorem dksX3_alike_0 : cX3_alike.data.toList.drop 0 = dktX3_alike_0 := by decide +kernel
theorem dksX3_alike_1 : cX3_alike.data.toList.drop 24 = dktX3_alike_1 := dk_seg dksX3_alike_0 24 rfl rfl
theorem dksX3_alike_2 : cX3_alike.data.toList.drop 48 = dktX3_alike_2 := dk_seg dksX3_alike_1 24 rfl rfl
theorem dX3_alike_0 : decode cX3_alike 0 = .ok (.aload_n 0, 1) := dk_42 (dk_at dksX3_alike_0 0 rfl rfl)
theorem dX3_alike_1 : decode cX3_alike 1 = .ok (.aload_n 0, 1) := dk_42 (dk_at dksX3_alike_0 1 rfl rfl)
theorem dX3_alike_2 : decode cX3_alike 2 = .ok (.iload_n 1, 1) := dk_27 (dk_at dksX3_alike_0 2 rfl rfl)
theorem dX3_alike_3 : decode cX3_alike 3 = .ok (.invokevirtual 103, 3) := dk_182 0 103 (dk_at dksX3_alike_0 3 rfl rfl)
theorem dX3_alike_6 : decode cX3_alike 6 = .ok (.ifCond .eq 7, 3) := dk_153 0 7 (dk_at dksX3_alike_0 6 rfl rfl)
theorem dX3_alike_9 : decode cX3_alike 9 = .ok (.iconst 0, 1) := dk_3 (dk_at dksX3_alike_0 9 rfl rfl)
theorem dX3_alike_10 : decode cX3_alike 10 = .ok (.goto 4, 3) := dk_167 0 4 (dk_at dksX3_alike_0 10 rfl rfl)
theorem dX3_alike_13 : decode cX3_alike 13 = .ok (.iconst 1, 1) := dk_4 (dk_at dksX3_alike_0 13 rfl rfl)
theorem dX3_alike_14 : decode cX3_alike 14 = .ok (.putfield 50, 3) := dk_181 0 50 (dk_at dksX3_alike_0 14 rfl rfl)
theorem dX3_alike_17 : decode cX3_alike 17 = .ok (.lconst 0, 1) := dk_9 (dk_at dksX3_alike_0 17 rfl rfl)
theorem dX3_alike_18 : decode cX3_alike 18 = .ok (.lstore_n 2, 1) := dk_65 (dk_at dksX3_alike_0 18 rfl rfl)
theorem dX3_alike_19 : decode cX3_alike 19 = .ok (.iconst 0, 1) := dk_3 (dk_at dksX3_alike_0 19 rfl rfl)
theorem dX3_alike_20 : decode cX3_alike 20 = .ok (.istore 4, 2) := dk_54 4 (dk_at dksX3_alike_0 20 rfl rfl)
theorem dX3_alike_22 : decode cX3_alike 22 = .ok (.iload 4, 2) := dk_21 4 (dk_at dksX3_alike_0 22 rfl rfl)
theorem dX3_alike_24 : decode cX3_alike 24 = .ok (.iconst 2, 1) := dk_5 (dk_at dksX3_alike_1 0 rfl rfl)
theorem dX3_alike_25 : decode cX3_alike 25 = .ok (.aload_n 0, 1) := dk_42 (dk_at dksX3_alike_1 1 rfl rfl)
theorem dX3_alike_26 : decode cX3_alike 26 = .ok (.invokevirtual 54, 3) := dk_182 0 54 (dk_at dksX3_alike_1 2 rfl rfl)
theorem dX3_alike_29 : decode cX3_alike 29 = .ok (.imul, 1) := dk_104 (dk_at dksX3_alike_1 5 rfl rfl)
theorem dX3_alike_30 : decode cX3_alike 30 = .ok (.if_icmp .ge 39, 3) := dk_162 0 39 (dk_at dksX3_alike_1 6 rfl rfl)
theorem dX3_alike_33 : decode cX3_alike 33 = .ok (.aload_n 0, 1) := dk_42 (dk_at dksX3_alike_1 9 rfl rfl)
theorem dX3_alike_34 : decode cX3_alike 34 = .ok (.getfield 50, 3) := dk_180 0 50 (dk_at dksX3_alike_1 10 rfl rfl)
theorem dX3_alike_37 : decode cX3_alike 37 = .ok (.ifCond .ne 32, 3) := dk_154 0 32 (dk_at dksX3_alike_1 13 rfl rfl)
theorem dX3_alike_40 : decode cX3_alike 40 = .ok (.lload_n 2, 1) := dk_32 (dk_at dksX3_alike_1 16 rfl rfl)
theorem dX3_alike_41 : decode cX3_alike 41 = .ok (.aload_n 0, 1) := dk_42 (dk_at dksX3_alike_1 17 rfl rfl)
theorem dX3_alike_42 : decode cX3_alike 42 = .ok (.iload 4, 2) := dk_21 4 (dk_at dksX3_alike_1 18 rfl rfl)
theorem dX3_alike_44 : decode cX3_alike 44 = .ok (.iload_n 1, 1) := dk_27 (dk_at dksX3_alike_1 20 rfl rfl)
theorem dX3_alike_45 : decode cX3_alike 45 = .ok (.invokevirtual 175, 3) := dk_182 0 175 (dk_at dksX3_alike_1 21 rfl rfl)
theorem dX3_alike_48 : decode cX3_alike 48 = .ok (.lconst 0, 1) := dk_9 (dk_at dksX3_alike_2 0 rfl rfl)
theorem dX3_alike_49 : decode cX3_alike 49 = .ok (.lcmp, 1) := dk_148 (dk_at dksX3_alike_2 1 rfl rfl)
theorem dX3_alike_50 : decode cX3_alike 50 = .ok (.ifCond .ne 10, 3) := dk_154 0 10 (dk_at dksX3_alike_2 2 rfl rfl)
theorem dX3_alike_53 : decode cX3_alike 53 = .ok (.lconst 1, 1) := dk_10 (dk_at dksX3_alike_2 5 rfl rfl)
theorem dX3_alike_54 : decode cX3_alike 54 = .ok (.iload 4, 2) := dk_21 4 (dk_at dksX3_alike_2 6 rfl rfl)
theorem dX3_alike_56 : decode cX3_alike 56 = .ok (.lshl, 1) := dk_121 (dk_at dksX3_alike_2 8 rfl rfl)
theorem dX3_alike_57 : decode cX3_alike 57 = .ok (.goto 4, 3) := dk_167 0 4 (dk_at dksX3_alike_2 9 rfl rfl)
theorem dX3_alike_60 : decode cX3_alike 60 = .ok (.lconst 0, 1) := dk_9 (dk_at dksX3_alike_2 12 rfl rfl)
theorem dX3_alike_61 : decode cX3_alike 61 = .ok (.lor, 1) := dk_129 (dk_at dksX3_alike_2 13 rfl rfl)
theorem dX3_alike_62 : decode cX3_alike 62 = .ok (.lstore_n 2, 1) := dk_65 (dk_at dksX3_alike_2 14 rfl rfl)
theorem dX3_alike_63 : decode cX3_alike 63 = .ok (.iinc 4 1, 3) := dk_132 4 1 (dk_at dksX3_alike_2 15 rfl rfl)
theorem dX3_alike_66 : decode cX3_alike 66 = .ok (.goto (-44), 3) := dk_167 255 212 (dk_at dksX3_alike_2 18 rfl rfl)
theorem dX3_alike_69 : decode cX3_alike 69 = .ok (.lload_n 2, 1) := dk_32 (dk_at dksX3_alike_2 21 rfl rfl)
theorem dX3_alike_70 : decode cX3_alike 70 = .ok (.lreturn, 1) := dk_173 (dk_at dksX3_alike_2 22 rfl rfl)
abbrev cX3_looks : ByteArray := prog_9_method_83_code
def yX3_looks : MethodName := ⟨RX3, "looks", "(Z)I"⟩
def dkwX3_looks_9 : List UInt8 := [61, 132, 3, 1, 167, 255, 52, 28, 172]
abbrev dktX3_looks_9 : List UInt8 := dkwX3_looks_9 ++ []
def dkwX3_looks_8 : List UInt8 := [167, 0, 4, 3, 54, 4, 132, 5, 1, 167, 255, 139, 28, 21, 4, 153, 0, 7, 4, 167, 0, 4, 3, 96]
abbrev dktX3_looks_8 : List UInt8 := dkwX3_looks_8 ++ dktX3_looks_9
def dkwX3_looks_7 : List UInt8 := [7, 21, 5, 104, 6, 96, 47, 42, 180, 0, 32, 7, 29, 104, 6, 96, 47, 148, 153, 0, 7, 4]
abbrev dktX3_looks_7 : List UInt8 := dkwX3_looks_7 ++ dktX3_looks_8
def dkwX3_looks_6 : List UInt8 := [21, 5, 104, 5, 96, 47, 42, 180, 0, 32, 7, 29, 104, 5, 96, 47, 148, 154, 0, 28, 42, 180, 0, 32]
abbrev dktX3_looks_6 : List UInt8 := dkwX3_looks_6 ++ dktX3_looks_7
def dkwX3_looks_5 : List UInt8 := [104, 4, 96, 47, 42, 180, 0, 32, 7, 29, 104, 4, 96, 47, 148, 154, 0, 53, 42, 180, 0, 32, 7]
abbrev dktX3_looks_5 : List UInt8 := dkwX3_looks_5 ++ dktX3_looks_6
def dkwX3_looks_4 : List UInt8 := [7, 21, 5, 104, 47, 42, 180, 0, 32, 7, 29, 104, 47, 148, 154, 0, 78, 42, 180, 0, 32, 7, 21, 5]
abbrev dktX3_looks_4 : List UInt8 := dkwX3_looks_4 ++ dktX3_looks_5
def dkwX3_looks_3 : List UInt8 := [167, 255, 216, 4, 54, 4, 3, 54, 5, 21, 5, 29, 162, 0, 117, 21, 4, 153, 0, 103, 42, 180, 0, 32]
abbrev dktX3_looks_3 : List UInt8 := dkwX3_looks_3 ++ dktX3_looks_4
def dkwX3_looks_2 : List UInt8 := [42, 180, 0, 90, 162, 0, 13, 42, 180, 0, 26, 21, 4, 47, 167, 0, 4, 9, 80, 132, 4, 1]
abbrev dktX3_looks_2 : List UInt8 := dkwX3_looks_2 ++ dktX3_looks_3
def dkwX3_looks_1 : List UInt8 := [182, 0, 93, 3, 54, 4, 21, 4, 7, 162, 0, 40, 42, 180, 0, 32, 7, 29, 104, 21, 4, 96, 21, 4]
abbrev dktX3_looks_1 : List UInt8 := dkwX3_looks_1 ++ dktX3_looks_2
def dkwX3_looks_0 : List UInt8 := [42, 3, 181, 0, 50, 3, 61, 3, 62, 29, 5, 42, 182, 0, 54, 104, 162, 0, 200, 42, 2, 29]
abbrev dktX3_looks_0 : List UInt8 := dkwX3_looks_0 ++ dktX3_looks_1
theorem dksX3_looks_0 : cX3_looks.data.toList.drop 0 = dktX3_looks_0 := by decide +kernel
theorem dksX3_looks_1 : cX3_looks.data.toList.drop 22 = dktX3_looks_1 := dk_seg dksX3_looks_0 22 rfl rfl
theorem dksX3_looks_2 : cX3_looks.data.toList.drop 46 = dktX3_looks_2 := dk_seg dksX3_looks_1 24 rfl rfl
theorem dksX3_looks_3 : cX3_looks.data.toList.drop 68 = dktX3_looks_3 := dk_seg dksX3_looks_2 22 rfl rfl
theorem dksX3_looks_4 : cX3_looks.data.toList.drop 92 = dktX3_looks_4 := dk_seg dksX3_looks_3 24 rfl rfl
theorem dksX3_looks_5 : cX3_looks.data.toList.drop 116 = dktX3_looks_5 := dk_seg dksX3_looks_4 24 rfl rfl
theorem dksX3_looks_6 : cX3_looks.data.toList.drop 139 = dktX3_looks_6 := dk_seg dksX3_looks_5 23 rfl rfl
theorem dksX3_looks_7 : cX3_looks.data.toList.drop 163 = dktX3_looks_7 := dk_seg dksX3_looks_6 24 rfl rfl
theorem dksX3_looks_8 : cX3_looks.data.toList.drop 185 = dktX3_looks_8 := dk_seg dksX3_looks_7 22 rfl rfl
theorem dksX3_looks_9 : cX3_looks.data.toList.drop 209 = dktX3_looks_9 := dk_seg dksX3_looks_8 24 rfl rfl
theorem dX3_looks_0 : decode cX3_looks 0 = .ok (.aload_n 0, 1) := dk_42 (dk_at dksX3_looks_0 0 rfl rfl)
theorem dX3_looks_1 : decode cX3_looks 1 = .ok (.iconst 0, 1) := dk_3 (dk_at dksX3_looks_0 1 rfl rfl)
theorem dX3_looks_2 : decode cX3_looks 2 = .ok (.putfield 50, 3) := dk_181 0 50 (dk_at dksX3_looks_0 2 rfl rfl)
theorem dX3_looks_5 : decode cX3_looks 5 = .ok (.iconst 0, 1) := dk_3 (dk_at dksX3_looks_0 5 rfl rfl)
theorem dX3_looks_6 : decode cX3_looks 6 = .ok (.istore_n 2, 1) := dk_61 (dk_at dksX3_looks_0 6 rfl rfl)
theorem dX3_looks_7 : decode cX3_looks 7 = .ok (.iconst 0, 1) := dk_3 (dk_at dksX3_looks_0 7 rfl rfl)
theorem dX3_looks_8 : decode cX3_looks 8 = .ok (.istore_n 3, 1) := dk_62 (dk_at dksX3_looks_0 8 rfl rfl)
theorem dX3_looks_9 : decode cX3_looks 9 = .ok (.iload_n 3, 1) := dk_29 (dk_at dksX3_looks_0 9 rfl rfl)
theorem dX3_looks_10 : decode cX3_looks 10 = .ok (.iconst 2, 1) := dk_5 (dk_at dksX3_looks_0 10 rfl rfl)
theorem dX3_looks_11 : decode cX3_looks 11 = .ok (.aload_n 0, 1) := dk_42 (dk_at dksX3_looks_0 11 rfl rfl)
theorem dX3_looks_12 : decode cX3_looks 12 = .ok (.invokevirtual 54, 3) := dk_182 0 54 (dk_at dksX3_looks_0 12 rfl rfl)
theorem dX3_looks_15 : decode cX3_looks 15 = .ok (.imul, 1) := dk_104 (dk_at dksX3_looks_0 15 rfl rfl)
theorem dX3_looks_16 : decode cX3_looks 16 = .ok (.if_icmp .ge 200, 3) := dk_162 0 200 (dk_at dksX3_looks_0 16 rfl rfl)
theorem dX3_looks_19 : decode cX3_looks 19 = .ok (.aload_n 0, 1) := dk_42 (dk_at dksX3_looks_0 19 rfl rfl)
theorem dX3_looks_20 : decode cX3_looks 20 = .ok (.iconst (-1), 1) := dk_2 (dk_at dksX3_looks_0 20 rfl rfl)
theorem dX3_looks_21 : decode cX3_looks 21 = .ok (.iload_n 3, 1) := dk_29 (dk_at dksX3_looks_0 21 rfl rfl)
theorem dX3_looks_22 : decode cX3_looks 22 = .ok (.invokevirtual 93, 3) := dk_182 0 93 (dk_at dksX3_looks_1 0 rfl rfl)
theorem dX3_looks_25 : decode cX3_looks 25 = .ok (.iconst 0, 1) := dk_3 (dk_at dksX3_looks_1 3 rfl rfl)
theorem dX3_looks_26 : decode cX3_looks 26 = .ok (.istore 4, 2) := dk_54 4 (dk_at dksX3_looks_1 4 rfl rfl)
theorem dX3_looks_28 : decode cX3_looks 28 = .ok (.iload 4, 2) := dk_21 4 (dk_at dksX3_looks_1 6 rfl rfl)
theorem dX3_looks_30 : decode cX3_looks 30 = .ok (.iconst 4, 1) := dk_7 (dk_at dksX3_looks_1 8 rfl rfl)
theorem dX3_looks_31 : decode cX3_looks 31 = .ok (.if_icmp .ge 40, 3) := dk_162 0 40 (dk_at dksX3_looks_1 9 rfl rfl)
theorem dX3_looks_34 : decode cX3_looks 34 = .ok (.aload_n 0, 1) := dk_42 (dk_at dksX3_looks_1 12 rfl rfl)
theorem dX3_looks_35 : decode cX3_looks 35 = .ok (.getfield 32, 3) := dk_180 0 32 (dk_at dksX3_looks_1 13 rfl rfl)
theorem dX3_looks_38 : decode cX3_looks 38 = .ok (.iconst 4, 1) := dk_7 (dk_at dksX3_looks_1 16 rfl rfl)
theorem dX3_looks_39 : decode cX3_looks 39 = .ok (.iload_n 3, 1) := dk_29 (dk_at dksX3_looks_1 17 rfl rfl)
theorem dX3_looks_40 : decode cX3_looks 40 = .ok (.imul, 1) := dk_104 (dk_at dksX3_looks_1 18 rfl rfl)
theorem dX3_looks_41 : decode cX3_looks 41 = .ok (.iload 4, 2) := dk_21 4 (dk_at dksX3_looks_1 19 rfl rfl)
theorem dX3_looks_43 : decode cX3_looks 43 = .ok (.iadd, 1) := dk_96 (dk_at dksX3_looks_1 21 rfl rfl)
theorem dX3_looks_44 : decode cX3_looks 44 = .ok (.iload 4, 2) := dk_21 4 (dk_at dksX3_looks_1 22 rfl rfl)
theorem dX3_looks_46 : decode cX3_looks 46 = .ok (.aload_n 0, 1) := dk_42 (dk_at dksX3_looks_2 0 rfl rfl)
theorem dX3_looks_47 : decode cX3_looks 47 = .ok (.getfield 90, 3) := dk_180 0 90 (dk_at dksX3_looks_2 1 rfl rfl)
theorem dX3_looks_50 : decode cX3_looks 50 = .ok (.if_icmp .ge 13, 3) := dk_162 0 13 (dk_at dksX3_looks_2 4 rfl rfl)
theorem dX3_looks_53 : decode cX3_looks 53 = .ok (.aload_n 0, 1) := dk_42 (dk_at dksX3_looks_2 7 rfl rfl)
theorem dX3_looks_54 : decode cX3_looks 54 = .ok (.getfield 26, 3) := dk_180 0 26 (dk_at dksX3_looks_2 8 rfl rfl)
theorem dX3_looks_57 : decode cX3_looks 57 = .ok (.iload 4, 2) := dk_21 4 (dk_at dksX3_looks_2 11 rfl rfl)
theorem dX3_looks_59 : decode cX3_looks 59 = .ok (.laload, 1) := dk_47 (dk_at dksX3_looks_2 13 rfl rfl)
theorem dX3_looks_60 : decode cX3_looks 60 = .ok (.goto 4, 3) := dk_167 0 4 (dk_at dksX3_looks_2 14 rfl rfl)
theorem dX3_looks_63 : decode cX3_looks 63 = .ok (.lconst 0, 1) := dk_9 (dk_at dksX3_looks_2 17 rfl rfl)
theorem dX3_looks_64 : decode cX3_looks 64 = .ok (.lastore, 1) := dk_80 (dk_at dksX3_looks_2 18 rfl rfl)
theorem dX3_looks_65 : decode cX3_looks 65 = .ok (.iinc 4 1, 3) := dk_132 4 1 (dk_at dksX3_looks_2 19 rfl rfl)
theorem dX3_looks_68 : decode cX3_looks 68 = .ok (.goto (-40), 3) := dk_167 255 216 (dk_at dksX3_looks_3 0 rfl rfl)
theorem dX3_looks_71 : decode cX3_looks 71 = .ok (.iconst 1, 1) := dk_4 (dk_at dksX3_looks_3 3 rfl rfl)
theorem dX3_looks_72 : decode cX3_looks 72 = .ok (.istore 4, 2) := dk_54 4 (dk_at dksX3_looks_3 4 rfl rfl)
theorem dX3_looks_74 : decode cX3_looks 74 = .ok (.iconst 0, 1) := dk_3 (dk_at dksX3_looks_3 6 rfl rfl)
theorem dX3_looks_75 : decode cX3_looks 75 = .ok (.istore 5, 2) := dk_54 5 (dk_at dksX3_looks_3 7 rfl rfl)
theorem dX3_looks_77 : decode cX3_looks 77 = .ok (.iload 5, 2) := dk_21 5 (dk_at dksX3_looks_3 9 rfl rfl)
theorem dX3_looks_79 : decode cX3_looks 79 = .ok (.iload_n 3, 1) := dk_29 (dk_at dksX3_looks_3 11 rfl rfl)
theorem dX3_looks_80 : decode cX3_looks 80 = .ok (.if_icmp .ge 117, 3) := dk_162 0 117 (dk_at dksX3_looks_3 12 rfl rfl)
theorem dX3_looks_83 : decode cX3_looks 83 = .ok (.iload 4, 2) := dk_21 4 (dk_at dksX3_looks_3 15 rfl rfl)
theorem dX3_looks_85 : decode cX3_looks 85 = .ok (.ifCond .eq 103, 3) := dk_153 0 103 (dk_at dksX3_looks_3 17 rfl rfl)
theorem dX3_looks_88 : decode cX3_looks 88 = .ok (.aload_n 0, 1) := dk_42 (dk_at dksX3_looks_3 20 rfl rfl)
theorem dX3_looks_89 : decode cX3_looks 89 = .ok (.getfield 32, 3) := dk_180 0 32 (dk_at dksX3_looks_3 21 rfl rfl)
theorem dX3_looks_92 : decode cX3_looks 92 = .ok (.iconst 4, 1) := dk_7 (dk_at dksX3_looks_4 0 rfl rfl)
theorem dX3_looks_93 : decode cX3_looks 93 = .ok (.iload 5, 2) := dk_21 5 (dk_at dksX3_looks_4 1 rfl rfl)
theorem dX3_looks_95 : decode cX3_looks 95 = .ok (.imul, 1) := dk_104 (dk_at dksX3_looks_4 3 rfl rfl)
theorem dX3_looks_96 : decode cX3_looks 96 = .ok (.laload, 1) := dk_47 (dk_at dksX3_looks_4 4 rfl rfl)
theorem dX3_looks_97 : decode cX3_looks 97 = .ok (.aload_n 0, 1) := dk_42 (dk_at dksX3_looks_4 5 rfl rfl)
theorem dX3_looks_98 : decode cX3_looks 98 = .ok (.getfield 32, 3) := dk_180 0 32 (dk_at dksX3_looks_4 6 rfl rfl)
theorem dX3_looks_101 : decode cX3_looks 101 = .ok (.iconst 4, 1) := dk_7 (dk_at dksX3_looks_4 9 rfl rfl)
theorem dX3_looks_102 : decode cX3_looks 102 = .ok (.iload_n 3, 1) := dk_29 (dk_at dksX3_looks_4 10 rfl rfl)
theorem dX3_looks_103 : decode cX3_looks 103 = .ok (.imul, 1) := dk_104 (dk_at dksX3_looks_4 11 rfl rfl)
theorem dX3_looks_104 : decode cX3_looks 104 = .ok (.laload, 1) := dk_47 (dk_at dksX3_looks_4 12 rfl rfl)
theorem dX3_looks_105 : decode cX3_looks 105 = .ok (.lcmp, 1) := dk_148 (dk_at dksX3_looks_4 13 rfl rfl)
theorem dX3_looks_106 : decode cX3_looks 106 = .ok (.ifCond .ne 78, 3) := dk_154 0 78 (dk_at dksX3_looks_4 14 rfl rfl)
theorem dX3_looks_109 : decode cX3_looks 109 = .ok (.aload_n 0, 1) := dk_42 (dk_at dksX3_looks_4 17 rfl rfl)
theorem dX3_looks_110 : decode cX3_looks 110 = .ok (.getfield 32, 3) := dk_180 0 32 (dk_at dksX3_looks_4 18 rfl rfl)
theorem dX3_looks_113 : decode cX3_looks 113 = .ok (.iconst 4, 1) := dk_7 (dk_at dksX3_looks_4 21 rfl rfl)
theorem dX3_looks_114 : decode cX3_looks 114 = .ok (.iload 5, 2) := dk_21 5 (dk_at dksX3_looks_4 22 rfl rfl)
theorem dX3_looks_116 : decode cX3_looks 116 = .ok (.imul, 1) := dk_104 (dk_at dksX3_looks_5 0 rfl rfl)
theorem dX3_looks_117 : decode cX3_looks 117 = .ok (.iconst 1, 1) := dk_4 (dk_at dksX3_looks_5 1 rfl rfl)
theorem dX3_looks_118 : decode cX3_looks 118 = .ok (.iadd, 1) := dk_96 (dk_at dksX3_looks_5 2 rfl rfl)
theorem dX3_looks_119 : decode cX3_looks 119 = .ok (.laload, 1) := dk_47 (dk_at dksX3_looks_5 3 rfl rfl)
theorem dX3_looks_120 : decode cX3_looks 120 = .ok (.aload_n 0, 1) := dk_42 (dk_at dksX3_looks_5 4 rfl rfl)
theorem dX3_looks_121 : decode cX3_looks 121 = .ok (.getfield 32, 3) := dk_180 0 32 (dk_at dksX3_looks_5 5 rfl rfl)
theorem dX3_looks_124 : decode cX3_looks 124 = .ok (.iconst 4, 1) := dk_7 (dk_at dksX3_looks_5 8 rfl rfl)
theorem dX3_looks_125 : decode cX3_looks 125 = .ok (.iload_n 3, 1) := dk_29 (dk_at dksX3_looks_5 9 rfl rfl)
theorem dX3_looks_126 : decode cX3_looks 126 = .ok (.imul, 1) := dk_104 (dk_at dksX3_looks_5 10 rfl rfl)
theorem dX3_looks_127 : decode cX3_looks 127 = .ok (.iconst 1, 1) := dk_4 (dk_at dksX3_looks_5 11 rfl rfl)
theorem dX3_looks_128 : decode cX3_looks 128 = .ok (.iadd, 1) := dk_96 (dk_at dksX3_looks_5 12 rfl rfl)
theorem dX3_looks_129 : decode cX3_looks 129 = .ok (.laload, 1) := dk_47 (dk_at dksX3_looks_5 13 rfl rfl)
theorem dX3_looks_130 : decode cX3_looks 130 = .ok (.lcmp, 1) := dk_148 (dk_at dksX3_looks_5 14 rfl rfl)
theorem dX3_looks_131 : decode cX3_looks 131 = .ok (.ifCond .ne 53, 3) := dk_154 0 53 (dk_at dksX3_looks_5 15 rfl rfl)
theorem dX3_looks_134 : decode cX3_looks 134 = .ok (.aload_n 0, 1) := dk_42 (dk_at dksX3_looks_5 18 rfl rfl)
theorem dX3_looks_135 : decode cX3_looks 135 = .ok (.getfield 32, 3) := dk_180 0 32 (dk_at dksX3_looks_5 19 rfl rfl)
theorem dX3_looks_138 : decode cX3_looks 138 = .ok (.iconst 4, 1) := dk_7 (dk_at dksX3_looks_5 22 rfl rfl)
theorem dX3_looks_139 : decode cX3_looks 139 = .ok (.iload 5, 2) := dk_21 5 (dk_at dksX3_looks_6 0 rfl rfl)
theorem dX3_looks_141 : decode cX3_looks 141 = .ok (.imul, 1) := dk_104 (dk_at dksX3_looks_6 2 rfl rfl)
theorem dX3_looks_142 : decode cX3_looks 142 = .ok (.iconst 2, 1) := dk_5 (dk_at dksX3_looks_6 3 rfl rfl)
theorem dX3_looks_143 : decode cX3_looks 143 = .ok (.iadd, 1) := dk_96 (dk_at dksX3_looks_6 4 rfl rfl)
theorem dX3_looks_144 : decode cX3_looks 144 = .ok (.laload, 1) := dk_47 (dk_at dksX3_looks_6 5 rfl rfl)
theorem dX3_looks_145 : decode cX3_looks 145 = .ok (.aload_n 0, 1) := dk_42 (dk_at dksX3_looks_6 6 rfl rfl)
theorem dX3_looks_146 : decode cX3_looks 146 = .ok (.getfield 32, 3) := dk_180 0 32 (dk_at dksX3_looks_6 7 rfl rfl)
theorem dX3_looks_149 : decode cX3_looks 149 = .ok (.iconst 4, 1) := dk_7 (dk_at dksX3_looks_6 10 rfl rfl)
theorem dX3_looks_150 : decode cX3_looks 150 = .ok (.iload_n 3, 1) := dk_29 (dk_at dksX3_looks_6 11 rfl rfl)
theorem dX3_looks_151 : decode cX3_looks 151 = .ok (.imul, 1) := dk_104 (dk_at dksX3_looks_6 12 rfl rfl)
theorem dX3_looks_152 : decode cX3_looks 152 = .ok (.iconst 2, 1) := dk_5 (dk_at dksX3_looks_6 13 rfl rfl)
theorem dX3_looks_153 : decode cX3_looks 153 = .ok (.iadd, 1) := dk_96 (dk_at dksX3_looks_6 14 rfl rfl)
theorem dX3_looks_154 : decode cX3_looks 154 = .ok (.laload, 1) := dk_47 (dk_at dksX3_looks_6 15 rfl rfl)
theorem dX3_looks_155 : decode cX3_looks 155 = .ok (.lcmp, 1) := dk_148 (dk_at dksX3_looks_6 16 rfl rfl)
theorem dX3_looks_156 : decode cX3_looks 156 = .ok (.ifCond .ne 28, 3) := dk_154 0 28 (dk_at dksX3_looks_6 17 rfl rfl)
theorem dX3_looks_159 : decode cX3_looks 159 = .ok (.aload_n 0, 1) := dk_42 (dk_at dksX3_looks_6 20 rfl rfl)
theorem dX3_looks_160 : decode cX3_looks 160 = .ok (.getfield 32, 3) := dk_180 0 32 (dk_at dksX3_looks_6 21 rfl rfl)
theorem dX3_looks_163 : decode cX3_looks 163 = .ok (.iconst 4, 1) := dk_7 (dk_at dksX3_looks_7 0 rfl rfl)
theorem dX3_looks_164 : decode cX3_looks 164 = .ok (.iload 5, 2) := dk_21 5 (dk_at dksX3_looks_7 1 rfl rfl)
theorem dX3_looks_166 : decode cX3_looks 166 = .ok (.imul, 1) := dk_104 (dk_at dksX3_looks_7 3 rfl rfl)
theorem dX3_looks_167 : decode cX3_looks 167 = .ok (.iconst 3, 1) := dk_6 (dk_at dksX3_looks_7 4 rfl rfl)
theorem dX3_looks_168 : decode cX3_looks 168 = .ok (.iadd, 1) := dk_96 (dk_at dksX3_looks_7 5 rfl rfl)
theorem dX3_looks_169 : decode cX3_looks 169 = .ok (.laload, 1) := dk_47 (dk_at dksX3_looks_7 6 rfl rfl)
theorem dX3_looks_170 : decode cX3_looks 170 = .ok (.aload_n 0, 1) := dk_42 (dk_at dksX3_looks_7 7 rfl rfl)
theorem dX3_looks_171 : decode cX3_looks 171 = .ok (.getfield 32, 3) := dk_180 0 32 (dk_at dksX3_looks_7 8 rfl rfl)
theorem dX3_looks_174 : decode cX3_looks 174 = .ok (.iconst 4, 1) := dk_7 (dk_at dksX3_looks_7 11 rfl rfl)
theorem dX3_looks_175 : decode cX3_looks 175 = .ok (.iload_n 3, 1) := dk_29 (dk_at dksX3_looks_7 12 rfl rfl)
theorem dX3_looks_176 : decode cX3_looks 176 = .ok (.imul, 1) := dk_104 (dk_at dksX3_looks_7 13 rfl rfl)
theorem dX3_looks_177 : decode cX3_looks 177 = .ok (.iconst 3, 1) := dk_6 (dk_at dksX3_looks_7 14 rfl rfl)
theorem dX3_looks_178 : decode cX3_looks 178 = .ok (.iadd, 1) := dk_96 (dk_at dksX3_looks_7 15 rfl rfl)
theorem dX3_looks_179 : decode cX3_looks 179 = .ok (.laload, 1) := dk_47 (dk_at dksX3_looks_7 16 rfl rfl)
theorem dX3_looks_180 : decode cX3_looks 180 = .ok (.lcmp, 1) := dk_148 (dk_at dksX3_looks_7 17 rfl rfl)
theorem dX3_looks_181 : decode cX3_looks 181 = .ok (.ifCond .eq 7, 3) := dk_153 0 7 (dk_at dksX3_looks_7 18 rfl rfl)
theorem dX3_looks_184 : decode cX3_looks 184 = .ok (.iconst 1, 1) := dk_4 (dk_at dksX3_looks_7 21 rfl rfl)
theorem dX3_looks_185 : decode cX3_looks 185 = .ok (.goto 4, 3) := dk_167 0 4 (dk_at dksX3_looks_8 0 rfl rfl)
theorem dX3_looks_188 : decode cX3_looks 188 = .ok (.iconst 0, 1) := dk_3 (dk_at dksX3_looks_8 3 rfl rfl)
theorem dX3_looks_189 : decode cX3_looks 189 = .ok (.istore 4, 2) := dk_54 4 (dk_at dksX3_looks_8 4 rfl rfl)
theorem dX3_looks_191 : decode cX3_looks 191 = .ok (.iinc 5 1, 3) := dk_132 5 1 (dk_at dksX3_looks_8 6 rfl rfl)
theorem dX3_looks_194 : decode cX3_looks 194 = .ok (.goto (-117), 3) := dk_167 255 139 (dk_at dksX3_looks_8 9 rfl rfl)
theorem dX3_looks_197 : decode cX3_looks 197 = .ok (.iload_n 2, 1) := dk_28 (dk_at dksX3_looks_8 12 rfl rfl)
theorem dX3_looks_198 : decode cX3_looks 198 = .ok (.iload 4, 2) := dk_21 4 (dk_at dksX3_looks_8 13 rfl rfl)
theorem dX3_looks_200 : decode cX3_looks 200 = .ok (.ifCond .eq 7, 3) := dk_153 0 7 (dk_at dksX3_looks_8 15 rfl rfl)
theorem dX3_looks_203 : decode cX3_looks 203 = .ok (.iconst 1, 1) := dk_4 (dk_at dksX3_looks_8 18 rfl rfl)
theorem dX3_looks_204 : decode cX3_looks 204 = .ok (.goto 4, 3) := dk_167 0 4 (dk_at dksX3_looks_8 19 rfl rfl)
theorem dX3_looks_207 : decode cX3_looks 207 = .ok (.iconst 0, 1) := dk_3 (dk_at dksX3_looks_8 22 rfl rfl)
theorem dX3_looks_208 : decode cX3_looks 208 = .ok (.iadd, 1) := dk_96 (dk_at dksX3_looks_8 23 rfl rfl)
theorem dX3_looks_209 : decode cX3_looks 209 = .ok (.istore_n 2, 1) := dk_61 (dk_at dksX3_looks_9 0 rfl rfl)
theorem dX3_looks_210 : decode cX3_looks 210 = .ok (.iinc 3 1, 3) := dk_132 3 1 (dk_at dksX3_looks_9 1 rfl rfl)
theorem dX3_looks_213 : decode cX3_looks 213 = .ok (.goto (-204), 3) := dk_167 255 52 (dk_at dksX3_looks_9 4 rfl rfl)
theorem dX3_looks_216 : decode cX3_looks 216 = .ok (.iload_n 2, 1) := dk_28 (dk_at dksX3_looks_9 7 rfl rfl)
theorem dX3_looks_217 : decode cX3_looks 217 = .ok (.ireturn, 1) := dk_172 (dk_at dksX3_looks_9 8 rfl rfl)
abbrev cX3_testsBetween : ByteArray := prog_9_method_84_code
def yX3_testsBetween : MethodName := ⟨RX3, "testsBetween", "(II)J"⟩
def dkwX3_testsBetween_1 : List UInt8 := [181, 0, 50, 42, 180, 0, 50, 158, 0, 7, 9, 167, 0, 9, 42, 27, 28, 182, 0, 175, 173]
abbrev dktX3_testsBetween_1 : List UInt8 := dkwX3_testsBetween_1 ++ []
def dkwX3_testsBetween_0 : List UInt8 := [42, 42, 27, 182, 0, 103, 153, 0, 15, 42, 28, 182, 0, 103, 153, 0, 7, 3, 167, 0, 4, 4]
abbrev dktX3_testsBetween_0 : List UInt8 := dkwX3_testsBetween_0 ++ dktX3_testsBetween_1
theorem dksX3_testsBetween_0 : cX3_testsBetween.data.toList.drop 0 = dktX3_testsBetween_0 := by decide +kernel
theorem dksX3_testsBetween_1 : cX3_testsBetween.data.toList.drop 22 = dktX3_testsBetween_1 := dk_seg dksX3_testsBetween_0 22 rfl rfl
theorem dX3_testsBetween_0 : decode cX3_testsBetween 0 = .ok (.aload_n 0, 1) := dk_42 (dk_at dksX3_testsBetween_0 0 rfl rfl)
theorem dX3_testsBetween_1 : decode cX3_testsBetween 1 = .ok (.aload_n 0, 1) := dk_42 (dk_at dksX3_testsBetween_0 1 rfl rfl)
theorem dX3_testsBetween_2 : decode cX3_testsBetween 2 = .ok (.iload_n 1, 1) := dk_27 (dk_at dksX3_testsBetween_0 2 rfl rfl)
theorem dX3_testsBetween_3 : decode cX3_testsBetween 3 = .ok (.invokevirtual 103, 3) := dk_182 0 103 (dk_at dksX3_testsBetween_0 3 rfl rfl)
theorem dX3_testsBetween_6 : decode cX3_testsBetween 6 = .ok (.ifCond .eq 15, 3) := dk_153 0 15 (dk_at dksX3_testsBetween_0 6 rfl rfl)
theorem dX3_testsBetween_9 : decode cX3_testsBetween 9 = .ok (.aload_n 0, 1) := dk_42 (dk_at dksX3_testsBetween_0 9 rfl rfl)
theorem dX3_testsBetween_10 : decode cX3_testsBetween 10 = .ok (.iload_n 2, 1) := dk_28 (dk_at dksX3_testsBetween_0 10 rfl rfl)
theorem dX3_testsBetween_11 : decode cX3_testsBetween 11 = .ok (.invokevirtual 103, 3) := dk_182 0 103 (dk_at dksX3_testsBetween_0 11 rfl rfl)
theorem dX3_testsBetween_14 : decode cX3_testsBetween 14 = .ok (.ifCond .eq 7, 3) := dk_153 0 7 (dk_at dksX3_testsBetween_0 14 rfl rfl)
theorem dX3_testsBetween_17 : decode cX3_testsBetween 17 = .ok (.iconst 0, 1) := dk_3 (dk_at dksX3_testsBetween_0 17 rfl rfl)
theorem dX3_testsBetween_18 : decode cX3_testsBetween 18 = .ok (.goto 4, 3) := dk_167 0 4 (dk_at dksX3_testsBetween_0 18 rfl rfl)
theorem dX3_testsBetween_21 : decode cX3_testsBetween 21 = .ok (.iconst 1, 1) := dk_4 (dk_at dksX3_testsBetween_0 21 rfl rfl)
theorem dX3_testsBetween_22 : decode cX3_testsBetween 22 = .ok (.putfield 50, 3) := dk_181 0 50 (dk_at dksX3_testsBetween_1 0 rfl rfl)
theorem dX3_testsBetween_25 : decode cX3_testsBetween 25 = .ok (.aload_n 0, 1) := dk_42 (dk_at dksX3_testsBetween_1 3 rfl rfl)
theorem dX3_testsBetween_26 : decode cX3_testsBetween 26 = .ok (.getfield 50, 3) := dk_180 0 50 (dk_at dksX3_testsBetween_1 4 rfl rfl)
theorem dX3_testsBetween_29 : decode cX3_testsBetween 29 = .ok (.ifCond .le 7, 3) := dk_158 0 7 (dk_at dksX3_testsBetween_1 7 rfl rfl)
theorem dX3_testsBetween_32 : decode cX3_testsBetween 32 = .ok (.lconst 0, 1) := dk_9 (dk_at dksX3_testsBetween_1 10 rfl rfl)
theorem dX3_testsBetween_33 : decode cX3_testsBetween 33 = .ok (.goto 9, 3) := dk_167 0 9 (dk_at dksX3_testsBetween_1 11 rfl rfl)
theorem dX3_testsBetween_36 : decode cX3_testsBetween 36 = .ok (.aload_n 0, 1) := dk_42 (dk_at dksX3_testsBetween_1 14 rfl rfl)
theorem dX3_testsBetween_37 : decode cX3_testsBetween 37 = .ok (.iload_n 1, 1) := dk_27 (dk_at dksX3_testsBetween_1 15 rfl rfl)
theorem dX3_testsBetween_38 : decode cX3_testsBetween 38 = .ok (.iload_n 2, 1) := dk_28 (dk_at dksX3_testsBetween_1 16 rfl rfl)
theorem dX3_testsBetween_39 : decode cX3_testsBetween 39 = .ok (.invokevirtual 175, 3) := dk_182 0 175 (dk_at dksX3_testsBetween_1 17 rfl rfl)
theorem dX3_testsBetween_42 : decode cX3_testsBetween 42 = .ok (.lreturn, 1) := dk_173 (dk_at dksX3_testsBetween_1 20 rfl rfl)
abbrev cX3_shownBy : ByteArray := prog_9_method_85_code
def yX3_shownBy : MethodName := ⟨RX3, "shownBy", "(J)I"⟩
def dkwX3_shownBy_2 : List UInt8 := [167, 255, 220, 29, 172]
abbrev dktX3_shownBy_2 : List UInt8 := dkwX3_shownBy_2 ++ []
def dkwX3_shownBy_1 : List UInt8 := [21, 4, 2, 182, 0, 175, 31, 127, 9, 148, 153, 0, 7, 4, 167, 0, 4, 3, 96, 62, 132, 4, 1]
abbrev dktX3_shownBy_1 : List UInt8 := dkwX3_shownBy_1 ++ dktX3_shownBy_2
def dkwX3_shownBy_0 : List UInt8 := [42, 3, 181, 0, 50, 3, 62, 3, 54, 4, 21, 4, 5, 42, 182, 0, 54, 104, 162, 0, 31, 29, 42]
abbrev dktX3_shownBy_0 : List UInt8 := dkwX3_shownBy_0 ++ dktX3_shownBy_1
theorem dksX3_shownBy_0 : cX3_shownBy.data.toList.drop 0 = dktX3_shownBy_0 := by decide +kernel
theorem dksX3_shownBy_1 : cX3_shownBy.data.toList.drop 23 = dktX3_shownBy_1 := dk_seg dksX3_shownBy_0 23 rfl rfl
theorem dksX3_shownBy_2 : cX3_shownBy.data.toList.drop 46 = dktX3_shownBy_2 := dk_seg dksX3_shownBy_1 23 rfl rfl
theorem dX3_shownBy_0 : decode cX3_shownBy 0 = .ok (.aload_n 0, 1) := dk_42 (dk_at dksX3_shownBy_0 0 rfl rfl)
theorem dX3_shownBy_1 : decode cX3_shownBy 1 = .ok (.iconst 0, 1) := dk_3 (dk_at dksX3_shownBy_0 1 rfl rfl)
theorem dX3_shownBy_2 : decode cX3_shownBy 2 = .ok (.putfield 50, 3) := dk_181 0 50 (dk_at dksX3_shownBy_0 2 rfl rfl)
theorem dX3_shownBy_5 : decode cX3_shownBy 5 = .ok (.iconst 0, 1) := dk_3 (dk_at dksX3_shownBy_0 5 rfl rfl)
theorem dX3_shownBy_6 : decode cX3_shownBy 6 = .ok (.istore_n 3, 1) := dk_62 (dk_at dksX3_shownBy_0 6 rfl rfl)
theorem dX3_shownBy_7 : decode cX3_shownBy 7 = .ok (.iconst 0, 1) := dk_3 (dk_at dksX3_shownBy_0 7 rfl rfl)
theorem dX3_shownBy_8 : decode cX3_shownBy 8 = .ok (.istore 4, 2) := dk_54 4 (dk_at dksX3_shownBy_0 8 rfl rfl)
theorem dX3_shownBy_10 : decode cX3_shownBy 10 = .ok (.iload 4, 2) := dk_21 4 (dk_at dksX3_shownBy_0 10 rfl rfl)
theorem dX3_shownBy_12 : decode cX3_shownBy 12 = .ok (.iconst 2, 1) := dk_5 (dk_at dksX3_shownBy_0 12 rfl rfl)
theorem dX3_shownBy_13 : decode cX3_shownBy 13 = .ok (.aload_n 0, 1) := dk_42 (dk_at dksX3_shownBy_0 13 rfl rfl)
theorem dX3_shownBy_14 : decode cX3_shownBy 14 = .ok (.invokevirtual 54, 3) := dk_182 0 54 (dk_at dksX3_shownBy_0 14 rfl rfl)
theorem dX3_shownBy_17 : decode cX3_shownBy 17 = .ok (.imul, 1) := dk_104 (dk_at dksX3_shownBy_0 17 rfl rfl)
theorem dX3_shownBy_18 : decode cX3_shownBy 18 = .ok (.if_icmp .ge 31, 3) := dk_162 0 31 (dk_at dksX3_shownBy_0 18 rfl rfl)
theorem dX3_shownBy_21 : decode cX3_shownBy 21 = .ok (.iload_n 3, 1) := dk_29 (dk_at dksX3_shownBy_0 21 rfl rfl)
theorem dX3_shownBy_22 : decode cX3_shownBy 22 = .ok (.aload_n 0, 1) := dk_42 (dk_at dksX3_shownBy_0 22 rfl rfl)
theorem dX3_shownBy_23 : decode cX3_shownBy 23 = .ok (.iload 4, 2) := dk_21 4 (dk_at dksX3_shownBy_1 0 rfl rfl)
theorem dX3_shownBy_25 : decode cX3_shownBy 25 = .ok (.iconst (-1), 1) := dk_2 (dk_at dksX3_shownBy_1 2 rfl rfl)
theorem dX3_shownBy_26 : decode cX3_shownBy 26 = .ok (.invokevirtual 175, 3) := dk_182 0 175 (dk_at dksX3_shownBy_1 3 rfl rfl)
theorem dX3_shownBy_29 : decode cX3_shownBy 29 = .ok (.lload_n 1, 1) := dk_31 (dk_at dksX3_shownBy_1 6 rfl rfl)
theorem dX3_shownBy_30 : decode cX3_shownBy 30 = .ok (.land, 1) := dk_127 (dk_at dksX3_shownBy_1 7 rfl rfl)
theorem dX3_shownBy_31 : decode cX3_shownBy 31 = .ok (.lconst 0, 1) := dk_9 (dk_at dksX3_shownBy_1 8 rfl rfl)
theorem dX3_shownBy_32 : decode cX3_shownBy 32 = .ok (.lcmp, 1) := dk_148 (dk_at dksX3_shownBy_1 9 rfl rfl)
theorem dX3_shownBy_33 : decode cX3_shownBy 33 = .ok (.ifCond .eq 7, 3) := dk_153 0 7 (dk_at dksX3_shownBy_1 10 rfl rfl)
theorem dX3_shownBy_36 : decode cX3_shownBy 36 = .ok (.iconst 1, 1) := dk_4 (dk_at dksX3_shownBy_1 13 rfl rfl)
theorem dX3_shownBy_37 : decode cX3_shownBy 37 = .ok (.goto 4, 3) := dk_167 0 4 (dk_at dksX3_shownBy_1 14 rfl rfl)
theorem dX3_shownBy_40 : decode cX3_shownBy 40 = .ok (.iconst 0, 1) := dk_3 (dk_at dksX3_shownBy_1 17 rfl rfl)
theorem dX3_shownBy_41 : decode cX3_shownBy 41 = .ok (.iadd, 1) := dk_96 (dk_at dksX3_shownBy_1 18 rfl rfl)
theorem dX3_shownBy_42 : decode cX3_shownBy 42 = .ok (.istore_n 3, 1) := dk_62 (dk_at dksX3_shownBy_1 19 rfl rfl)
theorem dX3_shownBy_43 : decode cX3_shownBy 43 = .ok (.iinc 4 1, 3) := dk_132 4 1 (dk_at dksX3_shownBy_1 20 rfl rfl)
theorem dX3_shownBy_46 : decode cX3_shownBy 46 = .ok (.goto (-36), 3) := dk_167 255 220 (dk_at dksX3_shownBy_2 0 rfl rfl)
theorem dX3_shownBy_49 : decode cX3_shownBy 49 = .ok (.iload_n 3, 1) := dk_29 (dk_at dksX3_shownBy_2 3 rfl rfl)
theorem dX3_shownBy_50 : decode cX3_shownBy 50 = .ok (.ireturn, 1) := dk_172 (dk_at dksX3_shownBy_2 4 rfl rfl)
abbrev cX3_chosen : ByteArray := prog_9_method_86_code
def yX3_chosen : MethodName := ⟨RX3, "chosen", "()J"⟩
def dkwX3_chosen_1 : List UInt8 := [20, 0, 242, 127, 129, 173]
abbrev dktX3_chosen_1 : List UInt8 := dkwX3_chosen_1 ++ []
def dkwX3_chosen_0 : List UInt8 := [42, 3, 181, 0, 50, 42, 180, 0, 7, 16, 67, 46, 133, 16, 32, 121, 42, 180, 0, 7, 16, 66, 46, 133]
abbrev dktX3_chosen_0 : List UInt8 := dkwX3_chosen_0 ++ dktX3_chosen_1
theorem dksX3_chosen_0 : cX3_chosen.data.toList.drop 0 = dktX3_chosen_0 := by decide +kernel
theorem dksX3_chosen_1 : cX3_chosen.data.toList.drop 24 = dktX3_chosen_1 := dk_seg dksX3_chosen_0 24 rfl rfl
theorem dX3_chosen_0 : decode cX3_chosen 0 = .ok (.aload_n 0, 1) := dk_42 (dk_at dksX3_chosen_0 0 rfl rfl)
theorem dX3_chosen_1 : decode cX3_chosen 1 = .ok (.iconst 0, 1) := dk_3 (dk_at dksX3_chosen_0 1 rfl rfl)
theorem dX3_chosen_2 : decode cX3_chosen 2 = .ok (.putfield 50, 3) := dk_181 0 50 (dk_at dksX3_chosen_0 2 rfl rfl)
theorem dX3_chosen_5 : decode cX3_chosen 5 = .ok (.aload_n 0, 1) := dk_42 (dk_at dksX3_chosen_0 5 rfl rfl)
theorem dX3_chosen_6 : decode cX3_chosen 6 = .ok (.getfield 7, 3) := dk_180 0 7 (dk_at dksX3_chosen_0 6 rfl rfl)
theorem dX3_chosen_9 : decode cX3_chosen 9 = .ok (.bipush 67, 2) := dk_16 67 (dk_at dksX3_chosen_0 9 rfl rfl)
theorem dX3_chosen_11 : decode cX3_chosen 11 = .ok (.iaload, 1) := dk_46 (dk_at dksX3_chosen_0 11 rfl rfl)
theorem dX3_chosen_12 : decode cX3_chosen 12 = .ok (.i2l, 1) := dk_133 (dk_at dksX3_chosen_0 12 rfl rfl)
theorem dX3_chosen_13 : decode cX3_chosen 13 = .ok (.bipush 32, 2) := dk_16 32 (dk_at dksX3_chosen_0 13 rfl rfl)
theorem dX3_chosen_15 : decode cX3_chosen 15 = .ok (.lshl, 1) := dk_121 (dk_at dksX3_chosen_0 15 rfl rfl)
theorem dX3_chosen_16 : decode cX3_chosen 16 = .ok (.aload_n 0, 1) := dk_42 (dk_at dksX3_chosen_0 16 rfl rfl)
theorem dX3_chosen_17 : decode cX3_chosen 17 = .ok (.getfield 7, 3) := dk_180 0 7 (dk_at dksX3_chosen_0 17 rfl rfl)
theorem dX3_chosen_20 : decode cX3_chosen 20 = .ok (.bipush 66, 2) := dk_16 66 (dk_at dksX3_chosen_0 20 rfl rfl)
theorem dX3_chosen_22 : decode cX3_chosen 22 = .ok (.iaload, 1) := dk_46 (dk_at dksX3_chosen_0 22 rfl rfl)
theorem dX3_chosen_23 : decode cX3_chosen 23 = .ok (.i2l, 1) := dk_133 (dk_at dksX3_chosen_0 23 rfl rfl)
theorem dX3_chosen_24 : decode cX3_chosen 24 = .ok (.ldc2_w 242, 3) := dk_20 0 242 (dk_at dksX3_chosen_1 0 rfl rfl)
theorem dX3_chosen_27 : decode cX3_chosen 27 = .ok (.land, 1) := dk_127 (dk_at dksX3_chosen_1 3 rfl rfl)
theorem dX3_chosen_28 : decode cX3_chosen 28 = .ok (.lor, 1) := dk_129 (dk_at dksX3_chosen_1 4 rfl rfl)
theorem dX3_chosen_29 : decode cX3_chosen 29 = .ok (.lreturn, 1) := dk_173 (dk_at dksX3_chosen_1 5 rfl rfl)
abbrev cX3_secret : ByteArray := prog_9_method_87_code
def yX3_secret : MethodName := ⟨RX3, "secret", "()I"⟩
def dkwX3_secret_0 : List UInt8 := [42, 3, 181, 0, 50, 42, 180, 0, 7, 16, 39, 46, 172]
abbrev dktX3_secret_0 : List UInt8 := dkwX3_secret_0 ++ []
theorem dksX3_secret_0 : cX3_secret.data.toList.drop 0 = dktX3_secret_0 := by decide +kernel
theorem dX3_secret_0 : decode cX3_secret 0 = .ok (.aload_n 0, 1) := dk_42 (dk_at dksX3_secret_0 0 rfl rfl)
theorem dX3_secret_1 : decode cX3_secret 1 = .ok (.iconst 0, 1) := dk_3 (dk_at dksX3_secret_0 1 rfl rfl)
theorem dX3_secret_2 : decode cX3_secret 2 = .ok (.putfield 50, 3) := dk_181 0 50 (dk_at dksX3_secret_0 2 rfl rfl)
theorem dX3_secret_5 : decode cX3_secret 5 = .ok (.aload_n 0, 1) := dk_42 (dk_at dksX3_secret_0 5 rfl rfl)
theorem dX3_secret_6 : decode cX3_secret 6 = .ok (.getfield 7, 3) := dk_180 0 7 (dk_at dksX3_secret_0 6 rfl rfl)
theorem dX3_secret_9 : decode cX3_secret 9 = .ok (.bipush 39, 2) := dk_16 39 (dk_at dksX3_secret_0 9 rfl rfl)
theorem dX3_secret_11 : decode cX3_secret 11 = .ok (.iaload, 1) := dk_46 (dk_at dksX3_secret_0 11 rfl rfl)
theorem dX3_secret_12 : decode cX3_secret 12 = .ok (.ireturn, 1) := dk_172 (dk_at dksX3_secret_0 12 rfl rfl)
abbrev cX3_isSuspecting : ByteArray := prog_9_method_88_code
def yX3_isSuspecting : MethodName := ⟨RX3, "isSuspecting", "()Z"⟩
def dkwX3_isSuspecting_0 : List UInt8 := [42, 3, 181, 0, 50, 42, 180, 0, 7, 16, 40, 46, 4, 160, 0, 7, 4, 167, 0, 4, 3, 172]
abbrev dktX3_isSuspecting_0 : List UInt8 := dkwX3_isSuspecting_0 ++ []
theorem dksX3_isSuspecting_0 : cX3_isSuspecting.data.toList.drop 0 = dktX3_isSuspecting_0 := by decide +kernel
theorem dX3_isSuspecting_0 : decode cX3_isSuspecting 0 = .ok (.aload_n 0, 1) := dk_42 (dk_at dksX3_isSuspecting_0 0 rfl rfl)
theorem dX3_isSuspecting_1 : decode cX3_isSuspecting 1 = .ok (.iconst 0, 1) := dk_3 (dk_at dksX3_isSuspecting_0 1 rfl rfl)
theorem dX3_isSuspecting_2 : decode cX3_isSuspecting 2 = .ok (.putfield 50, 3) := dk_181 0 50 (dk_at dksX3_isSuspecting_0 2 rfl rfl)
theorem dX3_isSuspecting_5 : decode cX3_isSuspecting 5 = .ok (.aload_n 0, 1) := dk_42 (dk_at dksX3_isSuspecting_0 5 rfl rfl)
theorem dX3_isSuspecting_6 : decode cX3_isSuspecting 6 = .ok (.getfield 7, 3) := dk_180 0 7 (dk_at dksX3_isSuspecting_0 6 rfl rfl)
theorem dX3_isSuspecting_9 : decode cX3_isSuspecting 9 = .ok (.bipush 40, 2) := dk_16 40 (dk_at dksX3_isSuspecting_0 9 rfl rfl)
theorem dX3_isSuspecting_11 : decode cX3_isSuspecting 11 = .ok (.iaload, 1) := dk_46 (dk_at dksX3_isSuspecting_0 11 rfl rfl)
theorem dX3_isSuspecting_12 : decode cX3_isSuspecting 12 = .ok (.iconst 1, 1) := dk_4 (dk_at dksX3_isSuspecting_0 12 rfl rfl)
theorem dX3_isSuspecting_13 : decode cX3_isSuspecting 13 = .ok (.if_icmp .ne 7, 3) := dk_160 0 7 (dk_at dksX3_isSuspecting_0 13 rfl rfl)
theorem dX3_isSuspecting_16 : decode cX3_isSuspecting 16 = .ok (.iconst 1, 1) := dk_4 (dk_at dksX3_isSuspecting_0 16 rfl rfl)
theorem dX3_isSuspecting_17 : decode cX3_isSuspecting 17 = .ok (.goto 4, 3) := dk_167 0 4 (dk_at dksX3_isSuspecting_0 17 rfl rfl)
theorem dX3_isSuspecting_20 : decode cX3_isSuspecting 20 = .ok (.iconst 0, 1) := dk_3 (dk_at dksX3_isSuspecting_0 20 rfl rfl)
theorem dX3_isSuspecting_21 : decode cX3_isSuspecting 21 = .ok (.ireturn, 1) := dk_172 (dk_at dksX3_isSuspecting_0 21 rfl rfl)
abbrev cX3_asked : ByteArray := prog_9_method_89_code
def yX3_asked : MethodName := ⟨RX3, "asked", "()I"⟩
def dkwX3_asked_0 : List UInt8 := [42, 3, 181, 0, 50, 42, 180, 0, 7, 16, 41, 46, 172]
abbrev dktX3_asked_0 : List UInt8 := dkwX3_asked_0 ++ []
theorem dksX3_asked_0 : cX3_asked.data.toList.drop 0 = dktX3_asked_0 := by decide +kernel
theorem dX3_asked_0 : decode cX3_asked 0 = .ok (.aload_n 0, 1) := dk_42 (dk_at dksX3_asked_0 0 rfl rfl)
theorem dX3_asked_1 : decode cX3_asked 1 = .ok (.iconst 0, 1) := dk_3 (dk_at dksX3_asked_0 1 rfl rfl)
theorem dX3_asked_2 : decode cX3_asked 2 = .ok (.putfield 50, 3) := dk_181 0 50 (dk_at dksX3_asked_0 2 rfl rfl)
theorem dX3_asked_5 : decode cX3_asked 5 = .ok (.aload_n 0, 1) := dk_42 (dk_at dksX3_asked_0 5 rfl rfl)
theorem dX3_asked_6 : decode cX3_asked 6 = .ok (.getfield 7, 3) := dk_180 0 7 (dk_at dksX3_asked_0 6 rfl rfl)
theorem dX3_asked_9 : decode cX3_asked 9 = .ok (.bipush 41, 2) := dk_16 41 (dk_at dksX3_asked_0 9 rfl rfl)
theorem dX3_asked_11 : decode cX3_asked 11 = .ok (.iaload, 1) := dk_46 (dk_at dksX3_asked_0 11 rfl rfl)
theorem dX3_asked_12 : decode cX3_asked 12 = .ok (.ireturn, 1) := dk_172 (dk_at dksX3_asked_0 12 rfl rfl)
abbrev cX3_askedAt : ByteArray := prog_9_method_90_code
def yX3_askedAt : MethodName := ⟨RX3, "askedAt", "(I)I"⟩
def dkwX3_askedAt_2 : List UInt8 := [46, 104, 42, 180, 0, 7, 16, 54, 27, 96, 46, 96, 172]
abbrev dktX3_askedAt_2 : List UInt8 := dkwX3_askedAt_2 ++ []
def dkwX3_askedAt_1 : List UInt8 := [181, 0, 50, 42, 180, 0, 50, 158, 0, 7, 3, 167, 0, 25, 16, 16, 42, 180, 0, 7, 16, 42, 27, 96]
abbrev dktX3_askedAt_1 : List UInt8 := dkwX3_askedAt_1 ++ dktX3_askedAt_2
def dkwX3_askedAt_0 : List UInt8 := [42, 27, 3, 42, 180, 0, 7, 16, 41, 46, 4, 100, 184, 0, 58, 153, 0, 7, 3, 167, 0, 4, 4]
abbrev dktX3_askedAt_0 : List UInt8 := dkwX3_askedAt_0 ++ dktX3_askedAt_1
theorem dksX3_askedAt_0 : cX3_askedAt.data.toList.drop 0 = dktX3_askedAt_0 := by decide +kernel
theorem dksX3_askedAt_1 : cX3_askedAt.data.toList.drop 23 = dktX3_askedAt_1 := dk_seg dksX3_askedAt_0 23 rfl rfl
theorem dksX3_askedAt_2 : cX3_askedAt.data.toList.drop 47 = dktX3_askedAt_2 := dk_seg dksX3_askedAt_1 24 rfl rfl
theorem dX3_askedAt_0 : decode cX3_askedAt 0 = .ok (.aload_n 0, 1) := dk_42 (dk_at dksX3_askedAt_0 0 rfl rfl)
theorem dX3_askedAt_1 : decode cX3_askedAt 1 = .ok (.iload_n 1, 1) := dk_27 (dk_at dksX3_askedAt_0 1 rfl rfl)
theorem dX3_askedAt_2 : decode cX3_askedAt 2 = .ok (.iconst 0, 1) := dk_3 (dk_at dksX3_askedAt_0 2 rfl rfl)
theorem dX3_askedAt_3 : decode cX3_askedAt 3 = .ok (.aload_n 0, 1) := dk_42 (dk_at dksX3_askedAt_0 3 rfl rfl)
theorem dX3_askedAt_4 : decode cX3_askedAt 4 = .ok (.getfield 7, 3) := dk_180 0 7 (dk_at dksX3_askedAt_0 4 rfl rfl)
theorem dX3_askedAt_7 : decode cX3_askedAt 7 = .ok (.bipush 41, 2) := dk_16 41 (dk_at dksX3_askedAt_0 7 rfl rfl)
theorem dX3_askedAt_9 : decode cX3_askedAt 9 = .ok (.iaload, 1) := dk_46 (dk_at dksX3_askedAt_0 9 rfl rfl)
theorem dX3_askedAt_10 : decode cX3_askedAt 10 = .ok (.iconst 1, 1) := dk_4 (dk_at dksX3_askedAt_0 10 rfl rfl)
theorem dX3_askedAt_11 : decode cX3_askedAt 11 = .ok (.isub, 1) := dk_100 (dk_at dksX3_askedAt_0 11 rfl rfl)
theorem dX3_askedAt_12 : decode cX3_askedAt 12 = .ok (.invokestatic 58, 3) := dk_184 0 58 (dk_at dksX3_askedAt_0 12 rfl rfl)
theorem dX3_askedAt_15 : decode cX3_askedAt 15 = .ok (.ifCond .eq 7, 3) := dk_153 0 7 (dk_at dksX3_askedAt_0 15 rfl rfl)
theorem dX3_askedAt_18 : decode cX3_askedAt 18 = .ok (.iconst 0, 1) := dk_3 (dk_at dksX3_askedAt_0 18 rfl rfl)
theorem dX3_askedAt_19 : decode cX3_askedAt 19 = .ok (.goto 4, 3) := dk_167 0 4 (dk_at dksX3_askedAt_0 19 rfl rfl)
theorem dX3_askedAt_22 : decode cX3_askedAt 22 = .ok (.iconst 1, 1) := dk_4 (dk_at dksX3_askedAt_0 22 rfl rfl)
theorem dX3_askedAt_23 : decode cX3_askedAt 23 = .ok (.putfield 50, 3) := dk_181 0 50 (dk_at dksX3_askedAt_1 0 rfl rfl)
theorem dX3_askedAt_26 : decode cX3_askedAt 26 = .ok (.aload_n 0, 1) := dk_42 (dk_at dksX3_askedAt_1 3 rfl rfl)
theorem dX3_askedAt_27 : decode cX3_askedAt 27 = .ok (.getfield 50, 3) := dk_180 0 50 (dk_at dksX3_askedAt_1 4 rfl rfl)
theorem dX3_askedAt_30 : decode cX3_askedAt 30 = .ok (.ifCond .le 7, 3) := dk_158 0 7 (dk_at dksX3_askedAt_1 7 rfl rfl)
theorem dX3_askedAt_33 : decode cX3_askedAt 33 = .ok (.iconst 0, 1) := dk_3 (dk_at dksX3_askedAt_1 10 rfl rfl)
theorem dX3_askedAt_34 : decode cX3_askedAt 34 = .ok (.goto 25, 3) := dk_167 0 25 (dk_at dksX3_askedAt_1 11 rfl rfl)
theorem dX3_askedAt_37 : decode cX3_askedAt 37 = .ok (.bipush 16, 2) := dk_16 16 (dk_at dksX3_askedAt_1 14 rfl rfl)
theorem dX3_askedAt_39 : decode cX3_askedAt 39 = .ok (.aload_n 0, 1) := dk_42 (dk_at dksX3_askedAt_1 16 rfl rfl)
theorem dX3_askedAt_40 : decode cX3_askedAt 40 = .ok (.getfield 7, 3) := dk_180 0 7 (dk_at dksX3_askedAt_1 17 rfl rfl)
theorem dX3_askedAt_43 : decode cX3_askedAt 43 = .ok (.bipush 42, 2) := dk_16 42 (dk_at dksX3_askedAt_1 20 rfl rfl)
theorem dX3_askedAt_45 : decode cX3_askedAt 45 = .ok (.iload_n 1, 1) := dk_27 (dk_at dksX3_askedAt_1 22 rfl rfl)
theorem dX3_askedAt_46 : decode cX3_askedAt 46 = .ok (.iadd, 1) := dk_96 (dk_at dksX3_askedAt_1 23 rfl rfl)
theorem dX3_askedAt_47 : decode cX3_askedAt 47 = .ok (.iaload, 1) := dk_46 (dk_at dksX3_askedAt_2 0 rfl rfl)
theorem dX3_askedAt_48 : decode cX3_askedAt 48 = .ok (.imul, 1) := dk_104 (dk_at dksX3_askedAt_2 1 rfl rfl)
theorem dX3_askedAt_49 : decode cX3_askedAt 49 = .ok (.aload_n 0, 1) := dk_42 (dk_at dksX3_askedAt_2 2 rfl rfl)
theorem dX3_askedAt_50 : decode cX3_askedAt 50 = .ok (.getfield 7, 3) := dk_180 0 7 (dk_at dksX3_askedAt_2 3 rfl rfl)
theorem dX3_askedAt_53 : decode cX3_askedAt 53 = .ok (.bipush 54, 2) := dk_16 54 (dk_at dksX3_askedAt_2 6 rfl rfl)
theorem dX3_askedAt_55 : decode cX3_askedAt 55 = .ok (.iload_n 1, 1) := dk_27 (dk_at dksX3_askedAt_2 8 rfl rfl)
theorem dX3_askedAt_56 : decode cX3_askedAt 56 = .ok (.iadd, 1) := dk_96 (dk_at dksX3_askedAt_2 9 rfl rfl)
theorem dX3_askedAt_57 : decode cX3_askedAt 57 = .ok (.iaload, 1) := dk_46 (dk_at dksX3_askedAt_2 10 rfl rfl)
theorem dX3_askedAt_58 : decode cX3_askedAt 58 = .ok (.iadd, 1) := dk_96 (dk_at dksX3_askedAt_2 11 rfl rfl)
theorem dX3_askedAt_59 : decode cX3_askedAt 59 = .ok (.ireturn, 1) := dk_172 (dk_at dksX3_askedAt_2 12 rfl rfl)
abbrev cX3_hypotheses : ByteArray := prog_9_method_91_code
def yX3_hypotheses : MethodName := ⟨RX3, "hypotheses", "()I"⟩
def dkwX3_hypotheses_0 : List UInt8 := [42, 3, 181, 0, 50, 42, 182, 0, 156, 42, 182, 0, 159, 4, 96, 104, 172]
abbrev dktX3_hypotheses_0 : List UInt8 := dkwX3_hypotheses_0 ++ []
theorem dksX3_hypotheses_0 : cX3_hypotheses.data.toList.drop 0 = dktX3_hypotheses_0 := by decide +kernel
theorem dX3_hypotheses_0 : decode cX3_hypotheses 0 = .ok (.aload_n 0, 1) := dk_42 (dk_at dksX3_hypotheses_0 0 rfl rfl)
theorem dX3_hypotheses_1 : decode cX3_hypotheses 1 = .ok (.iconst 0, 1) := dk_3 (dk_at dksX3_hypotheses_0 1 rfl rfl)
theorem dX3_hypotheses_2 : decode cX3_hypotheses 2 = .ok (.putfield 50, 3) := dk_181 0 50 (dk_at dksX3_hypotheses_0 2 rfl rfl)
theorem dX3_hypotheses_5 : decode cX3_hypotheses 5 = .ok (.aload_n 0, 1) := dk_42 (dk_at dksX3_hypotheses_0 5 rfl rfl)
theorem dX3_hypotheses_6 : decode cX3_hypotheses 6 = .ok (.invokevirtual 156, 3) := dk_182 0 156 (dk_at dksX3_hypotheses_0 6 rfl rfl)
theorem dX3_hypotheses_9 : decode cX3_hypotheses 9 = .ok (.aload_n 0, 1) := dk_42 (dk_at dksX3_hypotheses_0 9 rfl rfl)
theorem dX3_hypotheses_10 : decode cX3_hypotheses 10 = .ok (.invokevirtual 159, 3) := dk_182 0 159 (dk_at dksX3_hypotheses_0 10 rfl rfl)
theorem dX3_hypotheses_13 : decode cX3_hypotheses 13 = .ok (.iconst 1, 1) := dk_4 (dk_at dksX3_hypotheses_0 13 rfl rfl)
theorem dX3_hypotheses_14 : decode cX3_hypotheses 14 = .ok (.iadd, 1) := dk_96 (dk_at dksX3_hypotheses_0 14 rfl rfl)
theorem dX3_hypotheses_15 : decode cX3_hypotheses 15 = .ok (.imul, 1) := dk_104 (dk_at dksX3_hypotheses_0 15 rfl rfl)
theorem dX3_hypotheses_16 : decode cX3_hypotheses 16 = .ok (.ireturn, 1) := dk_172 (dk_at dksX3_hypotheses_0 16 rfl rfl)
abbrev cX3_candidates : ByteArray := prog_9_method_92_code
def yX3_candidates : MethodName := ⟨RX3, "candidates", "(Z)I"⟩
def dkwX3_candidates_0 : List UInt8 := [42, 3, 181, 0, 50, 42, 2, 3, 182, 0, 168, 42, 180, 0, 147, 172]
abbrev dktX3_candidates_0 : List UInt8 := dkwX3_candidates_0 ++ []
theorem dksX3_candidates_0 : cX3_candidates.data.toList.drop 0 = dktX3_candidates_0 := by decide +kernel
theorem dX3_candidates_0 : decode cX3_candidates 0 = .ok (.aload_n 0, 1) := dk_42 (dk_at dksX3_candidates_0 0 rfl rfl)
theorem dX3_candidates_1 : decode cX3_candidates 1 = .ok (.iconst 0, 1) := dk_3 (dk_at dksX3_candidates_0 1 rfl rfl)
theorem dX3_candidates_2 : decode cX3_candidates 2 = .ok (.putfield 50, 3) := dk_181 0 50 (dk_at dksX3_candidates_0 2 rfl rfl)
theorem dX3_candidates_5 : decode cX3_candidates 5 = .ok (.aload_n 0, 1) := dk_42 (dk_at dksX3_candidates_0 5 rfl rfl)
theorem dX3_candidates_6 : decode cX3_candidates 6 = .ok (.iconst (-1), 1) := dk_2 (dk_at dksX3_candidates_0 6 rfl rfl)
theorem dX3_candidates_7 : decode cX3_candidates 7 = .ok (.iconst 0, 1) := dk_3 (dk_at dksX3_candidates_0 7 rfl rfl)
theorem dX3_candidates_8 : decode cX3_candidates 8 = .ok (.invokevirtual 168, 3) := dk_182 0 168 (dk_at dksX3_candidates_0 8 rfl rfl)
theorem dX3_candidates_11 : decode cX3_candidates 11 = .ok (.aload_n 0, 1) := dk_42 (dk_at dksX3_candidates_0 11 rfl rfl)
theorem dX3_candidates_12 : decode cX3_candidates 12 = .ok (.getfield 147, 3) := dk_180 0 147 (dk_at dksX3_candidates_0 12 rfl rfl)
theorem dX3_candidates_15 : decode cX3_candidates 15 = .ok (.ireturn, 1) := dk_172 (dk_at dksX3_candidates_0 15 rfl rfl)
abbrev cX3_candidateAt : ByteArray := prog_9_method_93_code
def yX3_candidateAt : MethodName := ⟨RX3, "candidateAt", "(I)I"⟩
def dkwX3_candidateAt_1 : List UInt8 := [3, 182, 0, 168, 42, 180, 0, 150, 172]
abbrev dktX3_candidateAt_1 : List UInt8 := dkwX3_candidateAt_1 ++ []
def dkwX3_candidateAt_0 : List UInt8 := [42, 27, 156, 0, 7, 4, 167, 0, 4, 3, 181, 0, 50, 42, 180, 0, 50, 158, 0, 5, 3, 172, 42, 27]
abbrev dktX3_candidateAt_0 : List UInt8 := dkwX3_candidateAt_0 ++ dktX3_candidateAt_1
theorem dksX3_candidateAt_0 : cX3_candidateAt.data.toList.drop 0 = dktX3_candidateAt_0 := by decide +kernel
theorem dksX3_candidateAt_1 : cX3_candidateAt.data.toList.drop 24 = dktX3_candidateAt_1 := dk_seg dksX3_candidateAt_0 24 rfl rfl
theorem dX3_candidateAt_0 : decode cX3_candidateAt 0 = .ok (.aload_n 0, 1) := dk_42 (dk_at dksX3_candidateAt_0 0 rfl rfl)
theorem dX3_candidateAt_1 : decode cX3_candidateAt 1 = .ok (.iload_n 1, 1) := dk_27 (dk_at dksX3_candidateAt_0 1 rfl rfl)
theorem dX3_candidateAt_2 : decode cX3_candidateAt 2 = .ok (.ifCond .ge 7, 3) := dk_156 0 7 (dk_at dksX3_candidateAt_0 2 rfl rfl)
theorem dX3_candidateAt_5 : decode cX3_candidateAt 5 = .ok (.iconst 1, 1) := dk_4 (dk_at dksX3_candidateAt_0 5 rfl rfl)
theorem dX3_candidateAt_6 : decode cX3_candidateAt 6 = .ok (.goto 4, 3) := dk_167 0 4 (dk_at dksX3_candidateAt_0 6 rfl rfl)
theorem dX3_candidateAt_9 : decode cX3_candidateAt 9 = .ok (.iconst 0, 1) := dk_3 (dk_at dksX3_candidateAt_0 9 rfl rfl)
theorem dX3_candidateAt_10 : decode cX3_candidateAt 10 = .ok (.putfield 50, 3) := dk_181 0 50 (dk_at dksX3_candidateAt_0 10 rfl rfl)
theorem dX3_candidateAt_13 : decode cX3_candidateAt 13 = .ok (.aload_n 0, 1) := dk_42 (dk_at dksX3_candidateAt_0 13 rfl rfl)
theorem dX3_candidateAt_14 : decode cX3_candidateAt 14 = .ok (.getfield 50, 3) := dk_180 0 50 (dk_at dksX3_candidateAt_0 14 rfl rfl)
theorem dX3_candidateAt_17 : decode cX3_candidateAt 17 = .ok (.ifCond .le 5, 3) := dk_158 0 5 (dk_at dksX3_candidateAt_0 17 rfl rfl)
theorem dX3_candidateAt_20 : decode cX3_candidateAt 20 = .ok (.iconst 0, 1) := dk_3 (dk_at dksX3_candidateAt_0 20 rfl rfl)
theorem dX3_candidateAt_21 : decode cX3_candidateAt 21 = .ok (.ireturn, 1) := dk_172 (dk_at dksX3_candidateAt_0 21 rfl rfl)
theorem dX3_candidateAt_22 : decode cX3_candidateAt 22 = .ok (.aload_n 0, 1) := dk_42 (dk_at dksX3_candidateAt_0 22 rfl rfl)
theorem dX3_candidateAt_23 : decode cX3_candidateAt 23 = .ok (.iload_n 1, 1) := dk_27 (dk_at dksX3_candidateAt_0 23 rfl rfl)
theorem dX3_candidateAt_24 : decode cX3_candidateAt 24 = .ok (.iconst 0, 1) := dk_3 (dk_at dksX3_candidateAt_1 0 rfl rfl)
theorem dX3_candidateAt_25 : decode cX3_candidateAt 25 = .ok (.invokevirtual 168, 3) := dk_182 0 168 (dk_at dksX3_candidateAt_1 1 rfl rfl)
theorem dX3_candidateAt_28 : decode cX3_candidateAt 28 = .ok (.aload_n 0, 1) := dk_42 (dk_at dksX3_candidateAt_1 4 rfl rfl)
theorem dX3_candidateAt_29 : decode cX3_candidateAt 29 = .ok (.getfield 150, 3) := dk_180 0 150 (dk_at dksX3_candidateAt_1 5 rfl rfl)
theorem dX3_candidateAt_32 : decode cX3_candidateAt 32 = .ok (.ireturn, 1) := dk_172 (dk_at dksX3_candidateAt_1 8 rfl rfl)
abbrev cX3_areAlike : ByteArray := prog_9_method_94_code
def yX3_areAlike : MethodName := ⟨RX3, "areAlike", "()Z"⟩
def dkwX3_areAlike_0 : List UInt8 := [42, 3, 181, 0, 50, 42, 2, 3, 182, 0, 168, 42, 180, 0, 153, 172]
abbrev dktX3_areAlike_0 : List UInt8 := dkwX3_areAlike_0 ++ []
theorem dksX3_areAlike_0 : cX3_areAlike.data.toList.drop 0 = dktX3_areAlike_0 := by decide +kernel
theorem dX3_areAlike_0 : decode cX3_areAlike 0 = .ok (.aload_n 0, 1) := dk_42 (dk_at dksX3_areAlike_0 0 rfl rfl)
theorem dX3_areAlike_1 : decode cX3_areAlike 1 = .ok (.iconst 0, 1) := dk_3 (dk_at dksX3_areAlike_0 1 rfl rfl)
theorem dX3_areAlike_2 : decode cX3_areAlike 2 = .ok (.putfield 50, 3) := dk_181 0 50 (dk_at dksX3_areAlike_0 2 rfl rfl)
theorem dX3_areAlike_5 : decode cX3_areAlike 5 = .ok (.aload_n 0, 1) := dk_42 (dk_at dksX3_areAlike_0 5 rfl rfl)
theorem dX3_areAlike_6 : decode cX3_areAlike 6 = .ok (.iconst (-1), 1) := dk_2 (dk_at dksX3_areAlike_0 6 rfl rfl)
theorem dX3_areAlike_7 : decode cX3_areAlike 7 = .ok (.iconst 0, 1) := dk_3 (dk_at dksX3_areAlike_0 7 rfl rfl)
theorem dX3_areAlike_8 : decode cX3_areAlike 8 = .ok (.invokevirtual 168, 3) := dk_182 0 168 (dk_at dksX3_areAlike_0 8 rfl rfl)
theorem dX3_areAlike_11 : decode cX3_areAlike 11 = .ok (.aload_n 0, 1) := dk_42 (dk_at dksX3_areAlike_0 11 rfl rfl)
theorem dX3_areAlike_12 : decode cX3_areAlike 12 = .ok (.getfield 153, 3) := dk_180 0 153 (dk_at dksX3_areAlike_0 12 rfl rfl)
theorem dX3_areAlike_15 : decode cX3_areAlike 15 = .ok (.ireturn, 1) := dk_172 (dk_at dksX3_areAlike_0 15 rfl rfl)
abbrev cX3_worstLeft : ByteArray := prog_9_method_95_code
def yX3_worstLeft : MethodName := ⟨RX3, "worstLeft", "(I)I"⟩
def dkwX3_worstLeft_1 : List UInt8 := [158, 0, 5, 3, 172, 42, 2, 4, 182, 0, 168, 42, 27, 182, 0, 165, 172]
abbrev dktX3_worstLeft_1 : List UInt8 := dkwX3_worstLeft_1 ++ []
def dkwX3_worstLeft_0 : List UInt8 := [42, 27, 3, 16, 63, 184, 0, 58, 153, 0, 7, 3, 167, 0, 4, 4, 181, 0, 50, 42, 180, 0, 50]
abbrev dktX3_worstLeft_0 : List UInt8 := dkwX3_worstLeft_0 ++ dktX3_worstLeft_1
theorem dksX3_worstLeft_0 : cX3_worstLeft.data.toList.drop 0 = dktX3_worstLeft_0 := by decide +kernel
theorem dksX3_worstLeft_1 : cX3_worstLeft.data.toList.drop 23 = dktX3_worstLeft_1 := dk_seg dksX3_worstLeft_0 23 rfl rfl
theorem dX3_worstLeft_0 : decode cX3_worstLeft 0 = .ok (.aload_n 0, 1) := dk_42 (dk_at dksX3_worstLeft_0 0 rfl rfl)
theorem dX3_worstLeft_1 : decode cX3_worstLeft 1 = .ok (.iload_n 1, 1) := dk_27 (dk_at dksX3_worstLeft_0 1 rfl rfl)
theorem dX3_worstLeft_2 : decode cX3_worstLeft 2 = .ok (.iconst 0, 1) := dk_3 (dk_at dksX3_worstLeft_0 2 rfl rfl)
theorem dX3_worstLeft_3 : decode cX3_worstLeft 3 = .ok (.bipush 63, 2) := dk_16 63 (dk_at dksX3_worstLeft_0 3 rfl rfl)
theorem dX3_worstLeft_5 : decode cX3_worstLeft 5 = .ok (.invokestatic 58, 3) := dk_184 0 58 (dk_at dksX3_worstLeft_0 5 rfl rfl)
theorem dX3_worstLeft_8 : decode cX3_worstLeft 8 = .ok (.ifCond .eq 7, 3) := dk_153 0 7 (dk_at dksX3_worstLeft_0 8 rfl rfl)
theorem dX3_worstLeft_11 : decode cX3_worstLeft 11 = .ok (.iconst 0, 1) := dk_3 (dk_at dksX3_worstLeft_0 11 rfl rfl)
theorem dX3_worstLeft_12 : decode cX3_worstLeft 12 = .ok (.goto 4, 3) := dk_167 0 4 (dk_at dksX3_worstLeft_0 12 rfl rfl)
theorem dX3_worstLeft_15 : decode cX3_worstLeft 15 = .ok (.iconst 1, 1) := dk_4 (dk_at dksX3_worstLeft_0 15 rfl rfl)
theorem dX3_worstLeft_16 : decode cX3_worstLeft 16 = .ok (.putfield 50, 3) := dk_181 0 50 (dk_at dksX3_worstLeft_0 16 rfl rfl)
theorem dX3_worstLeft_19 : decode cX3_worstLeft 19 = .ok (.aload_n 0, 1) := dk_42 (dk_at dksX3_worstLeft_0 19 rfl rfl)
theorem dX3_worstLeft_20 : decode cX3_worstLeft 20 = .ok (.getfield 50, 3) := dk_180 0 50 (dk_at dksX3_worstLeft_0 20 rfl rfl)
theorem dX3_worstLeft_23 : decode cX3_worstLeft 23 = .ok (.ifCond .le 5, 3) := dk_158 0 5 (dk_at dksX3_worstLeft_1 0 rfl rfl)
theorem dX3_worstLeft_26 : decode cX3_worstLeft 26 = .ok (.iconst 0, 1) := dk_3 (dk_at dksX3_worstLeft_1 3 rfl rfl)
theorem dX3_worstLeft_27 : decode cX3_worstLeft 27 = .ok (.ireturn, 1) := dk_172 (dk_at dksX3_worstLeft_1 4 rfl rfl)
theorem dX3_worstLeft_28 : decode cX3_worstLeft 28 = .ok (.aload_n 0, 1) := dk_42 (dk_at dksX3_worstLeft_1 5 rfl rfl)
theorem dX3_worstLeft_29 : decode cX3_worstLeft 29 = .ok (.iconst (-1), 1) := dk_2 (dk_at dksX3_worstLeft_1 6 rfl rfl)
theorem dX3_worstLeft_30 : decode cX3_worstLeft 30 = .ok (.iconst 1, 1) := dk_4 (dk_at dksX3_worstLeft_1 7 rfl rfl)
theorem dX3_worstLeft_31 : decode cX3_worstLeft 31 = .ok (.invokevirtual 168, 3) := dk_182 0 168 (dk_at dksX3_worstLeft_1 8 rfl rfl)
theorem dX3_worstLeft_34 : decode cX3_worstLeft 34 = .ok (.aload_n 0, 1) := dk_42 (dk_at dksX3_worstLeft_1 11 rfl rfl)
theorem dX3_worstLeft_35 : decode cX3_worstLeft 35 = .ok (.iload_n 1, 1) := dk_27 (dk_at dksX3_worstLeft_1 12 rfl rfl)
theorem dX3_worstLeft_36 : decode cX3_worstLeft 36 = .ok (.invokevirtual 165, 3) := dk_182 0 165 (dk_at dksX3_worstLeft_1 13 rfl rfl)
theorem dX3_worstLeft_39 : decode cX3_worstLeft 39 = .ok (.ireturn, 1) := dk_172 (dk_at dksX3_worstLeft_1 16 rfl rfl)
abbrev cX3_bestTest : ByteArray := prog_9_method_96_code
def yX3_bestTest : MethodName := ⟨RX3, "bestTest", "()I"⟩
def dkwX3_bestTest_0 : List UInt8 := [42, 3, 181, 0, 50, 42, 2, 4, 182, 0, 168, 42, 182, 0, 172, 172]
abbrev dktX3_bestTest_0 : List UInt8 := dkwX3_bestTest_0 ++ []
theorem dksX3_bestTest_0 : cX3_bestTest.data.toList.drop 0 = dktX3_bestTest_0 := by decide +kernel
theorem dX3_bestTest_0 : decode cX3_bestTest 0 = .ok (.aload_n 0, 1) := dk_42 (dk_at dksX3_bestTest_0 0 rfl rfl)
theorem dX3_bestTest_1 : decode cX3_bestTest 1 = .ok (.iconst 0, 1) := dk_3 (dk_at dksX3_bestTest_0 1 rfl rfl)
theorem dX3_bestTest_2 : decode cX3_bestTest 2 = .ok (.putfield 50, 3) := dk_181 0 50 (dk_at dksX3_bestTest_0 2 rfl rfl)
theorem dX3_bestTest_5 : decode cX3_bestTest 5 = .ok (.aload_n 0, 1) := dk_42 (dk_at dksX3_bestTest_0 5 rfl rfl)
theorem dX3_bestTest_6 : decode cX3_bestTest 6 = .ok (.iconst (-1), 1) := dk_2 (dk_at dksX3_bestTest_0 6 rfl rfl)
theorem dX3_bestTest_7 : decode cX3_bestTest 7 = .ok (.iconst 1, 1) := dk_4 (dk_at dksX3_bestTest_0 7 rfl rfl)
theorem dX3_bestTest_8 : decode cX3_bestTest 8 = .ok (.invokevirtual 168, 3) := dk_182 0 168 (dk_at dksX3_bestTest_0 8 rfl rfl)
theorem dX3_bestTest_11 : decode cX3_bestTest 11 = .ok (.aload_n 0, 1) := dk_42 (dk_at dksX3_bestTest_0 11 rfl rfl)
theorem dX3_bestTest_12 : decode cX3_bestTest 12 = .ok (.invokevirtual 172, 3) := dk_182 0 172 (dk_at dksX3_bestTest_0 12 rfl rfl)
theorem dX3_bestTest_15 : decode cX3_bestTest 15 = .ok (.ireturn, 1) := dk_172 (dk_at dksX3_bestTest_0 15 rfl rfl)
abbrev cX3_meanLeft : ByteArray := prog_9_method_97_code
def yX3_meanLeft : MethodName := ⟨RX3, "meanLeft", "(I)D"⟩
def dkwX3_meanLeft_4 : List UInt8 := [111, 175]
abbrev dktX3_meanLeft_4 : List UInt8 := dkwX3_meanLeft_4 ++ []
def dkwX3_meanLeft_3 : List UInt8 := [132, 3, 1, 167, 255, 226, 42, 180, 0, 147, 154, 0, 7, 14, 167, 0, 11, 28, 135, 42, 180, 0, 147, 135]
abbrev dktX3_meanLeft_3 : List UInt8 := dkwX3_meanLeft_3 ++ dktX3_meanLeft_4
def dkwX3_meanLeft_2 : List UInt8 := [16, 16, 96, 162, 0, 25, 28, 42, 180, 0, 35, 29, 46, 42, 180, 0, 35, 29, 46, 104, 96, 61]
abbrev dktX3_meanLeft_2 : List UInt8 := dkwX3_meanLeft_2 ++ dktX3_meanLeft_3
def dkwX3_meanLeft_1 : List UInt8 := [158, 0, 5, 14, 175, 42, 2, 4, 182, 0, 168, 3, 61, 16, 16, 27, 104, 62, 29, 16, 16, 27, 104]
abbrev dktX3_meanLeft_1 : List UInt8 := dkwX3_meanLeft_1 ++ dktX3_meanLeft_2
def dkwX3_meanLeft_0 : List UInt8 := [42, 27, 3, 16, 63, 184, 0, 58, 153, 0, 7, 3, 167, 0, 4, 4, 181, 0, 50, 42, 180, 0, 50]
abbrev dktX3_meanLeft_0 : List UInt8 := dkwX3_meanLeft_0 ++ dktX3_meanLeft_1
theorem dksX3_meanLeft_0 : cX3_meanLeft.data.toList.drop 0 = dktX3_meanLeft_0 := by decide +kernel
theorem dksX3_meanLeft_1 : cX3_meanLeft.data.toList.drop 23 = dktX3_meanLeft_1 := dk_seg dksX3_meanLeft_0 23 rfl rfl
theorem dksX3_meanLeft_2 : cX3_meanLeft.data.toList.drop 46 = dktX3_meanLeft_2 := dk_seg dksX3_meanLeft_1 23 rfl rfl
theorem dksX3_meanLeft_3 : cX3_meanLeft.data.toList.drop 68 = dktX3_meanLeft_3 := dk_seg dksX3_meanLeft_2 22 rfl rfl
theorem dksX3_meanLeft_4 : cX3_meanLeft.data.toList.drop 92 = dktX3_meanLeft_4 := dk_seg dksX3_meanLeft_3 24 rfl rfl
theorem dX3_meanLeft_0 : decode cX3_meanLeft 0 = .ok (.aload_n 0, 1) := dk_42 (dk_at dksX3_meanLeft_0 0 rfl rfl)
theorem dX3_meanLeft_1 : decode cX3_meanLeft 1 = .ok (.iload_n 1, 1) := dk_27 (dk_at dksX3_meanLeft_0 1 rfl rfl)
theorem dX3_meanLeft_2 : decode cX3_meanLeft 2 = .ok (.iconst 0, 1) := dk_3 (dk_at dksX3_meanLeft_0 2 rfl rfl)
theorem dX3_meanLeft_3 : decode cX3_meanLeft 3 = .ok (.bipush 63, 2) := dk_16 63 (dk_at dksX3_meanLeft_0 3 rfl rfl)
theorem dX3_meanLeft_5 : decode cX3_meanLeft 5 = .ok (.invokestatic 58, 3) := dk_184 0 58 (dk_at dksX3_meanLeft_0 5 rfl rfl)
theorem dX3_meanLeft_8 : decode cX3_meanLeft 8 = .ok (.ifCond .eq 7, 3) := dk_153 0 7 (dk_at dksX3_meanLeft_0 8 rfl rfl)
theorem dX3_meanLeft_11 : decode cX3_meanLeft 11 = .ok (.iconst 0, 1) := dk_3 (dk_at dksX3_meanLeft_0 11 rfl rfl)
theorem dX3_meanLeft_12 : decode cX3_meanLeft 12 = .ok (.goto 4, 3) := dk_167 0 4 (dk_at dksX3_meanLeft_0 12 rfl rfl)
theorem dX3_meanLeft_15 : decode cX3_meanLeft 15 = .ok (.iconst 1, 1) := dk_4 (dk_at dksX3_meanLeft_0 15 rfl rfl)
theorem dX3_meanLeft_16 : decode cX3_meanLeft 16 = .ok (.putfield 50, 3) := dk_181 0 50 (dk_at dksX3_meanLeft_0 16 rfl rfl)
theorem dX3_meanLeft_19 : decode cX3_meanLeft 19 = .ok (.aload_n 0, 1) := dk_42 (dk_at dksX3_meanLeft_0 19 rfl rfl)
theorem dX3_meanLeft_20 : decode cX3_meanLeft 20 = .ok (.getfield 50, 3) := dk_180 0 50 (dk_at dksX3_meanLeft_0 20 rfl rfl)
theorem dX3_meanLeft_23 : decode cX3_meanLeft 23 = .ok (.ifCond .le 5, 3) := dk_158 0 5 (dk_at dksX3_meanLeft_1 0 rfl rfl)
theorem dX3_meanLeft_26 : decode cX3_meanLeft 26 = .ok (.dconst 0, 1) := dk_14 (dk_at dksX3_meanLeft_1 3 rfl rfl)
theorem dX3_meanLeft_27 : decode cX3_meanLeft 27 = .ok (.dreturn, 1) := dk_175 (dk_at dksX3_meanLeft_1 4 rfl rfl)
theorem dX3_meanLeft_28 : decode cX3_meanLeft 28 = .ok (.aload_n 0, 1) := dk_42 (dk_at dksX3_meanLeft_1 5 rfl rfl)
theorem dX3_meanLeft_29 : decode cX3_meanLeft 29 = .ok (.iconst (-1), 1) := dk_2 (dk_at dksX3_meanLeft_1 6 rfl rfl)
theorem dX3_meanLeft_30 : decode cX3_meanLeft 30 = .ok (.iconst 1, 1) := dk_4 (dk_at dksX3_meanLeft_1 7 rfl rfl)
theorem dX3_meanLeft_31 : decode cX3_meanLeft 31 = .ok (.invokevirtual 168, 3) := dk_182 0 168 (dk_at dksX3_meanLeft_1 8 rfl rfl)
theorem dX3_meanLeft_34 : decode cX3_meanLeft 34 = .ok (.iconst 0, 1) := dk_3 (dk_at dksX3_meanLeft_1 11 rfl rfl)
theorem dX3_meanLeft_35 : decode cX3_meanLeft 35 = .ok (.istore_n 2, 1) := dk_61 (dk_at dksX3_meanLeft_1 12 rfl rfl)
theorem dX3_meanLeft_36 : decode cX3_meanLeft 36 = .ok (.bipush 16, 2) := dk_16 16 (dk_at dksX3_meanLeft_1 13 rfl rfl)
theorem dX3_meanLeft_38 : decode cX3_meanLeft 38 = .ok (.iload_n 1, 1) := dk_27 (dk_at dksX3_meanLeft_1 15 rfl rfl)
theorem dX3_meanLeft_39 : decode cX3_meanLeft 39 = .ok (.imul, 1) := dk_104 (dk_at dksX3_meanLeft_1 16 rfl rfl)
theorem dX3_meanLeft_40 : decode cX3_meanLeft 40 = .ok (.istore_n 3, 1) := dk_62 (dk_at dksX3_meanLeft_1 17 rfl rfl)
theorem dX3_meanLeft_41 : decode cX3_meanLeft 41 = .ok (.iload_n 3, 1) := dk_29 (dk_at dksX3_meanLeft_1 18 rfl rfl)
theorem dX3_meanLeft_42 : decode cX3_meanLeft 42 = .ok (.bipush 16, 2) := dk_16 16 (dk_at dksX3_meanLeft_1 19 rfl rfl)
theorem dX3_meanLeft_44 : decode cX3_meanLeft 44 = .ok (.iload_n 1, 1) := dk_27 (dk_at dksX3_meanLeft_1 21 rfl rfl)
theorem dX3_meanLeft_45 : decode cX3_meanLeft 45 = .ok (.imul, 1) := dk_104 (dk_at dksX3_meanLeft_1 22 rfl rfl)
theorem dX3_meanLeft_46 : decode cX3_meanLeft 46 = .ok (.bipush 16, 2) := dk_16 16 (dk_at dksX3_meanLeft_2 0 rfl rfl)
theorem dX3_meanLeft_48 : decode cX3_meanLeft 48 = .ok (.iadd, 1) := dk_96 (dk_at dksX3_meanLeft_2 2 rfl rfl)
theorem dX3_meanLeft_49 : decode cX3_meanLeft 49 = .ok (.if_icmp .ge 25, 3) := dk_162 0 25 (dk_at dksX3_meanLeft_2 3 rfl rfl)
theorem dX3_meanLeft_52 : decode cX3_meanLeft 52 = .ok (.iload_n 2, 1) := dk_28 (dk_at dksX3_meanLeft_2 6 rfl rfl)
theorem dX3_meanLeft_53 : decode cX3_meanLeft 53 = .ok (.aload_n 0, 1) := dk_42 (dk_at dksX3_meanLeft_2 7 rfl rfl)
theorem dX3_meanLeft_54 : decode cX3_meanLeft 54 = .ok (.getfield 35, 3) := dk_180 0 35 (dk_at dksX3_meanLeft_2 8 rfl rfl)
theorem dX3_meanLeft_57 : decode cX3_meanLeft 57 = .ok (.iload_n 3, 1) := dk_29 (dk_at dksX3_meanLeft_2 11 rfl rfl)
theorem dX3_meanLeft_58 : decode cX3_meanLeft 58 = .ok (.iaload, 1) := dk_46 (dk_at dksX3_meanLeft_2 12 rfl rfl)
theorem dX3_meanLeft_59 : decode cX3_meanLeft 59 = .ok (.aload_n 0, 1) := dk_42 (dk_at dksX3_meanLeft_2 13 rfl rfl)
theorem dX3_meanLeft_60 : decode cX3_meanLeft 60 = .ok (.getfield 35, 3) := dk_180 0 35 (dk_at dksX3_meanLeft_2 14 rfl rfl)
theorem dX3_meanLeft_63 : decode cX3_meanLeft 63 = .ok (.iload_n 3, 1) := dk_29 (dk_at dksX3_meanLeft_2 17 rfl rfl)
theorem dX3_meanLeft_64 : decode cX3_meanLeft 64 = .ok (.iaload, 1) := dk_46 (dk_at dksX3_meanLeft_2 18 rfl rfl)
theorem dX3_meanLeft_65 : decode cX3_meanLeft 65 = .ok (.imul, 1) := dk_104 (dk_at dksX3_meanLeft_2 19 rfl rfl)
theorem dX3_meanLeft_66 : decode cX3_meanLeft 66 = .ok (.iadd, 1) := dk_96 (dk_at dksX3_meanLeft_2 20 rfl rfl)
theorem dX3_meanLeft_67 : decode cX3_meanLeft 67 = .ok (.istore_n 2, 1) := dk_61 (dk_at dksX3_meanLeft_2 21 rfl rfl)
theorem dX3_meanLeft_68 : decode cX3_meanLeft 68 = .ok (.iinc 3 1, 3) := dk_132 3 1 (dk_at dksX3_meanLeft_3 0 rfl rfl)
theorem dX3_meanLeft_71 : decode cX3_meanLeft 71 = .ok (.goto (-30), 3) := dk_167 255 226 (dk_at dksX3_meanLeft_3 3 rfl rfl)
theorem dX3_meanLeft_74 : decode cX3_meanLeft 74 = .ok (.aload_n 0, 1) := dk_42 (dk_at dksX3_meanLeft_3 6 rfl rfl)
theorem dX3_meanLeft_75 : decode cX3_meanLeft 75 = .ok (.getfield 147, 3) := dk_180 0 147 (dk_at dksX3_meanLeft_3 7 rfl rfl)
theorem dX3_meanLeft_78 : decode cX3_meanLeft 78 = .ok (.ifCond .ne 7, 3) := dk_154 0 7 (dk_at dksX3_meanLeft_3 10 rfl rfl)
theorem dX3_meanLeft_81 : decode cX3_meanLeft 81 = .ok (.dconst 0, 1) := dk_14 (dk_at dksX3_meanLeft_3 13 rfl rfl)
theorem dX3_meanLeft_82 : decode cX3_meanLeft 82 = .ok (.goto 11, 3) := dk_167 0 11 (dk_at dksX3_meanLeft_3 14 rfl rfl)
theorem dX3_meanLeft_85 : decode cX3_meanLeft 85 = .ok (.iload_n 2, 1) := dk_28 (dk_at dksX3_meanLeft_3 17 rfl rfl)
theorem dX3_meanLeft_86 : decode cX3_meanLeft 86 = .ok (.i2d, 1) := dk_135 (dk_at dksX3_meanLeft_3 18 rfl rfl)
theorem dX3_meanLeft_87 : decode cX3_meanLeft 87 = .ok (.aload_n 0, 1) := dk_42 (dk_at dksX3_meanLeft_3 19 rfl rfl)
theorem dX3_meanLeft_88 : decode cX3_meanLeft 88 = .ok (.getfield 147, 3) := dk_180 0 147 (dk_at dksX3_meanLeft_3 20 rfl rfl)
theorem dX3_meanLeft_91 : decode cX3_meanLeft 91 = .ok (.i2d, 1) := dk_135 (dk_at dksX3_meanLeft_3 23 rfl rfl)
theorem dX3_meanLeft_92 : decode cX3_meanLeft 92 = .ok (.ddiv, 1) := dk_111 (dk_at dksX3_meanLeft_4 0 rfl rfl)
theorem dX3_meanLeft_93 : decode cX3_meanLeft 93 = .ok (.dreturn, 1) := dk_175 (dk_at dksX3_meanLeft_4 1 rfl rfl)
theorem q87 : (Jvm.Cond.initialized "RosehipCircuitsModel") ∈ lw_all := lw_g (lw_at lw_m1 9 rfl) rfl
theorem q397 : (Jvm.Cond.selects "RosehipCircuitsModel" ({ cls := "java/lang/Object", name := "getClass", desc := "()Ljava/lang/Class;" } : Jvm.MethodName) ({ cls := "java/lang/Object", name := "getClass", desc := "()Ljava/lang/Class;" } : Jvm.MethodName)) ∈ lw_all := lw_g (lw_at lw_m2 79 rfl) rfl
theorem q1576 : (Jvm.Cond.instantiable "RosehipCircuitsModel" (26 : Nat)) ∈ lw_all := lw_g (lw_at lw_m7 58 rfl) rfl
theorem q1578 : (Jvm.Cond.instanceMethod ({ cls := "RosehipCircuitsModel", name := "<init>", desc := "()V" } : Jvm.MethodName)) ∈ lw_all := lw_g (lw_at lw_m7 60 rfl) rfl
theorem q1579 : (Jvm.Cond.code ({ cls := "RosehipCircuitsModel", name := "<init>", desc := "()V" } : Jvm.MethodName) prog_9_method_1_code (1 : Nat) (Option.none : Option Jvm.ClassFile.FieldType)) ∈ lw_all := lw_g (lw_at lw_m7 61 rfl) rfl
theorem q1580 : (Jvm.Cond.methodLink "RosehipCircuitsModel" (1 : Nat) ({ cls := "java/lang/Object", name := "<init>", desc := "()V" } : Jvm.MethodName)) ∈ lw_all := lw_g (lw_at lw_m7 62 rfl) rfl
theorem q1581 : (Jvm.Cond.fieldLink "RosehipCircuitsModel" (50 : Nat) "RosehipCircuitsModel" "thrown" "I") ∈ lw_all := lw_g (lw_at lw_m7 63 rfl) rfl
theorem q1582 : (Jvm.Cond.fieldLink "RosehipCircuitsModel" (7 : Nat) "RosehipCircuitsModel" "z" "[I") ∈ lw_all := lw_g (lw_at lw_m7 64 rfl) rfl
theorem q1583 : (Jvm.Cond.fieldLink "RosehipCircuitsModel" (13 : Nat) "RosehipCircuitsModel" "before" "[I") ∈ lw_all := lw_g (lw_at lw_m7 65 rfl) rfl
theorem q1584 : (Jvm.Cond.fieldLink "RosehipCircuitsModel" (62 : Nat) "RosehipCircuitsModel" "states" "I") ∈ lw_all := lw_g (lw_at lw_m7 66 rfl) rfl
theorem q1585 : (Jvm.Cond.fieldLink "RosehipCircuitsModel" (16 : Nat) "RosehipCircuitsModel" "kept" "[I") ∈ lw_all := lw_g (lw_at lw_m7 67 rfl) rfl
theorem q1586 : (Jvm.Cond.fieldLink "RosehipCircuitsModel" (65 : Nat) "RosehipCircuitsModel" "isKept" "Z") ∈ lw_all := lw_g (lw_at lw_m7 68 rfl) rfl
theorem q1587 : (Jvm.Cond.fieldLink "RosehipCircuitsModel" (19 : Nat) "RosehipCircuitsModel" "text" "[I") ∈ lw_all := lw_g (lw_at lw_m7 69 rfl) rfl
theorem q1588 : (Jvm.Cond.fieldLink "RosehipCircuitsModel" (197 : Nat) "RosehipCircuitsModel" "length" "I") ∈ lw_all := lw_g (lw_at lw_m7 70 rfl) rfl
theorem q1589 : (Jvm.Cond.fieldLink "RosehipCircuitsModel" (22 : Nat) "RosehipCircuitsModel" "table" "[J") ∈ lw_all := lw_g (lw_at lw_m7 71 rfl) rfl
theorem q1590 : (Jvm.Cond.fieldLink "RosehipCircuitsModel" (26 : Nat) "RosehipCircuitsModel" "out" "[J") ∈ lw_all := lw_g (lw_at lw_m7 72 rfl) rfl
theorem q1591 : (Jvm.Cond.fieldLink "RosehipCircuitsModel" (29 : Nat) "RosehipCircuitsModel" "plain" "[J") ∈ lw_all := lw_g (lw_at lw_m7 73 rfl) rfl
theorem q1592 : (Jvm.Cond.fieldLink "RosehipCircuitsModel" (32 : Nat) "RosehipCircuitsModel" "look" "[J") ∈ lw_all := lw_g (lw_at lw_m7 74 rfl) rfl
theorem q1593 : (Jvm.Cond.fieldLink "RosehipCircuitsModel" (90 : Nat) "RosehipCircuitsModel" "outs" "I") ∈ lw_all := lw_g (lw_at lw_m7 75 rfl) rfl
theorem q1594 : (Jvm.Cond.fieldLink "RosehipCircuitsModel" (35 : Nat) "RosehipCircuitsModel" "times" "[I") ∈ lw_all := lw_g (lw_at lw_m7 76 rfl) rfl
theorem q1595 : (Jvm.Cond.fieldLink "RosehipCircuitsModel" (38 : Nat) "RosehipCircuitsModel" "shown" "[J") ∈ lw_all := lw_g (lw_at lw_m7 77 rfl) rfl
theorem q1596 : (Jvm.Cond.fieldLink "RosehipCircuitsModel" (41 : Nat) "RosehipCircuitsModel" "left" "[J") ∈ lw_all := lw_g (lw_at lw_m7 78 rfl) rfl
theorem q1597 : (Jvm.Cond.fieldLink "RosehipCircuitsModel" (44 : Nat) "RosehipCircuitsModel" "next" "[I") ∈ lw_all := lw_g (lw_at lw_m7 79 rfl) rfl
theorem q1598 : (Jvm.Cond.fieldLink "RosehipCircuitsModel" (47 : Nat) "RosehipCircuitsModel" "wanted" "[I") ∈ lw_all := lw_g (lw_at lw_m7 80 rfl) rfl
theorem q1599 : (Jvm.Cond.fieldLink "RosehipCircuitsModel" (200 : Nat) "RosehipCircuitsModel" "at" "I") ∈ lw_all := lw_g (lw_at lw_m7 81 rfl) rfl
theorem q1600 : (Jvm.Cond.fieldLink "RosehipCircuitsModel" (203 : Nat) "RosehipCircuitsModel" "isWrong" "Z") ∈ lw_all := lw_g (lw_at lw_m7 82 rfl) rfl
theorem q1601 : (Jvm.Cond.fieldLink "RosehipCircuitsModel" (209 : Nat) "RosehipCircuitsModel" "sort" "I") ∈ lw_all := lw_g (lw_at lw_m7 83 rfl) rfl
theorem q1602 : (Jvm.Cond.fieldLink "RosehipCircuitsModel" (218 : Nat) "RosehipCircuitsModel" "one" "I") ∈ lw_all := lw_g (lw_at lw_m7 84 rfl) rfl
theorem q1603 : (Jvm.Cond.fieldLink "RosehipCircuitsModel" (221 : Nat) "RosehipCircuitsModel" "two" "I") ∈ lw_all := lw_g (lw_at lw_m7 85 rfl) rfl
theorem q1604 : (Jvm.Cond.fieldLink "RosehipCircuitsModel" (147 : Nat) "RosehipCircuitsModel" "found" "I") ∈ lw_all := lw_g (lw_at lw_m7 86 rfl) rfl
theorem q1605 : (Jvm.Cond.fieldLink "RosehipCircuitsModel" (150 : Nat) "RosehipCircuitsModel" "number" "I") ∈ lw_all := lw_g (lw_at lw_m7 87 rfl) rfl
theorem q1606 : (Jvm.Cond.fieldLink "RosehipCircuitsModel" (153 : Nat) "RosehipCircuitsModel" "areLike" "Z") ∈ lw_all := lw_g (lw_at lw_m7 88 rfl) rfl
theorem q1607 : (Jvm.Cond.lays "RosehipCircuitsModel" "RosehipCircuitsModel" "thrown" "I") ∈ lw_all := lw_g (lw_at lw_m7 89 rfl) rfl
theorem q1608 : (Jvm.Cond.soleField "RosehipCircuitsModel" "thrown") ∈ lw_all := lw_g (lw_at lw_m7 90 rfl) rfl
theorem q1609 : (Jvm.Cond.laysFinal "RosehipCircuitsModel" "RosehipCircuitsModel" "z" "[I") ∈ lw_all := lw_g (lw_at lw_m7 91 rfl) rfl
theorem q1610 : (Jvm.Cond.soleField "RosehipCircuitsModel" "z") ∈ lw_all := lw_g (lw_at lw_m7 92 rfl) rfl
theorem q1611 : (Jvm.Cond.laysFinal "RosehipCircuitsModel" "RosehipCircuitsModel" "before" "[I") ∈ lw_all := lw_g (lw_at lw_m7 93 rfl) rfl
theorem q1612 : (Jvm.Cond.soleField "RosehipCircuitsModel" "before") ∈ lw_all := lw_g (lw_at lw_m7 94 rfl) rfl
theorem q1613 : (Jvm.Cond.lays "RosehipCircuitsModel" "RosehipCircuitsModel" "states" "I") ∈ lw_all := lw_g (lw_at lw_m7 95 rfl) rfl
theorem q1614 : (Jvm.Cond.soleField "RosehipCircuitsModel" "states") ∈ lw_all := lw_g (lw_at lw_m7 96 rfl) rfl
theorem q1615 : (Jvm.Cond.laysFinal "RosehipCircuitsModel" "RosehipCircuitsModel" "kept" "[I") ∈ lw_all := lw_g (lw_at lw_m7 97 rfl) rfl
theorem q1616 : (Jvm.Cond.soleField "RosehipCircuitsModel" "kept") ∈ lw_all := lw_g (lw_at lw_m7 98 rfl) rfl
theorem q1617 : (Jvm.Cond.lays "RosehipCircuitsModel" "RosehipCircuitsModel" "isKept" "Z") ∈ lw_all := lw_g (lw_at lw_m7 99 rfl) rfl
theorem q1618 : (Jvm.Cond.soleField "RosehipCircuitsModel" "isKept") ∈ lw_all := lw_g (lw_at lw_m7 100 rfl) rfl
theorem q1619 : (Jvm.Cond.laysFinal "RosehipCircuitsModel" "RosehipCircuitsModel" "text" "[I") ∈ lw_all := lw_g (lw_at lw_m7 101 rfl) rfl
theorem q1620 : (Jvm.Cond.soleField "RosehipCircuitsModel" "text") ∈ lw_all := lw_g (lw_at lw_m7 102 rfl) rfl
theorem q1621 : (Jvm.Cond.lays "RosehipCircuitsModel" "RosehipCircuitsModel" "length" "I") ∈ lw_all := lw_g (lw_at lw_m7 103 rfl) rfl
theorem q1622 : (Jvm.Cond.soleField "RosehipCircuitsModel" "length") ∈ lw_all := lw_g (lw_at lw_m7 104 rfl) rfl
theorem q1623 : (Jvm.Cond.laysFinal "RosehipCircuitsModel" "RosehipCircuitsModel" "table" "[J") ∈ lw_all := lw_g (lw_at lw_m7 105 rfl) rfl
theorem q1624 : (Jvm.Cond.soleField "RosehipCircuitsModel" "table") ∈ lw_all := lw_g (lw_at lw_m7 106 rfl) rfl
theorem q1625 : (Jvm.Cond.laysFinal "RosehipCircuitsModel" "RosehipCircuitsModel" "out" "[J") ∈ lw_all := lw_g (lw_at lw_m7 107 rfl) rfl
theorem q1626 : (Jvm.Cond.soleField "RosehipCircuitsModel" "out") ∈ lw_all := lw_g (lw_at lw_m7 108 rfl) rfl
theorem q1627 : (Jvm.Cond.laysFinal "RosehipCircuitsModel" "RosehipCircuitsModel" "plain" "[J") ∈ lw_all := lw_g (lw_at lw_m7 109 rfl) rfl
theorem q1628 : (Jvm.Cond.soleField "RosehipCircuitsModel" "plain") ∈ lw_all := lw_g (lw_at lw_m7 110 rfl) rfl
theorem q1629 : (Jvm.Cond.laysFinal "RosehipCircuitsModel" "RosehipCircuitsModel" "look" "[J") ∈ lw_all := lw_g (lw_at lw_m7 111 rfl) rfl
theorem q1630 : (Jvm.Cond.soleField "RosehipCircuitsModel" "look") ∈ lw_all := lw_g (lw_at lw_m7 112 rfl) rfl
theorem q1631 : (Jvm.Cond.lays "RosehipCircuitsModel" "RosehipCircuitsModel" "outs" "I") ∈ lw_all := lw_g (lw_at lw_m7 113 rfl) rfl
theorem q1632 : (Jvm.Cond.soleField "RosehipCircuitsModel" "outs") ∈ lw_all := lw_g (lw_at lw_m7 114 rfl) rfl
theorem q1633 : (Jvm.Cond.laysFinal "RosehipCircuitsModel" "RosehipCircuitsModel" "times" "[I") ∈ lw_all := lw_g (lw_at lw_m7 115 rfl) rfl
theorem q1634 : (Jvm.Cond.soleField "RosehipCircuitsModel" "times") ∈ lw_all := lw_g (lw_at lw_m7 116 rfl) rfl
theorem q1635 : (Jvm.Cond.laysFinal "RosehipCircuitsModel" "RosehipCircuitsModel" "shown" "[J") ∈ lw_all := lw_g (lw_at lw_m7 117 rfl) rfl
theorem q1636 : (Jvm.Cond.soleField "RosehipCircuitsModel" "shown") ∈ lw_all := lw_g (lw_at lw_m7 118 rfl) rfl
theorem q1637 : (Jvm.Cond.laysFinal "RosehipCircuitsModel" "RosehipCircuitsModel" "left" "[J") ∈ lw_all := lw_g (lw_at lw_m7 119 rfl) rfl
theorem q1638 : (Jvm.Cond.soleField "RosehipCircuitsModel" "left") ∈ lw_all := lw_g (lw_at lw_m7 120 rfl) rfl
theorem q1639 : (Jvm.Cond.laysFinal "RosehipCircuitsModel" "RosehipCircuitsModel" "next" "[I") ∈ lw_all := lw_g (lw_at lw_m7 121 rfl) rfl
theorem q1640 : (Jvm.Cond.soleField "RosehipCircuitsModel" "next") ∈ lw_all := lw_g (lw_at lw_m7 122 rfl) rfl
theorem q1641 : (Jvm.Cond.laysFinal "RosehipCircuitsModel" "RosehipCircuitsModel" "wanted" "[I") ∈ lw_all := lw_g (lw_at lw_m7 123 rfl) rfl
theorem q1642 : (Jvm.Cond.soleField "RosehipCircuitsModel" "wanted") ∈ lw_all := lw_g (lw_at lw_m7 124 rfl) rfl
theorem q1643 : (Jvm.Cond.lays "RosehipCircuitsModel" "RosehipCircuitsModel" "at" "I") ∈ lw_all := lw_g (lw_at lw_m7 125 rfl) rfl
theorem q1644 : (Jvm.Cond.soleField "RosehipCircuitsModel" "at") ∈ lw_all := lw_g (lw_at lw_m7 126 rfl) rfl
theorem q1645 : (Jvm.Cond.lays "RosehipCircuitsModel" "RosehipCircuitsModel" "isWrong" "Z") ∈ lw_all := lw_g (lw_at lw_m7 127 rfl) rfl
theorem q1646 : (Jvm.Cond.soleField "RosehipCircuitsModel" "isWrong") ∈ lw_all := lw_g (lw_at lw_m7 128 rfl) rfl
theorem q1647 : (Jvm.Cond.lays "RosehipCircuitsModel" "RosehipCircuitsModel" "sort" "I") ∈ lw_all := lw_g (lw_at lw_m7 129 rfl) rfl
theorem q1648 : (Jvm.Cond.soleField "RosehipCircuitsModel" "sort") ∈ lw_all := lw_g (lw_at lw_m7 130 rfl) rfl
theorem q1649 : (Jvm.Cond.lays "RosehipCircuitsModel" "RosehipCircuitsModel" "one" "I") ∈ lw_all := lw_g (lw_at lw_m7 131 rfl) rfl
theorem q1650 : (Jvm.Cond.soleField "RosehipCircuitsModel" "one") ∈ lw_all := lw_g (lw_at lw_m7 132 rfl) rfl
theorem q1651 : (Jvm.Cond.lays "RosehipCircuitsModel" "RosehipCircuitsModel" "two" "I") ∈ lw_all := lw_g (lw_at lw_m7 133 rfl) rfl
theorem q1652 : (Jvm.Cond.soleField "RosehipCircuitsModel" "two") ∈ lw_all := lw_g (lw_at lw_m7 134 rfl) rfl
theorem q1653 : (Jvm.Cond.lays "RosehipCircuitsModel" "RosehipCircuitsModel" "found" "I") ∈ lw_all := lw_g (lw_at lw_m7 135 rfl) rfl
theorem q1654 : (Jvm.Cond.soleField "RosehipCircuitsModel" "found") ∈ lw_all := lw_g (lw_at lw_m7 136 rfl) rfl
theorem q1655 : (Jvm.Cond.lays "RosehipCircuitsModel" "RosehipCircuitsModel" "number" "I") ∈ lw_all := lw_g (lw_at lw_m7 137 rfl) rfl
theorem q1656 : (Jvm.Cond.soleField "RosehipCircuitsModel" "number") ∈ lw_all := lw_g (lw_at lw_m7 138 rfl) rfl
theorem q1657 : (Jvm.Cond.lays "RosehipCircuitsModel" "RosehipCircuitsModel" "areLike" "Z") ∈ lw_all := lw_g (lw_at lw_m7 139 rfl) rfl
theorem q1658 : (Jvm.Cond.soleField "RosehipCircuitsModel" "areLike") ∈ lw_all := lw_g (lw_at lw_m7 140 rfl) rfl
theorem q1659 : (Jvm.Cond.superclass "RosehipCircuitsModel" "java/lang/Object") ∈ lw_all := lw_g (lw_at lw_m7 141 rfl) rfl
theorem q1661 : (Jvm.Cond.instanceMethod ({ cls := "RosehipCircuitsModel", name := "thrown", desc := "()I" } : Jvm.MethodName)) ∈ lw_all := lw_g (lw_at lw_m7 143 rfl) rfl
theorem q1662 : (Jvm.Cond.selects "RosehipCircuitsModel" ({ cls := "RosehipCircuitsModel", name := "thrown", desc := "()I" } : Jvm.MethodName) ({ cls := "RosehipCircuitsModel", name := "thrown", desc := "()I" } : Jvm.MethodName)) ∈ lw_all := lw_g (lw_at lw_m7 144 rfl) rfl
theorem q1663 : (Jvm.Cond.code ({ cls := "RosehipCircuitsModel", name := "thrown", desc := "()I" } : Jvm.MethodName) prog_9_method_2_code (1 : Nat) (Option.some Jvm.ClassFile.FieldType.int)) ∈ lw_all := lw_g (lw_at lw_m7 145 rfl) rfl
theorem q1665 : (Jvm.Cond.instanceMethod ({ cls := "RosehipCircuitsModel", name := "undo", desc := "()I" } : Jvm.MethodName)) ∈ lw_all := lw_g (lw_at lw_m7 147 rfl) rfl
theorem q1666 : (Jvm.Cond.selects "RosehipCircuitsModel" ({ cls := "RosehipCircuitsModel", name := "undo", desc := "()I" } : Jvm.MethodName) ({ cls := "RosehipCircuitsModel", name := "undo", desc := "()I" } : Jvm.MethodName)) ∈ lw_all := lw_g (lw_at lw_m7 148 rfl) rfl
theorem q1667 : (Jvm.Cond.code ({ cls := "RosehipCircuitsModel", name := "undo", desc := "()I" } : Jvm.MethodName) prog_9_method_12_code (2 : Nat) (Option.some Jvm.ClassFile.FieldType.int)) ∈ lw_all := lw_g (lw_at lw_m7 149 rfl) rfl
theorem q1669 : (Jvm.Cond.instanceMethod ({ cls := "RosehipCircuitsModel", name := "savedStates", desc := "()I" } : Jvm.MethodName)) ∈ lw_all := lw_g (lw_at lw_m7 151 rfl) rfl
theorem q1670 : (Jvm.Cond.selects "RosehipCircuitsModel" ({ cls := "RosehipCircuitsModel", name := "savedStates", desc := "()I" } : Jvm.MethodName) ({ cls := "RosehipCircuitsModel", name := "savedStates", desc := "()I" } : Jvm.MethodName)) ∈ lw_all := lw_g (lw_at lw_m7 152 rfl) rfl
theorem q1671 : (Jvm.Cond.code ({ cls := "RosehipCircuitsModel", name := "savedStates", desc := "()I" } : Jvm.MethodName) prog_9_method_13_code (1 : Nat) (Option.some Jvm.ClassFile.FieldType.int)) ∈ lw_all := lw_g (lw_at lw_m7 153 rfl) rfl
theorem q1673 : (Jvm.Cond.instanceMethod ({ cls := "RosehipCircuitsModel", name := "keep", desc := "()I" } : Jvm.MethodName)) ∈ lw_all := lw_g (lw_at lw_m7 155 rfl) rfl
theorem q1674 : (Jvm.Cond.selects "RosehipCircuitsModel" ({ cls := "RosehipCircuitsModel", name := "keep", desc := "()I" } : Jvm.MethodName) ({ cls := "RosehipCircuitsModel", name := "keep", desc := "()I" } : Jvm.MethodName)) ∈ lw_all := lw_g (lw_at lw_m7 156 rfl) rfl
theorem q1675 : (Jvm.Cond.code ({ cls := "RosehipCircuitsModel", name := "keep", desc := "()I" } : Jvm.MethodName) prog_9_method_14_code (2 : Nat) (Option.some Jvm.ClassFile.FieldType.int)) ∈ lw_all := lw_g (lw_at lw_m7 157 rfl) rfl
theorem q1677 : (Jvm.Cond.instanceMethod ({ cls := "RosehipCircuitsModel", name := "restore", desc := "()I" } : Jvm.MethodName)) ∈ lw_all := lw_g (lw_at lw_m7 159 rfl) rfl
theorem q1678 : (Jvm.Cond.selects "RosehipCircuitsModel" ({ cls := "RosehipCircuitsModel", name := "restore", desc := "()I" } : Jvm.MethodName) ({ cls := "RosehipCircuitsModel", name := "restore", desc := "()I" } : Jvm.MethodName)) ∈ lw_all := lw_g (lw_at lw_m7 160 rfl) rfl
theorem q1679 : (Jvm.Cond.code ({ cls := "RosehipCircuitsModel", name := "restore", desc := "()I" } : Jvm.MethodName) prog_9_method_15_code (2 : Nat) (Option.some Jvm.ClassFile.FieldType.int)) ∈ lw_all := lw_g (lw_at lw_m7 161 rfl) rfl
theorem q1680 : (Jvm.Cond.methodLink "RosehipCircuitsModel" (69 : Nat) ({ cls := "RosehipCircuitsModel", name := "record", desc := "()V" } : Jvm.MethodName)) ∈ lw_all := lw_g (lw_at lw_m7 162 rfl) rfl
theorem q1681 : (Jvm.Cond.privateMethod ({ cls := "RosehipCircuitsModel", name := "record", desc := "()V" } : Jvm.MethodName)) ∈ lw_tbl := lw_at lw_m7 163 rfl
theorem q1682 : (Jvm.Cond.instanceMethod ({ cls := "RosehipCircuitsModel", name := "record", desc := "()V" } : Jvm.MethodName)) ∈ lw_all := lw_g (lw_at lw_m7 164 rfl) rfl
theorem q1683 : (Jvm.Cond.code ({ cls := "RosehipCircuitsModel", name := "record", desc := "()V" } : Jvm.MethodName) prog_9_method_11_code (2 : Nat) (Option.none : Option Jvm.ClassFile.FieldType)) ∈ lw_all := lw_g (lw_at lw_m7 165 rfl) rfl
theorem q1685 : (Jvm.Cond.instanceMethod ({ cls := "RosehipCircuitsModel", name := "addGate", desc := "(III)I" } : Jvm.MethodName)) ∈ lw_all := lw_g (lw_at lw_m7 167 rfl) rfl
theorem q1686 : (Jvm.Cond.selects "RosehipCircuitsModel" ({ cls := "RosehipCircuitsModel", name := "addGate", desc := "(III)I" } : Jvm.MethodName) ({ cls := "RosehipCircuitsModel", name := "addGate", desc := "(III)I" } : Jvm.MethodName)) ∈ lw_all := lw_g (lw_at lw_m7 168 rfl) rfl
theorem q1687 : (Jvm.Cond.code ({ cls := "RosehipCircuitsModel", name := "addGate", desc := "(III)I" } : Jvm.MethodName) prog_9_method_28_code (4 : Nat) (Option.some Jvm.ClassFile.FieldType.int)) ∈ lw_all := lw_g (lw_at lw_m7 169 rfl) rfl
theorem q1688 : (Jvm.Cond.methodLink "RosehipCircuitsModel" (113 : Nat) ({ cls := "RosehipCircuitsModel", name := "noGate", desc := "(III)I" } : Jvm.MethodName)) ∈ lw_all := lw_g (lw_at lw_m7 170 rfl) rfl
theorem q1689 : (Jvm.Cond.privateMethod ({ cls := "RosehipCircuitsModel", name := "noGate", desc := "(III)I" } : Jvm.MethodName)) ∈ lw_tbl := lw_at lw_m7 171 rfl
theorem q1690 : (Jvm.Cond.instanceMethod ({ cls := "RosehipCircuitsModel", name := "noGate", desc := "(III)I" } : Jvm.MethodName)) ∈ lw_all := lw_g (lw_at lw_m7 172 rfl) rfl
theorem q1691 : (Jvm.Cond.code ({ cls := "RosehipCircuitsModel", name := "noGate", desc := "(III)I" } : Jvm.MethodName) prog_9_method_26_code (4 : Nat) (Option.some Jvm.ClassFile.FieldType.int)) ∈ lw_all := lw_g (lw_at lw_m7 173 rfl) rfl
theorem q1692 : (Jvm.Cond.methodLink "RosehipCircuitsModel" (107 : Nat) ({ cls := "RosehipCircuitsModel", name := "isLine", desc := "(I)Z" } : Jvm.MethodName)) ∈ lw_all := lw_g (lw_at lw_m7 174 rfl) rfl
theorem q1693 : (Jvm.Cond.privateMethod ({ cls := "RosehipCircuitsModel", name := "isLine", desc := "(I)Z" } : Jvm.MethodName)) ∈ lw_tbl := lw_at lw_m7 175 rfl
theorem q1694 : (Jvm.Cond.instanceMethod ({ cls := "RosehipCircuitsModel", name := "isLine", desc := "(I)Z" } : Jvm.MethodName)) ∈ lw_all := lw_g (lw_at lw_m7 176 rfl) rfl
theorem q1695 : (Jvm.Cond.code ({ cls := "RosehipCircuitsModel", name := "isLine", desc := "(I)Z" } : Jvm.MethodName) prog_9_method_5_code (2 : Nat) (Option.some Jvm.ClassFile.FieldType.boolean)) ∈ lw_all := lw_g (lw_at lw_m7 177 rfl) rfl
theorem q1696 : (Jvm.Cond.methodLink "RosehipCircuitsModel" (54 : Nat) ({ cls := "RosehipCircuitsModel", name := "lines", desc := "()I" } : Jvm.MethodName)) ∈ lw_all := lw_g (lw_at lw_m7 178 rfl) rfl
theorem q1697 : (Jvm.Cond.privateMethod ({ cls := "RosehipCircuitsModel", name := "lines", desc := "()I" } : Jvm.MethodName)) ∈ lw_tbl := lw_at lw_m7 179 rfl
theorem q1698 : (Jvm.Cond.instanceMethod ({ cls := "RosehipCircuitsModel", name := "lines", desc := "()I" } : Jvm.MethodName)) ∈ lw_all := lw_g (lw_at lw_m7 180 rfl) rfl
theorem q1699 : (Jvm.Cond.code ({ cls := "RosehipCircuitsModel", name := "lines", desc := "()I" } : Jvm.MethodName) prog_9_method_4_code (1 : Nat) (Option.some Jvm.ClassFile.FieldType.int)) ∈ lw_all := lw_g (lw_at lw_m7 181 rfl) rfl
theorem q1700 : (Jvm.Cond.methodLink "RosehipCircuitsModel" (58 : Nat) ({ cls := "RosehipCircuitsModel", name := "in", desc := "(III)Z" } : Jvm.MethodName)) ∈ lw_all := lw_g (lw_at lw_m7 182 rfl) rfl
theorem q1701 : (Jvm.Cond.static ({ cls := "RosehipCircuitsModel", name := "in", desc := "(III)Z" } : Jvm.MethodName)) ∈ lw_all := lw_g (lw_at lw_m7 183 rfl) rfl
theorem q1702 : (Jvm.Cond.code ({ cls := "RosehipCircuitsModel", name := "in", desc := "(III)Z" } : Jvm.MethodName) prog_9_method_3_code (3 : Nat) (Option.some Jvm.ClassFile.FieldType.boolean)) ∈ lw_all := lw_g (lw_at lw_m7 184 rfl) rfl
theorem q1703 : (Jvm.Cond.methodLink "RosehipCircuitsModel" (117 : Nat) ({ cls := "RosehipCircuitsModel", name := "adds", desc := "(III)V" } : Jvm.MethodName)) ∈ lw_all := lw_g (lw_at lw_m7 185 rfl) rfl
theorem q1704 : (Jvm.Cond.privateMethod ({ cls := "RosehipCircuitsModel", name := "adds", desc := "(III)V" } : Jvm.MethodName)) ∈ lw_tbl := lw_at lw_m7 186 rfl
theorem q1705 : (Jvm.Cond.instanceMethod ({ cls := "RosehipCircuitsModel", name := "adds", desc := "(III)V" } : Jvm.MethodName)) ∈ lw_all := lw_g (lw_at lw_m7 187 rfl) rfl
theorem q1706 : (Jvm.Cond.code ({ cls := "RosehipCircuitsModel", name := "adds", desc := "(III)V" } : Jvm.MethodName) prog_9_method_27_code (5 : Nat) (Option.none : Option Jvm.ClassFile.FieldType)) ∈ lw_all := lw_g (lw_at lw_m7 188 rfl) rfl
theorem q1707 : (Jvm.Cond.methodLink "RosehipCircuitsModel" (110 : Nat) ({ cls := "RosehipCircuitsModel", name := "changed", desc := "()V" } : Jvm.MethodName)) ∈ lw_all := lw_g (lw_at lw_m7 189 rfl) rfl
theorem q1708 : (Jvm.Cond.privateMethod ({ cls := "RosehipCircuitsModel", name := "changed", desc := "()V" } : Jvm.MethodName)) ∈ lw_tbl := lw_at lw_m7 190 rfl
theorem q1709 : (Jvm.Cond.instanceMethod ({ cls := "RosehipCircuitsModel", name := "changed", desc := "()V" } : Jvm.MethodName)) ∈ lw_all := lw_g (lw_at lw_m7 191 rfl) rfl
theorem q1710 : (Jvm.Cond.code ({ cls := "RosehipCircuitsModel", name := "changed", desc := "()V" } : Jvm.MethodName) prog_9_method_25_code (1 : Nat) (Option.none : Option Jvm.ClassFile.FieldType)) ∈ lw_all := lw_g (lw_at lw_m7 192 rfl) rfl
theorem q1711 : (Jvm.Cond.methodLink "RosehipCircuitsModel" (100 : Nat) ({ cls := "RosehipCircuitsModel", name := "forget", desc := "()V" } : Jvm.MethodName)) ∈ lw_all := lw_g (lw_at lw_m7 193 rfl) rfl
theorem q1712 : (Jvm.Cond.privateMethod ({ cls := "RosehipCircuitsModel", name := "forget", desc := "()V" } : Jvm.MethodName)) ∈ lw_tbl := lw_at lw_m7 194 rfl
theorem q1713 : (Jvm.Cond.instanceMethod ({ cls := "RosehipCircuitsModel", name := "forget", desc := "()V" } : Jvm.MethodName)) ∈ lw_all := lw_g (lw_at lw_m7 195 rfl) rfl
theorem q1714 : (Jvm.Cond.code ({ cls := "RosehipCircuitsModel", name := "forget", desc := "()V" } : Jvm.MethodName) prog_9_method_24_code (2 : Nat) (Option.none : Option Jvm.ClassFile.FieldType)) ∈ lw_all := lw_g (lw_at lw_m7 196 rfl) rfl
theorem q1715 : (Jvm.Cond.methodLink "RosehipCircuitsModel" (103 : Nat) ({ cls := "RosehipCircuitsModel", name := "isFault", desc := "(I)Z" } : Jvm.MethodName)) ∈ lw_all := lw_g (lw_at lw_m7 197 rfl) rfl
theorem q1716 : (Jvm.Cond.privateMethod ({ cls := "RosehipCircuitsModel", name := "isFault", desc := "(I)Z" } : Jvm.MethodName)) ∈ lw_tbl := lw_at lw_m7 198 rfl
theorem q1717 : (Jvm.Cond.instanceMethod ({ cls := "RosehipCircuitsModel", name := "isFault", desc := "(I)Z" } : Jvm.MethodName)) ∈ lw_all := lw_g (lw_at lw_m7 199 rfl) rfl
theorem q1718 : (Jvm.Cond.code ({ cls := "RosehipCircuitsModel", name := "isFault", desc := "(I)Z" } : Jvm.MethodName) prog_9_method_7_code (2 : Nat) (Option.some Jvm.ClassFile.FieldType.boolean)) ∈ lw_all := lw_g (lw_at lw_m7 200 rfl) rfl
theorem q1720 : (Jvm.Cond.instanceMethod ({ cls := "RosehipCircuitsModel", name := "dropGate", desc := "()I" } : Jvm.MethodName)) ∈ lw_all := lw_g (lw_at lw_m7 202 rfl) rfl
theorem q1721 : (Jvm.Cond.selects "RosehipCircuitsModel" ({ cls := "RosehipCircuitsModel", name := "dropGate", desc := "()I" } : Jvm.MethodName) ({ cls := "RosehipCircuitsModel", name := "dropGate", desc := "()I" } : Jvm.MethodName)) ∈ lw_all := lw_g (lw_at lw_m7 203 rfl) rfl
theorem q1722 : (Jvm.Cond.code ({ cls := "RosehipCircuitsModel", name := "dropGate", desc := "()I" } : Jvm.MethodName) prog_9_method_29_code (1 : Nat) (Option.some Jvm.ClassFile.FieldType.int)) ∈ lw_all := lw_g (lw_at lw_m7 204 rfl) rfl
theorem q1724 : (Jvm.Cond.instanceMethod ({ cls := "RosehipCircuitsModel", name := "setKind", desc := "(II)I" } : Jvm.MethodName)) ∈ lw_all := lw_g (lw_at lw_m7 206 rfl) rfl
theorem q1725 : (Jvm.Cond.selects "RosehipCircuitsModel" ({ cls := "RosehipCircuitsModel", name := "setKind", desc := "(II)I" } : Jvm.MethodName) ({ cls := "RosehipCircuitsModel", name := "setKind", desc := "(II)I" } : Jvm.MethodName)) ∈ lw_all := lw_g (lw_at lw_m7 207 rfl) rfl
theorem q1726 : (Jvm.Cond.code ({ cls := "RosehipCircuitsModel", name := "setKind", desc := "(II)I" } : Jvm.MethodName) prog_9_method_30_code (4 : Nat) (Option.some Jvm.ClassFile.FieldType.int)) ∈ lw_all := lw_g (lw_at lw_m7 208 rfl) rfl
theorem q1727 : (Jvm.Cond.methodLink "RosehipCircuitsModel" (121 : Nat) ({ cls := "RosehipCircuitsModel", name := "isGate", desc := "(I)Z" } : Jvm.MethodName)) ∈ lw_all := lw_g (lw_at lw_m7 209 rfl) rfl
theorem q1728 : (Jvm.Cond.privateMethod ({ cls := "RosehipCircuitsModel", name := "isGate", desc := "(I)Z" } : Jvm.MethodName)) ∈ lw_tbl := lw_at lw_m7 210 rfl
theorem q1729 : (Jvm.Cond.instanceMethod ({ cls := "RosehipCircuitsModel", name := "isGate", desc := "(I)Z" } : Jvm.MethodName)) ∈ lw_all := lw_g (lw_at lw_m7 211 rfl) rfl
theorem q1730 : (Jvm.Cond.code ({ cls := "RosehipCircuitsModel", name := "isGate", desc := "(I)Z" } : Jvm.MethodName) prog_9_method_6_code (2 : Nat) (Option.some Jvm.ClassFile.FieldType.boolean)) ∈ lw_all := lw_g (lw_at lw_m7 212 rfl) rfl
theorem q1731 : (Jvm.Cond.methodLink "RosehipCircuitsModel" (82 : Nat) ({ cls := "RosehipCircuitsModel", name := "has", desc := "(II)Z" } : Jvm.MethodName)) ∈ lw_all := lw_g (lw_at lw_m7 213 rfl) rfl
theorem q1732 : (Jvm.Cond.static ({ cls := "RosehipCircuitsModel", name := "has", desc := "(II)Z" } : Jvm.MethodName)) ∈ lw_all := lw_g (lw_at lw_m7 214 rfl) rfl
theorem q1733 : (Jvm.Cond.code ({ cls := "RosehipCircuitsModel", name := "has", desc := "(II)Z" } : Jvm.MethodName) prog_9_method_8_code (2 : Nat) (Option.some Jvm.ClassFile.FieldType.boolean)) ∈ lw_all := lw_g (lw_at lw_m7 215 rfl) rfl
theorem q1735 : (Jvm.Cond.instanceMethod ({ cls := "RosehipCircuitsModel", name := "setSource", desc := "(III)I" } : Jvm.MethodName)) ∈ lw_all := lw_g (lw_at lw_m7 217 rfl) rfl
theorem q1736 : (Jvm.Cond.selects "RosehipCircuitsModel" ({ cls := "RosehipCircuitsModel", name := "setSource", desc := "(III)I" } : Jvm.MethodName) ({ cls := "RosehipCircuitsModel", name := "setSource", desc := "(III)I" } : Jvm.MethodName)) ∈ lw_all := lw_g (lw_at lw_m7 218 rfl) rfl
theorem q1737 : (Jvm.Cond.code ({ cls := "RosehipCircuitsModel", name := "setSource", desc := "(III)I" } : Jvm.MethodName) prog_9_method_31_code (6 : Nat) (Option.some Jvm.ClassFile.FieldType.int)) ∈ lw_all := lw_g (lw_at lw_m7 219 rfl) rfl
theorem q1739 : (Jvm.Cond.instanceMethod ({ cls := "RosehipCircuitsModel", name := "turnOutput", desc := "(I)I" } : Jvm.MethodName)) ∈ lw_all := lw_g (lw_at lw_m7 221 rfl) rfl
theorem q1740 : (Jvm.Cond.selects "RosehipCircuitsModel" ({ cls := "RosehipCircuitsModel", name := "turnOutput", desc := "(I)I" } : Jvm.MethodName) ({ cls := "RosehipCircuitsModel", name := "turnOutput", desc := "(I)I" } : Jvm.MethodName)) ∈ lw_all := lw_g (lw_at lw_m7 222 rfl) rfl
theorem q1741 : (Jvm.Cond.code ({ cls := "RosehipCircuitsModel", name := "turnOutput", desc := "(I)I" } : Jvm.MethodName) prog_9_method_35_code (2 : Nat) (Option.some Jvm.ClassFile.FieldType.int)) ∈ lw_all := lw_g (lw_at lw_m7 223 rfl) rfl
theorem q1742 : (Jvm.Cond.methodLink "RosehipCircuitsModel" (128 : Nat) ({ cls := "RosehipCircuitsModel", name := "noOutput", desc := "(I)I" } : Jvm.MethodName)) ∈ lw_all := lw_g (lw_at lw_m7 224 rfl) rfl
theorem q1743 : (Jvm.Cond.privateMethod ({ cls := "RosehipCircuitsModel", name := "noOutput", desc := "(I)I" } : Jvm.MethodName)) ∈ lw_tbl := lw_at lw_m7 225 rfl
theorem q1744 : (Jvm.Cond.instanceMethod ({ cls := "RosehipCircuitsModel", name := "noOutput", desc := "(I)I" } : Jvm.MethodName)) ∈ lw_all := lw_g (lw_at lw_m7 226 rfl) rfl
theorem q1745 : (Jvm.Cond.code ({ cls := "RosehipCircuitsModel", name := "noOutput", desc := "(I)I" } : Jvm.MethodName) prog_9_method_32_code (2 : Nat) (Option.some Jvm.ClassFile.FieldType.int)) ∈ lw_all := lw_g (lw_at lw_m7 227 rfl) rfl
theorem q1746 : (Jvm.Cond.methodLink "RosehipCircuitsModel" (124 : Nat) ({ cls := "RosehipCircuitsModel", name := "count", desc := "(I)I" } : Jvm.MethodName)) ∈ lw_all := lw_g (lw_at lw_m7 228 rfl) rfl
theorem q1747 : (Jvm.Cond.static ({ cls := "RosehipCircuitsModel", name := "count", desc := "(I)I" } : Jvm.MethodName)) ∈ lw_all := lw_g (lw_at lw_m7 229 rfl) rfl
theorem q1748 : (Jvm.Cond.code ({ cls := "RosehipCircuitsModel", name := "count", desc := "(I)I" } : Jvm.MethodName) prog_9_method_9_code (3 : Nat) (Option.some Jvm.ClassFile.FieldType.int)) ∈ lw_all := lw_g (lw_at lw_m7 230 rfl) rfl
theorem q1749 : (Jvm.Cond.methodLink "RosehipCircuitsModel" (131 : Nat) ({ cls := "RosehipCircuitsModel", name := "turns", desc := "(II)I" } : Jvm.MethodName)) ∈ lw_all := lw_g (lw_at lw_m7 231 rfl) rfl
theorem q1750 : (Jvm.Cond.privateMethod ({ cls := "RosehipCircuitsModel", name := "turns", desc := "(II)I" } : Jvm.MethodName)) ∈ lw_tbl := lw_at lw_m7 232 rfl
theorem q1751 : (Jvm.Cond.instanceMethod ({ cls := "RosehipCircuitsModel", name := "turns", desc := "(II)I" } : Jvm.MethodName)) ∈ lw_all := lw_g (lw_at lw_m7 233 rfl) rfl
theorem q1752 : (Jvm.Cond.code ({ cls := "RosehipCircuitsModel", name := "turns", desc := "(II)I" } : Jvm.MethodName) prog_9_method_34_code (3 : Nat) (Option.some Jvm.ClassFile.FieldType.int)) ∈ lw_all := lw_g (lw_at lw_m7 234 rfl) rfl
theorem q1754 : (Jvm.Cond.instanceMethod ({ cls := "RosehipCircuitsModel", name := "turnBox", desc := "(I)I" } : Jvm.MethodName)) ∈ lw_all := lw_g (lw_at lw_m7 236 rfl) rfl
theorem q1755 : (Jvm.Cond.selects "RosehipCircuitsModel" ({ cls := "RosehipCircuitsModel", name := "turnBox", desc := "(I)I" } : Jvm.MethodName) ({ cls := "RosehipCircuitsModel", name := "turnBox", desc := "(I)I" } : Jvm.MethodName)) ∈ lw_all := lw_g (lw_at lw_m7 237 rfl) rfl
theorem q1756 : (Jvm.Cond.code ({ cls := "RosehipCircuitsModel", name := "turnBox", desc := "(I)I" } : Jvm.MethodName) prog_9_method_36_code (2 : Nat) (Option.some Jvm.ClassFile.FieldType.int)) ∈ lw_all := lw_g (lw_at lw_m7 238 rfl) rfl
theorem q1757 : (Jvm.Cond.methodLink "RosehipCircuitsModel" (135 : Nat) ({ cls := "RosehipCircuitsModel", name := "noBox", desc := "(I)I" } : Jvm.MethodName)) ∈ lw_all := lw_g (lw_at lw_m7 239 rfl) rfl
theorem q1758 : (Jvm.Cond.privateMethod ({ cls := "RosehipCircuitsModel", name := "noBox", desc := "(I)I" } : Jvm.MethodName)) ∈ lw_tbl := lw_at lw_m8 0 rfl
theorem q1759 : (Jvm.Cond.instanceMethod ({ cls := "RosehipCircuitsModel", name := "noBox", desc := "(I)I" } : Jvm.MethodName)) ∈ lw_all := lw_g (lw_at lw_m8 1 rfl) rfl
theorem q1760 : (Jvm.Cond.code ({ cls := "RosehipCircuitsModel", name := "noBox", desc := "(I)I" } : Jvm.MethodName) prog_9_method_33_code (2 : Nat) (Option.some Jvm.ClassFile.FieldType.int)) ∈ lw_all := lw_g (lw_at lw_m8 2 rfl) rfl
theorem q1762 : (Jvm.Cond.instanceMethod ({ cls := "RosehipCircuitsModel", name := "setSecret", desc := "(I)I" } : Jvm.MethodName)) ∈ lw_all := lw_g (lw_at lw_m8 4 rfl) rfl
theorem q1763 : (Jvm.Cond.selects "RosehipCircuitsModel" ({ cls := "RosehipCircuitsModel", name := "setSecret", desc := "(I)I" } : Jvm.MethodName) ({ cls := "RosehipCircuitsModel", name := "setSecret", desc := "(I)I" } : Jvm.MethodName)) ∈ lw_all := lw_g (lw_at lw_m8 5 rfl) rfl
theorem q1764 : (Jvm.Cond.code ({ cls := "RosehipCircuitsModel", name := "setSecret", desc := "(I)I" } : Jvm.MethodName) prog_9_method_37_code (3 : Nat) (Option.some Jvm.ClassFile.FieldType.int)) ∈ lw_all := lw_g (lw_at lw_m8 6 rfl) rfl
theorem q1766 : (Jvm.Cond.instanceMethod ({ cls := "RosehipCircuitsModel", name := "turnSuspicion", desc := "()Z" } : Jvm.MethodName)) ∈ lw_all := lw_g (lw_at lw_m8 8 rfl) rfl
theorem q1767 : (Jvm.Cond.selects "RosehipCircuitsModel" ({ cls := "RosehipCircuitsModel", name := "turnSuspicion", desc := "()Z" } : Jvm.MethodName) ({ cls := "RosehipCircuitsModel", name := "turnSuspicion", desc := "()Z" } : Jvm.MethodName)) ∈ lw_all := lw_g (lw_at lw_m8 9 rfl) rfl
theorem q1768 : (Jvm.Cond.code ({ cls := "RosehipCircuitsModel", name := "turnSuspicion", desc := "()Z" } : Jvm.MethodName) prog_9_method_39_code (1 : Nat) (Option.some Jvm.ClassFile.FieldType.boolean)) ∈ lw_all := lw_g (lw_at lw_m8 10 rfl) rfl
theorem q1769 : (Jvm.Cond.methodLink "RosehipCircuitsModel" (138 : Nat) ({ cls := "RosehipCircuitsModel", name := "suspects", desc := "()V" } : Jvm.MethodName)) ∈ lw_all := lw_g (lw_at lw_m8 11 rfl) rfl
theorem q1770 : (Jvm.Cond.privateMethod ({ cls := "RosehipCircuitsModel", name := "suspects", desc := "()V" } : Jvm.MethodName)) ∈ lw_tbl := lw_at lw_m8 12 rfl
theorem q1771 : (Jvm.Cond.instanceMethod ({ cls := "RosehipCircuitsModel", name := "suspects", desc := "()V" } : Jvm.MethodName)) ∈ lw_all := lw_g (lw_at lw_m8 13 rfl) rfl
theorem q1772 : (Jvm.Cond.code ({ cls := "RosehipCircuitsModel", name := "suspects", desc := "()V" } : Jvm.MethodName) prog_9_method_38_code (1 : Nat) (Option.none : Option Jvm.ClassFile.FieldType)) ∈ lw_all := lw_g (lw_at lw_m8 14 rfl) rfl
theorem q1774 : (Jvm.Cond.instanceMethod ({ cls := "RosehipCircuitsModel", name := "ask", desc := "(I)I" } : Jvm.MethodName)) ∈ lw_all := lw_g (lw_at lw_m8 16 rfl) rfl
theorem q1775 : (Jvm.Cond.selects "RosehipCircuitsModel" ({ cls := "RosehipCircuitsModel", name := "ask", desc := "(I)I" } : Jvm.MethodName) ({ cls := "RosehipCircuitsModel", name := "ask", desc := "(I)I" } : Jvm.MethodName)) ∈ lw_all := lw_g (lw_at lw_m8 17 rfl) rfl
theorem q1776 : (Jvm.Cond.code ({ cls := "RosehipCircuitsModel", name := "ask", desc := "(I)I" } : Jvm.MethodName) prog_9_method_41_code (2 : Nat) (Option.some Jvm.ClassFile.FieldType.int)) ∈ lw_all := lw_g (lw_at lw_m8 18 rfl) rfl
theorem q1777 : (Jvm.Cond.methodLink "RosehipCircuitsModel" (144 : Nat) ({ cls := "RosehipCircuitsModel", name := "asks", desc := "(I)I" } : Jvm.MethodName)) ∈ lw_all := lw_g (lw_at lw_m8 19 rfl) rfl
theorem q1778 : (Jvm.Cond.privateMethod ({ cls := "RosehipCircuitsModel", name := "asks", desc := "(I)I" } : Jvm.MethodName)) ∈ lw_tbl := lw_at lw_m8 20 rfl
theorem q1779 : (Jvm.Cond.instanceMethod ({ cls := "RosehipCircuitsModel", name := "asks", desc := "(I)I" } : Jvm.MethodName)) ∈ lw_all := lw_g (lw_at lw_m8 21 rfl) rfl
theorem q1780 : (Jvm.Cond.code ({ cls := "RosehipCircuitsModel", name := "asks", desc := "(I)I" } : Jvm.MethodName) prog_9_method_40_code (3 : Nat) (Option.some Jvm.ClassFile.FieldType.int)) ∈ lw_all := lw_g (lw_at lw_m8 22 rfl) rfl
theorem q1781 : (Jvm.Cond.methodLink "RosehipCircuitsModel" (93 : Nat) ({ cls := "RosehipCircuitsModel", name := "lay", desc := "(II)V" } : Jvm.MethodName)) ∈ lw_all := lw_g (lw_at lw_m8 23 rfl) rfl
theorem q1782 : (Jvm.Cond.privateMethod ({ cls := "RosehipCircuitsModel", name := "lay", desc := "(II)V" } : Jvm.MethodName)) ∈ lw_tbl := lw_at lw_m8 24 rfl
theorem q1783 : (Jvm.Cond.instanceMethod ({ cls := "RosehipCircuitsModel", name := "lay", desc := "(II)V" } : Jvm.MethodName)) ∈ lw_all := lw_g (lw_at lw_m8 25 rfl) rfl
theorem q1784 : (Jvm.Cond.code ({ cls := "RosehipCircuitsModel", name := "lay", desc := "(II)V" } : Jvm.MethodName) prog_9_method_19_code (6 : Nat) (Option.none : Option Jvm.ClassFile.FieldType)) ∈ lw_all := lw_g (lw_at lw_m8 26 rfl) rfl
theorem q1785 : (Jvm.Cond.methodLink "RosehipCircuitsModel" (74 : Nat) ({ cls := "RosehipCircuitsModel", name := "inputTable", desc := "(I)J" } : Jvm.MethodName)) ∈ lw_all := lw_g (lw_at lw_m8 27 rfl) rfl
theorem q1786 : (Jvm.Cond.static ({ cls := "RosehipCircuitsModel", name := "inputTable", desc := "(I)J" } : Jvm.MethodName)) ∈ lw_all := lw_g (lw_at lw_m8 28 rfl) rfl
theorem q1787 : (Jvm.Cond.code ({ cls := "RosehipCircuitsModel", name := "inputTable", desc := "(I)J" } : Jvm.MethodName) prog_9_method_16_code (4 : Nat) (Option.some Jvm.ClassFile.FieldType.long)) ∈ lw_all := lw_g (lw_at lw_m8 29 rfl) rfl
theorem q1788 : (Jvm.Cond.methodLink "RosehipCircuitsModel" (78 : Nat) ({ cls := "RosehipCircuitsModel", name := "stuck", desc := "(IIJ)J" } : Jvm.MethodName)) ∈ lw_all := lw_g (lw_at lw_m8 30 rfl) rfl
theorem q1789 : (Jvm.Cond.privateMethod ({ cls := "RosehipCircuitsModel", name := "stuck", desc := "(IIJ)J" } : Jvm.MethodName)) ∈ lw_tbl := lw_at lw_m8 31 rfl
theorem q1790 : (Jvm.Cond.instanceMethod ({ cls := "RosehipCircuitsModel", name := "stuck", desc := "(IIJ)J" } : Jvm.MethodName)) ∈ lw_all := lw_g (lw_at lw_m8 32 rfl) rfl
theorem q1791 : (Jvm.Cond.code ({ cls := "RosehipCircuitsModel", name := "stuck", desc := "(IIJ)J" } : Jvm.MethodName) prog_9_method_18_code (5 : Nat) (Option.some Jvm.ClassFile.FieldType.long)) ∈ lw_all := lw_g (lw_at lw_m8 33 rfl) rfl
theorem q1792 : (Jvm.Cond.constantLong "RosehipCircuitsModel" (72 : Nat) (-1 : Int64)) ∈ lw_all := lw_g (lw_at lw_m8 34 rfl) rfl
theorem q1793 : (Jvm.Cond.methodLink "RosehipCircuitsModel" (86 : Nat) ({ cls := "RosehipCircuitsModel", name := "gate", desc := "(IJJ)J" } : Jvm.MethodName)) ∈ lw_all := lw_g (lw_at lw_m8 35 rfl) rfl
theorem q1794 : (Jvm.Cond.static ({ cls := "RosehipCircuitsModel", name := "gate", desc := "(IJJ)J" } : Jvm.MethodName)) ∈ lw_all := lw_g (lw_at lw_m8 36 rfl) rfl
theorem q1795 : (Jvm.Cond.code ({ cls := "RosehipCircuitsModel", name := "gate", desc := "(IJJ)J" } : Jvm.MethodName) prog_9_method_17_code (7 : Nat) (Option.some Jvm.ClassFile.FieldType.long)) ∈ lw_all := lw_g (lw_at lw_m8 37 rfl) rfl
theorem q1796 : (Jvm.Cond.methodLink "RosehipCircuitsModel" (141 : Nat) ({ cls := "RosehipCircuitsModel", name := "answer", desc := "(I)I" } : Jvm.MethodName)) ∈ lw_all := lw_g (lw_at lw_m8 38 rfl) rfl
theorem q1797 : (Jvm.Cond.privateMethod ({ cls := "RosehipCircuitsModel", name := "answer", desc := "(I)I" } : Jvm.MethodName)) ∈ lw_tbl := lw_at lw_m8 39 rfl
theorem q1798 : (Jvm.Cond.instanceMethod ({ cls := "RosehipCircuitsModel", name := "answer", desc := "(I)I" } : Jvm.MethodName)) ∈ lw_all := lw_g (lw_at lw_m8 40 rfl) rfl
theorem q1799 : (Jvm.Cond.code ({ cls := "RosehipCircuitsModel", name := "answer", desc := "(I)I" } : Jvm.MethodName) prog_9_method_20_code (4 : Nat) (Option.some Jvm.ClassFile.FieldType.int)) ∈ lw_all := lw_g (lw_at lw_m8 41 rfl) rfl
theorem q1801 : (Jvm.Cond.instanceMethod ({ cls := "RosehipCircuitsModel", name := "askBest", desc := "(I)I" } : Jvm.MethodName)) ∈ lw_all := lw_g (lw_at lw_m8 43 rfl) rfl
theorem q1802 : (Jvm.Cond.selects "RosehipCircuitsModel" ({ cls := "RosehipCircuitsModel", name := "askBest", desc := "(I)I" } : Jvm.MethodName) ({ cls := "RosehipCircuitsModel", name := "askBest", desc := "(I)I" } : Jvm.MethodName)) ∈ lw_all := lw_g (lw_at lw_m8 44 rfl) rfl
theorem q1803 : (Jvm.Cond.code ({ cls := "RosehipCircuitsModel", name := "askBest", desc := "(I)I" } : Jvm.MethodName) prog_9_method_48_code (3 : Nat) (Option.some Jvm.ClassFile.FieldType.int)) ∈ lw_all := lw_g (lw_at lw_m8 45 rfl) rfl
theorem q1804 : (Jvm.Cond.methodLink "RosehipCircuitsModel" (168 : Nat) ({ cls := "RosehipCircuitsModel", name := "goThrough", desc := "(IZ)V" } : Jvm.MethodName)) ∈ lw_all := lw_g (lw_at lw_m8 46 rfl) rfl
theorem q1805 : (Jvm.Cond.privateMethod ({ cls := "RosehipCircuitsModel", name := "goThrough", desc := "(IZ)V" } : Jvm.MethodName)) ∈ lw_tbl := lw_at lw_m8 47 rfl
theorem q1806 : (Jvm.Cond.instanceMethod ({ cls := "RosehipCircuitsModel", name := "goThrough", desc := "(IZ)V" } : Jvm.MethodName)) ∈ lw_all := lw_g (lw_at lw_m8 48 rfl) rfl
theorem q1807 : (Jvm.Cond.code ({ cls := "RosehipCircuitsModel", name := "goThrough", desc := "(IZ)V" } : Jvm.MethodName) prog_9_method_45_code (8 : Nat) (Option.none : Option Jvm.ClassFile.FieldType)) ∈ lw_all := lw_g (lw_at lw_m8 49 rfl) rfl
theorem q1808 : (Jvm.Cond.methodLink "RosehipCircuitsModel" (156 : Nat) ({ cls := "RosehipCircuitsModel", name := "kindSums", desc := "()I" } : Jvm.MethodName)) ∈ lw_all := lw_g (lw_at lw_m8 50 rfl) rfl
theorem q1809 : (Jvm.Cond.privateMethod ({ cls := "RosehipCircuitsModel", name := "kindSums", desc := "()I" } : Jvm.MethodName)) ∈ lw_tbl := lw_at lw_m8 51 rfl
theorem q1810 : (Jvm.Cond.instanceMethod ({ cls := "RosehipCircuitsModel", name := "kindSums", desc := "()I" } : Jvm.MethodName)) ∈ lw_all := lw_g (lw_at lw_m8 52 rfl) rfl
theorem q1811 : (Jvm.Cond.code ({ cls := "RosehipCircuitsModel", name := "kindSums", desc := "()I" } : Jvm.MethodName) prog_9_method_42_code (3 : Nat) (Option.some Jvm.ClassFile.FieldType.int)) ∈ lw_all := lw_g (lw_at lw_m8 53 rfl) rfl
theorem q1812 : (Jvm.Cond.methodLink "RosehipCircuitsModel" (159 : Nat) ({ cls := "RosehipCircuitsModel", name := "faults", desc := "()I" } : Jvm.MethodName)) ∈ lw_all := lw_g (lw_at lw_m8 54 rfl) rfl
theorem q1813 : (Jvm.Cond.privateMethod ({ cls := "RosehipCircuitsModel", name := "faults", desc := "()I" } : Jvm.MethodName)) ∈ lw_tbl := lw_at lw_m8 55 rfl
theorem q1814 : (Jvm.Cond.instanceMethod ({ cls := "RosehipCircuitsModel", name := "faults", desc := "()I" } : Jvm.MethodName)) ∈ lw_all := lw_g (lw_at lw_m8 56 rfl) rfl
theorem q1815 : (Jvm.Cond.code ({ cls := "RosehipCircuitsModel", name := "faults", desc := "()I" } : Jvm.MethodName) prog_9_method_43_code (1 : Nat) (Option.some Jvm.ClassFile.FieldType.int)) ∈ lw_all := lw_g (lw_at lw_m8 57 rfl) rfl
theorem q1816 : (Jvm.Cond.methodLink "RosehipCircuitsModel" (162 : Nat) ({ cls := "RosehipCircuitsModel", name := "isCandidate", desc := "(II)Z" } : Jvm.MethodName)) ∈ lw_all := lw_g (lw_at lw_m8 58 rfl) rfl
theorem q1817 : (Jvm.Cond.privateMethod ({ cls := "RosehipCircuitsModel", name := "isCandidate", desc := "(II)Z" } : Jvm.MethodName)) ∈ lw_tbl := lw_at lw_m8 59 rfl
theorem q1818 : (Jvm.Cond.instanceMethod ({ cls := "RosehipCircuitsModel", name := "isCandidate", desc := "(II)Z" } : Jvm.MethodName)) ∈ lw_all := lw_g (lw_at lw_m8 60 rfl) rfl
theorem q1819 : (Jvm.Cond.code ({ cls := "RosehipCircuitsModel", name := "isCandidate", desc := "(II)Z" } : Jvm.MethodName) prog_9_method_44_code (5 : Nat) (Option.some Jvm.ClassFile.FieldType.boolean)) ∈ lw_all := lw_g (lw_at lw_m8 61 rfl) rfl
theorem q1820 : (Jvm.Cond.methodLink "RosehipCircuitsModel" (172 : Nat) ({ cls := "RosehipCircuitsModel", name := "best", desc := "()I" } : Jvm.MethodName)) ∈ lw_all := lw_g (lw_at lw_m8 62 rfl) rfl
theorem q1821 : (Jvm.Cond.privateMethod ({ cls := "RosehipCircuitsModel", name := "best", desc := "()I" } : Jvm.MethodName)) ∈ lw_tbl := lw_at lw_m8 63 rfl
theorem q1822 : (Jvm.Cond.instanceMethod ({ cls := "RosehipCircuitsModel", name := "best", desc := "()I" } : Jvm.MethodName)) ∈ lw_all := lw_g (lw_at lw_m8 64 rfl) rfl
theorem q1823 : (Jvm.Cond.code ({ cls := "RosehipCircuitsModel", name := "best", desc := "()I" } : Jvm.MethodName) prog_9_method_47_code (3 : Nat) (Option.some Jvm.ClassFile.FieldType.int)) ∈ lw_all := lw_g (lw_at lw_m8 65 rfl) rfl
theorem q1824 : (Jvm.Cond.methodLink "RosehipCircuitsModel" (165 : Nat) ({ cls := "RosehipCircuitsModel", name := "worst", desc := "(I)I" } : Jvm.MethodName)) ∈ lw_all := lw_g (lw_at lw_m8 66 rfl) rfl
theorem q1825 : (Jvm.Cond.privateMethod ({ cls := "RosehipCircuitsModel", name := "worst", desc := "(I)I" } : Jvm.MethodName)) ∈ lw_tbl := lw_at lw_m8 67 rfl
theorem q1826 : (Jvm.Cond.instanceMethod ({ cls := "RosehipCircuitsModel", name := "worst", desc := "(I)I" } : Jvm.MethodName)) ∈ lw_all := lw_g (lw_at lw_m8 68 rfl) rfl
theorem q1827 : (Jvm.Cond.code ({ cls := "RosehipCircuitsModel", name := "worst", desc := "(I)I" } : Jvm.MethodName) prog_9_method_46_code (4 : Nat) (Option.some Jvm.ClassFile.FieldType.int)) ∈ lw_all := lw_g (lw_at lw_m8 69 rfl) rfl
theorem q1829 : (Jvm.Cond.instanceMethod ({ cls := "RosehipCircuitsModel", name := "choose", desc := "()I" } : Jvm.MethodName)) ∈ lw_all := lw_g (lw_at lw_m8 71 rfl) rfl
theorem q1830 : (Jvm.Cond.selects "RosehipCircuitsModel" ({ cls := "RosehipCircuitsModel", name := "choose", desc := "()I" } : Jvm.MethodName) ({ cls := "RosehipCircuitsModel", name := "choose", desc := "()I" } : Jvm.MethodName)) ∈ lw_all := lw_g (lw_at lw_m8 72 rfl) rfl
theorem q1831 : (Jvm.Cond.code ({ cls := "RosehipCircuitsModel", name := "choose", desc := "()I" } : Jvm.MethodName) prog_9_method_50_code (8 : Nat) (Option.some Jvm.ClassFile.FieldType.int)) ∈ lw_all := lw_g (lw_at lw_m8 73 rfl) rfl
theorem q1832 : (Jvm.Cond.methodLink "RosehipCircuitsModel" (179 : Nat) ({ cls := "RosehipCircuitsModel", name := "tellShown", desc := "()J" } : Jvm.MethodName)) ∈ lw_all := lw_g (lw_at lw_m8 74 rfl) rfl
theorem q1833 : (Jvm.Cond.privateMethod ({ cls := "RosehipCircuitsModel", name := "tellShown", desc := "()J" } : Jvm.MethodName)) ∈ lw_tbl := lw_at lw_m8 75 rfl
theorem q1834 : (Jvm.Cond.instanceMethod ({ cls := "RosehipCircuitsModel", name := "tellShown", desc := "()J" } : Jvm.MethodName)) ∈ lw_all := lw_g (lw_at lw_m8 76 rfl) rfl
theorem q1835 : (Jvm.Cond.code ({ cls := "RosehipCircuitsModel", name := "tellShown", desc := "()J" } : Jvm.MethodName) prog_9_method_49_code (7 : Nat) (Option.some Jvm.ClassFile.FieldType.long)) ∈ lw_all := lw_g (lw_at lw_m8 77 rfl) rfl
theorem q1836 : (Jvm.Cond.methodLink "RosehipCircuitsModel" (175 : Nat) ({ cls := "RosehipCircuitsModel", name := "apart", desc := "(II)J" } : Jvm.MethodName)) ∈ lw_all := lw_g (lw_at lw_m8 78 rfl) rfl
theorem q1837 : (Jvm.Cond.privateMethod ({ cls := "RosehipCircuitsModel", name := "apart", desc := "(II)J" } : Jvm.MethodName)) ∈ lw_tbl := lw_at lw_m8 79 rfl
theorem q1838 : (Jvm.Cond.instanceMethod ({ cls := "RosehipCircuitsModel", name := "apart", desc := "(II)J" } : Jvm.MethodName)) ∈ lw_all := lw_g (lw_at lw_m8 80 rfl) rfl
theorem q1839 : (Jvm.Cond.code ({ cls := "RosehipCircuitsModel", name := "apart", desc := "(II)J" } : Jvm.MethodName) prog_9_method_21_code (6 : Nat) (Option.some Jvm.ClassFile.FieldType.long)) ∈ lw_all := lw_g (lw_at lw_m8 81 rfl) rfl
theorem q1840 : (Jvm.Cond.methodLink "RosehipCircuitsModel" (183 : Nat) ({ cls := "RosehipCircuitsModel", name := "countLong", desc := "(J)I" } : Jvm.MethodName)) ∈ lw_all := lw_g (lw_at lw_m8 82 rfl) rfl
theorem q1841 : (Jvm.Cond.static ({ cls := "RosehipCircuitsModel", name := "countLong", desc := "(J)I" } : Jvm.MethodName)) ∈ lw_all := lw_g (lw_at lw_m8 83 rfl) rfl
theorem q1842 : (Jvm.Cond.code ({ cls := "RosehipCircuitsModel", name := "countLong", desc := "(J)I" } : Jvm.MethodName) prog_9_method_10_code (4 : Nat) (Option.some Jvm.ClassFile.FieldType.int)) ∈ lw_all := lw_g (lw_at lw_m8 84 rfl) rfl
theorem q1844 : (Jvm.Cond.instanceMethod ({ cls := "RosehipCircuitsModel", name := "fewestTests", desc := "()I" } : Jvm.MethodName)) ∈ lw_all := lw_g (lw_at lw_m8 86 rfl) rfl
theorem q1845 : (Jvm.Cond.selects "RosehipCircuitsModel" ({ cls := "RosehipCircuitsModel", name := "fewestTests", desc := "()I" } : Jvm.MethodName) ({ cls := "RosehipCircuitsModel", name := "fewestTests", desc := "()I" } : Jvm.MethodName)) ∈ lw_all := lw_g (lw_at lw_m8 87 rfl) rfl
theorem q1846 : (Jvm.Cond.code ({ cls := "RosehipCircuitsModel", name := "fewestTests", desc := "()I" } : Jvm.MethodName) prog_9_method_54_code (4 : Nat) (Option.some Jvm.ClassFile.FieldType.int)) ∈ lw_all := lw_g (lw_at lw_m8 88 rfl) rfl
theorem q1847 : (Jvm.Cond.methodLink "RosehipCircuitsModel" (190 : Nat) ({ cls := "RosehipCircuitsModel", name := "thinOut", desc := "()V" } : Jvm.MethodName)) ∈ lw_all := lw_g (lw_at lw_m8 89 rfl) rfl
theorem q1848 : (Jvm.Cond.privateMethod ({ cls := "RosehipCircuitsModel", name := "thinOut", desc := "()V" } : Jvm.MethodName)) ∈ lw_tbl := lw_at lw_m8 90 rfl
theorem q1849 : (Jvm.Cond.instanceMethod ({ cls := "RosehipCircuitsModel", name := "thinOut", desc := "()V" } : Jvm.MethodName)) ∈ lw_all := lw_g (lw_at lw_m8 91 rfl) rfl
theorem q1850 : (Jvm.Cond.code ({ cls := "RosehipCircuitsModel", name := "thinOut", desc := "()V" } : Jvm.MethodName) prog_9_method_51_code (4 : Nat) (Option.none : Option Jvm.ClassFile.FieldType)) ∈ lw_all := lw_g (lw_at lw_m8 92 rfl) rfl
theorem q1851 : (Jvm.Cond.methodLink "RosehipCircuitsModel" (193 : Nat) ({ cls := "RosehipCircuitsModel", name := "suffice", desc := "(JI)Z" } : Jvm.MethodName)) ∈ lw_all := lw_g (lw_at lw_m8 93 rfl) rfl
theorem q1852 : (Jvm.Cond.privateMethod ({ cls := "RosehipCircuitsModel", name := "suffice", desc := "(JI)Z" } : Jvm.MethodName)) ∈ lw_tbl := lw_at lw_m8 94 rfl
theorem q1853 : (Jvm.Cond.instanceMethod ({ cls := "RosehipCircuitsModel", name := "suffice", desc := "(JI)Z" } : Jvm.MethodName)) ∈ lw_all := lw_g (lw_at lw_m8 95 rfl) rfl
theorem q1854 : (Jvm.Cond.code ({ cls := "RosehipCircuitsModel", name := "suffice", desc := "(JI)Z" } : Jvm.MethodName) prog_9_method_53_code (6 : Nat) (Option.some Jvm.ClassFile.FieldType.boolean)) ∈ lw_all := lw_g (lw_at lw_m8 96 rfl) rfl
theorem q1855 : (Jvm.Cond.methodLink "RosehipCircuitsModel" (187 : Nat) ({ cls := "RosehipCircuitsModel", name := "rarest", desc := "(J)I" } : Jvm.MethodName)) ∈ lw_all := lw_g (lw_at lw_m8 97 rfl) rfl
theorem q1856 : (Jvm.Cond.privateMethod ({ cls := "RosehipCircuitsModel", name := "rarest", desc := "(J)I" } : Jvm.MethodName)) ∈ lw_tbl := lw_at lw_m8 98 rfl
theorem q1857 : (Jvm.Cond.instanceMethod ({ cls := "RosehipCircuitsModel", name := "rarest", desc := "(J)I" } : Jvm.MethodName)) ∈ lw_all := lw_g (lw_at lw_m8 99 rfl) rfl
theorem q1858 : (Jvm.Cond.code ({ cls := "RosehipCircuitsModel", name := "rarest", desc := "(J)I" } : Jvm.MethodName) prog_9_method_52_code (8 : Nat) (Option.some Jvm.ClassFile.FieldType.int)) ∈ lw_all := lw_g (lw_at lw_m8 100 rfl) rfl
theorem q1860 : (Jvm.Cond.instanceMethod ({ cls := "RosehipCircuitsModel", name := "neededTests", desc := "()J" } : Jvm.MethodName)) ∈ lw_all := lw_g (lw_at lw_m8 102 rfl) rfl
theorem q1861 : (Jvm.Cond.selects "RosehipCircuitsModel" ({ cls := "RosehipCircuitsModel", name := "neededTests", desc := "()J" } : Jvm.MethodName) ({ cls := "RosehipCircuitsModel", name := "neededTests", desc := "()J" } : Jvm.MethodName)) ∈ lw_all := lw_g (lw_at lw_m8 103 rfl) rfl
theorem q1862 : (Jvm.Cond.code ({ cls := "RosehipCircuitsModel", name := "neededTests", desc := "()J" } : Jvm.MethodName) prog_9_method_55_code (6 : Nat) (Option.some Jvm.ClassFile.FieldType.long)) ∈ lw_all := lw_g (lw_at lw_m8 104 rfl) rfl
theorem q1864 : (Jvm.Cond.instanceMethod ({ cls := "RosehipCircuitsModel", name := "append", desc := "(I)I" } : Jvm.MethodName)) ∈ lw_all := lw_g (lw_at lw_m8 106 rfl) rfl
theorem q1865 : (Jvm.Cond.selects "RosehipCircuitsModel" ({ cls := "RosehipCircuitsModel", name := "append", desc := "(I)I" } : Jvm.MethodName) ({ cls := "RosehipCircuitsModel", name := "append", desc := "(I)I" } : Jvm.MethodName)) ∈ lw_all := lw_g (lw_at lw_m8 107 rfl) rfl
theorem q1866 : (Jvm.Cond.code ({ cls := "RosehipCircuitsModel", name := "append", desc := "(I)I" } : Jvm.MethodName) prog_9_method_56_code (2 : Nat) (Option.some Jvm.ClassFile.FieldType.int)) ∈ lw_all := lw_g (lw_at lw_m8 108 rfl) rfl
theorem q1868 : (Jvm.Cond.instanceMethod ({ cls := "RosehipCircuitsModel", name := "clearText", desc := "()I" } : Jvm.MethodName)) ∈ lw_all := lw_g (lw_at lw_m8 110 rfl) rfl
theorem q1869 : (Jvm.Cond.selects "RosehipCircuitsModel" ({ cls := "RosehipCircuitsModel", name := "clearText", desc := "()I" } : Jvm.MethodName) ({ cls := "RosehipCircuitsModel", name := "clearText", desc := "()I" } : Jvm.MethodName)) ∈ lw_all := lw_g (lw_at lw_m8 111 rfl) rfl
theorem q1870 : (Jvm.Cond.code ({ cls := "RosehipCircuitsModel", name := "clearText", desc := "()I" } : Jvm.MethodName) prog_9_method_57_code (2 : Nat) (Option.some Jvm.ClassFile.FieldType.int)) ∈ lw_all := lw_g (lw_at lw_m8 112 rfl) rfl
theorem q1872 : (Jvm.Cond.instanceMethod ({ cls := "RosehipCircuitsModel", name := "fault", desc := "()I" } : Jvm.MethodName)) ∈ lw_all := lw_g (lw_at lw_m8 114 rfl) rfl
theorem q1873 : (Jvm.Cond.selects "RosehipCircuitsModel" ({ cls := "RosehipCircuitsModel", name := "fault", desc := "()I" } : Jvm.MethodName) ({ cls := "RosehipCircuitsModel", name := "fault", desc := "()I" } : Jvm.MethodName)) ∈ lw_all := lw_g (lw_at lw_m8 115 rfl) rfl
theorem q1874 : (Jvm.Cond.code ({ cls := "RosehipCircuitsModel", name := "fault", desc := "()I" } : Jvm.MethodName) prog_9_method_64_code (1 : Nat) (Option.some Jvm.ClassFile.FieldType.int)) ∈ lw_all := lw_g (lw_at lw_m8 116 rfl) rfl
theorem q1875 : (Jvm.Cond.methodLink "RosehipCircuitsModel" (230 : Nat) ({ cls := "RosehipCircuitsModel", name := "parse", desc := "()V" } : Jvm.MethodName)) ∈ lw_all := lw_g (lw_at lw_m8 117 rfl) rfl
theorem q1876 : (Jvm.Cond.privateMethod ({ cls := "RosehipCircuitsModel", name := "parse", desc := "()V" } : Jvm.MethodName)) ∈ lw_tbl := lw_at lw_m8 118 rfl
theorem q1877 : (Jvm.Cond.instanceMethod ({ cls := "RosehipCircuitsModel", name := "parse", desc := "()V" } : Jvm.MethodName)) ∈ lw_all := lw_g (lw_at lw_m8 119 rfl) rfl
theorem q1878 : (Jvm.Cond.code ({ cls := "RosehipCircuitsModel", name := "parse", desc := "()V" } : Jvm.MethodName) prog_9_method_63_code (1 : Nat) (Option.none : Option Jvm.ClassFile.FieldType)) ∈ lw_all := lw_g (lw_at lw_m8 120 rfl) rfl
theorem q1879 : (Jvm.Cond.methodLink "RosehipCircuitsModel" (227 : Nat) ({ cls := "RosehipCircuitsModel", name := "order", desc := "()V" } : Jvm.MethodName)) ∈ lw_all := lw_g (lw_at lw_m8 121 rfl) rfl
theorem q1880 : (Jvm.Cond.privateMethod ({ cls := "RosehipCircuitsModel", name := "order", desc := "()V" } : Jvm.MethodName)) ∈ lw_tbl := lw_at lw_m8 122 rfl
theorem q1881 : (Jvm.Cond.instanceMethod ({ cls := "RosehipCircuitsModel", name := "order", desc := "()V" } : Jvm.MethodName)) ∈ lw_all := lw_g (lw_at lw_m8 123 rfl) rfl
theorem q1882 : (Jvm.Cond.code ({ cls := "RosehipCircuitsModel", name := "order", desc := "()V" } : Jvm.MethodName) prog_9_method_62_code (2 : Nat) (Option.none : Option Jvm.ClassFile.FieldType)) ∈ lw_all := lw_g (lw_at lw_m8 124 rfl) rfl
theorem q1883 : (Jvm.Cond.methodLink "RosehipCircuitsModel" (206 : Nat) ({ cls := "RosehipCircuitsModel", name := "here", desc := "()I" } : Jvm.MethodName)) ∈ lw_all := lw_g (lw_at lw_m8 125 rfl) rfl
theorem q1884 : (Jvm.Cond.privateMethod ({ cls := "RosehipCircuitsModel", name := "here", desc := "()I" } : Jvm.MethodName)) ∈ lw_tbl := lw_at lw_m8 126 rfl
theorem q1885 : (Jvm.Cond.instanceMethod ({ cls := "RosehipCircuitsModel", name := "here", desc := "()I" } : Jvm.MethodName)) ∈ lw_all := lw_g (lw_at lw_m8 127 rfl) rfl
theorem q1886 : (Jvm.Cond.code ({ cls := "RosehipCircuitsModel", name := "here", desc := "()I" } : Jvm.MethodName) prog_9_method_58_code (1 : Nat) (Option.some Jvm.ClassFile.FieldType.int)) ∈ lw_all := lw_g (lw_at lw_m8 128 rfl) rfl
theorem q1887 : (Jvm.Cond.methodLink "RosehipCircuitsModel" (212 : Nat) ({ cls := "RosehipCircuitsModel", name := "kindFor", desc := "(I)I" } : Jvm.MethodName)) ∈ lw_all := lw_g (lw_at lw_m8 129 rfl) rfl
theorem q1888 : (Jvm.Cond.static ({ cls := "RosehipCircuitsModel", name := "kindFor", desc := "(I)I" } : Jvm.MethodName)) ∈ lw_all := lw_g (lw_at lw_m8 130 rfl) rfl
theorem q1889 : (Jvm.Cond.code ({ cls := "RosehipCircuitsModel", name := "kindFor", desc := "(I)I" } : Jvm.MethodName) prog_9_method_61_code (1 : Nat) (Option.some Jvm.ClassFile.FieldType.int)) ∈ lw_all := lw_g (lw_at lw_m8 131 rfl) rfl
theorem q1890 : (Jvm.Cond.methodLink "RosehipCircuitsModel" (215 : Nat) ({ cls := "RosehipCircuitsModel", name := "lineHere", desc := "()I" } : Jvm.MethodName)) ∈ lw_all := lw_g (lw_at lw_m8 132 rfl) rfl
theorem q1891 : (Jvm.Cond.privateMethod ({ cls := "RosehipCircuitsModel", name := "lineHere", desc := "()I" } : Jvm.MethodName)) ∈ lw_tbl := lw_at lw_m8 133 rfl
theorem q1892 : (Jvm.Cond.instanceMethod ({ cls := "RosehipCircuitsModel", name := "lineHere", desc := "()I" } : Jvm.MethodName)) ∈ lw_all := lw_g (lw_at lw_m8 134 rfl) rfl
theorem q1893 : (Jvm.Cond.code ({ cls := "RosehipCircuitsModel", name := "lineHere", desc := "()I" } : Jvm.MethodName) prog_9_method_59_code (1 : Nat) (Option.some Jvm.ClassFile.FieldType.int)) ∈ lw_all := lw_g (lw_at lw_m8 135 rfl) rfl
theorem q1894 : (Jvm.Cond.methodLink "RosehipCircuitsModel" (224 : Nat) ({ cls := "RosehipCircuitsModel", name := "testHere", desc := "()I" } : Jvm.MethodName)) ∈ lw_all := lw_g (lw_at lw_m8 136 rfl) rfl
theorem q1895 : (Jvm.Cond.privateMethod ({ cls := "RosehipCircuitsModel", name := "testHere", desc := "()I" } : Jvm.MethodName)) ∈ lw_tbl := lw_at lw_m8 137 rfl
theorem q1896 : (Jvm.Cond.instanceMethod ({ cls := "RosehipCircuitsModel", name := "testHere", desc := "()I" } : Jvm.MethodName)) ∈ lw_all := lw_g (lw_at lw_m8 138 rfl) rfl
theorem q1897 : (Jvm.Cond.code ({ cls := "RosehipCircuitsModel", name := "testHere", desc := "()I" } : Jvm.MethodName) prog_9_method_60_code (2 : Nat) (Option.some Jvm.ClassFile.FieldType.int)) ∈ lw_all := lw_g (lw_at lw_m8 139 rfl) rfl
theorem q1899 : (Jvm.Cond.instanceMethod ({ cls := "RosehipCircuitsModel", name := "run", desc := "()I" } : Jvm.MethodName)) ∈ lw_all := lw_g (lw_at lw_m8 141 rfl) rfl
theorem q1900 : (Jvm.Cond.selects "RosehipCircuitsModel" ({ cls := "RosehipCircuitsModel", name := "run", desc := "()I" } : Jvm.MethodName) ({ cls := "RosehipCircuitsModel", name := "run", desc := "()I" } : Jvm.MethodName)) ∈ lw_all := lw_g (lw_at lw_m8 142 rfl) rfl
theorem q1901 : (Jvm.Cond.code ({ cls := "RosehipCircuitsModel", name := "run", desc := "()I" } : Jvm.MethodName) prog_9_method_66_code (3 : Nat) (Option.some Jvm.ClassFile.FieldType.int)) ∈ lw_all := lw_g (lw_at lw_m8 143 rfl) rfl
theorem q1902 : (Jvm.Cond.methodLink "RosehipCircuitsModel" (233 : Nat) ({ cls := "RosehipCircuitsModel", name := "does", desc := "()Z" } : Jvm.MethodName)) ∈ lw_all := lw_g (lw_at lw_m8 144 rfl) rfl
theorem q1903 : (Jvm.Cond.privateMethod ({ cls := "RosehipCircuitsModel", name := "does", desc := "()Z" } : Jvm.MethodName)) ∈ lw_tbl := lw_at lw_m8 145 rfl
theorem q1904 : (Jvm.Cond.instanceMethod ({ cls := "RosehipCircuitsModel", name := "does", desc := "()Z" } : Jvm.MethodName)) ∈ lw_all := lw_g (lw_at lw_m8 146 rfl) rfl
theorem q1905 : (Jvm.Cond.code ({ cls := "RosehipCircuitsModel", name := "does", desc := "()Z" } : Jvm.MethodName) prog_9_method_65_code (2 : Nat) (Option.some Jvm.ClassFile.FieldType.boolean)) ∈ lw_all := lw_g (lw_at lw_m8 147 rfl) rfl
theorem q1907 : (Jvm.Cond.instanceMethod ({ cls := "RosehipCircuitsModel", name := "gates", desc := "()I" } : Jvm.MethodName)) ∈ lw_all := lw_g (lw_at lw_m8 149 rfl) rfl
theorem q1908 : (Jvm.Cond.selects "RosehipCircuitsModel" ({ cls := "RosehipCircuitsModel", name := "gates", desc := "()I" } : Jvm.MethodName) ({ cls := "RosehipCircuitsModel", name := "gates", desc := "()I" } : Jvm.MethodName)) ∈ lw_all := lw_g (lw_at lw_m8 150 rfl) rfl
theorem q1909 : (Jvm.Cond.code ({ cls := "RosehipCircuitsModel", name := "gates", desc := "()I" } : Jvm.MethodName) prog_9_method_67_code (1 : Nat) (Option.some Jvm.ClassFile.FieldType.int)) ∈ lw_all := lw_g (lw_at lw_m8 151 rfl) rfl
theorem q1911 : (Jvm.Cond.instanceMethod ({ cls := "RosehipCircuitsModel", name := "kindOf", desc := "(I)I" } : Jvm.MethodName)) ∈ lw_all := lw_g (lw_at lw_m8 153 rfl) rfl
theorem q1912 : (Jvm.Cond.selects "RosehipCircuitsModel" ({ cls := "RosehipCircuitsModel", name := "kindOf", desc := "(I)I" } : Jvm.MethodName) ({ cls := "RosehipCircuitsModel", name := "kindOf", desc := "(I)I" } : Jvm.MethodName)) ∈ lw_all := lw_g (lw_at lw_m8 154 rfl) rfl
theorem q1913 : (Jvm.Cond.code ({ cls := "RosehipCircuitsModel", name := "kindOf", desc := "(I)I" } : Jvm.MethodName) prog_9_method_68_code (2 : Nat) (Option.some Jvm.ClassFile.FieldType.int)) ∈ lw_all := lw_g (lw_at lw_m8 155 rfl) rfl
theorem q1915 : (Jvm.Cond.instanceMethod ({ cls := "RosehipCircuitsModel", name := "sourceOf", desc := "(II)I" } : Jvm.MethodName)) ∈ lw_all := lw_g (lw_at lw_m8 157 rfl) rfl
theorem q1916 : (Jvm.Cond.selects "RosehipCircuitsModel" ({ cls := "RosehipCircuitsModel", name := "sourceOf", desc := "(II)I" } : Jvm.MethodName) ({ cls := "RosehipCircuitsModel", name := "sourceOf", desc := "(II)I" } : Jvm.MethodName)) ∈ lw_all := lw_g (lw_at lw_m8 158 rfl) rfl
theorem q1917 : (Jvm.Cond.code ({ cls := "RosehipCircuitsModel", name := "sourceOf", desc := "(II)I" } : Jvm.MethodName) prog_9_method_69_code (3 : Nat) (Option.some Jvm.ClassFile.FieldType.int)) ∈ lw_all := lw_g (lw_at lw_m8 159 rfl) rfl
theorem q1919 : (Jvm.Cond.instanceMethod ({ cls := "RosehipCircuitsModel", name := "outputs", desc := "()I" } : Jvm.MethodName)) ∈ lw_all := lw_g (lw_at lw_m8 161 rfl) rfl
theorem q1920 : (Jvm.Cond.selects "RosehipCircuitsModel" ({ cls := "RosehipCircuitsModel", name := "outputs", desc := "()I" } : Jvm.MethodName) ({ cls := "RosehipCircuitsModel", name := "outputs", desc := "()I" } : Jvm.MethodName)) ∈ lw_all := lw_g (lw_at lw_m8 162 rfl) rfl
theorem q1921 : (Jvm.Cond.code ({ cls := "RosehipCircuitsModel", name := "outputs", desc := "()I" } : Jvm.MethodName) prog_9_method_70_code (1 : Nat) (Option.some Jvm.ClassFile.FieldType.int)) ∈ lw_all := lw_g (lw_at lw_m8 163 rfl) rfl
theorem q1923 : (Jvm.Cond.instanceMethod ({ cls := "RosehipCircuitsModel", name := "boxes", desc := "()I" } : Jvm.MethodName)) ∈ lw_all := lw_g (lw_at lw_m8 165 rfl) rfl
theorem q1924 : (Jvm.Cond.selects "RosehipCircuitsModel" ({ cls := "RosehipCircuitsModel", name := "boxes", desc := "()I" } : Jvm.MethodName) ({ cls := "RosehipCircuitsModel", name := "boxes", desc := "()I" } : Jvm.MethodName)) ∈ lw_all := lw_g (lw_at lw_m8 166 rfl) rfl
theorem q1925 : (Jvm.Cond.code ({ cls := "RosehipCircuitsModel", name := "boxes", desc := "()I" } : Jvm.MethodName) prog_9_method_71_code (1 : Nat) (Option.some Jvm.ClassFile.FieldType.int)) ∈ lw_all := lw_g (lw_at lw_m8 167 rfl) rfl
theorem q1927 : (Jvm.Cond.instanceMethod ({ cls := "RosehipCircuitsModel", name := "valueOf", desc := "(II)I" } : Jvm.MethodName)) ∈ lw_all := lw_g (lw_at lw_m8 169 rfl) rfl
theorem q1928 : (Jvm.Cond.selects "RosehipCircuitsModel" ({ cls := "RosehipCircuitsModel", name := "valueOf", desc := "(II)I" } : Jvm.MethodName) ({ cls := "RosehipCircuitsModel", name := "valueOf", desc := "(II)I" } : Jvm.MethodName)) ∈ lw_all := lw_g (lw_at lw_m8 170 rfl) rfl
theorem q1929 : (Jvm.Cond.code ({ cls := "RosehipCircuitsModel", name := "valueOf", desc := "(II)I" } : Jvm.MethodName) prog_9_method_72_code (3 : Nat) (Option.some Jvm.ClassFile.FieldType.int)) ∈ lw_all := lw_g (lw_at lw_m8 171 rfl) rfl
theorem q1931 : (Jvm.Cond.instanceMethod ({ cls := "RosehipCircuitsModel", name := "tableOf", desc := "(IZ)J" } : Jvm.MethodName)) ∈ lw_all := lw_g (lw_at lw_m8 173 rfl) rfl
theorem q1932 : (Jvm.Cond.selects "RosehipCircuitsModel" ({ cls := "RosehipCircuitsModel", name := "tableOf", desc := "(IZ)J" } : Jvm.MethodName) ({ cls := "RosehipCircuitsModel", name := "tableOf", desc := "(IZ)J" } : Jvm.MethodName)) ∈ lw_all := lw_g (lw_at lw_m8 174 rfl) rfl
theorem q1933 : (Jvm.Cond.code ({ cls := "RosehipCircuitsModel", name := "tableOf", desc := "(IZ)J" } : Jvm.MethodName) prog_9_method_73_code (3 : Nat) (Option.some Jvm.ClassFile.FieldType.long)) ∈ lw_all := lw_g (lw_at lw_m8 175 rfl) rfl
theorem q1935 : (Jvm.Cond.instanceMethod ({ cls := "RosehipCircuitsModel", name := "answerTo", desc := "(I)I" } : Jvm.MethodName)) ∈ lw_all := lw_g (lw_at lw_m8 177 rfl) rfl
theorem q1936 : (Jvm.Cond.selects "RosehipCircuitsModel" ({ cls := "RosehipCircuitsModel", name := "answerTo", desc := "(I)I" } : Jvm.MethodName) ({ cls := "RosehipCircuitsModel", name := "answerTo", desc := "(I)I" } : Jvm.MethodName)) ∈ lw_all := lw_g (lw_at lw_m8 178 rfl) rfl
theorem q1937 : (Jvm.Cond.code ({ cls := "RosehipCircuitsModel", name := "answerTo", desc := "(I)I" } : Jvm.MethodName) prog_9_method_74_code (2 : Nat) (Option.some Jvm.ClassFile.FieldType.int)) ∈ lw_all := lw_g (lw_at lw_m8 179 rfl) rfl
theorem q1939 : (Jvm.Cond.instanceMethod ({ cls := "RosehipCircuitsModel", name := "inputsOf", desc := "(IZ)I" } : Jvm.MethodName)) ∈ lw_all := lw_g (lw_at lw_m8 181 rfl) rfl
theorem q1940 : (Jvm.Cond.selects "RosehipCircuitsModel" ({ cls := "RosehipCircuitsModel", name := "inputsOf", desc := "(IZ)I" } : Jvm.MethodName) ({ cls := "RosehipCircuitsModel", name := "inputsOf", desc := "(IZ)I" } : Jvm.MethodName)) ∈ lw_all := lw_g (lw_at lw_m8 182 rfl) rfl
theorem q1941 : (Jvm.Cond.code ({ cls := "RosehipCircuitsModel", name := "inputsOf", desc := "(IZ)I" } : Jvm.MethodName) prog_9_method_75_code (6 : Nat) (Option.some Jvm.ClassFile.FieldType.int)) ∈ lw_all := lw_g (lw_at lw_m8 183 rfl) rfl
theorem q1942 : (Jvm.Cond.methodLink "RosehipCircuitsModel" (97 : Nat) ({ cls := "RosehipCircuitsModel", name := "reads", desc := "(II)Z" } : Jvm.MethodName)) ∈ lw_all := lw_g (lw_at lw_m8 184 rfl) rfl
theorem q1943 : (Jvm.Cond.privateMethod ({ cls := "RosehipCircuitsModel", name := "reads", desc := "(II)Z" } : Jvm.MethodName)) ∈ lw_tbl := lw_at lw_m8 185 rfl
theorem q1944 : (Jvm.Cond.instanceMethod ({ cls := "RosehipCircuitsModel", name := "reads", desc := "(II)Z" } : Jvm.MethodName)) ∈ lw_all := lw_g (lw_at lw_m8 186 rfl) rfl
theorem q1945 : (Jvm.Cond.code ({ cls := "RosehipCircuitsModel", name := "reads", desc := "(II)Z" } : Jvm.MethodName) prog_9_method_22_code (3 : Nat) (Option.some Jvm.ClassFile.FieldType.boolean)) ∈ lw_all := lw_g (lw_at lw_m8 187 rfl) rfl
theorem q1947 : (Jvm.Cond.instanceMethod ({ cls := "RosehipCircuitsModel", name := "depthOf", desc := "(I)I" } : Jvm.MethodName)) ∈ lw_all := lw_g (lw_at lw_m8 189 rfl) rfl
theorem q1948 : (Jvm.Cond.selects "RosehipCircuitsModel" ({ cls := "RosehipCircuitsModel", name := "depthOf", desc := "(I)I" } : Jvm.MethodName) ({ cls := "RosehipCircuitsModel", name := "depthOf", desc := "(I)I" } : Jvm.MethodName)) ∈ lw_all := lw_g (lw_at lw_m8 190 rfl) rfl
theorem q1949 : (Jvm.Cond.code ({ cls := "RosehipCircuitsModel", name := "depthOf", desc := "(I)I" } : Jvm.MethodName) prog_9_method_76_code (8 : Nat) (Option.some Jvm.ClassFile.FieldType.int)) ∈ lw_all := lw_g (lw_at lw_m8 191 rfl) rfl
theorem q1950 : (Jvm.Cond.constantLong "RosehipCircuitsModel" (237 : Nat) (31 : Int64)) ∈ lw_all := lw_g (lw_at lw_m8 192 rfl) rfl
theorem q1952 : (Jvm.Cond.instanceMethod ({ cls := "RosehipCircuitsModel", name := "idleLines", desc := "()I" } : Jvm.MethodName)) ∈ lw_all := lw_g (lw_at lw_m8 194 rfl) rfl
theorem q1953 : (Jvm.Cond.selects "RosehipCircuitsModel" ({ cls := "RosehipCircuitsModel", name := "idleLines", desc := "()I" } : Jvm.MethodName) ({ cls := "RosehipCircuitsModel", name := "idleLines", desc := "()I" } : Jvm.MethodName)) ∈ lw_all := lw_g (lw_at lw_m8 195 rfl) rfl
theorem q1954 : (Jvm.Cond.code ({ cls := "RosehipCircuitsModel", name := "idleLines", desc := "()I" } : Jvm.MethodName) prog_9_method_77_code (1 : Nat) (Option.some Jvm.ClassFile.FieldType.int)) ∈ lw_all := lw_g (lw_at lw_m8 196 rfl) rfl
theorem q1955 : (Jvm.Cond.methodLink "RosehipCircuitsModel" (239 : Nat) ({ cls := "RosehipCircuitsModel", name := "busy", desc := "()I" } : Jvm.MethodName)) ∈ lw_all := lw_g (lw_at lw_m8 197 rfl) rfl
theorem q1956 : (Jvm.Cond.privateMethod ({ cls := "RosehipCircuitsModel", name := "busy", desc := "()I" } : Jvm.MethodName)) ∈ lw_tbl := lw_at lw_m8 198 rfl
theorem q1957 : (Jvm.Cond.instanceMethod ({ cls := "RosehipCircuitsModel", name := "busy", desc := "()I" } : Jvm.MethodName)) ∈ lw_all := lw_g (lw_at lw_m8 199 rfl) rfl
theorem q1958 : (Jvm.Cond.code ({ cls := "RosehipCircuitsModel", name := "busy", desc := "()I" } : Jvm.MethodName) prog_9_method_23_code (4 : Nat) (Option.some Jvm.ClassFile.FieldType.int)) ∈ lw_all := lw_g (lw_at lw_m8 200 rfl) rfl
theorem q1960 : (Jvm.Cond.instanceMethod ({ cls := "RosehipCircuitsModel", name := "shows", desc := "(II)Z" } : Jvm.MethodName)) ∈ lw_all := lw_g (lw_at lw_m8 202 rfl) rfl
theorem q1961 : (Jvm.Cond.selects "RosehipCircuitsModel" ({ cls := "RosehipCircuitsModel", name := "shows", desc := "(II)Z" } : Jvm.MethodName) ({ cls := "RosehipCircuitsModel", name := "shows", desc := "(II)Z" } : Jvm.MethodName)) ∈ lw_all := lw_g (lw_at lw_m8 203 rfl) rfl
theorem q1962 : (Jvm.Cond.code ({ cls := "RosehipCircuitsModel", name := "shows", desc := "(II)Z" } : Jvm.MethodName) prog_9_method_78_code (3 : Nat) (Option.some Jvm.ClassFile.FieldType.boolean)) ∈ lw_all := lw_g (lw_at lw_m8 204 rfl) rfl
theorem q1964 : (Jvm.Cond.instanceMethod ({ cls := "RosehipCircuitsModel", name := "testsFor", desc := "(I)J" } : Jvm.MethodName)) ∈ lw_all := lw_g (lw_at lw_m8 206 rfl) rfl
theorem q1965 : (Jvm.Cond.selects "RosehipCircuitsModel" ({ cls := "RosehipCircuitsModel", name := "testsFor", desc := "(I)J" } : Jvm.MethodName) ({ cls := "RosehipCircuitsModel", name := "testsFor", desc := "(I)J" } : Jvm.MethodName)) ∈ lw_all := lw_g (lw_at lw_m8 207 rfl) rfl
theorem q1966 : (Jvm.Cond.code ({ cls := "RosehipCircuitsModel", name := "testsFor", desc := "(I)J" } : Jvm.MethodName) prog_9_method_79_code (2 : Nat) (Option.some Jvm.ClassFile.FieldType.long)) ∈ lw_all := lw_g (lw_at lw_m8 208 rfl) rfl
theorem q1968 : (Jvm.Cond.instanceMethod ({ cls := "RosehipCircuitsModel", name := "hiddenFaults", desc := "()J" } : Jvm.MethodName)) ∈ lw_all := lw_g (lw_at lw_m8 210 rfl) rfl
theorem q1969 : (Jvm.Cond.selects "RosehipCircuitsModel" ({ cls := "RosehipCircuitsModel", name := "hiddenFaults", desc := "()J" } : Jvm.MethodName) ({ cls := "RosehipCircuitsModel", name := "hiddenFaults", desc := "()J" } : Jvm.MethodName)) ∈ lw_all := lw_g (lw_at lw_m8 211 rfl) rfl
theorem q1970 : (Jvm.Cond.code ({ cls := "RosehipCircuitsModel", name := "hiddenFaults", desc := "()J" } : Jvm.MethodName) prog_9_method_80_code (4 : Nat) (Option.some Jvm.ClassFile.FieldType.long)) ∈ lw_all := lw_g (lw_at lw_m8 212 rfl) rfl
theorem q1972 : (Jvm.Cond.instanceMethod ({ cls := "RosehipCircuitsModel", name := "whyHidden", desc := "(I)I" } : Jvm.MethodName)) ∈ lw_all := lw_g (lw_at lw_m8 214 rfl) rfl
theorem q1973 : (Jvm.Cond.selects "RosehipCircuitsModel" ({ cls := "RosehipCircuitsModel", name := "whyHidden", desc := "(I)I" } : Jvm.MethodName) ({ cls := "RosehipCircuitsModel", name := "whyHidden", desc := "(I)I" } : Jvm.MethodName)) ∈ lw_all := lw_g (lw_at lw_m8 215 rfl) rfl
theorem q1974 : (Jvm.Cond.code ({ cls := "RosehipCircuitsModel", name := "whyHidden", desc := "(I)I" } : Jvm.MethodName) prog_9_method_81_code (2 : Nat) (Option.some Jvm.ClassFile.FieldType.int)) ∈ lw_all := lw_g (lw_at lw_m8 216 rfl) rfl
theorem q1976 : (Jvm.Cond.instanceMethod ({ cls := "RosehipCircuitsModel", name := "alike", desc := "(I)J" } : Jvm.MethodName)) ∈ lw_all := lw_g (lw_at lw_m8 218 rfl) rfl
theorem q1977 : (Jvm.Cond.selects "RosehipCircuitsModel" ({ cls := "RosehipCircuitsModel", name := "alike", desc := "(I)J" } : Jvm.MethodName) ({ cls := "RosehipCircuitsModel", name := "alike", desc := "(I)J" } : Jvm.MethodName)) ∈ lw_all := lw_g (lw_at lw_m8 219 rfl) rfl
theorem q1978 : (Jvm.Cond.code ({ cls := "RosehipCircuitsModel", name := "alike", desc := "(I)J" } : Jvm.MethodName) prog_9_method_82_code (5 : Nat) (Option.some Jvm.ClassFile.FieldType.long)) ∈ lw_all := lw_g (lw_at lw_m8 220 rfl) rfl
theorem q1980 : (Jvm.Cond.instanceMethod ({ cls := "RosehipCircuitsModel", name := "looks", desc := "(Z)I" } : Jvm.MethodName)) ∈ lw_all := lw_g (lw_at lw_m8 222 rfl) rfl
theorem q1981 : (Jvm.Cond.selects "RosehipCircuitsModel" ({ cls := "RosehipCircuitsModel", name := "looks", desc := "(Z)I" } : Jvm.MethodName) ({ cls := "RosehipCircuitsModel", name := "looks", desc := "(Z)I" } : Jvm.MethodName)) ∈ lw_all := lw_g (lw_at lw_m8 223 rfl) rfl
theorem q1982 : (Jvm.Cond.code ({ cls := "RosehipCircuitsModel", name := "looks", desc := "(Z)I" } : Jvm.MethodName) prog_9_method_83_code (6 : Nat) (Option.some Jvm.ClassFile.FieldType.int)) ∈ lw_all := lw_g (lw_at lw_m8 224 rfl) rfl
theorem q1984 : (Jvm.Cond.instanceMethod ({ cls := "RosehipCircuitsModel", name := "testsBetween", desc := "(II)J" } : Jvm.MethodName)) ∈ lw_all := lw_g (lw_at lw_m8 226 rfl) rfl
theorem q1985 : (Jvm.Cond.selects "RosehipCircuitsModel" ({ cls := "RosehipCircuitsModel", name := "testsBetween", desc := "(II)J" } : Jvm.MethodName) ({ cls := "RosehipCircuitsModel", name := "testsBetween", desc := "(II)J" } : Jvm.MethodName)) ∈ lw_all := lw_g (lw_at lw_m8 227 rfl) rfl
theorem q1986 : (Jvm.Cond.code ({ cls := "RosehipCircuitsModel", name := "testsBetween", desc := "(II)J" } : Jvm.MethodName) prog_9_method_84_code (3 : Nat) (Option.some Jvm.ClassFile.FieldType.long)) ∈ lw_all := lw_g (lw_at lw_m8 228 rfl) rfl
theorem q1988 : (Jvm.Cond.instanceMethod ({ cls := "RosehipCircuitsModel", name := "shownBy", desc := "(J)I" } : Jvm.MethodName)) ∈ lw_all := lw_g (lw_at lw_m8 230 rfl) rfl
theorem q1989 : (Jvm.Cond.selects "RosehipCircuitsModel" ({ cls := "RosehipCircuitsModel", name := "shownBy", desc := "(J)I" } : Jvm.MethodName) ({ cls := "RosehipCircuitsModel", name := "shownBy", desc := "(J)I" } : Jvm.MethodName)) ∈ lw_all := lw_g (lw_at lw_m8 231 rfl) rfl
theorem q1990 : (Jvm.Cond.code ({ cls := "RosehipCircuitsModel", name := "shownBy", desc := "(J)I" } : Jvm.MethodName) prog_9_method_85_code (5 : Nat) (Option.some Jvm.ClassFile.FieldType.int)) ∈ lw_all := lw_g (lw_at lw_m8 232 rfl) rfl
theorem q1992 : (Jvm.Cond.instanceMethod ({ cls := "RosehipCircuitsModel", name := "chosen", desc := "()J" } : Jvm.MethodName)) ∈ lw_all := lw_g (lw_at lw_m8 234 rfl) rfl
theorem q1993 : (Jvm.Cond.selects "RosehipCircuitsModel" ({ cls := "RosehipCircuitsModel", name := "chosen", desc := "()J" } : Jvm.MethodName) ({ cls := "RosehipCircuitsModel", name := "chosen", desc := "()J" } : Jvm.MethodName)) ∈ lw_all := lw_g (lw_at lw_m8 235 rfl) rfl
theorem q1994 : (Jvm.Cond.code ({ cls := "RosehipCircuitsModel", name := "chosen", desc := "()J" } : Jvm.MethodName) prog_9_method_86_code (1 : Nat) (Option.some Jvm.ClassFile.FieldType.long)) ∈ lw_all := lw_g (lw_at lw_m8 236 rfl) rfl
theorem q1995 : (Jvm.Cond.constantLong "RosehipCircuitsModel" (242 : Nat) (4294967295 : Int64)) ∈ lw_all := lw_g (lw_at lw_m8 237 rfl) rfl
theorem q1997 : (Jvm.Cond.instanceMethod ({ cls := "RosehipCircuitsModel", name := "secret", desc := "()I" } : Jvm.MethodName)) ∈ lw_all := lw_g (lw_at lw_m8 239 rfl) rfl
theorem q1998 : (Jvm.Cond.selects "RosehipCircuitsModel" ({ cls := "RosehipCircuitsModel", name := "secret", desc := "()I" } : Jvm.MethodName) ({ cls := "RosehipCircuitsModel", name := "secret", desc := "()I" } : Jvm.MethodName)) ∈ lw_all := lw_g (lw_at lw_m9 0 rfl) rfl
theorem q1999 : (Jvm.Cond.code ({ cls := "RosehipCircuitsModel", name := "secret", desc := "()I" } : Jvm.MethodName) prog_9_method_87_code (1 : Nat) (Option.some Jvm.ClassFile.FieldType.int)) ∈ lw_all := lw_g (lw_at lw_m9 1 rfl) rfl
theorem q2001 : (Jvm.Cond.instanceMethod ({ cls := "RosehipCircuitsModel", name := "isSuspecting", desc := "()Z" } : Jvm.MethodName)) ∈ lw_all := lw_g (lw_at lw_m9 3 rfl) rfl
theorem q2002 : (Jvm.Cond.selects "RosehipCircuitsModel" ({ cls := "RosehipCircuitsModel", name := "isSuspecting", desc := "()Z" } : Jvm.MethodName) ({ cls := "RosehipCircuitsModel", name := "isSuspecting", desc := "()Z" } : Jvm.MethodName)) ∈ lw_all := lw_g (lw_at lw_m9 4 rfl) rfl
theorem q2003 : (Jvm.Cond.code ({ cls := "RosehipCircuitsModel", name := "isSuspecting", desc := "()Z" } : Jvm.MethodName) prog_9_method_88_code (1 : Nat) (Option.some Jvm.ClassFile.FieldType.boolean)) ∈ lw_all := lw_g (lw_at lw_m9 5 rfl) rfl
theorem q2005 : (Jvm.Cond.instanceMethod ({ cls := "RosehipCircuitsModel", name := "asked", desc := "()I" } : Jvm.MethodName)) ∈ lw_all := lw_g (lw_at lw_m9 7 rfl) rfl
theorem q2006 : (Jvm.Cond.selects "RosehipCircuitsModel" ({ cls := "RosehipCircuitsModel", name := "asked", desc := "()I" } : Jvm.MethodName) ({ cls := "RosehipCircuitsModel", name := "asked", desc := "()I" } : Jvm.MethodName)) ∈ lw_all := lw_g (lw_at lw_m9 8 rfl) rfl
theorem q2007 : (Jvm.Cond.code ({ cls := "RosehipCircuitsModel", name := "asked", desc := "()I" } : Jvm.MethodName) prog_9_method_89_code (1 : Nat) (Option.some Jvm.ClassFile.FieldType.int)) ∈ lw_all := lw_g (lw_at lw_m9 9 rfl) rfl
theorem q2009 : (Jvm.Cond.instanceMethod ({ cls := "RosehipCircuitsModel", name := "askedAt", desc := "(I)I" } : Jvm.MethodName)) ∈ lw_all := lw_g (lw_at lw_m9 11 rfl) rfl
theorem q2010 : (Jvm.Cond.selects "RosehipCircuitsModel" ({ cls := "RosehipCircuitsModel", name := "askedAt", desc := "(I)I" } : Jvm.MethodName) ({ cls := "RosehipCircuitsModel", name := "askedAt", desc := "(I)I" } : Jvm.MethodName)) ∈ lw_all := lw_g (lw_at lw_m9 12 rfl) rfl
theorem q2011 : (Jvm.Cond.code ({ cls := "RosehipCircuitsModel", name := "askedAt", desc := "(I)I" } : Jvm.MethodName) prog_9_method_90_code (2 : Nat) (Option.some Jvm.ClassFile.FieldType.int)) ∈ lw_all := lw_g (lw_at lw_m9 13 rfl) rfl
theorem q2013 : (Jvm.Cond.instanceMethod ({ cls := "RosehipCircuitsModel", name := "hypotheses", desc := "()I" } : Jvm.MethodName)) ∈ lw_all := lw_g (lw_at lw_m9 15 rfl) rfl
theorem q2014 : (Jvm.Cond.selects "RosehipCircuitsModel" ({ cls := "RosehipCircuitsModel", name := "hypotheses", desc := "()I" } : Jvm.MethodName) ({ cls := "RosehipCircuitsModel", name := "hypotheses", desc := "()I" } : Jvm.MethodName)) ∈ lw_all := lw_g (lw_at lw_m9 16 rfl) rfl
theorem q2015 : (Jvm.Cond.code ({ cls := "RosehipCircuitsModel", name := "hypotheses", desc := "()I" } : Jvm.MethodName) prog_9_method_91_code (1 : Nat) (Option.some Jvm.ClassFile.FieldType.int)) ∈ lw_all := lw_g (lw_at lw_m9 17 rfl) rfl
theorem q2017 : (Jvm.Cond.instanceMethod ({ cls := "RosehipCircuitsModel", name := "candidates", desc := "(Z)I" } : Jvm.MethodName)) ∈ lw_all := lw_g (lw_at lw_m9 19 rfl) rfl
theorem q2018 : (Jvm.Cond.selects "RosehipCircuitsModel" ({ cls := "RosehipCircuitsModel", name := "candidates", desc := "(Z)I" } : Jvm.MethodName) ({ cls := "RosehipCircuitsModel", name := "candidates", desc := "(Z)I" } : Jvm.MethodName)) ∈ lw_all := lw_g (lw_at lw_m9 20 rfl) rfl
theorem q2019 : (Jvm.Cond.code ({ cls := "RosehipCircuitsModel", name := "candidates", desc := "(Z)I" } : Jvm.MethodName) prog_9_method_92_code (2 : Nat) (Option.some Jvm.ClassFile.FieldType.int)) ∈ lw_all := lw_g (lw_at lw_m9 21 rfl) rfl
theorem q2021 : (Jvm.Cond.instanceMethod ({ cls := "RosehipCircuitsModel", name := "candidateAt", desc := "(I)I" } : Jvm.MethodName)) ∈ lw_all := lw_g (lw_at lw_m9 23 rfl) rfl
theorem q2022 : (Jvm.Cond.selects "RosehipCircuitsModel" ({ cls := "RosehipCircuitsModel", name := "candidateAt", desc := "(I)I" } : Jvm.MethodName) ({ cls := "RosehipCircuitsModel", name := "candidateAt", desc := "(I)I" } : Jvm.MethodName)) ∈ lw_all := lw_g (lw_at lw_m9 24 rfl) rfl
theorem q2023 : (Jvm.Cond.code ({ cls := "RosehipCircuitsModel", name := "candidateAt", desc := "(I)I" } : Jvm.MethodName) prog_9_method_93_code (2 : Nat) (Option.some Jvm.ClassFile.FieldType.int)) ∈ lw_all := lw_g (lw_at lw_m9 25 rfl) rfl
theorem q2025 : (Jvm.Cond.instanceMethod ({ cls := "RosehipCircuitsModel", name := "areAlike", desc := "()Z" } : Jvm.MethodName)) ∈ lw_all := lw_g (lw_at lw_m9 27 rfl) rfl
theorem q2026 : (Jvm.Cond.selects "RosehipCircuitsModel" ({ cls := "RosehipCircuitsModel", name := "areAlike", desc := "()Z" } : Jvm.MethodName) ({ cls := "RosehipCircuitsModel", name := "areAlike", desc := "()Z" } : Jvm.MethodName)) ∈ lw_all := lw_g (lw_at lw_m9 28 rfl) rfl
theorem q2027 : (Jvm.Cond.code ({ cls := "RosehipCircuitsModel", name := "areAlike", desc := "()Z" } : Jvm.MethodName) prog_9_method_94_code (1 : Nat) (Option.some Jvm.ClassFile.FieldType.boolean)) ∈ lw_all := lw_g (lw_at lw_m9 29 rfl) rfl
theorem q2029 : (Jvm.Cond.instanceMethod ({ cls := "RosehipCircuitsModel", name := "worstLeft", desc := "(I)I" } : Jvm.MethodName)) ∈ lw_all := lw_g (lw_at lw_m9 31 rfl) rfl
theorem q2030 : (Jvm.Cond.selects "RosehipCircuitsModel" ({ cls := "RosehipCircuitsModel", name := "worstLeft", desc := "(I)I" } : Jvm.MethodName) ({ cls := "RosehipCircuitsModel", name := "worstLeft", desc := "(I)I" } : Jvm.MethodName)) ∈ lw_all := lw_g (lw_at lw_m9 32 rfl) rfl
theorem q2031 : (Jvm.Cond.code ({ cls := "RosehipCircuitsModel", name := "worstLeft", desc := "(I)I" } : Jvm.MethodName) prog_9_method_95_code (2 : Nat) (Option.some Jvm.ClassFile.FieldType.int)) ∈ lw_all := lw_g (lw_at lw_m9 33 rfl) rfl
theorem q2033 : (Jvm.Cond.instanceMethod ({ cls := "RosehipCircuitsModel", name := "bestTest", desc := "()I" } : Jvm.MethodName)) ∈ lw_all := lw_g (lw_at lw_m9 35 rfl) rfl
theorem q2034 : (Jvm.Cond.selects "RosehipCircuitsModel" ({ cls := "RosehipCircuitsModel", name := "bestTest", desc := "()I" } : Jvm.MethodName) ({ cls := "RosehipCircuitsModel", name := "bestTest", desc := "()I" } : Jvm.MethodName)) ∈ lw_all := lw_g (lw_at lw_m9 36 rfl) rfl
theorem q2035 : (Jvm.Cond.code ({ cls := "RosehipCircuitsModel", name := "bestTest", desc := "()I" } : Jvm.MethodName) prog_9_method_96_code (1 : Nat) (Option.some Jvm.ClassFile.FieldType.int)) ∈ lw_all := lw_g (lw_at lw_m9 37 rfl) rfl
theorem q2037 : (Jvm.Cond.instanceMethod ({ cls := "RosehipCircuitsModel", name := "meanLeft", desc := "(I)D" } : Jvm.MethodName)) ∈ lw_all := lw_g (lw_at lw_m9 39 rfl) rfl
theorem q2038 : (Jvm.Cond.selects "RosehipCircuitsModel" ({ cls := "RosehipCircuitsModel", name := "meanLeft", desc := "(I)D" } : Jvm.MethodName) ({ cls := "RosehipCircuitsModel", name := "meanLeft", desc := "(I)D" } : Jvm.MethodName)) ∈ lw_all := lw_g (lw_at lw_m9 40 rfl) rfl
theorem q2039 : (Jvm.Cond.code ({ cls := "RosehipCircuitsModel", name := "meanLeft", desc := "(I)D" } : Jvm.MethodName) prog_9_method_97_code (4 : Nat) (Option.some Jvm.ClassFile.FieldType.double)) ∈ lw_all := lw_g (lw_at lw_m9 41 rfl) rfl
theorem q2063 : (Jvm.Cond.castable "RosehipCircuitsModel" "java/lang/Object") ∈ lw_tbl := lw_at lw_m9 65 rfl
theorem in_X3 : ∀ w ∈ wsX30, w ∈ lw_all := lw_in wsX30 [1607, 1609, 1611, 1613, 1615, 1617, 1619, 1621, 1623, 1625, 1627, 1629, 1631, 1633, 1635, 1637, 1639, 1641, 1643, 1645, 1647, 1649, 1651, 1653, 1655, 1657] (by decide +kernel) (by decide +kernel)
