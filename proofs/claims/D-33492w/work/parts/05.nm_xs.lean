/-! RosehipCircuits$Circuit -/
set_option maxRecDepth 100000
def RX2 : String := "RosehipCircuits$Circuit"
def TX2 : u_T := fun k => match k with
  | 0 => ("RosehipCircuits$Circuit", "kinds", "[I", true)
  | 1 => ("RosehipCircuits$Circuit", "firsts", "[I", true)
  | 2 => ("RosehipCircuits$Circuit", "seconds", "[I", true)
  | 3 => ("RosehipCircuits$Circuit", "asks", "[I", true)
  | 4 => ("RosehipCircuits$Circuit", "gates", "I", false)
  | 5 => ("RosehipCircuits$Circuit", "outputs", "I", false)
  | 6 => ("RosehipCircuits$Circuit", "boxes", "I", false)
  | 7 => ("RosehipCircuits$Circuit", "secret", "I", false)
  | 8 => ("RosehipCircuits$Circuit", "isSuspecting", "Z", false)
  | 9 => ("RosehipCircuits$Circuit", "chosen", "J", false)
  | _ => ("RosehipCircuits$Circuit", "asked", "I", false)
def tyX2 : Nat → FieldType := fun k => match k with
  | 0 => .array .int
  | 1 => .array .int
  | 2 => .array .int
  | 3 => .array .int
  | 4 => .int
  | 5 => .int
  | 6 => .int
  | 7 => .int
  | 8 => .boolean
  | 9 => .long
  | _ => .int
abbrev wsX20 : List Cond := u_ws RX2 TX2 11
theorem nmX2 : ∀ a, a < 11 → ∀ b, b < 11 → a ≠ b → (TX2 a).2.1 ≠ (TX2 b).2.1 := by decide +kernel
theorem tyX2_ok : ∀ k, k < 11 → parseFieldDescriptor (TX2 k).2.2.1 = some (tyX2 k) := by decide +kernel
abbrev cX2_init : ByteArray := prog_3_method_2_code
def yX2_init : MethodName := ⟨RX2, "<init>", "()V"⟩
def dkwX2_init_0 : List UInt8 := [42, 5, 188, 10, 89, 3, 16, 12, 79, 89, 4, 16, 12, 79, 183, 0, 32, 177]
abbrev dktX2_init_0 : List UInt8 := dkwX2_init_0 ++ []
theorem dksX2_init_0 : cX2_init.data.toList.drop 0 = dktX2_init_0 := by decide +kernel
theorem dX2_init_0 : decode cX2_init 0 = .ok (.aload_n 0, 1) := dk_42 (dk_at dksX2_init_0 0 rfl rfl)
theorem dX2_init_1 : decode cX2_init 1 = .ok (.iconst 2, 1) := dk_5 (dk_at dksX2_init_0 1 rfl rfl)
theorem dX2_init_2 : decode cX2_init 2 = .ok (.newarray .int, 2) := dk_188_10 (dk_at dksX2_init_0 2 rfl rfl)
theorem dX2_init_4 : decode cX2_init 4 = .ok (.dup, 1) := dk_89 (dk_at dksX2_init_0 4 rfl rfl)
theorem dX2_init_5 : decode cX2_init 5 = .ok (.iconst 0, 1) := dk_3 (dk_at dksX2_init_0 5 rfl rfl)
theorem dX2_init_6 : decode cX2_init 6 = .ok (.bipush 12, 2) := dk_16 12 (dk_at dksX2_init_0 6 rfl rfl)
theorem dX2_init_8 : decode cX2_init 8 = .ok (.iastore, 1) := dk_79 (dk_at dksX2_init_0 8 rfl rfl)
theorem dX2_init_9 : decode cX2_init 9 = .ok (.dup, 1) := dk_89 (dk_at dksX2_init_0 9 rfl rfl)
theorem dX2_init_10 : decode cX2_init 10 = .ok (.iconst 1, 1) := dk_4 (dk_at dksX2_init_0 10 rfl rfl)
theorem dX2_init_11 : decode cX2_init 11 = .ok (.bipush 12, 2) := dk_16 12 (dk_at dksX2_init_0 11 rfl rfl)
theorem dX2_init_13 : decode cX2_init 13 = .ok (.iastore, 1) := dk_79 (dk_at dksX2_init_0 13 rfl rfl)
theorem dX2_init_14 : decode cX2_init 14 = .ok (.invokespecial 32, 3) := dk_183 0 32 (dk_at dksX2_init_0 14 rfl rfl)
theorem dX2_init_17 : decode cX2_init 17 = .ok (.return_, 1) := dk_177 (dk_at dksX2_init_0 17 rfl rfl)
abbrev cX2_init_2 : ByteArray := prog_3_method_1_code
def yX2_init_2 : MethodName := ⟨RX2, "<init>", "([I)V"⟩
def dkwX2_init_2_2 : List UInt8 := [188, 10, 181, 0, 29, 177]
abbrev dktX2_init_2_2 : List UInt8 := dkwX2_init_2_2 ++ []
def dkwX2_init_2_1 : List UInt8 := [43, 3, 46, 188, 10, 181, 0, 23, 42, 43, 3, 46, 188, 10, 181, 0, 26, 42, 43, 43, 190, 4, 100, 46]
abbrev dktX2_init_2_1 : List UInt8 := dkwX2_init_2_1 ++ dktX2_init_2_2
def dkwX2_init_2_0 : List UInt8 := [42, 183, 0, 3, 42, 2, 181, 0, 9, 42, 9, 181, 0, 15, 42, 43, 3, 46, 188, 10, 181, 0, 19, 42]
abbrev dktX2_init_2_0 : List UInt8 := dkwX2_init_2_0 ++ dktX2_init_2_1
theorem dksX2_init_2_0 : cX2_init_2.data.toList.drop 0 = dktX2_init_2_0 := by decide +kernel
theorem dksX2_init_2_1 : cX2_init_2.data.toList.drop 24 = dktX2_init_2_1 := dk_seg dksX2_init_2_0 24 rfl rfl
theorem dksX2_init_2_2 : cX2_init_2.data.toList.drop 48 = dktX2_init_2_2 := dk_seg dksX2_init_2_1 24 rfl rfl
theorem dX2_init_2_0 : decode cX2_init_2 0 = .ok (.aload_n 0, 1) := dk_42 (dk_at dksX2_init_2_0 0 rfl rfl)
theorem dX2_init_2_1 : decode cX2_init_2 1 = .ok (.invokespecial 3, 3) := dk_183 0 3 (dk_at dksX2_init_2_0 1 rfl rfl)
theorem dX2_init_2_4 : decode cX2_init_2 4 = .ok (.aload_n 0, 1) := dk_42 (dk_at dksX2_init_2_0 4 rfl rfl)
theorem dX2_init_2_5 : decode cX2_init_2 5 = .ok (.iconst (-1), 1) := dk_2 (dk_at dksX2_init_2_0 5 rfl rfl)
theorem dX2_init_2_6 : decode cX2_init_2 6 = .ok (.putfield 9, 3) := dk_181 0 9 (dk_at dksX2_init_2_0 6 rfl rfl)
theorem dX2_init_2_9 : decode cX2_init_2 9 = .ok (.aload_n 0, 1) := dk_42 (dk_at dksX2_init_2_0 9 rfl rfl)
theorem dX2_init_2_10 : decode cX2_init_2 10 = .ok (.lconst 0, 1) := dk_9 (dk_at dksX2_init_2_0 10 rfl rfl)
theorem dX2_init_2_11 : decode cX2_init_2 11 = .ok (.putfield 15, 3) := dk_181 0 15 (dk_at dksX2_init_2_0 11 rfl rfl)
theorem dX2_init_2_14 : decode cX2_init_2 14 = .ok (.aload_n 0, 1) := dk_42 (dk_at dksX2_init_2_0 14 rfl rfl)
theorem dX2_init_2_15 : decode cX2_init_2 15 = .ok (.aload_n 1, 1) := dk_43 (dk_at dksX2_init_2_0 15 rfl rfl)
theorem dX2_init_2_16 : decode cX2_init_2 16 = .ok (.iconst 0, 1) := dk_3 (dk_at dksX2_init_2_0 16 rfl rfl)
theorem dX2_init_2_17 : decode cX2_init_2 17 = .ok (.iaload, 1) := dk_46 (dk_at dksX2_init_2_0 17 rfl rfl)
theorem dX2_init_2_18 : decode cX2_init_2 18 = .ok (.newarray .int, 2) := dk_188_10 (dk_at dksX2_init_2_0 18 rfl rfl)
theorem dX2_init_2_20 : decode cX2_init_2 20 = .ok (.putfield 19, 3) := dk_181 0 19 (dk_at dksX2_init_2_0 20 rfl rfl)
theorem dX2_init_2_23 : decode cX2_init_2 23 = .ok (.aload_n 0, 1) := dk_42 (dk_at dksX2_init_2_0 23 rfl rfl)
theorem dX2_init_2_24 : decode cX2_init_2 24 = .ok (.aload_n 1, 1) := dk_43 (dk_at dksX2_init_2_1 0 rfl rfl)
theorem dX2_init_2_25 : decode cX2_init_2 25 = .ok (.iconst 0, 1) := dk_3 (dk_at dksX2_init_2_1 1 rfl rfl)
theorem dX2_init_2_26 : decode cX2_init_2 26 = .ok (.iaload, 1) := dk_46 (dk_at dksX2_init_2_1 2 rfl rfl)
theorem dX2_init_2_27 : decode cX2_init_2 27 = .ok (.newarray .int, 2) := dk_188_10 (dk_at dksX2_init_2_1 3 rfl rfl)
theorem dX2_init_2_29 : decode cX2_init_2 29 = .ok (.putfield 23, 3) := dk_181 0 23 (dk_at dksX2_init_2_1 5 rfl rfl)
theorem dX2_init_2_32 : decode cX2_init_2 32 = .ok (.aload_n 0, 1) := dk_42 (dk_at dksX2_init_2_1 8 rfl rfl)
theorem dX2_init_2_33 : decode cX2_init_2 33 = .ok (.aload_n 1, 1) := dk_43 (dk_at dksX2_init_2_1 9 rfl rfl)
theorem dX2_init_2_34 : decode cX2_init_2 34 = .ok (.iconst 0, 1) := dk_3 (dk_at dksX2_init_2_1 10 rfl rfl)
theorem dX2_init_2_35 : decode cX2_init_2 35 = .ok (.iaload, 1) := dk_46 (dk_at dksX2_init_2_1 11 rfl rfl)
theorem dX2_init_2_36 : decode cX2_init_2 36 = .ok (.newarray .int, 2) := dk_188_10 (dk_at dksX2_init_2_1 12 rfl rfl)
theorem dX2_init_2_38 : decode cX2_init_2 38 = .ok (.putfield 26, 3) := dk_181 0 26 (dk_at dksX2_init_2_1 14 rfl rfl)
theorem dX2_init_2_41 : decode cX2_init_2 41 = .ok (.aload_n 0, 1) := dk_42 (dk_at dksX2_init_2_1 17 rfl rfl)
theorem dX2_init_2_42 : decode cX2_init_2 42 = .ok (.aload_n 1, 1) := dk_43 (dk_at dksX2_init_2_1 18 rfl rfl)
theorem dX2_init_2_43 : decode cX2_init_2 43 = .ok (.aload_n 1, 1) := dk_43 (dk_at dksX2_init_2_1 19 rfl rfl)
theorem dX2_init_2_44 : decode cX2_init_2 44 = .ok (.arraylength, 1) := dk_190 (dk_at dksX2_init_2_1 20 rfl rfl)
theorem dX2_init_2_45 : decode cX2_init_2 45 = .ok (.iconst 1, 1) := dk_4 (dk_at dksX2_init_2_1 21 rfl rfl)
theorem dX2_init_2_46 : decode cX2_init_2 46 = .ok (.isub, 1) := dk_100 (dk_at dksX2_init_2_1 22 rfl rfl)
theorem dX2_init_2_47 : decode cX2_init_2 47 = .ok (.iaload, 1) := dk_46 (dk_at dksX2_init_2_1 23 rfl rfl)
theorem dX2_init_2_48 : decode cX2_init_2 48 = .ok (.newarray .int, 2) := dk_188_10 (dk_at dksX2_init_2_2 0 rfl rfl)
theorem dX2_init_2_50 : decode cX2_init_2 50 = .ok (.putfield 29, 3) := dk_181 0 29 (dk_at dksX2_init_2_2 2 rfl rfl)
theorem dX2_init_2_53 : decode cX2_init_2 53 = .ok (.return_, 1) := dk_177 (dk_at dksX2_init_2_2 5 rfl rfl)
abbrev cX2_init_3 : ByteArray := prog_3_method_3_code
def yX2_init_3 : MethodName := ⟨RX2, "<init>", "(LRosehipCircuits$Circuit;)V"⟩
def dkwX2_init_3_6 : List UInt8 := [43, 180, 0, 48, 181, 0, 48, 177]
abbrev dktX2_init_3_6 : List UInt8 := dkwX2_init_3_6 ++ []
def dkwX2_init_3_5 : List UInt8 := [43, 180, 0, 9, 181, 0, 9, 42, 43, 180, 0, 44, 181, 0, 44, 42, 43, 180, 0, 15, 181, 0, 15, 42]
abbrev dktX2_init_3_5 : List UInt8 := dkwX2_init_3_5 ++ dktX2_init_3_6
def dkwX2_init_3_4 : List UInt8 := [43, 180, 0, 35, 181, 0, 35, 42, 43, 180, 0, 38, 181, 0, 38, 42, 43, 180, 0, 41, 181, 0, 41, 42]
abbrev dktX2_init_3_4 : List UInt8 := dkwX2_init_3_4 ++ dktX2_init_3_5
def dkwX2_init_3_3 : List UInt8 := [16, 12, 162, 0, 21, 42, 180, 0, 29, 28, 43, 180, 0, 29, 28, 46, 79, 132, 2, 1, 167, 255, 235, 42]
abbrev dktX2_init_3_3 : List UInt8 := dkwX2_init_3_3 ++ dktX2_init_3_4
def dkwX2_init_3_2 : List UInt8 := [28, 46, 79, 42, 180, 0, 26, 28, 43, 180, 0, 26, 28, 46, 79, 132, 2, 1, 167, 255, 211, 3, 61, 28]
abbrev dktX2_init_3_2 : List UInt8 := dkwX2_init_3_2 ++ dktX2_init_3_3
def dkwX2_init_3_1 : List UInt8 := [162, 0, 45, 42, 180, 0, 19, 28, 43, 180, 0, 19, 28, 46, 79, 42, 180, 0, 23, 28, 43, 180, 0, 23]
abbrev dktX2_init_3_1 : List UInt8 := dkwX2_init_3_1 ++ dktX2_init_3_2
def dkwX2_init_3_0 : List UInt8 := [42, 5, 188, 10, 89, 3, 16, 12, 79, 89, 4, 16, 12, 79, 183, 0, 32, 3, 61, 28, 16, 12]
abbrev dktX2_init_3_0 : List UInt8 := dkwX2_init_3_0 ++ dktX2_init_3_1
theorem dksX2_init_3_0 : cX2_init_3.data.toList.drop 0 = dktX2_init_3_0 := by decide +kernel
theorem dksX2_init_3_1 : cX2_init_3.data.toList.drop 22 = dktX2_init_3_1 := dk_seg dksX2_init_3_0 22 rfl rfl
theorem dksX2_init_3_2 : cX2_init_3.data.toList.drop 46 = dktX2_init_3_2 := dk_seg dksX2_init_3_1 24 rfl rfl
theorem dksX2_init_3_3 : cX2_init_3.data.toList.drop 70 = dktX2_init_3_3 := dk_seg dksX2_init_3_2 24 rfl rfl
theorem dksX2_init_3_4 : cX2_init_3.data.toList.drop 94 = dktX2_init_3_4 := dk_seg dksX2_init_3_3 24 rfl rfl
theorem dksX2_init_3_5 : cX2_init_3.data.toList.drop 118 = dktX2_init_3_5 := dk_seg dksX2_init_3_4 24 rfl rfl
theorem dksX2_init_3_6 : cX2_init_3.data.toList.drop 142 = dktX2_init_3_6 := dk_seg dksX2_init_3_5 24 rfl rfl
theorem dX2_init_3_0 : decode cX2_init_3 0 = .ok (.aload_n 0, 1) := dk_42 (dk_at dksX2_init_3_0 0 rfl rfl)
theorem dX2_init_3_1 : decode cX2_init_3 1 = .ok (.iconst 2, 1) := dk_5 (dk_at dksX2_init_3_0 1 rfl rfl)
theorem dX2_init_3_2 : decode cX2_init_3 2 = .ok (.newarray .int, 2) := dk_188_10 (dk_at dksX2_init_3_0 2 rfl rfl)
theorem dX2_init_3_4 : decode cX2_init_3 4 = .ok (.dup, 1) := dk_89 (dk_at dksX2_init_3_0 4 rfl rfl)
theorem dX2_init_3_5 : decode cX2_init_3 5 = .ok (.iconst 0, 1) := dk_3 (dk_at dksX2_init_3_0 5 rfl rfl)
theorem dX2_init_3_6 : decode cX2_init_3 6 = .ok (.bipush 12, 2) := dk_16 12 (dk_at dksX2_init_3_0 6 rfl rfl)
theorem dX2_init_3_8 : decode cX2_init_3 8 = .ok (.iastore, 1) := dk_79 (dk_at dksX2_init_3_0 8 rfl rfl)
theorem dX2_init_3_9 : decode cX2_init_3 9 = .ok (.dup, 1) := dk_89 (dk_at dksX2_init_3_0 9 rfl rfl)
theorem dX2_init_3_10 : decode cX2_init_3 10 = .ok (.iconst 1, 1) := dk_4 (dk_at dksX2_init_3_0 10 rfl rfl)
theorem dX2_init_3_11 : decode cX2_init_3 11 = .ok (.bipush 12, 2) := dk_16 12 (dk_at dksX2_init_3_0 11 rfl rfl)
theorem dX2_init_3_13 : decode cX2_init_3 13 = .ok (.iastore, 1) := dk_79 (dk_at dksX2_init_3_0 13 rfl rfl)
theorem dX2_init_3_14 : decode cX2_init_3 14 = .ok (.invokespecial 32, 3) := dk_183 0 32 (dk_at dksX2_init_3_0 14 rfl rfl)
theorem dX2_init_3_17 : decode cX2_init_3 17 = .ok (.iconst 0, 1) := dk_3 (dk_at dksX2_init_3_0 17 rfl rfl)
theorem dX2_init_3_18 : decode cX2_init_3 18 = .ok (.istore_n 2, 1) := dk_61 (dk_at dksX2_init_3_0 18 rfl rfl)
theorem dX2_init_3_19 : decode cX2_init_3 19 = .ok (.iload_n 2, 1) := dk_28 (dk_at dksX2_init_3_0 19 rfl rfl)
theorem dX2_init_3_20 : decode cX2_init_3 20 = .ok (.bipush 12, 2) := dk_16 12 (dk_at dksX2_init_3_0 20 rfl rfl)
theorem dX2_init_3_22 : decode cX2_init_3 22 = .ok (.if_icmp .ge 45, 3) := dk_162 0 45 (dk_at dksX2_init_3_1 0 rfl rfl)
theorem dX2_init_3_25 : decode cX2_init_3 25 = .ok (.aload_n 0, 1) := dk_42 (dk_at dksX2_init_3_1 3 rfl rfl)
theorem dX2_init_3_26 : decode cX2_init_3 26 = .ok (.getfield 19, 3) := dk_180 0 19 (dk_at dksX2_init_3_1 4 rfl rfl)
theorem dX2_init_3_29 : decode cX2_init_3 29 = .ok (.iload_n 2, 1) := dk_28 (dk_at dksX2_init_3_1 7 rfl rfl)
theorem dX2_init_3_30 : decode cX2_init_3 30 = .ok (.aload_n 1, 1) := dk_43 (dk_at dksX2_init_3_1 8 rfl rfl)
theorem dX2_init_3_31 : decode cX2_init_3 31 = .ok (.getfield 19, 3) := dk_180 0 19 (dk_at dksX2_init_3_1 9 rfl rfl)
theorem dX2_init_3_34 : decode cX2_init_3 34 = .ok (.iload_n 2, 1) := dk_28 (dk_at dksX2_init_3_1 12 rfl rfl)
theorem dX2_init_3_35 : decode cX2_init_3 35 = .ok (.iaload, 1) := dk_46 (dk_at dksX2_init_3_1 13 rfl rfl)
theorem dX2_init_3_36 : decode cX2_init_3 36 = .ok (.iastore, 1) := dk_79 (dk_at dksX2_init_3_1 14 rfl rfl)
theorem dX2_init_3_37 : decode cX2_init_3 37 = .ok (.aload_n 0, 1) := dk_42 (dk_at dksX2_init_3_1 15 rfl rfl)
theorem dX2_init_3_38 : decode cX2_init_3 38 = .ok (.getfield 23, 3) := dk_180 0 23 (dk_at dksX2_init_3_1 16 rfl rfl)
theorem dX2_init_3_41 : decode cX2_init_3 41 = .ok (.iload_n 2, 1) := dk_28 (dk_at dksX2_init_3_1 19 rfl rfl)
theorem dX2_init_3_42 : decode cX2_init_3 42 = .ok (.aload_n 1, 1) := dk_43 (dk_at dksX2_init_3_1 20 rfl rfl)
theorem dX2_init_3_43 : decode cX2_init_3 43 = .ok (.getfield 23, 3) := dk_180 0 23 (dk_at dksX2_init_3_1 21 rfl rfl)
theorem dX2_init_3_46 : decode cX2_init_3 46 = .ok (.iload_n 2, 1) := dk_28 (dk_at dksX2_init_3_2 0 rfl rfl)
theorem dX2_init_3_47 : decode cX2_init_3 47 = .ok (.iaload, 1) := dk_46 (dk_at dksX2_init_3_2 1 rfl rfl)
theorem dX2_init_3_48 : decode cX2_init_3 48 = .ok (.iastore, 1) := dk_79 (dk_at dksX2_init_3_2 2 rfl rfl)
theorem dX2_init_3_49 : decode cX2_init_3 49 = .ok (.aload_n 0, 1) := dk_42 (dk_at dksX2_init_3_2 3 rfl rfl)
theorem dX2_init_3_50 : decode cX2_init_3 50 = .ok (.getfield 26, 3) := dk_180 0 26 (dk_at dksX2_init_3_2 4 rfl rfl)
theorem dX2_init_3_53 : decode cX2_init_3 53 = .ok (.iload_n 2, 1) := dk_28 (dk_at dksX2_init_3_2 7 rfl rfl)
theorem dX2_init_3_54 : decode cX2_init_3 54 = .ok (.aload_n 1, 1) := dk_43 (dk_at dksX2_init_3_2 8 rfl rfl)
theorem dX2_init_3_55 : decode cX2_init_3 55 = .ok (.getfield 26, 3) := dk_180 0 26 (dk_at dksX2_init_3_2 9 rfl rfl)
theorem dX2_init_3_58 : decode cX2_init_3 58 = .ok (.iload_n 2, 1) := dk_28 (dk_at dksX2_init_3_2 12 rfl rfl)
theorem dX2_init_3_59 : decode cX2_init_3 59 = .ok (.iaload, 1) := dk_46 (dk_at dksX2_init_3_2 13 rfl rfl)
theorem dX2_init_3_60 : decode cX2_init_3 60 = .ok (.iastore, 1) := dk_79 (dk_at dksX2_init_3_2 14 rfl rfl)
theorem dX2_init_3_61 : decode cX2_init_3 61 = .ok (.iinc 2 1, 3) := dk_132 2 1 (dk_at dksX2_init_3_2 15 rfl rfl)
theorem dX2_init_3_64 : decode cX2_init_3 64 = .ok (.goto (-45), 3) := dk_167 255 211 (dk_at dksX2_init_3_2 18 rfl rfl)
theorem dX2_init_3_67 : decode cX2_init_3 67 = .ok (.iconst 0, 1) := dk_3 (dk_at dksX2_init_3_2 21 rfl rfl)
theorem dX2_init_3_68 : decode cX2_init_3 68 = .ok (.istore_n 2, 1) := dk_61 (dk_at dksX2_init_3_2 22 rfl rfl)
theorem dX2_init_3_69 : decode cX2_init_3 69 = .ok (.iload_n 2, 1) := dk_28 (dk_at dksX2_init_3_2 23 rfl rfl)
theorem dX2_init_3_70 : decode cX2_init_3 70 = .ok (.bipush 12, 2) := dk_16 12 (dk_at dksX2_init_3_3 0 rfl rfl)
theorem dX2_init_3_72 : decode cX2_init_3 72 = .ok (.if_icmp .ge 21, 3) := dk_162 0 21 (dk_at dksX2_init_3_3 2 rfl rfl)
theorem dX2_init_3_75 : decode cX2_init_3 75 = .ok (.aload_n 0, 1) := dk_42 (dk_at dksX2_init_3_3 5 rfl rfl)
theorem dX2_init_3_76 : decode cX2_init_3 76 = .ok (.getfield 29, 3) := dk_180 0 29 (dk_at dksX2_init_3_3 6 rfl rfl)
theorem dX2_init_3_79 : decode cX2_init_3 79 = .ok (.iload_n 2, 1) := dk_28 (dk_at dksX2_init_3_3 9 rfl rfl)
theorem dX2_init_3_80 : decode cX2_init_3 80 = .ok (.aload_n 1, 1) := dk_43 (dk_at dksX2_init_3_3 10 rfl rfl)
theorem dX2_init_3_81 : decode cX2_init_3 81 = .ok (.getfield 29, 3) := dk_180 0 29 (dk_at dksX2_init_3_3 11 rfl rfl)
theorem dX2_init_3_84 : decode cX2_init_3 84 = .ok (.iload_n 2, 1) := dk_28 (dk_at dksX2_init_3_3 14 rfl rfl)
theorem dX2_init_3_85 : decode cX2_init_3 85 = .ok (.iaload, 1) := dk_46 (dk_at dksX2_init_3_3 15 rfl rfl)
theorem dX2_init_3_86 : decode cX2_init_3 86 = .ok (.iastore, 1) := dk_79 (dk_at dksX2_init_3_3 16 rfl rfl)
theorem dX2_init_3_87 : decode cX2_init_3 87 = .ok (.iinc 2 1, 3) := dk_132 2 1 (dk_at dksX2_init_3_3 17 rfl rfl)
theorem dX2_init_3_90 : decode cX2_init_3 90 = .ok (.goto (-21), 3) := dk_167 255 235 (dk_at dksX2_init_3_3 20 rfl rfl)
theorem dX2_init_3_93 : decode cX2_init_3 93 = .ok (.aload_n 0, 1) := dk_42 (dk_at dksX2_init_3_3 23 rfl rfl)
theorem dX2_init_3_94 : decode cX2_init_3 94 = .ok (.aload_n 1, 1) := dk_43 (dk_at dksX2_init_3_4 0 rfl rfl)
theorem dX2_init_3_95 : decode cX2_init_3 95 = .ok (.getfield 35, 3) := dk_180 0 35 (dk_at dksX2_init_3_4 1 rfl rfl)
theorem dX2_init_3_98 : decode cX2_init_3 98 = .ok (.putfield 35, 3) := dk_181 0 35 (dk_at dksX2_init_3_4 4 rfl rfl)
theorem dX2_init_3_101 : decode cX2_init_3 101 = .ok (.aload_n 0, 1) := dk_42 (dk_at dksX2_init_3_4 7 rfl rfl)
theorem dX2_init_3_102 : decode cX2_init_3 102 = .ok (.aload_n 1, 1) := dk_43 (dk_at dksX2_init_3_4 8 rfl rfl)
theorem dX2_init_3_103 : decode cX2_init_3 103 = .ok (.getfield 38, 3) := dk_180 0 38 (dk_at dksX2_init_3_4 9 rfl rfl)
theorem dX2_init_3_106 : decode cX2_init_3 106 = .ok (.putfield 38, 3) := dk_181 0 38 (dk_at dksX2_init_3_4 12 rfl rfl)
theorem dX2_init_3_109 : decode cX2_init_3 109 = .ok (.aload_n 0, 1) := dk_42 (dk_at dksX2_init_3_4 15 rfl rfl)
theorem dX2_init_3_110 : decode cX2_init_3 110 = .ok (.aload_n 1, 1) := dk_43 (dk_at dksX2_init_3_4 16 rfl rfl)
theorem dX2_init_3_111 : decode cX2_init_3 111 = .ok (.getfield 41, 3) := dk_180 0 41 (dk_at dksX2_init_3_4 17 rfl rfl)
theorem dX2_init_3_114 : decode cX2_init_3 114 = .ok (.putfield 41, 3) := dk_181 0 41 (dk_at dksX2_init_3_4 20 rfl rfl)
theorem dX2_init_3_117 : decode cX2_init_3 117 = .ok (.aload_n 0, 1) := dk_42 (dk_at dksX2_init_3_4 23 rfl rfl)
theorem dX2_init_3_118 : decode cX2_init_3 118 = .ok (.aload_n 1, 1) := dk_43 (dk_at dksX2_init_3_5 0 rfl rfl)
theorem dX2_init_3_119 : decode cX2_init_3 119 = .ok (.getfield 9, 3) := dk_180 0 9 (dk_at dksX2_init_3_5 1 rfl rfl)
theorem dX2_init_3_122 : decode cX2_init_3 122 = .ok (.putfield 9, 3) := dk_181 0 9 (dk_at dksX2_init_3_5 4 rfl rfl)
theorem dX2_init_3_125 : decode cX2_init_3 125 = .ok (.aload_n 0, 1) := dk_42 (dk_at dksX2_init_3_5 7 rfl rfl)
theorem dX2_init_3_126 : decode cX2_init_3 126 = .ok (.aload_n 1, 1) := dk_43 (dk_at dksX2_init_3_5 8 rfl rfl)
theorem dX2_init_3_127 : decode cX2_init_3 127 = .ok (.getfield 44, 3) := dk_180 0 44 (dk_at dksX2_init_3_5 9 rfl rfl)
theorem dX2_init_3_130 : decode cX2_init_3 130 = .ok (.putfield 44, 3) := dk_181 0 44 (dk_at dksX2_init_3_5 12 rfl rfl)
theorem dX2_init_3_133 : decode cX2_init_3 133 = .ok (.aload_n 0, 1) := dk_42 (dk_at dksX2_init_3_5 15 rfl rfl)
theorem dX2_init_3_134 : decode cX2_init_3 134 = .ok (.aload_n 1, 1) := dk_43 (dk_at dksX2_init_3_5 16 rfl rfl)
theorem dX2_init_3_135 : decode cX2_init_3 135 = .ok (.getfield 15, 3) := dk_180 0 15 (dk_at dksX2_init_3_5 17 rfl rfl)
theorem dX2_init_3_138 : decode cX2_init_3 138 = .ok (.putfield 15, 3) := dk_181 0 15 (dk_at dksX2_init_3_5 20 rfl rfl)
theorem dX2_init_3_141 : decode cX2_init_3 141 = .ok (.aload_n 0, 1) := dk_42 (dk_at dksX2_init_3_5 23 rfl rfl)
theorem dX2_init_3_142 : decode cX2_init_3 142 = .ok (.aload_n 1, 1) := dk_43 (dk_at dksX2_init_3_6 0 rfl rfl)
theorem dX2_init_3_143 : decode cX2_init_3 143 = .ok (.getfield 48, 3) := dk_180 0 48 (dk_at dksX2_init_3_6 1 rfl rfl)
theorem dX2_init_3_146 : decode cX2_init_3 146 = .ok (.putfield 48, 3) := dk_181 0 48 (dk_at dksX2_init_3_6 4 rfl rfl)
theorem dX2_init_3_149 : decode cX2_init_3 149 = .ok (.return_, 1) := dk_177 (dk_at dksX2_init_3_6 7 rfl rfl)
abbrev cX2_turnSuspicion : ByteArray := prog_3_method_16_code
def yX2_turnSuspicion : MethodName := ⟨RX2, "turnSuspicion", "()Z"⟩
def dkwX2_turnSuspicion_1 : List UInt8 := [180, 0, 44, 172]
abbrev dktX2_turnSuspicion_1 : List UInt8 := dkwX2_turnSuspicion_1 ++ []
def dkwX2_turnSuspicion_0 : List UInt8 := [42, 42, 180, 0, 44, 154, 0, 7, 4, 167, 0, 4, 3, 181, 0, 44, 42, 3, 181, 0, 48, 42]
abbrev dktX2_turnSuspicion_0 : List UInt8 := dkwX2_turnSuspicion_0 ++ dktX2_turnSuspicion_1
theorem dksX2_turnSuspicion_0 : cX2_turnSuspicion.data.toList.drop 0 = dktX2_turnSuspicion_0 := by decide +kernel
theorem dksX2_turnSuspicion_1 : cX2_turnSuspicion.data.toList.drop 22 = dktX2_turnSuspicion_1 := dk_seg dksX2_turnSuspicion_0 22 rfl rfl
theorem dX2_turnSuspicion_0 : decode cX2_turnSuspicion 0 = .ok (.aload_n 0, 1) := dk_42 (dk_at dksX2_turnSuspicion_0 0 rfl rfl)
theorem dX2_turnSuspicion_1 : decode cX2_turnSuspicion 1 = .ok (.aload_n 0, 1) := dk_42 (dk_at dksX2_turnSuspicion_0 1 rfl rfl)
theorem dX2_turnSuspicion_2 : decode cX2_turnSuspicion 2 = .ok (.getfield 44, 3) := dk_180 0 44 (dk_at dksX2_turnSuspicion_0 2 rfl rfl)
theorem dX2_turnSuspicion_5 : decode cX2_turnSuspicion 5 = .ok (.ifCond .ne 7, 3) := dk_154 0 7 (dk_at dksX2_turnSuspicion_0 5 rfl rfl)
theorem dX2_turnSuspicion_8 : decode cX2_turnSuspicion 8 = .ok (.iconst 1, 1) := dk_4 (dk_at dksX2_turnSuspicion_0 8 rfl rfl)
theorem dX2_turnSuspicion_9 : decode cX2_turnSuspicion 9 = .ok (.goto 4, 3) := dk_167 0 4 (dk_at dksX2_turnSuspicion_0 9 rfl rfl)
theorem dX2_turnSuspicion_12 : decode cX2_turnSuspicion 12 = .ok (.iconst 0, 1) := dk_3 (dk_at dksX2_turnSuspicion_0 12 rfl rfl)
theorem dX2_turnSuspicion_13 : decode cX2_turnSuspicion 13 = .ok (.putfield 44, 3) := dk_181 0 44 (dk_at dksX2_turnSuspicion_0 13 rfl rfl)
theorem dX2_turnSuspicion_16 : decode cX2_turnSuspicion 16 = .ok (.aload_n 0, 1) := dk_42 (dk_at dksX2_turnSuspicion_0 16 rfl rfl)
theorem dX2_turnSuspicion_17 : decode cX2_turnSuspicion 17 = .ok (.iconst 0, 1) := dk_3 (dk_at dksX2_turnSuspicion_0 17 rfl rfl)
theorem dX2_turnSuspicion_18 : decode cX2_turnSuspicion 18 = .ok (.putfield 48, 3) := dk_181 0 48 (dk_at dksX2_turnSuspicion_0 18 rfl rfl)
theorem dX2_turnSuspicion_21 : decode cX2_turnSuspicion 21 = .ok (.aload_n 0, 1) := dk_42 (dk_at dksX2_turnSuspicion_0 21 rfl rfl)
theorem dX2_turnSuspicion_22 : decode cX2_turnSuspicion 22 = .ok (.getfield 44, 3) := dk_180 0 44 (dk_at dksX2_turnSuspicion_1 0 rfl rfl)
theorem dX2_turnSuspicion_25 : decode cX2_turnSuspicion 25 = .ok (.ireturn, 1) := dk_172 (dk_at dksX2_turnSuspicion_1 3 rfl rfl)
abbrev cX2_faults : ByteArray := prog_3_method_5_code
def yX2_faults : MethodName := ⟨RX2, "faults", "()I"⟩
def dkwX2_faults_0 : List UInt8 := [5, 42, 182, 0, 51, 104, 172]
abbrev dktX2_faults_0 : List UInt8 := dkwX2_faults_0 ++ []
theorem dksX2_faults_0 : cX2_faults.data.toList.drop 0 = dktX2_faults_0 := by decide +kernel
theorem dX2_faults_0 : decode cX2_faults 0 = .ok (.iconst 2, 1) := dk_5 (dk_at dksX2_faults_0 0 rfl rfl)
theorem dX2_faults_1 : decode cX2_faults 1 = .ok (.aload_n 0, 1) := dk_42 (dk_at dksX2_faults_0 1 rfl rfl)
theorem dX2_faults_2 : decode cX2_faults 2 = .ok (.invokevirtual 51, 3) := dk_182 0 51 (dk_at dksX2_faults_0 2 rfl rfl)
theorem dX2_faults_5 : decode cX2_faults 5 = .ok (.imul, 1) := dk_104 (dk_at dksX2_faults_0 5 rfl rfl)
theorem dX2_faults_6 : decode cX2_faults 6 = .ok (.ireturn, 1) := dk_172 (dk_at dksX2_faults_0 6 rfl rfl)
abbrev cX2_lines : ByteArray := prog_3_method_4_code
def yX2_lines : MethodName := ⟨RX2, "lines", "()I"⟩
def dkwX2_lines_0 : List UInt8 := [16, 6, 42, 180, 0, 35, 96, 172]
abbrev dktX2_lines_0 : List UInt8 := dkwX2_lines_0 ++ []
theorem dksX2_lines_0 : cX2_lines.data.toList.drop 0 = dktX2_lines_0 := by decide +kernel
theorem dX2_lines_0 : decode cX2_lines 0 = .ok (.bipush 6, 2) := dk_16 6 (dk_at dksX2_lines_0 0 rfl rfl)
theorem dX2_lines_2 : decode cX2_lines 2 = .ok (.aload_n 0, 1) := dk_42 (dk_at dksX2_lines_0 2 rfl rfl)
theorem dX2_lines_3 : decode cX2_lines 3 = .ok (.getfield 35, 3) := dk_180 0 35 (dk_at dksX2_lines_0 3 rfl rfl)
theorem dX2_lines_6 : decode cX2_lines 6 = .ok (.iadd, 1) := dk_96 (dk_at dksX2_lines_0 6 rfl rfl)
theorem dX2_lines_7 : decode cX2_lines 7 = .ok (.ireturn, 1) := dk_172 (dk_at dksX2_lines_0 7 rfl rfl)
abbrev cX2_looksAt : ByteArray := prog_3_method_9_code
def yX2_looksAt : MethodName := ⟨RX2, "looksAt", "(II)Z"⟩
def dkwX2_looksAt_0 : List UInt8 := [28, 153, 0, 14, 42, 180, 0, 19, 27, 46, 16, 6, 162, 0, 7, 4, 167, 0, 4, 3, 172]
abbrev dktX2_looksAt_0 : List UInt8 := dkwX2_looksAt_0 ++ []
theorem dksX2_looksAt_0 : cX2_looksAt.data.toList.drop 0 = dktX2_looksAt_0 := by decide +kernel
theorem dX2_looksAt_0 : decode cX2_looksAt 0 = .ok (.iload_n 2, 1) := dk_28 (dk_at dksX2_looksAt_0 0 rfl rfl)
theorem dX2_looksAt_1 : decode cX2_looksAt 1 = .ok (.ifCond .eq 14, 3) := dk_153 0 14 (dk_at dksX2_looksAt_0 1 rfl rfl)
theorem dX2_looksAt_4 : decode cX2_looksAt 4 = .ok (.aload_n 0, 1) := dk_42 (dk_at dksX2_looksAt_0 4 rfl rfl)
theorem dX2_looksAt_5 : decode cX2_looksAt 5 = .ok (.getfield 19, 3) := dk_180 0 19 (dk_at dksX2_looksAt_0 5 rfl rfl)
theorem dX2_looksAt_8 : decode cX2_looksAt 8 = .ok (.iload_n 1, 1) := dk_27 (dk_at dksX2_looksAt_0 8 rfl rfl)
theorem dX2_looksAt_9 : decode cX2_looksAt 9 = .ok (.iaload, 1) := dk_46 (dk_at dksX2_looksAt_0 9 rfl rfl)
theorem dX2_looksAt_10 : decode cX2_looksAt 10 = .ok (.bipush 6, 2) := dk_16 6 (dk_at dksX2_looksAt_0 10 rfl rfl)
theorem dX2_looksAt_12 : decode cX2_looksAt 12 = .ok (.if_icmp .ge 7, 3) := dk_162 0 7 (dk_at dksX2_looksAt_0 12 rfl rfl)
theorem dX2_looksAt_15 : decode cX2_looksAt 15 = .ok (.iconst 1, 1) := dk_4 (dk_at dksX2_looksAt_0 15 rfl rfl)
theorem dX2_looksAt_16 : decode cX2_looksAt 16 = .ok (.goto 4, 3) := dk_167 0 4 (dk_at dksX2_looksAt_0 16 rfl rfl)
theorem dX2_looksAt_19 : decode cX2_looksAt 19 = .ok (.iconst 0, 1) := dk_3 (dk_at dksX2_looksAt_0 19 rfl rfl)
theorem dX2_looksAt_20 : decode cX2_looksAt 20 = .ok (.ireturn, 1) := dk_172 (dk_at dksX2_looksAt_0 20 rfl rfl)
abbrev cX2_addGate : ByteArray := prog_3_method_10_code
def yX2_addGate : MethodName := ⟨RX2, "addGate", "(III)I"⟩
def dkwX2_addGate_4 : List UInt8 := [182, 0, 51, 4, 100, 172]
abbrev dktX2_addGate_4 : List UInt8 := dkwX2_addGate_4 ++ []
def dkwX2_addGate_3 : List UInt8 := [180, 0, 26, 42, 180, 0, 35, 29, 79, 42, 89, 180, 0, 35, 4, 96, 181, 0, 35, 42, 182, 0, 76, 42]
abbrev dktX2_addGate_3 : List UInt8 := dkwX2_addGate_3 ++ dktX2_addGate_4
def dkwX2_addGate_2 : List UInt8 := [184, 0, 73, 42, 180, 0, 19, 42, 180, 0, 35, 27, 79, 42, 180, 0, 23, 42, 180, 0, 35, 28, 79, 42]
abbrev dktX2_addGate_2 : List UInt8 := dkwX2_addGate_2 ++ dktX2_addGate_3
def dkwX2_addGate_1 : List UInt8 := [27, 3, 16, 7, 184, 0, 58, 184, 0, 70, 42, 180, 0, 35, 16, 12, 162, 0, 7, 4, 167, 0, 4, 3]
abbrev dktX2_addGate_1 : List UInt8 := dkwX2_addGate_1 ++ dktX2_addGate_2
def dkwX2_addGate_0 : List UInt8 := [42, 28, 182, 0, 62, 153, 0, 15, 42, 29, 182, 0, 62, 153, 0, 7, 4, 167, 0, 4, 3, 184, 0, 66]
abbrev dktX2_addGate_0 : List UInt8 := dkwX2_addGate_0 ++ dktX2_addGate_1
theorem dksX2_addGate_0 : cX2_addGate.data.toList.drop 0 = dktX2_addGate_0 := by decide +kernel
theorem dksX2_addGate_1 : cX2_addGate.data.toList.drop 24 = dktX2_addGate_1 := dk_seg dksX2_addGate_0 24 rfl rfl
theorem dksX2_addGate_2 : cX2_addGate.data.toList.drop 48 = dktX2_addGate_2 := dk_seg dksX2_addGate_1 24 rfl rfl
theorem dksX2_addGate_3 : cX2_addGate.data.toList.drop 72 = dktX2_addGate_3 := dk_seg dksX2_addGate_2 24 rfl rfl
theorem dksX2_addGate_4 : cX2_addGate.data.toList.drop 96 = dktX2_addGate_4 := dk_seg dksX2_addGate_3 24 rfl rfl
theorem dX2_addGate_0 : decode cX2_addGate 0 = .ok (.aload_n 0, 1) := dk_42 (dk_at dksX2_addGate_0 0 rfl rfl)
theorem dX2_addGate_1 : decode cX2_addGate 1 = .ok (.iload_n 2, 1) := dk_28 (dk_at dksX2_addGate_0 1 rfl rfl)
theorem dX2_addGate_2 : decode cX2_addGate 2 = .ok (.invokevirtual 62, 3) := dk_182 0 62 (dk_at dksX2_addGate_0 2 rfl rfl)
theorem dX2_addGate_5 : decode cX2_addGate 5 = .ok (.ifCond .eq 15, 3) := dk_153 0 15 (dk_at dksX2_addGate_0 5 rfl rfl)
theorem dX2_addGate_8 : decode cX2_addGate 8 = .ok (.aload_n 0, 1) := dk_42 (dk_at dksX2_addGate_0 8 rfl rfl)
theorem dX2_addGate_9 : decode cX2_addGate 9 = .ok (.iload_n 3, 1) := dk_29 (dk_at dksX2_addGate_0 9 rfl rfl)
theorem dX2_addGate_10 : decode cX2_addGate 10 = .ok (.invokevirtual 62, 3) := dk_182 0 62 (dk_at dksX2_addGate_0 10 rfl rfl)
theorem dX2_addGate_13 : decode cX2_addGate 13 = .ok (.ifCond .eq 7, 3) := dk_153 0 7 (dk_at dksX2_addGate_0 13 rfl rfl)
theorem dX2_addGate_16 : decode cX2_addGate 16 = .ok (.iconst 1, 1) := dk_4 (dk_at dksX2_addGate_0 16 rfl rfl)
theorem dX2_addGate_17 : decode cX2_addGate 17 = .ok (.goto 4, 3) := dk_167 0 4 (dk_at dksX2_addGate_0 17 rfl rfl)
theorem dX2_addGate_20 : decode cX2_addGate 20 = .ok (.iconst 0, 1) := dk_3 (dk_at dksX2_addGate_0 20 rfl rfl)
theorem dX2_addGate_21 : decode cX2_addGate 21 = .ok (.invokestatic 66, 3) := dk_184 0 66 (dk_at dksX2_addGate_0 21 rfl rfl)
theorem dX2_addGate_24 : decode cX2_addGate 24 = .ok (.iload_n 1, 1) := dk_27 (dk_at dksX2_addGate_1 0 rfl rfl)
theorem dX2_addGate_25 : decode cX2_addGate 25 = .ok (.iconst 0, 1) := dk_3 (dk_at dksX2_addGate_1 1 rfl rfl)
theorem dX2_addGate_26 : decode cX2_addGate 26 = .ok (.bipush 7, 2) := dk_16 7 (dk_at dksX2_addGate_1 2 rfl rfl)
theorem dX2_addGate_28 : decode cX2_addGate 28 = .ok (.invokestatic 58, 3) := dk_184 0 58 (dk_at dksX2_addGate_1 4 rfl rfl)
theorem dX2_addGate_31 : decode cX2_addGate 31 = .ok (.invokestatic 70, 3) := dk_184 0 70 (dk_at dksX2_addGate_1 7 rfl rfl)
theorem dX2_addGate_34 : decode cX2_addGate 34 = .ok (.aload_n 0, 1) := dk_42 (dk_at dksX2_addGate_1 10 rfl rfl)
theorem dX2_addGate_35 : decode cX2_addGate 35 = .ok (.getfield 35, 3) := dk_180 0 35 (dk_at dksX2_addGate_1 11 rfl rfl)
theorem dX2_addGate_38 : decode cX2_addGate 38 = .ok (.bipush 12, 2) := dk_16 12 (dk_at dksX2_addGate_1 14 rfl rfl)
theorem dX2_addGate_40 : decode cX2_addGate 40 = .ok (.if_icmp .ge 7, 3) := dk_162 0 7 (dk_at dksX2_addGate_1 16 rfl rfl)
theorem dX2_addGate_43 : decode cX2_addGate 43 = .ok (.iconst 1, 1) := dk_4 (dk_at dksX2_addGate_1 19 rfl rfl)
theorem dX2_addGate_44 : decode cX2_addGate 44 = .ok (.goto 4, 3) := dk_167 0 4 (dk_at dksX2_addGate_1 20 rfl rfl)
theorem dX2_addGate_47 : decode cX2_addGate 47 = .ok (.iconst 0, 1) := dk_3 (dk_at dksX2_addGate_1 23 rfl rfl)
theorem dX2_addGate_48 : decode cX2_addGate 48 = .ok (.invokestatic 73, 3) := dk_184 0 73 (dk_at dksX2_addGate_2 0 rfl rfl)
theorem dX2_addGate_51 : decode cX2_addGate 51 = .ok (.aload_n 0, 1) := dk_42 (dk_at dksX2_addGate_2 3 rfl rfl)
theorem dX2_addGate_52 : decode cX2_addGate 52 = .ok (.getfield 19, 3) := dk_180 0 19 (dk_at dksX2_addGate_2 4 rfl rfl)
theorem dX2_addGate_55 : decode cX2_addGate 55 = .ok (.aload_n 0, 1) := dk_42 (dk_at dksX2_addGate_2 7 rfl rfl)
theorem dX2_addGate_56 : decode cX2_addGate 56 = .ok (.getfield 35, 3) := dk_180 0 35 (dk_at dksX2_addGate_2 8 rfl rfl)
theorem dX2_addGate_59 : decode cX2_addGate 59 = .ok (.iload_n 1, 1) := dk_27 (dk_at dksX2_addGate_2 11 rfl rfl)
theorem dX2_addGate_60 : decode cX2_addGate 60 = .ok (.iastore, 1) := dk_79 (dk_at dksX2_addGate_2 12 rfl rfl)
theorem dX2_addGate_61 : decode cX2_addGate 61 = .ok (.aload_n 0, 1) := dk_42 (dk_at dksX2_addGate_2 13 rfl rfl)
theorem dX2_addGate_62 : decode cX2_addGate 62 = .ok (.getfield 23, 3) := dk_180 0 23 (dk_at dksX2_addGate_2 14 rfl rfl)
theorem dX2_addGate_65 : decode cX2_addGate 65 = .ok (.aload_n 0, 1) := dk_42 (dk_at dksX2_addGate_2 17 rfl rfl)
theorem dX2_addGate_66 : decode cX2_addGate 66 = .ok (.getfield 35, 3) := dk_180 0 35 (dk_at dksX2_addGate_2 18 rfl rfl)
theorem dX2_addGate_69 : decode cX2_addGate 69 = .ok (.iload_n 2, 1) := dk_28 (dk_at dksX2_addGate_2 21 rfl rfl)
theorem dX2_addGate_70 : decode cX2_addGate 70 = .ok (.iastore, 1) := dk_79 (dk_at dksX2_addGate_2 22 rfl rfl)
theorem dX2_addGate_71 : decode cX2_addGate 71 = .ok (.aload_n 0, 1) := dk_42 (dk_at dksX2_addGate_2 23 rfl rfl)
theorem dX2_addGate_72 : decode cX2_addGate 72 = .ok (.getfield 26, 3) := dk_180 0 26 (dk_at dksX2_addGate_3 0 rfl rfl)
theorem dX2_addGate_75 : decode cX2_addGate 75 = .ok (.aload_n 0, 1) := dk_42 (dk_at dksX2_addGate_3 3 rfl rfl)
theorem dX2_addGate_76 : decode cX2_addGate 76 = .ok (.getfield 35, 3) := dk_180 0 35 (dk_at dksX2_addGate_3 4 rfl rfl)
theorem dX2_addGate_79 : decode cX2_addGate 79 = .ok (.iload_n 3, 1) := dk_29 (dk_at dksX2_addGate_3 7 rfl rfl)
theorem dX2_addGate_80 : decode cX2_addGate 80 = .ok (.iastore, 1) := dk_79 (dk_at dksX2_addGate_3 8 rfl rfl)
theorem dX2_addGate_81 : decode cX2_addGate 81 = .ok (.aload_n 0, 1) := dk_42 (dk_at dksX2_addGate_3 9 rfl rfl)
theorem dX2_addGate_82 : decode cX2_addGate 82 = .ok (.dup, 1) := dk_89 (dk_at dksX2_addGate_3 10 rfl rfl)
theorem dX2_addGate_83 : decode cX2_addGate 83 = .ok (.getfield 35, 3) := dk_180 0 35 (dk_at dksX2_addGate_3 11 rfl rfl)
theorem dX2_addGate_86 : decode cX2_addGate 86 = .ok (.iconst 1, 1) := dk_4 (dk_at dksX2_addGate_3 14 rfl rfl)
theorem dX2_addGate_87 : decode cX2_addGate 87 = .ok (.iadd, 1) := dk_96 (dk_at dksX2_addGate_3 15 rfl rfl)
theorem dX2_addGate_88 : decode cX2_addGate 88 = .ok (.putfield 35, 3) := dk_181 0 35 (dk_at dksX2_addGate_3 16 rfl rfl)
theorem dX2_addGate_91 : decode cX2_addGate 91 = .ok (.aload_n 0, 1) := dk_42 (dk_at dksX2_addGate_3 19 rfl rfl)
theorem dX2_addGate_92 : decode cX2_addGate 92 = .ok (.invokevirtual 76, 3) := dk_182 0 76 (dk_at dksX2_addGate_3 20 rfl rfl)
theorem dX2_addGate_95 : decode cX2_addGate 95 = .ok (.aload_n 0, 1) := dk_42 (dk_at dksX2_addGate_3 23 rfl rfl)
theorem dX2_addGate_96 : decode cX2_addGate 96 = .ok (.invokevirtual 51, 3) := dk_182 0 51 (dk_at dksX2_addGate_4 0 rfl rfl)
theorem dX2_addGate_99 : decode cX2_addGate 99 = .ok (.iconst 1, 1) := dk_4 (dk_at dksX2_addGate_4 3 rfl rfl)
theorem dX2_addGate_100 : decode cX2_addGate 100 = .ok (.isub, 1) := dk_100 (dk_at dksX2_addGate_4 4 rfl rfl)
theorem dX2_addGate_101 : decode cX2_addGate 101 = .ok (.ireturn, 1) := dk_172 (dk_at dksX2_addGate_4 5 rfl rfl)
abbrev cX2_isLine : ByteArray := prog_3_method_7_code
def yX2_isLine : MethodName := ⟨RX2, "isLine", "(I)Z"⟩
def dkwX2_isLine_0 : List UInt8 := [27, 3, 42, 182, 0, 51, 4, 100, 184, 0, 58, 172]
abbrev dktX2_isLine_0 : List UInt8 := dkwX2_isLine_0 ++ []
theorem dksX2_isLine_0 : cX2_isLine.data.toList.drop 0 = dktX2_isLine_0 := by decide +kernel
theorem dX2_isLine_0 : decode cX2_isLine 0 = .ok (.iload_n 1, 1) := dk_27 (dk_at dksX2_isLine_0 0 rfl rfl)
theorem dX2_isLine_1 : decode cX2_isLine 1 = .ok (.iconst 0, 1) := dk_3 (dk_at dksX2_isLine_0 1 rfl rfl)
theorem dX2_isLine_2 : decode cX2_isLine 2 = .ok (.aload_n 0, 1) := dk_42 (dk_at dksX2_isLine_0 2 rfl rfl)
theorem dX2_isLine_3 : decode cX2_isLine 3 = .ok (.invokevirtual 51, 3) := dk_182 0 51 (dk_at dksX2_isLine_0 3 rfl rfl)
theorem dX2_isLine_6 : decode cX2_isLine 6 = .ok (.iconst 1, 1) := dk_4 (dk_at dksX2_isLine_0 6 rfl rfl)
theorem dX2_isLine_7 : decode cX2_isLine 7 = .ok (.isub, 1) := dk_100 (dk_at dksX2_isLine_0 7 rfl rfl)
theorem dX2_isLine_8 : decode cX2_isLine 8 = .ok (.invokestatic 58, 3) := dk_184 0 58 (dk_at dksX2_isLine_0 8 rfl rfl)
theorem dX2_isLine_11 : decode cX2_isLine 11 = .ok (.ireturn, 1) := dk_172 (dk_at dksX2_isLine_0 11 rfl rfl)
abbrev cX2_changed : ByteArray := prog_3_method_6_code
def yX2_changed : MethodName := ⟨RX2, "changed", "()V"⟩
def dkwX2_changed_1 : List UInt8 := [180, 0, 9, 167, 0, 4, 2, 181, 0, 9, 177]
abbrev dktX2_changed_1 : List UInt8 := dkwX2_changed_1 ++ []
def dkwX2_changed_0 : List UInt8 := [42, 3, 181, 0, 48, 42, 9, 181, 0, 15, 42, 42, 180, 0, 9, 42, 182, 0, 55, 162, 0, 10, 42]
abbrev dktX2_changed_0 : List UInt8 := dkwX2_changed_0 ++ dktX2_changed_1
theorem dksX2_changed_0 : cX2_changed.data.toList.drop 0 = dktX2_changed_0 := by decide +kernel
theorem dksX2_changed_1 : cX2_changed.data.toList.drop 23 = dktX2_changed_1 := dk_seg dksX2_changed_0 23 rfl rfl
theorem dX2_changed_0 : decode cX2_changed 0 = .ok (.aload_n 0, 1) := dk_42 (dk_at dksX2_changed_0 0 rfl rfl)
theorem dX2_changed_1 : decode cX2_changed 1 = .ok (.iconst 0, 1) := dk_3 (dk_at dksX2_changed_0 1 rfl rfl)
theorem dX2_changed_2 : decode cX2_changed 2 = .ok (.putfield 48, 3) := dk_181 0 48 (dk_at dksX2_changed_0 2 rfl rfl)
theorem dX2_changed_5 : decode cX2_changed 5 = .ok (.aload_n 0, 1) := dk_42 (dk_at dksX2_changed_0 5 rfl rfl)
theorem dX2_changed_6 : decode cX2_changed 6 = .ok (.lconst 0, 1) := dk_9 (dk_at dksX2_changed_0 6 rfl rfl)
theorem dX2_changed_7 : decode cX2_changed 7 = .ok (.putfield 15, 3) := dk_181 0 15 (dk_at dksX2_changed_0 7 rfl rfl)
theorem dX2_changed_10 : decode cX2_changed 10 = .ok (.aload_n 0, 1) := dk_42 (dk_at dksX2_changed_0 10 rfl rfl)
theorem dX2_changed_11 : decode cX2_changed 11 = .ok (.aload_n 0, 1) := dk_42 (dk_at dksX2_changed_0 11 rfl rfl)
theorem dX2_changed_12 : decode cX2_changed 12 = .ok (.getfield 9, 3) := dk_180 0 9 (dk_at dksX2_changed_0 12 rfl rfl)
theorem dX2_changed_15 : decode cX2_changed 15 = .ok (.aload_n 0, 1) := dk_42 (dk_at dksX2_changed_0 15 rfl rfl)
theorem dX2_changed_16 : decode cX2_changed 16 = .ok (.invokevirtual 55, 3) := dk_182 0 55 (dk_at dksX2_changed_0 16 rfl rfl)
theorem dX2_changed_19 : decode cX2_changed 19 = .ok (.if_icmp .ge 10, 3) := dk_162 0 10 (dk_at dksX2_changed_0 19 rfl rfl)
theorem dX2_changed_22 : decode cX2_changed 22 = .ok (.aload_n 0, 1) := dk_42 (dk_at dksX2_changed_0 22 rfl rfl)
theorem dX2_changed_23 : decode cX2_changed 23 = .ok (.getfield 9, 3) := dk_180 0 9 (dk_at dksX2_changed_1 0 rfl rfl)
theorem dX2_changed_26 : decode cX2_changed 26 = .ok (.goto 4, 3) := dk_167 0 4 (dk_at dksX2_changed_1 3 rfl rfl)
theorem dX2_changed_29 : decode cX2_changed 29 = .ok (.iconst (-1), 1) := dk_2 (dk_at dksX2_changed_1 6 rfl rfl)
theorem dX2_changed_30 : decode cX2_changed 30 = .ok (.putfield 9, 3) := dk_181 0 9 (dk_at dksX2_changed_1 7 rfl rfl)
theorem dX2_changed_33 : decode cX2_changed 33 = .ok (.return_, 1) := dk_177 (dk_at dksX2_changed_1 10 rfl rfl)
abbrev cX2_dropGate : ByteArray := prog_3_method_11_code
def yX2_dropGate : MethodName := ⟨RX2, "dropGate", "()I"⟩
def dkwX2_dropGate_2 : List UInt8 := [180, 0, 41, 4, 42, 180, 0, 35, 120, 2, 130, 126, 181, 0, 41, 42, 182, 0, 76, 42, 180, 0, 35, 172]
abbrev dktX2_dropGate_2 : List UInt8 := dkwX2_dropGate_2 ++ []
def dkwX2_dropGate_1 : List UInt8 := [181, 0, 35, 42, 89, 180, 0, 38, 4, 42, 182, 0, 51, 120, 2, 130, 126, 181, 0, 38, 42, 89]
abbrev dktX2_dropGate_1 : List UInt8 := dkwX2_dropGate_1 ++ dktX2_dropGate_2
def dkwX2_dropGate_0 : List UInt8 := [42, 180, 0, 35, 158, 0, 7, 4, 167, 0, 4, 3, 184, 0, 73, 42, 89, 180, 0, 35, 4, 100]
abbrev dktX2_dropGate_0 : List UInt8 := dkwX2_dropGate_0 ++ dktX2_dropGate_1
theorem dksX2_dropGate_0 : cX2_dropGate.data.toList.drop 0 = dktX2_dropGate_0 := by decide +kernel
theorem dksX2_dropGate_1 : cX2_dropGate.data.toList.drop 22 = dktX2_dropGate_1 := dk_seg dksX2_dropGate_0 22 rfl rfl
theorem dksX2_dropGate_2 : cX2_dropGate.data.toList.drop 44 = dktX2_dropGate_2 := dk_seg dksX2_dropGate_1 22 rfl rfl
theorem dX2_dropGate_0 : decode cX2_dropGate 0 = .ok (.aload_n 0, 1) := dk_42 (dk_at dksX2_dropGate_0 0 rfl rfl)
theorem dX2_dropGate_1 : decode cX2_dropGate 1 = .ok (.getfield 35, 3) := dk_180 0 35 (dk_at dksX2_dropGate_0 1 rfl rfl)
theorem dX2_dropGate_4 : decode cX2_dropGate 4 = .ok (.ifCond .le 7, 3) := dk_158 0 7 (dk_at dksX2_dropGate_0 4 rfl rfl)
theorem dX2_dropGate_7 : decode cX2_dropGate 7 = .ok (.iconst 1, 1) := dk_4 (dk_at dksX2_dropGate_0 7 rfl rfl)
theorem dX2_dropGate_8 : decode cX2_dropGate 8 = .ok (.goto 4, 3) := dk_167 0 4 (dk_at dksX2_dropGate_0 8 rfl rfl)
theorem dX2_dropGate_11 : decode cX2_dropGate 11 = .ok (.iconst 0, 1) := dk_3 (dk_at dksX2_dropGate_0 11 rfl rfl)
theorem dX2_dropGate_12 : decode cX2_dropGate 12 = .ok (.invokestatic 73, 3) := dk_184 0 73 (dk_at dksX2_dropGate_0 12 rfl rfl)
theorem dX2_dropGate_15 : decode cX2_dropGate 15 = .ok (.aload_n 0, 1) := dk_42 (dk_at dksX2_dropGate_0 15 rfl rfl)
theorem dX2_dropGate_16 : decode cX2_dropGate 16 = .ok (.dup, 1) := dk_89 (dk_at dksX2_dropGate_0 16 rfl rfl)
theorem dX2_dropGate_17 : decode cX2_dropGate 17 = .ok (.getfield 35, 3) := dk_180 0 35 (dk_at dksX2_dropGate_0 17 rfl rfl)
theorem dX2_dropGate_20 : decode cX2_dropGate 20 = .ok (.iconst 1, 1) := dk_4 (dk_at dksX2_dropGate_0 20 rfl rfl)
theorem dX2_dropGate_21 : decode cX2_dropGate 21 = .ok (.isub, 1) := dk_100 (dk_at dksX2_dropGate_0 21 rfl rfl)
theorem dX2_dropGate_22 : decode cX2_dropGate 22 = .ok (.putfield 35, 3) := dk_181 0 35 (dk_at dksX2_dropGate_1 0 rfl rfl)
theorem dX2_dropGate_25 : decode cX2_dropGate 25 = .ok (.aload_n 0, 1) := dk_42 (dk_at dksX2_dropGate_1 3 rfl rfl)
theorem dX2_dropGate_26 : decode cX2_dropGate 26 = .ok (.dup, 1) := dk_89 (dk_at dksX2_dropGate_1 4 rfl rfl)
theorem dX2_dropGate_27 : decode cX2_dropGate 27 = .ok (.getfield 38, 3) := dk_180 0 38 (dk_at dksX2_dropGate_1 5 rfl rfl)
theorem dX2_dropGate_30 : decode cX2_dropGate 30 = .ok (.iconst 1, 1) := dk_4 (dk_at dksX2_dropGate_1 8 rfl rfl)
theorem dX2_dropGate_31 : decode cX2_dropGate 31 = .ok (.aload_n 0, 1) := dk_42 (dk_at dksX2_dropGate_1 9 rfl rfl)
theorem dX2_dropGate_32 : decode cX2_dropGate 32 = .ok (.invokevirtual 51, 3) := dk_182 0 51 (dk_at dksX2_dropGate_1 10 rfl rfl)
theorem dX2_dropGate_35 : decode cX2_dropGate 35 = .ok (.ishl, 1) := dk_120 (dk_at dksX2_dropGate_1 13 rfl rfl)
theorem dX2_dropGate_36 : decode cX2_dropGate 36 = .ok (.iconst (-1), 1) := dk_2 (dk_at dksX2_dropGate_1 14 rfl rfl)
theorem dX2_dropGate_37 : decode cX2_dropGate 37 = .ok (.ixor, 1) := dk_130 (dk_at dksX2_dropGate_1 15 rfl rfl)
theorem dX2_dropGate_38 : decode cX2_dropGate 38 = .ok (.iand, 1) := dk_126 (dk_at dksX2_dropGate_1 16 rfl rfl)
theorem dX2_dropGate_39 : decode cX2_dropGate 39 = .ok (.putfield 38, 3) := dk_181 0 38 (dk_at dksX2_dropGate_1 17 rfl rfl)
theorem dX2_dropGate_42 : decode cX2_dropGate 42 = .ok (.aload_n 0, 1) := dk_42 (dk_at dksX2_dropGate_1 20 rfl rfl)
theorem dX2_dropGate_43 : decode cX2_dropGate 43 = .ok (.dup, 1) := dk_89 (dk_at dksX2_dropGate_1 21 rfl rfl)
theorem dX2_dropGate_44 : decode cX2_dropGate 44 = .ok (.getfield 41, 3) := dk_180 0 41 (dk_at dksX2_dropGate_2 0 rfl rfl)
theorem dX2_dropGate_47 : decode cX2_dropGate 47 = .ok (.iconst 1, 1) := dk_4 (dk_at dksX2_dropGate_2 3 rfl rfl)
theorem dX2_dropGate_48 : decode cX2_dropGate 48 = .ok (.aload_n 0, 1) := dk_42 (dk_at dksX2_dropGate_2 4 rfl rfl)
theorem dX2_dropGate_49 : decode cX2_dropGate 49 = .ok (.getfield 35, 3) := dk_180 0 35 (dk_at dksX2_dropGate_2 5 rfl rfl)
theorem dX2_dropGate_52 : decode cX2_dropGate 52 = .ok (.ishl, 1) := dk_120 (dk_at dksX2_dropGate_2 8 rfl rfl)
theorem dX2_dropGate_53 : decode cX2_dropGate 53 = .ok (.iconst (-1), 1) := dk_2 (dk_at dksX2_dropGate_2 9 rfl rfl)
theorem dX2_dropGate_54 : decode cX2_dropGate 54 = .ok (.ixor, 1) := dk_130 (dk_at dksX2_dropGate_2 10 rfl rfl)
theorem dX2_dropGate_55 : decode cX2_dropGate 55 = .ok (.iand, 1) := dk_126 (dk_at dksX2_dropGate_2 11 rfl rfl)
theorem dX2_dropGate_56 : decode cX2_dropGate 56 = .ok (.putfield 41, 3) := dk_181 0 41 (dk_at dksX2_dropGate_2 12 rfl rfl)
theorem dX2_dropGate_59 : decode cX2_dropGate 59 = .ok (.aload_n 0, 1) := dk_42 (dk_at dksX2_dropGate_2 15 rfl rfl)
theorem dX2_dropGate_60 : decode cX2_dropGate 60 = .ok (.invokevirtual 76, 3) := dk_182 0 76 (dk_at dksX2_dropGate_2 16 rfl rfl)
theorem dX2_dropGate_63 : decode cX2_dropGate 63 = .ok (.aload_n 0, 1) := dk_42 (dk_at dksX2_dropGate_2 19 rfl rfl)
theorem dX2_dropGate_64 : decode cX2_dropGate 64 = .ok (.getfield 35, 3) := dk_180 0 35 (dk_at dksX2_dropGate_2 20 rfl rfl)
theorem dX2_dropGate_67 : decode cX2_dropGate 67 = .ok (.ireturn, 1) := dk_172 (dk_at dksX2_dropGate_2 23 rfl rfl)
abbrev cX2_setKind : ByteArray := prog_3_method_12_code
def yX2_setKind : MethodName := ⟨RX2, "setKind", "(II)I"⟩
def dkwX2_setKind_2 : List UInt8 := [27, 46, 62, 42, 180, 0, 19, 27, 28, 79, 42, 182, 0, 76, 29, 172]
abbrev dktX2_setKind_2 : List UInt8 := dkwX2_setKind_2 ++ []
def dkwX2_setKind_1 : List UInt8 := [184, 0, 82, 153, 0, 9, 28, 16, 6, 162, 0, 7, 4, 167, 0, 4, 3, 184, 0, 73, 42, 180, 0, 19]
abbrev dktX2_setKind_1 : List UInt8 := dkwX2_setKind_1 ++ dktX2_setKind_2
def dkwX2_setKind_0 : List UInt8 := [42, 27, 182, 0, 79, 184, 0, 66, 28, 3, 16, 7, 184, 0, 58, 184, 0, 70, 42, 180, 0, 41, 27]
abbrev dktX2_setKind_0 : List UInt8 := dkwX2_setKind_0 ++ dktX2_setKind_1
theorem dksX2_setKind_0 : cX2_setKind.data.toList.drop 0 = dktX2_setKind_0 := by decide +kernel
theorem dksX2_setKind_1 : cX2_setKind.data.toList.drop 23 = dktX2_setKind_1 := dk_seg dksX2_setKind_0 23 rfl rfl
theorem dksX2_setKind_2 : cX2_setKind.data.toList.drop 47 = dktX2_setKind_2 := dk_seg dksX2_setKind_1 24 rfl rfl
theorem dX2_setKind_0 : decode cX2_setKind 0 = .ok (.aload_n 0, 1) := dk_42 (dk_at dksX2_setKind_0 0 rfl rfl)
theorem dX2_setKind_1 : decode cX2_setKind 1 = .ok (.iload_n 1, 1) := dk_27 (dk_at dksX2_setKind_0 1 rfl rfl)
theorem dX2_setKind_2 : decode cX2_setKind 2 = .ok (.invokevirtual 79, 3) := dk_182 0 79 (dk_at dksX2_setKind_0 2 rfl rfl)
theorem dX2_setKind_5 : decode cX2_setKind 5 = .ok (.invokestatic 66, 3) := dk_184 0 66 (dk_at dksX2_setKind_0 5 rfl rfl)
theorem dX2_setKind_8 : decode cX2_setKind 8 = .ok (.iload_n 2, 1) := dk_28 (dk_at dksX2_setKind_0 8 rfl rfl)
theorem dX2_setKind_9 : decode cX2_setKind 9 = .ok (.iconst 0, 1) := dk_3 (dk_at dksX2_setKind_0 9 rfl rfl)
theorem dX2_setKind_10 : decode cX2_setKind 10 = .ok (.bipush 7, 2) := dk_16 7 (dk_at dksX2_setKind_0 10 rfl rfl)
theorem dX2_setKind_12 : decode cX2_setKind 12 = .ok (.invokestatic 58, 3) := dk_184 0 58 (dk_at dksX2_setKind_0 12 rfl rfl)
theorem dX2_setKind_15 : decode cX2_setKind 15 = .ok (.invokestatic 70, 3) := dk_184 0 70 (dk_at dksX2_setKind_0 15 rfl rfl)
theorem dX2_setKind_18 : decode cX2_setKind 18 = .ok (.aload_n 0, 1) := dk_42 (dk_at dksX2_setKind_0 18 rfl rfl)
theorem dX2_setKind_19 : decode cX2_setKind 19 = .ok (.getfield 41, 3) := dk_180 0 41 (dk_at dksX2_setKind_0 19 rfl rfl)
theorem dX2_setKind_22 : decode cX2_setKind 22 = .ok (.iload_n 1, 1) := dk_27 (dk_at dksX2_setKind_0 22 rfl rfl)
theorem dX2_setKind_23 : decode cX2_setKind 23 = .ok (.invokestatic 82, 3) := dk_184 0 82 (dk_at dksX2_setKind_1 0 rfl rfl)
theorem dX2_setKind_26 : decode cX2_setKind 26 = .ok (.ifCond .eq 9, 3) := dk_153 0 9 (dk_at dksX2_setKind_1 3 rfl rfl)
theorem dX2_setKind_29 : decode cX2_setKind 29 = .ok (.iload_n 2, 1) := dk_28 (dk_at dksX2_setKind_1 6 rfl rfl)
theorem dX2_setKind_30 : decode cX2_setKind 30 = .ok (.bipush 6, 2) := dk_16 6 (dk_at dksX2_setKind_1 7 rfl rfl)
theorem dX2_setKind_32 : decode cX2_setKind 32 = .ok (.if_icmp .ge 7, 3) := dk_162 0 7 (dk_at dksX2_setKind_1 9 rfl rfl)
theorem dX2_setKind_35 : decode cX2_setKind 35 = .ok (.iconst 1, 1) := dk_4 (dk_at dksX2_setKind_1 12 rfl rfl)
theorem dX2_setKind_36 : decode cX2_setKind 36 = .ok (.goto 4, 3) := dk_167 0 4 (dk_at dksX2_setKind_1 13 rfl rfl)
theorem dX2_setKind_39 : decode cX2_setKind 39 = .ok (.iconst 0, 1) := dk_3 (dk_at dksX2_setKind_1 16 rfl rfl)
theorem dX2_setKind_40 : decode cX2_setKind 40 = .ok (.invokestatic 73, 3) := dk_184 0 73 (dk_at dksX2_setKind_1 17 rfl rfl)
theorem dX2_setKind_43 : decode cX2_setKind 43 = .ok (.aload_n 0, 1) := dk_42 (dk_at dksX2_setKind_1 20 rfl rfl)
theorem dX2_setKind_44 : decode cX2_setKind 44 = .ok (.getfield 19, 3) := dk_180 0 19 (dk_at dksX2_setKind_1 21 rfl rfl)
theorem dX2_setKind_47 : decode cX2_setKind 47 = .ok (.iload_n 1, 1) := dk_27 (dk_at dksX2_setKind_2 0 rfl rfl)
theorem dX2_setKind_48 : decode cX2_setKind 48 = .ok (.iaload, 1) := dk_46 (dk_at dksX2_setKind_2 1 rfl rfl)
theorem dX2_setKind_49 : decode cX2_setKind 49 = .ok (.istore_n 3, 1) := dk_62 (dk_at dksX2_setKind_2 2 rfl rfl)
theorem dX2_setKind_50 : decode cX2_setKind 50 = .ok (.aload_n 0, 1) := dk_42 (dk_at dksX2_setKind_2 3 rfl rfl)
theorem dX2_setKind_51 : decode cX2_setKind 51 = .ok (.getfield 19, 3) := dk_180 0 19 (dk_at dksX2_setKind_2 4 rfl rfl)
theorem dX2_setKind_54 : decode cX2_setKind 54 = .ok (.iload_n 1, 1) := dk_27 (dk_at dksX2_setKind_2 7 rfl rfl)
theorem dX2_setKind_55 : decode cX2_setKind 55 = .ok (.iload_n 2, 1) := dk_28 (dk_at dksX2_setKind_2 8 rfl rfl)
theorem dX2_setKind_56 : decode cX2_setKind 56 = .ok (.iastore, 1) := dk_79 (dk_at dksX2_setKind_2 9 rfl rfl)
theorem dX2_setKind_57 : decode cX2_setKind 57 = .ok (.aload_n 0, 1) := dk_42 (dk_at dksX2_setKind_2 10 rfl rfl)
theorem dX2_setKind_58 : decode cX2_setKind 58 = .ok (.invokevirtual 76, 3) := dk_182 0 76 (dk_at dksX2_setKind_2 11 rfl rfl)
theorem dX2_setKind_61 : decode cX2_setKind 61 = .ok (.iload_n 3, 1) := dk_29 (dk_at dksX2_setKind_2 14 rfl rfl)
theorem dX2_setKind_62 : decode cX2_setKind 62 = .ok (.ireturn, 1) := dk_172 (dk_at dksX2_setKind_2 15 rfl rfl)
abbrev cX2_isGate : ByteArray := prog_3_method_8_code
def yX2_isGate : MethodName := ⟨RX2, "isGate", "(I)Z"⟩
def dkwX2_isGate_0 : List UInt8 := [27, 3, 42, 180, 0, 35, 4, 100, 184, 0, 58, 172]
abbrev dktX2_isGate_0 : List UInt8 := dkwX2_isGate_0 ++ []
theorem dksX2_isGate_0 : cX2_isGate.data.toList.drop 0 = dktX2_isGate_0 := by decide +kernel
theorem dX2_isGate_0 : decode cX2_isGate 0 = .ok (.iload_n 1, 1) := dk_27 (dk_at dksX2_isGate_0 0 rfl rfl)
theorem dX2_isGate_1 : decode cX2_isGate 1 = .ok (.iconst 0, 1) := dk_3 (dk_at dksX2_isGate_0 1 rfl rfl)
theorem dX2_isGate_2 : decode cX2_isGate 2 = .ok (.aload_n 0, 1) := dk_42 (dk_at dksX2_isGate_0 2 rfl rfl)
theorem dX2_isGate_3 : decode cX2_isGate 3 = .ok (.getfield 35, 3) := dk_180 0 35 (dk_at dksX2_isGate_0 3 rfl rfl)
theorem dX2_isGate_6 : decode cX2_isGate 6 = .ok (.iconst 1, 1) := dk_4 (dk_at dksX2_isGate_0 6 rfl rfl)
theorem dX2_isGate_7 : decode cX2_isGate 7 = .ok (.isub, 1) := dk_100 (dk_at dksX2_isGate_0 7 rfl rfl)
theorem dX2_isGate_8 : decode cX2_isGate 8 = .ok (.invokestatic 58, 3) := dk_184 0 58 (dk_at dksX2_isGate_0 8 rfl rfl)
theorem dX2_isGate_11 : decode cX2_isGate 11 = .ok (.ireturn, 1) := dk_172 (dk_at dksX2_isGate_0 11 rfl rfl)
abbrev cX2_setSource : ByteArray := prog_3_method_13_code
def yX2_setSource : MethodName := ⟨RX2, "setSource", "(III)I"⟩
def dkwX2_setSource_3 : List UInt8 := [54, 5, 25, 4, 27, 29, 79, 42, 182, 0, 76, 21, 5, 172]
abbrev dktX2_setSource_3 : List UInt8 := dkwX2_setSource_3 ++ []
def dkwX2_setSource_2 : List UInt8 := [184, 0, 70, 28, 154, 0, 10, 42, 180, 0, 23, 167, 0, 7, 42, 180, 0, 26, 58, 4, 25, 4, 27, 46]
abbrev dktX2_setSource_2 : List UInt8 := dkwX2_setSource_2 ++ dktX2_setSource_3
def dkwX2_setSource_1 : List UInt8 := [28, 3, 4, 184, 0, 58, 153, 0, 15, 29, 16, 6, 27, 96, 162, 0, 7, 4, 167, 0, 4, 3]
abbrev dktX2_setSource_1 : List UInt8 := dkwX2_setSource_1 ++ dktX2_setSource_2
def dkwX2_setSource_0 : List UInt8 := [42, 27, 182, 0, 79, 153, 0, 15, 42, 29, 182, 0, 62, 153, 0, 7, 4, 167, 0, 4, 3, 184, 0, 66]
abbrev dktX2_setSource_0 : List UInt8 := dkwX2_setSource_0 ++ dktX2_setSource_1
theorem dksX2_setSource_0 : cX2_setSource.data.toList.drop 0 = dktX2_setSource_0 := by decide +kernel
theorem dksX2_setSource_1 : cX2_setSource.data.toList.drop 24 = dktX2_setSource_1 := dk_seg dksX2_setSource_0 24 rfl rfl
theorem dksX2_setSource_2 : cX2_setSource.data.toList.drop 46 = dktX2_setSource_2 := dk_seg dksX2_setSource_1 22 rfl rfl
theorem dksX2_setSource_3 : cX2_setSource.data.toList.drop 70 = dktX2_setSource_3 := dk_seg dksX2_setSource_2 24 rfl rfl
theorem dX2_setSource_0 : decode cX2_setSource 0 = .ok (.aload_n 0, 1) := dk_42 (dk_at dksX2_setSource_0 0 rfl rfl)
theorem dX2_setSource_1 : decode cX2_setSource 1 = .ok (.iload_n 1, 1) := dk_27 (dk_at dksX2_setSource_0 1 rfl rfl)
theorem dX2_setSource_2 : decode cX2_setSource 2 = .ok (.invokevirtual 79, 3) := dk_182 0 79 (dk_at dksX2_setSource_0 2 rfl rfl)
theorem dX2_setSource_5 : decode cX2_setSource 5 = .ok (.ifCond .eq 15, 3) := dk_153 0 15 (dk_at dksX2_setSource_0 5 rfl rfl)
theorem dX2_setSource_8 : decode cX2_setSource 8 = .ok (.aload_n 0, 1) := dk_42 (dk_at dksX2_setSource_0 8 rfl rfl)
theorem dX2_setSource_9 : decode cX2_setSource 9 = .ok (.iload_n 3, 1) := dk_29 (dk_at dksX2_setSource_0 9 rfl rfl)
theorem dX2_setSource_10 : decode cX2_setSource 10 = .ok (.invokevirtual 62, 3) := dk_182 0 62 (dk_at dksX2_setSource_0 10 rfl rfl)
theorem dX2_setSource_13 : decode cX2_setSource 13 = .ok (.ifCond .eq 7, 3) := dk_153 0 7 (dk_at dksX2_setSource_0 13 rfl rfl)
theorem dX2_setSource_16 : decode cX2_setSource 16 = .ok (.iconst 1, 1) := dk_4 (dk_at dksX2_setSource_0 16 rfl rfl)
theorem dX2_setSource_17 : decode cX2_setSource 17 = .ok (.goto 4, 3) := dk_167 0 4 (dk_at dksX2_setSource_0 17 rfl rfl)
theorem dX2_setSource_20 : decode cX2_setSource 20 = .ok (.iconst 0, 1) := dk_3 (dk_at dksX2_setSource_0 20 rfl rfl)
theorem dX2_setSource_21 : decode cX2_setSource 21 = .ok (.invokestatic 66, 3) := dk_184 0 66 (dk_at dksX2_setSource_0 21 rfl rfl)
theorem dX2_setSource_24 : decode cX2_setSource 24 = .ok (.iload_n 2, 1) := dk_28 (dk_at dksX2_setSource_1 0 rfl rfl)
theorem dX2_setSource_25 : decode cX2_setSource 25 = .ok (.iconst 0, 1) := dk_3 (dk_at dksX2_setSource_1 1 rfl rfl)
theorem dX2_setSource_26 : decode cX2_setSource 26 = .ok (.iconst 1, 1) := dk_4 (dk_at dksX2_setSource_1 2 rfl rfl)
theorem dX2_setSource_27 : decode cX2_setSource 27 = .ok (.invokestatic 58, 3) := dk_184 0 58 (dk_at dksX2_setSource_1 3 rfl rfl)
theorem dX2_setSource_30 : decode cX2_setSource 30 = .ok (.ifCond .eq 15, 3) := dk_153 0 15 (dk_at dksX2_setSource_1 6 rfl rfl)
theorem dX2_setSource_33 : decode cX2_setSource 33 = .ok (.iload_n 3, 1) := dk_29 (dk_at dksX2_setSource_1 9 rfl rfl)
theorem dX2_setSource_34 : decode cX2_setSource 34 = .ok (.bipush 6, 2) := dk_16 6 (dk_at dksX2_setSource_1 10 rfl rfl)
theorem dX2_setSource_36 : decode cX2_setSource 36 = .ok (.iload_n 1, 1) := dk_27 (dk_at dksX2_setSource_1 12 rfl rfl)
theorem dX2_setSource_37 : decode cX2_setSource 37 = .ok (.iadd, 1) := dk_96 (dk_at dksX2_setSource_1 13 rfl rfl)
theorem dX2_setSource_38 : decode cX2_setSource 38 = .ok (.if_icmp .ge 7, 3) := dk_162 0 7 (dk_at dksX2_setSource_1 14 rfl rfl)
theorem dX2_setSource_41 : decode cX2_setSource 41 = .ok (.iconst 1, 1) := dk_4 (dk_at dksX2_setSource_1 17 rfl rfl)
theorem dX2_setSource_42 : decode cX2_setSource 42 = .ok (.goto 4, 3) := dk_167 0 4 (dk_at dksX2_setSource_1 18 rfl rfl)
theorem dX2_setSource_45 : decode cX2_setSource 45 = .ok (.iconst 0, 1) := dk_3 (dk_at dksX2_setSource_1 21 rfl rfl)
theorem dX2_setSource_46 : decode cX2_setSource 46 = .ok (.invokestatic 70, 3) := dk_184 0 70 (dk_at dksX2_setSource_2 0 rfl rfl)
theorem dX2_setSource_49 : decode cX2_setSource 49 = .ok (.iload_n 2, 1) := dk_28 (dk_at dksX2_setSource_2 3 rfl rfl)
theorem dX2_setSource_50 : decode cX2_setSource 50 = .ok (.ifCond .ne 10, 3) := dk_154 0 10 (dk_at dksX2_setSource_2 4 rfl rfl)
theorem dX2_setSource_53 : decode cX2_setSource 53 = .ok (.aload_n 0, 1) := dk_42 (dk_at dksX2_setSource_2 7 rfl rfl)
theorem dX2_setSource_54 : decode cX2_setSource 54 = .ok (.getfield 23, 3) := dk_180 0 23 (dk_at dksX2_setSource_2 8 rfl rfl)
theorem dX2_setSource_57 : decode cX2_setSource 57 = .ok (.goto 7, 3) := dk_167 0 7 (dk_at dksX2_setSource_2 11 rfl rfl)
theorem dX2_setSource_60 : decode cX2_setSource 60 = .ok (.aload_n 0, 1) := dk_42 (dk_at dksX2_setSource_2 14 rfl rfl)
theorem dX2_setSource_61 : decode cX2_setSource 61 = .ok (.getfield 26, 3) := dk_180 0 26 (dk_at dksX2_setSource_2 15 rfl rfl)
theorem dX2_setSource_64 : decode cX2_setSource 64 = .ok (.astore 4, 2) := dk_58 4 (dk_at dksX2_setSource_2 18 rfl rfl)
theorem dX2_setSource_66 : decode cX2_setSource 66 = .ok (.aload 4, 2) := dk_25 4 (dk_at dksX2_setSource_2 20 rfl rfl)
theorem dX2_setSource_68 : decode cX2_setSource 68 = .ok (.iload_n 1, 1) := dk_27 (dk_at dksX2_setSource_2 22 rfl rfl)
theorem dX2_setSource_69 : decode cX2_setSource 69 = .ok (.iaload, 1) := dk_46 (dk_at dksX2_setSource_2 23 rfl rfl)
theorem dX2_setSource_70 : decode cX2_setSource 70 = .ok (.istore 5, 2) := dk_54 5 (dk_at dksX2_setSource_3 0 rfl rfl)
theorem dX2_setSource_72 : decode cX2_setSource 72 = .ok (.aload 4, 2) := dk_25 4 (dk_at dksX2_setSource_3 2 rfl rfl)
theorem dX2_setSource_74 : decode cX2_setSource 74 = .ok (.iload_n 1, 1) := dk_27 (dk_at dksX2_setSource_3 4 rfl rfl)
theorem dX2_setSource_75 : decode cX2_setSource 75 = .ok (.iload_n 3, 1) := dk_29 (dk_at dksX2_setSource_3 5 rfl rfl)
theorem dX2_setSource_76 : decode cX2_setSource 76 = .ok (.iastore, 1) := dk_79 (dk_at dksX2_setSource_3 6 rfl rfl)
theorem dX2_setSource_77 : decode cX2_setSource 77 = .ok (.aload_n 0, 1) := dk_42 (dk_at dksX2_setSource_3 7 rfl rfl)
theorem dX2_setSource_78 : decode cX2_setSource 78 = .ok (.invokevirtual 76, 3) := dk_182 0 76 (dk_at dksX2_setSource_3 8 rfl rfl)
theorem dX2_setSource_81 : decode cX2_setSource 81 = .ok (.iload 5, 2) := dk_21 5 (dk_at dksX2_setSource_3 11 rfl rfl)
theorem dX2_setSource_83 : decode cX2_setSource 83 = .ok (.ireturn, 1) := dk_172 (dk_at dksX2_setSource_3 13 rfl rfl)
abbrev cX2_turnOutput : ByteArray := prog_3_method_14_code
def yX2_turnOutput : MethodName := ⟨RX2, "turnOutput", "(I)I"⟩
def dkwX2_turnOutput_2 : List UInt8 := [181, 0, 38, 42, 182, 0, 76, 42, 180, 0, 38, 184, 0, 86, 172]
abbrev dktX2_turnOutput_2 : List UInt8 := dkwX2_turnOutput_2 ++ []
def dkwX2_turnOutput_1 : List UInt8 := [184, 0, 86, 7, 162, 0, 7, 4, 167, 0, 4, 3, 184, 0, 73, 42, 89, 180, 0, 38, 4, 27, 120, 130]
abbrev dktX2_turnOutput_1 : List UInt8 := dkwX2_turnOutput_1 ++ dktX2_turnOutput_2
def dkwX2_turnOutput_0 : List UInt8 := [42, 27, 182, 0, 62, 184, 0, 66, 42, 180, 0, 38, 27, 184, 0, 82, 154, 0, 14, 42, 180, 0, 38]
abbrev dktX2_turnOutput_0 : List UInt8 := dkwX2_turnOutput_0 ++ dktX2_turnOutput_1
theorem dksX2_turnOutput_0 : cX2_turnOutput.data.toList.drop 0 = dktX2_turnOutput_0 := by decide +kernel
theorem dksX2_turnOutput_1 : cX2_turnOutput.data.toList.drop 23 = dktX2_turnOutput_1 := dk_seg dksX2_turnOutput_0 23 rfl rfl
theorem dksX2_turnOutput_2 : cX2_turnOutput.data.toList.drop 47 = dktX2_turnOutput_2 := dk_seg dksX2_turnOutput_1 24 rfl rfl
theorem dX2_turnOutput_0 : decode cX2_turnOutput 0 = .ok (.aload_n 0, 1) := dk_42 (dk_at dksX2_turnOutput_0 0 rfl rfl)
theorem dX2_turnOutput_1 : decode cX2_turnOutput 1 = .ok (.iload_n 1, 1) := dk_27 (dk_at dksX2_turnOutput_0 1 rfl rfl)
theorem dX2_turnOutput_2 : decode cX2_turnOutput 2 = .ok (.invokevirtual 62, 3) := dk_182 0 62 (dk_at dksX2_turnOutput_0 2 rfl rfl)
theorem dX2_turnOutput_5 : decode cX2_turnOutput 5 = .ok (.invokestatic 66, 3) := dk_184 0 66 (dk_at dksX2_turnOutput_0 5 rfl rfl)
theorem dX2_turnOutput_8 : decode cX2_turnOutput 8 = .ok (.aload_n 0, 1) := dk_42 (dk_at dksX2_turnOutput_0 8 rfl rfl)
theorem dX2_turnOutput_9 : decode cX2_turnOutput 9 = .ok (.getfield 38, 3) := dk_180 0 38 (dk_at dksX2_turnOutput_0 9 rfl rfl)
theorem dX2_turnOutput_12 : decode cX2_turnOutput 12 = .ok (.iload_n 1, 1) := dk_27 (dk_at dksX2_turnOutput_0 12 rfl rfl)
theorem dX2_turnOutput_13 : decode cX2_turnOutput 13 = .ok (.invokestatic 82, 3) := dk_184 0 82 (dk_at dksX2_turnOutput_0 13 rfl rfl)
theorem dX2_turnOutput_16 : decode cX2_turnOutput 16 = .ok (.ifCond .ne 14, 3) := dk_154 0 14 (dk_at dksX2_turnOutput_0 16 rfl rfl)
theorem dX2_turnOutput_19 : decode cX2_turnOutput 19 = .ok (.aload_n 0, 1) := dk_42 (dk_at dksX2_turnOutput_0 19 rfl rfl)
theorem dX2_turnOutput_20 : decode cX2_turnOutput 20 = .ok (.getfield 38, 3) := dk_180 0 38 (dk_at dksX2_turnOutput_0 20 rfl rfl)
theorem dX2_turnOutput_23 : decode cX2_turnOutput 23 = .ok (.invokestatic 86, 3) := dk_184 0 86 (dk_at dksX2_turnOutput_1 0 rfl rfl)
theorem dX2_turnOutput_26 : decode cX2_turnOutput 26 = .ok (.iconst 4, 1) := dk_7 (dk_at dksX2_turnOutput_1 3 rfl rfl)
theorem dX2_turnOutput_27 : decode cX2_turnOutput 27 = .ok (.if_icmp .ge 7, 3) := dk_162 0 7 (dk_at dksX2_turnOutput_1 4 rfl rfl)
theorem dX2_turnOutput_30 : decode cX2_turnOutput 30 = .ok (.iconst 1, 1) := dk_4 (dk_at dksX2_turnOutput_1 7 rfl rfl)
theorem dX2_turnOutput_31 : decode cX2_turnOutput 31 = .ok (.goto 4, 3) := dk_167 0 4 (dk_at dksX2_turnOutput_1 8 rfl rfl)
theorem dX2_turnOutput_34 : decode cX2_turnOutput 34 = .ok (.iconst 0, 1) := dk_3 (dk_at dksX2_turnOutput_1 11 rfl rfl)
theorem dX2_turnOutput_35 : decode cX2_turnOutput 35 = .ok (.invokestatic 73, 3) := dk_184 0 73 (dk_at dksX2_turnOutput_1 12 rfl rfl)
theorem dX2_turnOutput_38 : decode cX2_turnOutput 38 = .ok (.aload_n 0, 1) := dk_42 (dk_at dksX2_turnOutput_1 15 rfl rfl)
theorem dX2_turnOutput_39 : decode cX2_turnOutput 39 = .ok (.dup, 1) := dk_89 (dk_at dksX2_turnOutput_1 16 rfl rfl)
theorem dX2_turnOutput_40 : decode cX2_turnOutput 40 = .ok (.getfield 38, 3) := dk_180 0 38 (dk_at dksX2_turnOutput_1 17 rfl rfl)
theorem dX2_turnOutput_43 : decode cX2_turnOutput 43 = .ok (.iconst 1, 1) := dk_4 (dk_at dksX2_turnOutput_1 20 rfl rfl)
theorem dX2_turnOutput_44 : decode cX2_turnOutput 44 = .ok (.iload_n 1, 1) := dk_27 (dk_at dksX2_turnOutput_1 21 rfl rfl)
theorem dX2_turnOutput_45 : decode cX2_turnOutput 45 = .ok (.ishl, 1) := dk_120 (dk_at dksX2_turnOutput_1 22 rfl rfl)
theorem dX2_turnOutput_46 : decode cX2_turnOutput 46 = .ok (.ixor, 1) := dk_130 (dk_at dksX2_turnOutput_1 23 rfl rfl)
theorem dX2_turnOutput_47 : decode cX2_turnOutput 47 = .ok (.putfield 38, 3) := dk_181 0 38 (dk_at dksX2_turnOutput_2 0 rfl rfl)
theorem dX2_turnOutput_50 : decode cX2_turnOutput 50 = .ok (.aload_n 0, 1) := dk_42 (dk_at dksX2_turnOutput_2 3 rfl rfl)
theorem dX2_turnOutput_51 : decode cX2_turnOutput 51 = .ok (.invokevirtual 76, 3) := dk_182 0 76 (dk_at dksX2_turnOutput_2 4 rfl rfl)
theorem dX2_turnOutput_54 : decode cX2_turnOutput 54 = .ok (.aload_n 0, 1) := dk_42 (dk_at dksX2_turnOutput_2 7 rfl rfl)
theorem dX2_turnOutput_55 : decode cX2_turnOutput 55 = .ok (.getfield 38, 3) := dk_180 0 38 (dk_at dksX2_turnOutput_2 8 rfl rfl)
theorem dX2_turnOutput_58 : decode cX2_turnOutput 58 = .ok (.invokestatic 86, 3) := dk_184 0 86 (dk_at dksX2_turnOutput_2 11 rfl rfl)
theorem dX2_turnOutput_61 : decode cX2_turnOutput 61 = .ok (.ireturn, 1) := dk_172 (dk_at dksX2_turnOutput_2 14 rfl rfl)
abbrev cX2_turnBox : ByteArray := prog_3_method_15_code
def yX2_turnBox : MethodName := ⟨RX2, "turnBox", "(I)I"⟩
def dkwX2_turnBox_3 : List UInt8 := [184, 0, 86, 172]
abbrev dktX2_turnBox_3 : List UInt8 := dkwX2_turnBox_3 ++ []
def dkwX2_turnBox_2 : List UInt8 := [184, 0, 73, 42, 89, 180, 0, 41, 4, 27, 120, 130, 181, 0, 41, 42, 182, 0, 76, 42, 180, 0, 41]
abbrev dktX2_turnBox_2 : List UInt8 := dkwX2_turnBox_2 ++ dktX2_turnBox_3
def dkwX2_turnBox_1 : List UInt8 := [184, 0, 86, 6, 162, 0, 18, 42, 180, 0, 19, 27, 46, 16, 6, 162, 0, 7, 4, 167, 0, 4, 3]
abbrev dktX2_turnBox_1 : List UInt8 := dkwX2_turnBox_1 ++ dktX2_turnBox_2
def dkwX2_turnBox_0 : List UInt8 := [42, 27, 182, 0, 79, 184, 0, 66, 42, 180, 0, 41, 27, 184, 0, 82, 154, 0, 25, 42, 180, 0, 41]
abbrev dktX2_turnBox_0 : List UInt8 := dkwX2_turnBox_0 ++ dktX2_turnBox_1
theorem dksX2_turnBox_0 : cX2_turnBox.data.toList.drop 0 = dktX2_turnBox_0 := by decide +kernel
theorem dksX2_turnBox_1 : cX2_turnBox.data.toList.drop 23 = dktX2_turnBox_1 := dk_seg dksX2_turnBox_0 23 rfl rfl
theorem dksX2_turnBox_2 : cX2_turnBox.data.toList.drop 46 = dktX2_turnBox_2 := dk_seg dksX2_turnBox_1 23 rfl rfl
theorem dksX2_turnBox_3 : cX2_turnBox.data.toList.drop 69 = dktX2_turnBox_3 := dk_seg dksX2_turnBox_2 23 rfl rfl
theorem dX2_turnBox_0 : decode cX2_turnBox 0 = .ok (.aload_n 0, 1) := dk_42 (dk_at dksX2_turnBox_0 0 rfl rfl)
theorem dX2_turnBox_1 : decode cX2_turnBox 1 = .ok (.iload_n 1, 1) := dk_27 (dk_at dksX2_turnBox_0 1 rfl rfl)
theorem dX2_turnBox_2 : decode cX2_turnBox 2 = .ok (.invokevirtual 79, 3) := dk_182 0 79 (dk_at dksX2_turnBox_0 2 rfl rfl)
theorem dX2_turnBox_5 : decode cX2_turnBox 5 = .ok (.invokestatic 66, 3) := dk_184 0 66 (dk_at dksX2_turnBox_0 5 rfl rfl)
theorem dX2_turnBox_8 : decode cX2_turnBox 8 = .ok (.aload_n 0, 1) := dk_42 (dk_at dksX2_turnBox_0 8 rfl rfl)
theorem dX2_turnBox_9 : decode cX2_turnBox 9 = .ok (.getfield 41, 3) := dk_180 0 41 (dk_at dksX2_turnBox_0 9 rfl rfl)
theorem dX2_turnBox_12 : decode cX2_turnBox 12 = .ok (.iload_n 1, 1) := dk_27 (dk_at dksX2_turnBox_0 12 rfl rfl)
theorem dX2_turnBox_13 : decode cX2_turnBox 13 = .ok (.invokestatic 82, 3) := dk_184 0 82 (dk_at dksX2_turnBox_0 13 rfl rfl)
theorem dX2_turnBox_16 : decode cX2_turnBox 16 = .ok (.ifCond .ne 25, 3) := dk_154 0 25 (dk_at dksX2_turnBox_0 16 rfl rfl)
theorem dX2_turnBox_19 : decode cX2_turnBox 19 = .ok (.aload_n 0, 1) := dk_42 (dk_at dksX2_turnBox_0 19 rfl rfl)
theorem dX2_turnBox_20 : decode cX2_turnBox 20 = .ok (.getfield 41, 3) := dk_180 0 41 (dk_at dksX2_turnBox_0 20 rfl rfl)
theorem dX2_turnBox_23 : decode cX2_turnBox 23 = .ok (.invokestatic 86, 3) := dk_184 0 86 (dk_at dksX2_turnBox_1 0 rfl rfl)
theorem dX2_turnBox_26 : decode cX2_turnBox 26 = .ok (.iconst 3, 1) := dk_6 (dk_at dksX2_turnBox_1 3 rfl rfl)
theorem dX2_turnBox_27 : decode cX2_turnBox 27 = .ok (.if_icmp .ge 18, 3) := dk_162 0 18 (dk_at dksX2_turnBox_1 4 rfl rfl)
theorem dX2_turnBox_30 : decode cX2_turnBox 30 = .ok (.aload_n 0, 1) := dk_42 (dk_at dksX2_turnBox_1 7 rfl rfl)
theorem dX2_turnBox_31 : decode cX2_turnBox 31 = .ok (.getfield 19, 3) := dk_180 0 19 (dk_at dksX2_turnBox_1 8 rfl rfl)
theorem dX2_turnBox_34 : decode cX2_turnBox 34 = .ok (.iload_n 1, 1) := dk_27 (dk_at dksX2_turnBox_1 11 rfl rfl)
theorem dX2_turnBox_35 : decode cX2_turnBox 35 = .ok (.iaload, 1) := dk_46 (dk_at dksX2_turnBox_1 12 rfl rfl)
theorem dX2_turnBox_36 : decode cX2_turnBox 36 = .ok (.bipush 6, 2) := dk_16 6 (dk_at dksX2_turnBox_1 13 rfl rfl)
theorem dX2_turnBox_38 : decode cX2_turnBox 38 = .ok (.if_icmp .ge 7, 3) := dk_162 0 7 (dk_at dksX2_turnBox_1 15 rfl rfl)
theorem dX2_turnBox_41 : decode cX2_turnBox 41 = .ok (.iconst 1, 1) := dk_4 (dk_at dksX2_turnBox_1 18 rfl rfl)
theorem dX2_turnBox_42 : decode cX2_turnBox 42 = .ok (.goto 4, 3) := dk_167 0 4 (dk_at dksX2_turnBox_1 19 rfl rfl)
theorem dX2_turnBox_45 : decode cX2_turnBox 45 = .ok (.iconst 0, 1) := dk_3 (dk_at dksX2_turnBox_1 22 rfl rfl)
theorem dX2_turnBox_46 : decode cX2_turnBox 46 = .ok (.invokestatic 73, 3) := dk_184 0 73 (dk_at dksX2_turnBox_2 0 rfl rfl)
theorem dX2_turnBox_49 : decode cX2_turnBox 49 = .ok (.aload_n 0, 1) := dk_42 (dk_at dksX2_turnBox_2 3 rfl rfl)
theorem dX2_turnBox_50 : decode cX2_turnBox 50 = .ok (.dup, 1) := dk_89 (dk_at dksX2_turnBox_2 4 rfl rfl)
theorem dX2_turnBox_51 : decode cX2_turnBox 51 = .ok (.getfield 41, 3) := dk_180 0 41 (dk_at dksX2_turnBox_2 5 rfl rfl)
theorem dX2_turnBox_54 : decode cX2_turnBox 54 = .ok (.iconst 1, 1) := dk_4 (dk_at dksX2_turnBox_2 8 rfl rfl)
theorem dX2_turnBox_55 : decode cX2_turnBox 55 = .ok (.iload_n 1, 1) := dk_27 (dk_at dksX2_turnBox_2 9 rfl rfl)
theorem dX2_turnBox_56 : decode cX2_turnBox 56 = .ok (.ishl, 1) := dk_120 (dk_at dksX2_turnBox_2 10 rfl rfl)
theorem dX2_turnBox_57 : decode cX2_turnBox 57 = .ok (.ixor, 1) := dk_130 (dk_at dksX2_turnBox_2 11 rfl rfl)
theorem dX2_turnBox_58 : decode cX2_turnBox 58 = .ok (.putfield 41, 3) := dk_181 0 41 (dk_at dksX2_turnBox_2 12 rfl rfl)
theorem dX2_turnBox_61 : decode cX2_turnBox 61 = .ok (.aload_n 0, 1) := dk_42 (dk_at dksX2_turnBox_2 15 rfl rfl)
theorem dX2_turnBox_62 : decode cX2_turnBox 62 = .ok (.invokevirtual 76, 3) := dk_182 0 76 (dk_at dksX2_turnBox_2 16 rfl rfl)
theorem dX2_turnBox_65 : decode cX2_turnBox 65 = .ok (.aload_n 0, 1) := dk_42 (dk_at dksX2_turnBox_2 19 rfl rfl)
theorem dX2_turnBox_66 : decode cX2_turnBox 66 = .ok (.getfield 41, 3) := dk_180 0 41 (dk_at dksX2_turnBox_2 20 rfl rfl)
theorem dX2_turnBox_69 : decode cX2_turnBox 69 = .ok (.invokestatic 86, 3) := dk_184 0 86 (dk_at dksX2_turnBox_3 0 rfl rfl)
theorem dX2_turnBox_72 : decode cX2_turnBox 72 = .ok (.ireturn, 1) := dk_172 (dk_at dksX2_turnBox_3 3 rfl rfl)
theorem q80 : (Jvm.Cond.initialized "RosehipCircuits$Circuit") ∈ lw_all := lw_g (lw_at lw_m1 2 rfl) rfl
theorem q123 : (Jvm.Cond.instantiable "RosehipCircuits$Circuit" (11 : Nat)) ∈ lw_all := lw_g (lw_at lw_m1 45 rfl) rfl
theorem q125 : (Jvm.Cond.instanceMethod ({ cls := "RosehipCircuits$Circuit", name := "<init>", desc := "()V" } : Jvm.MethodName)) ∈ lw_all := lw_g (lw_at lw_m1 47 rfl) rfl
theorem q126 : (Jvm.Cond.code ({ cls := "RosehipCircuits$Circuit", name := "<init>", desc := "()V" } : Jvm.MethodName) prog_3_method_2_code (1 : Nat) (Option.none : Option Jvm.ClassFile.FieldType)) ∈ lw_all := lw_g (lw_at lw_m1 48 rfl) rfl
theorem q127 : (Jvm.Cond.methodLink "RosehipCircuits$Circuit" (32 : Nat) ({ cls := "RosehipCircuits$Circuit", name := "<init>", desc := "([I)V" } : Jvm.MethodName)) ∈ lw_all := lw_g (lw_at lw_m1 49 rfl) rfl
theorem q128 : (Jvm.Cond.instanceMethod ({ cls := "RosehipCircuits$Circuit", name := "<init>", desc := "([I)V" } : Jvm.MethodName)) ∈ lw_all := lw_g (lw_at lw_m1 50 rfl) rfl
theorem q129 : (Jvm.Cond.code ({ cls := "RosehipCircuits$Circuit", name := "<init>", desc := "([I)V" } : Jvm.MethodName) prog_3_method_1_code (2 : Nat) (Option.none : Option Jvm.ClassFile.FieldType)) ∈ lw_all := lw_g (lw_at lw_m1 51 rfl) rfl
theorem q130 : (Jvm.Cond.methodLink "RosehipCircuits$Circuit" (3 : Nat) ({ cls := "java/lang/Object", name := "<init>", desc := "()V" } : Jvm.MethodName)) ∈ lw_all := lw_g (lw_at lw_m1 52 rfl) rfl
theorem q131 : (Jvm.Cond.fieldLink "RosehipCircuits$Circuit" (19 : Nat) "RosehipCircuits$Circuit" "kinds" "[I") ∈ lw_all := lw_g (lw_at lw_m1 53 rfl) rfl
theorem q133 : (Jvm.Cond.fieldLink "RosehipCircuits$Circuit" (23 : Nat) "RosehipCircuits$Circuit" "firsts" "[I") ∈ lw_all := lw_g (lw_at lw_m1 55 rfl) rfl
theorem q135 : (Jvm.Cond.fieldLink "RosehipCircuits$Circuit" (26 : Nat) "RosehipCircuits$Circuit" "seconds" "[I") ∈ lw_all := lw_g (lw_at lw_m1 57 rfl) rfl
theorem q137 : (Jvm.Cond.fieldLink "RosehipCircuits$Circuit" (29 : Nat) "RosehipCircuits$Circuit" "asks" "[I") ∈ lw_all := lw_g (lw_at lw_m1 59 rfl) rfl
theorem q139 : (Jvm.Cond.fieldLink "RosehipCircuits$Circuit" (35 : Nat) "RosehipCircuits$Circuit" "gates" "I") ∈ lw_all := lw_g (lw_at lw_m1 61 rfl) rfl
theorem q141 : (Jvm.Cond.fieldLink "RosehipCircuits$Circuit" (38 : Nat) "RosehipCircuits$Circuit" "outputs" "I") ∈ lw_all := lw_g (lw_at lw_m1 63 rfl) rfl
theorem q143 : (Jvm.Cond.fieldLink "RosehipCircuits$Circuit" (41 : Nat) "RosehipCircuits$Circuit" "boxes" "I") ∈ lw_all := lw_g (lw_at lw_m1 65 rfl) rfl
theorem q145 : (Jvm.Cond.fieldLink "RosehipCircuits$Circuit" (9 : Nat) "RosehipCircuits$Circuit" "secret" "I") ∈ lw_all := lw_g (lw_at lw_m1 67 rfl) rfl
theorem q147 : (Jvm.Cond.fieldLink "RosehipCircuits$Circuit" (44 : Nat) "RosehipCircuits$Circuit" "isSuspecting" "Z") ∈ lw_all := lw_g (lw_at lw_m1 69 rfl) rfl
theorem q149 : (Jvm.Cond.fieldLink "RosehipCircuits$Circuit" (15 : Nat) "RosehipCircuits$Circuit" "chosen" "J") ∈ lw_all := lw_g (lw_at lw_m1 71 rfl) rfl
theorem q151 : (Jvm.Cond.fieldLink "RosehipCircuits$Circuit" (48 : Nat) "RosehipCircuits$Circuit" "asked" "I") ∈ lw_all := lw_g (lw_at lw_m1 73 rfl) rfl
theorem q153 : (Jvm.Cond.laysFinal "RosehipCircuits$Circuit" "RosehipCircuits$Circuit" "kinds" "[I") ∈ lw_all := lw_g (lw_at lw_m1 75 rfl) rfl
theorem q154 : (Jvm.Cond.soleField "RosehipCircuits$Circuit" "kinds") ∈ lw_all := lw_g (lw_at lw_m1 76 rfl) rfl
theorem q155 : (Jvm.Cond.laysFinal "RosehipCircuits$Circuit" "RosehipCircuits$Circuit" "firsts" "[I") ∈ lw_all := lw_g (lw_at lw_m1 77 rfl) rfl
theorem q156 : (Jvm.Cond.soleField "RosehipCircuits$Circuit" "firsts") ∈ lw_all := lw_g (lw_at lw_m1 78 rfl) rfl
theorem q157 : (Jvm.Cond.laysFinal "RosehipCircuits$Circuit" "RosehipCircuits$Circuit" "seconds" "[I") ∈ lw_all := lw_g (lw_at lw_m1 79 rfl) rfl
theorem q158 : (Jvm.Cond.soleField "RosehipCircuits$Circuit" "seconds") ∈ lw_all := lw_g (lw_at lw_m1 80 rfl) rfl
theorem q159 : (Jvm.Cond.laysFinal "RosehipCircuits$Circuit" "RosehipCircuits$Circuit" "asks" "[I") ∈ lw_all := lw_g (lw_at lw_m1 81 rfl) rfl
theorem q160 : (Jvm.Cond.soleField "RosehipCircuits$Circuit" "asks") ∈ lw_all := lw_g (lw_at lw_m1 82 rfl) rfl
theorem q161 : (Jvm.Cond.lays "RosehipCircuits$Circuit" "RosehipCircuits$Circuit" "gates" "I") ∈ lw_all := lw_g (lw_at lw_m1 83 rfl) rfl
theorem q162 : (Jvm.Cond.soleField "RosehipCircuits$Circuit" "gates") ∈ lw_all := lw_g (lw_at lw_m1 84 rfl) rfl
theorem q163 : (Jvm.Cond.lays "RosehipCircuits$Circuit" "RosehipCircuits$Circuit" "outputs" "I") ∈ lw_all := lw_g (lw_at lw_m1 85 rfl) rfl
theorem q164 : (Jvm.Cond.soleField "RosehipCircuits$Circuit" "outputs") ∈ lw_all := lw_g (lw_at lw_m1 86 rfl) rfl
theorem q165 : (Jvm.Cond.lays "RosehipCircuits$Circuit" "RosehipCircuits$Circuit" "boxes" "I") ∈ lw_all := lw_g (lw_at lw_m1 87 rfl) rfl
theorem q166 : (Jvm.Cond.soleField "RosehipCircuits$Circuit" "boxes") ∈ lw_all := lw_g (lw_at lw_m1 88 rfl) rfl
theorem q167 : (Jvm.Cond.lays "RosehipCircuits$Circuit" "RosehipCircuits$Circuit" "secret" "I") ∈ lw_all := lw_g (lw_at lw_m1 89 rfl) rfl
theorem q168 : (Jvm.Cond.soleField "RosehipCircuits$Circuit" "secret") ∈ lw_all := lw_g (lw_at lw_m1 90 rfl) rfl
theorem q169 : (Jvm.Cond.lays "RosehipCircuits$Circuit" "RosehipCircuits$Circuit" "isSuspecting" "Z") ∈ lw_all := lw_g (lw_at lw_m1 91 rfl) rfl
theorem q170 : (Jvm.Cond.soleField "RosehipCircuits$Circuit" "isSuspecting") ∈ lw_all := lw_g (lw_at lw_m1 92 rfl) rfl
theorem q171 : (Jvm.Cond.lays "RosehipCircuits$Circuit" "RosehipCircuits$Circuit" "chosen" "J") ∈ lw_all := lw_g (lw_at lw_m1 93 rfl) rfl
theorem q172 : (Jvm.Cond.soleField "RosehipCircuits$Circuit" "chosen") ∈ lw_all := lw_g (lw_at lw_m1 94 rfl) rfl
theorem q173 : (Jvm.Cond.lays "RosehipCircuits$Circuit" "RosehipCircuits$Circuit" "asked" "I") ∈ lw_all := lw_g (lw_at lw_m1 95 rfl) rfl
theorem q174 : (Jvm.Cond.soleField "RosehipCircuits$Circuit" "asked") ∈ lw_all := lw_g (lw_at lw_m1 96 rfl) rfl
theorem q175 : (Jvm.Cond.superclass "RosehipCircuits$Circuit" "java/lang/Object") ∈ lw_all := lw_g (lw_at lw_m1 97 rfl) rfl
theorem q392 : (Jvm.Cond.selects "RosehipCircuits$Circuit" ({ cls := "java/lang/Object", name := "getClass", desc := "()Ljava/lang/Class;" } : Jvm.MethodName) ({ cls := "java/lang/Object", name := "getClass", desc := "()Ljava/lang/Class;" } : Jvm.MethodName)) ∈ lw_all := lw_g (lw_at lw_m2 74 rfl) rfl
theorem q421 : (Jvm.Cond.instanceMethod ({ cls := "RosehipCircuits$Circuit", name := "<init>", desc := "(LRosehipCircuits$Circuit;)V" } : Jvm.MethodName)) ∈ lw_all := lw_g (lw_at lw_m2 103 rfl) rfl
theorem q422 : (Jvm.Cond.code ({ cls := "RosehipCircuits$Circuit", name := "<init>", desc := "(LRosehipCircuits$Circuit;)V" } : Jvm.MethodName) prog_3_method_3_code (3 : Nat) (Option.none : Option Jvm.ClassFile.FieldType)) ∈ lw_all := lw_g (lw_at lw_m2 104 rfl) rfl
theorem q424 : (Jvm.Cond.instanceMethod ({ cls := "RosehipCircuits$Circuit", name := "turnSuspicion", desc := "()Z" } : Jvm.MethodName)) ∈ lw_all := lw_g (lw_at lw_m2 106 rfl) rfl
theorem q425 : (Jvm.Cond.selects "RosehipCircuits$Circuit" ({ cls := "RosehipCircuits$Circuit", name := "turnSuspicion", desc := "()Z" } : Jvm.MethodName) ({ cls := "RosehipCircuits$Circuit", name := "turnSuspicion", desc := "()Z" } : Jvm.MethodName)) ∈ lw_all := lw_g (lw_at lw_m2 107 rfl) rfl
theorem q426 : (Jvm.Cond.code ({ cls := "RosehipCircuits$Circuit", name := "turnSuspicion", desc := "()Z" } : Jvm.MethodName) prog_3_method_16_code (1 : Nat) (Option.some Jvm.ClassFile.FieldType.boolean)) ∈ lw_all := lw_g (lw_at lw_m2 108 rfl) rfl
theorem q440 : (Jvm.Cond.instanceMethod ({ cls := "RosehipCircuits$Circuit", name := "faults", desc := "()I" } : Jvm.MethodName)) ∈ lw_all := lw_g (lw_at lw_m2 122 rfl) rfl
theorem q441 : (Jvm.Cond.selects "RosehipCircuits$Circuit" ({ cls := "RosehipCircuits$Circuit", name := "faults", desc := "()I" } : Jvm.MethodName) ({ cls := "RosehipCircuits$Circuit", name := "faults", desc := "()I" } : Jvm.MethodName)) ∈ lw_all := lw_g (lw_at lw_m2 123 rfl) rfl
theorem q442 : (Jvm.Cond.code ({ cls := "RosehipCircuits$Circuit", name := "faults", desc := "()I" } : Jvm.MethodName) prog_3_method_5_code (1 : Nat) (Option.some Jvm.ClassFile.FieldType.int)) ∈ lw_all := lw_g (lw_at lw_m2 124 rfl) rfl
theorem q443 : (Jvm.Cond.methodLink "RosehipCircuits$Circuit" (51 : Nat) ({ cls := "RosehipCircuits$Circuit", name := "lines", desc := "()I" } : Jvm.MethodName)) ∈ lw_all := lw_g (lw_at lw_m2 125 rfl) rfl
theorem q444 : (Jvm.Cond.instanceMethod ({ cls := "RosehipCircuits$Circuit", name := "lines", desc := "()I" } : Jvm.MethodName)) ∈ lw_all := lw_g (lw_at lw_m2 126 rfl) rfl
theorem q445 : (Jvm.Cond.selects "RosehipCircuits$Circuit" ({ cls := "RosehipCircuits$Circuit", name := "lines", desc := "()I" } : Jvm.MethodName) ({ cls := "RosehipCircuits$Circuit", name := "lines", desc := "()I" } : Jvm.MethodName)) ∈ lw_all := lw_g (lw_at lw_m2 127 rfl) rfl
theorem q446 : (Jvm.Cond.code ({ cls := "RosehipCircuits$Circuit", name := "lines", desc := "()I" } : Jvm.MethodName) prog_3_method_4_code (1 : Nat) (Option.some Jvm.ClassFile.FieldType.int)) ∈ lw_all := lw_g (lw_at lw_m2 128 rfl) rfl
theorem q1010 : (Jvm.Cond.instanceMethod ({ cls := "RosehipCircuits$Circuit", name := "looksAt", desc := "(II)Z" } : Jvm.MethodName)) ∈ lw_all := lw_g (lw_at lw_m4 212 rfl) rfl
theorem q1011 : (Jvm.Cond.selects "RosehipCircuits$Circuit" ({ cls := "RosehipCircuits$Circuit", name := "looksAt", desc := "(II)Z" } : Jvm.MethodName) ({ cls := "RosehipCircuits$Circuit", name := "looksAt", desc := "(II)Z" } : Jvm.MethodName)) ∈ lw_all := lw_g (lw_at lw_m4 213 rfl) rfl
theorem q1012 : (Jvm.Cond.code ({ cls := "RosehipCircuits$Circuit", name := "looksAt", desc := "(II)Z" } : Jvm.MethodName) prog_3_method_9_code (3 : Nat) (Option.some Jvm.ClassFile.FieldType.boolean)) ∈ lw_all := lw_g (lw_at lw_m4 214 rfl) rfl
theorem q1170 : (Jvm.Cond.instanceMethod ({ cls := "RosehipCircuits$Circuit", name := "addGate", desc := "(III)I" } : Jvm.MethodName)) ∈ lw_all := lw_g (lw_at lw_m5 132 rfl) rfl
theorem q1171 : (Jvm.Cond.selects "RosehipCircuits$Circuit" ({ cls := "RosehipCircuits$Circuit", name := "addGate", desc := "(III)I" } : Jvm.MethodName) ({ cls := "RosehipCircuits$Circuit", name := "addGate", desc := "(III)I" } : Jvm.MethodName)) ∈ lw_all := lw_g (lw_at lw_m5 133 rfl) rfl
theorem q1172 : (Jvm.Cond.code ({ cls := "RosehipCircuits$Circuit", name := "addGate", desc := "(III)I" } : Jvm.MethodName) prog_3_method_10_code (4 : Nat) (Option.some Jvm.ClassFile.FieldType.int)) ∈ lw_all := lw_g (lw_at lw_m5 134 rfl) rfl
theorem q1173 : (Jvm.Cond.methodLink "RosehipCircuits$Circuit" (62 : Nat) ({ cls := "RosehipCircuits$Circuit", name := "isLine", desc := "(I)Z" } : Jvm.MethodName)) ∈ lw_all := lw_g (lw_at lw_m5 135 rfl) rfl
theorem q1174 : (Jvm.Cond.instanceMethod ({ cls := "RosehipCircuits$Circuit", name := "isLine", desc := "(I)Z" } : Jvm.MethodName)) ∈ lw_all := lw_g (lw_at lw_m5 136 rfl) rfl
theorem q1175 : (Jvm.Cond.selects "RosehipCircuits$Circuit" ({ cls := "RosehipCircuits$Circuit", name := "isLine", desc := "(I)Z" } : Jvm.MethodName) ({ cls := "RosehipCircuits$Circuit", name := "isLine", desc := "(I)Z" } : Jvm.MethodName)) ∈ lw_all := lw_g (lw_at lw_m5 137 rfl) rfl
theorem q1176 : (Jvm.Cond.code ({ cls := "RosehipCircuits$Circuit", name := "isLine", desc := "(I)Z" } : Jvm.MethodName) prog_3_method_7_code (2 : Nat) (Option.some Jvm.ClassFile.FieldType.boolean)) ∈ lw_all := lw_g (lw_at lw_m5 138 rfl) rfl
theorem q1177 : (Jvm.Cond.methodLinkNest "RosehipCircuits$Circuit" (58 : Nat) ({ cls := "RosehipCircuits", name := "isWithin", desc := "(III)Z" } : Jvm.MethodName) "RosehipCircuits") ∈ lw_tbl := lw_at lw_m5 139 rfl
theorem q1178 : (Jvm.Cond.methodLinkNest "RosehipCircuits$Circuit" (66 : Nat) ({ cls := "RosehipCircuits", name := "needThere", desc := "(Z)V" } : Jvm.MethodName) "RosehipCircuits") ∈ lw_tbl := lw_at lw_m5 140 rfl
theorem q1194 : (Jvm.Cond.methodLinkNest "RosehipCircuits$Circuit" (70 : Nat) ({ cls := "RosehipCircuits", name := "needArgument", desc := "(Z)V" } : Jvm.MethodName) "RosehipCircuits") ∈ lw_tbl := lw_at lw_m5 156 rfl
theorem q1195 : (Jvm.Cond.methodLinkNest "RosehipCircuits$Circuit" (73 : Nat) ({ cls := "RosehipCircuits", name := "needState", desc := "(Z)V" } : Jvm.MethodName) "RosehipCircuits") ∈ lw_tbl := lw_at lw_m5 157 rfl
theorem q1201 : (Jvm.Cond.methodLink "RosehipCircuits$Circuit" (76 : Nat) ({ cls := "RosehipCircuits$Circuit", name := "changed", desc := "()V" } : Jvm.MethodName)) ∈ lw_all := lw_g (lw_at lw_m5 163 rfl) rfl
theorem q1202 : (Jvm.Cond.privateMethod ({ cls := "RosehipCircuits$Circuit", name := "changed", desc := "()V" } : Jvm.MethodName)) ∈ lw_tbl := lw_at lw_m5 164 rfl
theorem q1203 : (Jvm.Cond.instanceMethod ({ cls := "RosehipCircuits$Circuit", name := "changed", desc := "()V" } : Jvm.MethodName)) ∈ lw_all := lw_g (lw_at lw_m5 165 rfl) rfl
theorem q1204 : (Jvm.Cond.code ({ cls := "RosehipCircuits$Circuit", name := "changed", desc := "()V" } : Jvm.MethodName) prog_3_method_6_code (1 : Nat) (Option.none : Option Jvm.ClassFile.FieldType)) ∈ lw_all := lw_g (lw_at lw_m5 166 rfl) rfl
theorem q1205 : (Jvm.Cond.methodLink "RosehipCircuits$Circuit" (55 : Nat) ({ cls := "RosehipCircuits$Circuit", name := "faults", desc := "()I" } : Jvm.MethodName)) ∈ lw_all := lw_g (lw_at lw_m5 167 rfl) rfl
theorem q1224 : (Jvm.Cond.instanceMethod ({ cls := "RosehipCircuits$Circuit", name := "dropGate", desc := "()I" } : Jvm.MethodName)) ∈ lw_all := lw_g (lw_at lw_m5 186 rfl) rfl
theorem q1225 : (Jvm.Cond.selects "RosehipCircuits$Circuit" ({ cls := "RosehipCircuits$Circuit", name := "dropGate", desc := "()I" } : Jvm.MethodName) ({ cls := "RosehipCircuits$Circuit", name := "dropGate", desc := "()I" } : Jvm.MethodName)) ∈ lw_all := lw_g (lw_at lw_m5 187 rfl) rfl
theorem q1226 : (Jvm.Cond.code ({ cls := "RosehipCircuits$Circuit", name := "dropGate", desc := "()I" } : Jvm.MethodName) prog_3_method_11_code (1 : Nat) (Option.some Jvm.ClassFile.FieldType.int)) ∈ lw_all := lw_g (lw_at lw_m5 188 rfl) rfl
theorem q1237 : (Jvm.Cond.instanceMethod ({ cls := "RosehipCircuits$Circuit", name := "setKind", desc := "(II)I" } : Jvm.MethodName)) ∈ lw_all := lw_g (lw_at lw_m5 199 rfl) rfl
theorem q1238 : (Jvm.Cond.selects "RosehipCircuits$Circuit" ({ cls := "RosehipCircuits$Circuit", name := "setKind", desc := "(II)I" } : Jvm.MethodName) ({ cls := "RosehipCircuits$Circuit", name := "setKind", desc := "(II)I" } : Jvm.MethodName)) ∈ lw_all := lw_g (lw_at lw_m5 200 rfl) rfl
theorem q1239 : (Jvm.Cond.code ({ cls := "RosehipCircuits$Circuit", name := "setKind", desc := "(II)I" } : Jvm.MethodName) prog_3_method_12_code (4 : Nat) (Option.some Jvm.ClassFile.FieldType.int)) ∈ lw_all := lw_g (lw_at lw_m5 201 rfl) rfl
theorem q1240 : (Jvm.Cond.methodLink "RosehipCircuits$Circuit" (79 : Nat) ({ cls := "RosehipCircuits$Circuit", name := "isGate", desc := "(I)Z" } : Jvm.MethodName)) ∈ lw_all := lw_g (lw_at lw_m5 202 rfl) rfl
theorem q1241 : (Jvm.Cond.instanceMethod ({ cls := "RosehipCircuits$Circuit", name := "isGate", desc := "(I)Z" } : Jvm.MethodName)) ∈ lw_all := lw_g (lw_at lw_m5 203 rfl) rfl
theorem q1242 : (Jvm.Cond.selects "RosehipCircuits$Circuit" ({ cls := "RosehipCircuits$Circuit", name := "isGate", desc := "(I)Z" } : Jvm.MethodName) ({ cls := "RosehipCircuits$Circuit", name := "isGate", desc := "(I)Z" } : Jvm.MethodName)) ∈ lw_all := lw_g (lw_at lw_m5 204 rfl) rfl
theorem q1243 : (Jvm.Cond.code ({ cls := "RosehipCircuits$Circuit", name := "isGate", desc := "(I)Z" } : Jvm.MethodName) prog_3_method_8_code (2 : Nat) (Option.some Jvm.ClassFile.FieldType.boolean)) ∈ lw_all := lw_g (lw_at lw_m5 205 rfl) rfl
theorem q1244 : (Jvm.Cond.methodLinkNest "RosehipCircuits$Circuit" (82 : Nat) ({ cls := "RosehipCircuits", name := "isIn", desc := "(II)Z" } : Jvm.MethodName) "RosehipCircuits") ∈ lw_tbl := lw_at lw_m5 206 rfl
theorem q1255 : (Jvm.Cond.instanceMethod ({ cls := "RosehipCircuits$Circuit", name := "setSource", desc := "(III)I" } : Jvm.MethodName)) ∈ lw_all := lw_g (lw_at lw_m5 217 rfl) rfl
theorem q1256 : (Jvm.Cond.selects "RosehipCircuits$Circuit" ({ cls := "RosehipCircuits$Circuit", name := "setSource", desc := "(III)I" } : Jvm.MethodName) ({ cls := "RosehipCircuits$Circuit", name := "setSource", desc := "(III)I" } : Jvm.MethodName)) ∈ lw_all := lw_g (lw_at lw_m5 218 rfl) rfl
theorem q1257 : (Jvm.Cond.code ({ cls := "RosehipCircuits$Circuit", name := "setSource", desc := "(III)I" } : Jvm.MethodName) prog_3_method_13_code (6 : Nat) (Option.some Jvm.ClassFile.FieldType.int)) ∈ lw_all := lw_g (lw_at lw_m5 219 rfl) rfl
theorem q1268 : (Jvm.Cond.instanceMethod ({ cls := "RosehipCircuits$Circuit", name := "turnOutput", desc := "(I)I" } : Jvm.MethodName)) ∈ lw_all := lw_g (lw_at lw_m5 230 rfl) rfl
theorem q1269 : (Jvm.Cond.selects "RosehipCircuits$Circuit" ({ cls := "RosehipCircuits$Circuit", name := "turnOutput", desc := "(I)I" } : Jvm.MethodName) ({ cls := "RosehipCircuits$Circuit", name := "turnOutput", desc := "(I)I" } : Jvm.MethodName)) ∈ lw_all := lw_g (lw_at lw_m5 231 rfl) rfl
theorem q1270 : (Jvm.Cond.code ({ cls := "RosehipCircuits$Circuit", name := "turnOutput", desc := "(I)I" } : Jvm.MethodName) prog_3_method_14_code (2 : Nat) (Option.some Jvm.ClassFile.FieldType.int)) ∈ lw_all := lw_g (lw_at lw_m5 232 rfl) rfl
theorem q1271 : (Jvm.Cond.methodLink "RosehipCircuits$Circuit" (86 : Nat) ({ cls := "java/lang/Integer", name := "bitCount", desc := "(I)I" } : Jvm.MethodName)) ∈ lw_all := lw_g (lw_at lw_m5 233 rfl) rfl
theorem q1282 : (Jvm.Cond.instanceMethod ({ cls := "RosehipCircuits$Circuit", name := "turnBox", desc := "(I)I" } : Jvm.MethodName)) ∈ lw_all := lw_g (lw_at lw_m6 4 rfl) rfl
theorem q1283 : (Jvm.Cond.selects "RosehipCircuits$Circuit" ({ cls := "RosehipCircuits$Circuit", name := "turnBox", desc := "(I)I" } : Jvm.MethodName) ({ cls := "RosehipCircuits$Circuit", name := "turnBox", desc := "(I)I" } : Jvm.MethodName)) ∈ lw_all := lw_g (lw_at lw_m6 5 rfl) rfl
theorem q1284 : (Jvm.Cond.code ({ cls := "RosehipCircuits$Circuit", name := "turnBox", desc := "(I)I" } : Jvm.MethodName) prog_3_method_15_code (2 : Nat) (Option.some Jvm.ClassFile.FieldType.int)) ∈ lw_all := lw_g (lw_at lw_m6 6 rfl) rfl
theorem q2060 : (Jvm.Cond.castable "RosehipCircuits$Circuit" "java/lang/Object") ∈ lw_tbl := lw_at lw_m9 62 rfl
theorem in_X2 : ∀ w ∈ wsX20, w ∈ lw_all := lw_in wsX20 [153, 155, 157, 159, 161, 163, 165, 167, 169, 171, 173] (by decide +kernel) (by decide +kernel)
/-! RosehipCircuits$Reader -/
set_option maxRecDepth 100000
def RX4 : String := "RosehipCircuits$Reader"
def TX4 : u_T := fun k => match k with
  | 0 => ("RosehipCircuits$Reader", "at", "I", false)
  | 1 => ("RosehipCircuits$Reader", "fault", "I", false)
  | _ => ("RosehipCircuits$Reader", "this$0", "LRosehipCircuits;", true)
def tyX4 : Nat → FieldType := fun k => match k with
  | 0 => .int
  | 1 => .int
  | _ => .object "RosehipCircuits"
abbrev wsX40 : List Cond := u_ws RX4 TX4 3
theorem nmX4 : ∀ a, a < 3 → ∀ b, b < 3 → a ≠ b → (TX4 a).2.1 ≠ (TX4 b).2.1 := by decide +kernel
theorem tyX4_ok : ∀ k, k < 3 → parseFieldDescriptor (TX4 k).2.2.1 = some (tyX4 k) := by decide +kernel
abbrev cX4_init : ByteArray := prog_6_method_1_code
def yX4_init : MethodName := ⟨RX4, "<init>", "(LRosehipCircuits;)V"⟩
def dkwX4_init_0 : List UInt8 := [42, 43, 181, 0, 3, 42, 183, 0, 9, 42, 2, 181, 0, 15, 177]
abbrev dktX4_init_0 : List UInt8 := dkwX4_init_0 ++ []
theorem dksX4_init_0 : cX4_init.data.toList.drop 0 = dktX4_init_0 := by decide +kernel
theorem dX4_init_0 : decode cX4_init 0 = .ok (.aload_n 0, 1) := dk_42 (dk_at dksX4_init_0 0 rfl rfl)
theorem dX4_init_1 : decode cX4_init 1 = .ok (.aload_n 1, 1) := dk_43 (dk_at dksX4_init_0 1 rfl rfl)
theorem dX4_init_2 : decode cX4_init 2 = .ok (.putfield 3, 3) := dk_181 0 3 (dk_at dksX4_init_0 2 rfl rfl)
theorem dX4_init_5 : decode cX4_init 5 = .ok (.aload_n 0, 1) := dk_42 (dk_at dksX4_init_0 5 rfl rfl)
theorem dX4_init_6 : decode cX4_init 6 = .ok (.invokespecial 9, 3) := dk_183 0 9 (dk_at dksX4_init_0 6 rfl rfl)
theorem dX4_init_9 : decode cX4_init 9 = .ok (.aload_n 0, 1) := dk_42 (dk_at dksX4_init_0 9 rfl rfl)
theorem dX4_init_10 : decode cX4_init 10 = .ok (.iconst (-1), 1) := dk_2 (dk_at dksX4_init_0 10 rfl rfl)
theorem dX4_init_11 : decode cX4_init 11 = .ok (.putfield 15, 3) := dk_181 0 15 (dk_at dksX4_init_0 11 rfl rfl)
theorem dX4_init_14 : decode cX4_init 14 = .ok (.return_, 1) := dk_177 (dk_at dksX4_init_0 14 rfl rfl)
abbrev cX4_orders : ByteArray := prog_6_method_5_code
def yX4_orders : MethodName := ⟨RX4, "orders", "()Ljava/util/List;"⟩
def dkwX4_orders_4 : List UInt8 := [180, 0, 19, 181, 0, 15, 45, 191, 43, 176]
abbrev dktX4_orders_4 : List UInt8 := dkwX4_orders_4 ++ []
def dkwX4_orders_3 : List UInt8 := [167, 0, 7, 42, 180, 0, 19, 181, 0, 15, 167, 0, 22, 78, 42, 28, 153, 0, 7, 2, 167, 0, 7, 42]
abbrev dktX4_orders_3 : List UInt8 := dkwX4_orders_3 ++ dktX4_orders_4
def dkwX4_orders_2 : List UInt8 := [87, 43, 42, 182, 0, 68, 185, 0, 72, 2, 0, 87, 167, 255, 219, 4, 61, 42, 28, 153, 0, 7, 2]
abbrev dktX4_orders_2 : List UInt8 := dkwX4_orders_2 ++ dktX4_orders_3
def dkwX4_orders_1 : List UInt8 := [180, 0, 19, 42, 180, 0, 3, 180, 0, 22, 182, 0, 26, 162, 0, 26, 42, 16, 44, 16, 44, 182, 0, 43]
abbrev dktX4_orders_1 : List UInt8 := dkwX4_orders_1 ++ dktX4_orders_2
def dkwX4_orders_0 : List UInt8 := [187, 0, 65, 89, 183, 0, 67, 76, 3, 61, 43, 42, 182, 0, 68, 185, 0, 72, 2, 0, 87, 42]
abbrev dktX4_orders_0 : List UInt8 := dkwX4_orders_0 ++ dktX4_orders_1
theorem dksX4_orders_0 : cX4_orders.data.toList.drop 0 = dktX4_orders_0 := by decide +kernel
theorem dksX4_orders_1 : cX4_orders.data.toList.drop 22 = dktX4_orders_1 := dk_seg dksX4_orders_0 22 rfl rfl
theorem dksX4_orders_2 : cX4_orders.data.toList.drop 46 = dktX4_orders_2 := dk_seg dksX4_orders_1 24 rfl rfl
theorem dksX4_orders_3 : cX4_orders.data.toList.drop 69 = dktX4_orders_3 := dk_seg dksX4_orders_2 23 rfl rfl
theorem dksX4_orders_4 : cX4_orders.data.toList.drop 93 = dktX4_orders_4 := dk_seg dksX4_orders_3 24 rfl rfl
theorem dX4_orders_0 : decode cX4_orders 0 = .ok (.new 65, 3) := dk_187 0 65 (dk_at dksX4_orders_0 0 rfl rfl)
theorem dX4_orders_3 : decode cX4_orders 3 = .ok (.dup, 1) := dk_89 (dk_at dksX4_orders_0 3 rfl rfl)
theorem dX4_orders_4 : decode cX4_orders 4 = .ok (.invokespecial 67, 3) := dk_183 0 67 (dk_at dksX4_orders_0 4 rfl rfl)
theorem dX4_orders_7 : decode cX4_orders 7 = .ok (.astore_n 1, 1) := dk_76 (dk_at dksX4_orders_0 7 rfl rfl)
theorem dX4_orders_8 : decode cX4_orders 8 = .ok (.iconst 0, 1) := dk_3 (dk_at dksX4_orders_0 8 rfl rfl)
theorem dX4_orders_9 : decode cX4_orders 9 = .ok (.istore_n 2, 1) := dk_61 (dk_at dksX4_orders_0 9 rfl rfl)
theorem dX4_orders_10 : decode cX4_orders 10 = .ok (.aload_n 1, 1) := dk_43 (dk_at dksX4_orders_0 10 rfl rfl)
theorem dX4_orders_11 : decode cX4_orders 11 = .ok (.aload_n 0, 1) := dk_42 (dk_at dksX4_orders_0 11 rfl rfl)
theorem dX4_orders_12 : decode cX4_orders 12 = .ok (.invokevirtual 68, 3) := dk_182 0 68 (dk_at dksX4_orders_0 12 rfl rfl)
theorem dX4_orders_15 : decode cX4_orders 15 = .ok (.invokeinterface 72 2, 5) := by decide +kernel
theorem dX4_orders_20 : decode cX4_orders 20 = .ok (.pop, 1) := dk_87 (dk_at dksX4_orders_0 20 rfl rfl)
theorem dX4_orders_21 : decode cX4_orders 21 = .ok (.aload_n 0, 1) := dk_42 (dk_at dksX4_orders_0 21 rfl rfl)
theorem dX4_orders_22 : decode cX4_orders 22 = .ok (.getfield 19, 3) := dk_180 0 19 (dk_at dksX4_orders_1 0 rfl rfl)
theorem dX4_orders_25 : decode cX4_orders 25 = .ok (.aload_n 0, 1) := dk_42 (dk_at dksX4_orders_1 3 rfl rfl)
theorem dX4_orders_26 : decode cX4_orders 26 = .ok (.getfield 3, 3) := dk_180 0 3 (dk_at dksX4_orders_1 4 rfl rfl)
theorem dX4_orders_29 : decode cX4_orders 29 = .ok (.getfield 22, 3) := dk_180 0 22 (dk_at dksX4_orders_1 7 rfl rfl)
theorem dX4_orders_32 : decode cX4_orders 32 = .ok (.invokevirtual 26, 3) := dk_182 0 26 (dk_at dksX4_orders_1 10 rfl rfl)
theorem dX4_orders_35 : decode cX4_orders 35 = .ok (.if_icmp .ge 26, 3) := dk_162 0 26 (dk_at dksX4_orders_1 13 rfl rfl)
theorem dX4_orders_38 : decode cX4_orders 38 = .ok (.aload_n 0, 1) := dk_42 (dk_at dksX4_orders_1 16 rfl rfl)
theorem dX4_orders_39 : decode cX4_orders 39 = .ok (.bipush 44, 2) := dk_16 44 (dk_at dksX4_orders_1 17 rfl rfl)
theorem dX4_orders_41 : decode cX4_orders 41 = .ok (.bipush 44, 2) := dk_16 44 (dk_at dksX4_orders_1 19 rfl rfl)
theorem dX4_orders_43 : decode cX4_orders 43 = .ok (.invokevirtual 43, 3) := dk_182 0 43 (dk_at dksX4_orders_1 21 rfl rfl)
theorem dX4_orders_46 : decode cX4_orders 46 = .ok (.pop, 1) := dk_87 (dk_at dksX4_orders_2 0 rfl rfl)
theorem dX4_orders_47 : decode cX4_orders 47 = .ok (.aload_n 1, 1) := dk_43 (dk_at dksX4_orders_2 1 rfl rfl)
theorem dX4_orders_48 : decode cX4_orders 48 = .ok (.aload_n 0, 1) := dk_42 (dk_at dksX4_orders_2 2 rfl rfl)
theorem dX4_orders_49 : decode cX4_orders 49 = .ok (.invokevirtual 68, 3) := dk_182 0 68 (dk_at dksX4_orders_2 3 rfl rfl)
theorem dX4_orders_52 : decode cX4_orders 52 = .ok (.invokeinterface 72 2, 5) := by decide +kernel
theorem dX4_orders_57 : decode cX4_orders 57 = .ok (.pop, 1) := dk_87 (dk_at dksX4_orders_2 11 rfl rfl)
theorem dX4_orders_58 : decode cX4_orders 58 = .ok (.goto (-37), 3) := dk_167 255 219 (dk_at dksX4_orders_2 12 rfl rfl)
theorem dX4_orders_61 : decode cX4_orders 61 = .ok (.iconst 1, 1) := dk_4 (dk_at dksX4_orders_2 15 rfl rfl)
theorem dX4_orders_62 : decode cX4_orders 62 = .ok (.istore_n 2, 1) := dk_61 (dk_at dksX4_orders_2 16 rfl rfl)
theorem dX4_orders_63 : decode cX4_orders 63 = .ok (.aload_n 0, 1) := dk_42 (dk_at dksX4_orders_2 17 rfl rfl)
theorem dX4_orders_64 : decode cX4_orders 64 = .ok (.iload_n 2, 1) := dk_28 (dk_at dksX4_orders_2 18 rfl rfl)
theorem dX4_orders_65 : decode cX4_orders 65 = .ok (.ifCond .eq 7, 3) := dk_153 0 7 (dk_at dksX4_orders_2 19 rfl rfl)
theorem dX4_orders_68 : decode cX4_orders 68 = .ok (.iconst (-1), 1) := dk_2 (dk_at dksX4_orders_2 22 rfl rfl)
theorem dX4_orders_69 : decode cX4_orders 69 = .ok (.goto 7, 3) := dk_167 0 7 (dk_at dksX4_orders_3 0 rfl rfl)
theorem dX4_orders_72 : decode cX4_orders 72 = .ok (.aload_n 0, 1) := dk_42 (dk_at dksX4_orders_3 3 rfl rfl)
theorem dX4_orders_73 : decode cX4_orders 73 = .ok (.getfield 19, 3) := dk_180 0 19 (dk_at dksX4_orders_3 4 rfl rfl)
theorem dX4_orders_76 : decode cX4_orders 76 = .ok (.putfield 15, 3) := dk_181 0 15 (dk_at dksX4_orders_3 7 rfl rfl)
theorem dX4_orders_79 : decode cX4_orders 79 = .ok (.goto 22, 3) := dk_167 0 22 (dk_at dksX4_orders_3 10 rfl rfl)
theorem dX4_orders_82 : decode cX4_orders 82 = .ok (.astore_n 3, 1) := dk_78 (dk_at dksX4_orders_3 13 rfl rfl)
theorem dX4_orders_83 : decode cX4_orders 83 = .ok (.aload_n 0, 1) := dk_42 (dk_at dksX4_orders_3 14 rfl rfl)
theorem dX4_orders_84 : decode cX4_orders 84 = .ok (.iload_n 2, 1) := dk_28 (dk_at dksX4_orders_3 15 rfl rfl)
theorem dX4_orders_85 : decode cX4_orders 85 = .ok (.ifCond .eq 7, 3) := dk_153 0 7 (dk_at dksX4_orders_3 16 rfl rfl)
theorem dX4_orders_88 : decode cX4_orders 88 = .ok (.iconst (-1), 1) := dk_2 (dk_at dksX4_orders_3 19 rfl rfl)
theorem dX4_orders_89 : decode cX4_orders 89 = .ok (.goto 7, 3) := dk_167 0 7 (dk_at dksX4_orders_3 20 rfl rfl)
theorem dX4_orders_92 : decode cX4_orders 92 = .ok (.aload_n 0, 1) := dk_42 (dk_at dksX4_orders_3 23 rfl rfl)
theorem dX4_orders_93 : decode cX4_orders 93 = .ok (.getfield 19, 3) := dk_180 0 19 (dk_at dksX4_orders_4 0 rfl rfl)
theorem dX4_orders_96 : decode cX4_orders 96 = .ok (.putfield 15, 3) := dk_181 0 15 (dk_at dksX4_orders_4 3 rfl rfl)
theorem dX4_orders_99 : decode cX4_orders 99 = .ok (.aload_n 3, 1) := dk_45 (dk_at dksX4_orders_4 6 rfl rfl)
theorem dX4_orders_100 : decode cX4_orders 100 = .ok (.athrow, 1) := dk_191 (dk_at dksX4_orders_4 7 rfl rfl)
theorem dX4_orders_101 : decode cX4_orders 101 = .ok (.aload_n 1, 1) := dk_43 (dk_at dksX4_orders_4 8 rfl rfl)
theorem dX4_orders_102 : decode cX4_orders 102 = .ok (.areturn, 1) := dk_176 (dk_at dksX4_orders_4 9 rfl rfl)
abbrev cX4_order : ByteArray := prog_6_method_4_code
def yX4_order : MethodName := ⟨RX4, "order", "()LRosehipCircuits$Order;"⟩
def dkwX4_order_6 : List UInt8 := [3, 183, 0, 59, 176]
abbrev dktX4_order_6 : List UInt8 := dkwX4_order_6 ++ []
def dkwX4_order_5 : List UInt8 := [182, 0, 62, 167, 0, 21, 27, 16, 37, 160, 0, 7, 3, 167, 0, 11, 42, 16, 97, 16, 114, 182, 0, 43]
abbrev dktX4_order_5 : List UInt8 := dkwX4_order_5 ++ dktX4_order_6
def dkwX4_order_4 : List UInt8 := [16, 97, 16, 114, 182, 0, 43, 183, 0, 59, 176, 187, 0, 57, 89, 27, 27, 16, 63, 160, 0, 10, 42]
abbrev dktX4_order_4 : List UInt8 := dkwX4_order_4 ++ dktX4_order_5
def dkwX4_order_3 : List UInt8 := [181, 0, 19, 28, 155, 0, 30, 42, 16, 97, 16, 114, 182, 0, 43, 62, 187, 0, 57, 89, 27, 29, 42]
abbrev dktX4_order_3 : List UInt8 := dkwX4_order_3 ++ dktX4_order_4
def dkwX4_order_2 : List UInt8 := [18, 55, 27, 182, 0, 49, 156, 0, 11, 187, 0, 40, 89, 183, 0, 42, 191, 42, 89, 180, 0, 19, 4, 96]
abbrev dktX4_order_2 : List UInt8 := dkwX4_order_2 ++ dktX4_order_3
def dkwX4_order_1 : List UInt8 := [42, 180, 0, 19, 182, 0, 32, 167, 0, 5, 16, 32, 60, 18, 47, 27, 182, 0, 49, 61, 28, 156, 0, 20]
abbrev dktX4_order_1 : List UInt8 := dkwX4_order_1 ++ dktX4_order_2
def dkwX4_order_0 : List UInt8 := [42, 180, 0, 19, 42, 180, 0, 3, 180, 0, 22, 182, 0, 26, 162, 0, 20, 42, 180, 0, 3, 180, 0, 22]
abbrev dktX4_order_0 : List UInt8 := dkwX4_order_0 ++ dktX4_order_1
theorem dksX4_order_0 : cX4_order.data.toList.drop 0 = dktX4_order_0 := by decide +kernel
theorem dksX4_order_1 : cX4_order.data.toList.drop 24 = dktX4_order_1 := dk_seg dksX4_order_0 24 rfl rfl
theorem dksX4_order_2 : cX4_order.data.toList.drop 48 = dktX4_order_2 := dk_seg dksX4_order_1 24 rfl rfl
theorem dksX4_order_3 : cX4_order.data.toList.drop 72 = dktX4_order_3 := dk_seg dksX4_order_2 24 rfl rfl
theorem dksX4_order_4 : cX4_order.data.toList.drop 95 = dktX4_order_4 := dk_seg dksX4_order_3 23 rfl rfl
theorem dksX4_order_5 : cX4_order.data.toList.drop 118 = dktX4_order_5 := dk_seg dksX4_order_4 23 rfl rfl
theorem dksX4_order_6 : cX4_order.data.toList.drop 142 = dktX4_order_6 := dk_seg dksX4_order_5 24 rfl rfl
theorem dX4_order_0 : decode cX4_order 0 = .ok (.aload_n 0, 1) := dk_42 (dk_at dksX4_order_0 0 rfl rfl)
theorem dX4_order_1 : decode cX4_order 1 = .ok (.getfield 19, 3) := dk_180 0 19 (dk_at dksX4_order_0 1 rfl rfl)
theorem dX4_order_4 : decode cX4_order 4 = .ok (.aload_n 0, 1) := dk_42 (dk_at dksX4_order_0 4 rfl rfl)
theorem dX4_order_5 : decode cX4_order 5 = .ok (.getfield 3, 3) := dk_180 0 3 (dk_at dksX4_order_0 5 rfl rfl)
theorem dX4_order_8 : decode cX4_order 8 = .ok (.getfield 22, 3) := dk_180 0 22 (dk_at dksX4_order_0 8 rfl rfl)
theorem dX4_order_11 : decode cX4_order 11 = .ok (.invokevirtual 26, 3) := dk_182 0 26 (dk_at dksX4_order_0 11 rfl rfl)
theorem dX4_order_14 : decode cX4_order 14 = .ok (.if_icmp .ge 20, 3) := dk_162 0 20 (dk_at dksX4_order_0 14 rfl rfl)
theorem dX4_order_17 : decode cX4_order 17 = .ok (.aload_n 0, 1) := dk_42 (dk_at dksX4_order_0 17 rfl rfl)
theorem dX4_order_18 : decode cX4_order 18 = .ok (.getfield 3, 3) := dk_180 0 3 (dk_at dksX4_order_0 18 rfl rfl)
theorem dX4_order_21 : decode cX4_order 21 = .ok (.getfield 22, 3) := dk_180 0 22 (dk_at dksX4_order_0 21 rfl rfl)
theorem dX4_order_24 : decode cX4_order 24 = .ok (.aload_n 0, 1) := dk_42 (dk_at dksX4_order_1 0 rfl rfl)
theorem dX4_order_25 : decode cX4_order 25 = .ok (.getfield 19, 3) := dk_180 0 19 (dk_at dksX4_order_1 1 rfl rfl)
theorem dX4_order_28 : decode cX4_order 28 = .ok (.invokevirtual 32, 3) := dk_182 0 32 (dk_at dksX4_order_1 4 rfl rfl)
theorem dX4_order_31 : decode cX4_order 31 = .ok (.goto 5, 3) := dk_167 0 5 (dk_at dksX4_order_1 7 rfl rfl)
theorem dX4_order_34 : decode cX4_order 34 = .ok (.bipush 32, 2) := dk_16 32 (dk_at dksX4_order_1 10 rfl rfl)
theorem dX4_order_36 : decode cX4_order 36 = .ok (.istore_n 1, 1) := dk_60 (dk_at dksX4_order_1 12 rfl rfl)
theorem dX4_order_37 : decode cX4_order 37 = .ok (.ldc 47, 2) := dk_18 47 (dk_at dksX4_order_1 13 rfl rfl)
theorem dX4_order_39 : decode cX4_order 39 = .ok (.iload_n 1, 1) := dk_27 (dk_at dksX4_order_1 15 rfl rfl)
theorem dX4_order_40 : decode cX4_order 40 = .ok (.invokevirtual 49, 3) := dk_182 0 49 (dk_at dksX4_order_1 16 rfl rfl)
theorem dX4_order_43 : decode cX4_order 43 = .ok (.istore_n 2, 1) := dk_61 (dk_at dksX4_order_1 19 rfl rfl)
theorem dX4_order_44 : decode cX4_order 44 = .ok (.iload_n 2, 1) := dk_28 (dk_at dksX4_order_1 20 rfl rfl)
theorem dX4_order_45 : decode cX4_order 45 = .ok (.ifCond .ge 20, 3) := dk_156 0 20 (dk_at dksX4_order_1 21 rfl rfl)
theorem dX4_order_48 : decode cX4_order 48 = .ok (.ldc 55, 2) := dk_18 55 (dk_at dksX4_order_2 0 rfl rfl)
theorem dX4_order_50 : decode cX4_order 50 = .ok (.iload_n 1, 1) := dk_27 (dk_at dksX4_order_2 2 rfl rfl)
theorem dX4_order_51 : decode cX4_order 51 = .ok (.invokevirtual 49, 3) := dk_182 0 49 (dk_at dksX4_order_2 3 rfl rfl)
theorem dX4_order_54 : decode cX4_order 54 = .ok (.ifCond .ge 11, 3) := dk_156 0 11 (dk_at dksX4_order_2 6 rfl rfl)
theorem dX4_order_57 : decode cX4_order 57 = .ok (.new 40, 3) := dk_187 0 40 (dk_at dksX4_order_2 9 rfl rfl)
theorem dX4_order_60 : decode cX4_order 60 = .ok (.dup, 1) := dk_89 (dk_at dksX4_order_2 12 rfl rfl)
theorem dX4_order_61 : decode cX4_order 61 = .ok (.invokespecial 42, 3) := dk_183 0 42 (dk_at dksX4_order_2 13 rfl rfl)
theorem dX4_order_64 : decode cX4_order 64 = .ok (.athrow, 1) := dk_191 (dk_at dksX4_order_2 16 rfl rfl)
theorem dX4_order_65 : decode cX4_order 65 = .ok (.aload_n 0, 1) := dk_42 (dk_at dksX4_order_2 17 rfl rfl)
theorem dX4_order_66 : decode cX4_order 66 = .ok (.dup, 1) := dk_89 (dk_at dksX4_order_2 18 rfl rfl)
theorem dX4_order_67 : decode cX4_order 67 = .ok (.getfield 19, 3) := dk_180 0 19 (dk_at dksX4_order_2 19 rfl rfl)
theorem dX4_order_70 : decode cX4_order 70 = .ok (.iconst 1, 1) := dk_4 (dk_at dksX4_order_2 22 rfl rfl)
theorem dX4_order_71 : decode cX4_order 71 = .ok (.iadd, 1) := dk_96 (dk_at dksX4_order_2 23 rfl rfl)
theorem dX4_order_72 : decode cX4_order 72 = .ok (.putfield 19, 3) := dk_181 0 19 (dk_at dksX4_order_3 0 rfl rfl)
theorem dX4_order_75 : decode cX4_order 75 = .ok (.iload_n 2, 1) := dk_28 (dk_at dksX4_order_3 3 rfl rfl)
theorem dX4_order_76 : decode cX4_order 76 = .ok (.ifCond .lt 30, 3) := dk_155 0 30 (dk_at dksX4_order_3 4 rfl rfl)
theorem dX4_order_79 : decode cX4_order 79 = .ok (.aload_n 0, 1) := dk_42 (dk_at dksX4_order_3 7 rfl rfl)
theorem dX4_order_80 : decode cX4_order 80 = .ok (.bipush 97, 2) := dk_16 97 (dk_at dksX4_order_3 8 rfl rfl)
theorem dX4_order_82 : decode cX4_order 82 = .ok (.bipush 114, 2) := dk_16 114 (dk_at dksX4_order_3 10 rfl rfl)
theorem dX4_order_84 : decode cX4_order 84 = .ok (.invokevirtual 43, 3) := dk_182 0 43 (dk_at dksX4_order_3 12 rfl rfl)
theorem dX4_order_87 : decode cX4_order 87 = .ok (.istore_n 3, 1) := dk_62 (dk_at dksX4_order_3 15 rfl rfl)
theorem dX4_order_88 : decode cX4_order 88 = .ok (.new 57, 3) := dk_187 0 57 (dk_at dksX4_order_3 16 rfl rfl)
theorem dX4_order_91 : decode cX4_order 91 = .ok (.dup, 1) := dk_89 (dk_at dksX4_order_3 19 rfl rfl)
theorem dX4_order_92 : decode cX4_order 92 = .ok (.iload_n 1, 1) := dk_27 (dk_at dksX4_order_3 20 rfl rfl)
theorem dX4_order_93 : decode cX4_order 93 = .ok (.iload_n 3, 1) := dk_29 (dk_at dksX4_order_3 21 rfl rfl)
theorem dX4_order_94 : decode cX4_order 94 = .ok (.aload_n 0, 1) := dk_42 (dk_at dksX4_order_3 22 rfl rfl)
theorem dX4_order_95 : decode cX4_order 95 = .ok (.bipush 97, 2) := dk_16 97 (dk_at dksX4_order_4 0 rfl rfl)
theorem dX4_order_97 : decode cX4_order 97 = .ok (.bipush 114, 2) := dk_16 114 (dk_at dksX4_order_4 2 rfl rfl)
theorem dX4_order_99 : decode cX4_order 99 = .ok (.invokevirtual 43, 3) := dk_182 0 43 (dk_at dksX4_order_4 4 rfl rfl)
theorem dX4_order_102 : decode cX4_order 102 = .ok (.invokespecial 59, 3) := dk_183 0 59 (dk_at dksX4_order_4 7 rfl rfl)
theorem dX4_order_105 : decode cX4_order 105 = .ok (.areturn, 1) := dk_176 (dk_at dksX4_order_4 10 rfl rfl)
theorem dX4_order_106 : decode cX4_order 106 = .ok (.new 57, 3) := dk_187 0 57 (dk_at dksX4_order_4 11 rfl rfl)
theorem dX4_order_109 : decode cX4_order 109 = .ok (.dup, 1) := dk_89 (dk_at dksX4_order_4 14 rfl rfl)
theorem dX4_order_110 : decode cX4_order 110 = .ok (.iload_n 1, 1) := dk_27 (dk_at dksX4_order_4 15 rfl rfl)
theorem dX4_order_111 : decode cX4_order 111 = .ok (.iload_n 1, 1) := dk_27 (dk_at dksX4_order_4 16 rfl rfl)
theorem dX4_order_112 : decode cX4_order 112 = .ok (.bipush 63, 2) := dk_16 63 (dk_at dksX4_order_4 17 rfl rfl)
theorem dX4_order_114 : decode cX4_order 114 = .ok (.if_icmp .ne 10, 3) := dk_160 0 10 (dk_at dksX4_order_4 19 rfl rfl)
theorem dX4_order_117 : decode cX4_order 117 = .ok (.aload_n 0, 1) := dk_42 (dk_at dksX4_order_4 22 rfl rfl)
theorem dX4_order_118 : decode cX4_order 118 = .ok (.invokevirtual 62, 3) := dk_182 0 62 (dk_at dksX4_order_5 0 rfl rfl)
theorem dX4_order_121 : decode cX4_order 121 = .ok (.goto 21, 3) := dk_167 0 21 (dk_at dksX4_order_5 3 rfl rfl)
theorem dX4_order_124 : decode cX4_order 124 = .ok (.iload_n 1, 1) := dk_27 (dk_at dksX4_order_5 6 rfl rfl)
theorem dX4_order_125 : decode cX4_order 125 = .ok (.bipush 37, 2) := dk_16 37 (dk_at dksX4_order_5 7 rfl rfl)
theorem dX4_order_127 : decode cX4_order 127 = .ok (.if_icmp .ne 7, 3) := dk_160 0 7 (dk_at dksX4_order_5 9 rfl rfl)
theorem dX4_order_130 : decode cX4_order 130 = .ok (.iconst 0, 1) := dk_3 (dk_at dksX4_order_5 12 rfl rfl)
theorem dX4_order_131 : decode cX4_order 131 = .ok (.goto 11, 3) := dk_167 0 11 (dk_at dksX4_order_5 13 rfl rfl)
theorem dX4_order_134 : decode cX4_order 134 = .ok (.aload_n 0, 1) := dk_42 (dk_at dksX4_order_5 16 rfl rfl)
theorem dX4_order_135 : decode cX4_order 135 = .ok (.bipush 97, 2) := dk_16 97 (dk_at dksX4_order_5 17 rfl rfl)
theorem dX4_order_137 : decode cX4_order 137 = .ok (.bipush 114, 2) := dk_16 114 (dk_at dksX4_order_5 19 rfl rfl)
theorem dX4_order_139 : decode cX4_order 139 = .ok (.invokevirtual 43, 3) := dk_182 0 43 (dk_at dksX4_order_5 21 rfl rfl)
theorem dX4_order_142 : decode cX4_order 142 = .ok (.iconst 0, 1) := dk_3 (dk_at dksX4_order_6 0 rfl rfl)
theorem dX4_order_143 : decode cX4_order 143 = .ok (.invokespecial 59, 3) := dk_183 0 59 (dk_at dksX4_order_6 1 rfl rfl)
theorem dX4_order_146 : decode cX4_order 146 = .ok (.areturn, 1) := dk_176 (dk_at dksX4_order_6 4 rfl rfl)
abbrev cX4_letter : ByteArray := prog_6_method_2_code
def yX4_letter : MethodName := ⟨RX4, "letter", "(CC)I"⟩
def dkwX4_letter_3 : List UInt8 := [182, 0, 32, 27, 100, 172]
abbrev dktX4_letter_3 : List UInt8 := dkwX4_letter_3 ++ []
def dkwX4_letter_2 : List UInt8 := [89, 180, 0, 19, 4, 96, 181, 0, 19, 42, 180, 0, 3, 180, 0, 22, 42, 180, 0, 19, 4, 100]
abbrev dktX4_letter_2 : List UInt8 := dkwX4_letter_2 ++ dktX4_letter_3
def dkwX4_letter_1 : List UInt8 := [42, 180, 0, 19, 182, 0, 32, 27, 28, 184, 0, 36, 154, 0, 11, 187, 0, 40, 89, 183, 0, 42, 191, 42]
abbrev dktX4_letter_1 : List UInt8 := dkwX4_letter_1 ++ dktX4_letter_2
def dkwX4_letter_0 : List UInt8 := [42, 180, 0, 19, 42, 180, 0, 3, 180, 0, 22, 182, 0, 26, 159, 0, 25, 42, 180, 0, 3, 180, 0, 22]
abbrev dktX4_letter_0 : List UInt8 := dkwX4_letter_0 ++ dktX4_letter_1
theorem dksX4_letter_0 : cX4_letter.data.toList.drop 0 = dktX4_letter_0 := by decide +kernel
theorem dksX4_letter_1 : cX4_letter.data.toList.drop 24 = dktX4_letter_1 := dk_seg dksX4_letter_0 24 rfl rfl
theorem dksX4_letter_2 : cX4_letter.data.toList.drop 48 = dktX4_letter_2 := dk_seg dksX4_letter_1 24 rfl rfl
theorem dksX4_letter_3 : cX4_letter.data.toList.drop 70 = dktX4_letter_3 := dk_seg dksX4_letter_2 22 rfl rfl
theorem dX4_letter_0 : decode cX4_letter 0 = .ok (.aload_n 0, 1) := dk_42 (dk_at dksX4_letter_0 0 rfl rfl)
theorem dX4_letter_1 : decode cX4_letter 1 = .ok (.getfield 19, 3) := dk_180 0 19 (dk_at dksX4_letter_0 1 rfl rfl)
theorem dX4_letter_4 : decode cX4_letter 4 = .ok (.aload_n 0, 1) := dk_42 (dk_at dksX4_letter_0 4 rfl rfl)
theorem dX4_letter_5 : decode cX4_letter 5 = .ok (.getfield 3, 3) := dk_180 0 3 (dk_at dksX4_letter_0 5 rfl rfl)
theorem dX4_letter_8 : decode cX4_letter 8 = .ok (.getfield 22, 3) := dk_180 0 22 (dk_at dksX4_letter_0 8 rfl rfl)
theorem dX4_letter_11 : decode cX4_letter 11 = .ok (.invokevirtual 26, 3) := dk_182 0 26 (dk_at dksX4_letter_0 11 rfl rfl)
theorem dX4_letter_14 : decode cX4_letter 14 = .ok (.if_icmp .eq 25, 3) := dk_159 0 25 (dk_at dksX4_letter_0 14 rfl rfl)
theorem dX4_letter_17 : decode cX4_letter 17 = .ok (.aload_n 0, 1) := dk_42 (dk_at dksX4_letter_0 17 rfl rfl)
theorem dX4_letter_18 : decode cX4_letter 18 = .ok (.getfield 3, 3) := dk_180 0 3 (dk_at dksX4_letter_0 18 rfl rfl)
theorem dX4_letter_21 : decode cX4_letter 21 = .ok (.getfield 22, 3) := dk_180 0 22 (dk_at dksX4_letter_0 21 rfl rfl)
theorem dX4_letter_24 : decode cX4_letter 24 = .ok (.aload_n 0, 1) := dk_42 (dk_at dksX4_letter_1 0 rfl rfl)
theorem dX4_letter_25 : decode cX4_letter 25 = .ok (.getfield 19, 3) := dk_180 0 19 (dk_at dksX4_letter_1 1 rfl rfl)
theorem dX4_letter_28 : decode cX4_letter 28 = .ok (.invokevirtual 32, 3) := dk_182 0 32 (dk_at dksX4_letter_1 4 rfl rfl)
theorem dX4_letter_31 : decode cX4_letter 31 = .ok (.iload_n 1, 1) := dk_27 (dk_at dksX4_letter_1 7 rfl rfl)
theorem dX4_letter_32 : decode cX4_letter 32 = .ok (.iload_n 2, 1) := dk_28 (dk_at dksX4_letter_1 8 rfl rfl)
theorem dX4_letter_33 : decode cX4_letter 33 = .ok (.invokestatic 36, 3) := dk_184 0 36 (dk_at dksX4_letter_1 9 rfl rfl)
theorem dX4_letter_36 : decode cX4_letter 36 = .ok (.ifCond .ne 11, 3) := dk_154 0 11 (dk_at dksX4_letter_1 12 rfl rfl)
theorem dX4_letter_39 : decode cX4_letter 39 = .ok (.new 40, 3) := dk_187 0 40 (dk_at dksX4_letter_1 15 rfl rfl)
theorem dX4_letter_42 : decode cX4_letter 42 = .ok (.dup, 1) := dk_89 (dk_at dksX4_letter_1 18 rfl rfl)
theorem dX4_letter_43 : decode cX4_letter 43 = .ok (.invokespecial 42, 3) := dk_183 0 42 (dk_at dksX4_letter_1 19 rfl rfl)
theorem dX4_letter_46 : decode cX4_letter 46 = .ok (.athrow, 1) := dk_191 (dk_at dksX4_letter_1 22 rfl rfl)
theorem dX4_letter_47 : decode cX4_letter 47 = .ok (.aload_n 0, 1) := dk_42 (dk_at dksX4_letter_1 23 rfl rfl)
theorem dX4_letter_48 : decode cX4_letter 48 = .ok (.dup, 1) := dk_89 (dk_at dksX4_letter_2 0 rfl rfl)
theorem dX4_letter_49 : decode cX4_letter 49 = .ok (.getfield 19, 3) := dk_180 0 19 (dk_at dksX4_letter_2 1 rfl rfl)
theorem dX4_letter_52 : decode cX4_letter 52 = .ok (.iconst 1, 1) := dk_4 (dk_at dksX4_letter_2 4 rfl rfl)
theorem dX4_letter_53 : decode cX4_letter 53 = .ok (.iadd, 1) := dk_96 (dk_at dksX4_letter_2 5 rfl rfl)
theorem dX4_letter_54 : decode cX4_letter 54 = .ok (.putfield 19, 3) := dk_181 0 19 (dk_at dksX4_letter_2 6 rfl rfl)
theorem dX4_letter_57 : decode cX4_letter 57 = .ok (.aload_n 0, 1) := dk_42 (dk_at dksX4_letter_2 9 rfl rfl)
theorem dX4_letter_58 : decode cX4_letter 58 = .ok (.getfield 3, 3) := dk_180 0 3 (dk_at dksX4_letter_2 10 rfl rfl)
theorem dX4_letter_61 : decode cX4_letter 61 = .ok (.getfield 22, 3) := dk_180 0 22 (dk_at dksX4_letter_2 13 rfl rfl)
theorem dX4_letter_64 : decode cX4_letter 64 = .ok (.aload_n 0, 1) := dk_42 (dk_at dksX4_letter_2 16 rfl rfl)
theorem dX4_letter_65 : decode cX4_letter 65 = .ok (.getfield 19, 3) := dk_180 0 19 (dk_at dksX4_letter_2 17 rfl rfl)
theorem dX4_letter_68 : decode cX4_letter 68 = .ok (.iconst 1, 1) := dk_4 (dk_at dksX4_letter_2 20 rfl rfl)
theorem dX4_letter_69 : decode cX4_letter 69 = .ok (.isub, 1) := dk_100 (dk_at dksX4_letter_2 21 rfl rfl)
theorem dX4_letter_70 : decode cX4_letter 70 = .ok (.invokevirtual 32, 3) := dk_182 0 32 (dk_at dksX4_letter_3 0 rfl rfl)
theorem dX4_letter_73 : decode cX4_letter 73 = .ok (.iload_n 1, 1) := dk_27 (dk_at dksX4_letter_3 3 rfl rfl)
theorem dX4_letter_74 : decode cX4_letter 74 = .ok (.isub, 1) := dk_100 (dk_at dksX4_letter_3 4 rfl rfl)
theorem dX4_letter_75 : decode cX4_letter 75 = .ok (.ireturn, 1) := dk_172 (dk_at dksX4_letter_3 5 rfl rfl)
abbrev cX4_test : ByteArray := prog_6_method_3_code
def yX4_test : MethodName := ⟨RX4, "test", "()I"⟩
def dkwX4_test_4 : List UInt8 := [167, 255, 170, 27, 172]
abbrev dktX4_test_4 : List UInt8 := dkwX4_test_4 ++ []
def dkwX4_test_3 : List UInt8 := [96, 16, 48, 100, 16, 64, 162, 0, 20, 16, 10, 27, 104, 42, 16, 48, 16, 57, 182, 0, 43, 96, 60]
abbrev dktX4_test_3 : List UInt8 := dkwX4_test_3 ++ dktX4_test_4
def dkwX4_test_2 : List UInt8 := [184, 0, 36, 153, 0, 47, 16, 10, 27, 104, 42, 180, 0, 3, 180, 0, 22, 42, 180, 0, 19, 182, 0, 32]
abbrev dktX4_test_2 : List UInt8 := dkwX4_test_2 ++ dktX4_test_3
def dkwX4_test_1 : List UInt8 := [182, 0, 26, 162, 0, 71, 42, 180, 0, 3, 180, 0, 22, 42, 180, 0, 19, 182, 0, 32, 16, 48, 16, 57]
abbrev dktX4_test_1 : List UInt8 := dkwX4_test_1 ++ dktX4_test_2
def dkwX4_test_0 : List UInt8 := [42, 16, 48, 16, 57, 182, 0, 43, 60, 27, 158, 0, 88, 42, 180, 0, 19, 42, 180, 0, 3, 180, 0, 22]
abbrev dktX4_test_0 : List UInt8 := dkwX4_test_0 ++ dktX4_test_1
theorem dksX4_test_0 : cX4_test.data.toList.drop 0 = dktX4_test_0 := by decide +kernel
theorem dksX4_test_1 : cX4_test.data.toList.drop 24 = dktX4_test_1 := dk_seg dksX4_test_0 24 rfl rfl
theorem dksX4_test_2 : cX4_test.data.toList.drop 48 = dktX4_test_2 := dk_seg dksX4_test_1 24 rfl rfl
theorem dksX4_test_3 : cX4_test.data.toList.drop 72 = dktX4_test_3 := dk_seg dksX4_test_2 24 rfl rfl
theorem dksX4_test_4 : cX4_test.data.toList.drop 95 = dktX4_test_4 := dk_seg dksX4_test_3 23 rfl rfl
theorem dX4_test_0 : decode cX4_test 0 = .ok (.aload_n 0, 1) := dk_42 (dk_at dksX4_test_0 0 rfl rfl)
theorem dX4_test_1 : decode cX4_test 1 = .ok (.bipush 48, 2) := dk_16 48 (dk_at dksX4_test_0 1 rfl rfl)
theorem dX4_test_3 : decode cX4_test 3 = .ok (.bipush 57, 2) := dk_16 57 (dk_at dksX4_test_0 3 rfl rfl)
theorem dX4_test_5 : decode cX4_test 5 = .ok (.invokevirtual 43, 3) := dk_182 0 43 (dk_at dksX4_test_0 5 rfl rfl)
theorem dX4_test_8 : decode cX4_test 8 = .ok (.istore_n 1, 1) := dk_60 (dk_at dksX4_test_0 8 rfl rfl)
theorem dX4_test_9 : decode cX4_test 9 = .ok (.iload_n 1, 1) := dk_27 (dk_at dksX4_test_0 9 rfl rfl)
theorem dX4_test_10 : decode cX4_test 10 = .ok (.ifCond .le 88, 3) := dk_158 0 88 (dk_at dksX4_test_0 10 rfl rfl)
theorem dX4_test_13 : decode cX4_test 13 = .ok (.aload_n 0, 1) := dk_42 (dk_at dksX4_test_0 13 rfl rfl)
theorem dX4_test_14 : decode cX4_test 14 = .ok (.getfield 19, 3) := dk_180 0 19 (dk_at dksX4_test_0 14 rfl rfl)
theorem dX4_test_17 : decode cX4_test 17 = .ok (.aload_n 0, 1) := dk_42 (dk_at dksX4_test_0 17 rfl rfl)
theorem dX4_test_18 : decode cX4_test 18 = .ok (.getfield 3, 3) := dk_180 0 3 (dk_at dksX4_test_0 18 rfl rfl)
theorem dX4_test_21 : decode cX4_test 21 = .ok (.getfield 22, 3) := dk_180 0 22 (dk_at dksX4_test_0 21 rfl rfl)
theorem dX4_test_24 : decode cX4_test 24 = .ok (.invokevirtual 26, 3) := dk_182 0 26 (dk_at dksX4_test_1 0 rfl rfl)
theorem dX4_test_27 : decode cX4_test 27 = .ok (.if_icmp .ge 71, 3) := dk_162 0 71 (dk_at dksX4_test_1 3 rfl rfl)
theorem dX4_test_30 : decode cX4_test 30 = .ok (.aload_n 0, 1) := dk_42 (dk_at dksX4_test_1 6 rfl rfl)
theorem dX4_test_31 : decode cX4_test 31 = .ok (.getfield 3, 3) := dk_180 0 3 (dk_at dksX4_test_1 7 rfl rfl)
theorem dX4_test_34 : decode cX4_test 34 = .ok (.getfield 22, 3) := dk_180 0 22 (dk_at dksX4_test_1 10 rfl rfl)
theorem dX4_test_37 : decode cX4_test 37 = .ok (.aload_n 0, 1) := dk_42 (dk_at dksX4_test_1 13 rfl rfl)
theorem dX4_test_38 : decode cX4_test 38 = .ok (.getfield 19, 3) := dk_180 0 19 (dk_at dksX4_test_1 14 rfl rfl)
theorem dX4_test_41 : decode cX4_test 41 = .ok (.invokevirtual 32, 3) := dk_182 0 32 (dk_at dksX4_test_1 17 rfl rfl)
theorem dX4_test_44 : decode cX4_test 44 = .ok (.bipush 48, 2) := dk_16 48 (dk_at dksX4_test_1 20 rfl rfl)
theorem dX4_test_46 : decode cX4_test 46 = .ok (.bipush 57, 2) := dk_16 57 (dk_at dksX4_test_1 22 rfl rfl)
theorem dX4_test_48 : decode cX4_test 48 = .ok (.invokestatic 36, 3) := dk_184 0 36 (dk_at dksX4_test_2 0 rfl rfl)
theorem dX4_test_51 : decode cX4_test 51 = .ok (.ifCond .eq 47, 3) := dk_153 0 47 (dk_at dksX4_test_2 3 rfl rfl)
theorem dX4_test_54 : decode cX4_test 54 = .ok (.bipush 10, 2) := dk_16 10 (dk_at dksX4_test_2 6 rfl rfl)
theorem dX4_test_56 : decode cX4_test 56 = .ok (.iload_n 1, 1) := dk_27 (dk_at dksX4_test_2 8 rfl rfl)
theorem dX4_test_57 : decode cX4_test 57 = .ok (.imul, 1) := dk_104 (dk_at dksX4_test_2 9 rfl rfl)
theorem dX4_test_58 : decode cX4_test 58 = .ok (.aload_n 0, 1) := dk_42 (dk_at dksX4_test_2 10 rfl rfl)
theorem dX4_test_59 : decode cX4_test 59 = .ok (.getfield 3, 3) := dk_180 0 3 (dk_at dksX4_test_2 11 rfl rfl)
theorem dX4_test_62 : decode cX4_test 62 = .ok (.getfield 22, 3) := dk_180 0 22 (dk_at dksX4_test_2 14 rfl rfl)
theorem dX4_test_65 : decode cX4_test 65 = .ok (.aload_n 0, 1) := dk_42 (dk_at dksX4_test_2 17 rfl rfl)
theorem dX4_test_66 : decode cX4_test 66 = .ok (.getfield 19, 3) := dk_180 0 19 (dk_at dksX4_test_2 18 rfl rfl)
theorem dX4_test_69 : decode cX4_test 69 = .ok (.invokevirtual 32, 3) := dk_182 0 32 (dk_at dksX4_test_2 21 rfl rfl)
theorem dX4_test_72 : decode cX4_test 72 = .ok (.iadd, 1) := dk_96 (dk_at dksX4_test_3 0 rfl rfl)
theorem dX4_test_73 : decode cX4_test 73 = .ok (.bipush 48, 2) := dk_16 48 (dk_at dksX4_test_3 1 rfl rfl)
theorem dX4_test_75 : decode cX4_test 75 = .ok (.isub, 1) := dk_100 (dk_at dksX4_test_3 3 rfl rfl)
theorem dX4_test_76 : decode cX4_test 76 = .ok (.bipush 64, 2) := dk_16 64 (dk_at dksX4_test_3 4 rfl rfl)
theorem dX4_test_78 : decode cX4_test 78 = .ok (.if_icmp .ge 20, 3) := dk_162 0 20 (dk_at dksX4_test_3 6 rfl rfl)
theorem dX4_test_81 : decode cX4_test 81 = .ok (.bipush 10, 2) := dk_16 10 (dk_at dksX4_test_3 9 rfl rfl)
theorem dX4_test_83 : decode cX4_test 83 = .ok (.iload_n 1, 1) := dk_27 (dk_at dksX4_test_3 11 rfl rfl)
theorem dX4_test_84 : decode cX4_test 84 = .ok (.imul, 1) := dk_104 (dk_at dksX4_test_3 12 rfl rfl)
theorem dX4_test_85 : decode cX4_test 85 = .ok (.aload_n 0, 1) := dk_42 (dk_at dksX4_test_3 13 rfl rfl)
theorem dX4_test_86 : decode cX4_test 86 = .ok (.bipush 48, 2) := dk_16 48 (dk_at dksX4_test_3 14 rfl rfl)
theorem dX4_test_88 : decode cX4_test 88 = .ok (.bipush 57, 2) := dk_16 57 (dk_at dksX4_test_3 16 rfl rfl)
theorem dX4_test_90 : decode cX4_test 90 = .ok (.invokevirtual 43, 3) := dk_182 0 43 (dk_at dksX4_test_3 18 rfl rfl)
theorem dX4_test_93 : decode cX4_test 93 = .ok (.iadd, 1) := dk_96 (dk_at dksX4_test_3 21 rfl rfl)
theorem dX4_test_94 : decode cX4_test 94 = .ok (.istore_n 1, 1) := dk_60 (dk_at dksX4_test_3 22 rfl rfl)
theorem dX4_test_95 : decode cX4_test 95 = .ok (.goto (-86), 3) := dk_167 255 170 (dk_at dksX4_test_4 0 rfl rfl)
theorem dX4_test_98 : decode cX4_test 98 = .ok (.iload_n 1, 1) := dk_27 (dk_at dksX4_test_4 3 rfl rfl)
theorem dX4_test_99 : decode cX4_test 99 = .ok (.ireturn, 1) := dk_172 (dk_at dksX4_test_4 4 rfl rfl)
theorem q105 : (Jvm.Cond.initialized "RosehipCircuits$Reader") ∈ lw_all := lw_g (lw_at lw_m1 27 rfl) rfl
theorem q242 : (Jvm.Cond.fieldLinkNest "RosehipCircuits$Reader" (22 : Nat) "RosehipCircuits" "text" "Ljava/lang/StringBuilder;" "RosehipCircuits") ∈ lw_tbl := lw_at lw_m1 164 rfl
theorem q395 : (Jvm.Cond.selects "RosehipCircuits$Reader" ({ cls := "java/lang/Object", name := "getClass", desc := "()Ljava/lang/Class;" } : Jvm.MethodName) ({ cls := "java/lang/Object", name := "getClass", desc := "()Ljava/lang/Class;" } : Jvm.MethodName)) ∈ lw_all := lw_g (lw_at lw_m2 77 rfl) rfl
theorem q786 : (Jvm.Cond.instantiable "RosehipCircuits$Reader" (3 : Nat)) ∈ lw_all := lw_g (lw_at lw_m3 228 rfl) rfl
theorem q788 : (Jvm.Cond.instanceMethod ({ cls := "RosehipCircuits$Reader", name := "<init>", desc := "(LRosehipCircuits;)V" } : Jvm.MethodName)) ∈ lw_all := lw_g (lw_at lw_m3 230 rfl) rfl
theorem q789 : (Jvm.Cond.code ({ cls := "RosehipCircuits$Reader", name := "<init>", desc := "(LRosehipCircuits;)V" } : Jvm.MethodName) prog_6_method_1_code (2 : Nat) (Option.none : Option Jvm.ClassFile.FieldType)) ∈ lw_all := lw_g (lw_at lw_m3 231 rfl) rfl
theorem q790 : (Jvm.Cond.methodLink "RosehipCircuits$Reader" (9 : Nat) ({ cls := "java/lang/Object", name := "<init>", desc := "()V" } : Jvm.MethodName)) ∈ lw_all := lw_g (lw_at lw_m3 232 rfl) rfl
theorem q791 : (Jvm.Cond.fieldLink "RosehipCircuits$Reader" (19 : Nat) "RosehipCircuits$Reader" "at" "I") ∈ lw_all := lw_g (lw_at lw_m3 233 rfl) rfl
theorem q792 : (Jvm.Cond.fieldLink "RosehipCircuits$Reader" (15 : Nat) "RosehipCircuits$Reader" "fault" "I") ∈ lw_all := lw_g (lw_at lw_m3 234 rfl) rfl
theorem q794 : (Jvm.Cond.fieldLink "RosehipCircuits$Reader" (3 : Nat) "RosehipCircuits$Reader" "this$0" "LRosehipCircuits;") ∈ lw_all := lw_g (lw_at lw_m3 236 rfl) rfl
theorem q795 : (Jvm.Cond.lays "RosehipCircuits$Reader" "RosehipCircuits$Reader" "at" "I") ∈ lw_all := lw_g (lw_at lw_m3 237 rfl) rfl
theorem q796 : (Jvm.Cond.soleField "RosehipCircuits$Reader" "at") ∈ lw_all := lw_g (lw_at lw_m3 238 rfl) rfl
theorem q797 : (Jvm.Cond.lays "RosehipCircuits$Reader" "RosehipCircuits$Reader" "fault" "I") ∈ lw_all := lw_g (lw_at lw_m3 239 rfl) rfl
theorem q798 : (Jvm.Cond.soleField "RosehipCircuits$Reader" "fault") ∈ lw_all := lw_g (lw_at lw_m4 0 rfl) rfl
theorem q799 : (Jvm.Cond.laysFinal "RosehipCircuits$Reader" "RosehipCircuits$Reader" "this$0" "LRosehipCircuits;") ∈ lw_all := lw_g (lw_at lw_m4 1 rfl) rfl
theorem q800 : (Jvm.Cond.soleField "RosehipCircuits$Reader" "this$0") ∈ lw_all := lw_g (lw_at lw_m4 2 rfl) rfl
theorem q801 : (Jvm.Cond.superclass "RosehipCircuits$Reader" "java/lang/Object") ∈ lw_all := lw_g (lw_at lw_m4 3 rfl) rfl
theorem q803 : (Jvm.Cond.instanceMethod ({ cls := "RosehipCircuits$Reader", name := "orders", desc := "()Ljava/util/List;" } : Jvm.MethodName)) ∈ lw_all := lw_g (lw_at lw_m4 5 rfl) rfl
theorem q804 : (Jvm.Cond.selects "RosehipCircuits$Reader" ({ cls := "RosehipCircuits$Reader", name := "orders", desc := "()Ljava/util/List;" } : Jvm.MethodName) ({ cls := "RosehipCircuits$Reader", name := "orders", desc := "()Ljava/util/List;" } : Jvm.MethodName)) ∈ lw_all := lw_g (lw_at lw_m4 6 rfl) rfl
theorem q805 : (Jvm.Cond.codeWith ({ cls := "RosehipCircuits$Reader", name := "orders", desc := "()Ljava/util/List;" } : Jvm.MethodName) prog_6_method_5_code (4 : Nat) (Option.some (Jvm.ClassFile.FieldType.object "java/util/List")) [((10 : Nat), (63 : Nat), (82 : Nat), (0 : Nat))]) ∈ lw_all := lw_g (lw_at lw_m4 7 rfl) rfl
theorem q806 : (Jvm.Cond.classLink "RosehipCircuits$Reader" (65 : Nat) "java/util/ArrayList") ∈ lw_all := lw_g (lw_at lw_m4 8 rfl) rfl
theorem q808 : (Jvm.Cond.methodLink "RosehipCircuits$Reader" (67 : Nat) ({ cls := "java/util/ArrayList", name := "<init>", desc := "()V" } : Jvm.MethodName)) ∈ lw_all := lw_g (lw_at lw_m4 10 rfl) rfl
theorem q829 : (Jvm.Cond.methodLink "RosehipCircuits$Reader" (68 : Nat) ({ cls := "RosehipCircuits$Reader", name := "order", desc := "()LRosehipCircuits$Order;" } : Jvm.MethodName)) ∈ lw_all := lw_g (lw_at lw_m4 31 rfl) rfl
theorem q830 : (Jvm.Cond.privateMethod ({ cls := "RosehipCircuits$Reader", name := "order", desc := "()LRosehipCircuits$Order;" } : Jvm.MethodName)) ∈ lw_tbl := lw_at lw_m4 32 rfl
theorem q831 : (Jvm.Cond.instanceMethod ({ cls := "RosehipCircuits$Reader", name := "order", desc := "()LRosehipCircuits$Order;" } : Jvm.MethodName)) ∈ lw_all := lw_g (lw_at lw_m4 33 rfl) rfl
theorem q832 : (Jvm.Cond.code ({ cls := "RosehipCircuits$Reader", name := "order", desc := "()LRosehipCircuits$Order;" } : Jvm.MethodName) prog_6_method_4_code (4 : Nat) (Option.some (Jvm.ClassFile.FieldType.object "RosehipCircuits$Order"))) ∈ lw_all := lw_g (lw_at lw_m4 34 rfl) rfl
theorem q833 : (Jvm.Cond.methodLink "RosehipCircuits$Reader" (26 : Nat) ({ cls := "java/lang/StringBuilder", name := "length", desc := "()I" } : Jvm.MethodName)) ∈ lw_all := lw_g (lw_at lw_m4 35 rfl) rfl
theorem q834 : (Jvm.Cond.methodLink "RosehipCircuits$Reader" (32 : Nat) ({ cls := "java/lang/StringBuilder", name := "charAt", desc := "(I)C" } : Jvm.MethodName)) ∈ lw_all := lw_g (lw_at lw_m4 36 rfl) rfl
theorem q849 : (Jvm.Cond.stringRef "RosehipCircuits$Reader" (47 : Nat) "AOXNRSIC") ∈ lw_tbl := lw_at lw_m4 51 rfl
theorem q850 : (Jvm.Cond.methodLink "RosehipCircuits$Reader" (49 : Nat) ({ cls := "java/lang/String", name := "indexOf", desc := "(I)I" } : Jvm.MethodName)) ∈ lw_all := lw_g (lw_at lw_m4 52 rfl) rfl
theorem q900 : (Jvm.Cond.stringRef "RosehipCircuits$Reader" (55 : Nat) ">#?%") ∈ lw_tbl := lw_at lw_m4 102 rfl
theorem q901 : (Jvm.Cond.classLink "RosehipCircuits$Reader" (40 : Nat) "RosehipCircuits$Misspelled") ∈ lw_all := lw_g (lw_at lw_m4 103 rfl) rfl
theorem q910 : (Jvm.Cond.methodLink "RosehipCircuits$Reader" (42 : Nat) ({ cls := "RosehipCircuits$Misspelled", name := "<init>", desc := "()V" } : Jvm.MethodName)) ∈ lw_all := lw_g (lw_at lw_m4 112 rfl) rfl
theorem q921 : (Jvm.Cond.methodLink "RosehipCircuits$Reader" (43 : Nat) ({ cls := "RosehipCircuits$Reader", name := "letter", desc := "(CC)I" } : Jvm.MethodName)) ∈ lw_all := lw_g (lw_at lw_m4 123 rfl) rfl
theorem q922 : (Jvm.Cond.privateMethod ({ cls := "RosehipCircuits$Reader", name := "letter", desc := "(CC)I" } : Jvm.MethodName)) ∈ lw_tbl := lw_at lw_m4 124 rfl
theorem q923 : (Jvm.Cond.instanceMethod ({ cls := "RosehipCircuits$Reader", name := "letter", desc := "(CC)I" } : Jvm.MethodName)) ∈ lw_all := lw_g (lw_at lw_m4 125 rfl) rfl
theorem q924 : (Jvm.Cond.code ({ cls := "RosehipCircuits$Reader", name := "letter", desc := "(CC)I" } : Jvm.MethodName) prog_6_method_2_code (3 : Nat) (Option.some Jvm.ClassFile.FieldType.int)) ∈ lw_all := lw_g (lw_at lw_m4 126 rfl) rfl
theorem q925 : (Jvm.Cond.methodLinkNest "RosehipCircuits$Reader" (36 : Nat) ({ cls := "RosehipCircuits", name := "isWithin", desc := "(III)Z" } : Jvm.MethodName) "RosehipCircuits") ∈ lw_tbl := lw_at lw_m4 127 rfl
theorem q928 : (Jvm.Cond.classLink "RosehipCircuits$Reader" (57 : Nat) "RosehipCircuits$Order") ∈ lw_all := lw_g (lw_at lw_m4 130 rfl) rfl
theorem q930 : (Jvm.Cond.methodLinkNest "RosehipCircuits$Reader" (59 : Nat) ({ cls := "RosehipCircuits$Order", name := "<init>", desc := "(CII)V" } : Jvm.MethodName) "RosehipCircuits") ∈ lw_tbl := lw_at lw_m4 132 rfl
theorem q947 : (Jvm.Cond.methodLink "RosehipCircuits$Reader" (62 : Nat) ({ cls := "RosehipCircuits$Reader", name := "test", desc := "()I" } : Jvm.MethodName)) ∈ lw_all := lw_g (lw_at lw_m4 149 rfl) rfl
theorem q948 : (Jvm.Cond.privateMethod ({ cls := "RosehipCircuits$Reader", name := "test", desc := "()I" } : Jvm.MethodName)) ∈ lw_tbl := lw_at lw_m4 150 rfl
theorem q949 : (Jvm.Cond.instanceMethod ({ cls := "RosehipCircuits$Reader", name := "test", desc := "()I" } : Jvm.MethodName)) ∈ lw_all := lw_g (lw_at lw_m4 151 rfl) rfl
theorem q950 : (Jvm.Cond.code ({ cls := "RosehipCircuits$Reader", name := "test", desc := "()I" } : Jvm.MethodName) prog_6_method_3_code (2 : Nat) (Option.some Jvm.ClassFile.FieldType.int)) ∈ lw_all := lw_g (lw_at lw_m4 152 rfl) rfl
theorem q951 : (Jvm.Cond.interfaceEntry "RosehipCircuits$Reader" (72 : Nat)) ∈ lw_tbl := lw_at lw_m4 153 rfl
theorem q952 : (Jvm.Cond.methodLink "RosehipCircuits$Reader" (72 : Nat) ({ cls := "java/util/List", name := "add", desc := "(Ljava/lang/Object;)Z" } : Jvm.MethodName)) ∈ lw_all := lw_g (lw_at lw_m4 154 rfl) rfl
theorem q2070 : (Jvm.Cond.castable "RosehipCircuits$Reader" "java/lang/Object") ∈ lw_tbl := lw_at lw_m9 72 rfl
theorem in_X4 : ∀ w ∈ wsX40, w ∈ lw_all := lw_in wsX40 [795, 797, 799] (by decide +kernel) (by decide +kernel)
/-! RosehipCircuits$Misspelled -/
set_option maxRecDepth 100000
def RX5 : String := "RosehipCircuits$Misspelled"
def TX5 : u_T := fun k => match k with
  | 0 => ("java/lang/Throwable", "cause", "Ljava/lang/Throwable;", false)
  | 1 => ("java/lang/Throwable", "stackTrace", "[Ljava/lang/StackTraceElement;", false)
  | 2 => ("java/lang/Throwable", "suppressedExceptions", "Ljava/util/List;", false)
  | 3 => ("java/lang/Throwable", "detailMessage", "Ljava/lang/String;", false)
  | 4 => ("java/lang/Throwable", "backtrace", "Ljava/lang/Object;", false)
  | _ => ("java/lang/Throwable", "depth", "I", false)
def tyX5 : Nat → FieldType := fun k => match k with
  | 0 => .object "java/lang/Throwable"
  | 1 => .array (.object "java/lang/StackTraceElement")
  | 2 => .object "java/util/List"
  | 3 => .object "java/lang/String"
  | 4 => .object "java/lang/Object"
  | _ => .int
abbrev wsX50 : List Cond := u_ws RX5 TX5 6
theorem nmX5 : ∀ a, a < 6 → ∀ b, b < 6 → a ≠ b → (TX5 a).2.1 ≠ (TX5 b).2.1 := by decide +kernel
theorem tyX5_ok : ∀ k, k < 6 → parseFieldDescriptor (TX5 k).2.2.1 = some (tyX5 k) := by decide +kernel
abbrev cX5_init : ByteArray := prog_4_method_1_code
def yX5_init : MethodName := ⟨RX5, "<init>", "()V"⟩
def dkwX5_init_0 : List UInt8 := [42, 1, 1, 3, 3, 183, 0, 1, 177]
abbrev dktX5_init_0 : List UInt8 := dkwX5_init_0 ++ []
theorem dksX5_init_0 : cX5_init.data.toList.drop 0 = dktX5_init_0 := by decide +kernel
theorem dX5_init_0 : decode cX5_init 0 = .ok (.aload_n 0, 1) := dk_42 (dk_at dksX5_init_0 0 rfl rfl)
theorem dX5_init_1 : decode cX5_init 1 = .ok (.aconst_null, 1) := dk_1 (dk_at dksX5_init_0 1 rfl rfl)
theorem dX5_init_2 : decode cX5_init 2 = .ok (.aconst_null, 1) := dk_1 (dk_at dksX5_init_0 2 rfl rfl)
theorem dX5_init_3 : decode cX5_init 3 = .ok (.iconst 0, 1) := dk_3 (dk_at dksX5_init_0 3 rfl rfl)
theorem dX5_init_4 : decode cX5_init 4 = .ok (.iconst 0, 1) := dk_3 (dk_at dksX5_init_0 4 rfl rfl)
theorem dX5_init_5 : decode cX5_init 5 = .ok (.invokespecial 1, 3) := dk_183 0 1 (dk_at dksX5_init_0 5 rfl rfl)
theorem dX5_init_8 : decode cX5_init 8 = .ok (.return_, 1) := dk_177 (dk_at dksX5_init_0 8 rfl rfl)
theorem q109 : (Jvm.Cond.initialized "RosehipCircuits$Misspelled") ∈ lw_all := lw_g (lw_at lw_m1 31 rfl) rfl
theorem q346 : (Jvm.Cond.selects "RosehipCircuits$Misspelled" ({ cls := "java/lang/Throwable", name := "fillInStackTrace", desc := "()Ljava/lang/Throwable;" } : Jvm.MethodName) ({ cls := "java/lang/Throwable", name := "fillInStackTrace", desc := "()Ljava/lang/Throwable;" } : Jvm.MethodName)) ∈ lw_all := lw_g (lw_at lw_m2 28 rfl) rfl
theorem q393 : (Jvm.Cond.selects "RosehipCircuits$Misspelled" ({ cls := "java/lang/Object", name := "getClass", desc := "()Ljava/lang/Class;" } : Jvm.MethodName) ({ cls := "java/lang/Object", name := "getClass", desc := "()Ljava/lang/Class;" } : Jvm.MethodName)) ∈ lw_all := lw_g (lw_at lw_m2 75 rfl) rfl
theorem q902 : (Jvm.Cond.instantiable "RosehipCircuits$Misspelled" (6 : Nat)) ∈ lw_all := lw_g (lw_at lw_m4 104 rfl) rfl
theorem q903 : (Jvm.Cond.castable "RosehipCircuits$Misspelled" "RosehipCircuits$Misspelled") ∈ lw_tbl := lw_at lw_m4 105 rfl
theorem q904 : (Jvm.Cond.selects "RosehipCircuits$Misspelled" ({ cls := "java/lang/Throwable", name := "fillInStackTrace", desc := "(I)Ljava/lang/Throwable;" } : Jvm.MethodName) ({ cls := "java/lang/Throwable", name := "fillInStackTrace", desc := "(I)Ljava/lang/Throwable;" } : Jvm.MethodName)) ∈ lw_all := lw_g (lw_at lw_m4 106 rfl) rfl
theorem q905 : (Jvm.Cond.lays "RosehipCircuits$Misspelled" "java/lang/Throwable" "cause" "Ljava/lang/Throwable;") ∈ lw_all := lw_g (lw_at lw_m4 107 rfl) rfl
theorem q906 : (Jvm.Cond.lays "RosehipCircuits$Misspelled" "java/lang/Throwable" "stackTrace" "[Ljava/lang/StackTraceElement;") ∈ lw_all := lw_g (lw_at lw_m4 108 rfl) rfl
theorem q907 : (Jvm.Cond.lays "RosehipCircuits$Misspelled" "java/lang/Throwable" "suppressedExceptions" "Ljava/util/List;") ∈ lw_all := lw_g (lw_at lw_m4 109 rfl) rfl
theorem q908 : (Jvm.Cond.lays "RosehipCircuits$Misspelled" "java/lang/Throwable" "detailMessage" "Ljava/lang/String;") ∈ lw_all := lw_g (lw_at lw_m4 110 rfl) rfl
theorem q909 : (Jvm.Cond.lays "RosehipCircuits$Misspelled" "java/lang/Throwable" "backtrace" "Ljava/lang/Object;") ∈ lw_all := lw_g (lw_at lw_m4 111 rfl) rfl
theorem q911 : (Jvm.Cond.instanceMethod ({ cls := "RosehipCircuits$Misspelled", name := "<init>", desc := "()V" } : Jvm.MethodName)) ∈ lw_all := lw_g (lw_at lw_m4 113 rfl) rfl
theorem q912 : (Jvm.Cond.code ({ cls := "RosehipCircuits$Misspelled", name := "<init>", desc := "()V" } : Jvm.MethodName) prog_4_method_1_code (1 : Nat) (Option.none : Option Jvm.ClassFile.FieldType)) ∈ lw_all := lw_g (lw_at lw_m4 114 rfl) rfl
theorem q913 : (Jvm.Cond.methodLink "RosehipCircuits$Misspelled" (1 : Nat) ({ cls := "java/lang/Exception", name := "<init>", desc := "(Ljava/lang/String;Ljava/lang/Throwable;ZZ)V" } : Jvm.MethodName)) ∈ lw_all := lw_g (lw_at lw_m4 115 rfl) rfl
theorem q919 : (Jvm.Cond.lays "RosehipCircuits$Misspelled" "java/lang/Throwable" "depth" "I") ∈ lw_all := lw_g (lw_at lw_m4 121 rfl) rfl
theorem q920 : (Jvm.Cond.superclass "RosehipCircuits$Misspelled" "java/lang/Exception") ∈ lw_all := lw_g (lw_at lw_m4 122 rfl) rfl
theorem q2072 : (Jvm.Cond.castable "RosehipCircuits$Misspelled" "java/lang/Object") ∈ lw_tbl := lw_at lw_m9 74 rfl
theorem in_X5 : ∀ w ∈ wsX50, w ∈ lw_all := lw_in wsX50 [905, 906, 907, 908, 909, 919] (by decide +kernel) (by decide +kernel)
/-! RosehipCircuits$Order -/
set_option maxRecDepth 100000
def RX6 : String := "RosehipCircuits$Order"
def TX6 : u_T := fun k => match k with
  | 0 => ("RosehipCircuits$Order", "sign", "C", true)
  | 1 => ("RosehipCircuits$Order", "one", "I", true)
  | _ => ("RosehipCircuits$Order", "two", "I", true)
def tyX6 : Nat → FieldType := fun k => match k with
  | 0 => .char
  | 1 => .int
  | _ => .int
abbrev wsX60 : List Cond := u_ws RX6 TX6 3
theorem nmX6 : ∀ a, a < 3 → ∀ b, b < 3 → a ≠ b → (TX6 a).2.1 ≠ (TX6 b).2.1 := by decide +kernel
theorem tyX6_ok : ∀ k, k < 3 → parseFieldDescriptor (TX6 k).2.2.1 = some (tyX6 k) := by decide +kernel
abbrev cX6_init : ByteArray := prog_5_method_1_code
def yX6_init : MethodName := ⟨RX6, "<init>", "(CII)V"⟩
def dkwX6_init_0 : List UInt8 := [42, 183, 0, 1, 42, 27, 181, 0, 7, 42, 28, 181, 0, 13, 42, 29, 181, 0, 17, 177]
abbrev dktX6_init_0 : List UInt8 := dkwX6_init_0 ++ []
theorem dksX6_init_0 : cX6_init.data.toList.drop 0 = dktX6_init_0 := by decide +kernel
theorem dX6_init_0 : decode cX6_init 0 = .ok (.aload_n 0, 1) := dk_42 (dk_at dksX6_init_0 0 rfl rfl)
theorem dX6_init_1 : decode cX6_init 1 = .ok (.invokespecial 1, 3) := dk_183 0 1 (dk_at dksX6_init_0 1 rfl rfl)
theorem dX6_init_4 : decode cX6_init 4 = .ok (.aload_n 0, 1) := dk_42 (dk_at dksX6_init_0 4 rfl rfl)
theorem dX6_init_5 : decode cX6_init 5 = .ok (.iload_n 1, 1) := dk_27 (dk_at dksX6_init_0 5 rfl rfl)
theorem dX6_init_6 : decode cX6_init 6 = .ok (.putfield 7, 3) := dk_181 0 7 (dk_at dksX6_init_0 6 rfl rfl)
theorem dX6_init_9 : decode cX6_init 9 = .ok (.aload_n 0, 1) := dk_42 (dk_at dksX6_init_0 9 rfl rfl)
theorem dX6_init_10 : decode cX6_init 10 = .ok (.iload_n 2, 1) := dk_28 (dk_at dksX6_init_0 10 rfl rfl)
theorem dX6_init_11 : decode cX6_init 11 = .ok (.putfield 13, 3) := dk_181 0 13 (dk_at dksX6_init_0 11 rfl rfl)
theorem dX6_init_14 : decode cX6_init 14 = .ok (.aload_n 0, 1) := dk_42 (dk_at dksX6_init_0 14 rfl rfl)
theorem dX6_init_15 : decode cX6_init 15 = .ok (.iload_n 3, 1) := dk_29 (dk_at dksX6_init_0 15 rfl rfl)
theorem dX6_init_16 : decode cX6_init 16 = .ok (.putfield 17, 3) := dk_181 0 17 (dk_at dksX6_init_0 16 rfl rfl)
theorem dX6_init_19 : decode cX6_init 19 = .ok (.return_, 1) := dk_177 (dk_at dksX6_init_0 19 rfl rfl)
abbrev cX6_sign : ByteArray := prog_5_method_5_code
def yX6_sign : MethodName := ⟨RX6, "sign", "()C"⟩
theorem dX6_sign_0 : decode cX6_sign 0 = .ok (.aload_n 0, 1) := by decide +kernel
theorem dX6_sign_1 : decode cX6_sign 1 = .ok (.getfield 7, 3) := by decide +kernel
theorem dX6_sign_4 : decode cX6_sign 4 = .ok (.ireturn, 1) := by decide +kernel
abbrev cX6_one : ByteArray := prog_5_method_6_code
def yX6_one : MethodName := ⟨RX6, "one", "()I"⟩
theorem dX6_one_0 : decode cX6_one 0 = .ok (.aload_n 0, 1) := by decide +kernel
theorem dX6_one_1 : decode cX6_one 1 = .ok (.getfield 13, 3) := by decide +kernel
theorem dX6_one_4 : decode cX6_one 4 = .ok (.ireturn, 1) := by decide +kernel
abbrev cX6_two : ByteArray := prog_5_method_7_code
def yX6_two : MethodName := ⟨RX6, "two", "()I"⟩
theorem dX6_two_0 : decode cX6_two 0 = .ok (.aload_n 0, 1) := by decide +kernel
theorem dX6_two_1 : decode cX6_two 1 = .ok (.getfield 17, 3) := by decide +kernel
theorem dX6_two_4 : decode cX6_two 4 = .ok (.ireturn, 1) := by decide +kernel
theorem q111 : (Jvm.Cond.initialized "RosehipCircuits$Order") ∈ lw_all := lw_g (lw_at lw_m1 33 rfl) rfl
theorem q394 : (Jvm.Cond.selects "RosehipCircuits$Order" ({ cls := "java/lang/Object", name := "getClass", desc := "()Ljava/lang/Class;" } : Jvm.MethodName) ({ cls := "java/lang/Object", name := "getClass", desc := "()Ljava/lang/Class;" } : Jvm.MethodName)) ∈ lw_all := lw_g (lw_at lw_m2 76 rfl) rfl
theorem q929 : (Jvm.Cond.instantiable "RosehipCircuits$Order" (3 : Nat)) ∈ lw_all := lw_g (lw_at lw_m4 131 rfl) rfl
theorem q931 : (Jvm.Cond.instanceMethod ({ cls := "RosehipCircuits$Order", name := "<init>", desc := "(CII)V" } : Jvm.MethodName)) ∈ lw_all := lw_g (lw_at lw_m4 133 rfl) rfl
theorem q932 : (Jvm.Cond.code ({ cls := "RosehipCircuits$Order", name := "<init>", desc := "(CII)V" } : Jvm.MethodName) prog_5_method_1_code (4 : Nat) (Option.none : Option Jvm.ClassFile.FieldType)) ∈ lw_all := lw_g (lw_at lw_m4 134 rfl) rfl
theorem q933 : (Jvm.Cond.methodLink "RosehipCircuits$Order" (1 : Nat) ({ cls := "java/lang/Record", name := "<init>", desc := "()V" } : Jvm.MethodName)) ∈ lw_all := lw_g (lw_at lw_m4 135 rfl) rfl
theorem q937 : (Jvm.Cond.fieldLink "RosehipCircuits$Order" (7 : Nat) "RosehipCircuits$Order" "sign" "C") ∈ lw_all := lw_g (lw_at lw_m4 139 rfl) rfl
theorem q938 : (Jvm.Cond.fieldLink "RosehipCircuits$Order" (13 : Nat) "RosehipCircuits$Order" "one" "I") ∈ lw_all := lw_g (lw_at lw_m4 140 rfl) rfl
theorem q939 : (Jvm.Cond.fieldLink "RosehipCircuits$Order" (17 : Nat) "RosehipCircuits$Order" "two" "I") ∈ lw_all := lw_g (lw_at lw_m4 141 rfl) rfl
theorem q940 : (Jvm.Cond.laysFinal "RosehipCircuits$Order" "RosehipCircuits$Order" "sign" "C") ∈ lw_all := lw_g (lw_at lw_m4 142 rfl) rfl
theorem q941 : (Jvm.Cond.soleField "RosehipCircuits$Order" "sign") ∈ lw_all := lw_g (lw_at lw_m4 143 rfl) rfl
theorem q942 : (Jvm.Cond.laysFinal "RosehipCircuits$Order" "RosehipCircuits$Order" "one" "I") ∈ lw_all := lw_g (lw_at lw_m4 144 rfl) rfl
theorem q943 : (Jvm.Cond.soleField "RosehipCircuits$Order" "one") ∈ lw_all := lw_g (lw_at lw_m4 145 rfl) rfl
theorem q944 : (Jvm.Cond.laysFinal "RosehipCircuits$Order" "RosehipCircuits$Order" "two" "I") ∈ lw_all := lw_g (lw_at lw_m4 146 rfl) rfl
theorem q945 : (Jvm.Cond.soleField "RosehipCircuits$Order" "two") ∈ lw_all := lw_g (lw_at lw_m4 147 rfl) rfl
theorem q946 : (Jvm.Cond.superclass "RosehipCircuits$Order" "java/lang/Record") ∈ lw_all := lw_g (lw_at lw_m4 148 rfl) rfl
theorem q1402 : (Jvm.Cond.instanceMethod ({ cls := "RosehipCircuits$Order", name := "sign", desc := "()C" } : Jvm.MethodName)) ∈ lw_all := lw_g (lw_at lw_m6 124 rfl) rfl
theorem q1403 : (Jvm.Cond.selects "RosehipCircuits$Order" ({ cls := "RosehipCircuits$Order", name := "sign", desc := "()C" } : Jvm.MethodName) ({ cls := "RosehipCircuits$Order", name := "sign", desc := "()C" } : Jvm.MethodName)) ∈ lw_all := lw_g (lw_at lw_m6 125 rfl) rfl
theorem q1404 : (Jvm.Cond.code ({ cls := "RosehipCircuits$Order", name := "sign", desc := "()C" } : Jvm.MethodName) prog_5_method_5_code (1 : Nat) (Option.some Jvm.ClassFile.FieldType.char)) ∈ lw_all := lw_g (lw_at lw_m6 126 rfl) rfl
theorem q1407 : (Jvm.Cond.instanceMethod ({ cls := "RosehipCircuits$Order", name := "one", desc := "()I" } : Jvm.MethodName)) ∈ lw_all := lw_g (lw_at lw_m6 129 rfl) rfl
theorem q1408 : (Jvm.Cond.selects "RosehipCircuits$Order" ({ cls := "RosehipCircuits$Order", name := "one", desc := "()I" } : Jvm.MethodName) ({ cls := "RosehipCircuits$Order", name := "one", desc := "()I" } : Jvm.MethodName)) ∈ lw_all := lw_g (lw_at lw_m6 130 rfl) rfl
theorem q1409 : (Jvm.Cond.code ({ cls := "RosehipCircuits$Order", name := "one", desc := "()I" } : Jvm.MethodName) prog_5_method_6_code (1 : Nat) (Option.some Jvm.ClassFile.FieldType.int)) ∈ lw_all := lw_g (lw_at lw_m6 131 rfl) rfl
theorem q1411 : (Jvm.Cond.instanceMethod ({ cls := "RosehipCircuits$Order", name := "two", desc := "()I" } : Jvm.MethodName)) ∈ lw_all := lw_g (lw_at lw_m6 133 rfl) rfl
theorem q1412 : (Jvm.Cond.selects "RosehipCircuits$Order" ({ cls := "RosehipCircuits$Order", name := "two", desc := "()I" } : Jvm.MethodName) ({ cls := "RosehipCircuits$Order", name := "two", desc := "()I" } : Jvm.MethodName)) ∈ lw_all := lw_g (lw_at lw_m6 134 rfl) rfl
theorem q1413 : (Jvm.Cond.code ({ cls := "RosehipCircuits$Order", name := "two", desc := "()I" } : Jvm.MethodName) prog_5_method_7_code (1 : Nat) (Option.some Jvm.ClassFile.FieldType.int)) ∈ lw_all := lw_g (lw_at lw_m6 135 rfl) rfl
theorem q2073 : (Jvm.Cond.castable "RosehipCircuits$Order" "java/lang/Object") ∈ lw_tbl := lw_at lw_m9 75 rfl
theorem in_X6 : ∀ w ∈ wsX60, w ∈ lw_all := lw_in wsX60 [940, 942, 944] (by decide +kernel) (by decide +kernel)
/-! RosehipCircuits$Refused -/
set_option maxRecDepth 100000
def RX7 : String := "RosehipCircuits$Refused"
def TX7 : u_T := fun k => match k with
  | 0 => ("java/lang/Throwable", "cause", "Ljava/lang/Throwable;", false)
  | 1 => ("java/lang/Throwable", "stackTrace", "[Ljava/lang/StackTraceElement;", false)
  | 2 => ("java/lang/Throwable", "suppressedExceptions", "Ljava/util/List;", false)
  | 3 => ("java/lang/Throwable", "detailMessage", "Ljava/lang/String;", false)
  | 4 => ("java/lang/Throwable", "backtrace", "Ljava/lang/Object;", false)
  | _ => ("java/lang/Throwable", "depth", "I", false)
def tyX7 : Nat → FieldType := fun k => match k with
  | 0 => .object "java/lang/Throwable"
  | 1 => .array (.object "java/lang/StackTraceElement")
  | 2 => .object "java/util/List"
  | 3 => .object "java/lang/String"
  | 4 => .object "java/lang/Object"
  | _ => .int
abbrev wsX70 : List Cond := u_ws RX7 TX7 6
theorem nmX7 : ∀ a, a < 6 → ∀ b, b < 6 → a ≠ b → (TX7 a).2.1 ≠ (TX7 b).2.1 := by decide +kernel
theorem tyX7_ok : ∀ k, k < 6 → parseFieldDescriptor (TX7 k).2.2.1 = some (tyX7 k) := by decide +kernel
abbrev cX7_init : ByteArray := prog_7_method_1_code
def yX7_init : MethodName := ⟨RX7, "<init>", "(Ljava/lang/RuntimeException;)V"⟩
def dkwX7_init_0 : List UInt8 := [42, 1, 43, 3, 3, 183, 0, 1, 177]
abbrev dktX7_init_0 : List UInt8 := dkwX7_init_0 ++ []
theorem dksX7_init_0 : cX7_init.data.toList.drop 0 = dktX7_init_0 := by decide +kernel
theorem dX7_init_0 : decode cX7_init 0 = .ok (.aload_n 0, 1) := dk_42 (dk_at dksX7_init_0 0 rfl rfl)
theorem dX7_init_1 : decode cX7_init 1 = .ok (.aconst_null, 1) := dk_1 (dk_at dksX7_init_0 1 rfl rfl)
theorem dX7_init_2 : decode cX7_init 2 = .ok (.aload_n 1, 1) := dk_43 (dk_at dksX7_init_0 2 rfl rfl)
theorem dX7_init_3 : decode cX7_init 3 = .ok (.iconst 0, 1) := dk_3 (dk_at dksX7_init_0 3 rfl rfl)
theorem dX7_init_4 : decode cX7_init 4 = .ok (.iconst 0, 1) := dk_3 (dk_at dksX7_init_0 4 rfl rfl)
theorem dX7_init_5 : decode cX7_init 5 = .ok (.invokespecial 1, 3) := dk_183 0 1 (dk_at dksX7_init_0 5 rfl rfl)
theorem dX7_init_8 : decode cX7_init 8 = .ok (.return_, 1) := dk_177 (dk_at dksX7_init_0 8 rfl rfl)
theorem q113 : (Jvm.Cond.initialized "RosehipCircuits$Refused") ∈ lw_all := lw_g (lw_at lw_m1 35 rfl) rfl
theorem q347 : (Jvm.Cond.selects "RosehipCircuits$Refused" ({ cls := "java/lang/Throwable", name := "fillInStackTrace", desc := "()Ljava/lang/Throwable;" } : Jvm.MethodName) ({ cls := "java/lang/Throwable", name := "fillInStackTrace", desc := "()Ljava/lang/Throwable;" } : Jvm.MethodName)) ∈ lw_all := lw_g (lw_at lw_m2 29 rfl) rfl
theorem q396 : (Jvm.Cond.selects "RosehipCircuits$Refused" ({ cls := "java/lang/Object", name := "getClass", desc := "()Ljava/lang/Class;" } : Jvm.MethodName) ({ cls := "java/lang/Object", name := "getClass", desc := "()Ljava/lang/Class;" } : Jvm.MethodName)) ∈ lw_all := lw_g (lw_at lw_m2 78 rfl) rfl
theorem q1414 : (Jvm.Cond.instantiable "RosehipCircuits$Refused" (6 : Nat)) ∈ lw_all := lw_g (lw_at lw_m6 136 rfl) rfl
theorem q1415 : (Jvm.Cond.castable "RosehipCircuits$Refused" "RosehipCircuits$Refused") ∈ lw_tbl := lw_at lw_m6 137 rfl
theorem q1416 : (Jvm.Cond.selects "RosehipCircuits$Refused" ({ cls := "java/lang/Throwable", name := "fillInStackTrace", desc := "(I)Ljava/lang/Throwable;" } : Jvm.MethodName) ({ cls := "java/lang/Throwable", name := "fillInStackTrace", desc := "(I)Ljava/lang/Throwable;" } : Jvm.MethodName)) ∈ lw_all := lw_g (lw_at lw_m6 138 rfl) rfl
theorem q1417 : (Jvm.Cond.lays "RosehipCircuits$Refused" "java/lang/Throwable" "cause" "Ljava/lang/Throwable;") ∈ lw_all := lw_g (lw_at lw_m6 139 rfl) rfl
theorem q1418 : (Jvm.Cond.lays "RosehipCircuits$Refused" "java/lang/Throwable" "stackTrace" "[Ljava/lang/StackTraceElement;") ∈ lw_all := lw_g (lw_at lw_m6 140 rfl) rfl
theorem q1419 : (Jvm.Cond.lays "RosehipCircuits$Refused" "java/lang/Throwable" "suppressedExceptions" "Ljava/util/List;") ∈ lw_all := lw_g (lw_at lw_m6 141 rfl) rfl
theorem q1420 : (Jvm.Cond.lays "RosehipCircuits$Refused" "java/lang/Throwable" "detailMessage" "Ljava/lang/String;") ∈ lw_all := lw_g (lw_at lw_m6 142 rfl) rfl
theorem q1421 : (Jvm.Cond.lays "RosehipCircuits$Refused" "java/lang/Throwable" "backtrace" "Ljava/lang/Object;") ∈ lw_all := lw_g (lw_at lw_m6 143 rfl) rfl
theorem q1423 : (Jvm.Cond.instanceMethod ({ cls := "RosehipCircuits$Refused", name := "<init>", desc := "(Ljava/lang/RuntimeException;)V" } : Jvm.MethodName)) ∈ lw_all := lw_g (lw_at lw_m6 145 rfl) rfl
theorem q1424 : (Jvm.Cond.code ({ cls := "RosehipCircuits$Refused", name := "<init>", desc := "(Ljava/lang/RuntimeException;)V" } : Jvm.MethodName) prog_7_method_1_code (2 : Nat) (Option.none : Option Jvm.ClassFile.FieldType)) ∈ lw_all := lw_g (lw_at lw_m6 146 rfl) rfl
theorem q1425 : (Jvm.Cond.methodLink "RosehipCircuits$Refused" (1 : Nat) ({ cls := "java/lang/Exception", name := "<init>", desc := "(Ljava/lang/String;Ljava/lang/Throwable;ZZ)V" } : Jvm.MethodName)) ∈ lw_all := lw_g (lw_at lw_m6 147 rfl) rfl
theorem q1426 : (Jvm.Cond.lays "RosehipCircuits$Refused" "java/lang/Throwable" "depth" "I") ∈ lw_all := lw_g (lw_at lw_m6 148 rfl) rfl
theorem q1427 : (Jvm.Cond.superclass "RosehipCircuits$Refused" "java/lang/Exception") ∈ lw_all := lw_g (lw_at lw_m6 149 rfl) rfl
theorem q1429 : (Jvm.Cond.sameMethod "RosehipCircuits$Refused" "java/lang/Throwable" "getCause" "()Ljava/lang/Throwable;") ∈ lw_all := lw_g (lw_at lw_m6 151 rfl) rfl
theorem q1431 : (Jvm.Cond.selects "RosehipCircuits$Refused" ({ cls := "RosehipCircuits$Refused", name := "getCause", desc := "()Ljava/lang/Throwable;" } : Jvm.MethodName) ({ cls := "java/lang/Throwable", name := "getCause", desc := "()Ljava/lang/Throwable;" } : Jvm.MethodName)) ∈ lw_all := lw_g (lw_at lw_m6 153 rfl) rfl
theorem q2074 : (Jvm.Cond.castable "RosehipCircuits$Refused" "java/lang/Object") ∈ lw_tbl := lw_at lw_m9 76 rfl
theorem in_X7 : ∀ w ∈ wsX70, w ∈ lw_all := lw_in wsX70 [1417, 1418, 1419, 1420, 1421, 1426] (by decide +kernel) (by decide +kernel)
/-! RosehipCircuitsLaw -/
set_option maxRecDepth 100000
def RX0 : String := "RosehipCircuitsLaw"
abbrev cX0_addGate : ByteArray := method_3_code
def yX0_addGate : MethodName := ⟨RX0, "addGate", "(LRosehipCircuits;III[J)I"⟩
def dkwX0_addGate_1 : List UInt8 := [58, 5, 6, 172, 3, 172]
abbrev dktX0_addGate_1 : List UInt8 := dkwX0_addGate_1 ++ []
def dkwX0_addGate_0 : List UInt8 := [25, 4, 3, 42, 27, 28, 29, 182, 0, 7, 133, 80, 167, 0, 15, 58, 5, 4, 172, 58, 5, 5, 172]
abbrev dktX0_addGate_0 : List UInt8 := dkwX0_addGate_0 ++ dktX0_addGate_1
theorem dksX0_addGate_0 : cX0_addGate.data.toList.drop 0 = dktX0_addGate_0 := by decide +kernel
theorem dksX0_addGate_1 : cX0_addGate.data.toList.drop 23 = dktX0_addGate_1 := dk_seg dksX0_addGate_0 23 rfl rfl
theorem dX0_addGate_0 : decode cX0_addGate 0 = .ok (.aload 4, 2) := dk_25 4 (dk_at dksX0_addGate_0 0 rfl rfl)
theorem dX0_addGate_2 : decode cX0_addGate 2 = .ok (.iconst 0, 1) := dk_3 (dk_at dksX0_addGate_0 2 rfl rfl)
theorem dX0_addGate_3 : decode cX0_addGate 3 = .ok (.aload_n 0, 1) := dk_42 (dk_at dksX0_addGate_0 3 rfl rfl)
theorem dX0_addGate_4 : decode cX0_addGate 4 = .ok (.iload_n 1, 1) := dk_27 (dk_at dksX0_addGate_0 4 rfl rfl)
theorem dX0_addGate_5 : decode cX0_addGate 5 = .ok (.iload_n 2, 1) := dk_28 (dk_at dksX0_addGate_0 5 rfl rfl)
theorem dX0_addGate_6 : decode cX0_addGate 6 = .ok (.iload_n 3, 1) := dk_29 (dk_at dksX0_addGate_0 6 rfl rfl)
theorem dX0_addGate_7 : decode cX0_addGate 7 = .ok (.invokevirtual 7, 3) := dk_182 0 7 (dk_at dksX0_addGate_0 7 rfl rfl)
theorem dX0_addGate_10 : decode cX0_addGate 10 = .ok (.i2l, 1) := dk_133 (dk_at dksX0_addGate_0 10 rfl rfl)
theorem dX0_addGate_11 : decode cX0_addGate 11 = .ok (.lastore, 1) := dk_80 (dk_at dksX0_addGate_0 11 rfl rfl)
theorem dX0_addGate_12 : decode cX0_addGate 12 = .ok (.goto 15, 3) := dk_167 0 15 (dk_at dksX0_addGate_0 12 rfl rfl)
theorem dX0_addGate_15 : decode cX0_addGate 15 = .ok (.astore 5, 2) := dk_58 5 (dk_at dksX0_addGate_0 15 rfl rfl)
theorem dX0_addGate_17 : decode cX0_addGate 17 = .ok (.iconst 1, 1) := dk_4 (dk_at dksX0_addGate_0 17 rfl rfl)
theorem dX0_addGate_18 : decode cX0_addGate 18 = .ok (.ireturn, 1) := dk_172 (dk_at dksX0_addGate_0 18 rfl rfl)
theorem dX0_addGate_19 : decode cX0_addGate 19 = .ok (.astore 5, 2) := dk_58 5 (dk_at dksX0_addGate_0 19 rfl rfl)
theorem dX0_addGate_21 : decode cX0_addGate 21 = .ok (.iconst 2, 1) := dk_5 (dk_at dksX0_addGate_0 21 rfl rfl)
theorem dX0_addGate_22 : decode cX0_addGate 22 = .ok (.ireturn, 1) := dk_172 (dk_at dksX0_addGate_0 22 rfl rfl)
theorem dX0_addGate_23 : decode cX0_addGate 23 = .ok (.astore 5, 2) := dk_58 5 (dk_at dksX0_addGate_1 0 rfl rfl)
theorem dX0_addGate_25 : decode cX0_addGate 25 = .ok (.iconst 3, 1) := dk_6 (dk_at dksX0_addGate_1 2 rfl rfl)
theorem dX0_addGate_26 : decode cX0_addGate 26 = .ok (.ireturn, 1) := dk_172 (dk_at dksX0_addGate_1 3 rfl rfl)
theorem dX0_addGate_27 : decode cX0_addGate 27 = .ok (.iconst 0, 1) := dk_3 (dk_at dksX0_addGate_1 4 rfl rfl)
theorem dX0_addGate_28 : decode cX0_addGate 28 = .ok (.ireturn, 1) := dk_172 (dk_at dksX0_addGate_1 5 rfl rfl)
abbrev cX0_dropGate : ByteArray := method_4_code
def yX0_dropGate : MethodName := ⟨RX0, "dropGate", "(LRosehipCircuits;[J)I"⟩
def dkwX0_dropGate_0 : List UInt8 := [43, 3, 42, 182, 0, 19, 133, 80, 167, 0, 6, 77, 4, 172, 3, 172]
abbrev dktX0_dropGate_0 : List UInt8 := dkwX0_dropGate_0 ++ []
theorem dksX0_dropGate_0 : cX0_dropGate.data.toList.drop 0 = dktX0_dropGate_0 := by decide +kernel
theorem dX0_dropGate_0 : decode cX0_dropGate 0 = .ok (.aload_n 1, 1) := dk_43 (dk_at dksX0_dropGate_0 0 rfl rfl)
theorem dX0_dropGate_1 : decode cX0_dropGate 1 = .ok (.iconst 0, 1) := dk_3 (dk_at dksX0_dropGate_0 1 rfl rfl)
theorem dX0_dropGate_2 : decode cX0_dropGate 2 = .ok (.aload_n 0, 1) := dk_42 (dk_at dksX0_dropGate_0 2 rfl rfl)
theorem dX0_dropGate_3 : decode cX0_dropGate 3 = .ok (.invokevirtual 19, 3) := dk_182 0 19 (dk_at dksX0_dropGate_0 3 rfl rfl)
theorem dX0_dropGate_6 : decode cX0_dropGate 6 = .ok (.i2l, 1) := dk_133 (dk_at dksX0_dropGate_0 6 rfl rfl)
theorem dX0_dropGate_7 : decode cX0_dropGate 7 = .ok (.lastore, 1) := dk_80 (dk_at dksX0_dropGate_0 7 rfl rfl)
theorem dX0_dropGate_8 : decode cX0_dropGate 8 = .ok (.goto 6, 3) := dk_167 0 6 (dk_at dksX0_dropGate_0 8 rfl rfl)
theorem dX0_dropGate_11 : decode cX0_dropGate 11 = .ok (.astore_n 2, 1) := dk_77 (dk_at dksX0_dropGate_0 11 rfl rfl)
theorem dX0_dropGate_12 : decode cX0_dropGate 12 = .ok (.iconst 1, 1) := dk_4 (dk_at dksX0_dropGate_0 12 rfl rfl)
theorem dX0_dropGate_13 : decode cX0_dropGate 13 = .ok (.ireturn, 1) := dk_172 (dk_at dksX0_dropGate_0 13 rfl rfl)
theorem dX0_dropGate_14 : decode cX0_dropGate 14 = .ok (.iconst 0, 1) := dk_3 (dk_at dksX0_dropGate_0 14 rfl rfl)
theorem dX0_dropGate_15 : decode cX0_dropGate 15 = .ok (.ireturn, 1) := dk_172 (dk_at dksX0_dropGate_0 15 rfl rfl)
abbrev cX0_setKind : ByteArray := method_5_code
def yX0_setKind : MethodName := ⟨RX0, "setKind", "(LRosehipCircuits;II[J)I"⟩
def dkwX0_setKind_1 : List UInt8 := [172, 3, 172]
abbrev dktX0_setKind_1 : List UInt8 := dkwX0_setKind_1 ++ []
def dkwX0_setKind_0 : List UInt8 := [45, 3, 42, 27, 28, 182, 0, 23, 133, 80, 167, 0, 15, 58, 4, 4, 172, 58, 4, 5, 172, 58, 4, 6]
abbrev dktX0_setKind_0 : List UInt8 := dkwX0_setKind_0 ++ dktX0_setKind_1
theorem dksX0_setKind_0 : cX0_setKind.data.toList.drop 0 = dktX0_setKind_0 := by decide +kernel
theorem dksX0_setKind_1 : cX0_setKind.data.toList.drop 24 = dktX0_setKind_1 := dk_seg dksX0_setKind_0 24 rfl rfl
theorem dX0_setKind_0 : decode cX0_setKind 0 = .ok (.aload_n 3, 1) := dk_45 (dk_at dksX0_setKind_0 0 rfl rfl)
theorem dX0_setKind_1 : decode cX0_setKind 1 = .ok (.iconst 0, 1) := dk_3 (dk_at dksX0_setKind_0 1 rfl rfl)
theorem dX0_setKind_2 : decode cX0_setKind 2 = .ok (.aload_n 0, 1) := dk_42 (dk_at dksX0_setKind_0 2 rfl rfl)
theorem dX0_setKind_3 : decode cX0_setKind 3 = .ok (.iload_n 1, 1) := dk_27 (dk_at dksX0_setKind_0 3 rfl rfl)
theorem dX0_setKind_4 : decode cX0_setKind 4 = .ok (.iload_n 2, 1) := dk_28 (dk_at dksX0_setKind_0 4 rfl rfl)
theorem dX0_setKind_5 : decode cX0_setKind 5 = .ok (.invokevirtual 23, 3) := dk_182 0 23 (dk_at dksX0_setKind_0 5 rfl rfl)
theorem dX0_setKind_8 : decode cX0_setKind 8 = .ok (.i2l, 1) := dk_133 (dk_at dksX0_setKind_0 8 rfl rfl)
theorem dX0_setKind_9 : decode cX0_setKind 9 = .ok (.lastore, 1) := dk_80 (dk_at dksX0_setKind_0 9 rfl rfl)
theorem dX0_setKind_10 : decode cX0_setKind 10 = .ok (.goto 15, 3) := dk_167 0 15 (dk_at dksX0_setKind_0 10 rfl rfl)
theorem dX0_setKind_13 : decode cX0_setKind 13 = .ok (.astore 4, 2) := dk_58 4 (dk_at dksX0_setKind_0 13 rfl rfl)
theorem dX0_setKind_15 : decode cX0_setKind 15 = .ok (.iconst 1, 1) := dk_4 (dk_at dksX0_setKind_0 15 rfl rfl)
theorem dX0_setKind_16 : decode cX0_setKind 16 = .ok (.ireturn, 1) := dk_172 (dk_at dksX0_setKind_0 16 rfl rfl)
theorem dX0_setKind_17 : decode cX0_setKind 17 = .ok (.astore 4, 2) := dk_58 4 (dk_at dksX0_setKind_0 17 rfl rfl)
theorem dX0_setKind_19 : decode cX0_setKind 19 = .ok (.iconst 2, 1) := dk_5 (dk_at dksX0_setKind_0 19 rfl rfl)
theorem dX0_setKind_20 : decode cX0_setKind 20 = .ok (.ireturn, 1) := dk_172 (dk_at dksX0_setKind_0 20 rfl rfl)
theorem dX0_setKind_21 : decode cX0_setKind 21 = .ok (.astore 4, 2) := dk_58 4 (dk_at dksX0_setKind_0 21 rfl rfl)
theorem dX0_setKind_23 : decode cX0_setKind 23 = .ok (.iconst 3, 1) := dk_6 (dk_at dksX0_setKind_0 23 rfl rfl)
theorem dX0_setKind_24 : decode cX0_setKind 24 = .ok (.ireturn, 1) := dk_172 (dk_at dksX0_setKind_1 0 rfl rfl)
theorem dX0_setKind_25 : decode cX0_setKind 25 = .ok (.iconst 0, 1) := dk_3 (dk_at dksX0_setKind_1 1 rfl rfl)
theorem dX0_setKind_26 : decode cX0_setKind 26 = .ok (.ireturn, 1) := dk_172 (dk_at dksX0_setKind_1 2 rfl rfl)
abbrev cX0_setSource : ByteArray := method_6_code
def yX0_setSource : MethodName := ⟨RX0, "setSource", "(LRosehipCircuits;III[J)I"⟩
def dkwX0_setSource_1 : List UInt8 := [172]
abbrev dktX0_setSource_1 : List UInt8 := dkwX0_setSource_1 ++ []
def dkwX0_setSource_0 : List UInt8 := [25, 4, 3, 42, 27, 28, 29, 182, 0, 27, 133, 80, 167, 0, 11, 58, 5, 4, 172, 58, 5, 5, 172, 3]
abbrev dktX0_setSource_0 : List UInt8 := dkwX0_setSource_0 ++ dktX0_setSource_1
theorem dksX0_setSource_0 : cX0_setSource.data.toList.drop 0 = dktX0_setSource_0 := by decide +kernel
theorem dksX0_setSource_1 : cX0_setSource.data.toList.drop 24 = dktX0_setSource_1 := dk_seg dksX0_setSource_0 24 rfl rfl
theorem dX0_setSource_0 : decode cX0_setSource 0 = .ok (.aload 4, 2) := dk_25 4 (dk_at dksX0_setSource_0 0 rfl rfl)
theorem dX0_setSource_2 : decode cX0_setSource 2 = .ok (.iconst 0, 1) := dk_3 (dk_at dksX0_setSource_0 2 rfl rfl)
theorem dX0_setSource_3 : decode cX0_setSource 3 = .ok (.aload_n 0, 1) := dk_42 (dk_at dksX0_setSource_0 3 rfl rfl)
theorem dX0_setSource_4 : decode cX0_setSource 4 = .ok (.iload_n 1, 1) := dk_27 (dk_at dksX0_setSource_0 4 rfl rfl)
theorem dX0_setSource_5 : decode cX0_setSource 5 = .ok (.iload_n 2, 1) := dk_28 (dk_at dksX0_setSource_0 5 rfl rfl)
theorem dX0_setSource_6 : decode cX0_setSource 6 = .ok (.iload_n 3, 1) := dk_29 (dk_at dksX0_setSource_0 6 rfl rfl)
theorem dX0_setSource_7 : decode cX0_setSource 7 = .ok (.invokevirtual 27, 3) := dk_182 0 27 (dk_at dksX0_setSource_0 7 rfl rfl)
theorem dX0_setSource_10 : decode cX0_setSource 10 = .ok (.i2l, 1) := dk_133 (dk_at dksX0_setSource_0 10 rfl rfl)
theorem dX0_setSource_11 : decode cX0_setSource 11 = .ok (.lastore, 1) := dk_80 (dk_at dksX0_setSource_0 11 rfl rfl)
theorem dX0_setSource_12 : decode cX0_setSource 12 = .ok (.goto 11, 3) := dk_167 0 11 (dk_at dksX0_setSource_0 12 rfl rfl)
theorem dX0_setSource_15 : decode cX0_setSource 15 = .ok (.astore 5, 2) := dk_58 5 (dk_at dksX0_setSource_0 15 rfl rfl)
theorem dX0_setSource_17 : decode cX0_setSource 17 = .ok (.iconst 1, 1) := dk_4 (dk_at dksX0_setSource_0 17 rfl rfl)
theorem dX0_setSource_18 : decode cX0_setSource 18 = .ok (.ireturn, 1) := dk_172 (dk_at dksX0_setSource_0 18 rfl rfl)
theorem dX0_setSource_19 : decode cX0_setSource 19 = .ok (.astore 5, 2) := dk_58 5 (dk_at dksX0_setSource_0 19 rfl rfl)
theorem dX0_setSource_21 : decode cX0_setSource 21 = .ok (.iconst 2, 1) := dk_5 (dk_at dksX0_setSource_0 21 rfl rfl)
theorem dX0_setSource_22 : decode cX0_setSource 22 = .ok (.ireturn, 1) := dk_172 (dk_at dksX0_setSource_0 22 rfl rfl)
theorem dX0_setSource_23 : decode cX0_setSource 23 = .ok (.iconst 0, 1) := dk_3 (dk_at dksX0_setSource_0 23 rfl rfl)
theorem dX0_setSource_24 : decode cX0_setSource 24 = .ok (.ireturn, 1) := dk_172 (dk_at dksX0_setSource_1 0 rfl rfl)
abbrev cX0_turnOutput : ByteArray := method_7_code
def yX0_turnOutput : MethodName := ⟨RX0, "turnOutput", "(LRosehipCircuits;I[J)I"⟩
def dkwX0_turnOutput_0 : List UInt8 := [44, 3, 42, 27, 182, 0, 30, 133, 80, 167, 0, 9, 78, 4, 172, 78, 5, 172, 3, 172]
abbrev dktX0_turnOutput_0 : List UInt8 := dkwX0_turnOutput_0 ++ []
theorem dksX0_turnOutput_0 : cX0_turnOutput.data.toList.drop 0 = dktX0_turnOutput_0 := by decide +kernel
theorem dX0_turnOutput_0 : decode cX0_turnOutput 0 = .ok (.aload_n 2, 1) := dk_44 (dk_at dksX0_turnOutput_0 0 rfl rfl)
theorem dX0_turnOutput_1 : decode cX0_turnOutput 1 = .ok (.iconst 0, 1) := dk_3 (dk_at dksX0_turnOutput_0 1 rfl rfl)
theorem dX0_turnOutput_2 : decode cX0_turnOutput 2 = .ok (.aload_n 0, 1) := dk_42 (dk_at dksX0_turnOutput_0 2 rfl rfl)
theorem dX0_turnOutput_3 : decode cX0_turnOutput 3 = .ok (.iload_n 1, 1) := dk_27 (dk_at dksX0_turnOutput_0 3 rfl rfl)
theorem dX0_turnOutput_4 : decode cX0_turnOutput 4 = .ok (.invokevirtual 30, 3) := dk_182 0 30 (dk_at dksX0_turnOutput_0 4 rfl rfl)
theorem dX0_turnOutput_7 : decode cX0_turnOutput 7 = .ok (.i2l, 1) := dk_133 (dk_at dksX0_turnOutput_0 7 rfl rfl)
theorem dX0_turnOutput_8 : decode cX0_turnOutput 8 = .ok (.lastore, 1) := dk_80 (dk_at dksX0_turnOutput_0 8 rfl rfl)
theorem dX0_turnOutput_9 : decode cX0_turnOutput 9 = .ok (.goto 9, 3) := dk_167 0 9 (dk_at dksX0_turnOutput_0 9 rfl rfl)
theorem dX0_turnOutput_12 : decode cX0_turnOutput 12 = .ok (.astore_n 3, 1) := dk_78 (dk_at dksX0_turnOutput_0 12 rfl rfl)
theorem dX0_turnOutput_13 : decode cX0_turnOutput 13 = .ok (.iconst 1, 1) := dk_4 (dk_at dksX0_turnOutput_0 13 rfl rfl)
theorem dX0_turnOutput_14 : decode cX0_turnOutput 14 = .ok (.ireturn, 1) := dk_172 (dk_at dksX0_turnOutput_0 14 rfl rfl)
theorem dX0_turnOutput_15 : decode cX0_turnOutput 15 = .ok (.astore_n 3, 1) := dk_78 (dk_at dksX0_turnOutput_0 15 rfl rfl)
theorem dX0_turnOutput_16 : decode cX0_turnOutput 16 = .ok (.iconst 2, 1) := dk_5 (dk_at dksX0_turnOutput_0 16 rfl rfl)
theorem dX0_turnOutput_17 : decode cX0_turnOutput 17 = .ok (.ireturn, 1) := dk_172 (dk_at dksX0_turnOutput_0 17 rfl rfl)
theorem dX0_turnOutput_18 : decode cX0_turnOutput 18 = .ok (.iconst 0, 1) := dk_3 (dk_at dksX0_turnOutput_0 18 rfl rfl)
theorem dX0_turnOutput_19 : decode cX0_turnOutput 19 = .ok (.ireturn, 1) := dk_172 (dk_at dksX0_turnOutput_0 19 rfl rfl)
abbrev cX0_turnBox : ByteArray := method_8_code
def yX0_turnBox : MethodName := ⟨RX0, "turnBox", "(LRosehipCircuits;I[J)I"⟩
def dkwX0_turnBox_0 : List UInt8 := [44, 3, 42, 27, 182, 0, 34, 133, 80, 167, 0, 9, 78, 4, 172, 78, 5, 172, 3, 172]
abbrev dktX0_turnBox_0 : List UInt8 := dkwX0_turnBox_0 ++ []
theorem dksX0_turnBox_0 : cX0_turnBox.data.toList.drop 0 = dktX0_turnBox_0 := by decide +kernel
theorem dX0_turnBox_0 : decode cX0_turnBox 0 = .ok (.aload_n 2, 1) := dk_44 (dk_at dksX0_turnBox_0 0 rfl rfl)
theorem dX0_turnBox_1 : decode cX0_turnBox 1 = .ok (.iconst 0, 1) := dk_3 (dk_at dksX0_turnBox_0 1 rfl rfl)
theorem dX0_turnBox_2 : decode cX0_turnBox 2 = .ok (.aload_n 0, 1) := dk_42 (dk_at dksX0_turnBox_0 2 rfl rfl)
theorem dX0_turnBox_3 : decode cX0_turnBox 3 = .ok (.iload_n 1, 1) := dk_27 (dk_at dksX0_turnBox_0 3 rfl rfl)
theorem dX0_turnBox_4 : decode cX0_turnBox 4 = .ok (.invokevirtual 34, 3) := dk_182 0 34 (dk_at dksX0_turnBox_0 4 rfl rfl)
theorem dX0_turnBox_7 : decode cX0_turnBox 7 = .ok (.i2l, 1) := dk_133 (dk_at dksX0_turnBox_0 7 rfl rfl)
theorem dX0_turnBox_8 : decode cX0_turnBox 8 = .ok (.lastore, 1) := dk_80 (dk_at dksX0_turnBox_0 8 rfl rfl)
theorem dX0_turnBox_9 : decode cX0_turnBox 9 = .ok (.goto 9, 3) := dk_167 0 9 (dk_at dksX0_turnBox_0 9 rfl rfl)
theorem dX0_turnBox_12 : decode cX0_turnBox 12 = .ok (.astore_n 3, 1) := dk_78 (dk_at dksX0_turnBox_0 12 rfl rfl)
theorem dX0_turnBox_13 : decode cX0_turnBox 13 = .ok (.iconst 1, 1) := dk_4 (dk_at dksX0_turnBox_0 13 rfl rfl)
theorem dX0_turnBox_14 : decode cX0_turnBox 14 = .ok (.ireturn, 1) := dk_172 (dk_at dksX0_turnBox_0 14 rfl rfl)
theorem dX0_turnBox_15 : decode cX0_turnBox 15 = .ok (.astore_n 3, 1) := dk_78 (dk_at dksX0_turnBox_0 15 rfl rfl)
theorem dX0_turnBox_16 : decode cX0_turnBox 16 = .ok (.iconst 2, 1) := dk_5 (dk_at dksX0_turnBox_0 16 rfl rfl)
theorem dX0_turnBox_17 : decode cX0_turnBox 17 = .ok (.ireturn, 1) := dk_172 (dk_at dksX0_turnBox_0 17 rfl rfl)
theorem dX0_turnBox_18 : decode cX0_turnBox 18 = .ok (.iconst 0, 1) := dk_3 (dk_at dksX0_turnBox_0 18 rfl rfl)
theorem dX0_turnBox_19 : decode cX0_turnBox 19 = .ok (.ireturn, 1) := dk_172 (dk_at dksX0_turnBox_0 19 rfl rfl)
abbrev cX0_setSecret : ByteArray := method_9_code
def yX0_setSecret : MethodName := ⟨RX0, "setSecret", "(LRosehipCircuits;I[J)I"⟩
def dkwX0_setSecret_0 : List UInt8 := [44, 3, 42, 27, 182, 0, 37, 133, 80, 167, 0, 6, 78, 4, 172, 3, 172]
abbrev dktX0_setSecret_0 : List UInt8 := dkwX0_setSecret_0 ++ []
theorem dksX0_setSecret_0 : cX0_setSecret.data.toList.drop 0 = dktX0_setSecret_0 := by decide +kernel
theorem dX0_setSecret_0 : decode cX0_setSecret 0 = .ok (.aload_n 2, 1) := dk_44 (dk_at dksX0_setSecret_0 0 rfl rfl)
theorem dX0_setSecret_1 : decode cX0_setSecret 1 = .ok (.iconst 0, 1) := dk_3 (dk_at dksX0_setSecret_0 1 rfl rfl)
theorem dX0_setSecret_2 : decode cX0_setSecret 2 = .ok (.aload_n 0, 1) := dk_42 (dk_at dksX0_setSecret_0 2 rfl rfl)
theorem dX0_setSecret_3 : decode cX0_setSecret 3 = .ok (.iload_n 1, 1) := dk_27 (dk_at dksX0_setSecret_0 3 rfl rfl)
theorem dX0_setSecret_4 : decode cX0_setSecret 4 = .ok (.invokevirtual 37, 3) := dk_182 0 37 (dk_at dksX0_setSecret_0 4 rfl rfl)
theorem dX0_setSecret_7 : decode cX0_setSecret 7 = .ok (.i2l, 1) := dk_133 (dk_at dksX0_setSecret_0 7 rfl rfl)
theorem dX0_setSecret_8 : decode cX0_setSecret 8 = .ok (.lastore, 1) := dk_80 (dk_at dksX0_setSecret_0 8 rfl rfl)
theorem dX0_setSecret_9 : decode cX0_setSecret 9 = .ok (.goto 6, 3) := dk_167 0 6 (dk_at dksX0_setSecret_0 9 rfl rfl)
theorem dX0_setSecret_12 : decode cX0_setSecret 12 = .ok (.astore_n 3, 1) := dk_78 (dk_at dksX0_setSecret_0 12 rfl rfl)
theorem dX0_setSecret_13 : decode cX0_setSecret 13 = .ok (.iconst 1, 1) := dk_4 (dk_at dksX0_setSecret_0 13 rfl rfl)
theorem dX0_setSecret_14 : decode cX0_setSecret 14 = .ok (.ireturn, 1) := dk_172 (dk_at dksX0_setSecret_0 14 rfl rfl)
theorem dX0_setSecret_15 : decode cX0_setSecret 15 = .ok (.iconst 0, 1) := dk_3 (dk_at dksX0_setSecret_0 15 rfl rfl)
theorem dX0_setSecret_16 : decode cX0_setSecret 16 = .ok (.ireturn, 1) := dk_172 (dk_at dksX0_setSecret_0 16 rfl rfl)
abbrev cX0_ask : ByteArray := method_10_code
def yX0_ask : MethodName := ⟨RX0, "ask", "(LRosehipCircuits;I[J)I"⟩
def dkwX0_ask_0 : List UInt8 := [44, 3, 42, 27, 182, 0, 40, 133, 80, 167, 0, 9, 78, 4, 172, 78, 5, 172, 3, 172]
abbrev dktX0_ask_0 : List UInt8 := dkwX0_ask_0 ++ []
theorem dksX0_ask_0 : cX0_ask.data.toList.drop 0 = dktX0_ask_0 := by decide +kernel
theorem dX0_ask_0 : decode cX0_ask 0 = .ok (.aload_n 2, 1) := dk_44 (dk_at dksX0_ask_0 0 rfl rfl)
theorem dX0_ask_1 : decode cX0_ask 1 = .ok (.iconst 0, 1) := dk_3 (dk_at dksX0_ask_0 1 rfl rfl)
theorem dX0_ask_2 : decode cX0_ask 2 = .ok (.aload_n 0, 1) := dk_42 (dk_at dksX0_ask_0 2 rfl rfl)
theorem dX0_ask_3 : decode cX0_ask 3 = .ok (.iload_n 1, 1) := dk_27 (dk_at dksX0_ask_0 3 rfl rfl)
theorem dX0_ask_4 : decode cX0_ask 4 = .ok (.invokevirtual 40, 3) := dk_182 0 40 (dk_at dksX0_ask_0 4 rfl rfl)
theorem dX0_ask_7 : decode cX0_ask 7 = .ok (.i2l, 1) := dk_133 (dk_at dksX0_ask_0 7 rfl rfl)
theorem dX0_ask_8 : decode cX0_ask 8 = .ok (.lastore, 1) := dk_80 (dk_at dksX0_ask_0 8 rfl rfl)
theorem dX0_ask_9 : decode cX0_ask 9 = .ok (.goto 9, 3) := dk_167 0 9 (dk_at dksX0_ask_0 9 rfl rfl)
theorem dX0_ask_12 : decode cX0_ask 12 = .ok (.astore_n 3, 1) := dk_78 (dk_at dksX0_ask_0 12 rfl rfl)
theorem dX0_ask_13 : decode cX0_ask 13 = .ok (.iconst 1, 1) := dk_4 (dk_at dksX0_ask_0 13 rfl rfl)
theorem dX0_ask_14 : decode cX0_ask 14 = .ok (.ireturn, 1) := dk_172 (dk_at dksX0_ask_0 14 rfl rfl)
theorem dX0_ask_15 : decode cX0_ask 15 = .ok (.astore_n 3, 1) := dk_78 (dk_at dksX0_ask_0 15 rfl rfl)
theorem dX0_ask_16 : decode cX0_ask 16 = .ok (.iconst 2, 1) := dk_5 (dk_at dksX0_ask_0 16 rfl rfl)
theorem dX0_ask_17 : decode cX0_ask 17 = .ok (.ireturn, 1) := dk_172 (dk_at dksX0_ask_0 17 rfl rfl)
theorem dX0_ask_18 : decode cX0_ask 18 = .ok (.iconst 0, 1) := dk_3 (dk_at dksX0_ask_0 18 rfl rfl)
theorem dX0_ask_19 : decode cX0_ask 19 = .ok (.ireturn, 1) := dk_172 (dk_at dksX0_ask_0 19 rfl rfl)
abbrev cX0_askBest : ByteArray := method_11_code
def yX0_askBest : MethodName := ⟨RX0, "askBest", "(LRosehipCircuits;I[J)I"⟩
def dkwX0_askBest_0 : List UInt8 := [44, 3, 42, 27, 182, 0, 43, 133, 80, 167, 0, 6, 78, 4, 172, 3, 172]
abbrev dktX0_askBest_0 : List UInt8 := dkwX0_askBest_0 ++ []
theorem dksX0_askBest_0 : cX0_askBest.data.toList.drop 0 = dktX0_askBest_0 := by decide +kernel
theorem dX0_askBest_0 : decode cX0_askBest 0 = .ok (.aload_n 2, 1) := dk_44 (dk_at dksX0_askBest_0 0 rfl rfl)
theorem dX0_askBest_1 : decode cX0_askBest 1 = .ok (.iconst 0, 1) := dk_3 (dk_at dksX0_askBest_0 1 rfl rfl)
theorem dX0_askBest_2 : decode cX0_askBest 2 = .ok (.aload_n 0, 1) := dk_42 (dk_at dksX0_askBest_0 2 rfl rfl)
theorem dX0_askBest_3 : decode cX0_askBest 3 = .ok (.iload_n 1, 1) := dk_27 (dk_at dksX0_askBest_0 3 rfl rfl)
theorem dX0_askBest_4 : decode cX0_askBest 4 = .ok (.invokevirtual 43, 3) := dk_182 0 43 (dk_at dksX0_askBest_0 4 rfl rfl)
theorem dX0_askBest_7 : decode cX0_askBest 7 = .ok (.i2l, 1) := dk_133 (dk_at dksX0_askBest_0 7 rfl rfl)
theorem dX0_askBest_8 : decode cX0_askBest 8 = .ok (.lastore, 1) := dk_80 (dk_at dksX0_askBest_0 8 rfl rfl)
theorem dX0_askBest_9 : decode cX0_askBest 9 = .ok (.goto 6, 3) := dk_167 0 6 (dk_at dksX0_askBest_0 9 rfl rfl)
theorem dX0_askBest_12 : decode cX0_askBest 12 = .ok (.astore_n 3, 1) := dk_78 (dk_at dksX0_askBest_0 12 rfl rfl)
theorem dX0_askBest_13 : decode cX0_askBest 13 = .ok (.iconst 1, 1) := dk_4 (dk_at dksX0_askBest_0 13 rfl rfl)
theorem dX0_askBest_14 : decode cX0_askBest 14 = .ok (.ireturn, 1) := dk_172 (dk_at dksX0_askBest_0 14 rfl rfl)
theorem dX0_askBest_15 : decode cX0_askBest 15 = .ok (.iconst 0, 1) := dk_3 (dk_at dksX0_askBest_0 15 rfl rfl)
theorem dX0_askBest_16 : decode cX0_askBest 16 = .ok (.ireturn, 1) := dk_172 (dk_at dksX0_askBest_0 16 rfl rfl)
abbrev cX0_append : ByteArray := method_12_code
def yX0_append : MethodName := ⟨RX0, "append", "(LRosehipCircuits;I[J)I"⟩
def dkwX0_append_0 : List UInt8 := [44, 3, 42, 27, 182, 0, 46, 133, 80, 167, 0, 9, 78, 4, 172, 78, 5, 172, 3, 172]
abbrev dktX0_append_0 : List UInt8 := dkwX0_append_0 ++ []
theorem dksX0_append_0 : cX0_append.data.toList.drop 0 = dktX0_append_0 := by decide +kernel
theorem dX0_append_0 : decode cX0_append 0 = .ok (.aload_n 2, 1) := dk_44 (dk_at dksX0_append_0 0 rfl rfl)
theorem dX0_append_1 : decode cX0_append 1 = .ok (.iconst 0, 1) := dk_3 (dk_at dksX0_append_0 1 rfl rfl)
theorem dX0_append_2 : decode cX0_append 2 = .ok (.aload_n 0, 1) := dk_42 (dk_at dksX0_append_0 2 rfl rfl)
theorem dX0_append_3 : decode cX0_append 3 = .ok (.iload_n 1, 1) := dk_27 (dk_at dksX0_append_0 3 rfl rfl)
theorem dX0_append_4 : decode cX0_append 4 = .ok (.invokevirtual 46, 3) := dk_182 0 46 (dk_at dksX0_append_0 4 rfl rfl)
theorem dX0_append_7 : decode cX0_append 7 = .ok (.i2l, 1) := dk_133 (dk_at dksX0_append_0 7 rfl rfl)
theorem dX0_append_8 : decode cX0_append 8 = .ok (.lastore, 1) := dk_80 (dk_at dksX0_append_0 8 rfl rfl)
theorem dX0_append_9 : decode cX0_append 9 = .ok (.goto 9, 3) := dk_167 0 9 (dk_at dksX0_append_0 9 rfl rfl)
theorem dX0_append_12 : decode cX0_append 12 = .ok (.astore_n 3, 1) := dk_78 (dk_at dksX0_append_0 12 rfl rfl)
theorem dX0_append_13 : decode cX0_append 13 = .ok (.iconst 1, 1) := dk_4 (dk_at dksX0_append_0 13 rfl rfl)
theorem dX0_append_14 : decode cX0_append 14 = .ok (.ireturn, 1) := dk_172 (dk_at dksX0_append_0 14 rfl rfl)
theorem dX0_append_15 : decode cX0_append 15 = .ok (.astore_n 3, 1) := dk_78 (dk_at dksX0_append_0 15 rfl rfl)
theorem dX0_append_16 : decode cX0_append 16 = .ok (.iconst 2, 1) := dk_5 (dk_at dksX0_append_0 16 rfl rfl)
theorem dX0_append_17 : decode cX0_append 17 = .ok (.ireturn, 1) := dk_172 (dk_at dksX0_append_0 17 rfl rfl)
theorem dX0_append_18 : decode cX0_append 18 = .ok (.iconst 0, 1) := dk_3 (dk_at dksX0_append_0 18 rfl rfl)
theorem dX0_append_19 : decode cX0_append 19 = .ok (.ireturn, 1) := dk_172 (dk_at dksX0_append_0 19 rfl rfl)
abbrev cX0_run : ByteArray := method_13_code
def yX0_run : MethodName := ⟨RX0, "run", "(LRosehipCircuits;[J)I"⟩
def dkwX0_run_0 : List UInt8 := [43, 3, 42, 182, 0, 49, 133, 80, 167, 0, 6, 77, 4, 172, 3, 172]
abbrev dktX0_run_0 : List UInt8 := dkwX0_run_0 ++ []
theorem dksX0_run_0 : cX0_run.data.toList.drop 0 = dktX0_run_0 := by decide +kernel
theorem dX0_run_0 : decode cX0_run 0 = .ok (.aload_n 1, 1) := dk_43 (dk_at dksX0_run_0 0 rfl rfl)
theorem dX0_run_1 : decode cX0_run 1 = .ok (.iconst 0, 1) := dk_3 (dk_at dksX0_run_0 1 rfl rfl)
theorem dX0_run_2 : decode cX0_run 2 = .ok (.aload_n 0, 1) := dk_42 (dk_at dksX0_run_0 2 rfl rfl)
theorem dX0_run_3 : decode cX0_run 3 = .ok (.invokevirtual 49, 3) := dk_182 0 49 (dk_at dksX0_run_0 3 rfl rfl)
theorem dX0_run_6 : decode cX0_run 6 = .ok (.i2l, 1) := dk_133 (dk_at dksX0_run_0 6 rfl rfl)
theorem dX0_run_7 : decode cX0_run 7 = .ok (.lastore, 1) := dk_80 (dk_at dksX0_run_0 7 rfl rfl)
theorem dX0_run_8 : decode cX0_run 8 = .ok (.goto 6, 3) := dk_167 0 6 (dk_at dksX0_run_0 8 rfl rfl)
theorem dX0_run_11 : decode cX0_run 11 = .ok (.astore_n 2, 1) := dk_77 (dk_at dksX0_run_0 11 rfl rfl)
theorem dX0_run_12 : decode cX0_run 12 = .ok (.iconst 1, 1) := dk_4 (dk_at dksX0_run_0 12 rfl rfl)
theorem dX0_run_13 : decode cX0_run 13 = .ok (.ireturn, 1) := dk_172 (dk_at dksX0_run_0 13 rfl rfl)
theorem dX0_run_14 : decode cX0_run 14 = .ok (.iconst 0, 1) := dk_3 (dk_at dksX0_run_0 14 rfl rfl)
theorem dX0_run_15 : decode cX0_run 15 = .ok (.ireturn, 1) := dk_172 (dk_at dksX0_run_0 15 rfl rfl)
abbrev cX0_undo : ByteArray := method_14_code
def yX0_undo : MethodName := ⟨RX0, "undo", "(LRosehipCircuits;[J)I"⟩
def dkwX0_undo_0 : List UInt8 := [43, 3, 42, 182, 0, 52, 133, 80, 167, 0, 6, 77, 4, 172, 3, 172]
abbrev dktX0_undo_0 : List UInt8 := dkwX0_undo_0 ++ []
theorem dksX0_undo_0 : cX0_undo.data.toList.drop 0 = dktX0_undo_0 := by decide +kernel
theorem dX0_undo_0 : decode cX0_undo 0 = .ok (.aload_n 1, 1) := dk_43 (dk_at dksX0_undo_0 0 rfl rfl)
theorem dX0_undo_1 : decode cX0_undo 1 = .ok (.iconst 0, 1) := dk_3 (dk_at dksX0_undo_0 1 rfl rfl)
theorem dX0_undo_2 : decode cX0_undo 2 = .ok (.aload_n 0, 1) := dk_42 (dk_at dksX0_undo_0 2 rfl rfl)
theorem dX0_undo_3 : decode cX0_undo 3 = .ok (.invokevirtual 52, 3) := dk_182 0 52 (dk_at dksX0_undo_0 3 rfl rfl)
theorem dX0_undo_6 : decode cX0_undo 6 = .ok (.i2l, 1) := dk_133 (dk_at dksX0_undo_0 6 rfl rfl)
theorem dX0_undo_7 : decode cX0_undo 7 = .ok (.lastore, 1) := dk_80 (dk_at dksX0_undo_0 7 rfl rfl)
theorem dX0_undo_8 : decode cX0_undo 8 = .ok (.goto 6, 3) := dk_167 0 6 (dk_at dksX0_undo_0 8 rfl rfl)
theorem dX0_undo_11 : decode cX0_undo 11 = .ok (.astore_n 2, 1) := dk_77 (dk_at dksX0_undo_0 11 rfl rfl)
theorem dX0_undo_12 : decode cX0_undo 12 = .ok (.iconst 1, 1) := dk_4 (dk_at dksX0_undo_0 12 rfl rfl)
theorem dX0_undo_13 : decode cX0_undo 13 = .ok (.ireturn, 1) := dk_172 (dk_at dksX0_undo_0 13 rfl rfl)
theorem dX0_undo_14 : decode cX0_undo 14 = .ok (.iconst 0, 1) := dk_3 (dk_at dksX0_undo_0 14 rfl rfl)
theorem dX0_undo_15 : decode cX0_undo 15 = .ok (.ireturn, 1) := dk_172 (dk_at dksX0_undo_0 15 rfl rfl)
abbrev cX0_restore : ByteArray := method_15_code
def yX0_restore : MethodName := ⟨RX0, "restore", "(LRosehipCircuits;[J)I"⟩
def dkwX0_restore_0 : List UInt8 := [43, 3, 42, 182, 0, 55, 133, 80, 167, 0, 6, 77, 4, 172, 3, 172]
abbrev dktX0_restore_0 : List UInt8 := dkwX0_restore_0 ++ []
theorem dksX0_restore_0 : cX0_restore.data.toList.drop 0 = dktX0_restore_0 := by decide +kernel
theorem dX0_restore_0 : decode cX0_restore 0 = .ok (.aload_n 1, 1) := dk_43 (dk_at dksX0_restore_0 0 rfl rfl)
theorem dX0_restore_1 : decode cX0_restore 1 = .ok (.iconst 0, 1) := dk_3 (dk_at dksX0_restore_0 1 rfl rfl)
theorem dX0_restore_2 : decode cX0_restore 2 = .ok (.aload_n 0, 1) := dk_42 (dk_at dksX0_restore_0 2 rfl rfl)
theorem dX0_restore_3 : decode cX0_restore 3 = .ok (.invokevirtual 55, 3) := dk_182 0 55 (dk_at dksX0_restore_0 3 rfl rfl)
theorem dX0_restore_6 : decode cX0_restore 6 = .ok (.i2l, 1) := dk_133 (dk_at dksX0_restore_0 6 rfl rfl)
theorem dX0_restore_7 : decode cX0_restore 7 = .ok (.lastore, 1) := dk_80 (dk_at dksX0_restore_0 7 rfl rfl)
theorem dX0_restore_8 : decode cX0_restore 8 = .ok (.goto 6, 3) := dk_167 0 6 (dk_at dksX0_restore_0 8 rfl rfl)
theorem dX0_restore_11 : decode cX0_restore 11 = .ok (.astore_n 2, 1) := dk_77 (dk_at dksX0_restore_0 11 rfl rfl)
theorem dX0_restore_12 : decode cX0_restore 12 = .ok (.iconst 1, 1) := dk_4 (dk_at dksX0_restore_0 12 rfl rfl)
theorem dX0_restore_13 : decode cX0_restore 13 = .ok (.ireturn, 1) := dk_172 (dk_at dksX0_restore_0 13 rfl rfl)
theorem dX0_restore_14 : decode cX0_restore 14 = .ok (.iconst 0, 1) := dk_3 (dk_at dksX0_restore_0 14 rfl rfl)
theorem dX0_restore_15 : decode cX0_restore 15 = .ok (.ireturn, 1) := dk_172 (dk_at dksX0_restore_0 15 rfl rfl)
abbrev cX0_kindOf : ByteArray := method_16_code
def yX0_kindOf : MethodName := ⟨RX0, "kindOf", "(LRosehipCircuits;I[J)I"⟩
def dkwX0_kindOf_0 : List UInt8 := [44, 3, 42, 27, 182, 0, 58, 133, 80, 167, 0, 6, 78, 4, 172, 3, 172]
abbrev dktX0_kindOf_0 : List UInt8 := dkwX0_kindOf_0 ++ []
theorem dksX0_kindOf_0 : cX0_kindOf.data.toList.drop 0 = dktX0_kindOf_0 := by decide +kernel
theorem dX0_kindOf_0 : decode cX0_kindOf 0 = .ok (.aload_n 2, 1) := dk_44 (dk_at dksX0_kindOf_0 0 rfl rfl)
theorem dX0_kindOf_1 : decode cX0_kindOf 1 = .ok (.iconst 0, 1) := dk_3 (dk_at dksX0_kindOf_0 1 rfl rfl)
theorem dX0_kindOf_2 : decode cX0_kindOf 2 = .ok (.aload_n 0, 1) := dk_42 (dk_at dksX0_kindOf_0 2 rfl rfl)
theorem dX0_kindOf_3 : decode cX0_kindOf 3 = .ok (.iload_n 1, 1) := dk_27 (dk_at dksX0_kindOf_0 3 rfl rfl)
theorem dX0_kindOf_4 : decode cX0_kindOf 4 = .ok (.invokevirtual 58, 3) := dk_182 0 58 (dk_at dksX0_kindOf_0 4 rfl rfl)
theorem dX0_kindOf_7 : decode cX0_kindOf 7 = .ok (.i2l, 1) := dk_133 (dk_at dksX0_kindOf_0 7 rfl rfl)
theorem dX0_kindOf_8 : decode cX0_kindOf 8 = .ok (.lastore, 1) := dk_80 (dk_at dksX0_kindOf_0 8 rfl rfl)
theorem dX0_kindOf_9 : decode cX0_kindOf 9 = .ok (.goto 6, 3) := dk_167 0 6 (dk_at dksX0_kindOf_0 9 rfl rfl)
theorem dX0_kindOf_12 : decode cX0_kindOf 12 = .ok (.astore_n 3, 1) := dk_78 (dk_at dksX0_kindOf_0 12 rfl rfl)
theorem dX0_kindOf_13 : decode cX0_kindOf 13 = .ok (.iconst 1, 1) := dk_4 (dk_at dksX0_kindOf_0 13 rfl rfl)
theorem dX0_kindOf_14 : decode cX0_kindOf 14 = .ok (.ireturn, 1) := dk_172 (dk_at dksX0_kindOf_0 14 rfl rfl)
theorem dX0_kindOf_15 : decode cX0_kindOf 15 = .ok (.iconst 0, 1) := dk_3 (dk_at dksX0_kindOf_0 15 rfl rfl)
theorem dX0_kindOf_16 : decode cX0_kindOf 16 = .ok (.ireturn, 1) := dk_172 (dk_at dksX0_kindOf_0 16 rfl rfl)
abbrev cX0_sourceOf : ByteArray := method_17_code
def yX0_sourceOf : MethodName := ⟨RX0, "sourceOf", "(LRosehipCircuits;II[J)I"⟩
def dkwX0_sourceOf_0 : List UInt8 := [45, 3, 42, 27, 28, 182, 0, 61, 133, 80, 167, 0, 11, 58, 4, 4, 172, 58, 4, 5, 172, 3, 172]
abbrev dktX0_sourceOf_0 : List UInt8 := dkwX0_sourceOf_0 ++ []
theorem dksX0_sourceOf_0 : cX0_sourceOf.data.toList.drop 0 = dktX0_sourceOf_0 := by decide +kernel
theorem dX0_sourceOf_0 : decode cX0_sourceOf 0 = .ok (.aload_n 3, 1) := dk_45 (dk_at dksX0_sourceOf_0 0 rfl rfl)
theorem dX0_sourceOf_1 : decode cX0_sourceOf 1 = .ok (.iconst 0, 1) := dk_3 (dk_at dksX0_sourceOf_0 1 rfl rfl)
theorem dX0_sourceOf_2 : decode cX0_sourceOf 2 = .ok (.aload_n 0, 1) := dk_42 (dk_at dksX0_sourceOf_0 2 rfl rfl)
theorem dX0_sourceOf_3 : decode cX0_sourceOf 3 = .ok (.iload_n 1, 1) := dk_27 (dk_at dksX0_sourceOf_0 3 rfl rfl)
theorem dX0_sourceOf_4 : decode cX0_sourceOf 4 = .ok (.iload_n 2, 1) := dk_28 (dk_at dksX0_sourceOf_0 4 rfl rfl)
theorem dX0_sourceOf_5 : decode cX0_sourceOf 5 = .ok (.invokevirtual 61, 3) := dk_182 0 61 (dk_at dksX0_sourceOf_0 5 rfl rfl)
theorem dX0_sourceOf_8 : decode cX0_sourceOf 8 = .ok (.i2l, 1) := dk_133 (dk_at dksX0_sourceOf_0 8 rfl rfl)
theorem dX0_sourceOf_9 : decode cX0_sourceOf 9 = .ok (.lastore, 1) := dk_80 (dk_at dksX0_sourceOf_0 9 rfl rfl)
theorem dX0_sourceOf_10 : decode cX0_sourceOf 10 = .ok (.goto 11, 3) := dk_167 0 11 (dk_at dksX0_sourceOf_0 10 rfl rfl)
theorem dX0_sourceOf_13 : decode cX0_sourceOf 13 = .ok (.astore 4, 2) := dk_58 4 (dk_at dksX0_sourceOf_0 13 rfl rfl)
theorem dX0_sourceOf_15 : decode cX0_sourceOf 15 = .ok (.iconst 1, 1) := dk_4 (dk_at dksX0_sourceOf_0 15 rfl rfl)
theorem dX0_sourceOf_16 : decode cX0_sourceOf 16 = .ok (.ireturn, 1) := dk_172 (dk_at dksX0_sourceOf_0 16 rfl rfl)
theorem dX0_sourceOf_17 : decode cX0_sourceOf 17 = .ok (.astore 4, 2) := dk_58 4 (dk_at dksX0_sourceOf_0 17 rfl rfl)
theorem dX0_sourceOf_19 : decode cX0_sourceOf 19 = .ok (.iconst 2, 1) := dk_5 (dk_at dksX0_sourceOf_0 19 rfl rfl)
theorem dX0_sourceOf_20 : decode cX0_sourceOf 20 = .ok (.ireturn, 1) := dk_172 (dk_at dksX0_sourceOf_0 20 rfl rfl)
theorem dX0_sourceOf_21 : decode cX0_sourceOf 21 = .ok (.iconst 0, 1) := dk_3 (dk_at dksX0_sourceOf_0 21 rfl rfl)
theorem dX0_sourceOf_22 : decode cX0_sourceOf 22 = .ok (.ireturn, 1) := dk_172 (dk_at dksX0_sourceOf_0 22 rfl rfl)
abbrev cX0_valueOf : ByteArray := method_18_code
def yX0_valueOf : MethodName := ⟨RX0, "valueOf", "(LRosehipCircuits;II[J)I"⟩
def dkwX0_valueOf_0 : List UInt8 := [45, 3, 42, 27, 28, 182, 0, 64, 133, 80, 167, 0, 11, 58, 4, 4, 172, 58, 4, 5, 172, 3, 172]
abbrev dktX0_valueOf_0 : List UInt8 := dkwX0_valueOf_0 ++ []
theorem dksX0_valueOf_0 : cX0_valueOf.data.toList.drop 0 = dktX0_valueOf_0 := by decide +kernel
theorem dX0_valueOf_0 : decode cX0_valueOf 0 = .ok (.aload_n 3, 1) := dk_45 (dk_at dksX0_valueOf_0 0 rfl rfl)
theorem dX0_valueOf_1 : decode cX0_valueOf 1 = .ok (.iconst 0, 1) := dk_3 (dk_at dksX0_valueOf_0 1 rfl rfl)
theorem dX0_valueOf_2 : decode cX0_valueOf 2 = .ok (.aload_n 0, 1) := dk_42 (dk_at dksX0_valueOf_0 2 rfl rfl)
theorem dX0_valueOf_3 : decode cX0_valueOf 3 = .ok (.iload_n 1, 1) := dk_27 (dk_at dksX0_valueOf_0 3 rfl rfl)
theorem dX0_valueOf_4 : decode cX0_valueOf 4 = .ok (.iload_n 2, 1) := dk_28 (dk_at dksX0_valueOf_0 4 rfl rfl)
theorem dX0_valueOf_5 : decode cX0_valueOf 5 = .ok (.invokevirtual 64, 3) := dk_182 0 64 (dk_at dksX0_valueOf_0 5 rfl rfl)
theorem dX0_valueOf_8 : decode cX0_valueOf 8 = .ok (.i2l, 1) := dk_133 (dk_at dksX0_valueOf_0 8 rfl rfl)
theorem dX0_valueOf_9 : decode cX0_valueOf 9 = .ok (.lastore, 1) := dk_80 (dk_at dksX0_valueOf_0 9 rfl rfl)
theorem dX0_valueOf_10 : decode cX0_valueOf 10 = .ok (.goto 11, 3) := dk_167 0 11 (dk_at dksX0_valueOf_0 10 rfl rfl)
theorem dX0_valueOf_13 : decode cX0_valueOf 13 = .ok (.astore 4, 2) := dk_58 4 (dk_at dksX0_valueOf_0 13 rfl rfl)
theorem dX0_valueOf_15 : decode cX0_valueOf 15 = .ok (.iconst 1, 1) := dk_4 (dk_at dksX0_valueOf_0 15 rfl rfl)
theorem dX0_valueOf_16 : decode cX0_valueOf 16 = .ok (.ireturn, 1) := dk_172 (dk_at dksX0_valueOf_0 16 rfl rfl)
theorem dX0_valueOf_17 : decode cX0_valueOf 17 = .ok (.astore 4, 2) := dk_58 4 (dk_at dksX0_valueOf_0 17 rfl rfl)
theorem dX0_valueOf_19 : decode cX0_valueOf 19 = .ok (.iconst 2, 1) := dk_5 (dk_at dksX0_valueOf_0 19 rfl rfl)
theorem dX0_valueOf_20 : decode cX0_valueOf 20 = .ok (.ireturn, 1) := dk_172 (dk_at dksX0_valueOf_0 20 rfl rfl)
theorem dX0_valueOf_21 : decode cX0_valueOf 21 = .ok (.iconst 0, 1) := dk_3 (dk_at dksX0_valueOf_0 21 rfl rfl)
theorem dX0_valueOf_22 : decode cX0_valueOf 22 = .ok (.ireturn, 1) := dk_172 (dk_at dksX0_valueOf_0 22 rfl rfl)
abbrev cX0_tableOf : ByteArray := method_19_code
def yX0_tableOf : MethodName := ⟨RX0, "tableOf", "(LRosehipCircuits;IZ[J)I"⟩
def dkwX0_tableOf_0 : List UInt8 := [45, 3, 42, 27, 28, 182, 0, 67, 80, 167, 0, 7, 58, 4, 4, 172, 3, 172]
abbrev dktX0_tableOf_0 : List UInt8 := dkwX0_tableOf_0 ++ []
theorem dksX0_tableOf_0 : cX0_tableOf.data.toList.drop 0 = dktX0_tableOf_0 := by decide +kernel
theorem dX0_tableOf_0 : decode cX0_tableOf 0 = .ok (.aload_n 3, 1) := dk_45 (dk_at dksX0_tableOf_0 0 rfl rfl)
theorem dX0_tableOf_1 : decode cX0_tableOf 1 = .ok (.iconst 0, 1) := dk_3 (dk_at dksX0_tableOf_0 1 rfl rfl)
theorem dX0_tableOf_2 : decode cX0_tableOf 2 = .ok (.aload_n 0, 1) := dk_42 (dk_at dksX0_tableOf_0 2 rfl rfl)
theorem dX0_tableOf_3 : decode cX0_tableOf 3 = .ok (.iload_n 1, 1) := dk_27 (dk_at dksX0_tableOf_0 3 rfl rfl)
theorem dX0_tableOf_4 : decode cX0_tableOf 4 = .ok (.iload_n 2, 1) := dk_28 (dk_at dksX0_tableOf_0 4 rfl rfl)
theorem dX0_tableOf_5 : decode cX0_tableOf 5 = .ok (.invokevirtual 67, 3) := dk_182 0 67 (dk_at dksX0_tableOf_0 5 rfl rfl)
theorem dX0_tableOf_8 : decode cX0_tableOf 8 = .ok (.lastore, 1) := dk_80 (dk_at dksX0_tableOf_0 8 rfl rfl)
theorem dX0_tableOf_9 : decode cX0_tableOf 9 = .ok (.goto 7, 3) := dk_167 0 7 (dk_at dksX0_tableOf_0 9 rfl rfl)
theorem dX0_tableOf_12 : decode cX0_tableOf 12 = .ok (.astore 4, 2) := dk_58 4 (dk_at dksX0_tableOf_0 12 rfl rfl)
theorem dX0_tableOf_14 : decode cX0_tableOf 14 = .ok (.iconst 1, 1) := dk_4 (dk_at dksX0_tableOf_0 14 rfl rfl)
theorem dX0_tableOf_15 : decode cX0_tableOf 15 = .ok (.ireturn, 1) := dk_172 (dk_at dksX0_tableOf_0 15 rfl rfl)
theorem dX0_tableOf_16 : decode cX0_tableOf 16 = .ok (.iconst 0, 1) := dk_3 (dk_at dksX0_tableOf_0 16 rfl rfl)
theorem dX0_tableOf_17 : decode cX0_tableOf 17 = .ok (.ireturn, 1) := dk_172 (dk_at dksX0_tableOf_0 17 rfl rfl)
abbrev cX0_answerTo : ByteArray := method_20_code
def yX0_answerTo : MethodName := ⟨RX0, "answerTo", "(LRosehipCircuits;I[J)I"⟩
def dkwX0_answerTo_0 : List UInt8 := [44, 3, 42, 27, 182, 0, 71, 133, 80, 167, 0, 6, 78, 4, 172, 3, 172]
abbrev dktX0_answerTo_0 : List UInt8 := dkwX0_answerTo_0 ++ []
theorem dksX0_answerTo_0 : cX0_answerTo.data.toList.drop 0 = dktX0_answerTo_0 := by decide +kernel
theorem dX0_answerTo_0 : decode cX0_answerTo 0 = .ok (.aload_n 2, 1) := dk_44 (dk_at dksX0_answerTo_0 0 rfl rfl)
theorem dX0_answerTo_1 : decode cX0_answerTo 1 = .ok (.iconst 0, 1) := dk_3 (dk_at dksX0_answerTo_0 1 rfl rfl)
theorem dX0_answerTo_2 : decode cX0_answerTo 2 = .ok (.aload_n 0, 1) := dk_42 (dk_at dksX0_answerTo_0 2 rfl rfl)
theorem dX0_answerTo_3 : decode cX0_answerTo 3 = .ok (.iload_n 1, 1) := dk_27 (dk_at dksX0_answerTo_0 3 rfl rfl)
theorem dX0_answerTo_4 : decode cX0_answerTo 4 = .ok (.invokevirtual 71, 3) := dk_182 0 71 (dk_at dksX0_answerTo_0 4 rfl rfl)
theorem dX0_answerTo_7 : decode cX0_answerTo 7 = .ok (.i2l, 1) := dk_133 (dk_at dksX0_answerTo_0 7 rfl rfl)
theorem dX0_answerTo_8 : decode cX0_answerTo 8 = .ok (.lastore, 1) := dk_80 (dk_at dksX0_answerTo_0 8 rfl rfl)
theorem dX0_answerTo_9 : decode cX0_answerTo 9 = .ok (.goto 6, 3) := dk_167 0 6 (dk_at dksX0_answerTo_0 9 rfl rfl)
theorem dX0_answerTo_12 : decode cX0_answerTo 12 = .ok (.astore_n 3, 1) := dk_78 (dk_at dksX0_answerTo_0 12 rfl rfl)
theorem dX0_answerTo_13 : decode cX0_answerTo 13 = .ok (.iconst 1, 1) := dk_4 (dk_at dksX0_answerTo_0 13 rfl rfl)
theorem dX0_answerTo_14 : decode cX0_answerTo 14 = .ok (.ireturn, 1) := dk_172 (dk_at dksX0_answerTo_0 14 rfl rfl)
theorem dX0_answerTo_15 : decode cX0_answerTo 15 = .ok (.iconst 0, 1) := dk_3 (dk_at dksX0_answerTo_0 15 rfl rfl)
theorem dX0_answerTo_16 : decode cX0_answerTo 16 = .ok (.ireturn, 1) := dk_172 (dk_at dksX0_answerTo_0 16 rfl rfl)
abbrev cX0_inputsOf : ByteArray := method_21_code
def yX0_inputsOf : MethodName := ⟨RX0, "inputsOf", "(LRosehipCircuits;IZ[J)I"⟩
def dkwX0_inputsOf_0 : List UInt8 := [45, 3, 42, 27, 28, 182, 0, 74, 133, 80, 167, 0, 7, 58, 4, 4, 172, 3, 172]
abbrev dktX0_inputsOf_0 : List UInt8 := dkwX0_inputsOf_0 ++ []
theorem dksX0_inputsOf_0 : cX0_inputsOf.data.toList.drop 0 = dktX0_inputsOf_0 := by decide +kernel
theorem dX0_inputsOf_0 : decode cX0_inputsOf 0 = .ok (.aload_n 3, 1) := dk_45 (dk_at dksX0_inputsOf_0 0 rfl rfl)
theorem dX0_inputsOf_1 : decode cX0_inputsOf 1 = .ok (.iconst 0, 1) := dk_3 (dk_at dksX0_inputsOf_0 1 rfl rfl)
theorem dX0_inputsOf_2 : decode cX0_inputsOf 2 = .ok (.aload_n 0, 1) := dk_42 (dk_at dksX0_inputsOf_0 2 rfl rfl)
theorem dX0_inputsOf_3 : decode cX0_inputsOf 3 = .ok (.iload_n 1, 1) := dk_27 (dk_at dksX0_inputsOf_0 3 rfl rfl)
theorem dX0_inputsOf_4 : decode cX0_inputsOf 4 = .ok (.iload_n 2, 1) := dk_28 (dk_at dksX0_inputsOf_0 4 rfl rfl)
theorem dX0_inputsOf_5 : decode cX0_inputsOf 5 = .ok (.invokevirtual 74, 3) := dk_182 0 74 (dk_at dksX0_inputsOf_0 5 rfl rfl)
theorem dX0_inputsOf_8 : decode cX0_inputsOf 8 = .ok (.i2l, 1) := dk_133 (dk_at dksX0_inputsOf_0 8 rfl rfl)
theorem dX0_inputsOf_9 : decode cX0_inputsOf 9 = .ok (.lastore, 1) := dk_80 (dk_at dksX0_inputsOf_0 9 rfl rfl)
theorem dX0_inputsOf_10 : decode cX0_inputsOf 10 = .ok (.goto 7, 3) := dk_167 0 7 (dk_at dksX0_inputsOf_0 10 rfl rfl)
theorem dX0_inputsOf_13 : decode cX0_inputsOf 13 = .ok (.astore 4, 2) := dk_58 4 (dk_at dksX0_inputsOf_0 13 rfl rfl)
theorem dX0_inputsOf_15 : decode cX0_inputsOf 15 = .ok (.iconst 1, 1) := dk_4 (dk_at dksX0_inputsOf_0 15 rfl rfl)
theorem dX0_inputsOf_16 : decode cX0_inputsOf 16 = .ok (.ireturn, 1) := dk_172 (dk_at dksX0_inputsOf_0 16 rfl rfl)
theorem dX0_inputsOf_17 : decode cX0_inputsOf 17 = .ok (.iconst 0, 1) := dk_3 (dk_at dksX0_inputsOf_0 17 rfl rfl)
theorem dX0_inputsOf_18 : decode cX0_inputsOf 18 = .ok (.ireturn, 1) := dk_172 (dk_at dksX0_inputsOf_0 18 rfl rfl)
abbrev cX0_depthOf : ByteArray := method_22_code
def yX0_depthOf : MethodName := ⟨RX0, "depthOf", "(LRosehipCircuits;I[J)I"⟩
def dkwX0_depthOf_0 : List UInt8 := [44, 3, 42, 27, 182, 0, 78, 133, 80, 167, 0, 6, 78, 4, 172, 3, 172]
abbrev dktX0_depthOf_0 : List UInt8 := dkwX0_depthOf_0 ++ []
theorem dksX0_depthOf_0 : cX0_depthOf.data.toList.drop 0 = dktX0_depthOf_0 := by decide +kernel
theorem dX0_depthOf_0 : decode cX0_depthOf 0 = .ok (.aload_n 2, 1) := dk_44 (dk_at dksX0_depthOf_0 0 rfl rfl)
theorem dX0_depthOf_1 : decode cX0_depthOf 1 = .ok (.iconst 0, 1) := dk_3 (dk_at dksX0_depthOf_0 1 rfl rfl)
theorem dX0_depthOf_2 : decode cX0_depthOf 2 = .ok (.aload_n 0, 1) := dk_42 (dk_at dksX0_depthOf_0 2 rfl rfl)
theorem dX0_depthOf_3 : decode cX0_depthOf 3 = .ok (.iload_n 1, 1) := dk_27 (dk_at dksX0_depthOf_0 3 rfl rfl)
theorem dX0_depthOf_4 : decode cX0_depthOf 4 = .ok (.invokevirtual 78, 3) := dk_182 0 78 (dk_at dksX0_depthOf_0 4 rfl rfl)
theorem dX0_depthOf_7 : decode cX0_depthOf 7 = .ok (.i2l, 1) := dk_133 (dk_at dksX0_depthOf_0 7 rfl rfl)
theorem dX0_depthOf_8 : decode cX0_depthOf 8 = .ok (.lastore, 1) := dk_80 (dk_at dksX0_depthOf_0 8 rfl rfl)
theorem dX0_depthOf_9 : decode cX0_depthOf 9 = .ok (.goto 6, 3) := dk_167 0 6 (dk_at dksX0_depthOf_0 9 rfl rfl)
theorem dX0_depthOf_12 : decode cX0_depthOf 12 = .ok (.astore_n 3, 1) := dk_78 (dk_at dksX0_depthOf_0 12 rfl rfl)
theorem dX0_depthOf_13 : decode cX0_depthOf 13 = .ok (.iconst 1, 1) := dk_4 (dk_at dksX0_depthOf_0 13 rfl rfl)
theorem dX0_depthOf_14 : decode cX0_depthOf 14 = .ok (.ireturn, 1) := dk_172 (dk_at dksX0_depthOf_0 14 rfl rfl)
theorem dX0_depthOf_15 : decode cX0_depthOf 15 = .ok (.iconst 0, 1) := dk_3 (dk_at dksX0_depthOf_0 15 rfl rfl)
theorem dX0_depthOf_16 : decode cX0_depthOf 16 = .ok (.ireturn, 1) := dk_172 (dk_at dksX0_depthOf_0 16 rfl rfl)
abbrev cX0_shows : ByteArray := method_23_code
def yX0_shows : MethodName := ⟨RX0, "shows", "(LRosehipCircuits;II[J)I"⟩
def dkwX0_shows_1 : List UInt8 := [3, 172]
abbrev dktX0_shows_1 : List UInt8 := dkwX0_shows_1 ++ []
def dkwX0_shows_0 : List UInt8 := [45, 3, 42, 27, 28, 182, 0, 81, 153, 0, 7, 10, 167, 0, 4, 9, 80, 167, 0, 7, 58, 4, 4, 172]
abbrev dktX0_shows_0 : List UInt8 := dkwX0_shows_0 ++ dktX0_shows_1
theorem dksX0_shows_0 : cX0_shows.data.toList.drop 0 = dktX0_shows_0 := by decide +kernel
theorem dksX0_shows_1 : cX0_shows.data.toList.drop 24 = dktX0_shows_1 := dk_seg dksX0_shows_0 24 rfl rfl
theorem dX0_shows_0 : decode cX0_shows 0 = .ok (.aload_n 3, 1) := dk_45 (dk_at dksX0_shows_0 0 rfl rfl)
theorem dX0_shows_1 : decode cX0_shows 1 = .ok (.iconst 0, 1) := dk_3 (dk_at dksX0_shows_0 1 rfl rfl)
theorem dX0_shows_2 : decode cX0_shows 2 = .ok (.aload_n 0, 1) := dk_42 (dk_at dksX0_shows_0 2 rfl rfl)
theorem dX0_shows_3 : decode cX0_shows 3 = .ok (.iload_n 1, 1) := dk_27 (dk_at dksX0_shows_0 3 rfl rfl)
theorem dX0_shows_4 : decode cX0_shows 4 = .ok (.iload_n 2, 1) := dk_28 (dk_at dksX0_shows_0 4 rfl rfl)
theorem dX0_shows_5 : decode cX0_shows 5 = .ok (.invokevirtual 81, 3) := dk_182 0 81 (dk_at dksX0_shows_0 5 rfl rfl)
theorem dX0_shows_8 : decode cX0_shows 8 = .ok (.ifCond .eq 7, 3) := dk_153 0 7 (dk_at dksX0_shows_0 8 rfl rfl)
theorem dX0_shows_11 : decode cX0_shows 11 = .ok (.lconst 1, 1) := dk_10 (dk_at dksX0_shows_0 11 rfl rfl)
theorem dX0_shows_12 : decode cX0_shows 12 = .ok (.goto 4, 3) := dk_167 0 4 (dk_at dksX0_shows_0 12 rfl rfl)
theorem dX0_shows_15 : decode cX0_shows 15 = .ok (.lconst 0, 1) := dk_9 (dk_at dksX0_shows_0 15 rfl rfl)
theorem dX0_shows_16 : decode cX0_shows 16 = .ok (.lastore, 1) := dk_80 (dk_at dksX0_shows_0 16 rfl rfl)
theorem dX0_shows_17 : decode cX0_shows 17 = .ok (.goto 7, 3) := dk_167 0 7 (dk_at dksX0_shows_0 17 rfl rfl)
theorem dX0_shows_20 : decode cX0_shows 20 = .ok (.astore 4, 2) := dk_58 4 (dk_at dksX0_shows_0 20 rfl rfl)
theorem dX0_shows_22 : decode cX0_shows 22 = .ok (.iconst 1, 1) := dk_4 (dk_at dksX0_shows_0 22 rfl rfl)
theorem dX0_shows_23 : decode cX0_shows 23 = .ok (.ireturn, 1) := dk_172 (dk_at dksX0_shows_0 23 rfl rfl)
theorem dX0_shows_24 : decode cX0_shows 24 = .ok (.iconst 0, 1) := dk_3 (dk_at dksX0_shows_1 0 rfl rfl)
theorem dX0_shows_25 : decode cX0_shows 25 = .ok (.ireturn, 1) := dk_172 (dk_at dksX0_shows_1 1 rfl rfl)
abbrev cX0_testsFor : ByteArray := method_24_code
def yX0_testsFor : MethodName := ⟨RX0, "testsFor", "(LRosehipCircuits;I[J)I"⟩
def dkwX0_testsFor_0 : List UInt8 := [44, 3, 42, 27, 182, 0, 85, 80, 167, 0, 6, 78, 4, 172, 3, 172]
abbrev dktX0_testsFor_0 : List UInt8 := dkwX0_testsFor_0 ++ []
theorem dksX0_testsFor_0 : cX0_testsFor.data.toList.drop 0 = dktX0_testsFor_0 := by decide +kernel
theorem dX0_testsFor_0 : decode cX0_testsFor 0 = .ok (.aload_n 2, 1) := dk_44 (dk_at dksX0_testsFor_0 0 rfl rfl)
theorem dX0_testsFor_1 : decode cX0_testsFor 1 = .ok (.iconst 0, 1) := dk_3 (dk_at dksX0_testsFor_0 1 rfl rfl)
theorem dX0_testsFor_2 : decode cX0_testsFor 2 = .ok (.aload_n 0, 1) := dk_42 (dk_at dksX0_testsFor_0 2 rfl rfl)
theorem dX0_testsFor_3 : decode cX0_testsFor 3 = .ok (.iload_n 1, 1) := dk_27 (dk_at dksX0_testsFor_0 3 rfl rfl)
theorem dX0_testsFor_4 : decode cX0_testsFor 4 = .ok (.invokevirtual 85, 3) := dk_182 0 85 (dk_at dksX0_testsFor_0 4 rfl rfl)
theorem dX0_testsFor_7 : decode cX0_testsFor 7 = .ok (.lastore, 1) := dk_80 (dk_at dksX0_testsFor_0 7 rfl rfl)
theorem dX0_testsFor_8 : decode cX0_testsFor 8 = .ok (.goto 6, 3) := dk_167 0 6 (dk_at dksX0_testsFor_0 8 rfl rfl)
theorem dX0_testsFor_11 : decode cX0_testsFor 11 = .ok (.astore_n 3, 1) := dk_78 (dk_at dksX0_testsFor_0 11 rfl rfl)
theorem dX0_testsFor_12 : decode cX0_testsFor 12 = .ok (.iconst 1, 1) := dk_4 (dk_at dksX0_testsFor_0 12 rfl rfl)
theorem dX0_testsFor_13 : decode cX0_testsFor 13 = .ok (.ireturn, 1) := dk_172 (dk_at dksX0_testsFor_0 13 rfl rfl)
theorem dX0_testsFor_14 : decode cX0_testsFor 14 = .ok (.iconst 0, 1) := dk_3 (dk_at dksX0_testsFor_0 14 rfl rfl)
theorem dX0_testsFor_15 : decode cX0_testsFor 15 = .ok (.ireturn, 1) := dk_172 (dk_at dksX0_testsFor_0 15 rfl rfl)
abbrev cX0_whyHidden : ByteArray := method_25_code
def yX0_whyHidden : MethodName := ⟨RX0, "whyHidden", "(LRosehipCircuits;I[J)I"⟩
def dkwX0_whyHidden_0 : List UInt8 := [44, 3, 42, 27, 182, 0, 89, 133, 80, 167, 0, 6, 78, 4, 172, 3, 172]
abbrev dktX0_whyHidden_0 : List UInt8 := dkwX0_whyHidden_0 ++ []
theorem dksX0_whyHidden_0 : cX0_whyHidden.data.toList.drop 0 = dktX0_whyHidden_0 := by decide +kernel
theorem dX0_whyHidden_0 : decode cX0_whyHidden 0 = .ok (.aload_n 2, 1) := dk_44 (dk_at dksX0_whyHidden_0 0 rfl rfl)
theorem dX0_whyHidden_1 : decode cX0_whyHidden 1 = .ok (.iconst 0, 1) := dk_3 (dk_at dksX0_whyHidden_0 1 rfl rfl)
theorem dX0_whyHidden_2 : decode cX0_whyHidden 2 = .ok (.aload_n 0, 1) := dk_42 (dk_at dksX0_whyHidden_0 2 rfl rfl)
theorem dX0_whyHidden_3 : decode cX0_whyHidden 3 = .ok (.iload_n 1, 1) := dk_27 (dk_at dksX0_whyHidden_0 3 rfl rfl)
theorem dX0_whyHidden_4 : decode cX0_whyHidden 4 = .ok (.invokevirtual 89, 3) := dk_182 0 89 (dk_at dksX0_whyHidden_0 4 rfl rfl)
theorem dX0_whyHidden_7 : decode cX0_whyHidden 7 = .ok (.i2l, 1) := dk_133 (dk_at dksX0_whyHidden_0 7 rfl rfl)
theorem dX0_whyHidden_8 : decode cX0_whyHidden 8 = .ok (.lastore, 1) := dk_80 (dk_at dksX0_whyHidden_0 8 rfl rfl)
theorem dX0_whyHidden_9 : decode cX0_whyHidden 9 = .ok (.goto 6, 3) := dk_167 0 6 (dk_at dksX0_whyHidden_0 9 rfl rfl)
theorem dX0_whyHidden_12 : decode cX0_whyHidden 12 = .ok (.astore_n 3, 1) := dk_78 (dk_at dksX0_whyHidden_0 12 rfl rfl)
theorem dX0_whyHidden_13 : decode cX0_whyHidden 13 = .ok (.iconst 1, 1) := dk_4 (dk_at dksX0_whyHidden_0 13 rfl rfl)
theorem dX0_whyHidden_14 : decode cX0_whyHidden 14 = .ok (.ireturn, 1) := dk_172 (dk_at dksX0_whyHidden_0 14 rfl rfl)
theorem dX0_whyHidden_15 : decode cX0_whyHidden 15 = .ok (.iconst 0, 1) := dk_3 (dk_at dksX0_whyHidden_0 15 rfl rfl)
theorem dX0_whyHidden_16 : decode cX0_whyHidden 16 = .ok (.ireturn, 1) := dk_172 (dk_at dksX0_whyHidden_0 16 rfl rfl)
abbrev cX0_alike : ByteArray := method_26_code
def yX0_alike : MethodName := ⟨RX0, "alike", "(LRosehipCircuits;I[J)I"⟩
def dkwX0_alike_0 : List UInt8 := [44, 3, 42, 27, 182, 0, 92, 80, 167, 0, 6, 78, 4, 172, 3, 172]
abbrev dktX0_alike_0 : List UInt8 := dkwX0_alike_0 ++ []
theorem dksX0_alike_0 : cX0_alike.data.toList.drop 0 = dktX0_alike_0 := by decide +kernel
theorem dX0_alike_0 : decode cX0_alike 0 = .ok (.aload_n 2, 1) := dk_44 (dk_at dksX0_alike_0 0 rfl rfl)
theorem dX0_alike_1 : decode cX0_alike 1 = .ok (.iconst 0, 1) := dk_3 (dk_at dksX0_alike_0 1 rfl rfl)
theorem dX0_alike_2 : decode cX0_alike 2 = .ok (.aload_n 0, 1) := dk_42 (dk_at dksX0_alike_0 2 rfl rfl)
theorem dX0_alike_3 : decode cX0_alike 3 = .ok (.iload_n 1, 1) := dk_27 (dk_at dksX0_alike_0 3 rfl rfl)
theorem dX0_alike_4 : decode cX0_alike 4 = .ok (.invokevirtual 92, 3) := dk_182 0 92 (dk_at dksX0_alike_0 4 rfl rfl)
theorem dX0_alike_7 : decode cX0_alike 7 = .ok (.lastore, 1) := dk_80 (dk_at dksX0_alike_0 7 rfl rfl)
theorem dX0_alike_8 : decode cX0_alike 8 = .ok (.goto 6, 3) := dk_167 0 6 (dk_at dksX0_alike_0 8 rfl rfl)
theorem dX0_alike_11 : decode cX0_alike 11 = .ok (.astore_n 3, 1) := dk_78 (dk_at dksX0_alike_0 11 rfl rfl)
theorem dX0_alike_12 : decode cX0_alike 12 = .ok (.iconst 1, 1) := dk_4 (dk_at dksX0_alike_0 12 rfl rfl)
theorem dX0_alike_13 : decode cX0_alike 13 = .ok (.ireturn, 1) := dk_172 (dk_at dksX0_alike_0 13 rfl rfl)
theorem dX0_alike_14 : decode cX0_alike 14 = .ok (.iconst 0, 1) := dk_3 (dk_at dksX0_alike_0 14 rfl rfl)
theorem dX0_alike_15 : decode cX0_alike 15 = .ok (.ireturn, 1) := dk_172 (dk_at dksX0_alike_0 15 rfl rfl)
abbrev cX0_testsBetween : ByteArray := method_27_code
def yX0_testsBetween : MethodName := ⟨RX0, "testsBetween", "(LRosehipCircuits;II[J)I"⟩
def dkwX0_testsBetween_0 : List UInt8 := [45, 3, 42, 27, 28, 182, 0, 95, 80, 167, 0, 7, 58, 4, 4, 172, 3, 172]
abbrev dktX0_testsBetween_0 : List UInt8 := dkwX0_testsBetween_0 ++ []
theorem dksX0_testsBetween_0 : cX0_testsBetween.data.toList.drop 0 = dktX0_testsBetween_0 := by decide +kernel
theorem dX0_testsBetween_0 : decode cX0_testsBetween 0 = .ok (.aload_n 3, 1) := dk_45 (dk_at dksX0_testsBetween_0 0 rfl rfl)
theorem dX0_testsBetween_1 : decode cX0_testsBetween 1 = .ok (.iconst 0, 1) := dk_3 (dk_at dksX0_testsBetween_0 1 rfl rfl)
theorem dX0_testsBetween_2 : decode cX0_testsBetween 2 = .ok (.aload_n 0, 1) := dk_42 (dk_at dksX0_testsBetween_0 2 rfl rfl)
theorem dX0_testsBetween_3 : decode cX0_testsBetween 3 = .ok (.iload_n 1, 1) := dk_27 (dk_at dksX0_testsBetween_0 3 rfl rfl)
theorem dX0_testsBetween_4 : decode cX0_testsBetween 4 = .ok (.iload_n 2, 1) := dk_28 (dk_at dksX0_testsBetween_0 4 rfl rfl)
theorem dX0_testsBetween_5 : decode cX0_testsBetween 5 = .ok (.invokevirtual 95, 3) := dk_182 0 95 (dk_at dksX0_testsBetween_0 5 rfl rfl)
theorem dX0_testsBetween_8 : decode cX0_testsBetween 8 = .ok (.lastore, 1) := dk_80 (dk_at dksX0_testsBetween_0 8 rfl rfl)
theorem dX0_testsBetween_9 : decode cX0_testsBetween 9 = .ok (.goto 7, 3) := dk_167 0 7 (dk_at dksX0_testsBetween_0 9 rfl rfl)
theorem dX0_testsBetween_12 : decode cX0_testsBetween 12 = .ok (.astore 4, 2) := dk_58 4 (dk_at dksX0_testsBetween_0 12 rfl rfl)
theorem dX0_testsBetween_14 : decode cX0_testsBetween 14 = .ok (.iconst 1, 1) := dk_4 (dk_at dksX0_testsBetween_0 14 rfl rfl)
theorem dX0_testsBetween_15 : decode cX0_testsBetween 15 = .ok (.ireturn, 1) := dk_172 (dk_at dksX0_testsBetween_0 15 rfl rfl)
theorem dX0_testsBetween_16 : decode cX0_testsBetween 16 = .ok (.iconst 0, 1) := dk_3 (dk_at dksX0_testsBetween_0 16 rfl rfl)
theorem dX0_testsBetween_17 : decode cX0_testsBetween 17 = .ok (.ireturn, 1) := dk_172 (dk_at dksX0_testsBetween_0 17 rfl rfl)
abbrev cX0_askedAt : ByteArray := method_28_code
def yX0_askedAt : MethodName := ⟨RX0, "askedAt", "(LRosehipCircuits;I[J)I"⟩
def dkwX0_askedAt_0 : List UInt8 := [44, 3, 42, 27, 182, 0, 99, 133, 80, 167, 0, 6, 78, 4, 172, 3, 172]
abbrev dktX0_askedAt_0 : List UInt8 := dkwX0_askedAt_0 ++ []
theorem dksX0_askedAt_0 : cX0_askedAt.data.toList.drop 0 = dktX0_askedAt_0 := by decide +kernel
theorem dX0_askedAt_0 : decode cX0_askedAt 0 = .ok (.aload_n 2, 1) := dk_44 (dk_at dksX0_askedAt_0 0 rfl rfl)
theorem dX0_askedAt_1 : decode cX0_askedAt 1 = .ok (.iconst 0, 1) := dk_3 (dk_at dksX0_askedAt_0 1 rfl rfl)
theorem dX0_askedAt_2 : decode cX0_askedAt 2 = .ok (.aload_n 0, 1) := dk_42 (dk_at dksX0_askedAt_0 2 rfl rfl)
theorem dX0_askedAt_3 : decode cX0_askedAt 3 = .ok (.iload_n 1, 1) := dk_27 (dk_at dksX0_askedAt_0 3 rfl rfl)
theorem dX0_askedAt_4 : decode cX0_askedAt 4 = .ok (.invokevirtual 99, 3) := dk_182 0 99 (dk_at dksX0_askedAt_0 4 rfl rfl)
theorem dX0_askedAt_7 : decode cX0_askedAt 7 = .ok (.i2l, 1) := dk_133 (dk_at dksX0_askedAt_0 7 rfl rfl)
theorem dX0_askedAt_8 : decode cX0_askedAt 8 = .ok (.lastore, 1) := dk_80 (dk_at dksX0_askedAt_0 8 rfl rfl)
theorem dX0_askedAt_9 : decode cX0_askedAt 9 = .ok (.goto 6, 3) := dk_167 0 6 (dk_at dksX0_askedAt_0 9 rfl rfl)
theorem dX0_askedAt_12 : decode cX0_askedAt 12 = .ok (.astore_n 3, 1) := dk_78 (dk_at dksX0_askedAt_0 12 rfl rfl)
theorem dX0_askedAt_13 : decode cX0_askedAt 13 = .ok (.iconst 1, 1) := dk_4 (dk_at dksX0_askedAt_0 13 rfl rfl)
theorem dX0_askedAt_14 : decode cX0_askedAt 14 = .ok (.ireturn, 1) := dk_172 (dk_at dksX0_askedAt_0 14 rfl rfl)
theorem dX0_askedAt_15 : decode cX0_askedAt 15 = .ok (.iconst 0, 1) := dk_3 (dk_at dksX0_askedAt_0 15 rfl rfl)
theorem dX0_askedAt_16 : decode cX0_askedAt 16 = .ok (.ireturn, 1) := dk_172 (dk_at dksX0_askedAt_0 16 rfl rfl)
abbrev cX0_candidateAt : ByteArray := method_29_code
def yX0_candidateAt : MethodName := ⟨RX0, "candidateAt", "(LRosehipCircuits;I[J)I"⟩
def dkwX0_candidateAt_0 : List UInt8 := [44, 3, 42, 27, 182, 0, 102, 133, 80, 167, 0, 6, 78, 4, 172, 3, 172]
abbrev dktX0_candidateAt_0 : List UInt8 := dkwX0_candidateAt_0 ++ []
theorem dksX0_candidateAt_0 : cX0_candidateAt.data.toList.drop 0 = dktX0_candidateAt_0 := by decide +kernel
theorem dX0_candidateAt_0 : decode cX0_candidateAt 0 = .ok (.aload_n 2, 1) := dk_44 (dk_at dksX0_candidateAt_0 0 rfl rfl)
theorem dX0_candidateAt_1 : decode cX0_candidateAt 1 = .ok (.iconst 0, 1) := dk_3 (dk_at dksX0_candidateAt_0 1 rfl rfl)
theorem dX0_candidateAt_2 : decode cX0_candidateAt 2 = .ok (.aload_n 0, 1) := dk_42 (dk_at dksX0_candidateAt_0 2 rfl rfl)
theorem dX0_candidateAt_3 : decode cX0_candidateAt 3 = .ok (.iload_n 1, 1) := dk_27 (dk_at dksX0_candidateAt_0 3 rfl rfl)
theorem dX0_candidateAt_4 : decode cX0_candidateAt 4 = .ok (.invokevirtual 102, 3) := dk_182 0 102 (dk_at dksX0_candidateAt_0 4 rfl rfl)
theorem dX0_candidateAt_7 : decode cX0_candidateAt 7 = .ok (.i2l, 1) := dk_133 (dk_at dksX0_candidateAt_0 7 rfl rfl)
theorem dX0_candidateAt_8 : decode cX0_candidateAt 8 = .ok (.lastore, 1) := dk_80 (dk_at dksX0_candidateAt_0 8 rfl rfl)
theorem dX0_candidateAt_9 : decode cX0_candidateAt 9 = .ok (.goto 6, 3) := dk_167 0 6 (dk_at dksX0_candidateAt_0 9 rfl rfl)
theorem dX0_candidateAt_12 : decode cX0_candidateAt 12 = .ok (.astore_n 3, 1) := dk_78 (dk_at dksX0_candidateAt_0 12 rfl rfl)
theorem dX0_candidateAt_13 : decode cX0_candidateAt 13 = .ok (.iconst 1, 1) := dk_4 (dk_at dksX0_candidateAt_0 13 rfl rfl)
theorem dX0_candidateAt_14 : decode cX0_candidateAt 14 = .ok (.ireturn, 1) := dk_172 (dk_at dksX0_candidateAt_0 14 rfl rfl)
theorem dX0_candidateAt_15 : decode cX0_candidateAt 15 = .ok (.iconst 0, 1) := dk_3 (dk_at dksX0_candidateAt_0 15 rfl rfl)
theorem dX0_candidateAt_16 : decode cX0_candidateAt 16 = .ok (.ireturn, 1) := dk_172 (dk_at dksX0_candidateAt_0 16 rfl rfl)
abbrev cX0_worstLeft : ByteArray := method_30_code
def yX0_worstLeft : MethodName := ⟨RX0, "worstLeft", "(LRosehipCircuits;I[J)I"⟩
def dkwX0_worstLeft_0 : List UInt8 := [44, 3, 42, 27, 182, 0, 105, 133, 80, 167, 0, 6, 78, 4, 172, 3, 172]
abbrev dktX0_worstLeft_0 : List UInt8 := dkwX0_worstLeft_0 ++ []
theorem dksX0_worstLeft_0 : cX0_worstLeft.data.toList.drop 0 = dktX0_worstLeft_0 := by decide +kernel
theorem dX0_worstLeft_0 : decode cX0_worstLeft 0 = .ok (.aload_n 2, 1) := dk_44 (dk_at dksX0_worstLeft_0 0 rfl rfl)
theorem dX0_worstLeft_1 : decode cX0_worstLeft 1 = .ok (.iconst 0, 1) := dk_3 (dk_at dksX0_worstLeft_0 1 rfl rfl)
theorem dX0_worstLeft_2 : decode cX0_worstLeft 2 = .ok (.aload_n 0, 1) := dk_42 (dk_at dksX0_worstLeft_0 2 rfl rfl)
theorem dX0_worstLeft_3 : decode cX0_worstLeft 3 = .ok (.iload_n 1, 1) := dk_27 (dk_at dksX0_worstLeft_0 3 rfl rfl)
theorem dX0_worstLeft_4 : decode cX0_worstLeft 4 = .ok (.invokevirtual 105, 3) := dk_182 0 105 (dk_at dksX0_worstLeft_0 4 rfl rfl)
theorem dX0_worstLeft_7 : decode cX0_worstLeft 7 = .ok (.i2l, 1) := dk_133 (dk_at dksX0_worstLeft_0 7 rfl rfl)
theorem dX0_worstLeft_8 : decode cX0_worstLeft 8 = .ok (.lastore, 1) := dk_80 (dk_at dksX0_worstLeft_0 8 rfl rfl)
theorem dX0_worstLeft_9 : decode cX0_worstLeft 9 = .ok (.goto 6, 3) := dk_167 0 6 (dk_at dksX0_worstLeft_0 9 rfl rfl)
theorem dX0_worstLeft_12 : decode cX0_worstLeft 12 = .ok (.astore_n 3, 1) := dk_78 (dk_at dksX0_worstLeft_0 12 rfl rfl)
theorem dX0_worstLeft_13 : decode cX0_worstLeft 13 = .ok (.iconst 1, 1) := dk_4 (dk_at dksX0_worstLeft_0 13 rfl rfl)
theorem dX0_worstLeft_14 : decode cX0_worstLeft 14 = .ok (.ireturn, 1) := dk_172 (dk_at dksX0_worstLeft_0 14 rfl rfl)
theorem dX0_worstLeft_15 : decode cX0_worstLeft 15 = .ok (.iconst 0, 1) := dk_3 (dk_at dksX0_worstLeft_0 15 rfl rfl)
theorem dX0_worstLeft_16 : decode cX0_worstLeft 16 = .ok (.ireturn, 1) := dk_172 (dk_at dksX0_worstLeft_0 16 rfl rfl)
abbrev cX0_meanLeft : ByteArray := method_31_code
def yX0_meanLeft : MethodName := ⟨RX0, "meanLeft", "(LRosehipCircuits;I[D)I"⟩
def dkwX0_meanLeft_0 : List UInt8 := [44, 3, 42, 27, 182, 0, 108, 82, 167, 0, 6, 78, 4, 172, 3, 172]
abbrev dktX0_meanLeft_0 : List UInt8 := dkwX0_meanLeft_0 ++ []
theorem dksX0_meanLeft_0 : cX0_meanLeft.data.toList.drop 0 = dktX0_meanLeft_0 := by decide +kernel
theorem dX0_meanLeft_0 : decode cX0_meanLeft 0 = .ok (.aload_n 2, 1) := dk_44 (dk_at dksX0_meanLeft_0 0 rfl rfl)
theorem dX0_meanLeft_1 : decode cX0_meanLeft 1 = .ok (.iconst 0, 1) := dk_3 (dk_at dksX0_meanLeft_0 1 rfl rfl)
theorem dX0_meanLeft_2 : decode cX0_meanLeft 2 = .ok (.aload_n 0, 1) := dk_42 (dk_at dksX0_meanLeft_0 2 rfl rfl)
theorem dX0_meanLeft_3 : decode cX0_meanLeft 3 = .ok (.iload_n 1, 1) := dk_27 (dk_at dksX0_meanLeft_0 3 rfl rfl)
theorem dX0_meanLeft_4 : decode cX0_meanLeft 4 = .ok (.invokevirtual 108, 3) := dk_182 0 108 (dk_at dksX0_meanLeft_0 4 rfl rfl)
theorem dX0_meanLeft_7 : decode cX0_meanLeft 7 = .ok (.dastore, 1) := dk_82 (dk_at dksX0_meanLeft_0 7 rfl rfl)
theorem dX0_meanLeft_8 : decode cX0_meanLeft 8 = .ok (.goto 6, 3) := dk_167 0 6 (dk_at dksX0_meanLeft_0 8 rfl rfl)
theorem dX0_meanLeft_11 : decode cX0_meanLeft 11 = .ok (.astore_n 3, 1) := dk_78 (dk_at dksX0_meanLeft_0 11 rfl rfl)
theorem dX0_meanLeft_12 : decode cX0_meanLeft 12 = .ok (.iconst 1, 1) := dk_4 (dk_at dksX0_meanLeft_0 12 rfl rfl)
theorem dX0_meanLeft_13 : decode cX0_meanLeft 13 = .ok (.ireturn, 1) := dk_172 (dk_at dksX0_meanLeft_0 13 rfl rfl)
theorem dX0_meanLeft_14 : decode cX0_meanLeft 14 = .ok (.iconst 0, 1) := dk_3 (dk_at dksX0_meanLeft_0 14 rfl rfl)
theorem dX0_meanLeft_15 : decode cX0_meanLeft 15 = .ok (.ireturn, 1) := dk_172 (dk_at dksX0_meanLeft_0 15 rfl rfl)
theorem q78 : (Jvm.Cond.initialized "RosehipCircuitsLaw") ∈ lw_all := lw_g (lw_at lw_m1 0 rfl) rfl
theorem q114 : (Jvm.Cond.classLink "RosehipCircuitsLaw" (8 : Nat) "RosehipCircuits") ∈ lw_all := lw_g (lw_at lw_m1 36 rfl) rfl
theorem q116 : (Jvm.Cond.methodLink "RosehipCircuitsLaw" (112 : Nat) ({ cls := "RosehipCircuits", name := "<init>", desc := "()V" } : Jvm.MethodName)) ∈ lw_all := lw_g (lw_at lw_m1 38 rfl) rfl
theorem q267 : (Jvm.Cond.methodLink "RosehipCircuitsLaw" (146 : Nat) ({ cls := "RosehipCircuits", name := "turnSuspicion", desc := "()Z" } : Jvm.MethodName)) ∈ lw_all := lw_g (lw_at lw_m1 189 rfl) rfl
theorem q427 : (Jvm.Cond.methodLink "RosehipCircuitsLaw" (154 : Nat) ({ cls := "RosehipCircuits", name := "choose", desc := "()I" } : Jvm.MethodName)) ∈ lw_all := lw_g (lw_at lw_m2 109 rfl) rfl
theorem q491 : (Jvm.Cond.methodLink "RosehipCircuitsLaw" (164 : Nat) ({ cls := "RosehipCircuits", name := "clearText", desc := "()I" } : Jvm.MethodName)) ∈ lw_all := lw_g (lw_at lw_m2 173 rfl) rfl
theorem q780 : (Jvm.Cond.methodLink "RosehipCircuitsLaw" (168 : Nat) ({ cls := "RosehipCircuits", name := "fault", desc := "()I" } : Jvm.MethodName)) ∈ lw_all := lw_g (lw_at lw_m3 222 rfl) rfl
theorem q977 : (Jvm.Cond.methodLink "RosehipCircuitsLaw" (178 : Nat) ({ cls := "RosehipCircuits", name := "savedStates", desc := "()I" } : Jvm.MethodName)) ∈ lw_all := lw_g (lw_at lw_m4 179 rfl) rfl
theorem q981 : (Jvm.Cond.methodLink "RosehipCircuitsLaw" (182 : Nat) ({ cls := "RosehipCircuits", name := "keep", desc := "()I" } : Jvm.MethodName)) ∈ lw_all := lw_g (lw_at lw_m4 183 rfl) rfl
theorem q985 : (Jvm.Cond.methodLink "RosehipCircuitsLaw" (189 : Nat) ({ cls := "RosehipCircuits", name := "gates", desc := "()I" } : Jvm.MethodName)) ∈ lw_all := lw_g (lw_at lw_m4 187 rfl) rfl
theorem q989 : (Jvm.Cond.methodLink "RosehipCircuitsLaw" (199 : Nat) ({ cls := "RosehipCircuits", name := "outputs", desc := "()I" } : Jvm.MethodName)) ∈ lw_all := lw_g (lw_at lw_m4 191 rfl) rfl
theorem q993 : (Jvm.Cond.methodLink "RosehipCircuitsLaw" (203 : Nat) ({ cls := "RosehipCircuits", name := "boxes", desc := "()I" } : Jvm.MethodName)) ∈ lw_all := lw_g (lw_at lw_m4 195 rfl) rfl
theorem q997 : (Jvm.Cond.methodLink "RosehipCircuitsLaw" (223 : Nat) ({ cls := "RosehipCircuits", name := "idleLines", desc := "()I" } : Jvm.MethodName)) ∈ lw_all := lw_g (lw_at lw_m4 199 rfl) rfl
theorem q1013 : (Jvm.Cond.methodLink "RosehipCircuitsLaw" (233 : Nat) ({ cls := "RosehipCircuits", name := "hiddenFaults", desc := "()J" } : Jvm.MethodName)) ∈ lw_all := lw_g (lw_at lw_m4 215 rfl) rfl
theorem q1017 : (Jvm.Cond.methodLink "RosehipCircuitsLaw" (244 : Nat) ({ cls := "RosehipCircuits", name := "looks", desc := "(Z)I" } : Jvm.MethodName)) ∈ lw_all := lw_g (lw_at lw_m4 219 rfl) rfl
theorem q1051 : (Jvm.Cond.methodLink "RosehipCircuitsLaw" (254 : Nat) ({ cls := "RosehipCircuits", name := "shownBy", desc := "(J)I" } : Jvm.MethodName)) ∈ lw_all := lw_g (lw_at lw_m5 13 rfl) rfl
theorem q1055 : (Jvm.Cond.methodLink "RosehipCircuitsLaw" (259 : Nat) ({ cls := "RosehipCircuits", name := "chosen", desc := "()J" } : Jvm.MethodName)) ∈ lw_all := lw_g (lw_at lw_m5 17 rfl) rfl
theorem q1059 : (Jvm.Cond.methodLink "RosehipCircuitsLaw" (263 : Nat) ({ cls := "RosehipCircuits", name := "fewestTests", desc := "()I" } : Jvm.MethodName)) ∈ lw_all := lw_g (lw_at lw_m5 21 rfl) rfl
theorem q1071 : (Jvm.Cond.methodLink "RosehipCircuitsLaw" (267 : Nat) ({ cls := "RosehipCircuits", name := "neededTests", desc := "()J" } : Jvm.MethodName)) ∈ lw_all := lw_g (lw_at lw_m5 33 rfl) rfl
theorem q1075 : (Jvm.Cond.methodLink "RosehipCircuitsLaw" (271 : Nat) ({ cls := "RosehipCircuits", name := "secret", desc := "()I" } : Jvm.MethodName)) ∈ lw_all := lw_g (lw_at lw_m5 37 rfl) rfl
theorem q1079 : (Jvm.Cond.methodLink "RosehipCircuitsLaw" (275 : Nat) ({ cls := "RosehipCircuits", name := "isSuspecting", desc := "()Z" } : Jvm.MethodName)) ∈ lw_all := lw_g (lw_at lw_m5 41 rfl) rfl
theorem q1083 : (Jvm.Cond.methodLink "RosehipCircuitsLaw" (279 : Nat) ({ cls := "RosehipCircuits", name := "asked", desc := "()I" } : Jvm.MethodName)) ∈ lw_all := lw_g (lw_at lw_m5 45 rfl) rfl
theorem q1087 : (Jvm.Cond.methodLink "RosehipCircuitsLaw" (286 : Nat) ({ cls := "RosehipCircuits", name := "hypotheses", desc := "()I" } : Jvm.MethodName)) ∈ lw_all := lw_g (lw_at lw_m5 49 rfl) rfl
theorem q1099 : (Jvm.Cond.methodLink "RosehipCircuitsLaw" (290 : Nat) ({ cls := "RosehipCircuits", name := "candidates", desc := "(Z)I" } : Jvm.MethodName)) ∈ lw_all := lw_g (lw_at lw_m5 61 rfl) rfl
theorem q1134 : (Jvm.Cond.methodLink "RosehipCircuitsLaw" (297 : Nat) ({ cls := "RosehipCircuits", name := "areAlike", desc := "()Z" } : Jvm.MethodName)) ∈ lw_all := lw_g (lw_at lw_m5 96 rfl) rfl
theorem q1147 : (Jvm.Cond.methodLink "RosehipCircuitsLaw" (304 : Nat) ({ cls := "RosehipCircuits", name := "bestTest", desc := "()I" } : Jvm.MethodName)) ∈ lw_all := lw_g (lw_at lw_m5 109 rfl) rfl
theorem q1155 : (Jvm.Cond.methodLink "RosehipCircuitsLaw" (116 : Nat) ({ cls := "RosehipCircuitsLaw", name := "addGate", desc := "(LRosehipCircuits;III[J)I" } : Jvm.MethodName)) ∈ lw_all := lw_g (lw_at lw_m5 117 rfl) rfl
theorem q1156 : (Jvm.Cond.static ({ cls := "RosehipCircuitsLaw", name := "addGate", desc := "(LRosehipCircuits;III[J)I" } : Jvm.MethodName)) ∈ lw_all := lw_g (lw_at lw_m5 118 rfl) rfl
theorem q1157 : (Jvm.Cond.codeWith ({ cls := "RosehipCircuitsLaw", name := "addGate", desc := "(LRosehipCircuits;III[J)I" } : Jvm.MethodName) method_3_code (6 : Nat) (Option.some Jvm.ClassFile.FieldType.int) [((0 : Nat), (12 : Nat), (15 : Nat), (13 : Nat)), ((0 : Nat), (12 : Nat), (19 : Nat), (15 : Nat)), ((0 : Nat), (12 : Nat), (23 : Nat), (17 : Nat))]) ∈ lw_all := lw_g (lw_at lw_m5 119 rfl) rfl
theorem q1158 : (Jvm.Cond.classLink "RosehipCircuitsLaw" (13 : Nat) "java/lang/IndexOutOfBoundsException") ∈ lw_all := lw_g (lw_at lw_m5 120 rfl) rfl
theorem q1161 : (Jvm.Cond.classLink "RosehipCircuitsLaw" (15 : Nat) "java/lang/IllegalArgumentException") ∈ lw_all := lw_g (lw_at lw_m5 123 rfl) rfl
theorem q1162 : (Jvm.Cond.classLink "RosehipCircuitsLaw" (17 : Nat) "java/lang/IllegalStateException") ∈ lw_all := lw_g (lw_at lw_m5 124 rfl) rfl
theorem q1163 : (Jvm.Cond.methodLink "RosehipCircuitsLaw" (7 : Nat) ({ cls := "RosehipCircuits", name := "addGate", desc := "(III)I" } : Jvm.MethodName)) ∈ lw_all := lw_g (lw_at lw_m5 125 rfl) rfl
theorem q1214 : (Jvm.Cond.methodLink "RosehipCircuitsLaw" (125 : Nat) ({ cls := "RosehipCircuitsLaw", name := "dropGate", desc := "(LRosehipCircuits;[J)I" } : Jvm.MethodName)) ∈ lw_all := lw_g (lw_at lw_m5 176 rfl) rfl
theorem q1215 : (Jvm.Cond.static ({ cls := "RosehipCircuitsLaw", name := "dropGate", desc := "(LRosehipCircuits;[J)I" } : Jvm.MethodName)) ∈ lw_all := lw_g (lw_at lw_m5 177 rfl) rfl
theorem q1216 : (Jvm.Cond.codeWith ({ cls := "RosehipCircuitsLaw", name := "dropGate", desc := "(LRosehipCircuits;[J)I" } : Jvm.MethodName) method_4_code (3 : Nat) (Option.some Jvm.ClassFile.FieldType.int) [((0 : Nat), (8 : Nat), (11 : Nat), (17 : Nat))]) ∈ lw_all := lw_g (lw_at lw_m5 178 rfl) rfl
theorem q1217 : (Jvm.Cond.methodLink "RosehipCircuitsLaw" (19 : Nat) ({ cls := "RosehipCircuits", name := "dropGate", desc := "()I" } : Jvm.MethodName)) ∈ lw_all := lw_g (lw_at lw_m5 179 rfl) rfl
theorem q1227 : (Jvm.Cond.methodLink "RosehipCircuitsLaw" (129 : Nat) ({ cls := "RosehipCircuitsLaw", name := "setKind", desc := "(LRosehipCircuits;II[J)I" } : Jvm.MethodName)) ∈ lw_all := lw_g (lw_at lw_m5 189 rfl) rfl
theorem q1228 : (Jvm.Cond.static ({ cls := "RosehipCircuitsLaw", name := "setKind", desc := "(LRosehipCircuits;II[J)I" } : Jvm.MethodName)) ∈ lw_all := lw_g (lw_at lw_m5 190 rfl) rfl
theorem q1229 : (Jvm.Cond.codeWith ({ cls := "RosehipCircuitsLaw", name := "setKind", desc := "(LRosehipCircuits;II[J)I" } : Jvm.MethodName) method_5_code (5 : Nat) (Option.some Jvm.ClassFile.FieldType.int) [((0 : Nat), (10 : Nat), (13 : Nat), (13 : Nat)), ((0 : Nat), (10 : Nat), (17 : Nat), (15 : Nat)), ((0 : Nat), (10 : Nat), (21 : Nat), (17 : Nat))]) ∈ lw_all := lw_g (lw_at lw_m5 191 rfl) rfl
theorem q1230 : (Jvm.Cond.methodLink "RosehipCircuitsLaw" (23 : Nat) ({ cls := "RosehipCircuits", name := "setKind", desc := "(II)I" } : Jvm.MethodName)) ∈ lw_all := lw_g (lw_at lw_m5 192 rfl) rfl
theorem q1245 : (Jvm.Cond.methodLink "RosehipCircuitsLaw" (133 : Nat) ({ cls := "RosehipCircuitsLaw", name := "setSource", desc := "(LRosehipCircuits;III[J)I" } : Jvm.MethodName)) ∈ lw_all := lw_g (lw_at lw_m5 207 rfl) rfl
theorem q1246 : (Jvm.Cond.static ({ cls := "RosehipCircuitsLaw", name := "setSource", desc := "(LRosehipCircuits;III[J)I" } : Jvm.MethodName)) ∈ lw_all := lw_g (lw_at lw_m5 208 rfl) rfl
theorem q1247 : (Jvm.Cond.codeWith ({ cls := "RosehipCircuitsLaw", name := "setSource", desc := "(LRosehipCircuits;III[J)I" } : Jvm.MethodName) method_6_code (6 : Nat) (Option.some Jvm.ClassFile.FieldType.int) [((0 : Nat), (12 : Nat), (15 : Nat), (13 : Nat)), ((0 : Nat), (12 : Nat), (19 : Nat), (15 : Nat))]) ∈ lw_all := lw_g (lw_at lw_m5 209 rfl) rfl
theorem q1248 : (Jvm.Cond.methodLink "RosehipCircuitsLaw" (27 : Nat) ({ cls := "RosehipCircuits", name := "setSource", desc := "(III)I" } : Jvm.MethodName)) ∈ lw_all := lw_g (lw_at lw_m5 210 rfl) rfl
theorem q1258 : (Jvm.Cond.methodLink "RosehipCircuitsLaw" (136 : Nat) ({ cls := "RosehipCircuitsLaw", name := "turnOutput", desc := "(LRosehipCircuits;I[J)I" } : Jvm.MethodName)) ∈ lw_all := lw_g (lw_at lw_m5 220 rfl) rfl
theorem q1259 : (Jvm.Cond.static ({ cls := "RosehipCircuitsLaw", name := "turnOutput", desc := "(LRosehipCircuits;I[J)I" } : Jvm.MethodName)) ∈ lw_all := lw_g (lw_at lw_m5 221 rfl) rfl
theorem q1260 : (Jvm.Cond.codeWith ({ cls := "RosehipCircuitsLaw", name := "turnOutput", desc := "(LRosehipCircuits;I[J)I" } : Jvm.MethodName) method_7_code (4 : Nat) (Option.some Jvm.ClassFile.FieldType.int) [((0 : Nat), (9 : Nat), (12 : Nat), (13 : Nat)), ((0 : Nat), (9 : Nat), (15 : Nat), (17 : Nat))]) ∈ lw_all := lw_g (lw_at lw_m5 222 rfl) rfl
theorem q1261 : (Jvm.Cond.methodLink "RosehipCircuitsLaw" (30 : Nat) ({ cls := "RosehipCircuits", name := "turnOutput", desc := "(I)I" } : Jvm.MethodName)) ∈ lw_all := lw_g (lw_at lw_m5 223 rfl) rfl
theorem q1272 : (Jvm.Cond.methodLink "RosehipCircuitsLaw" (140 : Nat) ({ cls := "RosehipCircuitsLaw", name := "turnBox", desc := "(LRosehipCircuits;I[J)I" } : Jvm.MethodName)) ∈ lw_all := lw_g (lw_at lw_m5 234 rfl) rfl
theorem q1273 : (Jvm.Cond.static ({ cls := "RosehipCircuitsLaw", name := "turnBox", desc := "(LRosehipCircuits;I[J)I" } : Jvm.MethodName)) ∈ lw_all := lw_g (lw_at lw_m5 235 rfl) rfl
theorem q1274 : (Jvm.Cond.codeWith ({ cls := "RosehipCircuitsLaw", name := "turnBox", desc := "(LRosehipCircuits;I[J)I" } : Jvm.MethodName) method_8_code (4 : Nat) (Option.some Jvm.ClassFile.FieldType.int) [((0 : Nat), (9 : Nat), (12 : Nat), (13 : Nat)), ((0 : Nat), (9 : Nat), (15 : Nat), (17 : Nat))]) ∈ lw_all := lw_g (lw_at lw_m5 236 rfl) rfl
theorem q1275 : (Jvm.Cond.methodLink "RosehipCircuitsLaw" (34 : Nat) ({ cls := "RosehipCircuits", name := "turnBox", desc := "(I)I" } : Jvm.MethodName)) ∈ lw_all := lw_g (lw_at lw_m5 237 rfl) rfl
theorem q1285 : (Jvm.Cond.methodLink "RosehipCircuitsLaw" (143 : Nat) ({ cls := "RosehipCircuitsLaw", name := "setSecret", desc := "(LRosehipCircuits;I[J)I" } : Jvm.MethodName)) ∈ lw_all := lw_g (lw_at lw_m6 7 rfl) rfl
theorem q1286 : (Jvm.Cond.static ({ cls := "RosehipCircuitsLaw", name := "setSecret", desc := "(LRosehipCircuits;I[J)I" } : Jvm.MethodName)) ∈ lw_all := lw_g (lw_at lw_m6 8 rfl) rfl
theorem q1287 : (Jvm.Cond.codeWith ({ cls := "RosehipCircuitsLaw", name := "setSecret", desc := "(LRosehipCircuits;I[J)I" } : Jvm.MethodName) method_9_code (4 : Nat) (Option.some Jvm.ClassFile.FieldType.int) [((0 : Nat), (9 : Nat), (12 : Nat), (15 : Nat))]) ∈ lw_all := lw_g (lw_at lw_m6 9 rfl) rfl
theorem q1288 : (Jvm.Cond.methodLink "RosehipCircuitsLaw" (37 : Nat) ({ cls := "RosehipCircuits", name := "setSecret", desc := "(I)I" } : Jvm.MethodName)) ∈ lw_all := lw_g (lw_at lw_m6 10 rfl) rfl
theorem q1292 : (Jvm.Cond.methodLink "RosehipCircuitsLaw" (151 : Nat) ({ cls := "RosehipCircuitsLaw", name := "ask", desc := "(LRosehipCircuits;I[J)I" } : Jvm.MethodName)) ∈ lw_all := lw_g (lw_at lw_m6 14 rfl) rfl
theorem q1293 : (Jvm.Cond.static ({ cls := "RosehipCircuitsLaw", name := "ask", desc := "(LRosehipCircuits;I[J)I" } : Jvm.MethodName)) ∈ lw_all := lw_g (lw_at lw_m6 15 rfl) rfl
theorem q1294 : (Jvm.Cond.codeWith ({ cls := "RosehipCircuitsLaw", name := "ask", desc := "(LRosehipCircuits;I[J)I" } : Jvm.MethodName) method_10_code (4 : Nat) (Option.some Jvm.ClassFile.FieldType.int) [((0 : Nat), (9 : Nat), (12 : Nat), (15 : Nat)), ((0 : Nat), (9 : Nat), (15 : Nat), (17 : Nat))]) ∈ lw_all := lw_g (lw_at lw_m6 16 rfl) rfl
theorem q1295 : (Jvm.Cond.methodLink "RosehipCircuitsLaw" (40 : Nat) ({ cls := "RosehipCircuits", name := "ask", desc := "(I)I" } : Jvm.MethodName)) ∈ lw_all := lw_g (lw_at lw_m6 17 rfl) rfl
theorem q1307 : (Jvm.Cond.methodLink "RosehipCircuitsLaw" (158 : Nat) ({ cls := "RosehipCircuitsLaw", name := "askBest", desc := "(LRosehipCircuits;I[J)I" } : Jvm.MethodName)) ∈ lw_all := lw_g (lw_at lw_m6 29 rfl) rfl
theorem q1308 : (Jvm.Cond.static ({ cls := "RosehipCircuitsLaw", name := "askBest", desc := "(LRosehipCircuits;I[J)I" } : Jvm.MethodName)) ∈ lw_all := lw_g (lw_at lw_m6 30 rfl) rfl
theorem q1309 : (Jvm.Cond.codeWith ({ cls := "RosehipCircuitsLaw", name := "askBest", desc := "(LRosehipCircuits;I[J)I" } : Jvm.MethodName) method_11_code (4 : Nat) (Option.some Jvm.ClassFile.FieldType.int) [((0 : Nat), (9 : Nat), (12 : Nat), (15 : Nat))]) ∈ lw_all := lw_g (lw_at lw_m6 31 rfl) rfl
theorem q1310 : (Jvm.Cond.methodLink "RosehipCircuitsLaw" (43 : Nat) ({ cls := "RosehipCircuits", name := "askBest", desc := "(I)I" } : Jvm.MethodName)) ∈ lw_all := lw_g (lw_at lw_m6 32 rfl) rfl
theorem q1316 : (Jvm.Cond.methodLink "RosehipCircuitsLaw" (161 : Nat) ({ cls := "RosehipCircuitsLaw", name := "append", desc := "(LRosehipCircuits;I[J)I" } : Jvm.MethodName)) ∈ lw_all := lw_g (lw_at lw_m6 38 rfl) rfl
theorem q1317 : (Jvm.Cond.static ({ cls := "RosehipCircuitsLaw", name := "append", desc := "(LRosehipCircuits;I[J)I" } : Jvm.MethodName)) ∈ lw_all := lw_g (lw_at lw_m6 39 rfl) rfl
theorem q1318 : (Jvm.Cond.codeWith ({ cls := "RosehipCircuitsLaw", name := "append", desc := "(LRosehipCircuits;I[J)I" } : Jvm.MethodName) method_12_code (4 : Nat) (Option.some Jvm.ClassFile.FieldType.int) [((0 : Nat), (9 : Nat), (12 : Nat), (15 : Nat)), ((0 : Nat), (9 : Nat), (15 : Nat), (17 : Nat))]) ∈ lw_all := lw_g (lw_at lw_m6 40 rfl) rfl
theorem q1319 : (Jvm.Cond.methodLink "RosehipCircuitsLaw" (46 : Nat) ({ cls := "RosehipCircuits", name := "append", desc := "(I)I" } : Jvm.MethodName)) ∈ lw_all := lw_g (lw_at lw_m6 41 rfl) rfl
theorem q1340 : (Jvm.Cond.methodLink "RosehipCircuitsLaw" (172 : Nat) ({ cls := "RosehipCircuitsLaw", name := "run", desc := "(LRosehipCircuits;[J)I" } : Jvm.MethodName)) ∈ lw_all := lw_g (lw_at lw_m6 62 rfl) rfl
theorem q1341 : (Jvm.Cond.static ({ cls := "RosehipCircuitsLaw", name := "run", desc := "(LRosehipCircuits;[J)I" } : Jvm.MethodName)) ∈ lw_all := lw_g (lw_at lw_m6 63 rfl) rfl
theorem q1342 : (Jvm.Cond.codeWith ({ cls := "RosehipCircuitsLaw", name := "run", desc := "(LRosehipCircuits;[J)I" } : Jvm.MethodName) method_13_code (3 : Nat) (Option.some Jvm.ClassFile.FieldType.int) [((0 : Nat), (8 : Nat), (11 : Nat), (15 : Nat))]) ∈ lw_all := lw_g (lw_at lw_m6 64 rfl) rfl
theorem q1343 : (Jvm.Cond.methodLink "RosehipCircuitsLaw" (49 : Nat) ({ cls := "RosehipCircuits", name := "run", desc := "()I" } : Jvm.MethodName)) ∈ lw_all := lw_g (lw_at lw_m6 65 rfl) rfl
theorem q1434 : (Jvm.Cond.methodLink "RosehipCircuitsLaw" (175 : Nat) ({ cls := "RosehipCircuitsLaw", name := "undo", desc := "(LRosehipCircuits;[J)I" } : Jvm.MethodName)) ∈ lw_all := lw_g (lw_at lw_m6 156 rfl) rfl
theorem q1435 : (Jvm.Cond.static ({ cls := "RosehipCircuitsLaw", name := "undo", desc := "(LRosehipCircuits;[J)I" } : Jvm.MethodName)) ∈ lw_all := lw_g (lw_at lw_m6 157 rfl) rfl
theorem q1436 : (Jvm.Cond.codeWith ({ cls := "RosehipCircuitsLaw", name := "undo", desc := "(LRosehipCircuits;[J)I" } : Jvm.MethodName) method_14_code (3 : Nat) (Option.some Jvm.ClassFile.FieldType.int) [((0 : Nat), (8 : Nat), (11 : Nat), (17 : Nat))]) ∈ lw_all := lw_g (lw_at lw_m6 158 rfl) rfl
theorem q1437 : (Jvm.Cond.methodLink "RosehipCircuitsLaw" (52 : Nat) ({ cls := "RosehipCircuits", name := "undo", desc := "()I" } : Jvm.MethodName)) ∈ lw_all := lw_g (lw_at lw_m6 159 rfl) rfl
theorem q1456 : (Jvm.Cond.methodLink "RosehipCircuitsLaw" (186 : Nat) ({ cls := "RosehipCircuitsLaw", name := "restore", desc := "(LRosehipCircuits;[J)I" } : Jvm.MethodName)) ∈ lw_all := lw_g (lw_at lw_m6 178 rfl) rfl
theorem q1457 : (Jvm.Cond.static ({ cls := "RosehipCircuitsLaw", name := "restore", desc := "(LRosehipCircuits;[J)I" } : Jvm.MethodName)) ∈ lw_all := lw_g (lw_at lw_m6 179 rfl) rfl
theorem q1458 : (Jvm.Cond.codeWith ({ cls := "RosehipCircuitsLaw", name := "restore", desc := "(LRosehipCircuits;[J)I" } : Jvm.MethodName) method_15_code (3 : Nat) (Option.some Jvm.ClassFile.FieldType.int) [((0 : Nat), (8 : Nat), (11 : Nat), (17 : Nat))]) ∈ lw_all := lw_g (lw_at lw_m6 180 rfl) rfl
theorem q1459 : (Jvm.Cond.methodLink "RosehipCircuitsLaw" (55 : Nat) ({ cls := "RosehipCircuits", name := "restore", desc := "()I" } : Jvm.MethodName)) ∈ lw_all := lw_g (lw_at lw_m6 181 rfl) rfl
theorem q1463 : (Jvm.Cond.methodLink "RosehipCircuitsLaw" (193 : Nat) ({ cls := "RosehipCircuitsLaw", name := "kindOf", desc := "(LRosehipCircuits;I[J)I" } : Jvm.MethodName)) ∈ lw_all := lw_g (lw_at lw_m6 185 rfl) rfl
theorem q1464 : (Jvm.Cond.static ({ cls := "RosehipCircuitsLaw", name := "kindOf", desc := "(LRosehipCircuits;I[J)I" } : Jvm.MethodName)) ∈ lw_all := lw_g (lw_at lw_m6 186 rfl) rfl
theorem q1465 : (Jvm.Cond.codeWith ({ cls := "RosehipCircuitsLaw", name := "kindOf", desc := "(LRosehipCircuits;I[J)I" } : Jvm.MethodName) method_16_code (4 : Nat) (Option.some Jvm.ClassFile.FieldType.int) [((0 : Nat), (9 : Nat), (12 : Nat), (13 : Nat))]) ∈ lw_all := lw_g (lw_at lw_m6 187 rfl) rfl
theorem q1466 : (Jvm.Cond.methodLink "RosehipCircuitsLaw" (58 : Nat) ({ cls := "RosehipCircuits", name := "kindOf", desc := "(I)I" } : Jvm.MethodName)) ∈ lw_all := lw_g (lw_at lw_m6 188 rfl) rfl
theorem q1472 : (Jvm.Cond.methodLink "RosehipCircuitsLaw" (196 : Nat) ({ cls := "RosehipCircuitsLaw", name := "sourceOf", desc := "(LRosehipCircuits;II[J)I" } : Jvm.MethodName)) ∈ lw_all := lw_g (lw_at lw_m6 194 rfl) rfl
theorem q1473 : (Jvm.Cond.static ({ cls := "RosehipCircuitsLaw", name := "sourceOf", desc := "(LRosehipCircuits;II[J)I" } : Jvm.MethodName)) ∈ lw_all := lw_g (lw_at lw_m6 195 rfl) rfl
theorem q1474 : (Jvm.Cond.codeWith ({ cls := "RosehipCircuitsLaw", name := "sourceOf", desc := "(LRosehipCircuits;II[J)I" } : Jvm.MethodName) method_17_code (5 : Nat) (Option.some Jvm.ClassFile.FieldType.int) [((0 : Nat), (10 : Nat), (13 : Nat), (13 : Nat)), ((0 : Nat), (10 : Nat), (17 : Nat), (15 : Nat))]) ∈ lw_all := lw_g (lw_at lw_m6 196 rfl) rfl
theorem q1475 : (Jvm.Cond.methodLink "RosehipCircuitsLaw" (61 : Nat) ({ cls := "RosehipCircuits", name := "sourceOf", desc := "(II)I" } : Jvm.MethodName)) ∈ lw_all := lw_g (lw_at lw_m6 197 rfl) rfl
theorem q1479 : (Jvm.Cond.methodLink "RosehipCircuitsLaw" (207 : Nat) ({ cls := "RosehipCircuitsLaw", name := "valueOf", desc := "(LRosehipCircuits;II[J)I" } : Jvm.MethodName)) ∈ lw_all := lw_g (lw_at lw_m6 201 rfl) rfl
theorem q1480 : (Jvm.Cond.static ({ cls := "RosehipCircuitsLaw", name := "valueOf", desc := "(LRosehipCircuits;II[J)I" } : Jvm.MethodName)) ∈ lw_all := lw_g (lw_at lw_m6 202 rfl) rfl
theorem q1481 : (Jvm.Cond.codeWith ({ cls := "RosehipCircuitsLaw", name := "valueOf", desc := "(LRosehipCircuits;II[J)I" } : Jvm.MethodName) method_18_code (5 : Nat) (Option.some Jvm.ClassFile.FieldType.int) [((0 : Nat), (10 : Nat), (13 : Nat), (13 : Nat)), ((0 : Nat), (10 : Nat), (17 : Nat), (15 : Nat))]) ∈ lw_all := lw_g (lw_at lw_m6 203 rfl) rfl
theorem q1482 : (Jvm.Cond.methodLink "RosehipCircuitsLaw" (64 : Nat) ({ cls := "RosehipCircuits", name := "valueOf", desc := "(II)I" } : Jvm.MethodName)) ∈ lw_all := lw_g (lw_at lw_m6 204 rfl) rfl
theorem q1487 : (Jvm.Cond.methodLink "RosehipCircuitsLaw" (210 : Nat) ({ cls := "RosehipCircuitsLaw", name := "tableOf", desc := "(LRosehipCircuits;IZ[J)I" } : Jvm.MethodName)) ∈ lw_all := lw_g (lw_at lw_m6 209 rfl) rfl
theorem q1488 : (Jvm.Cond.static ({ cls := "RosehipCircuitsLaw", name := "tableOf", desc := "(LRosehipCircuits;IZ[J)I" } : Jvm.MethodName)) ∈ lw_all := lw_g (lw_at lw_m6 210 rfl) rfl
theorem q1489 : (Jvm.Cond.codeWith ({ cls := "RosehipCircuitsLaw", name := "tableOf", desc := "(LRosehipCircuits;IZ[J)I" } : Jvm.MethodName) method_19_code (5 : Nat) (Option.some Jvm.ClassFile.FieldType.int) [((0 : Nat), (9 : Nat), (12 : Nat), (13 : Nat))]) ∈ lw_all := lw_g (lw_at lw_m6 211 rfl) rfl
theorem q1490 : (Jvm.Cond.methodLink "RosehipCircuitsLaw" (67 : Nat) ({ cls := "RosehipCircuits", name := "tableOf", desc := "(IZ)J" } : Jvm.MethodName)) ∈ lw_all := lw_g (lw_at lw_m6 212 rfl) rfl
theorem q1494 : (Jvm.Cond.methodLink "RosehipCircuitsLaw" (214 : Nat) ({ cls := "RosehipCircuitsLaw", name := "answerTo", desc := "(LRosehipCircuits;I[J)I" } : Jvm.MethodName)) ∈ lw_all := lw_g (lw_at lw_m6 216 rfl) rfl
theorem q1495 : (Jvm.Cond.static ({ cls := "RosehipCircuitsLaw", name := "answerTo", desc := "(LRosehipCircuits;I[J)I" } : Jvm.MethodName)) ∈ lw_all := lw_g (lw_at lw_m6 217 rfl) rfl
theorem q1496 : (Jvm.Cond.codeWith ({ cls := "RosehipCircuitsLaw", name := "answerTo", desc := "(LRosehipCircuits;I[J)I" } : Jvm.MethodName) method_20_code (4 : Nat) (Option.some Jvm.ClassFile.FieldType.int) [((0 : Nat), (9 : Nat), (12 : Nat), (15 : Nat))]) ∈ lw_all := lw_g (lw_at lw_m6 218 rfl) rfl
theorem q1497 : (Jvm.Cond.methodLink "RosehipCircuitsLaw" (71 : Nat) ({ cls := "RosehipCircuits", name := "answerTo", desc := "(I)I" } : Jvm.MethodName)) ∈ lw_all := lw_g (lw_at lw_m6 219 rfl) rfl
theorem q1501 : (Jvm.Cond.methodLink "RosehipCircuitsLaw" (217 : Nat) ({ cls := "RosehipCircuitsLaw", name := "inputsOf", desc := "(LRosehipCircuits;IZ[J)I" } : Jvm.MethodName)) ∈ lw_all := lw_g (lw_at lw_m6 223 rfl) rfl
theorem q1502 : (Jvm.Cond.static ({ cls := "RosehipCircuitsLaw", name := "inputsOf", desc := "(LRosehipCircuits;IZ[J)I" } : Jvm.MethodName)) ∈ lw_all := lw_g (lw_at lw_m6 224 rfl) rfl
theorem q1503 : (Jvm.Cond.codeWith ({ cls := "RosehipCircuitsLaw", name := "inputsOf", desc := "(LRosehipCircuits;IZ[J)I" } : Jvm.MethodName) method_21_code (5 : Nat) (Option.some Jvm.ClassFile.FieldType.int) [((0 : Nat), (10 : Nat), (13 : Nat), (13 : Nat))]) ∈ lw_all := lw_g (lw_at lw_m6 225 rfl) rfl
theorem q1504 : (Jvm.Cond.methodLink "RosehipCircuitsLaw" (74 : Nat) ({ cls := "RosehipCircuits", name := "inputsOf", desc := "(IZ)I" } : Jvm.MethodName)) ∈ lw_all := lw_g (lw_at lw_m6 226 rfl) rfl
theorem q1508 : (Jvm.Cond.methodLink "RosehipCircuitsLaw" (220 : Nat) ({ cls := "RosehipCircuitsLaw", name := "depthOf", desc := "(LRosehipCircuits;I[J)I" } : Jvm.MethodName)) ∈ lw_all := lw_g (lw_at lw_m6 230 rfl) rfl
theorem q1509 : (Jvm.Cond.static ({ cls := "RosehipCircuitsLaw", name := "depthOf", desc := "(LRosehipCircuits;I[J)I" } : Jvm.MethodName)) ∈ lw_all := lw_g (lw_at lw_m6 231 rfl) rfl
theorem q1510 : (Jvm.Cond.codeWith ({ cls := "RosehipCircuitsLaw", name := "depthOf", desc := "(LRosehipCircuits;I[J)I" } : Jvm.MethodName) method_22_code (4 : Nat) (Option.some Jvm.ClassFile.FieldType.int) [((0 : Nat), (9 : Nat), (12 : Nat), (13 : Nat))]) ∈ lw_all := lw_g (lw_at lw_m6 232 rfl) rfl
theorem q1511 : (Jvm.Cond.methodLink "RosehipCircuitsLaw" (78 : Nat) ({ cls := "RosehipCircuits", name := "depthOf", desc := "(I)I" } : Jvm.MethodName)) ∈ lw_all := lw_g (lw_at lw_m6 233 rfl) rfl
theorem q1515 : (Jvm.Cond.methodLink "RosehipCircuitsLaw" (227 : Nat) ({ cls := "RosehipCircuitsLaw", name := "shows", desc := "(LRosehipCircuits;II[J)I" } : Jvm.MethodName)) ∈ lw_all := lw_g (lw_at lw_m6 237 rfl) rfl
theorem q1516 : (Jvm.Cond.static ({ cls := "RosehipCircuitsLaw", name := "shows", desc := "(LRosehipCircuits;II[J)I" } : Jvm.MethodName)) ∈ lw_all := lw_g (lw_at lw_m6 238 rfl) rfl
theorem q1517 : (Jvm.Cond.codeWith ({ cls := "RosehipCircuitsLaw", name := "shows", desc := "(LRosehipCircuits;II[J)I" } : Jvm.MethodName) method_23_code (5 : Nat) (Option.some Jvm.ClassFile.FieldType.int) [((0 : Nat), (17 : Nat), (20 : Nat), (15 : Nat))]) ∈ lw_all := lw_g (lw_at lw_m6 239 rfl) rfl
theorem q1518 : (Jvm.Cond.methodLink "RosehipCircuitsLaw" (81 : Nat) ({ cls := "RosehipCircuits", name := "shows", desc := "(II)Z" } : Jvm.MethodName)) ∈ lw_all := lw_g (lw_at lw_m7 0 rfl) rfl
theorem q1522 : (Jvm.Cond.methodLink "RosehipCircuitsLaw" (230 : Nat) ({ cls := "RosehipCircuitsLaw", name := "testsFor", desc := "(LRosehipCircuits;I[J)I" } : Jvm.MethodName)) ∈ lw_all := lw_g (lw_at lw_m7 4 rfl) rfl
theorem q1523 : (Jvm.Cond.static ({ cls := "RosehipCircuitsLaw", name := "testsFor", desc := "(LRosehipCircuits;I[J)I" } : Jvm.MethodName)) ∈ lw_all := lw_g (lw_at lw_m7 5 rfl) rfl
theorem q1524 : (Jvm.Cond.codeWith ({ cls := "RosehipCircuitsLaw", name := "testsFor", desc := "(LRosehipCircuits;I[J)I" } : Jvm.MethodName) method_24_code (4 : Nat) (Option.some Jvm.ClassFile.FieldType.int) [((0 : Nat), (8 : Nat), (11 : Nat), (15 : Nat))]) ∈ lw_all := lw_g (lw_at lw_m7 6 rfl) rfl
theorem q1525 : (Jvm.Cond.methodLink "RosehipCircuitsLaw" (85 : Nat) ({ cls := "RosehipCircuits", name := "testsFor", desc := "(I)J" } : Jvm.MethodName)) ∈ lw_all := lw_g (lw_at lw_m7 7 rfl) rfl
theorem q1529 : (Jvm.Cond.methodLink "RosehipCircuitsLaw" (238 : Nat) ({ cls := "RosehipCircuitsLaw", name := "whyHidden", desc := "(LRosehipCircuits;I[J)I" } : Jvm.MethodName)) ∈ lw_all := lw_g (lw_at lw_m7 11 rfl) rfl
theorem q1530 : (Jvm.Cond.static ({ cls := "RosehipCircuitsLaw", name := "whyHidden", desc := "(LRosehipCircuits;I[J)I" } : Jvm.MethodName)) ∈ lw_all := lw_g (lw_at lw_m7 12 rfl) rfl
theorem q1531 : (Jvm.Cond.codeWith ({ cls := "RosehipCircuitsLaw", name := "whyHidden", desc := "(LRosehipCircuits;I[J)I" } : Jvm.MethodName) method_25_code (4 : Nat) (Option.some Jvm.ClassFile.FieldType.int) [((0 : Nat), (9 : Nat), (12 : Nat), (15 : Nat))]) ∈ lw_all := lw_g (lw_at lw_m7 13 rfl) rfl
theorem q1532 : (Jvm.Cond.methodLink "RosehipCircuitsLaw" (89 : Nat) ({ cls := "RosehipCircuits", name := "whyHidden", desc := "(I)I" } : Jvm.MethodName)) ∈ lw_all := lw_g (lw_at lw_m7 14 rfl) rfl
theorem q1536 : (Jvm.Cond.methodLink "RosehipCircuitsLaw" (241 : Nat) ({ cls := "RosehipCircuitsLaw", name := "alike", desc := "(LRosehipCircuits;I[J)I" } : Jvm.MethodName)) ∈ lw_all := lw_g (lw_at lw_m7 18 rfl) rfl
theorem q1537 : (Jvm.Cond.static ({ cls := "RosehipCircuitsLaw", name := "alike", desc := "(LRosehipCircuits;I[J)I" } : Jvm.MethodName)) ∈ lw_all := lw_g (lw_at lw_m7 19 rfl) rfl
theorem q1538 : (Jvm.Cond.codeWith ({ cls := "RosehipCircuitsLaw", name := "alike", desc := "(LRosehipCircuits;I[J)I" } : Jvm.MethodName) method_26_code (4 : Nat) (Option.some Jvm.ClassFile.FieldType.int) [((0 : Nat), (8 : Nat), (11 : Nat), (15 : Nat))]) ∈ lw_all := lw_g (lw_at lw_m7 20 rfl) rfl
theorem q1539 : (Jvm.Cond.methodLink "RosehipCircuitsLaw" (92 : Nat) ({ cls := "RosehipCircuits", name := "alike", desc := "(I)J" } : Jvm.MethodName)) ∈ lw_all := lw_g (lw_at lw_m7 21 rfl) rfl
theorem q1540 : (Jvm.Cond.methodLink "RosehipCircuitsLaw" (249 : Nat) ({ cls := "RosehipCircuitsLaw", name := "testsBetween", desc := "(LRosehipCircuits;II[J)I" } : Jvm.MethodName)) ∈ lw_all := lw_g (lw_at lw_m7 22 rfl) rfl
theorem q1541 : (Jvm.Cond.static ({ cls := "RosehipCircuitsLaw", name := "testsBetween", desc := "(LRosehipCircuits;II[J)I" } : Jvm.MethodName)) ∈ lw_all := lw_g (lw_at lw_m7 23 rfl) rfl
theorem q1542 : (Jvm.Cond.codeWith ({ cls := "RosehipCircuitsLaw", name := "testsBetween", desc := "(LRosehipCircuits;II[J)I" } : Jvm.MethodName) method_27_code (5 : Nat) (Option.some Jvm.ClassFile.FieldType.int) [((0 : Nat), (9 : Nat), (12 : Nat), (15 : Nat))]) ∈ lw_all := lw_g (lw_at lw_m7 24 rfl) rfl
theorem q1543 : (Jvm.Cond.methodLink "RosehipCircuitsLaw" (95 : Nat) ({ cls := "RosehipCircuits", name := "testsBetween", desc := "(II)J" } : Jvm.MethodName)) ∈ lw_all := lw_g (lw_at lw_m7 25 rfl) rfl
theorem q1547 : (Jvm.Cond.methodLink "RosehipCircuitsLaw" (283 : Nat) ({ cls := "RosehipCircuitsLaw", name := "askedAt", desc := "(LRosehipCircuits;I[J)I" } : Jvm.MethodName)) ∈ lw_all := lw_g (lw_at lw_m7 29 rfl) rfl
theorem q1548 : (Jvm.Cond.static ({ cls := "RosehipCircuitsLaw", name := "askedAt", desc := "(LRosehipCircuits;I[J)I" } : Jvm.MethodName)) ∈ lw_all := lw_g (lw_at lw_m7 30 rfl) rfl
theorem q1549 : (Jvm.Cond.codeWith ({ cls := "RosehipCircuitsLaw", name := "askedAt", desc := "(LRosehipCircuits;I[J)I" } : Jvm.MethodName) method_28_code (4 : Nat) (Option.some Jvm.ClassFile.FieldType.int) [((0 : Nat), (9 : Nat), (12 : Nat), (13 : Nat))]) ∈ lw_all := lw_g (lw_at lw_m7 31 rfl) rfl
theorem q1550 : (Jvm.Cond.methodLink "RosehipCircuitsLaw" (99 : Nat) ({ cls := "RosehipCircuits", name := "askedAt", desc := "(I)I" } : Jvm.MethodName)) ∈ lw_all := lw_g (lw_at lw_m7 32 rfl) rfl
theorem q1554 : (Jvm.Cond.methodLink "RosehipCircuitsLaw" (294 : Nat) ({ cls := "RosehipCircuitsLaw", name := "candidateAt", desc := "(LRosehipCircuits;I[J)I" } : Jvm.MethodName)) ∈ lw_all := lw_g (lw_at lw_m7 36 rfl) rfl
theorem q1555 : (Jvm.Cond.static ({ cls := "RosehipCircuitsLaw", name := "candidateAt", desc := "(LRosehipCircuits;I[J)I" } : Jvm.MethodName)) ∈ lw_all := lw_g (lw_at lw_m7 37 rfl) rfl
theorem q1556 : (Jvm.Cond.codeWith ({ cls := "RosehipCircuitsLaw", name := "candidateAt", desc := "(LRosehipCircuits;I[J)I" } : Jvm.MethodName) method_29_code (4 : Nat) (Option.some Jvm.ClassFile.FieldType.int) [((0 : Nat), (9 : Nat), (12 : Nat), (15 : Nat))]) ∈ lw_all := lw_g (lw_at lw_m7 38 rfl) rfl
theorem q1557 : (Jvm.Cond.methodLink "RosehipCircuitsLaw" (102 : Nat) ({ cls := "RosehipCircuits", name := "candidateAt", desc := "(I)I" } : Jvm.MethodName)) ∈ lw_all := lw_g (lw_at lw_m7 39 rfl) rfl
theorem q1561 : (Jvm.Cond.methodLink "RosehipCircuitsLaw" (301 : Nat) ({ cls := "RosehipCircuitsLaw", name := "worstLeft", desc := "(LRosehipCircuits;I[J)I" } : Jvm.MethodName)) ∈ lw_all := lw_g (lw_at lw_m7 43 rfl) rfl
theorem q1562 : (Jvm.Cond.static ({ cls := "RosehipCircuitsLaw", name := "worstLeft", desc := "(LRosehipCircuits;I[J)I" } : Jvm.MethodName)) ∈ lw_all := lw_g (lw_at lw_m7 44 rfl) rfl
theorem q1563 : (Jvm.Cond.codeWith ({ cls := "RosehipCircuitsLaw", name := "worstLeft", desc := "(LRosehipCircuits;I[J)I" } : Jvm.MethodName) method_30_code (4 : Nat) (Option.some Jvm.ClassFile.FieldType.int) [((0 : Nat), (9 : Nat), (12 : Nat), (15 : Nat))]) ∈ lw_all := lw_g (lw_at lw_m7 45 rfl) rfl
theorem q1564 : (Jvm.Cond.methodLink "RosehipCircuitsLaw" (105 : Nat) ({ cls := "RosehipCircuits", name := "worstLeft", desc := "(I)I" } : Jvm.MethodName)) ∈ lw_all := lw_g (lw_at lw_m7 46 rfl) rfl
theorem q1568 : (Jvm.Cond.methodLink "RosehipCircuitsLaw" (308 : Nat) ({ cls := "RosehipCircuitsLaw", name := "meanLeft", desc := "(LRosehipCircuits;I[D)I" } : Jvm.MethodName)) ∈ lw_all := lw_g (lw_at lw_m7 50 rfl) rfl
theorem q1569 : (Jvm.Cond.static ({ cls := "RosehipCircuitsLaw", name := "meanLeft", desc := "(LRosehipCircuits;I[D)I" } : Jvm.MethodName)) ∈ lw_all := lw_g (lw_at lw_m7 51 rfl) rfl
theorem q1570 : (Jvm.Cond.codeWith ({ cls := "RosehipCircuitsLaw", name := "meanLeft", desc := "(LRosehipCircuits;I[D)I" } : Jvm.MethodName) method_31_code (4 : Nat) (Option.some Jvm.ClassFile.FieldType.int) [((0 : Nat), (8 : Nat), (11 : Nat), (15 : Nat))]) ∈ lw_all := lw_g (lw_at lw_m7 52 rfl) rfl
theorem q1571 : (Jvm.Cond.methodLink "RosehipCircuitsLaw" (108 : Nat) ({ cls := "RosehipCircuits", name := "meanLeft", desc := "(I)D" } : Jvm.MethodName)) ∈ lw_all := lw_g (lw_at lw_m7 53 rfl) rfl
theorem q1575 : (Jvm.Cond.classLink "RosehipCircuitsLaw" (113 : Nat) "RosehipCircuitsModel") ∈ lw_all := lw_g (lw_at lw_m7 57 rfl) rfl
theorem q1577 : (Jvm.Cond.methodLink "RosehipCircuitsLaw" (115 : Nat) ({ cls := "RosehipCircuitsModel", name := "<init>", desc := "()V" } : Jvm.MethodName)) ∈ lw_all := lw_g (lw_at lw_m7 59 rfl) rfl
theorem q1660 : (Jvm.Cond.methodLink "RosehipCircuitsLaw" (122 : Nat) ({ cls := "RosehipCircuitsModel", name := "thrown", desc := "()I" } : Jvm.MethodName)) ∈ lw_all := lw_g (lw_at lw_m7 142 rfl) rfl
theorem q1664 : (Jvm.Cond.methodLink "RosehipCircuitsLaw" (177 : Nat) ({ cls := "RosehipCircuitsModel", name := "undo", desc := "()I" } : Jvm.MethodName)) ∈ lw_all := lw_g (lw_at lw_m7 146 rfl) rfl
theorem q1668 : (Jvm.Cond.methodLink "RosehipCircuitsLaw" (181 : Nat) ({ cls := "RosehipCircuitsModel", name := "savedStates", desc := "()I" } : Jvm.MethodName)) ∈ lw_all := lw_g (lw_at lw_m7 150 rfl) rfl
theorem q1672 : (Jvm.Cond.methodLink "RosehipCircuitsLaw" (185 : Nat) ({ cls := "RosehipCircuitsModel", name := "keep", desc := "()I" } : Jvm.MethodName)) ∈ lw_all := lw_g (lw_at lw_m7 154 rfl) rfl
theorem q1676 : (Jvm.Cond.methodLink "RosehipCircuitsLaw" (188 : Nat) ({ cls := "RosehipCircuitsModel", name := "restore", desc := "()I" } : Jvm.MethodName)) ∈ lw_all := lw_g (lw_at lw_m7 158 rfl) rfl
theorem q1684 : (Jvm.Cond.methodLink "RosehipCircuitsLaw" (121 : Nat) ({ cls := "RosehipCircuitsModel", name := "addGate", desc := "(III)I" } : Jvm.MethodName)) ∈ lw_all := lw_g (lw_at lw_m7 166 rfl) rfl
theorem q1719 : (Jvm.Cond.methodLink "RosehipCircuitsLaw" (128 : Nat) ({ cls := "RosehipCircuitsModel", name := "dropGate", desc := "()I" } : Jvm.MethodName)) ∈ lw_all := lw_g (lw_at lw_m7 201 rfl) rfl
theorem q1723 : (Jvm.Cond.methodLink "RosehipCircuitsLaw" (132 : Nat) ({ cls := "RosehipCircuitsModel", name := "setKind", desc := "(II)I" } : Jvm.MethodName)) ∈ lw_all := lw_g (lw_at lw_m7 205 rfl) rfl
theorem q1734 : (Jvm.Cond.methodLink "RosehipCircuitsLaw" (135 : Nat) ({ cls := "RosehipCircuitsModel", name := "setSource", desc := "(III)I" } : Jvm.MethodName)) ∈ lw_all := lw_g (lw_at lw_m7 216 rfl) rfl
theorem q1738 : (Jvm.Cond.methodLink "RosehipCircuitsLaw" (139 : Nat) ({ cls := "RosehipCircuitsModel", name := "turnOutput", desc := "(I)I" } : Jvm.MethodName)) ∈ lw_all := lw_g (lw_at lw_m7 220 rfl) rfl
theorem q1753 : (Jvm.Cond.methodLink "RosehipCircuitsLaw" (142 : Nat) ({ cls := "RosehipCircuitsModel", name := "turnBox", desc := "(I)I" } : Jvm.MethodName)) ∈ lw_all := lw_g (lw_at lw_m7 235 rfl) rfl
theorem q1761 : (Jvm.Cond.methodLink "RosehipCircuitsLaw" (145 : Nat) ({ cls := "RosehipCircuitsModel", name := "setSecret", desc := "(I)I" } : Jvm.MethodName)) ∈ lw_all := lw_g (lw_at lw_m8 3 rfl) rfl
theorem q1765 : (Jvm.Cond.methodLink "RosehipCircuitsLaw" (150 : Nat) ({ cls := "RosehipCircuitsModel", name := "turnSuspicion", desc := "()Z" } : Jvm.MethodName)) ∈ lw_all := lw_g (lw_at lw_m8 7 rfl) rfl
theorem q1773 : (Jvm.Cond.methodLink "RosehipCircuitsLaw" (153 : Nat) ({ cls := "RosehipCircuitsModel", name := "ask", desc := "(I)I" } : Jvm.MethodName)) ∈ lw_all := lw_g (lw_at lw_m8 15 rfl) rfl
theorem q1800 : (Jvm.Cond.methodLink "RosehipCircuitsLaw" (160 : Nat) ({ cls := "RosehipCircuitsModel", name := "askBest", desc := "(I)I" } : Jvm.MethodName)) ∈ lw_all := lw_g (lw_at lw_m8 42 rfl) rfl
theorem q1828 : (Jvm.Cond.methodLink "RosehipCircuitsLaw" (157 : Nat) ({ cls := "RosehipCircuitsModel", name := "choose", desc := "()I" } : Jvm.MethodName)) ∈ lw_all := lw_g (lw_at lw_m8 70 rfl) rfl
theorem q1843 : (Jvm.Cond.methodLink "RosehipCircuitsLaw" (266 : Nat) ({ cls := "RosehipCircuitsModel", name := "fewestTests", desc := "()I" } : Jvm.MethodName)) ∈ lw_all := lw_g (lw_at lw_m8 85 rfl) rfl
theorem q1859 : (Jvm.Cond.methodLink "RosehipCircuitsLaw" (270 : Nat) ({ cls := "RosehipCircuitsModel", name := "neededTests", desc := "()J" } : Jvm.MethodName)) ∈ lw_all := lw_g (lw_at lw_m8 101 rfl) rfl
theorem q1863 : (Jvm.Cond.methodLink "RosehipCircuitsLaw" (163 : Nat) ({ cls := "RosehipCircuitsModel", name := "append", desc := "(I)I" } : Jvm.MethodName)) ∈ lw_all := lw_g (lw_at lw_m8 105 rfl) rfl
theorem q1867 : (Jvm.Cond.methodLink "RosehipCircuitsLaw" (167 : Nat) ({ cls := "RosehipCircuitsModel", name := "clearText", desc := "()I" } : Jvm.MethodName)) ∈ lw_all := lw_g (lw_at lw_m8 109 rfl) rfl
theorem q1871 : (Jvm.Cond.methodLink "RosehipCircuitsLaw" (171 : Nat) ({ cls := "RosehipCircuitsModel", name := "fault", desc := "()I" } : Jvm.MethodName)) ∈ lw_all := lw_g (lw_at lw_m8 113 rfl) rfl
theorem q1898 : (Jvm.Cond.methodLink "RosehipCircuitsLaw" (174 : Nat) ({ cls := "RosehipCircuitsModel", name := "run", desc := "()I" } : Jvm.MethodName)) ∈ lw_all := lw_g (lw_at lw_m8 140 rfl) rfl
theorem q1906 : (Jvm.Cond.methodLink "RosehipCircuitsLaw" (192 : Nat) ({ cls := "RosehipCircuitsModel", name := "gates", desc := "()I" } : Jvm.MethodName)) ∈ lw_all := lw_g (lw_at lw_m8 148 rfl) rfl
theorem q1910 : (Jvm.Cond.methodLink "RosehipCircuitsLaw" (195 : Nat) ({ cls := "RosehipCircuitsModel", name := "kindOf", desc := "(I)I" } : Jvm.MethodName)) ∈ lw_all := lw_g (lw_at lw_m8 152 rfl) rfl
theorem q1914 : (Jvm.Cond.methodLink "RosehipCircuitsLaw" (198 : Nat) ({ cls := "RosehipCircuitsModel", name := "sourceOf", desc := "(II)I" } : Jvm.MethodName)) ∈ lw_all := lw_g (lw_at lw_m8 156 rfl) rfl
theorem q1918 : (Jvm.Cond.methodLink "RosehipCircuitsLaw" (202 : Nat) ({ cls := "RosehipCircuitsModel", name := "outputs", desc := "()I" } : Jvm.MethodName)) ∈ lw_all := lw_g (lw_at lw_m8 160 rfl) rfl
theorem q1922 : (Jvm.Cond.methodLink "RosehipCircuitsLaw" (206 : Nat) ({ cls := "RosehipCircuitsModel", name := "boxes", desc := "()I" } : Jvm.MethodName)) ∈ lw_all := lw_g (lw_at lw_m8 164 rfl) rfl
theorem q1926 : (Jvm.Cond.methodLink "RosehipCircuitsLaw" (209 : Nat) ({ cls := "RosehipCircuitsModel", name := "valueOf", desc := "(II)I" } : Jvm.MethodName)) ∈ lw_all := lw_g (lw_at lw_m8 168 rfl) rfl
theorem q1930 : (Jvm.Cond.methodLink "RosehipCircuitsLaw" (213 : Nat) ({ cls := "RosehipCircuitsModel", name := "tableOf", desc := "(IZ)J" } : Jvm.MethodName)) ∈ lw_all := lw_g (lw_at lw_m8 172 rfl) rfl
theorem q1934 : (Jvm.Cond.methodLink "RosehipCircuitsLaw" (216 : Nat) ({ cls := "RosehipCircuitsModel", name := "answerTo", desc := "(I)I" } : Jvm.MethodName)) ∈ lw_all := lw_g (lw_at lw_m8 176 rfl) rfl
theorem q1938 : (Jvm.Cond.methodLink "RosehipCircuitsLaw" (219 : Nat) ({ cls := "RosehipCircuitsModel", name := "inputsOf", desc := "(IZ)I" } : Jvm.MethodName)) ∈ lw_all := lw_g (lw_at lw_m8 180 rfl) rfl
theorem q1946 : (Jvm.Cond.methodLink "RosehipCircuitsLaw" (222 : Nat) ({ cls := "RosehipCircuitsModel", name := "depthOf", desc := "(I)I" } : Jvm.MethodName)) ∈ lw_all := lw_g (lw_at lw_m8 188 rfl) rfl
theorem q1951 : (Jvm.Cond.methodLink "RosehipCircuitsLaw" (226 : Nat) ({ cls := "RosehipCircuitsModel", name := "idleLines", desc := "()I" } : Jvm.MethodName)) ∈ lw_all := lw_g (lw_at lw_m8 193 rfl) rfl
theorem q1959 : (Jvm.Cond.methodLink "RosehipCircuitsLaw" (229 : Nat) ({ cls := "RosehipCircuitsModel", name := "shows", desc := "(II)Z" } : Jvm.MethodName)) ∈ lw_all := lw_g (lw_at lw_m8 201 rfl) rfl
theorem q1963 : (Jvm.Cond.methodLink "RosehipCircuitsLaw" (232 : Nat) ({ cls := "RosehipCircuitsModel", name := "testsFor", desc := "(I)J" } : Jvm.MethodName)) ∈ lw_all := lw_g (lw_at lw_m8 205 rfl) rfl
theorem q1967 : (Jvm.Cond.methodLink "RosehipCircuitsLaw" (237 : Nat) ({ cls := "RosehipCircuitsModel", name := "hiddenFaults", desc := "()J" } : Jvm.MethodName)) ∈ lw_all := lw_g (lw_at lw_m8 209 rfl) rfl
theorem q1971 : (Jvm.Cond.methodLink "RosehipCircuitsLaw" (240 : Nat) ({ cls := "RosehipCircuitsModel", name := "whyHidden", desc := "(I)I" } : Jvm.MethodName)) ∈ lw_all := lw_g (lw_at lw_m8 213 rfl) rfl
theorem q1975 : (Jvm.Cond.methodLink "RosehipCircuitsLaw" (243 : Nat) ({ cls := "RosehipCircuitsModel", name := "alike", desc := "(I)J" } : Jvm.MethodName)) ∈ lw_all := lw_g (lw_at lw_m8 217 rfl) rfl
theorem q1979 : (Jvm.Cond.methodLink "RosehipCircuitsLaw" (248 : Nat) ({ cls := "RosehipCircuitsModel", name := "looks", desc := "(Z)I" } : Jvm.MethodName)) ∈ lw_all := lw_g (lw_at lw_m8 221 rfl) rfl
theorem q1983 : (Jvm.Cond.methodLink "RosehipCircuitsLaw" (251 : Nat) ({ cls := "RosehipCircuitsModel", name := "testsBetween", desc := "(II)J" } : Jvm.MethodName)) ∈ lw_all := lw_g (lw_at lw_m8 225 rfl) rfl
theorem q1987 : (Jvm.Cond.methodLink "RosehipCircuitsLaw" (258 : Nat) ({ cls := "RosehipCircuitsModel", name := "shownBy", desc := "(J)I" } : Jvm.MethodName)) ∈ lw_all := lw_g (lw_at lw_m8 229 rfl) rfl
theorem q1991 : (Jvm.Cond.methodLink "RosehipCircuitsLaw" (262 : Nat) ({ cls := "RosehipCircuitsModel", name := "chosen", desc := "()J" } : Jvm.MethodName)) ∈ lw_all := lw_g (lw_at lw_m8 233 rfl) rfl
theorem q1996 : (Jvm.Cond.methodLink "RosehipCircuitsLaw" (274 : Nat) ({ cls := "RosehipCircuitsModel", name := "secret", desc := "()I" } : Jvm.MethodName)) ∈ lw_all := lw_g (lw_at lw_m8 238 rfl) rfl
theorem q2000 : (Jvm.Cond.methodLink "RosehipCircuitsLaw" (278 : Nat) ({ cls := "RosehipCircuitsModel", name := "isSuspecting", desc := "()Z" } : Jvm.MethodName)) ∈ lw_all := lw_g (lw_at lw_m9 2 rfl) rfl
theorem q2004 : (Jvm.Cond.methodLink "RosehipCircuitsLaw" (282 : Nat) ({ cls := "RosehipCircuitsModel", name := "asked", desc := "()I" } : Jvm.MethodName)) ∈ lw_all := lw_g (lw_at lw_m9 6 rfl) rfl
theorem q2008 : (Jvm.Cond.methodLink "RosehipCircuitsLaw" (285 : Nat) ({ cls := "RosehipCircuitsModel", name := "askedAt", desc := "(I)I" } : Jvm.MethodName)) ∈ lw_all := lw_g (lw_at lw_m9 10 rfl) rfl
theorem q2012 : (Jvm.Cond.methodLink "RosehipCircuitsLaw" (289 : Nat) ({ cls := "RosehipCircuitsModel", name := "hypotheses", desc := "()I" } : Jvm.MethodName)) ∈ lw_all := lw_g (lw_at lw_m9 14 rfl) rfl
theorem q2016 : (Jvm.Cond.methodLink "RosehipCircuitsLaw" (293 : Nat) ({ cls := "RosehipCircuitsModel", name := "candidates", desc := "(Z)I" } : Jvm.MethodName)) ∈ lw_all := lw_g (lw_at lw_m9 18 rfl) rfl
theorem q2020 : (Jvm.Cond.methodLink "RosehipCircuitsLaw" (296 : Nat) ({ cls := "RosehipCircuitsModel", name := "candidateAt", desc := "(I)I" } : Jvm.MethodName)) ∈ lw_all := lw_g (lw_at lw_m9 22 rfl) rfl
theorem q2024 : (Jvm.Cond.methodLink "RosehipCircuitsLaw" (300 : Nat) ({ cls := "RosehipCircuitsModel", name := "areAlike", desc := "()Z" } : Jvm.MethodName)) ∈ lw_all := lw_g (lw_at lw_m9 26 rfl) rfl
theorem q2028 : (Jvm.Cond.methodLink "RosehipCircuitsLaw" (303 : Nat) ({ cls := "RosehipCircuitsModel", name := "worstLeft", desc := "(I)I" } : Jvm.MethodName)) ∈ lw_all := lw_g (lw_at lw_m9 30 rfl) rfl
theorem q2032 : (Jvm.Cond.methodLink "RosehipCircuitsLaw" (307 : Nat) ({ cls := "RosehipCircuitsModel", name := "bestTest", desc := "()I" } : Jvm.MethodName)) ∈ lw_all := lw_g (lw_at lw_m9 34 rfl) rfl
theorem q2036 : (Jvm.Cond.methodLink "RosehipCircuitsLaw" (311 : Nat) ({ cls := "RosehipCircuitsModel", name := "meanLeft", desc := "(I)D" } : Jvm.MethodName)) ∈ lw_all := lw_g (lw_at lw_m9 38 rfl) rfl
theorem q2040 : (Jvm.Cond.constantLong "RosehipCircuitsLaw" (252 : Nat) (4294967295 : Int64)) ∈ lw_all := lw_g (lw_at lw_m9 42 rfl) rfl
theorem q1212 : (Jvm.Cond.interfaceMethod "RosehipCircuits$Change" "RosehipCircuits$Change" "on" "(LRosehipCircuits$Circuit;)I") ∈ lw_tbl := lw_at lw_m5 174 rfl
set_option maxRecDepth 100000
theorem q1213 : (Jvm.Cond.declares ({ cls := "RosehipCircuits$Change", name := "on", desc := "(LRosehipCircuits$Circuit;)I" } : Jvm.MethodName)) ∈ lw_tbl := lw_at lw_m5 175 rfl
theorem q551 : (Jvm.Cond.sameMethod "[B" "java/lang/Object" "clone" "()Ljava/lang/Object;") ∈ lw_all := lw_g (lw_at lw_m2 233 rfl) rfl
set_option maxRecDepth 100000
theorem q554 : (Jvm.Cond.selects "[B" ({ cls := "[B", name := "clone", desc := "()Ljava/lang/Object;" } : Jvm.MethodName) ({ cls := "java/lang/Object", name := "clone", desc := "()Ljava/lang/Object;" } : Jvm.MethodName)) ∈ lw_all := lw_g (lw_at lw_m2 236 rfl) rfl
theorem q555 : (Jvm.Cond.castable "[B" "java/lang/Cloneable") ∈ lw_tbl := lw_at lw_m2 237 rfl
theorem q2082 : (Jvm.Cond.castable "[B" "java/lang/Object") ∈ lw_tbl := lw_at lw_m9 84 rfl
theorem q2083 : (Jvm.Cond.castable "[D" "java/lang/Object") ∈ lw_tbl := lw_at lw_m9 85 rfl
set_option maxRecDepth 100000
theorem q2080 : (Jvm.Cond.castable "[I" "java/lang/Object") ∈ lw_tbl := lw_at lw_m9 82 rfl
set_option maxRecDepth 100000
theorem q2079 : (Jvm.Cond.castable "[J" "java/lang/Object") ∈ lw_tbl := lw_at lw_m9 81 rfl
set_option maxRecDepth 100000
theorem q2076 : (Jvm.Cond.sameMethod "[Ljava/lang/Object;" "java/lang/Object" "getClass" "()Ljava/lang/Class;") ∈ lw_all := lw_g (lw_at lw_m9 78 rfl) rfl
set_option maxRecDepth 100000
theorem q2077 : (Jvm.Cond.selects "[Ljava/lang/Object;" ({ cls := "java/lang/Object", name := "getClass", desc := "()Ljava/lang/Class;" } : Jvm.MethodName) ({ cls := "java/lang/Object", name := "getClass", desc := "()Ljava/lang/Class;" } : Jvm.MethodName)) ∈ lw_all := lw_g (lw_at lw_m9 79 rfl) rfl
theorem q2081 : (Jvm.Cond.castable "[Ljava/lang/Object;" "java/lang/Object") ∈ lw_tbl := lw_at lw_m9 83 rfl
theorem q98 : (Jvm.Cond.initialized "java/lang/Number") ∈ lw_all := lw_g (lw_at lw_m1 20 rfl) rfl
set_option maxRecDepth 100000
theorem q97 : (Jvm.Cond.initialized "java/lang/System") ∈ lw_all := lw_g (lw_at lw_m1 19 rfl) rfl
set_option maxRecDepth 100000
theorem q417 : (Jvm.Cond.static ({ cls := "java/lang/System", name := "arraycopy", desc := "(Ljava/lang/Object;ILjava/lang/Object;II)V" } : Jvm.MethodName)) ∈ lw_all := lw_g (lw_at lw_m2 99 rfl) rfl
theorem q418 : (Jvm.Cond.native ({ cls := "java/lang/System", name := "arraycopy", desc := "(Ljava/lang/Object;ILjava/lang/Object;II)V" } : Jvm.MethodName)) ∈ lw_all := lw_g (lw_at lw_m2 100 rfl) rfl
theorem q953 : (Jvm.Cond.interfaceMethod "java/util/List" "java/util/List" "add" "(Ljava/lang/Object;)Z") ∈ lw_tbl := lw_at lw_m4 155 rfl
set_option maxRecDepth 100000
theorem q954 : (Jvm.Cond.declares ({ cls := "java/util/List", name := "add", desc := "(Ljava/lang/Object;)Z" } : Jvm.MethodName)) ∈ lw_tbl := lw_at lw_m4 156 rfl
theorem q1367 : (Jvm.Cond.interfaceMethod "java/util/List" "java/util/List" "size" "()I") ∈ lw_tbl := lw_at lw_m6 89 rfl
theorem q1368 : (Jvm.Cond.declares ({ cls := "java/util/List", name := "size", desc := "()I" } : Jvm.MethodName)) ∈ lw_tbl := lw_at lw_m6 90 rfl
theorem q1376 : (Jvm.Cond.interfaceMethod "java/util/List" "java/util/List" "get" "(I)Ljava/lang/Object;") ∈ lw_tbl := lw_at lw_m6 98 rfl
theorem q1377 : (Jvm.Cond.declares ({ cls := "java/util/List", name := "get", desc := "(I)Ljava/lang/Object;" } : Jvm.MethodName)) ∈ lw_tbl := lw_at lw_m6 99 rfl
theorem q176 : (Jvm.Cond.arrayClass Jvm.ClassFile.FieldType.long) ∈ lw_all := lw_g (lw_at lw_m1 98 rfl) rfl
set_option maxRecDepth 100000
theorem q177 : (Jvm.Cond.arrayClass Jvm.ClassFile.FieldType.int) ∈ lw_all := lw_g (lw_at lw_m1 99 rfl) rfl
theorem q188 : (Jvm.Cond.arrayOver (Jvm.ClassFile.FieldType.object "java/lang/Object")) ∈ lw_tbl := lw_at lw_m1 110 rfl
theorem q231 : (Jvm.Cond.arrayClass Jvm.ClassFile.FieldType.byte) ∈ lw_all := lw_g (lw_at lw_m1 153 rfl) rfl
theorem q2041 : (Jvm.Cond.arrayClass Jvm.ClassFile.FieldType.double) ∈ lw_all := lw_g (lw_at lw_m9 43 rfl) rfl
