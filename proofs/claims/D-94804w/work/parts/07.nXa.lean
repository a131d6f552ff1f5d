set_option maxRecDepth 100000
/-! HalfFair -/
set_option maxRecDepth 100000
def RX0 : String := "HalfFair"
def TX0 : u_T := fun k => match k with
  | 0 => ("HalfFair", "fair", "LHalfFair$Fair;", false)
  | 1 => ("HalfFair", "state", "LHalfFair$State;", true)
  | 2 => ("HalfFair", "kept", "LHalfFair$State;", true)
  | 3 => ("HalfFair", "rules", "Ljava/util/ArrayList;", true)
  | 4 => ("HalfFair", "wrong", "LHalfFair$Wrong;", true)
  | 5 => ("HalfFair", "tape", "[B", true)
  | 6 => ("HalfFair", "taped", "I", false)
  | 7 => ("HalfFair", "trialOne", "[I", true)
  | 8 => ("HalfFair", "trialOther", "[I", true)
  | 9 => ("HalfFair", "isFitted", "[Z", true)
  | 10 => ("HalfFair", "trialMany", "I", false)
  | 11 => ("HalfFair", "draw", "I", false)
  | 12 => ("HalfFair", "worths", "[I", true)
  | 13 => ("HalfFair", "past", "[LHalfFair$State;", true)
  | 14 => ("HalfFair", "pastMany", "I", false)
  | 15 => ("HalfFair", "pastAt", "I", false)
  | 16 => ("HalfFair", "words", "[J", true)
  | 17 => ("HalfFair", "can", "[Z", true)
  | 18 => ("HalfFair", "next", "[Z", true)
  | 19 => ("HalfFair", "bestWalk", "I", false)
  | 20 => ("HalfFair", "bestWay", "I", false)
  | 21 => ("HalfFair", "bestSet", "I", false)
  | _ => ("HalfFair", "images", "[LHalfFair$Image;", true)
def tyX0 : Nat → FieldType := fun k => match k with
  | 0 => .object "HalfFair$Fair"
  | 1 => .object "HalfFair$State"
  | 2 => .object "HalfFair$State"
  | 3 => .object "java/util/ArrayList"
  | 4 => .object "HalfFair$Wrong"
  | 5 => .array .byte
  | 6 => .int
  | 7 => .array .int
  | 8 => .array .int
  | 9 => .array .boolean
  | 10 => .int
  | 11 => .int
  | 12 => .array .int
  | 13 => .array (.object "HalfFair$State")
  | 14 => .int
  | 15 => .int
  | 16 => .array .long
  | 17 => .array .boolean
  | 18 => .array .boolean
  | 19 => .int
  | 20 => .int
  | 21 => .int
  | _ => .array (.object "HalfFair$Image")
abbrev wsX00 : List Cond := u_ws RX0 TX0 23
set_option maxRecDepth 100000 in
theorem nmX0 : ∀ a, a < 23 → ∀ b, b < 23 → a ≠ b → (TX0 a).2.1 ≠ (TX0 b).2.1 := by decide +kernel
set_option maxRecDepth 100000 in
theorem tyX0_ok : ∀ k, k < 23 → parseFieldDescriptor (TX0 k).2.2.1 = some (tyX0 k) := by decide +kernel
abbrev cX0_init : ByteArray := prog_1_method_4_code
def yX0_init : MethodName := ⟨RX0, "<init>", "()V"⟩
def dkwX0_init_6 : List UInt8 := [181, 0, 85, 177]
abbrev dktX0_init_6 : List UInt8 := dkwX0_init_6 ++ []
def dkwX0_init_5 : List UInt8 := [181, 0, 72, 42, 18, 76, 188, 4, 181, 0, 77, 42, 18, 76, 188, 4, 181, 0, 80, 42, 7, 189, 0, 83]
abbrev dktX0_init_5 : List UInt8 := dkwX0_init_5 ++ dktX0_init_6
def dkwX0_init_4 : List UInt8 := [17, 16, 0, 188, 10, 181, 0, 57, 42, 16, 20, 184, 0, 60, 181, 0, 64, 42, 178, 0, 68, 190, 188, 11]
abbrev dktX0_init_4 : List UInt8 := dkwX0_init_4 ++ dktX0_init_5
def dkwX0_init_3 : List UInt8 := [16, 12, 188, 10, 181, 0, 46, 42, 16, 12, 188, 10, 181, 0, 50, 42, 16, 12, 188, 4, 181, 0, 53, 42]
abbrev dktX0_init_3 : List UInt8 := dkwX0_init_3 ++ dktX0_init_4
def dkwX0_init_2 : List UInt8 := [181, 0, 31, 42, 187, 0, 35, 89, 183, 0, 37, 181, 0, 38, 42, 17, 1, 144, 188, 8, 181, 0, 42, 42]
abbrev dktX0_init_2 : List UInt8 := dkwX0_init_2 ++ dktX0_init_3
def dkwX0_init_1 : List UInt8 := [181, 0, 19, 42, 187, 0, 16, 89, 183, 0, 18, 181, 0, 23, 42, 187, 0, 26, 89, 5, 183, 0, 28]
abbrev dktX0_init_1 : List UInt8 := dkwX0_init_1 ++ dktX0_init_2
def dkwX0_init_0 : List UInt8 := [42, 183, 0, 3, 42, 187, 0, 9, 89, 183, 0, 11, 181, 0, 12, 42, 187, 0, 16, 89, 183, 0, 18]
abbrev dktX0_init_0 : List UInt8 := dkwX0_init_0 ++ dktX0_init_1
theorem dksX0_init_0 : cX0_init.data.toList.drop 0 = dktX0_init_0 := by decide +kernel
theorem dksX0_init_1 : cX0_init.data.toList.drop 23 = dktX0_init_1 := dk_seg dksX0_init_0 23 rfl rfl
theorem dksX0_init_2 : cX0_init.data.toList.drop 46 = dktX0_init_2 := dk_seg dksX0_init_1 23 rfl rfl
theorem dksX0_init_3 : cX0_init.data.toList.drop 70 = dktX0_init_3 := dk_seg dksX0_init_2 24 rfl rfl
theorem dksX0_init_4 : cX0_init.data.toList.drop 94 = dktX0_init_4 := dk_seg dksX0_init_3 24 rfl rfl
theorem dksX0_init_5 : cX0_init.data.toList.drop 118 = dktX0_init_5 := dk_seg dksX0_init_4 24 rfl rfl
theorem dksX0_init_6 : cX0_init.data.toList.drop 142 = dktX0_init_6 := dk_seg dksX0_init_5 24 rfl rfl
theorem dX0_init_0 : decode cX0_init 0 = .ok (.aload_n 0, 1) := dk_42 (dk_at dksX0_init_0 0 rfl rfl)
theorem dX0_init_1 : decode cX0_init 1 = .ok (.invokespecial 3, 3) := dk_183 0 3 (dk_at dksX0_init_0 1 rfl rfl)
theorem dX0_init_4 : decode cX0_init 4 = .ok (.aload_n 0, 1) := dk_42 (dk_at dksX0_init_0 4 rfl rfl)
theorem dX0_init_5 : decode cX0_init 5 = .ok (.new 9, 3) := dk_187 0 9 (dk_at dksX0_init_0 5 rfl rfl)
theorem dX0_init_8 : decode cX0_init 8 = .ok (.dup, 1) := dk_89 (dk_at dksX0_init_0 8 rfl rfl)
theorem dX0_init_9 : decode cX0_init 9 = .ok (.invokespecial 11, 3) := dk_183 0 11 (dk_at dksX0_init_0 9 rfl rfl)
theorem dX0_init_12 : decode cX0_init 12 = .ok (.putfield 12, 3) := dk_181 0 12 (dk_at dksX0_init_0 12 rfl rfl)
theorem dX0_init_15 : decode cX0_init 15 = .ok (.aload_n 0, 1) := dk_42 (dk_at dksX0_init_0 15 rfl rfl)
theorem dX0_init_16 : decode cX0_init 16 = .ok (.new 16, 3) := dk_187 0 16 (dk_at dksX0_init_0 16 rfl rfl)
theorem dX0_init_19 : decode cX0_init 19 = .ok (.dup, 1) := dk_89 (dk_at dksX0_init_0 19 rfl rfl)
theorem dX0_init_20 : decode cX0_init 20 = .ok (.invokespecial 18, 3) := dk_183 0 18 (dk_at dksX0_init_0 20 rfl rfl)
theorem dX0_init_23 : decode cX0_init 23 = .ok (.putfield 19, 3) := dk_181 0 19 (dk_at dksX0_init_1 0 rfl rfl)
theorem dX0_init_26 : decode cX0_init 26 = .ok (.aload_n 0, 1) := dk_42 (dk_at dksX0_init_1 3 rfl rfl)
theorem dX0_init_27 : decode cX0_init 27 = .ok (.new 16, 3) := dk_187 0 16 (dk_at dksX0_init_1 4 rfl rfl)
theorem dX0_init_30 : decode cX0_init 30 = .ok (.dup, 1) := dk_89 (dk_at dksX0_init_1 7 rfl rfl)
theorem dX0_init_31 : decode cX0_init 31 = .ok (.invokespecial 18, 3) := dk_183 0 18 (dk_at dksX0_init_1 8 rfl rfl)
theorem dX0_init_34 : decode cX0_init 34 = .ok (.putfield 23, 3) := dk_181 0 23 (dk_at dksX0_init_1 11 rfl rfl)
theorem dX0_init_37 : decode cX0_init 37 = .ok (.aload_n 0, 1) := dk_42 (dk_at dksX0_init_1 14 rfl rfl)
theorem dX0_init_38 : decode cX0_init 38 = .ok (.new 26, 3) := dk_187 0 26 (dk_at dksX0_init_1 15 rfl rfl)
theorem dX0_init_41 : decode cX0_init 41 = .ok (.dup, 1) := dk_89 (dk_at dksX0_init_1 18 rfl rfl)
theorem dX0_init_42 : decode cX0_init 42 = .ok (.iconst 2, 1) := dk_5 (dk_at dksX0_init_1 19 rfl rfl)
theorem dX0_init_43 : decode cX0_init 43 = .ok (.invokespecial 28, 3) := dk_183 0 28 (dk_at dksX0_init_1 20 rfl rfl)
theorem dX0_init_46 : decode cX0_init 46 = .ok (.putfield 31, 3) := dk_181 0 31 (dk_at dksX0_init_2 0 rfl rfl)
theorem dX0_init_49 : decode cX0_init 49 = .ok (.aload_n 0, 1) := dk_42 (dk_at dksX0_init_2 3 rfl rfl)
theorem dX0_init_50 : decode cX0_init 50 = .ok (.new 35, 3) := dk_187 0 35 (dk_at dksX0_init_2 4 rfl rfl)
theorem dX0_init_53 : decode cX0_init 53 = .ok (.dup, 1) := dk_89 (dk_at dksX0_init_2 7 rfl rfl)
theorem dX0_init_54 : decode cX0_init 54 = .ok (.invokespecial 37, 3) := dk_183 0 37 (dk_at dksX0_init_2 8 rfl rfl)
theorem dX0_init_57 : decode cX0_init 57 = .ok (.putfield 38, 3) := dk_181 0 38 (dk_at dksX0_init_2 11 rfl rfl)
theorem dX0_init_60 : decode cX0_init 60 = .ok (.aload_n 0, 1) := dk_42 (dk_at dksX0_init_2 14 rfl rfl)
theorem dX0_init_61 : decode cX0_init 61 = .ok (.sipush 400, 3) := dk_17 1 144 (dk_at dksX0_init_2 15 rfl rfl)
theorem dX0_init_64 : decode cX0_init 64 = .ok (.newarray .byte, 2) := dk_188_8 (dk_at dksX0_init_2 18 rfl rfl)
theorem dX0_init_66 : decode cX0_init 66 = .ok (.putfield 42, 3) := dk_181 0 42 (dk_at dksX0_init_2 20 rfl rfl)
theorem dX0_init_69 : decode cX0_init 69 = .ok (.aload_n 0, 1) := dk_42 (dk_at dksX0_init_2 23 rfl rfl)
theorem dX0_init_70 : decode cX0_init 70 = .ok (.bipush 12, 2) := dk_16 12 (dk_at dksX0_init_3 0 rfl rfl)
theorem dX0_init_72 : decode cX0_init 72 = .ok (.newarray .int, 2) := dk_188_10 (dk_at dksX0_init_3 2 rfl rfl)
theorem dX0_init_74 : decode cX0_init 74 = .ok (.putfield 46, 3) := dk_181 0 46 (dk_at dksX0_init_3 4 rfl rfl)
theorem dX0_init_77 : decode cX0_init 77 = .ok (.aload_n 0, 1) := dk_42 (dk_at dksX0_init_3 7 rfl rfl)
theorem dX0_init_78 : decode cX0_init 78 = .ok (.bipush 12, 2) := dk_16 12 (dk_at dksX0_init_3 8 rfl rfl)
theorem dX0_init_80 : decode cX0_init 80 = .ok (.newarray .int, 2) := dk_188_10 (dk_at dksX0_init_3 10 rfl rfl)
theorem dX0_init_82 : decode cX0_init 82 = .ok (.putfield 50, 3) := dk_181 0 50 (dk_at dksX0_init_3 12 rfl rfl)
theorem dX0_init_85 : decode cX0_init 85 = .ok (.aload_n 0, 1) := dk_42 (dk_at dksX0_init_3 15 rfl rfl)
theorem dX0_init_86 : decode cX0_init 86 = .ok (.bipush 12, 2) := dk_16 12 (dk_at dksX0_init_3 16 rfl rfl)
theorem dX0_init_88 : decode cX0_init 88 = .ok (.newarray .boolean, 2) := dk_188_4 (dk_at dksX0_init_3 18 rfl rfl)
theorem dX0_init_90 : decode cX0_init 90 = .ok (.putfield 53, 3) := dk_181 0 53 (dk_at dksX0_init_3 20 rfl rfl)
theorem dX0_init_93 : decode cX0_init 93 = .ok (.aload_n 0, 1) := dk_42 (dk_at dksX0_init_3 23 rfl rfl)
theorem dX0_init_94 : decode cX0_init 94 = .ok (.sipush 4096, 3) := dk_17 16 0 (dk_at dksX0_init_4 0 rfl rfl)
theorem dX0_init_97 : decode cX0_init 97 = .ok (.newarray .int, 2) := dk_188_10 (dk_at dksX0_init_4 3 rfl rfl)
theorem dX0_init_99 : decode cX0_init 99 = .ok (.putfield 57, 3) := dk_181 0 57 (dk_at dksX0_init_4 5 rfl rfl)
theorem dX0_init_102 : decode cX0_init 102 = .ok (.aload_n 0, 1) := dk_42 (dk_at dksX0_init_4 8 rfl rfl)
theorem dX0_init_103 : decode cX0_init 103 = .ok (.bipush 20, 2) := dk_16 20 (dk_at dksX0_init_4 9 rfl rfl)
theorem dX0_init_105 : decode cX0_init 105 = .ok (.invokestatic 60, 3) := dk_184 0 60 (dk_at dksX0_init_4 11 rfl rfl)
theorem dX0_init_108 : decode cX0_init 108 = .ok (.putfield 64, 3) := dk_181 0 64 (dk_at dksX0_init_4 14 rfl rfl)
theorem dX0_init_111 : decode cX0_init 111 = .ok (.aload_n 0, 1) := dk_42 (dk_at dksX0_init_4 17 rfl rfl)
theorem dX0_init_112 : decode cX0_init 112 = .ok (.getstatic 68, 3) := dk_178 0 68 (dk_at dksX0_init_4 18 rfl rfl)
theorem dX0_init_115 : decode cX0_init 115 = .ok (.arraylength, 1) := dk_190 (dk_at dksX0_init_4 21 rfl rfl)
theorem dX0_init_116 : decode cX0_init 116 = .ok (.newarray .long, 2) := dk_188_11 (dk_at dksX0_init_4 22 rfl rfl)
theorem dX0_init_118 : decode cX0_init 118 = .ok (.putfield 72, 3) := dk_181 0 72 (dk_at dksX0_init_5 0 rfl rfl)
theorem dX0_init_121 : decode cX0_init 121 = .ok (.aload_n 0, 1) := dk_42 (dk_at dksX0_init_5 3 rfl rfl)
theorem dX0_init_122 : decode cX0_init 122 = .ok (.ldc 76, 2) := dk_18 76 (dk_at dksX0_init_5 4 rfl rfl)
theorem dX0_init_124 : decode cX0_init 124 = .ok (.newarray .boolean, 2) := dk_188_4 (dk_at dksX0_init_5 6 rfl rfl)
theorem dX0_init_126 : decode cX0_init 126 = .ok (.putfield 77, 3) := dk_181 0 77 (dk_at dksX0_init_5 8 rfl rfl)
theorem dX0_init_129 : decode cX0_init 129 = .ok (.aload_n 0, 1) := dk_42 (dk_at dksX0_init_5 11 rfl rfl)
theorem dX0_init_130 : decode cX0_init 130 = .ok (.ldc 76, 2) := dk_18 76 (dk_at dksX0_init_5 12 rfl rfl)
theorem dX0_init_132 : decode cX0_init 132 = .ok (.newarray .boolean, 2) := dk_188_4 (dk_at dksX0_init_5 14 rfl rfl)
theorem dX0_init_134 : decode cX0_init 134 = .ok (.putfield 80, 3) := dk_181 0 80 (dk_at dksX0_init_5 16 rfl rfl)
theorem dX0_init_137 : decode cX0_init 137 = .ok (.aload_n 0, 1) := dk_42 (dk_at dksX0_init_5 19 rfl rfl)
theorem dX0_init_138 : decode cX0_init 138 = .ok (.iconst 4, 1) := dk_7 (dk_at dksX0_init_5 20 rfl rfl)
theorem dX0_init_139 : decode cX0_init 139 = .ok (.anewarray 83, 3) := dk_189 0 83 (dk_at dksX0_init_5 21 rfl rfl)
theorem dX0_init_142 : decode cX0_init 142 = .ok (.putfield 85, 3) := dk_181 0 85 (dk_at dksX0_init_6 0 rfl rfl)
theorem dX0_init_145 : decode cX0_init 145 = .ok (.return_, 1) := dk_177 (dk_at dksX0_init_6 3 rfl rfl)
abbrev cX0_newStates : ByteArray := prog_1_method_31_code
def yX0_newStates : MethodName := ⟨RX0, "newStates", "(I)[LHalfFair$State;"⟩
def dkwX0_newStates_1 : List UInt8 := [132, 2, 1, 167, 255, 238, 43, 176]
abbrev dktX0_newStates_1 : List UInt8 := dkwX0_newStates_1 ++ []
def dkwX0_newStates_0 : List UInt8 := [26, 189, 0, 16, 76, 3, 61, 28, 26, 162, 0, 19, 43, 28, 187, 0, 16, 89, 183, 0, 18, 83]
abbrev dktX0_newStates_0 : List UInt8 := dkwX0_newStates_0 ++ dktX0_newStates_1
theorem dksX0_newStates_0 : cX0_newStates.data.toList.drop 0 = dktX0_newStates_0 := by decide +kernel
theorem dksX0_newStates_1 : cX0_newStates.data.toList.drop 22 = dktX0_newStates_1 := dk_seg dksX0_newStates_0 22 rfl rfl
theorem dX0_newStates_0 : decode cX0_newStates 0 = .ok (.iload_n 0, 1) := dk_26 (dk_at dksX0_newStates_0 0 rfl rfl)
theorem dX0_newStates_1 : decode cX0_newStates 1 = .ok (.anewarray 16, 3) := dk_189 0 16 (dk_at dksX0_newStates_0 1 rfl rfl)
theorem dX0_newStates_4 : decode cX0_newStates 4 = .ok (.astore_n 1, 1) := dk_76 (dk_at dksX0_newStates_0 4 rfl rfl)
theorem dX0_newStates_5 : decode cX0_newStates 5 = .ok (.iconst 0, 1) := dk_3 (dk_at dksX0_newStates_0 5 rfl rfl)
theorem dX0_newStates_6 : decode cX0_newStates 6 = .ok (.istore_n 2, 1) := dk_61 (dk_at dksX0_newStates_0 6 rfl rfl)
theorem dX0_newStates_7 : decode cX0_newStates 7 = .ok (.iload_n 2, 1) := dk_28 (dk_at dksX0_newStates_0 7 rfl rfl)
theorem dX0_newStates_8 : decode cX0_newStates 8 = .ok (.iload_n 0, 1) := dk_26 (dk_at dksX0_newStates_0 8 rfl rfl)
theorem dX0_newStates_9 : decode cX0_newStates 9 = .ok (.if_icmp .ge 19, 3) := dk_162 0 19 (dk_at dksX0_newStates_0 9 rfl rfl)
theorem dX0_newStates_12 : decode cX0_newStates 12 = .ok (.aload_n 1, 1) := dk_43 (dk_at dksX0_newStates_0 12 rfl rfl)
theorem dX0_newStates_13 : decode cX0_newStates 13 = .ok (.iload_n 2, 1) := dk_28 (dk_at dksX0_newStates_0 13 rfl rfl)
theorem dX0_newStates_14 : decode cX0_newStates 14 = .ok (.new 16, 3) := dk_187 0 16 (dk_at dksX0_newStates_0 14 rfl rfl)
theorem dX0_newStates_17 : decode cX0_newStates 17 = .ok (.dup, 1) := dk_89 (dk_at dksX0_newStates_0 17 rfl rfl)
theorem dX0_newStates_18 : decode cX0_newStates 18 = .ok (.invokespecial 18, 3) := dk_183 0 18 (dk_at dksX0_newStates_0 18 rfl rfl)
theorem dX0_newStates_21 : decode cX0_newStates 21 = .ok (.aastore, 1) := dk_83 (dk_at dksX0_newStates_0 21 rfl rfl)
theorem dX0_newStates_22 : decode cX0_newStates 22 = .ok (.iinc 2 1, 3) := dk_132 2 1 (dk_at dksX0_newStates_1 0 rfl rfl)
theorem dX0_newStates_25 : decode cX0_newStates 25 = .ok (.goto (-18), 3) := dk_167 255 238 (dk_at dksX0_newStates_1 3 rfl rfl)
theorem dX0_newStates_28 : decode cX0_newStates 28 = .ok (.aload_n 1, 1) := dk_43 (dk_at dksX0_newStates_1 6 rfl rfl)
theorem dX0_newStates_29 : decode cX0_newStates 29 = .ok (.areturn, 1) := dk_176 (dk_at dksX0_newStates_1 7 rfl rfl)
abbrev cX0_feed : ByteArray := prog_1_method_14_code
def yX0_feed : MethodName := ⟨RX0, "feed", "(IIIII)I"⟩
def dkwX0_feed_2 : List UInt8 := [172]
abbrev dktX0_feed_2 : List UInt8 := dkwX0_feed_2 ++ []
def dkwX0_feed_1 : List UInt8 := [182, 0, 125, 42, 29, 182, 0, 125, 42, 21, 4, 182, 0, 125, 42, 21, 5, 182, 0, 125, 42, 180, 0, 122]
abbrev dktX0_feed_1 : List UInt8 := dkwX0_feed_1 ++ dktX0_feed_2
def dkwX0_feed_0 : List UInt8 := [42, 180, 0, 122, 16, 20, 96, 17, 1, 144, 164, 0, 5, 2, 172, 42, 27, 182, 0, 125, 42, 28]
abbrev dktX0_feed_0 : List UInt8 := dkwX0_feed_0 ++ dktX0_feed_1
theorem dksX0_feed_0 : cX0_feed.data.toList.drop 0 = dktX0_feed_0 := by decide +kernel
theorem dksX0_feed_1 : cX0_feed.data.toList.drop 22 = dktX0_feed_1 := dk_seg dksX0_feed_0 22 rfl rfl
theorem dksX0_feed_2 : cX0_feed.data.toList.drop 46 = dktX0_feed_2 := dk_seg dksX0_feed_1 24 rfl rfl
theorem dX0_feed_0 : decode cX0_feed 0 = .ok (.aload_n 0, 1) := dk_42 (dk_at dksX0_feed_0 0 rfl rfl)
theorem dX0_feed_1 : decode cX0_feed 1 = .ok (.getfield 122, 3) := dk_180 0 122 (dk_at dksX0_feed_0 1 rfl rfl)
theorem dX0_feed_4 : decode cX0_feed 4 = .ok (.bipush 20, 2) := dk_16 20 (dk_at dksX0_feed_0 4 rfl rfl)
theorem dX0_feed_6 : decode cX0_feed 6 = .ok (.iadd, 1) := dk_96 (dk_at dksX0_feed_0 6 rfl rfl)
theorem dX0_feed_7 : decode cX0_feed 7 = .ok (.sipush 400, 3) := dk_17 1 144 (dk_at dksX0_feed_0 7 rfl rfl)
theorem dX0_feed_10 : decode cX0_feed 10 = .ok (.if_icmp .le 5, 3) := dk_164 0 5 (dk_at dksX0_feed_0 10 rfl rfl)
theorem dX0_feed_13 : decode cX0_feed 13 = .ok (.iconst (-1), 1) := dk_2 (dk_at dksX0_feed_0 13 rfl rfl)
theorem dX0_feed_14 : decode cX0_feed 14 = .ok (.ireturn, 1) := dk_172 (dk_at dksX0_feed_0 14 rfl rfl)
theorem dX0_feed_15 : decode cX0_feed 15 = .ok (.aload_n 0, 1) := dk_42 (dk_at dksX0_feed_0 15 rfl rfl)
theorem dX0_feed_16 : decode cX0_feed 16 = .ok (.iload_n 1, 1) := dk_27 (dk_at dksX0_feed_0 16 rfl rfl)
theorem dX0_feed_17 : decode cX0_feed 17 = .ok (.invokevirtual 125, 3) := dk_182 0 125 (dk_at dksX0_feed_0 17 rfl rfl)
theorem dX0_feed_20 : decode cX0_feed 20 = .ok (.aload_n 0, 1) := dk_42 (dk_at dksX0_feed_0 20 rfl rfl)
theorem dX0_feed_21 : decode cX0_feed 21 = .ok (.iload_n 2, 1) := dk_28 (dk_at dksX0_feed_0 21 rfl rfl)
theorem dX0_feed_22 : decode cX0_feed 22 = .ok (.invokevirtual 125, 3) := dk_182 0 125 (dk_at dksX0_feed_1 0 rfl rfl)
theorem dX0_feed_25 : decode cX0_feed 25 = .ok (.aload_n 0, 1) := dk_42 (dk_at dksX0_feed_1 3 rfl rfl)
theorem dX0_feed_26 : decode cX0_feed 26 = .ok (.iload_n 3, 1) := dk_29 (dk_at dksX0_feed_1 4 rfl rfl)
theorem dX0_feed_27 : decode cX0_feed 27 = .ok (.invokevirtual 125, 3) := dk_182 0 125 (dk_at dksX0_feed_1 5 rfl rfl)
theorem dX0_feed_30 : decode cX0_feed 30 = .ok (.aload_n 0, 1) := dk_42 (dk_at dksX0_feed_1 8 rfl rfl)
theorem dX0_feed_31 : decode cX0_feed 31 = .ok (.iload 4, 2) := dk_21 4 (dk_at dksX0_feed_1 9 rfl rfl)
theorem dX0_feed_33 : decode cX0_feed 33 = .ok (.invokevirtual 125, 3) := dk_182 0 125 (dk_at dksX0_feed_1 11 rfl rfl)
theorem dX0_feed_36 : decode cX0_feed 36 = .ok (.aload_n 0, 1) := dk_42 (dk_at dksX0_feed_1 14 rfl rfl)
theorem dX0_feed_37 : decode cX0_feed 37 = .ok (.iload 5, 2) := dk_21 5 (dk_at dksX0_feed_1 15 rfl rfl)
theorem dX0_feed_39 : decode cX0_feed 39 = .ok (.invokevirtual 125, 3) := dk_182 0 125 (dk_at dksX0_feed_1 17 rfl rfl)
theorem dX0_feed_42 : decode cX0_feed 42 = .ok (.aload_n 0, 1) := dk_42 (dk_at dksX0_feed_1 20 rfl rfl)
theorem dX0_feed_43 : decode cX0_feed 43 = .ok (.getfield 122, 3) := dk_180 0 122 (dk_at dksX0_feed_1 21 rfl rfl)
theorem dX0_feed_46 : decode cX0_feed 46 = .ok (.ireturn, 1) := dk_172 (dk_at dksX0_feed_2 0 rfl rfl)
abbrev cX0_put : ByteArray := prog_1_method_15_code
def yX0_put : MethodName := ⟨RX0, "put", "(I)V"⟩
def dkwX0_put_1 : List UInt8 := [180, 0, 122, 4, 96, 181, 0, 122, 132, 2, 248, 167, 255, 226, 177]
abbrev dktX0_put_1 : List UInt8 := dkwX0_put_1 ++ []
def dkwX0_put_0 : List UInt8 := [16, 24, 61, 28, 155, 0, 32, 42, 180, 0, 42, 42, 180, 0, 122, 27, 28, 122, 145, 84, 42, 89]
abbrev dktX0_put_0 : List UInt8 := dkwX0_put_0 ++ dktX0_put_1
theorem dksX0_put_0 : cX0_put.data.toList.drop 0 = dktX0_put_0 := by decide +kernel
theorem dksX0_put_1 : cX0_put.data.toList.drop 22 = dktX0_put_1 := dk_seg dksX0_put_0 22 rfl rfl
theorem dX0_put_0 : decode cX0_put 0 = .ok (.bipush 24, 2) := dk_16 24 (dk_at dksX0_put_0 0 rfl rfl)
theorem dX0_put_2 : decode cX0_put 2 = .ok (.istore_n 2, 1) := dk_61 (dk_at dksX0_put_0 2 rfl rfl)
theorem dX0_put_3 : decode cX0_put 3 = .ok (.iload_n 2, 1) := dk_28 (dk_at dksX0_put_0 3 rfl rfl)
theorem dX0_put_4 : decode cX0_put 4 = .ok (.ifCond .lt 32, 3) := dk_155 0 32 (dk_at dksX0_put_0 4 rfl rfl)
theorem dX0_put_7 : decode cX0_put 7 = .ok (.aload_n 0, 1) := dk_42 (dk_at dksX0_put_0 7 rfl rfl)
theorem dX0_put_8 : decode cX0_put 8 = .ok (.getfield 42, 3) := dk_180 0 42 (dk_at dksX0_put_0 8 rfl rfl)
theorem dX0_put_11 : decode cX0_put 11 = .ok (.aload_n 0, 1) := dk_42 (dk_at dksX0_put_0 11 rfl rfl)
theorem dX0_put_12 : decode cX0_put 12 = .ok (.getfield 122, 3) := dk_180 0 122 (dk_at dksX0_put_0 12 rfl rfl)
theorem dX0_put_15 : decode cX0_put 15 = .ok (.iload_n 1, 1) := dk_27 (dk_at dksX0_put_0 15 rfl rfl)
theorem dX0_put_16 : decode cX0_put 16 = .ok (.iload_n 2, 1) := dk_28 (dk_at dksX0_put_0 16 rfl rfl)
theorem dX0_put_17 : decode cX0_put 17 = .ok (.ishr, 1) := dk_122 (dk_at dksX0_put_0 17 rfl rfl)
theorem dX0_put_18 : decode cX0_put 18 = .ok (.i2b, 1) := dk_145 (dk_at dksX0_put_0 18 rfl rfl)
theorem dX0_put_19 : decode cX0_put 19 = .ok (.bastore, 1) := dk_84 (dk_at dksX0_put_0 19 rfl rfl)
theorem dX0_put_20 : decode cX0_put 20 = .ok (.aload_n 0, 1) := dk_42 (dk_at dksX0_put_0 20 rfl rfl)
theorem dX0_put_21 : decode cX0_put 21 = .ok (.dup, 1) := dk_89 (dk_at dksX0_put_0 21 rfl rfl)
theorem dX0_put_22 : decode cX0_put 22 = .ok (.getfield 122, 3) := dk_180 0 122 (dk_at dksX0_put_1 0 rfl rfl)
theorem dX0_put_25 : decode cX0_put 25 = .ok (.iconst 1, 1) := dk_4 (dk_at dksX0_put_1 3 rfl rfl)
theorem dX0_put_26 : decode cX0_put 26 = .ok (.iadd, 1) := dk_96 (dk_at dksX0_put_1 4 rfl rfl)
theorem dX0_put_27 : decode cX0_put 27 = .ok (.putfield 122, 3) := dk_181 0 122 (dk_at dksX0_put_1 5 rfl rfl)
theorem dX0_put_30 : decode cX0_put 30 = .ok (.iinc 2 (-8), 3) := dk_132 2 248 (dk_at dksX0_put_1 8 rfl rfl)
theorem dX0_put_33 : decode cX0_put 33 = .ok (.goto (-30), 3) := dk_167 255 226 (dk_at dksX0_put_1 11 rfl rfl)
theorem dX0_put_36 : decode cX0_put 36 = .ok (.return_, 1) := dk_177 (dk_at dksX0_put_1 14 rfl rfl)
abbrev cX0_end : ByteArray := prog_1_method_16_code
def yX0_end : MethodName := ⟨RX0, "end", "(I)I"⟩
def dkwX0_end_0 : List UInt8 := [27, 155, 0, 11, 27, 42, 180, 0, 122, 164, 0, 5, 2, 172, 42, 27, 181, 0, 122, 27, 172]
abbrev dktX0_end_0 : List UInt8 := dkwX0_end_0 ++ []
theorem dksX0_end_0 : cX0_end.data.toList.drop 0 = dktX0_end_0 := by decide +kernel
theorem dX0_end_0 : decode cX0_end 0 = .ok (.iload_n 1, 1) := dk_27 (dk_at dksX0_end_0 0 rfl rfl)
theorem dX0_end_1 : decode cX0_end 1 = .ok (.ifCond .lt 11, 3) := dk_155 0 11 (dk_at dksX0_end_0 1 rfl rfl)
theorem dX0_end_4 : decode cX0_end 4 = .ok (.iload_n 1, 1) := dk_27 (dk_at dksX0_end_0 4 rfl rfl)
theorem dX0_end_5 : decode cX0_end 5 = .ok (.aload_n 0, 1) := dk_42 (dk_at dksX0_end_0 5 rfl rfl)
theorem dX0_end_6 : decode cX0_end 6 = .ok (.getfield 122, 3) := dk_180 0 122 (dk_at dksX0_end_0 6 rfl rfl)
theorem dX0_end_9 : decode cX0_end 9 = .ok (.if_icmp .le 5, 3) := dk_164 0 5 (dk_at dksX0_end_0 9 rfl rfl)
theorem dX0_end_12 : decode cX0_end 12 = .ok (.iconst (-1), 1) := dk_2 (dk_at dksX0_end_0 12 rfl rfl)
theorem dX0_end_13 : decode cX0_end 13 = .ok (.ireturn, 1) := dk_172 (dk_at dksX0_end_0 13 rfl rfl)
theorem dX0_end_14 : decode cX0_end 14 = .ok (.aload_n 0, 1) := dk_42 (dk_at dksX0_end_0 14 rfl rfl)
theorem dX0_end_15 : decode cX0_end 15 = .ok (.iload_n 1, 1) := dk_27 (dk_at dksX0_end_0 15 rfl rfl)
theorem dX0_end_16 : decode cX0_end 16 = .ok (.putfield 122, 3) := dk_181 0 122 (dk_at dksX0_end_0 16 rfl rfl)
theorem dX0_end_19 : decode cX0_end 19 = .ok (.iload_n 1, 1) := dk_27 (dk_at dksX0_end_0 19 rfl rfl)
theorem dX0_end_20 : decode cX0_end 20 = .ok (.ireturn, 1) := dk_172 (dk_at dksX0_end_0 20 rfl rfl)
abbrev cX0_fair : ByteArray := prog_1_method_17_code
def yX0_fair : MethodName := ⟨RX0, "fair", "()I"⟩
def dkwX0_fair_3 : List UInt8 := [181, 0, 122, 45, 191]
abbrev dktX0_fair_3 : List UInt8 := dkwX0_fair_3 ++ []
def dkwX0_fair_2 : List UInt8 := [181, 0, 122, 27, 172, 76, 16, 254, 43, 180, 0, 119, 100, 61, 42, 3, 181, 0, 122, 28, 172, 78, 42, 3]
abbrev dktX0_fair_2 : List UInt8 := dkwX0_fair_2 ++ dktX0_fair_3
def dkwX0_fair_1 : List UInt8 := [42, 180, 0, 12, 182, 0, 136, 42, 3, 181, 0, 140, 42, 182, 0, 143, 42, 182, 0, 103, 60, 42, 3]
abbrev dktX0_fair_1 : List UInt8 := dkwX0_fair_1 ++ dktX0_fair_2
def dkwX0_fair_0 : List UInt8 := [42, 187, 0, 128, 89, 42, 178, 0, 68, 16, 40, 183, 0, 130, 182, 0, 133, 181, 0, 12, 42, 180, 0, 19]
abbrev dktX0_fair_0 : List UInt8 := dkwX0_fair_0 ++ dktX0_fair_1
theorem dksX0_fair_0 : cX0_fair.data.toList.drop 0 = dktX0_fair_0 := by decide +kernel
theorem dksX0_fair_1 : cX0_fair.data.toList.drop 24 = dktX0_fair_1 := dk_seg dksX0_fair_0 24 rfl rfl
theorem dksX0_fair_2 : cX0_fair.data.toList.drop 47 = dktX0_fair_2 := dk_seg dksX0_fair_1 23 rfl rfl
theorem dksX0_fair_3 : cX0_fair.data.toList.drop 71 = dktX0_fair_3 := dk_seg dksX0_fair_2 24 rfl rfl
theorem dX0_fair_0 : decode cX0_fair 0 = .ok (.aload_n 0, 1) := dk_42 (dk_at dksX0_fair_0 0 rfl rfl)
theorem dX0_fair_1 : decode cX0_fair 1 = .ok (.new 128, 3) := dk_187 0 128 (dk_at dksX0_fair_0 1 rfl rfl)
theorem dX0_fair_4 : decode cX0_fair 4 = .ok (.dup, 1) := dk_89 (dk_at dksX0_fair_0 4 rfl rfl)
theorem dX0_fair_5 : decode cX0_fair 5 = .ok (.aload_n 0, 1) := dk_42 (dk_at dksX0_fair_0 5 rfl rfl)
theorem dX0_fair_6 : decode cX0_fair 6 = .ok (.getstatic 68, 3) := dk_178 0 68 (dk_at dksX0_fair_0 6 rfl rfl)
theorem dX0_fair_9 : decode cX0_fair 9 = .ok (.bipush 40, 2) := dk_16 40 (dk_at dksX0_fair_0 9 rfl rfl)
theorem dX0_fair_11 : decode cX0_fair 11 = .ok (.invokespecial 130, 3) := dk_183 0 130 (dk_at dksX0_fair_0 11 rfl rfl)
theorem dX0_fair_14 : decode cX0_fair 14 = .ok (.invokevirtual 133, 3) := dk_182 0 133 (dk_at dksX0_fair_0 14 rfl rfl)
theorem dX0_fair_17 : decode cX0_fair 17 = .ok (.putfield 12, 3) := dk_181 0 12 (dk_at dksX0_fair_0 17 rfl rfl)
theorem dX0_fair_20 : decode cX0_fair 20 = .ok (.aload_n 0, 1) := dk_42 (dk_at dksX0_fair_0 20 rfl rfl)
theorem dX0_fair_21 : decode cX0_fair 21 = .ok (.getfield 19, 3) := dk_180 0 19 (dk_at dksX0_fair_0 21 rfl rfl)
theorem dX0_fair_24 : decode cX0_fair 24 = .ok (.aload_n 0, 1) := dk_42 (dk_at dksX0_fair_1 0 rfl rfl)
theorem dX0_fair_25 : decode cX0_fair 25 = .ok (.getfield 12, 3) := dk_180 0 12 (dk_at dksX0_fair_1 1 rfl rfl)
theorem dX0_fair_28 : decode cX0_fair 28 = .ok (.invokevirtual 136, 3) := dk_182 0 136 (dk_at dksX0_fair_1 4 rfl rfl)
theorem dX0_fair_31 : decode cX0_fair 31 = .ok (.aload_n 0, 1) := dk_42 (dk_at dksX0_fair_1 7 rfl rfl)
theorem dX0_fair_32 : decode cX0_fair 32 = .ok (.iconst 0, 1) := dk_3 (dk_at dksX0_fair_1 8 rfl rfl)
theorem dX0_fair_33 : decode cX0_fair 33 = .ok (.putfield 140, 3) := dk_181 0 140 (dk_at dksX0_fair_1 9 rfl rfl)
theorem dX0_fair_36 : decode cX0_fair 36 = .ok (.aload_n 0, 1) := dk_42 (dk_at dksX0_fair_1 12 rfl rfl)
theorem dX0_fair_37 : decode cX0_fair 37 = .ok (.invokevirtual 143, 3) := dk_182 0 143 (dk_at dksX0_fair_1 13 rfl rfl)
theorem dX0_fair_40 : decode cX0_fair 40 = .ok (.aload_n 0, 1) := dk_42 (dk_at dksX0_fair_1 16 rfl rfl)
theorem dX0_fair_41 : decode cX0_fair 41 = .ok (.invokevirtual 103, 3) := dk_182 0 103 (dk_at dksX0_fair_1 17 rfl rfl)
theorem dX0_fair_44 : decode cX0_fair 44 = .ok (.istore_n 1, 1) := dk_60 (dk_at dksX0_fair_1 20 rfl rfl)
theorem dX0_fair_45 : decode cX0_fair 45 = .ok (.aload_n 0, 1) := dk_42 (dk_at dksX0_fair_1 21 rfl rfl)
theorem dX0_fair_46 : decode cX0_fair 46 = .ok (.iconst 0, 1) := dk_3 (dk_at dksX0_fair_1 22 rfl rfl)
theorem dX0_fair_47 : decode cX0_fair 47 = .ok (.putfield 122, 3) := dk_181 0 122 (dk_at dksX0_fair_2 0 rfl rfl)
theorem dX0_fair_50 : decode cX0_fair 50 = .ok (.iload_n 1, 1) := dk_27 (dk_at dksX0_fair_2 3 rfl rfl)
theorem dX0_fair_51 : decode cX0_fair 51 = .ok (.ireturn, 1) := dk_172 (dk_at dksX0_fair_2 4 rfl rfl)
theorem dX0_fair_52 : decode cX0_fair 52 = .ok (.astore_n 1, 1) := dk_76 (dk_at dksX0_fair_2 5 rfl rfl)
theorem dX0_fair_53 : decode cX0_fair 53 = .ok (.bipush (-2), 2) := dk_16 254 (dk_at dksX0_fair_2 6 rfl rfl)
theorem dX0_fair_55 : decode cX0_fair 55 = .ok (.aload_n 1, 1) := dk_43 (dk_at dksX0_fair_2 8 rfl rfl)
theorem dX0_fair_56 : decode cX0_fair 56 = .ok (.getfield 119, 3) := dk_180 0 119 (dk_at dksX0_fair_2 9 rfl rfl)
theorem dX0_fair_59 : decode cX0_fair 59 = .ok (.isub, 1) := dk_100 (dk_at dksX0_fair_2 12 rfl rfl)
theorem dX0_fair_60 : decode cX0_fair 60 = .ok (.istore_n 2, 1) := dk_61 (dk_at dksX0_fair_2 13 rfl rfl)
theorem dX0_fair_61 : decode cX0_fair 61 = .ok (.aload_n 0, 1) := dk_42 (dk_at dksX0_fair_2 14 rfl rfl)
theorem dX0_fair_62 : decode cX0_fair 62 = .ok (.iconst 0, 1) := dk_3 (dk_at dksX0_fair_2 15 rfl rfl)
theorem dX0_fair_63 : decode cX0_fair 63 = .ok (.putfield 122, 3) := dk_181 0 122 (dk_at dksX0_fair_2 16 rfl rfl)
theorem dX0_fair_66 : decode cX0_fair 66 = .ok (.iload_n 2, 1) := dk_28 (dk_at dksX0_fair_2 19 rfl rfl)
theorem dX0_fair_67 : decode cX0_fair 67 = .ok (.ireturn, 1) := dk_172 (dk_at dksX0_fair_2 20 rfl rfl)
theorem dX0_fair_68 : decode cX0_fair 68 = .ok (.astore_n 3, 1) := dk_78 (dk_at dksX0_fair_2 21 rfl rfl)
theorem dX0_fair_69 : decode cX0_fair 69 = .ok (.aload_n 0, 1) := dk_42 (dk_at dksX0_fair_2 22 rfl rfl)
theorem dX0_fair_70 : decode cX0_fair 70 = .ok (.iconst 0, 1) := dk_3 (dk_at dksX0_fair_2 23 rfl rfl)
theorem dX0_fair_71 : decode cX0_fair 71 = .ok (.putfield 122, 3) := dk_181 0 122 (dk_at dksX0_fair_3 0 rfl rfl)
theorem dX0_fair_74 : decode cX0_fair 74 = .ok (.aload_n 3, 1) := dk_45 (dk_at dksX0_fair_3 3 rfl rfl)
theorem dX0_fair_75 : decode cX0_fair 75 = .ok (.athrow, 1) := dk_191 (dk_at dksX0_fair_3 4 rfl rfl)
abbrev cX0_in : ByteArray := prog_1_method_1_code
def yX0_in : MethodName := ⟨RX0, "in", "(JJJ)Z"⟩
def dkwX0_in_0 : List UInt8 := [30, 32, 148, 155, 0, 14, 30, 22, 4, 148, 157, 0, 7, 4, 167, 0, 4, 3, 172]
abbrev dktX0_in_0 : List UInt8 := dkwX0_in_0 ++ []
theorem dksX0_in_0 : cX0_in.data.toList.drop 0 = dktX0_in_0 := by decide +kernel
theorem dX0_in_0 : decode cX0_in 0 = .ok (.lload_n 0, 1) := dk_30 (dk_at dksX0_in_0 0 rfl rfl)
theorem dX0_in_1 : decode cX0_in 1 = .ok (.lload_n 2, 1) := dk_32 (dk_at dksX0_in_0 1 rfl rfl)
theorem dX0_in_2 : decode cX0_in 2 = .ok (.lcmp, 1) := dk_148 (dk_at dksX0_in_0 2 rfl rfl)
theorem dX0_in_3 : decode cX0_in 3 = .ok (.ifCond .lt 14, 3) := dk_155 0 14 (dk_at dksX0_in_0 3 rfl rfl)
theorem dX0_in_6 : decode cX0_in 6 = .ok (.lload_n 0, 1) := dk_30 (dk_at dksX0_in_0 6 rfl rfl)
theorem dX0_in_7 : decode cX0_in 7 = .ok (.lload 4, 2) := dk_22 4 (dk_at dksX0_in_0 7 rfl rfl)
theorem dX0_in_9 : decode cX0_in 9 = .ok (.lcmp, 1) := dk_148 (dk_at dksX0_in_0 9 rfl rfl)
theorem dX0_in_10 : decode cX0_in 10 = .ok (.ifCond .gt 7, 3) := dk_157 0 7 (dk_at dksX0_in_0 10 rfl rfl)
theorem dX0_in_13 : decode cX0_in 13 = .ok (.iconst 1, 1) := dk_4 (dk_at dksX0_in_0 13 rfl rfl)
theorem dX0_in_14 : decode cX0_in 14 = .ok (.goto 4, 3) := dk_167 0 4 (dk_at dksX0_in_0 14 rfl rfl)
theorem dX0_in_17 : decode cX0_in 17 = .ok (.iconst 0, 1) := dk_3 (dk_at dksX0_in_0 17 rfl rfl)
theorem dX0_in_18 : decode cX0_in 18 = .ok (.ireturn, 1) := dk_172 (dk_at dksX0_in_0 18 rfl rfl)
abbrev cX0_fails : ByteArray := prog_1_method_13_code
def yX0_fails : MethodName := ⟨RX0, "fails", "(II)LHalfFair$Wrong;"⟩
def dkwX0_fails_0 : List UInt8 := [42, 180, 0, 38, 4, 16, 8, 28, 104, 96, 27, 96, 181, 0, 119, 42, 180, 0, 38, 176]
abbrev dktX0_fails_0 : List UInt8 := dkwX0_fails_0 ++ []
theorem dksX0_fails_0 : cX0_fails.data.toList.drop 0 = dktX0_fails_0 := by decide +kernel
theorem dX0_fails_0 : decode cX0_fails 0 = .ok (.aload_n 0, 1) := dk_42 (dk_at dksX0_fails_0 0 rfl rfl)
theorem dX0_fails_1 : decode cX0_fails 1 = .ok (.getfield 38, 3) := dk_180 0 38 (dk_at dksX0_fails_0 1 rfl rfl)
theorem dX0_fails_4 : decode cX0_fails 4 = .ok (.iconst 1, 1) := dk_4 (dk_at dksX0_fails_0 4 rfl rfl)
theorem dX0_fails_5 : decode cX0_fails 5 = .ok (.bipush 8, 2) := dk_16 8 (dk_at dksX0_fails_0 5 rfl rfl)
theorem dX0_fails_7 : decode cX0_fails 7 = .ok (.iload_n 2, 1) := dk_28 (dk_at dksX0_fails_0 7 rfl rfl)
theorem dX0_fails_8 : decode cX0_fails 8 = .ok (.imul, 1) := dk_104 (dk_at dksX0_fails_0 8 rfl rfl)
theorem dX0_fails_9 : decode cX0_fails 9 = .ok (.iadd, 1) := dk_96 (dk_at dksX0_fails_0 9 rfl rfl)
theorem dX0_fails_10 : decode cX0_fails 10 = .ok (.iload_n 1, 1) := dk_27 (dk_at dksX0_fails_0 10 rfl rfl)
theorem dX0_fails_11 : decode cX0_fails 11 = .ok (.iadd, 1) := dk_96 (dk_at dksX0_fails_0 11 rfl rfl)
theorem dX0_fails_12 : decode cX0_fails 12 = .ok (.putfield 119, 3) := dk_181 0 119 (dk_at dksX0_fails_0 12 rfl rfl)
theorem dX0_fails_15 : decode cX0_fails 15 = .ok (.aload_n 0, 1) := dk_42 (dk_at dksX0_fails_0 15 rfl rfl)
theorem dX0_fails_16 : decode cX0_fails 16 = .ok (.getfield 38, 3) := dk_180 0 38 (dk_at dksX0_fails_0 16 rfl rfl)
theorem dX0_fails_19 : decode cX0_fails 19 = .ok (.areturn, 1) := dk_176 (dk_at dksX0_fails_0 19 rfl rfl)
abbrev cX0_has : ByteArray := prog_1_method_2_code
def yX0_has : MethodName := ⟨RX0, "has", "(II)Z"⟩
def dkwX0_has_0 : List UInt8 := [26, 27, 122, 4, 126, 4, 160, 0, 7, 4, 167, 0, 4, 3, 172]
abbrev dktX0_has_0 : List UInt8 := dkwX0_has_0 ++ []
theorem dksX0_has_0 : cX0_has.data.toList.drop 0 = dktX0_has_0 := by decide +kernel
theorem dX0_has_0 : decode cX0_has 0 = .ok (.iload_n 0, 1) := dk_26 (dk_at dksX0_has_0 0 rfl rfl)
theorem dX0_has_1 : decode cX0_has 1 = .ok (.iload_n 1, 1) := dk_27 (dk_at dksX0_has_0 1 rfl rfl)
theorem dX0_has_2 : decode cX0_has 2 = .ok (.ishr, 1) := dk_122 (dk_at dksX0_has_0 2 rfl rfl)
theorem dX0_has_3 : decode cX0_has 3 = .ok (.iconst 1, 1) := dk_4 (dk_at dksX0_has_0 3 rfl rfl)
theorem dX0_has_4 : decode cX0_has 4 = .ok (.iand, 1) := dk_126 (dk_at dksX0_has_0 4 rfl rfl)
theorem dX0_has_5 : decode cX0_has 5 = .ok (.iconst 1, 1) := dk_4 (dk_at dksX0_has_0 5 rfl rfl)
theorem dX0_has_6 : decode cX0_has 6 = .ok (.if_icmp .ne 7, 3) := dk_160 0 7 (dk_at dksX0_has_0 6 rfl rfl)
theorem dX0_has_9 : decode cX0_has 9 = .ok (.iconst 1, 1) := dk_4 (dk_at dksX0_has_0 9 rfl rfl)
theorem dX0_has_10 : decode cX0_has 10 = .ok (.goto 4, 3) := dk_167 0 4 (dk_at dksX0_has_0 10 rfl rfl)
theorem dX0_has_13 : decode cX0_has 13 = .ok (.iconst 0, 1) := dk_3 (dk_at dksX0_has_0 13 rfl rfl)
theorem dX0_has_14 : decode cX0_has 14 = .ok (.ireturn, 1) := dk_172 (dk_at dksX0_has_0 14 rfl rfl)
abbrev cX0_forgets : ByteArray := prog_1_method_33_code
def yX0_forgets : MethodName := ⟨RX0, "forgets", "()V"⟩
def dkwX0_forgets_0 : List UInt8 := [42, 3, 181, 0, 248, 177]
abbrev dktX0_forgets_0 : List UInt8 := dkwX0_forgets_0 ++ []
theorem dksX0_forgets_0 : cX0_forgets.data.toList.drop 0 = dktX0_forgets_0 := by decide +kernel
theorem dX0_forgets_0 : decode cX0_forgets 0 = .ok (.aload_n 0, 1) := dk_42 (dk_at dksX0_forgets_0 0 rfl rfl)
theorem dX0_forgets_1 : decode cX0_forgets 1 = .ok (.iconst 0, 1) := dk_3 (dk_at dksX0_forgets_0 1 rfl rfl)
theorem dX0_forgets_2 : decode cX0_forgets 2 = .ok (.putfield 248, 3) := dk_181 0 248 (dk_at dksX0_forgets_0 2 rfl rfl)
theorem dX0_forgets_5 : decode cX0_forgets 5 = .ok (.return_, 1) := dk_177 (dk_at dksX0_forgets_0 5 rfl rfl)
abbrev cX0_many : ByteArray := prog_1_method_6_code
def yX0_many : MethodName := ⟨RX0, "many", "()I"⟩
def dkwX0_many_0 : List UInt8 := [42, 180, 0, 12, 180, 0, 93, 182, 0, 96, 172]
abbrev dktX0_many_0 : List UInt8 := dkwX0_many_0 ++ []
theorem dksX0_many_0 : cX0_many.data.toList.drop 0 = dktX0_many_0 := by decide +kernel
theorem dX0_many_0 : decode cX0_many 0 = .ok (.aload_n 0, 1) := dk_42 (dk_at dksX0_many_0 0 rfl rfl)
theorem dX0_many_1 : decode cX0_many 1 = .ok (.getfield 12, 3) := dk_180 0 12 (dk_at dksX0_many_0 1 rfl rfl)
theorem dX0_many_4 : decode cX0_many 4 = .ok (.getfield 93, 3) := dk_180 0 93 (dk_at dksX0_many_0 4 rfl rfl)
theorem dX0_many_7 : decode cX0_many 7 = .ok (.invokevirtual 96, 3) := dk_182 0 96 (dk_at dksX0_many_0 7 rfl rfl)
theorem dX0_many_10 : decode cX0_many 10 = .ok (.ireturn, 1) := dk_172 (dk_at dksX0_many_0 10 rfl rfl)
abbrev cX0_rule : ByteArray := prog_1_method_18_code
def yX0_rule : MethodName := ⟨RX0, "rule", "()I"⟩
def dkwX0_rule_2 : List UInt8 := [3, 181, 0, 122, 28, 172, 78, 42, 3, 181, 0, 122, 45, 191]
abbrev dktX0_rule_2 : List UInt8 := dkwX0_rule_2 ++ []
def dkwX0_rule_1 : List UInt8 := [183, 0, 130, 182, 0, 146, 60, 42, 3, 181, 0, 122, 27, 172, 76, 16, 254, 43, 180, 0, 119, 100, 61, 42]
abbrev dktX0_rule_1 : List UInt8 := dkwX0_rule_1 ++ dktX0_rule_2
def dkwX0_rule_0 : List UInt8 := [42, 180, 0, 31, 182, 0, 96, 16, 6, 160, 0, 5, 2, 172, 187, 0, 128, 89, 42, 178, 0, 68, 16, 12]
abbrev dktX0_rule_0 : List UInt8 := dkwX0_rule_0 ++ dktX0_rule_1
theorem dksX0_rule_0 : cX0_rule.data.toList.drop 0 = dktX0_rule_0 := by decide +kernel
theorem dksX0_rule_1 : cX0_rule.data.toList.drop 24 = dktX0_rule_1 := dk_seg dksX0_rule_0 24 rfl rfl
theorem dksX0_rule_2 : cX0_rule.data.toList.drop 48 = dktX0_rule_2 := dk_seg dksX0_rule_1 24 rfl rfl
theorem dX0_rule_0 : decode cX0_rule 0 = .ok (.aload_n 0, 1) := dk_42 (dk_at dksX0_rule_0 0 rfl rfl)
theorem dX0_rule_1 : decode cX0_rule 1 = .ok (.getfield 31, 3) := dk_180 0 31 (dk_at dksX0_rule_0 1 rfl rfl)
theorem dX0_rule_4 : decode cX0_rule 4 = .ok (.invokevirtual 96, 3) := dk_182 0 96 (dk_at dksX0_rule_0 4 rfl rfl)
theorem dX0_rule_7 : decode cX0_rule 7 = .ok (.bipush 6, 2) := dk_16 6 (dk_at dksX0_rule_0 7 rfl rfl)
theorem dX0_rule_9 : decode cX0_rule 9 = .ok (.if_icmp .ne 5, 3) := dk_160 0 5 (dk_at dksX0_rule_0 9 rfl rfl)
theorem dX0_rule_12 : decode cX0_rule 12 = .ok (.iconst (-1), 1) := dk_2 (dk_at dksX0_rule_0 12 rfl rfl)
theorem dX0_rule_13 : decode cX0_rule 13 = .ok (.ireturn, 1) := dk_172 (dk_at dksX0_rule_0 13 rfl rfl)
theorem dX0_rule_14 : decode cX0_rule 14 = .ok (.new 128, 3) := dk_187 0 128 (dk_at dksX0_rule_0 14 rfl rfl)
theorem dX0_rule_17 : decode cX0_rule 17 = .ok (.dup, 1) := dk_89 (dk_at dksX0_rule_0 17 rfl rfl)
theorem dX0_rule_18 : decode cX0_rule 18 = .ok (.aload_n 0, 1) := dk_42 (dk_at dksX0_rule_0 18 rfl rfl)
theorem dX0_rule_19 : decode cX0_rule 19 = .ok (.getstatic 68, 3) := dk_178 0 68 (dk_at dksX0_rule_0 19 rfl rfl)
theorem dX0_rule_22 : decode cX0_rule 22 = .ok (.bipush 12, 2) := dk_16 12 (dk_at dksX0_rule_0 22 rfl rfl)
theorem dX0_rule_24 : decode cX0_rule 24 = .ok (.invokespecial 130, 3) := dk_183 0 130 (dk_at dksX0_rule_1 0 rfl rfl)
theorem dX0_rule_27 : decode cX0_rule 27 = .ok (.invokevirtual 146, 3) := dk_182 0 146 (dk_at dksX0_rule_1 3 rfl rfl)
theorem dX0_rule_30 : decode cX0_rule 30 = .ok (.istore_n 1, 1) := dk_60 (dk_at dksX0_rule_1 6 rfl rfl)
theorem dX0_rule_31 : decode cX0_rule 31 = .ok (.aload_n 0, 1) := dk_42 (dk_at dksX0_rule_1 7 rfl rfl)
theorem dX0_rule_32 : decode cX0_rule 32 = .ok (.iconst 0, 1) := dk_3 (dk_at dksX0_rule_1 8 rfl rfl)
theorem dX0_rule_33 : decode cX0_rule 33 = .ok (.putfield 122, 3) := dk_181 0 122 (dk_at dksX0_rule_1 9 rfl rfl)
theorem dX0_rule_36 : decode cX0_rule 36 = .ok (.iload_n 1, 1) := dk_27 (dk_at dksX0_rule_1 12 rfl rfl)
theorem dX0_rule_37 : decode cX0_rule 37 = .ok (.ireturn, 1) := dk_172 (dk_at dksX0_rule_1 13 rfl rfl)
theorem dX0_rule_38 : decode cX0_rule 38 = .ok (.astore_n 1, 1) := dk_76 (dk_at dksX0_rule_1 14 rfl rfl)
theorem dX0_rule_39 : decode cX0_rule 39 = .ok (.bipush (-2), 2) := dk_16 254 (dk_at dksX0_rule_1 15 rfl rfl)
theorem dX0_rule_41 : decode cX0_rule 41 = .ok (.aload_n 1, 1) := dk_43 (dk_at dksX0_rule_1 17 rfl rfl)
theorem dX0_rule_42 : decode cX0_rule 42 = .ok (.getfield 119, 3) := dk_180 0 119 (dk_at dksX0_rule_1 18 rfl rfl)
theorem dX0_rule_45 : decode cX0_rule 45 = .ok (.isub, 1) := dk_100 (dk_at dksX0_rule_1 21 rfl rfl)
theorem dX0_rule_46 : decode cX0_rule 46 = .ok (.istore_n 2, 1) := dk_61 (dk_at dksX0_rule_1 22 rfl rfl)
theorem dX0_rule_47 : decode cX0_rule 47 = .ok (.aload_n 0, 1) := dk_42 (dk_at dksX0_rule_1 23 rfl rfl)
theorem dX0_rule_48 : decode cX0_rule 48 = .ok (.iconst 0, 1) := dk_3 (dk_at dksX0_rule_2 0 rfl rfl)
theorem dX0_rule_49 : decode cX0_rule 49 = .ok (.putfield 122, 3) := dk_181 0 122 (dk_at dksX0_rule_2 1 rfl rfl)
theorem dX0_rule_52 : decode cX0_rule 52 = .ok (.iload_n 2, 1) := dk_28 (dk_at dksX0_rule_2 4 rfl rfl)
theorem dX0_rule_53 : decode cX0_rule 53 = .ok (.ireturn, 1) := dk_172 (dk_at dksX0_rule_2 5 rfl rfl)
theorem dX0_rule_54 : decode cX0_rule 54 = .ok (.astore_n 3, 1) := dk_78 (dk_at dksX0_rule_2 6 rfl rfl)
theorem dX0_rule_55 : decode cX0_rule 55 = .ok (.aload_n 0, 1) := dk_42 (dk_at dksX0_rule_2 7 rfl rfl)
theorem dX0_rule_56 : decode cX0_rule 56 = .ok (.iconst 0, 1) := dk_3 (dk_at dksX0_rule_2 8 rfl rfl)
theorem dX0_rule_57 : decode cX0_rule 57 = .ok (.putfield 122, 3) := dk_181 0 122 (dk_at dksX0_rule_2 9 rfl rfl)
theorem dX0_rule_60 : decode cX0_rule 60 = .ok (.aload_n 3, 1) := dk_45 (dk_at dksX0_rule_2 12 rfl rfl)
theorem dX0_rule_61 : decode cX0_rule 61 = .ok (.athrow, 1) := dk_191 (dk_at dksX0_rule_2 13 rfl rfl)
abbrev cX0_half : ByteArray := prog_1_method_19_code
def yX0_half : MethodName := ⟨RX0, "half", "(II)I"⟩
def dkwX0_half_5 : List UInt8 := [27, 184, 0, 175, 184, 0, 179, 172, 2, 172]
abbrev dktX0_half_5 : List UInt8 := dkwX0_half_5 ++ []
def dkwX0_half_4 : List UInt8 := [180, 0, 165, 182, 0, 168, 172, 42, 180, 0, 19, 180, 0, 172, 27, 46, 172, 42, 180, 0, 12, 180, 0, 112]
abbrev dktX0_half_4 : List UInt8 := dkwX0_half_4 ++ dktX0_half_5
def dkwX0_half_3 : List UInt8 := [180, 0, 93, 27, 182, 0, 153, 192, 0, 157, 180, 0, 162, 172, 42, 180, 0, 12, 27, 42, 180, 0, 19]
abbrev dktX0_half_3 : List UInt8 := dkwX0_half_3 ++ dktX0_half_4
def dkwX0_half_2 : List UInt8 := [42, 180, 0, 12, 180, 0, 93, 27, 182, 0, 153, 192, 0, 157, 180, 0, 159, 172, 42, 180, 0, 12]
abbrev dktX0_half_2 : List UInt8 := dkwX0_half_2 ++ dktX0_half_3
def dkwX0_half_1 : List UInt8 := [170, 0, 0, 0, 110, 0, 0, 0, 0, 0, 0, 0, 4, 0, 0, 0, 33, 0, 0, 0, 51, 0, 0, 0, 69, 0, 0, 0, 85, 0, 0, 0, 95]
abbrev dktX0_half_1 : List UInt8 := dkwX0_half_1 ++ dktX0_half_2
def dkwX0_half_0 : List UInt8 := [42, 27, 182, 0, 149, 154, 0, 5, 2, 172, 28]
abbrev dktX0_half_0 : List UInt8 := dkwX0_half_0 ++ dktX0_half_1
theorem dksX0_half_0 : cX0_half.data.toList.drop 0 = dktX0_half_0 := by decide +kernel
theorem dksX0_half_1 : cX0_half.data.toList.drop 11 = dktX0_half_1 := dk_seg dksX0_half_0 11 rfl rfl
theorem dksX0_half_2 : cX0_half.data.toList.drop 44 = dktX0_half_2 := dk_seg dksX0_half_1 33 rfl rfl
theorem dksX0_half_3 : cX0_half.data.toList.drop 66 = dktX0_half_3 := dk_seg dksX0_half_2 22 rfl rfl
theorem dksX0_half_4 : cX0_half.data.toList.drop 89 = dktX0_half_4 := dk_seg dksX0_half_3 23 rfl rfl
theorem dksX0_half_5 : cX0_half.data.toList.drop 113 = dktX0_half_5 := dk_seg dksX0_half_4 24 rfl rfl
theorem dX0_half_0 : decode cX0_half 0 = .ok (.aload_n 0, 1) := dk_42 (dk_at dksX0_half_0 0 rfl rfl)
theorem dX0_half_1 : decode cX0_half 1 = .ok (.iload_n 1, 1) := dk_27 (dk_at dksX0_half_0 1 rfl rfl)
theorem dX0_half_2 : decode cX0_half 2 = .ok (.invokevirtual 149, 3) := dk_182 0 149 (dk_at dksX0_half_0 2 rfl rfl)
theorem dX0_half_5 : decode cX0_half 5 = .ok (.ifCond .ne 5, 3) := dk_154 0 5 (dk_at dksX0_half_0 5 rfl rfl)
theorem dX0_half_8 : decode cX0_half 8 = .ok (.iconst (-1), 1) := dk_2 (dk_at dksX0_half_0 8 rfl rfl)
theorem dX0_half_9 : decode cX0_half 9 = .ok (.ireturn, 1) := dk_172 (dk_at dksX0_half_0 9 rfl rfl)
theorem dX0_half_10 : decode cX0_half 10 = .ok (.iload_n 2, 1) := dk_28 (dk_at dksX0_half_0 10 rfl rfl)
theorem dX0_half_11 : decode cX0_half 11 = .ok (.tableswitch 110 0 4 #[33, 51, 69, 85, 95], 33) := by decide +kernel
theorem dX0_half_44 : decode cX0_half 44 = .ok (.aload_n 0, 1) := dk_42 (dk_at dksX0_half_2 0 rfl rfl)
theorem dX0_half_45 : decode cX0_half 45 = .ok (.getfield 12, 3) := dk_180 0 12 (dk_at dksX0_half_2 1 rfl rfl)
theorem dX0_half_48 : decode cX0_half 48 = .ok (.getfield 93, 3) := dk_180 0 93 (dk_at dksX0_half_2 4 rfl rfl)
theorem dX0_half_51 : decode cX0_half 51 = .ok (.iload_n 1, 1) := dk_27 (dk_at dksX0_half_2 7 rfl rfl)
theorem dX0_half_52 : decode cX0_half 52 = .ok (.invokevirtual 153, 3) := dk_182 0 153 (dk_at dksX0_half_2 8 rfl rfl)
theorem dX0_half_55 : decode cX0_half 55 = .ok (.checkcast 157, 3) := dk_192 0 157 (dk_at dksX0_half_2 11 rfl rfl)
theorem dX0_half_58 : decode cX0_half 58 = .ok (.getfield 159, 3) := dk_180 0 159 (dk_at dksX0_half_2 14 rfl rfl)
theorem dX0_half_61 : decode cX0_half 61 = .ok (.ireturn, 1) := dk_172 (dk_at dksX0_half_2 17 rfl rfl)
theorem dX0_half_62 : decode cX0_half 62 = .ok (.aload_n 0, 1) := dk_42 (dk_at dksX0_half_2 18 rfl rfl)
theorem dX0_half_63 : decode cX0_half 63 = .ok (.getfield 12, 3) := dk_180 0 12 (dk_at dksX0_half_2 19 rfl rfl)
theorem dX0_half_66 : decode cX0_half 66 = .ok (.getfield 93, 3) := dk_180 0 93 (dk_at dksX0_half_3 0 rfl rfl)
theorem dX0_half_69 : decode cX0_half 69 = .ok (.iload_n 1, 1) := dk_27 (dk_at dksX0_half_3 3 rfl rfl)
theorem dX0_half_70 : decode cX0_half 70 = .ok (.invokevirtual 153, 3) := dk_182 0 153 (dk_at dksX0_half_3 4 rfl rfl)
theorem dX0_half_73 : decode cX0_half 73 = .ok (.checkcast 157, 3) := dk_192 0 157 (dk_at dksX0_half_3 7 rfl rfl)
theorem dX0_half_76 : decode cX0_half 76 = .ok (.getfield 162, 3) := dk_180 0 162 (dk_at dksX0_half_3 10 rfl rfl)
theorem dX0_half_79 : decode cX0_half 79 = .ok (.ireturn, 1) := dk_172 (dk_at dksX0_half_3 13 rfl rfl)
theorem dX0_half_80 : decode cX0_half 80 = .ok (.aload_n 0, 1) := dk_42 (dk_at dksX0_half_3 14 rfl rfl)
theorem dX0_half_81 : decode cX0_half 81 = .ok (.getfield 12, 3) := dk_180 0 12 (dk_at dksX0_half_3 15 rfl rfl)
theorem dX0_half_84 : decode cX0_half 84 = .ok (.iload_n 1, 1) := dk_27 (dk_at dksX0_half_3 18 rfl rfl)
theorem dX0_half_85 : decode cX0_half 85 = .ok (.aload_n 0, 1) := dk_42 (dk_at dksX0_half_3 19 rfl rfl)
theorem dX0_half_86 : decode cX0_half 86 = .ok (.getfield 19, 3) := dk_180 0 19 (dk_at dksX0_half_3 20 rfl rfl)
theorem dX0_half_89 : decode cX0_half 89 = .ok (.getfield 165, 3) := dk_180 0 165 (dk_at dksX0_half_4 0 rfl rfl)
theorem dX0_half_92 : decode cX0_half 92 = .ok (.invokevirtual 168, 3) := dk_182 0 168 (dk_at dksX0_half_4 3 rfl rfl)
theorem dX0_half_95 : decode cX0_half 95 = .ok (.ireturn, 1) := dk_172 (dk_at dksX0_half_4 6 rfl rfl)
theorem dX0_half_96 : decode cX0_half 96 = .ok (.aload_n 0, 1) := dk_42 (dk_at dksX0_half_4 7 rfl rfl)
theorem dX0_half_97 : decode cX0_half 97 = .ok (.getfield 19, 3) := dk_180 0 19 (dk_at dksX0_half_4 8 rfl rfl)
theorem dX0_half_100 : decode cX0_half 100 = .ok (.getfield 172, 3) := dk_180 0 172 (dk_at dksX0_half_4 11 rfl rfl)
theorem dX0_half_103 : decode cX0_half 103 = .ok (.iload_n 1, 1) := dk_27 (dk_at dksX0_half_4 14 rfl rfl)
theorem dX0_half_104 : decode cX0_half 104 = .ok (.iaload, 1) := dk_46 (dk_at dksX0_half_4 15 rfl rfl)
theorem dX0_half_105 : decode cX0_half 105 = .ok (.ireturn, 1) := dk_172 (dk_at dksX0_half_4 16 rfl rfl)
theorem dX0_half_106 : decode cX0_half 106 = .ok (.aload_n 0, 1) := dk_42 (dk_at dksX0_half_4 17 rfl rfl)
theorem dX0_half_107 : decode cX0_half 107 = .ok (.getfield 12, 3) := dk_180 0 12 (dk_at dksX0_half_4 18 rfl rfl)
theorem dX0_half_110 : decode cX0_half 110 = .ok (.getfield 112, 3) := dk_180 0 112 (dk_at dksX0_half_4 21 rfl rfl)
theorem dX0_half_113 : decode cX0_half 113 = .ok (.iload_n 1, 1) := dk_27 (dk_at dksX0_half_5 0 rfl rfl)
theorem dX0_half_114 : decode cX0_half 114 = .ok (.invokestatic 175, 3) := dk_184 0 175 (dk_at dksX0_half_5 1 rfl rfl)
theorem dX0_half_117 : decode cX0_half 117 = .ok (.invokestatic 179, 3) := dk_184 0 179 (dk_at dksX0_half_5 4 rfl rfl)
theorem dX0_half_120 : decode cX0_half 120 = .ok (.ireturn, 1) := dk_172 (dk_at dksX0_half_5 7 rfl rfl)
theorem dX0_half_121 : decode cX0_half 121 = .ok (.iconst (-1), 1) := dk_2 (dk_at dksX0_half_5 8 rfl rfl)
theorem dX0_half_122 : decode cX0_half 122 = .ok (.ireturn, 1) := dk_172 (dk_at dksX0_half_5 9 rfl rfl)
abbrev cX0_isHalf : ByteArray := prog_1_method_8_code
def yX0_isHalf : MethodName := ⟨RX0, "isHalf", "(I)Z"⟩
def dkwX0_isHalf_0 : List UInt8 := [27, 133, 9, 42, 182, 0, 103, 4, 100, 133, 184, 0, 106, 172]
abbrev dktX0_isHalf_0 : List UInt8 := dkwX0_isHalf_0 ++ []
theorem dksX0_isHalf_0 : cX0_isHalf.data.toList.drop 0 = dktX0_isHalf_0 := by decide +kernel
theorem dX0_isHalf_0 : decode cX0_isHalf 0 = .ok (.iload_n 1, 1) := dk_27 (dk_at dksX0_isHalf_0 0 rfl rfl)
theorem dX0_isHalf_1 : decode cX0_isHalf 1 = .ok (.i2l, 1) := dk_133 (dk_at dksX0_isHalf_0 1 rfl rfl)
theorem dX0_isHalf_2 : decode cX0_isHalf 2 = .ok (.lconst 0, 1) := dk_9 (dk_at dksX0_isHalf_0 2 rfl rfl)
theorem dX0_isHalf_3 : decode cX0_isHalf 3 = .ok (.aload_n 0, 1) := dk_42 (dk_at dksX0_isHalf_0 3 rfl rfl)
theorem dX0_isHalf_4 : decode cX0_isHalf 4 = .ok (.invokevirtual 103, 3) := dk_182 0 103 (dk_at dksX0_isHalf_0 4 rfl rfl)
theorem dX0_isHalf_7 : decode cX0_isHalf 7 = .ok (.iconst 1, 1) := dk_4 (dk_at dksX0_isHalf_0 7 rfl rfl)
theorem dX0_isHalf_8 : decode cX0_isHalf 8 = .ok (.isub, 1) := dk_100 (dk_at dksX0_isHalf_0 8 rfl rfl)
theorem dX0_isHalf_9 : decode cX0_isHalf 9 = .ok (.i2l, 1) := dk_133 (dk_at dksX0_isHalf_0 9 rfl rfl)
theorem dX0_isHalf_10 : decode cX0_isHalf 10 = .ok (.invokestatic 106, 3) := dk_184 0 106 (dk_at dksX0_isHalf_0 10 rfl rfl)
theorem dX0_isHalf_13 : decode cX0_isHalf 13 = .ok (.ireturn, 1) := dk_172 (dk_at dksX0_isHalf_0 13 rfl rfl)
abbrev cX0_bit : ByteArray := prog_1_method_3_code
def yX0_bit : MethodName := ⟨RX0, "bit", "(Z)I"⟩
def dkwX0_bit_0 : List UInt8 := [26, 153, 0, 7, 4, 167, 0, 4, 3, 172]
abbrev dktX0_bit_0 : List UInt8 := dkwX0_bit_0 ++ []
theorem dksX0_bit_0 : cX0_bit.data.toList.drop 0 = dktX0_bit_0 := by decide +kernel
theorem dX0_bit_0 : decode cX0_bit 0 = .ok (.iload_n 0, 1) := dk_26 (dk_at dksX0_bit_0 0 rfl rfl)
theorem dX0_bit_1 : decode cX0_bit 1 = .ok (.ifCond .eq 7, 3) := dk_153 0 7 (dk_at dksX0_bit_0 1 rfl rfl)
theorem dX0_bit_4 : decode cX0_bit 4 = .ok (.iconst 1, 1) := dk_4 (dk_at dksX0_bit_0 4 rfl rfl)
theorem dX0_bit_5 : decode cX0_bit 5 = .ok (.goto 4, 3) := dk_167 0 4 (dk_at dksX0_bit_0 5 rfl rfl)
theorem dX0_bit_8 : decode cX0_bit 8 = .ok (.iconst 0, 1) := dk_3 (dk_at dksX0_bit_0 8 rfl rfl)
theorem dX0_bit_9 : decode cX0_bit 9 = .ok (.ireturn, 1) := dk_172 (dk_at dksX0_bit_0 9 rfl rfl)
abbrev cX0_fit : ByteArray := prog_1_method_20_code
def yX0_fit : MethodName := ⟨RX0, "fit", "(II)I"⟩
def dkwX0_fit_1 : List UInt8 := [182, 0, 183, 167, 0, 4, 2, 172]
abbrev dktX0_fit_1 : List UInt8 := dkwX0_fit_1 ++ []
def dkwX0_fit_0 : List UInt8 := [42, 27, 182, 0, 149, 153, 0, 25, 42, 28, 182, 0, 149, 153, 0, 17, 27, 28, 159, 0, 12, 42, 27, 28]
abbrev dktX0_fit_0 : List UInt8 := dkwX0_fit_0 ++ dktX0_fit_1
theorem dksX0_fit_0 : cX0_fit.data.toList.drop 0 = dktX0_fit_0 := by decide +kernel
theorem dksX0_fit_1 : cX0_fit.data.toList.drop 24 = dktX0_fit_1 := dk_seg dksX0_fit_0 24 rfl rfl
theorem dX0_fit_0 : decode cX0_fit 0 = .ok (.aload_n 0, 1) := dk_42 (dk_at dksX0_fit_0 0 rfl rfl)
theorem dX0_fit_1 : decode cX0_fit 1 = .ok (.iload_n 1, 1) := dk_27 (dk_at dksX0_fit_0 1 rfl rfl)
theorem dX0_fit_2 : decode cX0_fit 2 = .ok (.invokevirtual 149, 3) := dk_182 0 149 (dk_at dksX0_fit_0 2 rfl rfl)
theorem dX0_fit_5 : decode cX0_fit 5 = .ok (.ifCond .eq 25, 3) := dk_153 0 25 (dk_at dksX0_fit_0 5 rfl rfl)
theorem dX0_fit_8 : decode cX0_fit 8 = .ok (.aload_n 0, 1) := dk_42 (dk_at dksX0_fit_0 8 rfl rfl)
theorem dX0_fit_9 : decode cX0_fit 9 = .ok (.iload_n 2, 1) := dk_28 (dk_at dksX0_fit_0 9 rfl rfl)
theorem dX0_fit_10 : decode cX0_fit 10 = .ok (.invokevirtual 149, 3) := dk_182 0 149 (dk_at dksX0_fit_0 10 rfl rfl)
theorem dX0_fit_13 : decode cX0_fit 13 = .ok (.ifCond .eq 17, 3) := dk_153 0 17 (dk_at dksX0_fit_0 13 rfl rfl)
theorem dX0_fit_16 : decode cX0_fit 16 = .ok (.iload_n 1, 1) := dk_27 (dk_at dksX0_fit_0 16 rfl rfl)
theorem dX0_fit_17 : decode cX0_fit 17 = .ok (.iload_n 2, 1) := dk_28 (dk_at dksX0_fit_0 17 rfl rfl)
theorem dX0_fit_18 : decode cX0_fit 18 = .ok (.if_icmp .eq 12, 3) := dk_159 0 12 (dk_at dksX0_fit_0 18 rfl rfl)
theorem dX0_fit_21 : decode cX0_fit 21 = .ok (.aload_n 0, 1) := dk_42 (dk_at dksX0_fit_0 21 rfl rfl)
theorem dX0_fit_22 : decode cX0_fit 22 = .ok (.iload_n 1, 1) := dk_27 (dk_at dksX0_fit_0 22 rfl rfl)
theorem dX0_fit_23 : decode cX0_fit 23 = .ok (.iload_n 2, 1) := dk_28 (dk_at dksX0_fit_0 23 rfl rfl)
theorem dX0_fit_24 : decode cX0_fit 24 = .ok (.invokevirtual 183, 3) := dk_182 0 183 (dk_at dksX0_fit_1 0 rfl rfl)
theorem dX0_fit_27 : decode cX0_fit 27 = .ok (.goto 4, 3) := dk_167 0 4 (dk_at dksX0_fit_1 3 rfl rfl)
theorem dX0_fit_30 : decode cX0_fit 30 = .ok (.iconst (-1), 1) := dk_2 (dk_at dksX0_fit_1 6 rfl rfl)
theorem dX0_fit_31 : decode cX0_fit 31 = .ok (.ireturn, 1) := dk_172 (dk_at dksX0_fit_1 7 rfl rfl)
abbrev cX0_fit2 : ByteArray := prog_1_method_11_code
def yX0_fit2 : MethodName := ⟨RX0, "fit2", "(II)I"⟩
def dkwX0_fit2_0 : List UInt8 := [42, 180, 0, 12, 27, 28, 42, 180, 0, 12, 180, 0, 112, 182, 0, 115, 172]
abbrev dktX0_fit2_0 : List UInt8 := dkwX0_fit2_0 ++ []
theorem dksX0_fit2_0 : cX0_fit2.data.toList.drop 0 = dktX0_fit2_0 := by decide +kernel
theorem dX0_fit2_0 : decode cX0_fit2 0 = .ok (.aload_n 0, 1) := dk_42 (dk_at dksX0_fit2_0 0 rfl rfl)
theorem dX0_fit2_1 : decode cX0_fit2 1 = .ok (.getfield 12, 3) := dk_180 0 12 (dk_at dksX0_fit2_0 1 rfl rfl)
theorem dX0_fit2_4 : decode cX0_fit2 4 = .ok (.iload_n 1, 1) := dk_27 (dk_at dksX0_fit2_0 4 rfl rfl)
theorem dX0_fit2_5 : decode cX0_fit2 5 = .ok (.iload_n 2, 1) := dk_28 (dk_at dksX0_fit2_0 5 rfl rfl)
theorem dX0_fit2_6 : decode cX0_fit2 6 = .ok (.aload_n 0, 1) := dk_42 (dk_at dksX0_fit2_0 6 rfl rfl)
theorem dX0_fit2_7 : decode cX0_fit2 7 = .ok (.getfield 12, 3) := dk_180 0 12 (dk_at dksX0_fit2_0 7 rfl rfl)
theorem dX0_fit2_10 : decode cX0_fit2 10 = .ok (.getfield 112, 3) := dk_180 0 112 (dk_at dksX0_fit2_0 10 rfl rfl)
theorem dX0_fit2_13 : decode cX0_fit2 13 = .ok (.invokevirtual 115, 3) := dk_182 0 115 (dk_at dksX0_fit2_0 13 rfl rfl)
theorem dX0_fit2_16 : decode cX0_fit2 16 = .ok (.ireturn, 1) := dk_172 (dk_at dksX0_fit2_0 16 rfl rfl)
abbrev cX0_buyer : ByteArray := prog_1_method_21_code
def yX0_buyer : MethodName := ⟨RX0, "buyer", "(II)I"⟩
def dkwX0_buyer_5 : List UInt8 := [180, 0, 12, 27, 182, 0, 195, 182, 0, 205, 172, 2, 172]
abbrev dktX0_buyer_5 : List UInt8 := dkwX0_buyer_5 ++ []
def dkwX0_buyer_4 : List UInt8 := [180, 0, 12, 180, 0, 202, 27, 46, 4, 42, 182, 0, 110, 120, 4, 100, 126, 172, 42, 42, 180, 0, 19, 42]
abbrev dktX0_buyer_4 : List UInt8 := dkwX0_buyer_4 ++ dktX0_buyer_5
def dkwX0_buyer_3 : List UInt8 := [42, 180, 0, 12, 27, 182, 0, 195, 172, 42, 180, 0, 19, 42, 180, 0, 12, 27, 182, 0, 199, 172, 42]
abbrev dktX0_buyer_3 : List UInt8 := dkwX0_buyer_3 ++ dktX0_buyer_4
def dkwX0_buyer_2 : List UInt8 := [42, 180, 0, 19, 180, 0, 189, 27, 46, 172, 42, 180, 0, 19, 180, 0, 192, 27, 46, 172, 42, 180, 0, 19]
abbrev dktX0_buyer_2 : List UInt8 := dkwX0_buyer_2 ++ dktX0_buyer_3
def dkwX0_buyer_1 : List UInt8 := [170, 0, 0, 0, 119, 0, 0, 0, 0, 0, 0, 0, 5, 0, 0, 0, 37, 0, 0, 0, 47, 0, 0, 0, 57, 0, 0, 0, 70, 0, 0, 0, 83, 0, 0, 0, 102]
abbrev dktX0_buyer_1 : List UInt8 := dkwX0_buyer_1 ++ dktX0_buyer_2
def dkwX0_buyer_0 : List UInt8 := [42, 27, 182, 0, 186, 154, 0, 5, 2, 172, 28]
abbrev dktX0_buyer_0 : List UInt8 := dkwX0_buyer_0 ++ dktX0_buyer_1
theorem dksX0_buyer_0 : cX0_buyer.data.toList.drop 0 = dktX0_buyer_0 := by decide +kernel
theorem dksX0_buyer_1 : cX0_buyer.data.toList.drop 11 = dktX0_buyer_1 := dk_seg dksX0_buyer_0 11 rfl rfl
theorem dksX0_buyer_2 : cX0_buyer.data.toList.drop 48 = dktX0_buyer_2 := dk_seg dksX0_buyer_1 37 rfl rfl
theorem dksX0_buyer_3 : cX0_buyer.data.toList.drop 72 = dktX0_buyer_3 := dk_seg dksX0_buyer_2 24 rfl rfl
theorem dksX0_buyer_4 : cX0_buyer.data.toList.drop 95 = dktX0_buyer_4 := dk_seg dksX0_buyer_3 23 rfl rfl
theorem dksX0_buyer_5 : cX0_buyer.data.toList.drop 119 = dktX0_buyer_5 := dk_seg dksX0_buyer_4 24 rfl rfl
theorem dX0_buyer_0 : decode cX0_buyer 0 = .ok (.aload_n 0, 1) := dk_42 (dk_at dksX0_buyer_0 0 rfl rfl)
theorem dX0_buyer_1 : decode cX0_buyer 1 = .ok (.iload_n 1, 1) := dk_27 (dk_at dksX0_buyer_0 1 rfl rfl)
theorem dX0_buyer_2 : decode cX0_buyer 2 = .ok (.invokevirtual 186, 3) := dk_182 0 186 (dk_at dksX0_buyer_0 2 rfl rfl)
theorem dX0_buyer_5 : decode cX0_buyer 5 = .ok (.ifCond .ne 5, 3) := dk_154 0 5 (dk_at dksX0_buyer_0 5 rfl rfl)
theorem dX0_buyer_8 : decode cX0_buyer 8 = .ok (.iconst (-1), 1) := dk_2 (dk_at dksX0_buyer_0 8 rfl rfl)
theorem dX0_buyer_9 : decode cX0_buyer 9 = .ok (.ireturn, 1) := dk_172 (dk_at dksX0_buyer_0 9 rfl rfl)
theorem dX0_buyer_10 : decode cX0_buyer 10 = .ok (.iload_n 2, 1) := dk_28 (dk_at dksX0_buyer_0 10 rfl rfl)
theorem dX0_buyer_11 : decode cX0_buyer 11 = .ok (.tableswitch 119 0 5 #[37, 47, 57, 70, 83, 102], 37) := by decide +kernel
theorem dX0_buyer_48 : decode cX0_buyer 48 = .ok (.aload_n 0, 1) := dk_42 (dk_at dksX0_buyer_2 0 rfl rfl)
theorem dX0_buyer_49 : decode cX0_buyer 49 = .ok (.getfield 19, 3) := dk_180 0 19 (dk_at dksX0_buyer_2 1 rfl rfl)
theorem dX0_buyer_52 : decode cX0_buyer 52 = .ok (.getfield 189, 3) := dk_180 0 189 (dk_at dksX0_buyer_2 4 rfl rfl)
theorem dX0_buyer_55 : decode cX0_buyer 55 = .ok (.iload_n 1, 1) := dk_27 (dk_at dksX0_buyer_2 7 rfl rfl)
theorem dX0_buyer_56 : decode cX0_buyer 56 = .ok (.iaload, 1) := dk_46 (dk_at dksX0_buyer_2 8 rfl rfl)
theorem dX0_buyer_57 : decode cX0_buyer 57 = .ok (.ireturn, 1) := dk_172 (dk_at dksX0_buyer_2 9 rfl rfl)
theorem dX0_buyer_58 : decode cX0_buyer 58 = .ok (.aload_n 0, 1) := dk_42 (dk_at dksX0_buyer_2 10 rfl rfl)
theorem dX0_buyer_59 : decode cX0_buyer 59 = .ok (.getfield 19, 3) := dk_180 0 19 (dk_at dksX0_buyer_2 11 rfl rfl)
theorem dX0_buyer_62 : decode cX0_buyer 62 = .ok (.getfield 192, 3) := dk_180 0 192 (dk_at dksX0_buyer_2 14 rfl rfl)
theorem dX0_buyer_65 : decode cX0_buyer 65 = .ok (.iload_n 1, 1) := dk_27 (dk_at dksX0_buyer_2 17 rfl rfl)
theorem dX0_buyer_66 : decode cX0_buyer 66 = .ok (.iaload, 1) := dk_46 (dk_at dksX0_buyer_2 18 rfl rfl)
theorem dX0_buyer_67 : decode cX0_buyer 67 = .ok (.ireturn, 1) := dk_172 (dk_at dksX0_buyer_2 19 rfl rfl)
theorem dX0_buyer_68 : decode cX0_buyer 68 = .ok (.aload_n 0, 1) := dk_42 (dk_at dksX0_buyer_2 20 rfl rfl)
theorem dX0_buyer_69 : decode cX0_buyer 69 = .ok (.getfield 19, 3) := dk_180 0 19 (dk_at dksX0_buyer_2 21 rfl rfl)
theorem dX0_buyer_72 : decode cX0_buyer 72 = .ok (.aload_n 0, 1) := dk_42 (dk_at dksX0_buyer_3 0 rfl rfl)
theorem dX0_buyer_73 : decode cX0_buyer 73 = .ok (.getfield 12, 3) := dk_180 0 12 (dk_at dksX0_buyer_3 1 rfl rfl)
theorem dX0_buyer_76 : decode cX0_buyer 76 = .ok (.iload_n 1, 1) := dk_27 (dk_at dksX0_buyer_3 4 rfl rfl)
theorem dX0_buyer_77 : decode cX0_buyer 77 = .ok (.invokevirtual 195, 3) := dk_182 0 195 (dk_at dksX0_buyer_3 5 rfl rfl)
theorem dX0_buyer_80 : decode cX0_buyer 80 = .ok (.ireturn, 1) := dk_172 (dk_at dksX0_buyer_3 8 rfl rfl)
theorem dX0_buyer_81 : decode cX0_buyer 81 = .ok (.aload_n 0, 1) := dk_42 (dk_at dksX0_buyer_3 9 rfl rfl)
theorem dX0_buyer_82 : decode cX0_buyer 82 = .ok (.getfield 19, 3) := dk_180 0 19 (dk_at dksX0_buyer_3 10 rfl rfl)
theorem dX0_buyer_85 : decode cX0_buyer 85 = .ok (.aload_n 0, 1) := dk_42 (dk_at dksX0_buyer_3 13 rfl rfl)
theorem dX0_buyer_86 : decode cX0_buyer 86 = .ok (.getfield 12, 3) := dk_180 0 12 (dk_at dksX0_buyer_3 14 rfl rfl)
theorem dX0_buyer_89 : decode cX0_buyer 89 = .ok (.iload_n 1, 1) := dk_27 (dk_at dksX0_buyer_3 17 rfl rfl)
theorem dX0_buyer_90 : decode cX0_buyer 90 = .ok (.invokevirtual 199, 3) := dk_182 0 199 (dk_at dksX0_buyer_3 18 rfl rfl)
theorem dX0_buyer_93 : decode cX0_buyer 93 = .ok (.ireturn, 1) := dk_172 (dk_at dksX0_buyer_3 21 rfl rfl)
theorem dX0_buyer_94 : decode cX0_buyer 94 = .ok (.aload_n 0, 1) := dk_42 (dk_at dksX0_buyer_3 22 rfl rfl)
theorem dX0_buyer_95 : decode cX0_buyer 95 = .ok (.getfield 12, 3) := dk_180 0 12 (dk_at dksX0_buyer_4 0 rfl rfl)
theorem dX0_buyer_98 : decode cX0_buyer 98 = .ok (.getfield 202, 3) := dk_180 0 202 (dk_at dksX0_buyer_4 3 rfl rfl)
theorem dX0_buyer_101 : decode cX0_buyer 101 = .ok (.iload_n 1, 1) := dk_27 (dk_at dksX0_buyer_4 6 rfl rfl)
theorem dX0_buyer_102 : decode cX0_buyer 102 = .ok (.iaload, 1) := dk_46 (dk_at dksX0_buyer_4 7 rfl rfl)
theorem dX0_buyer_103 : decode cX0_buyer 103 = .ok (.iconst 1, 1) := dk_4 (dk_at dksX0_buyer_4 8 rfl rfl)
theorem dX0_buyer_104 : decode cX0_buyer 104 = .ok (.aload_n 0, 1) := dk_42 (dk_at dksX0_buyer_4 9 rfl rfl)
theorem dX0_buyer_105 : decode cX0_buyer 105 = .ok (.invokevirtual 110, 3) := dk_182 0 110 (dk_at dksX0_buyer_4 10 rfl rfl)
theorem dX0_buyer_108 : decode cX0_buyer 108 = .ok (.ishl, 1) := dk_120 (dk_at dksX0_buyer_4 13 rfl rfl)
theorem dX0_buyer_109 : decode cX0_buyer 109 = .ok (.iconst 1, 1) := dk_4 (dk_at dksX0_buyer_4 14 rfl rfl)
theorem dX0_buyer_110 : decode cX0_buyer 110 = .ok (.isub, 1) := dk_100 (dk_at dksX0_buyer_4 15 rfl rfl)
theorem dX0_buyer_111 : decode cX0_buyer 111 = .ok (.iand, 1) := dk_126 (dk_at dksX0_buyer_4 16 rfl rfl)
theorem dX0_buyer_112 : decode cX0_buyer 112 = .ok (.ireturn, 1) := dk_172 (dk_at dksX0_buyer_4 17 rfl rfl)
theorem dX0_buyer_113 : decode cX0_buyer 113 = .ok (.aload_n 0, 1) := dk_42 (dk_at dksX0_buyer_4 18 rfl rfl)
theorem dX0_buyer_114 : decode cX0_buyer 114 = .ok (.aload_n 0, 1) := dk_42 (dk_at dksX0_buyer_4 19 rfl rfl)
theorem dX0_buyer_115 : decode cX0_buyer 115 = .ok (.getfield 19, 3) := dk_180 0 19 (dk_at dksX0_buyer_4 20 rfl rfl)
theorem dX0_buyer_118 : decode cX0_buyer 118 = .ok (.aload_n 0, 1) := dk_42 (dk_at dksX0_buyer_4 23 rfl rfl)
theorem dX0_buyer_119 : decode cX0_buyer 119 = .ok (.getfield 12, 3) := dk_180 0 12 (dk_at dksX0_buyer_5 0 rfl rfl)
theorem dX0_buyer_122 : decode cX0_buyer 122 = .ok (.iload_n 1, 1) := dk_27 (dk_at dksX0_buyer_5 3 rfl rfl)
theorem dX0_buyer_123 : decode cX0_buyer 123 = .ok (.invokevirtual 195, 3) := dk_182 0 195 (dk_at dksX0_buyer_5 4 rfl rfl)
theorem dX0_buyer_126 : decode cX0_buyer 126 = .ok (.invokevirtual 205, 3) := dk_182 0 205 (dk_at dksX0_buyer_5 7 rfl rfl)
theorem dX0_buyer_129 : decode cX0_buyer 129 = .ok (.ireturn, 1) := dk_172 (dk_at dksX0_buyer_5 10 rfl rfl)
theorem dX0_buyer_130 : decode cX0_buyer 130 = .ok (.iconst (-1), 1) := dk_2 (dk_at dksX0_buyer_5 11 rfl rfl)
theorem dX0_buyer_131 : decode cX0_buyer 131 = .ok (.ireturn, 1) := dk_172 (dk_at dksX0_buyer_5 12 rfl rfl)
abbrev cX0_isBuyer : ByteArray := prog_1_method_9_code
def yX0_isBuyer : MethodName := ⟨RX0, "isBuyer", "(I)Z"⟩
def dkwX0_isBuyer_0 : List UInt8 := [27, 133, 9, 42, 182, 0, 110, 4, 100, 133, 184, 0, 106, 172]
abbrev dktX0_isBuyer_0 : List UInt8 := dkwX0_isBuyer_0 ++ []
theorem dksX0_isBuyer_0 : cX0_isBuyer.data.toList.drop 0 = dktX0_isBuyer_0 := by decide +kernel
theorem dX0_isBuyer_0 : decode cX0_isBuyer 0 = .ok (.iload_n 1, 1) := dk_27 (dk_at dksX0_isBuyer_0 0 rfl rfl)
theorem dX0_isBuyer_1 : decode cX0_isBuyer 1 = .ok (.i2l, 1) := dk_133 (dk_at dksX0_isBuyer_0 1 rfl rfl)
theorem dX0_isBuyer_2 : decode cX0_isBuyer 2 = .ok (.lconst 0, 1) := dk_9 (dk_at dksX0_isBuyer_0 2 rfl rfl)
theorem dX0_isBuyer_3 : decode cX0_isBuyer 3 = .ok (.aload_n 0, 1) := dk_42 (dk_at dksX0_isBuyer_0 3 rfl rfl)
theorem dX0_isBuyer_4 : decode cX0_isBuyer 4 = .ok (.invokevirtual 110, 3) := dk_182 0 110 (dk_at dksX0_isBuyer_0 4 rfl rfl)
theorem dX0_isBuyer_7 : decode cX0_isBuyer 7 = .ok (.iconst 1, 1) := dk_4 (dk_at dksX0_isBuyer_0 7 rfl rfl)
theorem dX0_isBuyer_8 : decode cX0_isBuyer 8 = .ok (.isub, 1) := dk_100 (dk_at dksX0_isBuyer_0 8 rfl rfl)
theorem dX0_isBuyer_9 : decode cX0_isBuyer 9 = .ok (.i2l, 1) := dk_133 (dk_at dksX0_isBuyer_0 9 rfl rfl)
theorem dX0_isBuyer_10 : decode cX0_isBuyer 10 = .ok (.invokestatic 106, 3) := dk_184 0 106 (dk_at dksX0_isBuyer_0 10 rfl rfl)
theorem dX0_isBuyer_13 : decode cX0_isBuyer 13 = .ok (.ireturn, 1) := dk_172 (dk_at dksX0_isBuyer_0 13 rfl rfl)
abbrev cX0_buyers : ByteArray := prog_1_method_7_code
def yX0_buyers : MethodName := ⟨RX0, "buyers", "()I"⟩
def dkwX0_buyers_0 : List UInt8 := [42, 180, 0, 12, 180, 0, 100, 182, 0, 96, 172]
abbrev dktX0_buyers_0 : List UInt8 := dkwX0_buyers_0 ++ []
theorem dksX0_buyers_0 : cX0_buyers.data.toList.drop 0 = dktX0_buyers_0 := by decide +kernel
theorem dX0_buyers_0 : decode cX0_buyers 0 = .ok (.aload_n 0, 1) := dk_42 (dk_at dksX0_buyers_0 0 rfl rfl)
theorem dX0_buyers_1 : decode cX0_buyers 1 = .ok (.getfield 12, 3) := dk_180 0 12 (dk_at dksX0_buyers_0 1 rfl rfl)
theorem dX0_buyers_4 : decode cX0_buyers 4 = .ok (.getfield 100, 3) := dk_180 0 100 (dk_at dksX0_buyers_0 4 rfl rfl)
theorem dX0_buyers_7 : decode cX0_buyers 7 = .ok (.invokevirtual 96, 3) := dk_182 0 96 (dk_at dksX0_buyers_0 7 rfl rfl)
theorem dX0_buyers_10 : decode cX0_buyers 10 = .ok (.ireturn, 1) := dk_172 (dk_at dksX0_buyers_0 10 rfl rfl)
abbrev cX0_worthOf : ByteArray := prog_1_method_26_code
def yX0_worthOf : MethodName := ⟨RX0, "worthOf", "(I)I"⟩
def dkwX0_worthOf_0 : List UInt8 := [42, 182, 0, 228, 42, 180, 0, 57, 27, 46, 172]
abbrev dktX0_worthOf_0 : List UInt8 := dkwX0_worthOf_0 ++ []
theorem dksX0_worthOf_0 : cX0_worthOf.data.toList.drop 0 = dktX0_worthOf_0 := by decide +kernel
theorem dX0_worthOf_0 : decode cX0_worthOf 0 = .ok (.aload_n 0, 1) := dk_42 (dk_at dksX0_worthOf_0 0 rfl rfl)
theorem dX0_worthOf_1 : decode cX0_worthOf 1 = .ok (.invokevirtual 228, 3) := dk_182 0 228 (dk_at dksX0_worthOf_0 1 rfl rfl)
theorem dX0_worthOf_4 : decode cX0_worthOf 4 = .ok (.aload_n 0, 1) := dk_42 (dk_at dksX0_worthOf_0 4 rfl rfl)
theorem dX0_worthOf_5 : decode cX0_worthOf 5 = .ok (.getfield 57, 3) := dk_180 0 57 (dk_at dksX0_worthOf_0 5 rfl rfl)
theorem dX0_worthOf_8 : decode cX0_worthOf 8 = .ok (.iload_n 1, 1) := dk_27 (dk_at dksX0_worthOf_0 8 rfl rfl)
theorem dX0_worthOf_9 : decode cX0_worthOf 9 = .ok (.iaload, 1) := dk_46 (dk_at dksX0_worthOf_0 9 rfl rfl)
theorem dX0_worthOf_10 : decode cX0_worthOf 10 = .ok (.ireturn, 1) := dk_172 (dk_at dksX0_worthOf_0 10 rfl rfl)
abbrev cX0_fillsWorths : ByteArray := prog_1_method_25_code
def yX0_fillsWorths : MethodName := ⟨RX0, "fillsWorths", "()V"⟩
def dkwX0_fillsWorths_5 : List UInt8 := [132, 1, 1, 167, 255, 144, 177]
abbrev dktX0_fillsWorths_5 : List UInt8 := dkwX0_fillsWorths_5 ++ []
def dkwX0_fillsWorths_4 : List UInt8 := [2, 130, 126, 46, 96, 184, 0, 223, 54, 4, 132, 5, 1, 167, 255, 197, 42, 180, 0, 57, 27, 21, 4, 79]
abbrev dktX0_fillsWorths_4 : List UInt8 := dkwX0_fillsWorths_4 ++ dktX0_fillsWorths_5
def dkwX0_fillsWorths_3 : List UInt8 := [182, 0, 220, 158, 0, 31, 21, 4, 42, 28, 21, 5, 182, 0, 220, 42, 180, 0, 57, 29, 4, 21, 5, 120]
abbrev dktX0_fillsWorths_3 : List UInt8 := dkwX0_fillsWorths_3 ++ dktX0_fillsWorths_4
def dkwX0_fillsWorths_2 : List UInt8 := [21, 5, 42, 182, 0, 103, 162, 0, 56, 29, 21, 5, 184, 0, 175, 153, 0, 41, 42, 28, 21, 5]
abbrev dktX0_fillsWorths_2 : List UInt8 := dkwX0_fillsWorths_2 ++ dktX0_fillsWorths_3
def dkwX0_fillsWorths_1 : List UInt8 := [27, 4, 28, 120, 2, 130, 126, 62, 16, 9, 42, 180, 0, 57, 29, 46, 96, 54, 4, 28, 4, 96, 54, 5]
abbrev dktX0_fillsWorths_1 : List UInt8 := dkwX0_fillsWorths_1 ++ dktX0_fillsWorths_2
def dkwX0_fillsWorths_0 : List UInt8 := [42, 180, 0, 57, 3, 3, 79, 4, 60, 27, 4, 42, 182, 0, 103, 120, 162, 0, 108, 27, 184, 0, 217, 61]
abbrev dktX0_fillsWorths_0 : List UInt8 := dkwX0_fillsWorths_0 ++ dktX0_fillsWorths_1
theorem dksX0_fillsWorths_0 : cX0_fillsWorths.data.toList.drop 0 = dktX0_fillsWorths_0 := by decide +kernel
theorem dksX0_fillsWorths_1 : cX0_fillsWorths.data.toList.drop 24 = dktX0_fillsWorths_1 := dk_seg dksX0_fillsWorths_0 24 rfl rfl
theorem dksX0_fillsWorths_2 : cX0_fillsWorths.data.toList.drop 48 = dktX0_fillsWorths_2 := dk_seg dksX0_fillsWorths_1 24 rfl rfl
theorem dksX0_fillsWorths_3 : cX0_fillsWorths.data.toList.drop 70 = dktX0_fillsWorths_3 := dk_seg dksX0_fillsWorths_2 22 rfl rfl
theorem dksX0_fillsWorths_4 : cX0_fillsWorths.data.toList.drop 94 = dktX0_fillsWorths_4 := dk_seg dksX0_fillsWorths_3 24 rfl rfl
theorem dksX0_fillsWorths_5 : cX0_fillsWorths.data.toList.drop 118 = dktX0_fillsWorths_5 := dk_seg dksX0_fillsWorths_4 24 rfl rfl
theorem dX0_fillsWorths_0 : decode cX0_fillsWorths 0 = .ok (.aload_n 0, 1) := dk_42 (dk_at dksX0_fillsWorths_0 0 rfl rfl)
theorem dX0_fillsWorths_1 : decode cX0_fillsWorths 1 = .ok (.getfield 57, 3) := dk_180 0 57 (dk_at dksX0_fillsWorths_0 1 rfl rfl)
theorem dX0_fillsWorths_4 : decode cX0_fillsWorths 4 = .ok (.iconst 0, 1) := dk_3 (dk_at dksX0_fillsWorths_0 4 rfl rfl)
theorem dX0_fillsWorths_5 : decode cX0_fillsWorths 5 = .ok (.iconst 0, 1) := dk_3 (dk_at dksX0_fillsWorths_0 5 rfl rfl)
theorem dX0_fillsWorths_6 : decode cX0_fillsWorths 6 = .ok (.iastore, 1) := dk_79 (dk_at dksX0_fillsWorths_0 6 rfl rfl)
theorem dX0_fillsWorths_7 : decode cX0_fillsWorths 7 = .ok (.iconst 1, 1) := dk_4 (dk_at dksX0_fillsWorths_0 7 rfl rfl)
theorem dX0_fillsWorths_8 : decode cX0_fillsWorths 8 = .ok (.istore_n 1, 1) := dk_60 (dk_at dksX0_fillsWorths_0 8 rfl rfl)
theorem dX0_fillsWorths_9 : decode cX0_fillsWorths 9 = .ok (.iload_n 1, 1) := dk_27 (dk_at dksX0_fillsWorths_0 9 rfl rfl)
theorem dX0_fillsWorths_10 : decode cX0_fillsWorths 10 = .ok (.iconst 1, 1) := dk_4 (dk_at dksX0_fillsWorths_0 10 rfl rfl)
theorem dX0_fillsWorths_11 : decode cX0_fillsWorths 11 = .ok (.aload_n 0, 1) := dk_42 (dk_at dksX0_fillsWorths_0 11 rfl rfl)
theorem dX0_fillsWorths_12 : decode cX0_fillsWorths 12 = .ok (.invokevirtual 103, 3) := dk_182 0 103 (dk_at dksX0_fillsWorths_0 12 rfl rfl)
theorem dX0_fillsWorths_15 : decode cX0_fillsWorths 15 = .ok (.ishl, 1) := dk_120 (dk_at dksX0_fillsWorths_0 15 rfl rfl)
theorem dX0_fillsWorths_16 : decode cX0_fillsWorths 16 = .ok (.if_icmp .ge 108, 3) := dk_162 0 108 (dk_at dksX0_fillsWorths_0 16 rfl rfl)
theorem dX0_fillsWorths_19 : decode cX0_fillsWorths 19 = .ok (.iload_n 1, 1) := dk_27 (dk_at dksX0_fillsWorths_0 19 rfl rfl)
theorem dX0_fillsWorths_20 : decode cX0_fillsWorths 20 = .ok (.invokestatic 217, 3) := dk_184 0 217 (dk_at dksX0_fillsWorths_0 20 rfl rfl)
theorem dX0_fillsWorths_23 : decode cX0_fillsWorths 23 = .ok (.istore_n 2, 1) := dk_61 (dk_at dksX0_fillsWorths_0 23 rfl rfl)
theorem dX0_fillsWorths_24 : decode cX0_fillsWorths 24 = .ok (.iload_n 1, 1) := dk_27 (dk_at dksX0_fillsWorths_1 0 rfl rfl)
theorem dX0_fillsWorths_25 : decode cX0_fillsWorths 25 = .ok (.iconst 1, 1) := dk_4 (dk_at dksX0_fillsWorths_1 1 rfl rfl)
theorem dX0_fillsWorths_26 : decode cX0_fillsWorths 26 = .ok (.iload_n 2, 1) := dk_28 (dk_at dksX0_fillsWorths_1 2 rfl rfl)
theorem dX0_fillsWorths_27 : decode cX0_fillsWorths 27 = .ok (.ishl, 1) := dk_120 (dk_at dksX0_fillsWorths_1 3 rfl rfl)
theorem dX0_fillsWorths_28 : decode cX0_fillsWorths 28 = .ok (.iconst (-1), 1) := dk_2 (dk_at dksX0_fillsWorths_1 4 rfl rfl)
theorem dX0_fillsWorths_29 : decode cX0_fillsWorths 29 = .ok (.ixor, 1) := dk_130 (dk_at dksX0_fillsWorths_1 5 rfl rfl)
theorem dX0_fillsWorths_30 : decode cX0_fillsWorths 30 = .ok (.iand, 1) := dk_126 (dk_at dksX0_fillsWorths_1 6 rfl rfl)
theorem dX0_fillsWorths_31 : decode cX0_fillsWorths 31 = .ok (.istore_n 3, 1) := dk_62 (dk_at dksX0_fillsWorths_1 7 rfl rfl)
theorem dX0_fillsWorths_32 : decode cX0_fillsWorths 32 = .ok (.bipush 9, 2) := dk_16 9 (dk_at dksX0_fillsWorths_1 8 rfl rfl)
theorem dX0_fillsWorths_34 : decode cX0_fillsWorths 34 = .ok (.aload_n 0, 1) := dk_42 (dk_at dksX0_fillsWorths_1 10 rfl rfl)
theorem dX0_fillsWorths_35 : decode cX0_fillsWorths 35 = .ok (.getfield 57, 3) := dk_180 0 57 (dk_at dksX0_fillsWorths_1 11 rfl rfl)
theorem dX0_fillsWorths_38 : decode cX0_fillsWorths 38 = .ok (.iload_n 3, 1) := dk_29 (dk_at dksX0_fillsWorths_1 14 rfl rfl)
theorem dX0_fillsWorths_39 : decode cX0_fillsWorths 39 = .ok (.iaload, 1) := dk_46 (dk_at dksX0_fillsWorths_1 15 rfl rfl)
theorem dX0_fillsWorths_40 : decode cX0_fillsWorths 40 = .ok (.iadd, 1) := dk_96 (dk_at dksX0_fillsWorths_1 16 rfl rfl)
theorem dX0_fillsWorths_41 : decode cX0_fillsWorths 41 = .ok (.istore 4, 2) := dk_54 4 (dk_at dksX0_fillsWorths_1 17 rfl rfl)
theorem dX0_fillsWorths_43 : decode cX0_fillsWorths 43 = .ok (.iload_n 2, 1) := dk_28 (dk_at dksX0_fillsWorths_1 19 rfl rfl)
theorem dX0_fillsWorths_44 : decode cX0_fillsWorths 44 = .ok (.iconst 1, 1) := dk_4 (dk_at dksX0_fillsWorths_1 20 rfl rfl)
theorem dX0_fillsWorths_45 : decode cX0_fillsWorths 45 = .ok (.iadd, 1) := dk_96 (dk_at dksX0_fillsWorths_1 21 rfl rfl)
theorem dX0_fillsWorths_46 : decode cX0_fillsWorths 46 = .ok (.istore 5, 2) := dk_54 5 (dk_at dksX0_fillsWorths_1 22 rfl rfl)
theorem dX0_fillsWorths_48 : decode cX0_fillsWorths 48 = .ok (.iload 5, 2) := dk_21 5 (dk_at dksX0_fillsWorths_2 0 rfl rfl)
theorem dX0_fillsWorths_50 : decode cX0_fillsWorths 50 = .ok (.aload_n 0, 1) := dk_42 (dk_at dksX0_fillsWorths_2 2 rfl rfl)
theorem dX0_fillsWorths_51 : decode cX0_fillsWorths 51 = .ok (.invokevirtual 103, 3) := dk_182 0 103 (dk_at dksX0_fillsWorths_2 3 rfl rfl)
theorem dX0_fillsWorths_54 : decode cX0_fillsWorths 54 = .ok (.if_icmp .ge 56, 3) := dk_162 0 56 (dk_at dksX0_fillsWorths_2 6 rfl rfl)
theorem dX0_fillsWorths_57 : decode cX0_fillsWorths 57 = .ok (.iload_n 3, 1) := dk_29 (dk_at dksX0_fillsWorths_2 9 rfl rfl)
theorem dX0_fillsWorths_58 : decode cX0_fillsWorths 58 = .ok (.iload 5, 2) := dk_21 5 (dk_at dksX0_fillsWorths_2 10 rfl rfl)
theorem dX0_fillsWorths_60 : decode cX0_fillsWorths 60 = .ok (.invokestatic 175, 3) := dk_184 0 175 (dk_at dksX0_fillsWorths_2 12 rfl rfl)
theorem dX0_fillsWorths_63 : decode cX0_fillsWorths 63 = .ok (.ifCond .eq 41, 3) := dk_153 0 41 (dk_at dksX0_fillsWorths_2 15 rfl rfl)
theorem dX0_fillsWorths_66 : decode cX0_fillsWorths 66 = .ok (.aload_n 0, 1) := dk_42 (dk_at dksX0_fillsWorths_2 18 rfl rfl)
theorem dX0_fillsWorths_67 : decode cX0_fillsWorths 67 = .ok (.iload_n 2, 1) := dk_28 (dk_at dksX0_fillsWorths_2 19 rfl rfl)
theorem dX0_fillsWorths_68 : decode cX0_fillsWorths 68 = .ok (.iload 5, 2) := dk_21 5 (dk_at dksX0_fillsWorths_2 20 rfl rfl)
theorem dX0_fillsWorths_70 : decode cX0_fillsWorths 70 = .ok (.invokevirtual 220, 3) := dk_182 0 220 (dk_at dksX0_fillsWorths_3 0 rfl rfl)
theorem dX0_fillsWorths_73 : decode cX0_fillsWorths 73 = .ok (.ifCond .le 31, 3) := dk_158 0 31 (dk_at dksX0_fillsWorths_3 3 rfl rfl)
theorem dX0_fillsWorths_76 : decode cX0_fillsWorths 76 = .ok (.iload 4, 2) := dk_21 4 (dk_at dksX0_fillsWorths_3 6 rfl rfl)
theorem dX0_fillsWorths_78 : decode cX0_fillsWorths 78 = .ok (.aload_n 0, 1) := dk_42 (dk_at dksX0_fillsWorths_3 8 rfl rfl)
theorem dX0_fillsWorths_79 : decode cX0_fillsWorths 79 = .ok (.iload_n 2, 1) := dk_28 (dk_at dksX0_fillsWorths_3 9 rfl rfl)
theorem dX0_fillsWorths_80 : decode cX0_fillsWorths 80 = .ok (.iload 5, 2) := dk_21 5 (dk_at dksX0_fillsWorths_3 10 rfl rfl)
theorem dX0_fillsWorths_82 : decode cX0_fillsWorths 82 = .ok (.invokevirtual 220, 3) := dk_182 0 220 (dk_at dksX0_fillsWorths_3 12 rfl rfl)
theorem dX0_fillsWorths_85 : decode cX0_fillsWorths 85 = .ok (.aload_n 0, 1) := dk_42 (dk_at dksX0_fillsWorths_3 15 rfl rfl)
theorem dX0_fillsWorths_86 : decode cX0_fillsWorths 86 = .ok (.getfield 57, 3) := dk_180 0 57 (dk_at dksX0_fillsWorths_3 16 rfl rfl)
theorem dX0_fillsWorths_89 : decode cX0_fillsWorths 89 = .ok (.iload_n 3, 1) := dk_29 (dk_at dksX0_fillsWorths_3 19 rfl rfl)
theorem dX0_fillsWorths_90 : decode cX0_fillsWorths 90 = .ok (.iconst 1, 1) := dk_4 (dk_at dksX0_fillsWorths_3 20 rfl rfl)
theorem dX0_fillsWorths_91 : decode cX0_fillsWorths 91 = .ok (.iload 5, 2) := dk_21 5 (dk_at dksX0_fillsWorths_3 21 rfl rfl)
theorem dX0_fillsWorths_93 : decode cX0_fillsWorths 93 = .ok (.ishl, 1) := dk_120 (dk_at dksX0_fillsWorths_3 23 rfl rfl)
theorem dX0_fillsWorths_94 : decode cX0_fillsWorths 94 = .ok (.iconst (-1), 1) := dk_2 (dk_at dksX0_fillsWorths_4 0 rfl rfl)
theorem dX0_fillsWorths_95 : decode cX0_fillsWorths 95 = .ok (.ixor, 1) := dk_130 (dk_at dksX0_fillsWorths_4 1 rfl rfl)
theorem dX0_fillsWorths_96 : decode cX0_fillsWorths 96 = .ok (.iand, 1) := dk_126 (dk_at dksX0_fillsWorths_4 2 rfl rfl)
theorem dX0_fillsWorths_97 : decode cX0_fillsWorths 97 = .ok (.iaload, 1) := dk_46 (dk_at dksX0_fillsWorths_4 3 rfl rfl)
theorem dX0_fillsWorths_98 : decode cX0_fillsWorths 98 = .ok (.iadd, 1) := dk_96 (dk_at dksX0_fillsWorths_4 4 rfl rfl)
theorem dX0_fillsWorths_99 : decode cX0_fillsWorths 99 = .ok (.invokestatic 223, 3) := dk_184 0 223 (dk_at dksX0_fillsWorths_4 5 rfl rfl)
theorem dX0_fillsWorths_102 : decode cX0_fillsWorths 102 = .ok (.istore 4, 2) := dk_54 4 (dk_at dksX0_fillsWorths_4 8 rfl rfl)
theorem dX0_fillsWorths_104 : decode cX0_fillsWorths 104 = .ok (.iinc 5 1, 3) := dk_132 5 1 (dk_at dksX0_fillsWorths_4 10 rfl rfl)
theorem dX0_fillsWorths_107 : decode cX0_fillsWorths 107 = .ok (.goto (-59), 3) := dk_167 255 197 (dk_at dksX0_fillsWorths_4 13 rfl rfl)
theorem dX0_fillsWorths_110 : decode cX0_fillsWorths 110 = .ok (.aload_n 0, 1) := dk_42 (dk_at dksX0_fillsWorths_4 16 rfl rfl)
theorem dX0_fillsWorths_111 : decode cX0_fillsWorths 111 = .ok (.getfield 57, 3) := dk_180 0 57 (dk_at dksX0_fillsWorths_4 17 rfl rfl)
theorem dX0_fillsWorths_114 : decode cX0_fillsWorths 114 = .ok (.iload_n 1, 1) := dk_27 (dk_at dksX0_fillsWorths_4 20 rfl rfl)
theorem dX0_fillsWorths_115 : decode cX0_fillsWorths 115 = .ok (.iload 4, 2) := dk_21 4 (dk_at dksX0_fillsWorths_4 21 rfl rfl)
theorem dX0_fillsWorths_117 : decode cX0_fillsWorths 117 = .ok (.iastore, 1) := dk_79 (dk_at dksX0_fillsWorths_4 23 rfl rfl)
theorem dX0_fillsWorths_118 : decode cX0_fillsWorths 118 = .ok (.iinc 1 1, 3) := dk_132 1 1 (dk_at dksX0_fillsWorths_5 0 rfl rfl)
theorem dX0_fillsWorths_121 : decode cX0_fillsWorths 121 = .ok (.goto (-112), 3) := dk_167 255 144 (dk_at dksX0_fillsWorths_5 3 rfl rfl)
theorem dX0_fillsWorths_124 : decode cX0_fillsWorths 124 = .ok (.return_, 1) := dk_177 (dk_at dksX0_fillsWorths_5 6 rfl rfl)
abbrev cX0_least : ByteArray := prog_1_method_23_code
def yX0_least : MethodName := ⟨RX0, "least", "(I)I"⟩
def dkwX0_least_0 : List UInt8 := [3, 60, 26, 27, 184, 0, 175, 154, 0, 9, 132, 1, 1, 167, 255, 245, 27, 172]
abbrev dktX0_least_0 : List UInt8 := dkwX0_least_0 ++ []
theorem dksX0_least_0 : cX0_least.data.toList.drop 0 = dktX0_least_0 := by decide +kernel
theorem dX0_least_0 : decode cX0_least 0 = .ok (.iconst 0, 1) := dk_3 (dk_at dksX0_least_0 0 rfl rfl)
theorem dX0_least_1 : decode cX0_least 1 = .ok (.istore_n 1, 1) := dk_60 (dk_at dksX0_least_0 1 rfl rfl)
theorem dX0_least_2 : decode cX0_least 2 = .ok (.iload_n 0, 1) := dk_26 (dk_at dksX0_least_0 2 rfl rfl)
theorem dX0_least_3 : decode cX0_least 3 = .ok (.iload_n 1, 1) := dk_27 (dk_at dksX0_least_0 3 rfl rfl)
theorem dX0_least_4 : decode cX0_least 4 = .ok (.invokestatic 175, 3) := dk_184 0 175 (dk_at dksX0_least_0 4 rfl rfl)
theorem dX0_least_7 : decode cX0_least 7 = .ok (.ifCond .ne 9, 3) := dk_154 0 9 (dk_at dksX0_least_0 7 rfl rfl)
theorem dX0_least_10 : decode cX0_least 10 = .ok (.iinc 1 1, 3) := dk_132 1 1 (dk_at dksX0_least_0 10 rfl rfl)
theorem dX0_least_13 : decode cX0_least 13 = .ok (.goto (-11), 3) := dk_167 255 245 (dk_at dksX0_least_0 13 rfl rfl)
theorem dX0_least_16 : decode cX0_least 16 = .ok (.iload_n 1, 1) := dk_27 (dk_at dksX0_least_0 16 rfl rfl)
theorem dX0_least_17 : decode cX0_least 17 = .ok (.ireturn, 1) := dk_172 (dk_at dksX0_least_0 17 rfl rfl)
abbrev cX0_pairOf : ByteArray := prog_1_method_24_code
def yX0_pairOf : MethodName := ⟨RX0, "pairOf", "(II)I"⟩
def dkwX0_pairOf_1 : List UInt8 := [167, 0, 4, 3, 172]
abbrev dktX0_pairOf_1 : List UInt8 := dkwX0_pairOf_1 ++ []
def dkwX0_pairOf_0 : List UInt8 := [42, 27, 28, 182, 0, 183, 62, 29, 5, 160, 0, 8, 16, 40, 167, 0, 14, 29, 4, 160, 0, 8, 16, 20]
abbrev dktX0_pairOf_0 : List UInt8 := dkwX0_pairOf_0 ++ dktX0_pairOf_1
theorem dksX0_pairOf_0 : cX0_pairOf.data.toList.drop 0 = dktX0_pairOf_0 := by decide +kernel
theorem dksX0_pairOf_1 : cX0_pairOf.data.toList.drop 24 = dktX0_pairOf_1 := dk_seg dksX0_pairOf_0 24 rfl rfl
theorem dX0_pairOf_0 : decode cX0_pairOf 0 = .ok (.aload_n 0, 1) := dk_42 (dk_at dksX0_pairOf_0 0 rfl rfl)
theorem dX0_pairOf_1 : decode cX0_pairOf 1 = .ok (.iload_n 1, 1) := dk_27 (dk_at dksX0_pairOf_0 1 rfl rfl)
theorem dX0_pairOf_2 : decode cX0_pairOf 2 = .ok (.iload_n 2, 1) := dk_28 (dk_at dksX0_pairOf_0 2 rfl rfl)
theorem dX0_pairOf_3 : decode cX0_pairOf 3 = .ok (.invokevirtual 183, 3) := dk_182 0 183 (dk_at dksX0_pairOf_0 3 rfl rfl)
theorem dX0_pairOf_6 : decode cX0_pairOf 6 = .ok (.istore_n 3, 1) := dk_62 (dk_at dksX0_pairOf_0 6 rfl rfl)
theorem dX0_pairOf_7 : decode cX0_pairOf 7 = .ok (.iload_n 3, 1) := dk_29 (dk_at dksX0_pairOf_0 7 rfl rfl)
theorem dX0_pairOf_8 : decode cX0_pairOf 8 = .ok (.iconst 2, 1) := dk_5 (dk_at dksX0_pairOf_0 8 rfl rfl)
theorem dX0_pairOf_9 : decode cX0_pairOf 9 = .ok (.if_icmp .ne 8, 3) := dk_160 0 8 (dk_at dksX0_pairOf_0 9 rfl rfl)
theorem dX0_pairOf_12 : decode cX0_pairOf 12 = .ok (.bipush 40, 2) := dk_16 40 (dk_at dksX0_pairOf_0 12 rfl rfl)
theorem dX0_pairOf_14 : decode cX0_pairOf 14 = .ok (.goto 14, 3) := dk_167 0 14 (dk_at dksX0_pairOf_0 14 rfl rfl)
theorem dX0_pairOf_17 : decode cX0_pairOf 17 = .ok (.iload_n 3, 1) := dk_29 (dk_at dksX0_pairOf_0 17 rfl rfl)
theorem dX0_pairOf_18 : decode cX0_pairOf 18 = .ok (.iconst 1, 1) := dk_4 (dk_at dksX0_pairOf_0 18 rfl rfl)
theorem dX0_pairOf_19 : decode cX0_pairOf 19 = .ok (.if_icmp .ne 8, 3) := dk_160 0 8 (dk_at dksX0_pairOf_0 19 rfl rfl)
theorem dX0_pairOf_22 : decode cX0_pairOf 22 = .ok (.bipush 20, 2) := dk_16 20 (dk_at dksX0_pairOf_0 22 rfl rfl)
theorem dX0_pairOf_24 : decode cX0_pairOf 24 = .ok (.goto 4, 3) := dk_167 0 4 (dk_at dksX0_pairOf_1 0 rfl rfl)
theorem dX0_pairOf_27 : decode cX0_pairOf 27 = .ok (.iconst 0, 1) := dk_3 (dk_at dksX0_pairOf_1 3 rfl rfl)
theorem dX0_pairOf_28 : decode cX0_pairOf 28 = .ok (.ireturn, 1) := dk_172 (dk_at dksX0_pairOf_1 4 rfl rfl)
abbrev cX0_spot : ByteArray := prog_1_method_22_code
def yX0_spot : MethodName := ⟨RX0, "spot", "(II)I"⟩
def dkwX0_spot_1 : List UInt8 := [27, 42, 180, 0, 19, 180, 0, 165, 28, 96, 182, 0, 214, 167, 0, 4, 2, 172]
abbrev dktX0_spot_1 : List UInt8 := dkwX0_spot_1 ++ []
def dkwX0_spot_0 : List UInt8 := [42, 27, 182, 0, 209, 153, 0, 35, 28, 133, 9, 20, 0, 212, 184, 0, 106, 153, 0, 23, 42, 180, 0, 12]
abbrev dktX0_spot_0 : List UInt8 := dkwX0_spot_0 ++ dktX0_spot_1
theorem dksX0_spot_0 : cX0_spot.data.toList.drop 0 = dktX0_spot_0 := by decide +kernel
theorem dksX0_spot_1 : cX0_spot.data.toList.drop 24 = dktX0_spot_1 := dk_seg dksX0_spot_0 24 rfl rfl
theorem dX0_spot_0 : decode cX0_spot 0 = .ok (.aload_n 0, 1) := dk_42 (dk_at dksX0_spot_0 0 rfl rfl)
theorem dX0_spot_1 : decode cX0_spot 1 = .ok (.iload_n 1, 1) := dk_27 (dk_at dksX0_spot_0 1 rfl rfl)
theorem dX0_spot_2 : decode cX0_spot 2 = .ok (.invokevirtual 209, 3) := dk_182 0 209 (dk_at dksX0_spot_0 2 rfl rfl)
theorem dX0_spot_5 : decode cX0_spot 5 = .ok (.ifCond .eq 35, 3) := dk_153 0 35 (dk_at dksX0_spot_0 5 rfl rfl)
theorem dX0_spot_8 : decode cX0_spot 8 = .ok (.iload_n 2, 1) := dk_28 (dk_at dksX0_spot_0 8 rfl rfl)
theorem dX0_spot_9 : decode cX0_spot 9 = .ok (.i2l, 1) := dk_133 (dk_at dksX0_spot_0 9 rfl rfl)
theorem dX0_spot_10 : decode cX0_spot 10 = .ok (.lconst 0, 1) := dk_9 (dk_at dksX0_spot_0 10 rfl rfl)
theorem dX0_spot_11 : decode cX0_spot 11 = .ok (.ldc2_w 212, 3) := dk_20 0 212 (dk_at dksX0_spot_0 11 rfl rfl)
theorem dX0_spot_14 : decode cX0_spot 14 = .ok (.invokestatic 106, 3) := dk_184 0 106 (dk_at dksX0_spot_0 14 rfl rfl)
theorem dX0_spot_17 : decode cX0_spot 17 = .ok (.ifCond .eq 23, 3) := dk_153 0 23 (dk_at dksX0_spot_0 17 rfl rfl)
theorem dX0_spot_20 : decode cX0_spot 20 = .ok (.aload_n 0, 1) := dk_42 (dk_at dksX0_spot_0 20 rfl rfl)
theorem dX0_spot_21 : decode cX0_spot 21 = .ok (.getfield 12, 3) := dk_180 0 12 (dk_at dksX0_spot_0 21 rfl rfl)
theorem dX0_spot_24 : decode cX0_spot 24 = .ok (.iload_n 1, 1) := dk_27 (dk_at dksX0_spot_1 0 rfl rfl)
theorem dX0_spot_25 : decode cX0_spot 25 = .ok (.aload_n 0, 1) := dk_42 (dk_at dksX0_spot_1 1 rfl rfl)
theorem dX0_spot_26 : decode cX0_spot 26 = .ok (.getfield 19, 3) := dk_180 0 19 (dk_at dksX0_spot_1 2 rfl rfl)
theorem dX0_spot_29 : decode cX0_spot 29 = .ok (.getfield 165, 3) := dk_180 0 165 (dk_at dksX0_spot_1 5 rfl rfl)
theorem dX0_spot_32 : decode cX0_spot 32 = .ok (.iload_n 2, 1) := dk_28 (dk_at dksX0_spot_1 8 rfl rfl)
theorem dX0_spot_33 : decode cX0_spot 33 = .ok (.iadd, 1) := dk_96 (dk_at dksX0_spot_1 9 rfl rfl)
theorem dX0_spot_34 : decode cX0_spot 34 = .ok (.invokevirtual 214, 3) := dk_182 0 214 (dk_at dksX0_spot_1 10 rfl rfl)
theorem dX0_spot_37 : decode cX0_spot 37 = .ok (.goto 4, 3) := dk_167 0 4 (dk_at dksX0_spot_1 13 rfl rfl)
theorem dX0_spot_40 : decode cX0_spot 40 = .ok (.iconst (-1), 1) := dk_2 (dk_at dksX0_spot_1 16 rfl rfl)
theorem dX0_spot_41 : decode cX0_spot 41 = .ok (.ireturn, 1) := dk_172 (dk_at dksX0_spot_1 17 rfl rfl)
abbrev cX0_isStall : ByteArray := prog_1_method_10_code
def yX0_isStall : MethodName := ⟨RX0, "isStall", "(I)Z"⟩
def dkwX0_isStall_0 : List UInt8 := [27, 133, 9, 42, 180, 0, 12, 180, 0, 89, 4, 100, 133, 184, 0, 106, 172]
abbrev dktX0_isStall_0 : List UInt8 := dkwX0_isStall_0 ++ []
theorem dksX0_isStall_0 : cX0_isStall.data.toList.drop 0 = dktX0_isStall_0 := by decide +kernel
theorem dX0_isStall_0 : decode cX0_isStall 0 = .ok (.iload_n 1, 1) := dk_27 (dk_at dksX0_isStall_0 0 rfl rfl)
theorem dX0_isStall_1 : decode cX0_isStall 1 = .ok (.i2l, 1) := dk_133 (dk_at dksX0_isStall_0 1 rfl rfl)
theorem dX0_isStall_2 : decode cX0_isStall 2 = .ok (.lconst 0, 1) := dk_9 (dk_at dksX0_isStall_0 2 rfl rfl)
theorem dX0_isStall_3 : decode cX0_isStall 3 = .ok (.aload_n 0, 1) := dk_42 (dk_at dksX0_isStall_0 3 rfl rfl)
theorem dX0_isStall_4 : decode cX0_isStall 4 = .ok (.getfield 12, 3) := dk_180 0 12 (dk_at dksX0_isStall_0 4 rfl rfl)
theorem dX0_isStall_7 : decode cX0_isStall 7 = .ok (.getfield 89, 3) := dk_180 0 89 (dk_at dksX0_isStall_0 7 rfl rfl)
theorem dX0_isStall_10 : decode cX0_isStall 10 = .ok (.iconst 1, 1) := dk_4 (dk_at dksX0_isStall_0 10 rfl rfl)
theorem dX0_isStall_11 : decode cX0_isStall 11 = .ok (.isub, 1) := dk_100 (dk_at dksX0_isStall_0 11 rfl rfl)
theorem dX0_isStall_12 : decode cX0_isStall 12 = .ok (.i2l, 1) := dk_133 (dk_at dksX0_isStall_0 12 rfl rfl)
theorem dX0_isStall_13 : decode cX0_isStall 13 = .ok (.invokestatic 106, 3) := dk_184 0 106 (dk_at dksX0_isStall_0 13 rfl rfl)
theorem dX0_isStall_16 : decode cX0_isStall 16 = .ok (.ireturn, 1) := dk_172 (dk_at dksX0_isStall_0 16 rfl rfl)
abbrev cX0_worth : ByteArray := prog_1_method_28_code
def yX0_worth : MethodName := ⟨RX0, "worth", "(I)I"⟩
def dkwX0_worth_0 : List UInt8 := [42, 27, 182, 0, 235, 153, 0, 11, 42, 27, 182, 0, 205, 167, 0, 4, 2, 172]
abbrev dktX0_worth_0 : List UInt8 := dkwX0_worth_0 ++ []
theorem dksX0_worth_0 : cX0_worth.data.toList.drop 0 = dktX0_worth_0 := by decide +kernel
theorem dX0_worth_0 : decode cX0_worth 0 = .ok (.aload_n 0, 1) := dk_42 (dk_at dksX0_worth_0 0 rfl rfl)
theorem dX0_worth_1 : decode cX0_worth 1 = .ok (.iload_n 1, 1) := dk_27 (dk_at dksX0_worth_0 1 rfl rfl)
theorem dX0_worth_2 : decode cX0_worth 2 = .ok (.invokevirtual 235, 3) := dk_182 0 235 (dk_at dksX0_worth_0 2 rfl rfl)
theorem dX0_worth_5 : decode cX0_worth 5 = .ok (.ifCond .eq 11, 3) := dk_153 0 11 (dk_at dksX0_worth_0 5 rfl rfl)
theorem dX0_worth_8 : decode cX0_worth 8 = .ok (.aload_n 0, 1) := dk_42 (dk_at dksX0_worth_0 8 rfl rfl)
theorem dX0_worth_9 : decode cX0_worth 9 = .ok (.iload_n 1, 1) := dk_27 (dk_at dksX0_worth_0 9 rfl rfl)
theorem dX0_worth_10 : decode cX0_worth 10 = .ok (.invokevirtual 205, 3) := dk_182 0 205 (dk_at dksX0_worth_0 10 rfl rfl)
theorem dX0_worth_13 : decode cX0_worth 13 = .ok (.goto 4, 3) := dk_167 0 4 (dk_at dksX0_worth_0 13 rfl rfl)
theorem dX0_worth_16 : decode cX0_worth 16 = .ok (.iconst (-1), 1) := dk_2 (dk_at dksX0_worth_0 16 rfl rfl)
theorem dX0_worth_17 : decode cX0_worth 17 = .ok (.ireturn, 1) := dk_172 (dk_at dksX0_worth_0 17 rfl rfl)
abbrev cX0_isSet : ByteArray := prog_1_method_27_code
def yX0_isSet : MethodName := ⟨RX0, "isSet", "(I)Z"⟩
def dkwX0_isSet_1 : List UInt8 := [153, 0, 7, 4, 167, 0, 4, 3, 172]
abbrev dktX0_isSet_1 : List UInt8 := dkwX0_isSet_1 ++ []
def dkwX0_isSet_0 : List UInt8 := [42, 182, 0, 231, 153, 0, 25, 27, 133, 9, 4, 42, 182, 0, 103, 120, 4, 100, 133, 184, 0, 106]
abbrev dktX0_isSet_0 : List UInt8 := dkwX0_isSet_0 ++ dktX0_isSet_1
theorem dksX0_isSet_0 : cX0_isSet.data.toList.drop 0 = dktX0_isSet_0 := by decide +kernel
theorem dksX0_isSet_1 : cX0_isSet.data.toList.drop 22 = dktX0_isSet_1 := dk_seg dksX0_isSet_0 22 rfl rfl
theorem dX0_isSet_0 : decode cX0_isSet 0 = .ok (.aload_n 0, 1) := dk_42 (dk_at dksX0_isSet_0 0 rfl rfl)
theorem dX0_isSet_1 : decode cX0_isSet 1 = .ok (.invokevirtual 231, 3) := dk_182 0 231 (dk_at dksX0_isSet_0 1 rfl rfl)
theorem dX0_isSet_4 : decode cX0_isSet 4 = .ok (.ifCond .eq 25, 3) := dk_153 0 25 (dk_at dksX0_isSet_0 4 rfl rfl)
theorem dX0_isSet_7 : decode cX0_isSet 7 = .ok (.iload_n 1, 1) := dk_27 (dk_at dksX0_isSet_0 7 rfl rfl)
theorem dX0_isSet_8 : decode cX0_isSet 8 = .ok (.i2l, 1) := dk_133 (dk_at dksX0_isSet_0 8 rfl rfl)
theorem dX0_isSet_9 : decode cX0_isSet 9 = .ok (.lconst 0, 1) := dk_9 (dk_at dksX0_isSet_0 9 rfl rfl)
theorem dX0_isSet_10 : decode cX0_isSet 10 = .ok (.iconst 1, 1) := dk_4 (dk_at dksX0_isSet_0 10 rfl rfl)
theorem dX0_isSet_11 : decode cX0_isSet 11 = .ok (.aload_n 0, 1) := dk_42 (dk_at dksX0_isSet_0 11 rfl rfl)
theorem dX0_isSet_12 : decode cX0_isSet 12 = .ok (.invokevirtual 103, 3) := dk_182 0 103 (dk_at dksX0_isSet_0 12 rfl rfl)
theorem dX0_isSet_15 : decode cX0_isSet 15 = .ok (.ishl, 1) := dk_120 (dk_at dksX0_isSet_0 15 rfl rfl)
theorem dX0_isSet_16 : decode cX0_isSet 16 = .ok (.iconst 1, 1) := dk_4 (dk_at dksX0_isSet_0 16 rfl rfl)
theorem dX0_isSet_17 : decode cX0_isSet 17 = .ok (.isub, 1) := dk_100 (dk_at dksX0_isSet_0 17 rfl rfl)
theorem dX0_isSet_18 : decode cX0_isSet 18 = .ok (.i2l, 1) := dk_133 (dk_at dksX0_isSet_0 18 rfl rfl)
theorem dX0_isSet_19 : decode cX0_isSet 19 = .ok (.invokestatic 106, 3) := dk_184 0 106 (dk_at dksX0_isSet_0 19 rfl rfl)
theorem dX0_isSet_22 : decode cX0_isSet 22 = .ok (.ifCond .eq 7, 3) := dk_153 0 7 (dk_at dksX0_isSet_1 0 rfl rfl)
theorem dX0_isSet_25 : decode cX0_isSet 25 = .ok (.iconst 1, 1) := dk_4 (dk_at dksX0_isSet_1 3 rfl rfl)
theorem dX0_isSet_26 : decode cX0_isSet 26 = .ok (.goto 4, 3) := dk_167 0 4 (dk_at dksX0_isSet_1 4 rfl rfl)
theorem dX0_isSet_29 : decode cX0_isSet 29 = .ok (.iconst 0, 1) := dk_3 (dk_at dksX0_isSet_1 7 rfl rfl)
theorem dX0_isSet_30 : decode cX0_isSet 30 = .ok (.ireturn, 1) := dk_172 (dk_at dksX0_isSet_1 8 rfl rfl)
abbrev cX0_isFair : ByteArray := prog_1_method_5_code
def yX0_isFair : MethodName := ⟨RX0, "isFair", "()Z"⟩
def dkwX0_isFair_0 : List UInt8 := [42, 180, 0, 12, 180, 0, 89, 158, 0, 7, 4, 167, 0, 4, 3, 172]
abbrev dktX0_isFair_0 : List UInt8 := dkwX0_isFair_0 ++ []
theorem dksX0_isFair_0 : cX0_isFair.data.toList.drop 0 = dktX0_isFair_0 := by decide +kernel
theorem dX0_isFair_0 : decode cX0_isFair 0 = .ok (.aload_n 0, 1) := dk_42 (dk_at dksX0_isFair_0 0 rfl rfl)
theorem dX0_isFair_1 : decode cX0_isFair 1 = .ok (.getfield 12, 3) := dk_180 0 12 (dk_at dksX0_isFair_0 1 rfl rfl)
theorem dX0_isFair_4 : decode cX0_isFair 4 = .ok (.getfield 89, 3) := dk_180 0 89 (dk_at dksX0_isFair_0 4 rfl rfl)
theorem dX0_isFair_7 : decode cX0_isFair 7 = .ok (.ifCond .le 7, 3) := dk_158 0 7 (dk_at dksX0_isFair_0 7 rfl rfl)
theorem dX0_isFair_10 : decode cX0_isFair 10 = .ok (.iconst 1, 1) := dk_4 (dk_at dksX0_isFair_0 10 rfl rfl)
theorem dX0_isFair_11 : decode cX0_isFair 11 = .ok (.goto 4, 3) := dk_167 0 4 (dk_at dksX0_isFair_0 11 rfl rfl)
theorem dX0_isFair_14 : decode cX0_isFair 14 = .ok (.iconst 0, 1) := dk_3 (dk_at dksX0_isFair_0 14 rfl rfl)
theorem dX0_isFair_15 : decode cX0_isFair 15 = .ok (.ireturn, 1) := dk_172 (dk_at dksX0_isFair_0 15 rfl rfl)
abbrev cX0_with : ByteArray := prog_1_method_30_code
def yX0_with : MethodName := ⟨RX0, "with", "(II)I"⟩
def dkwX0_with_4 : List UInt8 := [159, 0, 12, 29, 4, 21, 6, 120, 2, 130, 126, 62, 167, 255, 185, 21, 4, 172]
abbrev dktX0_with_4 : List UInt8 := dkwX0_with_4 ++ []
def dkwX0_with_3 : List UInt8 := [160, 0, 8, 21, 5, 167, 0, 5, 21, 6, 54, 4, 29, 4, 21, 5, 120, 2, 130, 126, 62, 21, 6, 2]
abbrev dktX0_with_3 : List UInt8 := dkwX0_with_3 ++ dktX0_with_4
def dkwX0_with_2 : List UInt8 := [54, 5, 42, 29, 182, 0, 238, 54, 6, 21, 5, 28, 159, 0, 9, 21, 6, 28, 160, 0, 18, 21, 6, 28]
abbrev dktX0_with_2 : List UInt8 := dkwX0_with_2 ++ dktX0_with_3
def dkwX0_with_1 : List UInt8 := [16, 254, 172, 42, 182, 0, 228, 27, 62, 16, 254, 54, 4, 21, 4, 16, 254, 160, 0, 70, 29, 184, 0, 217]
abbrev dktX0_with_1 : List UInt8 := dkwX0_with_1 ++ dktX0_with_2
def dkwX0_with_0 : List UInt8 := [42, 27, 182, 0, 235, 153, 0, 19, 42, 28, 182, 0, 149, 153, 0, 11, 27, 28, 184, 0, 175, 154, 0, 6]
abbrev dktX0_with_0 : List UInt8 := dkwX0_with_0 ++ dktX0_with_1
theorem dksX0_with_0 : cX0_with.data.toList.drop 0 = dktX0_with_0 := by decide +kernel
theorem dksX0_with_1 : cX0_with.data.toList.drop 24 = dktX0_with_1 := dk_seg dksX0_with_0 24 rfl rfl
theorem dksX0_with_2 : cX0_with.data.toList.drop 48 = dktX0_with_2 := dk_seg dksX0_with_1 24 rfl rfl
theorem dksX0_with_3 : cX0_with.data.toList.drop 72 = dktX0_with_3 := dk_seg dksX0_with_2 24 rfl rfl
theorem dksX0_with_4 : cX0_with.data.toList.drop 96 = dktX0_with_4 := dk_seg dksX0_with_3 24 rfl rfl
theorem dX0_with_0 : decode cX0_with 0 = .ok (.aload_n 0, 1) := dk_42 (dk_at dksX0_with_0 0 rfl rfl)
theorem dX0_with_1 : decode cX0_with 1 = .ok (.iload_n 1, 1) := dk_27 (dk_at dksX0_with_0 1 rfl rfl)
theorem dX0_with_2 : decode cX0_with 2 = .ok (.invokevirtual 235, 3) := dk_182 0 235 (dk_at dksX0_with_0 2 rfl rfl)
theorem dX0_with_5 : decode cX0_with 5 = .ok (.ifCond .eq 19, 3) := dk_153 0 19 (dk_at dksX0_with_0 5 rfl rfl)
theorem dX0_with_8 : decode cX0_with 8 = .ok (.aload_n 0, 1) := dk_42 (dk_at dksX0_with_0 8 rfl rfl)
theorem dX0_with_9 : decode cX0_with 9 = .ok (.iload_n 2, 1) := dk_28 (dk_at dksX0_with_0 9 rfl rfl)
theorem dX0_with_10 : decode cX0_with 10 = .ok (.invokevirtual 149, 3) := dk_182 0 149 (dk_at dksX0_with_0 10 rfl rfl)
theorem dX0_with_13 : decode cX0_with 13 = .ok (.ifCond .eq 11, 3) := dk_153 0 11 (dk_at dksX0_with_0 13 rfl rfl)
theorem dX0_with_16 : decode cX0_with 16 = .ok (.iload_n 1, 1) := dk_27 (dk_at dksX0_with_0 16 rfl rfl)
theorem dX0_with_17 : decode cX0_with 17 = .ok (.iload_n 2, 1) := dk_28 (dk_at dksX0_with_0 17 rfl rfl)
theorem dX0_with_18 : decode cX0_with 18 = .ok (.invokestatic 175, 3) := dk_184 0 175 (dk_at dksX0_with_0 18 rfl rfl)
theorem dX0_with_21 : decode cX0_with 21 = .ok (.ifCond .ne 6, 3) := dk_154 0 6 (dk_at dksX0_with_0 21 rfl rfl)
theorem dX0_with_24 : decode cX0_with 24 = .ok (.bipush (-2), 2) := dk_16 254 (dk_at dksX0_with_1 0 rfl rfl)
theorem dX0_with_26 : decode cX0_with 26 = .ok (.ireturn, 1) := dk_172 (dk_at dksX0_with_1 2 rfl rfl)
theorem dX0_with_27 : decode cX0_with 27 = .ok (.aload_n 0, 1) := dk_42 (dk_at dksX0_with_1 3 rfl rfl)
theorem dX0_with_28 : decode cX0_with 28 = .ok (.invokevirtual 228, 3) := dk_182 0 228 (dk_at dksX0_with_1 4 rfl rfl)
theorem dX0_with_31 : decode cX0_with 31 = .ok (.iload_n 1, 1) := dk_27 (dk_at dksX0_with_1 7 rfl rfl)
theorem dX0_with_32 : decode cX0_with 32 = .ok (.istore_n 3, 1) := dk_62 (dk_at dksX0_with_1 8 rfl rfl)
theorem dX0_with_33 : decode cX0_with 33 = .ok (.bipush (-2), 2) := dk_16 254 (dk_at dksX0_with_1 9 rfl rfl)
theorem dX0_with_35 : decode cX0_with 35 = .ok (.istore 4, 2) := dk_54 4 (dk_at dksX0_with_1 11 rfl rfl)
theorem dX0_with_37 : decode cX0_with 37 = .ok (.iload 4, 2) := dk_21 4 (dk_at dksX0_with_1 13 rfl rfl)
theorem dX0_with_39 : decode cX0_with 39 = .ok (.bipush (-2), 2) := dk_16 254 (dk_at dksX0_with_1 15 rfl rfl)
theorem dX0_with_41 : decode cX0_with 41 = .ok (.if_icmp .ne 70, 3) := dk_160 0 70 (dk_at dksX0_with_1 17 rfl rfl)
theorem dX0_with_44 : decode cX0_with 44 = .ok (.iload_n 3, 1) := dk_29 (dk_at dksX0_with_1 20 rfl rfl)
theorem dX0_with_45 : decode cX0_with 45 = .ok (.invokestatic 217, 3) := dk_184 0 217 (dk_at dksX0_with_1 21 rfl rfl)
theorem dX0_with_48 : decode cX0_with 48 = .ok (.istore 5, 2) := dk_54 5 (dk_at dksX0_with_2 0 rfl rfl)
theorem dX0_with_50 : decode cX0_with 50 = .ok (.aload_n 0, 1) := dk_42 (dk_at dksX0_with_2 2 rfl rfl)
theorem dX0_with_51 : decode cX0_with 51 = .ok (.iload_n 3, 1) := dk_29 (dk_at dksX0_with_2 3 rfl rfl)
theorem dX0_with_52 : decode cX0_with 52 = .ok (.invokevirtual 238, 3) := dk_182 0 238 (dk_at dksX0_with_2 4 rfl rfl)
theorem dX0_with_55 : decode cX0_with 55 = .ok (.istore 6, 2) := dk_54 6 (dk_at dksX0_with_2 7 rfl rfl)
theorem dX0_with_57 : decode cX0_with 57 = .ok (.iload 5, 2) := dk_21 5 (dk_at dksX0_with_2 9 rfl rfl)
theorem dX0_with_59 : decode cX0_with 59 = .ok (.iload_n 2, 1) := dk_28 (dk_at dksX0_with_2 11 rfl rfl)
theorem dX0_with_60 : decode cX0_with 60 = .ok (.if_icmp .eq 9, 3) := dk_159 0 9 (dk_at dksX0_with_2 12 rfl rfl)
theorem dX0_with_63 : decode cX0_with 63 = .ok (.iload 6, 2) := dk_21 6 (dk_at dksX0_with_2 15 rfl rfl)
theorem dX0_with_65 : decode cX0_with 65 = .ok (.iload_n 2, 1) := dk_28 (dk_at dksX0_with_2 17 rfl rfl)
theorem dX0_with_66 : decode cX0_with 66 = .ok (.if_icmp .ne 18, 3) := dk_160 0 18 (dk_at dksX0_with_2 18 rfl rfl)
theorem dX0_with_69 : decode cX0_with 69 = .ok (.iload 6, 2) := dk_21 6 (dk_at dksX0_with_2 21 rfl rfl)
theorem dX0_with_71 : decode cX0_with 71 = .ok (.iload_n 2, 1) := dk_28 (dk_at dksX0_with_2 23 rfl rfl)
theorem dX0_with_72 : decode cX0_with 72 = .ok (.if_icmp .ne 8, 3) := dk_160 0 8 (dk_at dksX0_with_3 0 rfl rfl)
theorem dX0_with_75 : decode cX0_with 75 = .ok (.iload 5, 2) := dk_21 5 (dk_at dksX0_with_3 3 rfl rfl)
theorem dX0_with_77 : decode cX0_with 77 = .ok (.goto 5, 3) := dk_167 0 5 (dk_at dksX0_with_3 5 rfl rfl)
theorem dX0_with_80 : decode cX0_with 80 = .ok (.iload 6, 2) := dk_21 6 (dk_at dksX0_with_3 8 rfl rfl)
theorem dX0_with_82 : decode cX0_with 82 = .ok (.istore 4, 2) := dk_54 4 (dk_at dksX0_with_3 10 rfl rfl)
theorem dX0_with_84 : decode cX0_with 84 = .ok (.iload_n 3, 1) := dk_29 (dk_at dksX0_with_3 12 rfl rfl)
theorem dX0_with_85 : decode cX0_with 85 = .ok (.iconst 1, 1) := dk_4 (dk_at dksX0_with_3 13 rfl rfl)
theorem dX0_with_86 : decode cX0_with 86 = .ok (.iload 5, 2) := dk_21 5 (dk_at dksX0_with_3 14 rfl rfl)
theorem dX0_with_88 : decode cX0_with 88 = .ok (.ishl, 1) := dk_120 (dk_at dksX0_with_3 16 rfl rfl)
theorem dX0_with_89 : decode cX0_with 89 = .ok (.iconst (-1), 1) := dk_2 (dk_at dksX0_with_3 17 rfl rfl)
theorem dX0_with_90 : decode cX0_with 90 = .ok (.ixor, 1) := dk_130 (dk_at dksX0_with_3 18 rfl rfl)
theorem dX0_with_91 : decode cX0_with 91 = .ok (.iand, 1) := dk_126 (dk_at dksX0_with_3 19 rfl rfl)
theorem dX0_with_92 : decode cX0_with 92 = .ok (.istore_n 3, 1) := dk_62 (dk_at dksX0_with_3 20 rfl rfl)
theorem dX0_with_93 : decode cX0_with 93 = .ok (.iload 6, 2) := dk_21 6 (dk_at dksX0_with_3 21 rfl rfl)
theorem dX0_with_95 : decode cX0_with 95 = .ok (.iconst (-1), 1) := dk_2 (dk_at dksX0_with_3 23 rfl rfl)
theorem dX0_with_96 : decode cX0_with 96 = .ok (.if_icmp .eq 12, 3) := dk_159 0 12 (dk_at dksX0_with_4 0 rfl rfl)
theorem dX0_with_99 : decode cX0_with 99 = .ok (.iload_n 3, 1) := dk_29 (dk_at dksX0_with_4 3 rfl rfl)
theorem dX0_with_100 : decode cX0_with 100 = .ok (.iconst 1, 1) := dk_4 (dk_at dksX0_with_4 4 rfl rfl)
theorem dX0_with_101 : decode cX0_with 101 = .ok (.iload 6, 2) := dk_21 6 (dk_at dksX0_with_4 5 rfl rfl)
theorem dX0_with_103 : decode cX0_with 103 = .ok (.ishl, 1) := dk_120 (dk_at dksX0_with_4 7 rfl rfl)
theorem dX0_with_104 : decode cX0_with 104 = .ok (.iconst (-1), 1) := dk_2 (dk_at dksX0_with_4 8 rfl rfl)
theorem dX0_with_105 : decode cX0_with 105 = .ok (.ixor, 1) := dk_130 (dk_at dksX0_with_4 9 rfl rfl)
theorem dX0_with_106 : decode cX0_with 106 = .ok (.iand, 1) := dk_126 (dk_at dksX0_with_4 10 rfl rfl)
theorem dX0_with_107 : decode cX0_with 107 = .ok (.istore_n 3, 1) := dk_62 (dk_at dksX0_with_4 11 rfl rfl)
theorem dX0_with_108 : decode cX0_with 108 = .ok (.goto (-71), 3) := dk_167 255 185 (dk_at dksX0_with_4 12 rfl rfl)
theorem dX0_with_111 : decode cX0_with 111 = .ok (.iload 4, 2) := dk_21 4 (dk_at dksX0_with_4 15 rfl rfl)
theorem dX0_with_113 : decode cX0_with 113 = .ok (.ireturn, 1) := dk_172 (dk_at dksX0_with_4 17 rfl rfl)
abbrev cX0_firstWith : ByteArray := prog_1_method_29_code
def yX0_firstWith : MethodName := ⟨RX0, "firstWith", "(I)I"⟩
def dkwX0_firstWith_4 : List UInt8 := [160, 0, 6, 21, 4, 172, 132, 4, 1, 167, 255, 192, 2, 172]
abbrev dktX0_firstWith_4 : List UInt8 := dkwX0_firstWith_4 ++ []
def dkwX0_firstWith_3 : List UInt8 := [182, 0, 220, 42, 180, 0, 57, 29, 4, 21, 4, 120, 2, 130, 126, 46, 96, 42, 180, 0, 57, 27, 46]
abbrev dktX0_firstWith_3 : List UInt8 := dkwX0_firstWith_3 ++ dktX0_firstWith_4
def dkwX0_firstWith_2 : List UInt8 := [29, 21, 4, 184, 0, 175, 153, 0, 46, 42, 28, 21, 4, 182, 0, 220, 158, 0, 36, 42, 28, 21, 4]
abbrev dktX0_firstWith_2 : List UInt8 := dkwX0_firstWith_2 ++ dktX0_firstWith_3
def dkwX0_firstWith_1 : List UInt8 := [180, 0, 57, 27, 46, 160, 0, 5, 2, 172, 28, 4, 96, 54, 4, 21, 4, 42, 182, 0, 103, 162, 0, 61]
abbrev dktX0_firstWith_1 : List UInt8 := dkwX0_firstWith_1 ++ dktX0_firstWith_2
def dkwX0_firstWith_0 : List UInt8 := [27, 184, 0, 217, 61, 27, 4, 28, 120, 2, 130, 126, 62, 16, 9, 42, 180, 0, 57, 29, 46, 96, 42]
abbrev dktX0_firstWith_0 : List UInt8 := dkwX0_firstWith_0 ++ dktX0_firstWith_1
theorem dksX0_firstWith_0 : cX0_firstWith.data.toList.drop 0 = dktX0_firstWith_0 := by decide +kernel
theorem dksX0_firstWith_1 : cX0_firstWith.data.toList.drop 23 = dktX0_firstWith_1 := dk_seg dksX0_firstWith_0 23 rfl rfl
theorem dksX0_firstWith_2 : cX0_firstWith.data.toList.drop 47 = dktX0_firstWith_2 := dk_seg dksX0_firstWith_1 24 rfl rfl
theorem dksX0_firstWith_3 : cX0_firstWith.data.toList.drop 70 = dktX0_firstWith_3 := dk_seg dksX0_firstWith_2 23 rfl rfl
theorem dksX0_firstWith_4 : cX0_firstWith.data.toList.drop 93 = dktX0_firstWith_4 := dk_seg dksX0_firstWith_3 23 rfl rfl
theorem dX0_firstWith_0 : decode cX0_firstWith 0 = .ok (.iload_n 1, 1) := dk_27 (dk_at dksX0_firstWith_0 0 rfl rfl)
theorem dX0_firstWith_1 : decode cX0_firstWith 1 = .ok (.invokestatic 217, 3) := dk_184 0 217 (dk_at dksX0_firstWith_0 1 rfl rfl)
theorem dX0_firstWith_4 : decode cX0_firstWith 4 = .ok (.istore_n 2, 1) := dk_61 (dk_at dksX0_firstWith_0 4 rfl rfl)
theorem dX0_firstWith_5 : decode cX0_firstWith 5 = .ok (.iload_n 1, 1) := dk_27 (dk_at dksX0_firstWith_0 5 rfl rfl)
theorem dX0_firstWith_6 : decode cX0_firstWith 6 = .ok (.iconst 1, 1) := dk_4 (dk_at dksX0_firstWith_0 6 rfl rfl)
theorem dX0_firstWith_7 : decode cX0_firstWith 7 = .ok (.iload_n 2, 1) := dk_28 (dk_at dksX0_firstWith_0 7 rfl rfl)
theorem dX0_firstWith_8 : decode cX0_firstWith 8 = .ok (.ishl, 1) := dk_120 (dk_at dksX0_firstWith_0 8 rfl rfl)
theorem dX0_firstWith_9 : decode cX0_firstWith 9 = .ok (.iconst (-1), 1) := dk_2 (dk_at dksX0_firstWith_0 9 rfl rfl)
theorem dX0_firstWith_10 : decode cX0_firstWith 10 = .ok (.ixor, 1) := dk_130 (dk_at dksX0_firstWith_0 10 rfl rfl)
theorem dX0_firstWith_11 : decode cX0_firstWith 11 = .ok (.iand, 1) := dk_126 (dk_at dksX0_firstWith_0 11 rfl rfl)
theorem dX0_firstWith_12 : decode cX0_firstWith 12 = .ok (.istore_n 3, 1) := dk_62 (dk_at dksX0_firstWith_0 12 rfl rfl)
theorem dX0_firstWith_13 : decode cX0_firstWith 13 = .ok (.bipush 9, 2) := dk_16 9 (dk_at dksX0_firstWith_0 13 rfl rfl)
theorem dX0_firstWith_15 : decode cX0_firstWith 15 = .ok (.aload_n 0, 1) := dk_42 (dk_at dksX0_firstWith_0 15 rfl rfl)
theorem dX0_firstWith_16 : decode cX0_firstWith 16 = .ok (.getfield 57, 3) := dk_180 0 57 (dk_at dksX0_firstWith_0 16 rfl rfl)
theorem dX0_firstWith_19 : decode cX0_firstWith 19 = .ok (.iload_n 3, 1) := dk_29 (dk_at dksX0_firstWith_0 19 rfl rfl)
theorem dX0_firstWith_20 : decode cX0_firstWith 20 = .ok (.iaload, 1) := dk_46 (dk_at dksX0_firstWith_0 20 rfl rfl)
theorem dX0_firstWith_21 : decode cX0_firstWith 21 = .ok (.iadd, 1) := dk_96 (dk_at dksX0_firstWith_0 21 rfl rfl)
theorem dX0_firstWith_22 : decode cX0_firstWith 22 = .ok (.aload_n 0, 1) := dk_42 (dk_at dksX0_firstWith_0 22 rfl rfl)
theorem dX0_firstWith_23 : decode cX0_firstWith 23 = .ok (.getfield 57, 3) := dk_180 0 57 (dk_at dksX0_firstWith_1 0 rfl rfl)
theorem dX0_firstWith_26 : decode cX0_firstWith 26 = .ok (.iload_n 1, 1) := dk_27 (dk_at dksX0_firstWith_1 3 rfl rfl)
theorem dX0_firstWith_27 : decode cX0_firstWith 27 = .ok (.iaload, 1) := dk_46 (dk_at dksX0_firstWith_1 4 rfl rfl)
theorem dX0_firstWith_28 : decode cX0_firstWith 28 = .ok (.if_icmp .ne 5, 3) := dk_160 0 5 (dk_at dksX0_firstWith_1 5 rfl rfl)
theorem dX0_firstWith_31 : decode cX0_firstWith 31 = .ok (.iconst (-1), 1) := dk_2 (dk_at dksX0_firstWith_1 8 rfl rfl)
theorem dX0_firstWith_32 : decode cX0_firstWith 32 = .ok (.ireturn, 1) := dk_172 (dk_at dksX0_firstWith_1 9 rfl rfl)
theorem dX0_firstWith_33 : decode cX0_firstWith 33 = .ok (.iload_n 2, 1) := dk_28 (dk_at dksX0_firstWith_1 10 rfl rfl)
theorem dX0_firstWith_34 : decode cX0_firstWith 34 = .ok (.iconst 1, 1) := dk_4 (dk_at dksX0_firstWith_1 11 rfl rfl)
theorem dX0_firstWith_35 : decode cX0_firstWith 35 = .ok (.iadd, 1) := dk_96 (dk_at dksX0_firstWith_1 12 rfl rfl)
theorem dX0_firstWith_36 : decode cX0_firstWith 36 = .ok (.istore 4, 2) := dk_54 4 (dk_at dksX0_firstWith_1 13 rfl rfl)
theorem dX0_firstWith_38 : decode cX0_firstWith 38 = .ok (.iload 4, 2) := dk_21 4 (dk_at dksX0_firstWith_1 15 rfl rfl)
theorem dX0_firstWith_40 : decode cX0_firstWith 40 = .ok (.aload_n 0, 1) := dk_42 (dk_at dksX0_firstWith_1 17 rfl rfl)
theorem dX0_firstWith_41 : decode cX0_firstWith 41 = .ok (.invokevirtual 103, 3) := dk_182 0 103 (dk_at dksX0_firstWith_1 18 rfl rfl)
theorem dX0_firstWith_44 : decode cX0_firstWith 44 = .ok (.if_icmp .ge 61, 3) := dk_162 0 61 (dk_at dksX0_firstWith_1 21 rfl rfl)
theorem dX0_firstWith_47 : decode cX0_firstWith 47 = .ok (.iload_n 3, 1) := dk_29 (dk_at dksX0_firstWith_2 0 rfl rfl)
theorem dX0_firstWith_48 : decode cX0_firstWith 48 = .ok (.iload 4, 2) := dk_21 4 (dk_at dksX0_firstWith_2 1 rfl rfl)
theorem dX0_firstWith_50 : decode cX0_firstWith 50 = .ok (.invokestatic 175, 3) := dk_184 0 175 (dk_at dksX0_firstWith_2 3 rfl rfl)
theorem dX0_firstWith_53 : decode cX0_firstWith 53 = .ok (.ifCond .eq 46, 3) := dk_153 0 46 (dk_at dksX0_firstWith_2 6 rfl rfl)
theorem dX0_firstWith_56 : decode cX0_firstWith 56 = .ok (.aload_n 0, 1) := dk_42 (dk_at dksX0_firstWith_2 9 rfl rfl)
theorem dX0_firstWith_57 : decode cX0_firstWith 57 = .ok (.iload_n 2, 1) := dk_28 (dk_at dksX0_firstWith_2 10 rfl rfl)
theorem dX0_firstWith_58 : decode cX0_firstWith 58 = .ok (.iload 4, 2) := dk_21 4 (dk_at dksX0_firstWith_2 11 rfl rfl)
theorem dX0_firstWith_60 : decode cX0_firstWith 60 = .ok (.invokevirtual 220, 3) := dk_182 0 220 (dk_at dksX0_firstWith_2 13 rfl rfl)
theorem dX0_firstWith_63 : decode cX0_firstWith 63 = .ok (.ifCond .le 36, 3) := dk_158 0 36 (dk_at dksX0_firstWith_2 16 rfl rfl)
theorem dX0_firstWith_66 : decode cX0_firstWith 66 = .ok (.aload_n 0, 1) := dk_42 (dk_at dksX0_firstWith_2 19 rfl rfl)
theorem dX0_firstWith_67 : decode cX0_firstWith 67 = .ok (.iload_n 2, 1) := dk_28 (dk_at dksX0_firstWith_2 20 rfl rfl)
theorem dX0_firstWith_68 : decode cX0_firstWith 68 = .ok (.iload 4, 2) := dk_21 4 (dk_at dksX0_firstWith_2 21 rfl rfl)
theorem dX0_firstWith_70 : decode cX0_firstWith 70 = .ok (.invokevirtual 220, 3) := dk_182 0 220 (dk_at dksX0_firstWith_3 0 rfl rfl)
theorem dX0_firstWith_73 : decode cX0_firstWith 73 = .ok (.aload_n 0, 1) := dk_42 (dk_at dksX0_firstWith_3 3 rfl rfl)
theorem dX0_firstWith_74 : decode cX0_firstWith 74 = .ok (.getfield 57, 3) := dk_180 0 57 (dk_at dksX0_firstWith_3 4 rfl rfl)
theorem dX0_firstWith_77 : decode cX0_firstWith 77 = .ok (.iload_n 3, 1) := dk_29 (dk_at dksX0_firstWith_3 7 rfl rfl)
theorem dX0_firstWith_78 : decode cX0_firstWith 78 = .ok (.iconst 1, 1) := dk_4 (dk_at dksX0_firstWith_3 8 rfl rfl)
theorem dX0_firstWith_79 : decode cX0_firstWith 79 = .ok (.iload 4, 2) := dk_21 4 (dk_at dksX0_firstWith_3 9 rfl rfl)
theorem dX0_firstWith_81 : decode cX0_firstWith 81 = .ok (.ishl, 1) := dk_120 (dk_at dksX0_firstWith_3 11 rfl rfl)
theorem dX0_firstWith_82 : decode cX0_firstWith 82 = .ok (.iconst (-1), 1) := dk_2 (dk_at dksX0_firstWith_3 12 rfl rfl)
theorem dX0_firstWith_83 : decode cX0_firstWith 83 = .ok (.ixor, 1) := dk_130 (dk_at dksX0_firstWith_3 13 rfl rfl)
theorem dX0_firstWith_84 : decode cX0_firstWith 84 = .ok (.iand, 1) := dk_126 (dk_at dksX0_firstWith_3 14 rfl rfl)
theorem dX0_firstWith_85 : decode cX0_firstWith 85 = .ok (.iaload, 1) := dk_46 (dk_at dksX0_firstWith_3 15 rfl rfl)
theorem dX0_firstWith_86 : decode cX0_firstWith 86 = .ok (.iadd, 1) := dk_96 (dk_at dksX0_firstWith_3 16 rfl rfl)
theorem dX0_firstWith_87 : decode cX0_firstWith 87 = .ok (.aload_n 0, 1) := dk_42 (dk_at dksX0_firstWith_3 17 rfl rfl)
theorem dX0_firstWith_88 : decode cX0_firstWith 88 = .ok (.getfield 57, 3) := dk_180 0 57 (dk_at dksX0_firstWith_3 18 rfl rfl)
theorem dX0_firstWith_91 : decode cX0_firstWith 91 = .ok (.iload_n 1, 1) := dk_27 (dk_at dksX0_firstWith_3 21 rfl rfl)
theorem dX0_firstWith_92 : decode cX0_firstWith 92 = .ok (.iaload, 1) := dk_46 (dk_at dksX0_firstWith_3 22 rfl rfl)
theorem dX0_firstWith_93 : decode cX0_firstWith 93 = .ok (.if_icmp .ne 6, 3) := dk_160 0 6 (dk_at dksX0_firstWith_4 0 rfl rfl)
theorem dX0_firstWith_96 : decode cX0_firstWith 96 = .ok (.iload 4, 2) := dk_21 4 (dk_at dksX0_firstWith_4 3 rfl rfl)
theorem dX0_firstWith_98 : decode cX0_firstWith 98 = .ok (.ireturn, 1) := dk_172 (dk_at dksX0_firstWith_4 5 rfl rfl)
theorem dX0_firstWith_99 : decode cX0_firstWith 99 = .ok (.iinc 4 1, 3) := dk_132 4 1 (dk_at dksX0_firstWith_4 6 rfl rfl)
theorem dX0_firstWith_102 : decode cX0_firstWith 102 = .ok (.goto (-64), 3) := dk_167 255 192 (dk_at dksX0_firstWith_4 9 rfl rfl)
theorem dX0_firstWith_105 : decode cX0_firstWith 105 = .ok (.iconst (-1), 1) := dk_2 (dk_at dksX0_firstWith_4 12 rfl rfl)
theorem dX0_firstWith_106 : decode cX0_firstWith 106 = .ok (.ireturn, 1) := dk_172 (dk_at dksX0_firstWith_4 13 rfl rfl)
abbrev cX0_undo : ByteArray := prog_1_method_34_code
def yX0_undo : MethodName := ⟨RX0, "undo", "()I"⟩
def dkwX0_undo_2 : List UInt8 := [180, 0, 241, 50, 182, 0, 244, 42, 180, 0, 248, 172]
abbrev dktX0_undo_2 : List UInt8 := dkwX0_undo_2 ++ []
def dkwX0_undo_1 : List UInt8 := [181, 0, 241, 42, 89, 180, 0, 248, 4, 100, 181, 0, 248, 42, 180, 0, 19, 42, 180, 0, 64, 42]
abbrev dktX0_undo_1 : List UInt8 := dkwX0_undo_1 ++ dktX0_undo_2
def dkwX0_undo_0 : List UInt8 := [42, 180, 0, 248, 154, 0, 5, 2, 172, 42, 42, 180, 0, 241, 16, 20, 96, 4, 100, 16, 20, 112]
abbrev dktX0_undo_0 : List UInt8 := dkwX0_undo_0 ++ dktX0_undo_1
theorem dksX0_undo_0 : cX0_undo.data.toList.drop 0 = dktX0_undo_0 := by decide +kernel
theorem dksX0_undo_1 : cX0_undo.data.toList.drop 22 = dktX0_undo_1 := dk_seg dksX0_undo_0 22 rfl rfl
theorem dksX0_undo_2 : cX0_undo.data.toList.drop 44 = dktX0_undo_2 := dk_seg dksX0_undo_1 22 rfl rfl
theorem dX0_undo_0 : decode cX0_undo 0 = .ok (.aload_n 0, 1) := dk_42 (dk_at dksX0_undo_0 0 rfl rfl)
theorem dX0_undo_1 : decode cX0_undo 1 = .ok (.getfield 248, 3) := dk_180 0 248 (dk_at dksX0_undo_0 1 rfl rfl)
theorem dX0_undo_4 : decode cX0_undo 4 = .ok (.ifCond .ne 5, 3) := dk_154 0 5 (dk_at dksX0_undo_0 4 rfl rfl)
theorem dX0_undo_7 : decode cX0_undo 7 = .ok (.iconst (-1), 1) := dk_2 (dk_at dksX0_undo_0 7 rfl rfl)
theorem dX0_undo_8 : decode cX0_undo 8 = .ok (.ireturn, 1) := dk_172 (dk_at dksX0_undo_0 8 rfl rfl)
theorem dX0_undo_9 : decode cX0_undo 9 = .ok (.aload_n 0, 1) := dk_42 (dk_at dksX0_undo_0 9 rfl rfl)
theorem dX0_undo_10 : decode cX0_undo 10 = .ok (.aload_n 0, 1) := dk_42 (dk_at dksX0_undo_0 10 rfl rfl)
theorem dX0_undo_11 : decode cX0_undo 11 = .ok (.getfield 241, 3) := dk_180 0 241 (dk_at dksX0_undo_0 11 rfl rfl)
theorem dX0_undo_14 : decode cX0_undo 14 = .ok (.bipush 20, 2) := dk_16 20 (dk_at dksX0_undo_0 14 rfl rfl)
theorem dX0_undo_16 : decode cX0_undo 16 = .ok (.iadd, 1) := dk_96 (dk_at dksX0_undo_0 16 rfl rfl)
theorem dX0_undo_17 : decode cX0_undo 17 = .ok (.iconst 1, 1) := dk_4 (dk_at dksX0_undo_0 17 rfl rfl)
theorem dX0_undo_18 : decode cX0_undo 18 = .ok (.isub, 1) := dk_100 (dk_at dksX0_undo_0 18 rfl rfl)
theorem dX0_undo_19 : decode cX0_undo 19 = .ok (.bipush 20, 2) := dk_16 20 (dk_at dksX0_undo_0 19 rfl rfl)
theorem dX0_undo_21 : decode cX0_undo 21 = .ok (.irem, 1) := dk_112 (dk_at dksX0_undo_0 21 rfl rfl)
theorem dX0_undo_22 : decode cX0_undo 22 = .ok (.putfield 241, 3) := dk_181 0 241 (dk_at dksX0_undo_1 0 rfl rfl)
theorem dX0_undo_25 : decode cX0_undo 25 = .ok (.aload_n 0, 1) := dk_42 (dk_at dksX0_undo_1 3 rfl rfl)
theorem dX0_undo_26 : decode cX0_undo 26 = .ok (.dup, 1) := dk_89 (dk_at dksX0_undo_1 4 rfl rfl)
theorem dX0_undo_27 : decode cX0_undo 27 = .ok (.getfield 248, 3) := dk_180 0 248 (dk_at dksX0_undo_1 5 rfl rfl)
theorem dX0_undo_30 : decode cX0_undo 30 = .ok (.iconst 1, 1) := dk_4 (dk_at dksX0_undo_1 8 rfl rfl)
theorem dX0_undo_31 : decode cX0_undo 31 = .ok (.isub, 1) := dk_100 (dk_at dksX0_undo_1 9 rfl rfl)
theorem dX0_undo_32 : decode cX0_undo 32 = .ok (.putfield 248, 3) := dk_181 0 248 (dk_at dksX0_undo_1 10 rfl rfl)
theorem dX0_undo_35 : decode cX0_undo 35 = .ok (.aload_n 0, 1) := dk_42 (dk_at dksX0_undo_1 13 rfl rfl)
theorem dX0_undo_36 : decode cX0_undo 36 = .ok (.getfield 19, 3) := dk_180 0 19 (dk_at dksX0_undo_1 14 rfl rfl)
theorem dX0_undo_39 : decode cX0_undo 39 = .ok (.aload_n 0, 1) := dk_42 (dk_at dksX0_undo_1 17 rfl rfl)
theorem dX0_undo_40 : decode cX0_undo 40 = .ok (.getfield 64, 3) := dk_180 0 64 (dk_at dksX0_undo_1 18 rfl rfl)
theorem dX0_undo_43 : decode cX0_undo 43 = .ok (.aload_n 0, 1) := dk_42 (dk_at dksX0_undo_1 21 rfl rfl)
theorem dX0_undo_44 : decode cX0_undo 44 = .ok (.getfield 241, 3) := dk_180 0 241 (dk_at dksX0_undo_2 0 rfl rfl)
theorem dX0_undo_47 : decode cX0_undo 47 = .ok (.aaload, 1) := dk_50 (dk_at dksX0_undo_2 3 rfl rfl)
theorem dX0_undo_48 : decode cX0_undo 48 = .ok (.invokevirtual 244, 3) := dk_182 0 244 (dk_at dksX0_undo_2 4 rfl rfl)
theorem dX0_undo_51 : decode cX0_undo 51 = .ok (.aload_n 0, 1) := dk_42 (dk_at dksX0_undo_2 7 rfl rfl)
theorem dX0_undo_52 : decode cX0_undo 52 = .ok (.getfield 248, 3) := dk_180 0 248 (dk_at dksX0_undo_2 8 rfl rfl)
theorem dX0_undo_55 : decode cX0_undo 55 = .ok (.ireturn, 1) := dk_172 (dk_at dksX0_undo_2 11 rfl rfl)
abbrev cX0_go : ByteArray := prog_1_method_35_code
def yX0_go : MethodName := ⟨RX0, "go", "(II)I"⟩
def dkwX0_go_2 : List UInt8 := [182, 1, 3, 42, 180, 0, 19, 42, 180, 0, 12, 182, 1, 7, 42, 180, 0, 19, 180, 0, 165, 172]
abbrev dktX0_go_2 : List UInt8 := dkwX0_go_2 ++ []
def dkwX0_go_1 : List UInt8 := [180, 0, 165, 16, 99, 160, 0, 5, 2, 172, 42, 182, 1, 0, 42, 180, 0, 19, 42, 180, 0, 12, 27, 28]
abbrev dktX0_go_1 : List UInt8 := dkwX0_go_1 ++ dktX0_go_2
def dkwX0_go_0 : List UInt8 := [42, 27, 182, 0, 186, 153, 0, 27, 28, 133, 20, 0, 254, 10, 184, 0, 106, 153, 0, 15, 42, 180, 0, 19]
abbrev dktX0_go_0 : List UInt8 := dkwX0_go_0 ++ dktX0_go_1
theorem dksX0_go_0 : cX0_go.data.toList.drop 0 = dktX0_go_0 := by decide +kernel
theorem dksX0_go_1 : cX0_go.data.toList.drop 24 = dktX0_go_1 := dk_seg dksX0_go_0 24 rfl rfl
theorem dksX0_go_2 : cX0_go.data.toList.drop 48 = dktX0_go_2 := dk_seg dksX0_go_1 24 rfl rfl
theorem dX0_go_0 : decode cX0_go 0 = .ok (.aload_n 0, 1) := dk_42 (dk_at dksX0_go_0 0 rfl rfl)
theorem dX0_go_1 : decode cX0_go 1 = .ok (.iload_n 1, 1) := dk_27 (dk_at dksX0_go_0 1 rfl rfl)
theorem dX0_go_2 : decode cX0_go 2 = .ok (.invokevirtual 186, 3) := dk_182 0 186 (dk_at dksX0_go_0 2 rfl rfl)
theorem dX0_go_5 : decode cX0_go 5 = .ok (.ifCond .eq 27, 3) := dk_153 0 27 (dk_at dksX0_go_0 5 rfl rfl)
theorem dX0_go_8 : decode cX0_go 8 = .ok (.iload_n 2, 1) := dk_28 (dk_at dksX0_go_0 8 rfl rfl)
theorem dX0_go_9 : decode cX0_go 9 = .ok (.i2l, 1) := dk_133 (dk_at dksX0_go_0 9 rfl rfl)
theorem dX0_go_10 : decode cX0_go 10 = .ok (.ldc2_w 254, 3) := dk_20 0 254 (dk_at dksX0_go_0 10 rfl rfl)
theorem dX0_go_13 : decode cX0_go 13 = .ok (.lconst 1, 1) := dk_10 (dk_at dksX0_go_0 13 rfl rfl)
theorem dX0_go_14 : decode cX0_go 14 = .ok (.invokestatic 106, 3) := dk_184 0 106 (dk_at dksX0_go_0 14 rfl rfl)
theorem dX0_go_17 : decode cX0_go 17 = .ok (.ifCond .eq 15, 3) := dk_153 0 15 (dk_at dksX0_go_0 17 rfl rfl)
theorem dX0_go_20 : decode cX0_go 20 = .ok (.aload_n 0, 1) := dk_42 (dk_at dksX0_go_0 20 rfl rfl)
theorem dX0_go_21 : decode cX0_go 21 = .ok (.getfield 19, 3) := dk_180 0 19 (dk_at dksX0_go_0 21 rfl rfl)
theorem dX0_go_24 : decode cX0_go 24 = .ok (.getfield 165, 3) := dk_180 0 165 (dk_at dksX0_go_1 0 rfl rfl)
theorem dX0_go_27 : decode cX0_go 27 = .ok (.bipush 99, 2) := dk_16 99 (dk_at dksX0_go_1 3 rfl rfl)
theorem dX0_go_29 : decode cX0_go 29 = .ok (.if_icmp .ne 5, 3) := dk_160 0 5 (dk_at dksX0_go_1 5 rfl rfl)
theorem dX0_go_32 : decode cX0_go 32 = .ok (.iconst (-1), 1) := dk_2 (dk_at dksX0_go_1 8 rfl rfl)
theorem dX0_go_33 : decode cX0_go 33 = .ok (.ireturn, 1) := dk_172 (dk_at dksX0_go_1 9 rfl rfl)
theorem dX0_go_34 : decode cX0_go 34 = .ok (.aload_n 0, 1) := dk_42 (dk_at dksX0_go_1 10 rfl rfl)
theorem dX0_go_35 : decode cX0_go 35 = .ok (.invokevirtual 256, 3) := dk_182 1 0 (dk_at dksX0_go_1 11 rfl rfl)
theorem dX0_go_38 : decode cX0_go 38 = .ok (.aload_n 0, 1) := dk_42 (dk_at dksX0_go_1 14 rfl rfl)
theorem dX0_go_39 : decode cX0_go 39 = .ok (.getfield 19, 3) := dk_180 0 19 (dk_at dksX0_go_1 15 rfl rfl)
theorem dX0_go_42 : decode cX0_go 42 = .ok (.aload_n 0, 1) := dk_42 (dk_at dksX0_go_1 18 rfl rfl)
theorem dX0_go_43 : decode cX0_go 43 = .ok (.getfield 12, 3) := dk_180 0 12 (dk_at dksX0_go_1 19 rfl rfl)
theorem dX0_go_46 : decode cX0_go 46 = .ok (.iload_n 1, 1) := dk_27 (dk_at dksX0_go_1 22 rfl rfl)
theorem dX0_go_47 : decode cX0_go 47 = .ok (.iload_n 2, 1) := dk_28 (dk_at dksX0_go_1 23 rfl rfl)
theorem dX0_go_48 : decode cX0_go 48 = .ok (.invokevirtual 259, 3) := dk_182 1 3 (dk_at dksX0_go_2 0 rfl rfl)
theorem dX0_go_51 : decode cX0_go 51 = .ok (.aload_n 0, 1) := dk_42 (dk_at dksX0_go_2 3 rfl rfl)
theorem dX0_go_52 : decode cX0_go 52 = .ok (.getfield 19, 3) := dk_180 0 19 (dk_at dksX0_go_2 4 rfl rfl)
theorem dX0_go_55 : decode cX0_go 55 = .ok (.aload_n 0, 1) := dk_42 (dk_at dksX0_go_2 7 rfl rfl)
theorem dX0_go_56 : decode cX0_go 56 = .ok (.getfield 12, 3) := dk_180 0 12 (dk_at dksX0_go_2 8 rfl rfl)
theorem dX0_go_59 : decode cX0_go 59 = .ok (.invokevirtual 263, 3) := dk_182 1 7 (dk_at dksX0_go_2 11 rfl rfl)
theorem dX0_go_62 : decode cX0_go 62 = .ok (.aload_n 0, 1) := dk_42 (dk_at dksX0_go_2 14 rfl rfl)
theorem dX0_go_63 : decode cX0_go 63 = .ok (.getfield 19, 3) := dk_180 0 19 (dk_at dksX0_go_2 15 rfl rfl)
theorem dX0_go_66 : decode cX0_go 66 = .ok (.getfield 165, 3) := dk_180 0 165 (dk_at dksX0_go_2 18 rfl rfl)
theorem dX0_go_69 : decode cX0_go 69 = .ok (.ireturn, 1) := dk_172 (dk_at dksX0_go_2 21 rfl rfl)
abbrev cX0_keeps : ByteArray := prog_1_method_32_code
def yX0_keeps : MethodName := ⟨RX0, "keeps", "()V"⟩
def dkwX0_keeps_1 : List UInt8 := [16, 20, 112, 181, 0, 241, 42, 16, 20, 42, 180, 0, 248, 4, 96, 184, 0, 251, 181, 0, 248, 177]
abbrev dktX0_keeps_1 : List UInt8 := dkwX0_keeps_1 ++ []
def dkwX0_keeps_0 : List UInt8 := [42, 180, 0, 64, 42, 180, 0, 241, 50, 42, 180, 0, 19, 182, 0, 244, 42, 42, 180, 0, 241, 4, 96]
abbrev dktX0_keeps_0 : List UInt8 := dkwX0_keeps_0 ++ dktX0_keeps_1
theorem dksX0_keeps_0 : cX0_keeps.data.toList.drop 0 = dktX0_keeps_0 := by decide +kernel
theorem dksX0_keeps_1 : cX0_keeps.data.toList.drop 23 = dktX0_keeps_1 := dk_seg dksX0_keeps_0 23 rfl rfl
theorem dX0_keeps_0 : decode cX0_keeps 0 = .ok (.aload_n 0, 1) := dk_42 (dk_at dksX0_keeps_0 0 rfl rfl)
theorem dX0_keeps_1 : decode cX0_keeps 1 = .ok (.getfield 64, 3) := dk_180 0 64 (dk_at dksX0_keeps_0 1 rfl rfl)
theorem dX0_keeps_4 : decode cX0_keeps 4 = .ok (.aload_n 0, 1) := dk_42 (dk_at dksX0_keeps_0 4 rfl rfl)
theorem dX0_keeps_5 : decode cX0_keeps 5 = .ok (.getfield 241, 3) := dk_180 0 241 (dk_at dksX0_keeps_0 5 rfl rfl)
theorem dX0_keeps_8 : decode cX0_keeps 8 = .ok (.aaload, 1) := dk_50 (dk_at dksX0_keeps_0 8 rfl rfl)
theorem dX0_keeps_9 : decode cX0_keeps 9 = .ok (.aload_n 0, 1) := dk_42 (dk_at dksX0_keeps_0 9 rfl rfl)
theorem dX0_keeps_10 : decode cX0_keeps 10 = .ok (.getfield 19, 3) := dk_180 0 19 (dk_at dksX0_keeps_0 10 rfl rfl)
theorem dX0_keeps_13 : decode cX0_keeps 13 = .ok (.invokevirtual 244, 3) := dk_182 0 244 (dk_at dksX0_keeps_0 13 rfl rfl)
theorem dX0_keeps_16 : decode cX0_keeps 16 = .ok (.aload_n 0, 1) := dk_42 (dk_at dksX0_keeps_0 16 rfl rfl)
theorem dX0_keeps_17 : decode cX0_keeps 17 = .ok (.aload_n 0, 1) := dk_42 (dk_at dksX0_keeps_0 17 rfl rfl)
theorem dX0_keeps_18 : decode cX0_keeps 18 = .ok (.getfield 241, 3) := dk_180 0 241 (dk_at dksX0_keeps_0 18 rfl rfl)
theorem dX0_keeps_21 : decode cX0_keeps 21 = .ok (.iconst 1, 1) := dk_4 (dk_at dksX0_keeps_0 21 rfl rfl)
theorem dX0_keeps_22 : decode cX0_keeps 22 = .ok (.iadd, 1) := dk_96 (dk_at dksX0_keeps_0 22 rfl rfl)
theorem dX0_keeps_23 : decode cX0_keeps 23 = .ok (.bipush 20, 2) := dk_16 20 (dk_at dksX0_keeps_1 0 rfl rfl)
theorem dX0_keeps_25 : decode cX0_keeps 25 = .ok (.irem, 1) := dk_112 (dk_at dksX0_keeps_1 2 rfl rfl)
theorem dX0_keeps_26 : decode cX0_keeps 26 = .ok (.putfield 241, 3) := dk_181 0 241 (dk_at dksX0_keeps_1 3 rfl rfl)
theorem dX0_keeps_29 : decode cX0_keeps 29 = .ok (.aload_n 0, 1) := dk_42 (dk_at dksX0_keeps_1 6 rfl rfl)
theorem dX0_keeps_30 : decode cX0_keeps 30 = .ok (.bipush 20, 2) := dk_16 20 (dk_at dksX0_keeps_1 7 rfl rfl)
theorem dX0_keeps_32 : decode cX0_keeps 32 = .ok (.aload_n 0, 1) := dk_42 (dk_at dksX0_keeps_1 9 rfl rfl)
theorem dX0_keeps_33 : decode cX0_keeps 33 = .ok (.getfield 248, 3) := dk_180 0 248 (dk_at dksX0_keeps_1 10 rfl rfl)
theorem dX0_keeps_36 : decode cX0_keeps 36 = .ok (.iconst 1, 1) := dk_4 (dk_at dksX0_keeps_1 13 rfl rfl)
theorem dX0_keeps_37 : decode cX0_keeps 37 = .ok (.iadd, 1) := dk_96 (dk_at dksX0_keeps_1 14 rfl rfl)
theorem dX0_keeps_38 : decode cX0_keeps 38 = .ok (.invokestatic 251, 3) := dk_184 0 251 (dk_at dksX0_keeps_1 15 rfl rfl)
theorem dX0_keeps_41 : decode cX0_keeps 41 = .ok (.putfield 248, 3) := dk_181 0 248 (dk_at dksX0_keeps_1 18 rfl rfl)
theorem dX0_keeps_44 : decode cX0_keeps 44 = .ok (.return_, 1) := dk_177 (dk_at dksX0_keeps_1 21 rfl rfl)
abbrev cX0_buy : ByteArray := prog_1_method_36_code
def yX0_buy : MethodName := ⟨RX0, "buy", "(II)I"⟩
def dkwX0_buy_2 : List UInt8 := [182, 1, 14, 42, 180, 0, 19, 180, 0, 189, 27, 46, 172]
abbrev dktX0_buy_2 : List UInt8 := dkwX0_buy_2 ++ []
def dkwX0_buy_1 : List UInt8 := [27, 28, 182, 1, 10, 154, 0, 5, 2, 172, 42, 182, 1, 0, 42, 180, 0, 19, 42, 180, 0, 12, 27, 28]
abbrev dktX0_buy_1 : List UInt8 := dkwX0_buy_1 ++ dktX0_buy_2
def dkwX0_buy_0 : List UInt8 := [42, 27, 182, 0, 186, 153, 0, 27, 42, 28, 182, 0, 149, 153, 0, 19, 42, 180, 0, 19, 42, 180, 0, 12]
abbrev dktX0_buy_0 : List UInt8 := dkwX0_buy_0 ++ dktX0_buy_1
theorem dksX0_buy_0 : cX0_buy.data.toList.drop 0 = dktX0_buy_0 := by decide +kernel
theorem dksX0_buy_1 : cX0_buy.data.toList.drop 24 = dktX0_buy_1 := dk_seg dksX0_buy_0 24 rfl rfl
theorem dksX0_buy_2 : cX0_buy.data.toList.drop 48 = dktX0_buy_2 := dk_seg dksX0_buy_1 24 rfl rfl
theorem dX0_buy_0 : decode cX0_buy 0 = .ok (.aload_n 0, 1) := dk_42 (dk_at dksX0_buy_0 0 rfl rfl)
theorem dX0_buy_1 : decode cX0_buy 1 = .ok (.iload_n 1, 1) := dk_27 (dk_at dksX0_buy_0 1 rfl rfl)
theorem dX0_buy_2 : decode cX0_buy 2 = .ok (.invokevirtual 186, 3) := dk_182 0 186 (dk_at dksX0_buy_0 2 rfl rfl)
theorem dX0_buy_5 : decode cX0_buy 5 = .ok (.ifCond .eq 27, 3) := dk_153 0 27 (dk_at dksX0_buy_0 5 rfl rfl)
theorem dX0_buy_8 : decode cX0_buy 8 = .ok (.aload_n 0, 1) := dk_42 (dk_at dksX0_buy_0 8 rfl rfl)
theorem dX0_buy_9 : decode cX0_buy 9 = .ok (.iload_n 2, 1) := dk_28 (dk_at dksX0_buy_0 9 rfl rfl)
theorem dX0_buy_10 : decode cX0_buy 10 = .ok (.invokevirtual 149, 3) := dk_182 0 149 (dk_at dksX0_buy_0 10 rfl rfl)
theorem dX0_buy_13 : decode cX0_buy 13 = .ok (.ifCond .eq 19, 3) := dk_153 0 19 (dk_at dksX0_buy_0 13 rfl rfl)
theorem dX0_buy_16 : decode cX0_buy 16 = .ok (.aload_n 0, 1) := dk_42 (dk_at dksX0_buy_0 16 rfl rfl)
theorem dX0_buy_17 : decode cX0_buy 17 = .ok (.getfield 19, 3) := dk_180 0 19 (dk_at dksX0_buy_0 17 rfl rfl)
theorem dX0_buy_20 : decode cX0_buy 20 = .ok (.aload_n 0, 1) := dk_42 (dk_at dksX0_buy_0 20 rfl rfl)
theorem dX0_buy_21 : decode cX0_buy 21 = .ok (.getfield 12, 3) := dk_180 0 12 (dk_at dksX0_buy_0 21 rfl rfl)
theorem dX0_buy_24 : decode cX0_buy 24 = .ok (.iload_n 1, 1) := dk_27 (dk_at dksX0_buy_1 0 rfl rfl)
theorem dX0_buy_25 : decode cX0_buy 25 = .ok (.iload_n 2, 1) := dk_28 (dk_at dksX0_buy_1 1 rfl rfl)
theorem dX0_buy_26 : decode cX0_buy 26 = .ok (.invokevirtual 266, 3) := dk_182 1 10 (dk_at dksX0_buy_1 2 rfl rfl)
theorem dX0_buy_29 : decode cX0_buy 29 = .ok (.ifCond .ne 5, 3) := dk_154 0 5 (dk_at dksX0_buy_1 5 rfl rfl)
theorem dX0_buy_32 : decode cX0_buy 32 = .ok (.iconst (-1), 1) := dk_2 (dk_at dksX0_buy_1 8 rfl rfl)
theorem dX0_buy_33 : decode cX0_buy 33 = .ok (.ireturn, 1) := dk_172 (dk_at dksX0_buy_1 9 rfl rfl)
theorem dX0_buy_34 : decode cX0_buy 34 = .ok (.aload_n 0, 1) := dk_42 (dk_at dksX0_buy_1 10 rfl rfl)
theorem dX0_buy_35 : decode cX0_buy 35 = .ok (.invokevirtual 256, 3) := dk_182 1 0 (dk_at dksX0_buy_1 11 rfl rfl)
theorem dX0_buy_38 : decode cX0_buy 38 = .ok (.aload_n 0, 1) := dk_42 (dk_at dksX0_buy_1 14 rfl rfl)
theorem dX0_buy_39 : decode cX0_buy 39 = .ok (.getfield 19, 3) := dk_180 0 19 (dk_at dksX0_buy_1 15 rfl rfl)
theorem dX0_buy_42 : decode cX0_buy 42 = .ok (.aload_n 0, 1) := dk_42 (dk_at dksX0_buy_1 18 rfl rfl)
theorem dX0_buy_43 : decode cX0_buy 43 = .ok (.getfield 12, 3) := dk_180 0 12 (dk_at dksX0_buy_1 19 rfl rfl)
theorem dX0_buy_46 : decode cX0_buy 46 = .ok (.iload_n 1, 1) := dk_27 (dk_at dksX0_buy_1 22 rfl rfl)
theorem dX0_buy_47 : decode cX0_buy 47 = .ok (.iload_n 2, 1) := dk_28 (dk_at dksX0_buy_1 23 rfl rfl)
theorem dX0_buy_48 : decode cX0_buy 48 = .ok (.invokevirtual 270, 3) := dk_182 1 14 (dk_at dksX0_buy_2 0 rfl rfl)
theorem dX0_buy_51 : decode cX0_buy 51 = .ok (.aload_n 0, 1) := dk_42 (dk_at dksX0_buy_2 3 rfl rfl)
theorem dX0_buy_52 : decode cX0_buy 52 = .ok (.getfield 19, 3) := dk_180 0 19 (dk_at dksX0_buy_2 4 rfl rfl)
theorem dX0_buy_55 : decode cX0_buy 55 = .ok (.getfield 189, 3) := dk_180 0 189 (dk_at dksX0_buy_2 7 rfl rfl)
theorem dX0_buy_58 : decode cX0_buy 58 = .ok (.iload_n 1, 1) := dk_27 (dk_at dksX0_buy_2 10 rfl rfl)
theorem dX0_buy_59 : decode cX0_buy 59 = .ok (.iaload, 1) := dk_46 (dk_at dksX0_buy_2 11 rfl rfl)
theorem dX0_buy_60 : decode cX0_buy 60 = .ok (.ireturn, 1) := dk_172 (dk_at dksX0_buy_2 12 rfl rfl)
abbrev cX0_shout : ByteArray := prog_1_method_38_code
def yX0_shout : MethodName := ⟨RX0, "shout", "(II)I"⟩
def dkwX0_shout_3 : List UInt8 := [180, 0, 19, 180, 1, 32, 27, 92, 46, 29, 128, 79, 29, 184, 1, 35, 172]
abbrev dktX0_shout_3 : List UInt8 := dkwX0_shout_3 ++ []
def dkwX0_shout_2 : List UInt8 := [180, 1, 32, 27, 46, 2, 130, 126, 62, 42, 180, 0, 19, 180, 0, 189, 27, 92, 46, 4, 100, 79, 42]
abbrev dktX0_shout_2 : List UInt8 := dkwX0_shout_2 ++ dktX0_shout_3
def dkwX0_shout_1 : List UInt8 := [180, 0, 189, 27, 46, 154, 0, 5, 2, 172, 42, 182, 1, 0, 42, 27, 28, 182, 1, 29, 42, 180, 0, 19]
abbrev dktX0_shout_1 : List UInt8 := dkwX0_shout_1 ++ dktX0_shout_2
def dkwX0_shout_0 : List UInt8 := [42, 27, 182, 0, 186, 153, 0, 27, 28, 133, 9, 20, 0, 212, 184, 0, 106, 153, 0, 15, 42, 180, 0, 19]
abbrev dktX0_shout_0 : List UInt8 := dkwX0_shout_0 ++ dktX0_shout_1
theorem dksX0_shout_0 : cX0_shout.data.toList.drop 0 = dktX0_shout_0 := by decide +kernel
theorem dksX0_shout_1 : cX0_shout.data.toList.drop 24 = dktX0_shout_1 := dk_seg dksX0_shout_0 24 rfl rfl
theorem dksX0_shout_2 : cX0_shout.data.toList.drop 48 = dktX0_shout_2 := dk_seg dksX0_shout_1 24 rfl rfl
theorem dksX0_shout_3 : cX0_shout.data.toList.drop 71 = dktX0_shout_3 := dk_seg dksX0_shout_2 23 rfl rfl
theorem dX0_shout_0 : decode cX0_shout 0 = .ok (.aload_n 0, 1) := dk_42 (dk_at dksX0_shout_0 0 rfl rfl)
theorem dX0_shout_1 : decode cX0_shout 1 = .ok (.iload_n 1, 1) := dk_27 (dk_at dksX0_shout_0 1 rfl rfl)
theorem dX0_shout_2 : decode cX0_shout 2 = .ok (.invokevirtual 186, 3) := dk_182 0 186 (dk_at dksX0_shout_0 2 rfl rfl)
theorem dX0_shout_5 : decode cX0_shout 5 = .ok (.ifCond .eq 27, 3) := dk_153 0 27 (dk_at dksX0_shout_0 5 rfl rfl)
theorem dX0_shout_8 : decode cX0_shout 8 = .ok (.iload_n 2, 1) := dk_28 (dk_at dksX0_shout_0 8 rfl rfl)
theorem dX0_shout_9 : decode cX0_shout 9 = .ok (.i2l, 1) := dk_133 (dk_at dksX0_shout_0 9 rfl rfl)
theorem dX0_shout_10 : decode cX0_shout 10 = .ok (.lconst 0, 1) := dk_9 (dk_at dksX0_shout_0 10 rfl rfl)
theorem dX0_shout_11 : decode cX0_shout 11 = .ok (.ldc2_w 212, 3) := dk_20 0 212 (dk_at dksX0_shout_0 11 rfl rfl)
theorem dX0_shout_14 : decode cX0_shout 14 = .ok (.invokestatic 106, 3) := dk_184 0 106 (dk_at dksX0_shout_0 14 rfl rfl)
theorem dX0_shout_17 : decode cX0_shout 17 = .ok (.ifCond .eq 15, 3) := dk_153 0 15 (dk_at dksX0_shout_0 17 rfl rfl)
theorem dX0_shout_20 : decode cX0_shout 20 = .ok (.aload_n 0, 1) := dk_42 (dk_at dksX0_shout_0 20 rfl rfl)
theorem dX0_shout_21 : decode cX0_shout 21 = .ok (.getfield 19, 3) := dk_180 0 19 (dk_at dksX0_shout_0 21 rfl rfl)
theorem dX0_shout_24 : decode cX0_shout 24 = .ok (.getfield 189, 3) := dk_180 0 189 (dk_at dksX0_shout_1 0 rfl rfl)
theorem dX0_shout_27 : decode cX0_shout 27 = .ok (.iload_n 1, 1) := dk_27 (dk_at dksX0_shout_1 3 rfl rfl)
theorem dX0_shout_28 : decode cX0_shout 28 = .ok (.iaload, 1) := dk_46 (dk_at dksX0_shout_1 4 rfl rfl)
theorem dX0_shout_29 : decode cX0_shout 29 = .ok (.ifCond .ne 5, 3) := dk_154 0 5 (dk_at dksX0_shout_1 5 rfl rfl)
theorem dX0_shout_32 : decode cX0_shout 32 = .ok (.iconst (-1), 1) := dk_2 (dk_at dksX0_shout_1 8 rfl rfl)
theorem dX0_shout_33 : decode cX0_shout 33 = .ok (.ireturn, 1) := dk_172 (dk_at dksX0_shout_1 9 rfl rfl)
theorem dX0_shout_34 : decode cX0_shout 34 = .ok (.aload_n 0, 1) := dk_42 (dk_at dksX0_shout_1 10 rfl rfl)
theorem dX0_shout_35 : decode cX0_shout 35 = .ok (.invokevirtual 256, 3) := dk_182 1 0 (dk_at dksX0_shout_1 11 rfl rfl)
theorem dX0_shout_38 : decode cX0_shout 38 = .ok (.aload_n 0, 1) := dk_42 (dk_at dksX0_shout_1 14 rfl rfl)
theorem dX0_shout_39 : decode cX0_shout 39 = .ok (.iload_n 1, 1) := dk_27 (dk_at dksX0_shout_1 15 rfl rfl)
theorem dX0_shout_40 : decode cX0_shout 40 = .ok (.iload_n 2, 1) := dk_28 (dk_at dksX0_shout_1 16 rfl rfl)
theorem dX0_shout_41 : decode cX0_shout 41 = .ok (.invokevirtual 285, 3) := dk_182 1 29 (dk_at dksX0_shout_1 17 rfl rfl)
theorem dX0_shout_44 : decode cX0_shout 44 = .ok (.aload_n 0, 1) := dk_42 (dk_at dksX0_shout_1 20 rfl rfl)
theorem dX0_shout_45 : decode cX0_shout 45 = .ok (.getfield 19, 3) := dk_180 0 19 (dk_at dksX0_shout_1 21 rfl rfl)
theorem dX0_shout_48 : decode cX0_shout 48 = .ok (.getfield 288, 3) := dk_180 1 32 (dk_at dksX0_shout_2 0 rfl rfl)
theorem dX0_shout_51 : decode cX0_shout 51 = .ok (.iload_n 1, 1) := dk_27 (dk_at dksX0_shout_2 3 rfl rfl)
theorem dX0_shout_52 : decode cX0_shout 52 = .ok (.iaload, 1) := dk_46 (dk_at dksX0_shout_2 4 rfl rfl)
theorem dX0_shout_53 : decode cX0_shout 53 = .ok (.iconst (-1), 1) := dk_2 (dk_at dksX0_shout_2 5 rfl rfl)
theorem dX0_shout_54 : decode cX0_shout 54 = .ok (.ixor, 1) := dk_130 (dk_at dksX0_shout_2 6 rfl rfl)
theorem dX0_shout_55 : decode cX0_shout 55 = .ok (.iand, 1) := dk_126 (dk_at dksX0_shout_2 7 rfl rfl)
theorem dX0_shout_56 : decode cX0_shout 56 = .ok (.istore_n 3, 1) := dk_62 (dk_at dksX0_shout_2 8 rfl rfl)
theorem dX0_shout_57 : decode cX0_shout 57 = .ok (.aload_n 0, 1) := dk_42 (dk_at dksX0_shout_2 9 rfl rfl)
theorem dX0_shout_58 : decode cX0_shout 58 = .ok (.getfield 19, 3) := dk_180 0 19 (dk_at dksX0_shout_2 10 rfl rfl)
theorem dX0_shout_61 : decode cX0_shout 61 = .ok (.getfield 189, 3) := dk_180 0 189 (dk_at dksX0_shout_2 13 rfl rfl)
theorem dX0_shout_64 : decode cX0_shout 64 = .ok (.iload_n 1, 1) := dk_27 (dk_at dksX0_shout_2 16 rfl rfl)
theorem dX0_shout_65 : decode cX0_shout 65 = .ok (.dup2, 1) := dk_92 (dk_at dksX0_shout_2 17 rfl rfl)
theorem dX0_shout_66 : decode cX0_shout 66 = .ok (.iaload, 1) := dk_46 (dk_at dksX0_shout_2 18 rfl rfl)
theorem dX0_shout_67 : decode cX0_shout 67 = .ok (.iconst 1, 1) := dk_4 (dk_at dksX0_shout_2 19 rfl rfl)
theorem dX0_shout_68 : decode cX0_shout 68 = .ok (.isub, 1) := dk_100 (dk_at dksX0_shout_2 20 rfl rfl)
theorem dX0_shout_69 : decode cX0_shout 69 = .ok (.iastore, 1) := dk_79 (dk_at dksX0_shout_2 21 rfl rfl)
theorem dX0_shout_70 : decode cX0_shout 70 = .ok (.aload_n 0, 1) := dk_42 (dk_at dksX0_shout_2 22 rfl rfl)
theorem dX0_shout_71 : decode cX0_shout 71 = .ok (.getfield 19, 3) := dk_180 0 19 (dk_at dksX0_shout_3 0 rfl rfl)
theorem dX0_shout_74 : decode cX0_shout 74 = .ok (.getfield 288, 3) := dk_180 1 32 (dk_at dksX0_shout_3 3 rfl rfl)
theorem dX0_shout_77 : decode cX0_shout 77 = .ok (.iload_n 1, 1) := dk_27 (dk_at dksX0_shout_3 6 rfl rfl)
theorem dX0_shout_78 : decode cX0_shout 78 = .ok (.dup2, 1) := dk_92 (dk_at dksX0_shout_3 7 rfl rfl)
theorem dX0_shout_79 : decode cX0_shout 79 = .ok (.iaload, 1) := dk_46 (dk_at dksX0_shout_3 8 rfl rfl)
theorem dX0_shout_80 : decode cX0_shout 80 = .ok (.iload_n 3, 1) := dk_29 (dk_at dksX0_shout_3 9 rfl rfl)
theorem dX0_shout_81 : decode cX0_shout 81 = .ok (.ior, 1) := dk_128 (dk_at dksX0_shout_3 10 rfl rfl)
theorem dX0_shout_82 : decode cX0_shout 82 = .ok (.iastore, 1) := dk_79 (dk_at dksX0_shout_3 11 rfl rfl)
theorem dX0_shout_83 : decode cX0_shout 83 = .ok (.iload_n 3, 1) := dk_29 (dk_at dksX0_shout_3 12 rfl rfl)
theorem dX0_shout_84 : decode cX0_shout 84 = .ok (.invokestatic 291, 3) := dk_184 1 35 (dk_at dksX0_shout_3 13 rfl rfl)
theorem dX0_shout_87 : decode cX0_shout 87 = .ok (.ireturn, 1) := dk_172 (dk_at dksX0_shout_3 16 rfl rfl)
abbrev cX0_heard : ByteArray := prog_1_method_37_code
def yX0_heard : MethodName := ⟨RX0, "heard", "(II)I"⟩
def dkwX0_heard_5 : List UInt8 := [163, 0, 10, 4, 21, 4, 120, 167, 0, 4, 3, 128, 62, 132, 4, 1, 167, 255, 128, 29, 172]
abbrev dktX0_heard_5 : List UInt8 := dkwX0_heard_5 ++ []
def dkwX0_heard_4 : List UInt8 := [180, 0, 12, 21, 5, 42, 180, 0, 19, 180, 0, 192, 27, 46, 182, 1, 23, 42, 180, 0, 12, 180, 1, 26]
abbrev dktX0_heard_4 : List UInt8 := dkwX0_heard_4 ++ dktX0_heard_5
def dkwX0_heard_3 : List UInt8 := [180, 0, 19, 180, 0, 172, 21, 4, 46, 42, 180, 0, 19, 180, 0, 165, 182, 0, 214, 54, 5, 29, 42]
abbrev dktX0_heard_3 : List UInt8 := dkwX0_heard_3 ++ dktX0_heard_4
def dkwX0_heard_2 : List UInt8 := [100, 184, 1, 17, 42, 180, 0, 12, 180, 1, 20, 164, 0, 6, 167, 0, 68, 42, 180, 0, 12, 42]
abbrev dktX0_heard_2 : List UInt8 := dkwX0_heard_2 ++ dktX0_heard_3
def dkwX0_heard_1 : List UInt8 := [16, 100, 162, 0, 104, 42, 180, 0, 12, 180, 0, 93, 21, 4, 182, 0, 153, 192, 0, 157, 180, 0, 159, 28]
abbrev dktX0_heard_1 : List UInt8 := dkwX0_heard_1 ++ dktX0_heard_2
def dkwX0_heard_0 : List UInt8 := [3, 62, 3, 54, 4, 21, 4, 42, 182, 0, 103, 162, 0, 125, 42, 180, 0, 19, 180, 0, 172, 21, 4, 46]
abbrev dktX0_heard_0 : List UInt8 := dkwX0_heard_0 ++ dktX0_heard_1
theorem dksX0_heard_0 : cX0_heard.data.toList.drop 0 = dktX0_heard_0 := by decide +kernel
theorem dksX0_heard_1 : cX0_heard.data.toList.drop 24 = dktX0_heard_1 := dk_seg dksX0_heard_0 24 rfl rfl
theorem dksX0_heard_2 : cX0_heard.data.toList.drop 48 = dktX0_heard_2 := dk_seg dksX0_heard_1 24 rfl rfl
theorem dksX0_heard_3 : cX0_heard.data.toList.drop 70 = dktX0_heard_3 := dk_seg dksX0_heard_2 22 rfl rfl
theorem dksX0_heard_4 : cX0_heard.data.toList.drop 93 = dktX0_heard_4 := dk_seg dksX0_heard_3 23 rfl rfl
theorem dksX0_heard_5 : cX0_heard.data.toList.drop 117 = dktX0_heard_5 := dk_seg dksX0_heard_4 24 rfl rfl
theorem dX0_heard_0 : decode cX0_heard 0 = .ok (.iconst 0, 1) := dk_3 (dk_at dksX0_heard_0 0 rfl rfl)
theorem dX0_heard_1 : decode cX0_heard 1 = .ok (.istore_n 3, 1) := dk_62 (dk_at dksX0_heard_0 1 rfl rfl)
theorem dX0_heard_2 : decode cX0_heard 2 = .ok (.iconst 0, 1) := dk_3 (dk_at dksX0_heard_0 2 rfl rfl)
theorem dX0_heard_3 : decode cX0_heard 3 = .ok (.istore 4, 2) := dk_54 4 (dk_at dksX0_heard_0 3 rfl rfl)
theorem dX0_heard_5 : decode cX0_heard 5 = .ok (.iload 4, 2) := dk_21 4 (dk_at dksX0_heard_0 5 rfl rfl)
theorem dX0_heard_7 : decode cX0_heard 7 = .ok (.aload_n 0, 1) := dk_42 (dk_at dksX0_heard_0 7 rfl rfl)
theorem dX0_heard_8 : decode cX0_heard 8 = .ok (.invokevirtual 103, 3) := dk_182 0 103 (dk_at dksX0_heard_0 8 rfl rfl)
theorem dX0_heard_11 : decode cX0_heard 11 = .ok (.if_icmp .ge 125, 3) := dk_162 0 125 (dk_at dksX0_heard_0 11 rfl rfl)
theorem dX0_heard_14 : decode cX0_heard 14 = .ok (.aload_n 0, 1) := dk_42 (dk_at dksX0_heard_0 14 rfl rfl)
theorem dX0_heard_15 : decode cX0_heard 15 = .ok (.getfield 19, 3) := dk_180 0 19 (dk_at dksX0_heard_0 15 rfl rfl)
theorem dX0_heard_18 : decode cX0_heard 18 = .ok (.getfield 172, 3) := dk_180 0 172 (dk_at dksX0_heard_0 18 rfl rfl)
theorem dX0_heard_21 : decode cX0_heard 21 = .ok (.iload 4, 2) := dk_21 4 (dk_at dksX0_heard_0 21 rfl rfl)
theorem dX0_heard_23 : decode cX0_heard 23 = .ok (.iaload, 1) := dk_46 (dk_at dksX0_heard_0 23 rfl rfl)
theorem dX0_heard_24 : decode cX0_heard 24 = .ok (.bipush 100, 2) := dk_16 100 (dk_at dksX0_heard_1 0 rfl rfl)
theorem dX0_heard_26 : decode cX0_heard 26 = .ok (.if_icmp .ge 104, 3) := dk_162 0 104 (dk_at dksX0_heard_1 2 rfl rfl)
theorem dX0_heard_29 : decode cX0_heard 29 = .ok (.aload_n 0, 1) := dk_42 (dk_at dksX0_heard_1 5 rfl rfl)
theorem dX0_heard_30 : decode cX0_heard 30 = .ok (.getfield 12, 3) := dk_180 0 12 (dk_at dksX0_heard_1 6 rfl rfl)
theorem dX0_heard_33 : decode cX0_heard 33 = .ok (.getfield 93, 3) := dk_180 0 93 (dk_at dksX0_heard_1 9 rfl rfl)
theorem dX0_heard_36 : decode cX0_heard 36 = .ok (.iload 4, 2) := dk_21 4 (dk_at dksX0_heard_1 12 rfl rfl)
theorem dX0_heard_38 : decode cX0_heard 38 = .ok (.invokevirtual 153, 3) := dk_182 0 153 (dk_at dksX0_heard_1 14 rfl rfl)
theorem dX0_heard_41 : decode cX0_heard 41 = .ok (.checkcast 157, 3) := dk_192 0 157 (dk_at dksX0_heard_1 17 rfl rfl)
theorem dX0_heard_44 : decode cX0_heard 44 = .ok (.getfield 159, 3) := dk_180 0 159 (dk_at dksX0_heard_1 20 rfl rfl)
theorem dX0_heard_47 : decode cX0_heard 47 = .ok (.iload_n 2, 1) := dk_28 (dk_at dksX0_heard_1 23 rfl rfl)
theorem dX0_heard_48 : decode cX0_heard 48 = .ok (.isub, 1) := dk_100 (dk_at dksX0_heard_2 0 rfl rfl)
theorem dX0_heard_49 : decode cX0_heard 49 = .ok (.invokestatic 273, 3) := dk_184 1 17 (dk_at dksX0_heard_2 1 rfl rfl)
theorem dX0_heard_52 : decode cX0_heard 52 = .ok (.aload_n 0, 1) := dk_42 (dk_at dksX0_heard_2 4 rfl rfl)
theorem dX0_heard_53 : decode cX0_heard 53 = .ok (.getfield 12, 3) := dk_180 0 12 (dk_at dksX0_heard_2 5 rfl rfl)
theorem dX0_heard_56 : decode cX0_heard 56 = .ok (.getfield 276, 3) := dk_180 1 20 (dk_at dksX0_heard_2 8 rfl rfl)
theorem dX0_heard_59 : decode cX0_heard 59 = .ok (.if_icmp .le 6, 3) := dk_164 0 6 (dk_at dksX0_heard_2 11 rfl rfl)
theorem dX0_heard_62 : decode cX0_heard 62 = .ok (.goto 68, 3) := dk_167 0 68 (dk_at dksX0_heard_2 14 rfl rfl)
theorem dX0_heard_65 : decode cX0_heard 65 = .ok (.aload_n 0, 1) := dk_42 (dk_at dksX0_heard_2 17 rfl rfl)
theorem dX0_heard_66 : decode cX0_heard 66 = .ok (.getfield 12, 3) := dk_180 0 12 (dk_at dksX0_heard_2 18 rfl rfl)
theorem dX0_heard_69 : decode cX0_heard 69 = .ok (.aload_n 0, 1) := dk_42 (dk_at dksX0_heard_2 21 rfl rfl)
theorem dX0_heard_70 : decode cX0_heard 70 = .ok (.getfield 19, 3) := dk_180 0 19 (dk_at dksX0_heard_3 0 rfl rfl)
theorem dX0_heard_73 : decode cX0_heard 73 = .ok (.getfield 172, 3) := dk_180 0 172 (dk_at dksX0_heard_3 3 rfl rfl)
theorem dX0_heard_76 : decode cX0_heard 76 = .ok (.iload 4, 2) := dk_21 4 (dk_at dksX0_heard_3 6 rfl rfl)
theorem dX0_heard_78 : decode cX0_heard 78 = .ok (.iaload, 1) := dk_46 (dk_at dksX0_heard_3 8 rfl rfl)
theorem dX0_heard_79 : decode cX0_heard 79 = .ok (.aload_n 0, 1) := dk_42 (dk_at dksX0_heard_3 9 rfl rfl)
theorem dX0_heard_80 : decode cX0_heard 80 = .ok (.getfield 19, 3) := dk_180 0 19 (dk_at dksX0_heard_3 10 rfl rfl)
theorem dX0_heard_83 : decode cX0_heard 83 = .ok (.getfield 165, 3) := dk_180 0 165 (dk_at dksX0_heard_3 13 rfl rfl)
theorem dX0_heard_86 : decode cX0_heard 86 = .ok (.invokevirtual 214, 3) := dk_182 0 214 (dk_at dksX0_heard_3 16 rfl rfl)
theorem dX0_heard_89 : decode cX0_heard 89 = .ok (.istore 5, 2) := dk_54 5 (dk_at dksX0_heard_3 19 rfl rfl)
theorem dX0_heard_91 : decode cX0_heard 91 = .ok (.iload_n 3, 1) := dk_29 (dk_at dksX0_heard_3 21 rfl rfl)
theorem dX0_heard_92 : decode cX0_heard 92 = .ok (.aload_n 0, 1) := dk_42 (dk_at dksX0_heard_3 22 rfl rfl)
theorem dX0_heard_93 : decode cX0_heard 93 = .ok (.getfield 12, 3) := dk_180 0 12 (dk_at dksX0_heard_4 0 rfl rfl)
theorem dX0_heard_96 : decode cX0_heard 96 = .ok (.iload 5, 2) := dk_21 5 (dk_at dksX0_heard_4 3 rfl rfl)
theorem dX0_heard_98 : decode cX0_heard 98 = .ok (.aload_n 0, 1) := dk_42 (dk_at dksX0_heard_4 5 rfl rfl)
theorem dX0_heard_99 : decode cX0_heard 99 = .ok (.getfield 19, 3) := dk_180 0 19 (dk_at dksX0_heard_4 6 rfl rfl)
theorem dX0_heard_102 : decode cX0_heard 102 = .ok (.getfield 192, 3) := dk_180 0 192 (dk_at dksX0_heard_4 9 rfl rfl)
theorem dX0_heard_105 : decode cX0_heard 105 = .ok (.iload_n 1, 1) := dk_27 (dk_at dksX0_heard_4 12 rfl rfl)
theorem dX0_heard_106 : decode cX0_heard 106 = .ok (.iaload, 1) := dk_46 (dk_at dksX0_heard_4 13 rfl rfl)
theorem dX0_heard_107 : decode cX0_heard 107 = .ok (.invokevirtual 279, 3) := dk_182 1 23 (dk_at dksX0_heard_4 14 rfl rfl)
theorem dX0_heard_110 : decode cX0_heard 110 = .ok (.aload_n 0, 1) := dk_42 (dk_at dksX0_heard_4 17 rfl rfl)
theorem dX0_heard_111 : decode cX0_heard 111 = .ok (.getfield 12, 3) := dk_180 0 12 (dk_at dksX0_heard_4 18 rfl rfl)
theorem dX0_heard_114 : decode cX0_heard 114 = .ok (.getfield 282, 3) := dk_180 1 26 (dk_at dksX0_heard_4 21 rfl rfl)
theorem dX0_heard_117 : decode cX0_heard 117 = .ok (.if_icmp .gt 10, 3) := dk_163 0 10 (dk_at dksX0_heard_5 0 rfl rfl)
theorem dX0_heard_120 : decode cX0_heard 120 = .ok (.iconst 1, 1) := dk_4 (dk_at dksX0_heard_5 3 rfl rfl)
theorem dX0_heard_121 : decode cX0_heard 121 = .ok (.iload 4, 2) := dk_21 4 (dk_at dksX0_heard_5 4 rfl rfl)
theorem dX0_heard_123 : decode cX0_heard 123 = .ok (.ishl, 1) := dk_120 (dk_at dksX0_heard_5 6 rfl rfl)
theorem dX0_heard_124 : decode cX0_heard 124 = .ok (.goto 4, 3) := dk_167 0 4 (dk_at dksX0_heard_5 7 rfl rfl)
theorem dX0_heard_127 : decode cX0_heard 127 = .ok (.iconst 0, 1) := dk_3 (dk_at dksX0_heard_5 10 rfl rfl)
theorem dX0_heard_128 : decode cX0_heard 128 = .ok (.ior, 1) := dk_128 (dk_at dksX0_heard_5 11 rfl rfl)
theorem dX0_heard_129 : decode cX0_heard 129 = .ok (.istore_n 3, 1) := dk_62 (dk_at dksX0_heard_5 12 rfl rfl)
theorem dX0_heard_130 : decode cX0_heard 130 = .ok (.iinc 4 1, 3) := dk_132 4 1 (dk_at dksX0_heard_5 13 rfl rfl)
theorem dX0_heard_133 : decode cX0_heard 133 = .ok (.goto (-128), 3) := dk_167 255 128 (dk_at dksX0_heard_5 16 rfl rfl)
theorem dX0_heard_136 : decode cX0_heard 136 = .ok (.iload_n 3, 1) := dk_29 (dk_at dksX0_heard_5 19 rfl rfl)
theorem dX0_heard_137 : decode cX0_heard 137 = .ok (.ireturn, 1) := dk_172 (dk_at dksX0_heard_5 20 rfl rfl)
abbrev cX0_swap : ByteArray := prog_1_method_41_code
def yX0_swap : MethodName := ⟨RX0, "swap", "(IIII)Z"⟩
def dkwX0_swap_4 : List UInt8 := [120, 128, 79, 4, 172]
abbrev dktX0_swap_4 : List UInt8 := dkwX0_swap_4 ++ []
def dkwX0_swap_3 : List UInt8 := [180, 1, 32, 27, 92, 46, 4, 21, 4, 120, 128, 79, 42, 180, 0, 19, 180, 1, 32, 29, 92, 46, 4, 28]
abbrev dktX0_swap_3 : List UInt8 := dkwX0_swap_3 ++ dktX0_swap_4
def dkwX0_swap_2 : List UInt8 := [28, 16, 100, 29, 96, 79, 42, 180, 0, 19, 180, 0, 172, 21, 4, 16, 100, 27, 96, 79, 42, 180, 0, 19]
abbrev dktX0_swap_2 : List UInt8 := dkwX0_swap_2 ++ dktX0_swap_3
def dkwX0_swap_1 : List UInt8 := [180, 0, 19, 180, 0, 192, 29, 46, 159, 0, 5, 3, 172, 42, 182, 1, 0, 42, 180, 0, 19, 180, 0, 172]
abbrev dktX0_swap_1 : List UInt8 := dkwX0_swap_1 ++ dktX0_swap_2
def dkwX0_swap_0 : List UInt8 := [42, 27, 28, 29, 21, 4, 182, 1, 43, 153, 0, 24, 42, 180, 0, 19, 180, 0, 192, 27, 46, 42]
abbrev dktX0_swap_0 : List UInt8 := dkwX0_swap_0 ++ dktX0_swap_1
theorem dksX0_swap_0 : cX0_swap.data.toList.drop 0 = dktX0_swap_0 := by decide +kernel
theorem dksX0_swap_1 : cX0_swap.data.toList.drop 22 = dktX0_swap_1 := dk_seg dksX0_swap_0 22 rfl rfl
theorem dksX0_swap_2 : cX0_swap.data.toList.drop 46 = dktX0_swap_2 := dk_seg dksX0_swap_1 24 rfl rfl
theorem dksX0_swap_3 : cX0_swap.data.toList.drop 70 = dktX0_swap_3 := dk_seg dksX0_swap_2 24 rfl rfl
theorem dksX0_swap_4 : cX0_swap.data.toList.drop 94 = dktX0_swap_4 := dk_seg dksX0_swap_3 24 rfl rfl
theorem dX0_swap_0 : decode cX0_swap 0 = .ok (.aload_n 0, 1) := dk_42 (dk_at dksX0_swap_0 0 rfl rfl)
theorem dX0_swap_1 : decode cX0_swap 1 = .ok (.iload_n 1, 1) := dk_27 (dk_at dksX0_swap_0 1 rfl rfl)
theorem dX0_swap_2 : decode cX0_swap 2 = .ok (.iload_n 2, 1) := dk_28 (dk_at dksX0_swap_0 2 rfl rfl)
theorem dX0_swap_3 : decode cX0_swap 3 = .ok (.iload_n 3, 1) := dk_29 (dk_at dksX0_swap_0 3 rfl rfl)
theorem dX0_swap_4 : decode cX0_swap 4 = .ok (.iload 4, 2) := dk_21 4 (dk_at dksX0_swap_0 4 rfl rfl)
theorem dX0_swap_6 : decode cX0_swap 6 = .ok (.invokevirtual 299, 3) := dk_182 1 43 (dk_at dksX0_swap_0 6 rfl rfl)
theorem dX0_swap_9 : decode cX0_swap 9 = .ok (.ifCond .eq 24, 3) := dk_153 0 24 (dk_at dksX0_swap_0 9 rfl rfl)
theorem dX0_swap_12 : decode cX0_swap 12 = .ok (.aload_n 0, 1) := dk_42 (dk_at dksX0_swap_0 12 rfl rfl)
theorem dX0_swap_13 : decode cX0_swap 13 = .ok (.getfield 19, 3) := dk_180 0 19 (dk_at dksX0_swap_0 13 rfl rfl)
theorem dX0_swap_16 : decode cX0_swap 16 = .ok (.getfield 192, 3) := dk_180 0 192 (dk_at dksX0_swap_0 16 rfl rfl)
theorem dX0_swap_19 : decode cX0_swap 19 = .ok (.iload_n 1, 1) := dk_27 (dk_at dksX0_swap_0 19 rfl rfl)
theorem dX0_swap_20 : decode cX0_swap 20 = .ok (.iaload, 1) := dk_46 (dk_at dksX0_swap_0 20 rfl rfl)
theorem dX0_swap_21 : decode cX0_swap 21 = .ok (.aload_n 0, 1) := dk_42 (dk_at dksX0_swap_0 21 rfl rfl)
theorem dX0_swap_22 : decode cX0_swap 22 = .ok (.getfield 19, 3) := dk_180 0 19 (dk_at dksX0_swap_1 0 rfl rfl)
theorem dX0_swap_25 : decode cX0_swap 25 = .ok (.getfield 192, 3) := dk_180 0 192 (dk_at dksX0_swap_1 3 rfl rfl)
theorem dX0_swap_28 : decode cX0_swap 28 = .ok (.iload_n 3, 1) := dk_29 (dk_at dksX0_swap_1 6 rfl rfl)
theorem dX0_swap_29 : decode cX0_swap 29 = .ok (.iaload, 1) := dk_46 (dk_at dksX0_swap_1 7 rfl rfl)
theorem dX0_swap_30 : decode cX0_swap 30 = .ok (.if_icmp .eq 5, 3) := dk_159 0 5 (dk_at dksX0_swap_1 8 rfl rfl)
theorem dX0_swap_33 : decode cX0_swap 33 = .ok (.iconst 0, 1) := dk_3 (dk_at dksX0_swap_1 11 rfl rfl)
theorem dX0_swap_34 : decode cX0_swap 34 = .ok (.ireturn, 1) := dk_172 (dk_at dksX0_swap_1 12 rfl rfl)
theorem dX0_swap_35 : decode cX0_swap 35 = .ok (.aload_n 0, 1) := dk_42 (dk_at dksX0_swap_1 13 rfl rfl)
theorem dX0_swap_36 : decode cX0_swap 36 = .ok (.invokevirtual 256, 3) := dk_182 1 0 (dk_at dksX0_swap_1 14 rfl rfl)
theorem dX0_swap_39 : decode cX0_swap 39 = .ok (.aload_n 0, 1) := dk_42 (dk_at dksX0_swap_1 17 rfl rfl)
theorem dX0_swap_40 : decode cX0_swap 40 = .ok (.getfield 19, 3) := dk_180 0 19 (dk_at dksX0_swap_1 18 rfl rfl)
theorem dX0_swap_43 : decode cX0_swap 43 = .ok (.getfield 172, 3) := dk_180 0 172 (dk_at dksX0_swap_1 21 rfl rfl)
theorem dX0_swap_46 : decode cX0_swap 46 = .ok (.iload_n 2, 1) := dk_28 (dk_at dksX0_swap_2 0 rfl rfl)
theorem dX0_swap_47 : decode cX0_swap 47 = .ok (.bipush 100, 2) := dk_16 100 (dk_at dksX0_swap_2 1 rfl rfl)
theorem dX0_swap_49 : decode cX0_swap 49 = .ok (.iload_n 3, 1) := dk_29 (dk_at dksX0_swap_2 3 rfl rfl)
theorem dX0_swap_50 : decode cX0_swap 50 = .ok (.iadd, 1) := dk_96 (dk_at dksX0_swap_2 4 rfl rfl)
theorem dX0_swap_51 : decode cX0_swap 51 = .ok (.iastore, 1) := dk_79 (dk_at dksX0_swap_2 5 rfl rfl)
theorem dX0_swap_52 : decode cX0_swap 52 = .ok (.aload_n 0, 1) := dk_42 (dk_at dksX0_swap_2 6 rfl rfl)
theorem dX0_swap_53 : decode cX0_swap 53 = .ok (.getfield 19, 3) := dk_180 0 19 (dk_at dksX0_swap_2 7 rfl rfl)
theorem dX0_swap_56 : decode cX0_swap 56 = .ok (.getfield 172, 3) := dk_180 0 172 (dk_at dksX0_swap_2 10 rfl rfl)
theorem dX0_swap_59 : decode cX0_swap 59 = .ok (.iload 4, 2) := dk_21 4 (dk_at dksX0_swap_2 13 rfl rfl)
theorem dX0_swap_61 : decode cX0_swap 61 = .ok (.bipush 100, 2) := dk_16 100 (dk_at dksX0_swap_2 15 rfl rfl)
theorem dX0_swap_63 : decode cX0_swap 63 = .ok (.iload_n 1, 1) := dk_27 (dk_at dksX0_swap_2 17 rfl rfl)
theorem dX0_swap_64 : decode cX0_swap 64 = .ok (.iadd, 1) := dk_96 (dk_at dksX0_swap_2 18 rfl rfl)
theorem dX0_swap_65 : decode cX0_swap 65 = .ok (.iastore, 1) := dk_79 (dk_at dksX0_swap_2 19 rfl rfl)
theorem dX0_swap_66 : decode cX0_swap 66 = .ok (.aload_n 0, 1) := dk_42 (dk_at dksX0_swap_2 20 rfl rfl)
theorem dX0_swap_67 : decode cX0_swap 67 = .ok (.getfield 19, 3) := dk_180 0 19 (dk_at dksX0_swap_2 21 rfl rfl)
theorem dX0_swap_70 : decode cX0_swap 70 = .ok (.getfield 288, 3) := dk_180 1 32 (dk_at dksX0_swap_3 0 rfl rfl)
theorem dX0_swap_73 : decode cX0_swap 73 = .ok (.iload_n 1, 1) := dk_27 (dk_at dksX0_swap_3 3 rfl rfl)
theorem dX0_swap_74 : decode cX0_swap 74 = .ok (.dup2, 1) := dk_92 (dk_at dksX0_swap_3 4 rfl rfl)
theorem dX0_swap_75 : decode cX0_swap 75 = .ok (.iaload, 1) := dk_46 (dk_at dksX0_swap_3 5 rfl rfl)
theorem dX0_swap_76 : decode cX0_swap 76 = .ok (.iconst 1, 1) := dk_4 (dk_at dksX0_swap_3 6 rfl rfl)
theorem dX0_swap_77 : decode cX0_swap 77 = .ok (.iload 4, 2) := dk_21 4 (dk_at dksX0_swap_3 7 rfl rfl)
theorem dX0_swap_79 : decode cX0_swap 79 = .ok (.ishl, 1) := dk_120 (dk_at dksX0_swap_3 9 rfl rfl)
theorem dX0_swap_80 : decode cX0_swap 80 = .ok (.ior, 1) := dk_128 (dk_at dksX0_swap_3 10 rfl rfl)
theorem dX0_swap_81 : decode cX0_swap 81 = .ok (.iastore, 1) := dk_79 (dk_at dksX0_swap_3 11 rfl rfl)
theorem dX0_swap_82 : decode cX0_swap 82 = .ok (.aload_n 0, 1) := dk_42 (dk_at dksX0_swap_3 12 rfl rfl)
theorem dX0_swap_83 : decode cX0_swap 83 = .ok (.getfield 19, 3) := dk_180 0 19 (dk_at dksX0_swap_3 13 rfl rfl)
theorem dX0_swap_86 : decode cX0_swap 86 = .ok (.getfield 288, 3) := dk_180 1 32 (dk_at dksX0_swap_3 16 rfl rfl)
theorem dX0_swap_89 : decode cX0_swap 89 = .ok (.iload_n 3, 1) := dk_29 (dk_at dksX0_swap_3 19 rfl rfl)
theorem dX0_swap_90 : decode cX0_swap 90 = .ok (.dup2, 1) := dk_92 (dk_at dksX0_swap_3 20 rfl rfl)
theorem dX0_swap_91 : decode cX0_swap 91 = .ok (.iaload, 1) := dk_46 (dk_at dksX0_swap_3 21 rfl rfl)
theorem dX0_swap_92 : decode cX0_swap 92 = .ok (.iconst 1, 1) := dk_4 (dk_at dksX0_swap_3 22 rfl rfl)
theorem dX0_swap_93 : decode cX0_swap 93 = .ok (.iload_n 2, 1) := dk_28 (dk_at dksX0_swap_3 23 rfl rfl)
theorem dX0_swap_94 : decode cX0_swap 94 = .ok (.ishl, 1) := dk_120 (dk_at dksX0_swap_4 0 rfl rfl)
theorem dX0_swap_95 : decode cX0_swap 95 = .ok (.ior, 1) := dk_128 (dk_at dksX0_swap_4 1 rfl rfl)
theorem dX0_swap_96 : decode cX0_swap 96 = .ok (.iastore, 1) := dk_79 (dk_at dksX0_swap_4 2 rfl rfl)
theorem dX0_swap_97 : decode cX0_swap 97 = .ok (.iconst 1, 1) := dk_4 (dk_at dksX0_swap_4 3 rfl rfl)
theorem dX0_swap_98 : decode cX0_swap 98 = .ok (.ireturn, 1) := dk_172 (dk_at dksX0_swap_4 4 rfl rfl)
abbrev cX0_areTheirs : ByteArray := prog_1_method_40_code
def yX0_areTheirs : MethodName := ⟨RX0, "areTheirs", "(IIII)Z"⟩
def dkwX0_areTheirs_1 : List UInt8 := [4, 167, 0, 4, 3, 172]
abbrev dktX0_areTheirs_1 : List UInt8 := dkwX0_areTheirs_1 ++ []
def dkwX0_areTheirs_0 : List UInt8 := [27, 29, 159, 0, 26, 42, 27, 28, 182, 1, 40, 153, 0, 17, 42, 29, 21, 4, 182, 1, 40, 153, 0, 7]
abbrev dktX0_areTheirs_0 : List UInt8 := dkwX0_areTheirs_0 ++ dktX0_areTheirs_1
theorem dksX0_areTheirs_0 : cX0_areTheirs.data.toList.drop 0 = dktX0_areTheirs_0 := by decide +kernel
theorem dksX0_areTheirs_1 : cX0_areTheirs.data.toList.drop 24 = dktX0_areTheirs_1 := dk_seg dksX0_areTheirs_0 24 rfl rfl
theorem dX0_areTheirs_0 : decode cX0_areTheirs 0 = .ok (.iload_n 1, 1) := dk_27 (dk_at dksX0_areTheirs_0 0 rfl rfl)
theorem dX0_areTheirs_1 : decode cX0_areTheirs 1 = .ok (.iload_n 3, 1) := dk_29 (dk_at dksX0_areTheirs_0 1 rfl rfl)
theorem dX0_areTheirs_2 : decode cX0_areTheirs 2 = .ok (.if_icmp .eq 26, 3) := dk_159 0 26 (dk_at dksX0_areTheirs_0 2 rfl rfl)
theorem dX0_areTheirs_5 : decode cX0_areTheirs 5 = .ok (.aload_n 0, 1) := dk_42 (dk_at dksX0_areTheirs_0 5 rfl rfl)
theorem dX0_areTheirs_6 : decode cX0_areTheirs 6 = .ok (.iload_n 1, 1) := dk_27 (dk_at dksX0_areTheirs_0 6 rfl rfl)
theorem dX0_areTheirs_7 : decode cX0_areTheirs 7 = .ok (.iload_n 2, 1) := dk_28 (dk_at dksX0_areTheirs_0 7 rfl rfl)
theorem dX0_areTheirs_8 : decode cX0_areTheirs 8 = .ok (.invokevirtual 296, 3) := dk_182 1 40 (dk_at dksX0_areTheirs_0 8 rfl rfl)
theorem dX0_areTheirs_11 : decode cX0_areTheirs 11 = .ok (.ifCond .eq 17, 3) := dk_153 0 17 (dk_at dksX0_areTheirs_0 11 rfl rfl)
theorem dX0_areTheirs_14 : decode cX0_areTheirs 14 = .ok (.aload_n 0, 1) := dk_42 (dk_at dksX0_areTheirs_0 14 rfl rfl)
theorem dX0_areTheirs_15 : decode cX0_areTheirs 15 = .ok (.iload_n 3, 1) := dk_29 (dk_at dksX0_areTheirs_0 15 rfl rfl)
theorem dX0_areTheirs_16 : decode cX0_areTheirs 16 = .ok (.iload 4, 2) := dk_21 4 (dk_at dksX0_areTheirs_0 16 rfl rfl)
theorem dX0_areTheirs_18 : decode cX0_areTheirs 18 = .ok (.invokevirtual 296, 3) := dk_182 1 40 (dk_at dksX0_areTheirs_0 18 rfl rfl)
theorem dX0_areTheirs_21 : decode cX0_areTheirs 21 = .ok (.ifCond .eq 7, 3) := dk_153 0 7 (dk_at dksX0_areTheirs_0 21 rfl rfl)
theorem dX0_areTheirs_24 : decode cX0_areTheirs 24 = .ok (.iconst 1, 1) := dk_4 (dk_at dksX0_areTheirs_1 0 rfl rfl)
theorem dX0_areTheirs_25 : decode cX0_areTheirs 25 = .ok (.goto 4, 3) := dk_167 0 4 (dk_at dksX0_areTheirs_1 1 rfl rfl)
theorem dX0_areTheirs_28 : decode cX0_areTheirs 28 = .ok (.iconst 0, 1) := dk_3 (dk_at dksX0_areTheirs_1 4 rfl rfl)
theorem dX0_areTheirs_29 : decode cX0_areTheirs 29 = .ok (.ireturn, 1) := dk_172 (dk_at dksX0_areTheirs_1 5 rfl rfl)
abbrev cX0_isTheirs : ByteArray := prog_1_method_39_code
def yX0_isTheirs : MethodName := ⟨RX0, "isTheirs", "(II)Z"⟩
def dkwX0_isTheirs_1 : List UInt8 := [46, 16, 100, 27, 96, 160, 0, 7, 4, 167, 0, 4, 3, 172]
abbrev dktX0_isTheirs_1 : List UInt8 := dkwX0_isTheirs_1 ++ []
def dkwX0_isTheirs_0 : List UInt8 := [42, 27, 182, 0, 186, 153, 0, 31, 42, 28, 182, 0, 149, 153, 0, 23, 42, 180, 0, 19, 180, 0, 172, 28]
abbrev dktX0_isTheirs_0 : List UInt8 := dkwX0_isTheirs_0 ++ dktX0_isTheirs_1
theorem dksX0_isTheirs_0 : cX0_isTheirs.data.toList.drop 0 = dktX0_isTheirs_0 := by decide +kernel
theorem dksX0_isTheirs_1 : cX0_isTheirs.data.toList.drop 24 = dktX0_isTheirs_1 := dk_seg dksX0_isTheirs_0 24 rfl rfl
theorem dX0_isTheirs_0 : decode cX0_isTheirs 0 = .ok (.aload_n 0, 1) := dk_42 (dk_at dksX0_isTheirs_0 0 rfl rfl)
theorem dX0_isTheirs_1 : decode cX0_isTheirs 1 = .ok (.iload_n 1, 1) := dk_27 (dk_at dksX0_isTheirs_0 1 rfl rfl)
theorem dX0_isTheirs_2 : decode cX0_isTheirs 2 = .ok (.invokevirtual 186, 3) := dk_182 0 186 (dk_at dksX0_isTheirs_0 2 rfl rfl)
theorem dX0_isTheirs_5 : decode cX0_isTheirs 5 = .ok (.ifCond .eq 31, 3) := dk_153 0 31 (dk_at dksX0_isTheirs_0 5 rfl rfl)
theorem dX0_isTheirs_8 : decode cX0_isTheirs 8 = .ok (.aload_n 0, 1) := dk_42 (dk_at dksX0_isTheirs_0 8 rfl rfl)
theorem dX0_isTheirs_9 : decode cX0_isTheirs 9 = .ok (.iload_n 2, 1) := dk_28 (dk_at dksX0_isTheirs_0 9 rfl rfl)
theorem dX0_isTheirs_10 : decode cX0_isTheirs 10 = .ok (.invokevirtual 149, 3) := dk_182 0 149 (dk_at dksX0_isTheirs_0 10 rfl rfl)
theorem dX0_isTheirs_13 : decode cX0_isTheirs 13 = .ok (.ifCond .eq 23, 3) := dk_153 0 23 (dk_at dksX0_isTheirs_0 13 rfl rfl)
theorem dX0_isTheirs_16 : decode cX0_isTheirs 16 = .ok (.aload_n 0, 1) := dk_42 (dk_at dksX0_isTheirs_0 16 rfl rfl)
theorem dX0_isTheirs_17 : decode cX0_isTheirs 17 = .ok (.getfield 19, 3) := dk_180 0 19 (dk_at dksX0_isTheirs_0 17 rfl rfl)
theorem dX0_isTheirs_20 : decode cX0_isTheirs 20 = .ok (.getfield 172, 3) := dk_180 0 172 (dk_at dksX0_isTheirs_0 20 rfl rfl)
theorem dX0_isTheirs_23 : decode cX0_isTheirs 23 = .ok (.iload_n 2, 1) := dk_28 (dk_at dksX0_isTheirs_0 23 rfl rfl)
theorem dX0_isTheirs_24 : decode cX0_isTheirs 24 = .ok (.iaload, 1) := dk_46 (dk_at dksX0_isTheirs_1 0 rfl rfl)
theorem dX0_isTheirs_25 : decode cX0_isTheirs 25 = .ok (.bipush 100, 2) := dk_16 100 (dk_at dksX0_isTheirs_1 1 rfl rfl)
theorem dX0_isTheirs_27 : decode cX0_isTheirs 27 = .ok (.iload_n 1, 1) := dk_27 (dk_at dksX0_isTheirs_1 3 rfl rfl)
theorem dX0_isTheirs_28 : decode cX0_isTheirs 28 = .ok (.iadd, 1) := dk_96 (dk_at dksX0_isTheirs_1 4 rfl rfl)
theorem dX0_isTheirs_29 : decode cX0_isTheirs 29 = .ok (.if_icmp .ne 7, 3) := dk_160 0 7 (dk_at dksX0_isTheirs_1 5 rfl rfl)
theorem dX0_isTheirs_32 : decode cX0_isTheirs 32 = .ok (.iconst 1, 1) := dk_4 (dk_at dksX0_isTheirs_1 8 rfl rfl)
theorem dX0_isTheirs_33 : decode cX0_isTheirs 33 = .ok (.goto 4, 3) := dk_167 0 4 (dk_at dksX0_isTheirs_1 9 rfl rfl)
theorem dX0_isTheirs_36 : decode cX0_isTheirs 36 = .ok (.iconst 0, 1) := dk_3 (dk_at dksX0_isTheirs_1 12 rfl rfl)
theorem dX0_isTheirs_37 : decode cX0_isTheirs 37 = .ok (.ireturn, 1) := dk_172 (dk_at dksX0_isTheirs_1 13 rfl rfl)
abbrev cX0_giveUp : ByteArray := prog_1_method_42_code
def yX0_giveUp : MethodName := ⟨RX0, "giveUp", "(II)I"⟩
def dkwX0_giveUp_3 : List UInt8 := [180, 0, 189, 27, 46, 172]
abbrev dktX0_giveUp_3 : List UInt8 := dkwX0_giveUp_3 ++ []
def dkwX0_giveUp_2 : List UInt8 := [180, 0, 12, 28, 42, 180, 0, 19, 180, 0, 165, 182, 0, 168, 5, 108, 96, 79, 42, 180, 0, 19]
abbrev dktX0_giveUp_2 : List UInt8 := dkwX0_giveUp_2 ++ dktX0_giveUp_3
def dkwX0_giveUp_1 : List UInt8 := [180, 0, 19, 42, 180, 0, 12, 27, 182, 1, 47, 79, 42, 180, 0, 19, 180, 0, 189, 27, 92, 46, 42]
abbrev dktX0_giveUp_1 : List UInt8 := dkwX0_giveUp_1 ++ dktX0_giveUp_2
def dkwX0_giveUp_0 : List UInt8 := [42, 27, 28, 182, 1, 40, 154, 0, 5, 2, 172, 42, 182, 1, 0, 42, 180, 0, 19, 180, 0, 172, 28, 42]
abbrev dktX0_giveUp_0 : List UInt8 := dkwX0_giveUp_0 ++ dktX0_giveUp_1
theorem dksX0_giveUp_0 : cX0_giveUp.data.toList.drop 0 = dktX0_giveUp_0 := by decide +kernel
theorem dksX0_giveUp_1 : cX0_giveUp.data.toList.drop 24 = dktX0_giveUp_1 := dk_seg dksX0_giveUp_0 24 rfl rfl
theorem dksX0_giveUp_2 : cX0_giveUp.data.toList.drop 47 = dktX0_giveUp_2 := dk_seg dksX0_giveUp_1 23 rfl rfl
theorem dksX0_giveUp_3 : cX0_giveUp.data.toList.drop 69 = dktX0_giveUp_3 := dk_seg dksX0_giveUp_2 22 rfl rfl
theorem dX0_giveUp_0 : decode cX0_giveUp 0 = .ok (.aload_n 0, 1) := dk_42 (dk_at dksX0_giveUp_0 0 rfl rfl)
theorem dX0_giveUp_1 : decode cX0_giveUp 1 = .ok (.iload_n 1, 1) := dk_27 (dk_at dksX0_giveUp_0 1 rfl rfl)
theorem dX0_giveUp_2 : decode cX0_giveUp 2 = .ok (.iload_n 2, 1) := dk_28 (dk_at dksX0_giveUp_0 2 rfl rfl)
theorem dX0_giveUp_3 : decode cX0_giveUp 3 = .ok (.invokevirtual 296, 3) := dk_182 1 40 (dk_at dksX0_giveUp_0 3 rfl rfl)
theorem dX0_giveUp_6 : decode cX0_giveUp 6 = .ok (.ifCond .ne 5, 3) := dk_154 0 5 (dk_at dksX0_giveUp_0 6 rfl rfl)
theorem dX0_giveUp_9 : decode cX0_giveUp 9 = .ok (.iconst (-1), 1) := dk_2 (dk_at dksX0_giveUp_0 9 rfl rfl)
theorem dX0_giveUp_10 : decode cX0_giveUp 10 = .ok (.ireturn, 1) := dk_172 (dk_at dksX0_giveUp_0 10 rfl rfl)
theorem dX0_giveUp_11 : decode cX0_giveUp 11 = .ok (.aload_n 0, 1) := dk_42 (dk_at dksX0_giveUp_0 11 rfl rfl)
theorem dX0_giveUp_12 : decode cX0_giveUp 12 = .ok (.invokevirtual 256, 3) := dk_182 1 0 (dk_at dksX0_giveUp_0 12 rfl rfl)
theorem dX0_giveUp_15 : decode cX0_giveUp 15 = .ok (.aload_n 0, 1) := dk_42 (dk_at dksX0_giveUp_0 15 rfl rfl)
theorem dX0_giveUp_16 : decode cX0_giveUp 16 = .ok (.getfield 19, 3) := dk_180 0 19 (dk_at dksX0_giveUp_0 16 rfl rfl)
theorem dX0_giveUp_19 : decode cX0_giveUp 19 = .ok (.getfield 172, 3) := dk_180 0 172 (dk_at dksX0_giveUp_0 19 rfl rfl)
theorem dX0_giveUp_22 : decode cX0_giveUp 22 = .ok (.iload_n 2, 1) := dk_28 (dk_at dksX0_giveUp_0 22 rfl rfl)
theorem dX0_giveUp_23 : decode cX0_giveUp 23 = .ok (.aload_n 0, 1) := dk_42 (dk_at dksX0_giveUp_0 23 rfl rfl)
theorem dX0_giveUp_24 : decode cX0_giveUp 24 = .ok (.getfield 19, 3) := dk_180 0 19 (dk_at dksX0_giveUp_1 0 rfl rfl)
theorem dX0_giveUp_27 : decode cX0_giveUp 27 = .ok (.aload_n 0, 1) := dk_42 (dk_at dksX0_giveUp_1 3 rfl rfl)
theorem dX0_giveUp_28 : decode cX0_giveUp 28 = .ok (.getfield 12, 3) := dk_180 0 12 (dk_at dksX0_giveUp_1 4 rfl rfl)
theorem dX0_giveUp_31 : decode cX0_giveUp 31 = .ok (.iload_n 1, 1) := dk_27 (dk_at dksX0_giveUp_1 7 rfl rfl)
theorem dX0_giveUp_32 : decode cX0_giveUp 32 = .ok (.invokevirtual 303, 3) := dk_182 1 47 (dk_at dksX0_giveUp_1 8 rfl rfl)
theorem dX0_giveUp_35 : decode cX0_giveUp 35 = .ok (.iastore, 1) := dk_79 (dk_at dksX0_giveUp_1 11 rfl rfl)
theorem dX0_giveUp_36 : decode cX0_giveUp 36 = .ok (.aload_n 0, 1) := dk_42 (dk_at dksX0_giveUp_1 12 rfl rfl)
theorem dX0_giveUp_37 : decode cX0_giveUp 37 = .ok (.getfield 19, 3) := dk_180 0 19 (dk_at dksX0_giveUp_1 13 rfl rfl)
theorem dX0_giveUp_40 : decode cX0_giveUp 40 = .ok (.getfield 189, 3) := dk_180 0 189 (dk_at dksX0_giveUp_1 16 rfl rfl)
theorem dX0_giveUp_43 : decode cX0_giveUp 43 = .ok (.iload_n 1, 1) := dk_27 (dk_at dksX0_giveUp_1 19 rfl rfl)
theorem dX0_giveUp_44 : decode cX0_giveUp 44 = .ok (.dup2, 1) := dk_92 (dk_at dksX0_giveUp_1 20 rfl rfl)
theorem dX0_giveUp_45 : decode cX0_giveUp 45 = .ok (.iaload, 1) := dk_46 (dk_at dksX0_giveUp_1 21 rfl rfl)
theorem dX0_giveUp_46 : decode cX0_giveUp 46 = .ok (.aload_n 0, 1) := dk_42 (dk_at dksX0_giveUp_1 22 rfl rfl)
theorem dX0_giveUp_47 : decode cX0_giveUp 47 = .ok (.getfield 12, 3) := dk_180 0 12 (dk_at dksX0_giveUp_2 0 rfl rfl)
theorem dX0_giveUp_50 : decode cX0_giveUp 50 = .ok (.iload_n 2, 1) := dk_28 (dk_at dksX0_giveUp_2 3 rfl rfl)
theorem dX0_giveUp_51 : decode cX0_giveUp 51 = .ok (.aload_n 0, 1) := dk_42 (dk_at dksX0_giveUp_2 4 rfl rfl)
theorem dX0_giveUp_52 : decode cX0_giveUp 52 = .ok (.getfield 19, 3) := dk_180 0 19 (dk_at dksX0_giveUp_2 5 rfl rfl)
theorem dX0_giveUp_55 : decode cX0_giveUp 55 = .ok (.getfield 165, 3) := dk_180 0 165 (dk_at dksX0_giveUp_2 8 rfl rfl)
theorem dX0_giveUp_58 : decode cX0_giveUp 58 = .ok (.invokevirtual 168, 3) := dk_182 0 168 (dk_at dksX0_giveUp_2 11 rfl rfl)
theorem dX0_giveUp_61 : decode cX0_giveUp 61 = .ok (.iconst 2, 1) := dk_5 (dk_at dksX0_giveUp_2 14 rfl rfl)
theorem dX0_giveUp_62 : decode cX0_giveUp 62 = .ok (.idiv, 1) := dk_108 (dk_at dksX0_giveUp_2 15 rfl rfl)
theorem dX0_giveUp_63 : decode cX0_giveUp 63 = .ok (.iadd, 1) := dk_96 (dk_at dksX0_giveUp_2 16 rfl rfl)
theorem dX0_giveUp_64 : decode cX0_giveUp 64 = .ok (.iastore, 1) := dk_79 (dk_at dksX0_giveUp_2 17 rfl rfl)
theorem dX0_giveUp_65 : decode cX0_giveUp 65 = .ok (.aload_n 0, 1) := dk_42 (dk_at dksX0_giveUp_2 18 rfl rfl)
theorem dX0_giveUp_66 : decode cX0_giveUp 66 = .ok (.getfield 19, 3) := dk_180 0 19 (dk_at dksX0_giveUp_2 19 rfl rfl)
theorem dX0_giveUp_69 : decode cX0_giveUp 69 = .ok (.getfield 189, 3) := dk_180 0 189 (dk_at dksX0_giveUp_3 0 rfl rfl)
theorem dX0_giveUp_72 : decode cX0_giveUp 72 = .ok (.iload_n 1, 1) := dk_27 (dk_at dksX0_giveUp_3 3 rfl rfl)
theorem dX0_giveUp_73 : decode cX0_giveUp 73 = .ok (.iaload, 1) := dk_46 (dk_at dksX0_giveUp_3 4 rfl rfl)
theorem dX0_giveUp_74 : decode cX0_giveUp 74 = .ok (.ireturn, 1) := dk_172 (dk_at dksX0_giveUp_3 5 rfl rfl)
abbrev cX0_run : ByteArray := prog_1_method_49_code
def yX0_run : MethodName := ⟨RX0, "run", "(II)I"⟩
def dkwX0_run_3 : List UInt8 := [182, 1, 85, 87, 132, 3, 1, 167, 255, 228, 42, 180, 0, 19, 180, 0, 165, 172]
abbrev dktX0_run_3 : List UInt8 := dkwX0_run_3 ++ []
def dkwX0_run_2 : List UInt8 := [62, 29, 28, 162, 0, 29, 42, 42, 180, 0, 19, 42, 180, 0, 31, 27, 182, 0, 153, 192, 1, 65]
abbrev dktX0_run_2 : List UInt8 := dkwX0_run_2 ++ dktX0_run_3
def dkwX0_run_1 : List UInt8 := [153, 0, 17, 42, 180, 0, 19, 180, 0, 165, 28, 96, 16, 99, 164, 0, 5, 2, 172, 42, 182, 0, 143, 3]
abbrev dktX0_run_1 : List UInt8 := dkwX0_run_1 ++ dktX0_run_2
def dkwX0_run_0 : List UInt8 := [42, 182, 0, 231, 153, 0, 37, 42, 27, 182, 1, 80, 153, 0, 29, 28, 133, 10, 20, 1, 83, 184, 0, 106]
abbrev dktX0_run_0 : List UInt8 := dkwX0_run_0 ++ dktX0_run_1
theorem dksX0_run_0 : cX0_run.data.toList.drop 0 = dktX0_run_0 := by decide +kernel
theorem dksX0_run_1 : cX0_run.data.toList.drop 24 = dktX0_run_1 := dk_seg dksX0_run_0 24 rfl rfl
theorem dksX0_run_2 : cX0_run.data.toList.drop 48 = dktX0_run_2 := dk_seg dksX0_run_1 24 rfl rfl
theorem dksX0_run_3 : cX0_run.data.toList.drop 70 = dktX0_run_3 := dk_seg dksX0_run_2 22 rfl rfl
theorem dX0_run_0 : decode cX0_run 0 = .ok (.aload_n 0, 1) := dk_42 (dk_at dksX0_run_0 0 rfl rfl)
theorem dX0_run_1 : decode cX0_run 1 = .ok (.invokevirtual 231, 3) := dk_182 0 231 (dk_at dksX0_run_0 1 rfl rfl)
theorem dX0_run_4 : decode cX0_run 4 = .ok (.ifCond .eq 37, 3) := dk_153 0 37 (dk_at dksX0_run_0 4 rfl rfl)
theorem dX0_run_7 : decode cX0_run 7 = .ok (.aload_n 0, 1) := dk_42 (dk_at dksX0_run_0 7 rfl rfl)
theorem dX0_run_8 : decode cX0_run 8 = .ok (.iload_n 1, 1) := dk_27 (dk_at dksX0_run_0 8 rfl rfl)
theorem dX0_run_9 : decode cX0_run 9 = .ok (.invokevirtual 336, 3) := dk_182 1 80 (dk_at dksX0_run_0 9 rfl rfl)
theorem dX0_run_12 : decode cX0_run 12 = .ok (.ifCond .eq 29, 3) := dk_153 0 29 (dk_at dksX0_run_0 12 rfl rfl)
theorem dX0_run_15 : decode cX0_run 15 = .ok (.iload_n 2, 1) := dk_28 (dk_at dksX0_run_0 15 rfl rfl)
theorem dX0_run_16 : decode cX0_run 16 = .ok (.i2l, 1) := dk_133 (dk_at dksX0_run_0 16 rfl rfl)
theorem dX0_run_17 : decode cX0_run 17 = .ok (.lconst 1, 1) := dk_10 (dk_at dksX0_run_0 17 rfl rfl)
theorem dX0_run_18 : decode cX0_run 18 = .ok (.ldc2_w 339, 3) := dk_20 1 83 (dk_at dksX0_run_0 18 rfl rfl)
theorem dX0_run_21 : decode cX0_run 21 = .ok (.invokestatic 106, 3) := dk_184 0 106 (dk_at dksX0_run_0 21 rfl rfl)
theorem dX0_run_24 : decode cX0_run 24 = .ok (.ifCond .eq 17, 3) := dk_153 0 17 (dk_at dksX0_run_1 0 rfl rfl)
theorem dX0_run_27 : decode cX0_run 27 = .ok (.aload_n 0, 1) := dk_42 (dk_at dksX0_run_1 3 rfl rfl)
theorem dX0_run_28 : decode cX0_run 28 = .ok (.getfield 19, 3) := dk_180 0 19 (dk_at dksX0_run_1 4 rfl rfl)
theorem dX0_run_31 : decode cX0_run 31 = .ok (.getfield 165, 3) := dk_180 0 165 (dk_at dksX0_run_1 7 rfl rfl)
theorem dX0_run_34 : decode cX0_run 34 = .ok (.iload_n 2, 1) := dk_28 (dk_at dksX0_run_1 10 rfl rfl)
theorem dX0_run_35 : decode cX0_run 35 = .ok (.iadd, 1) := dk_96 (dk_at dksX0_run_1 11 rfl rfl)
theorem dX0_run_36 : decode cX0_run 36 = .ok (.bipush 99, 2) := dk_16 99 (dk_at dksX0_run_1 12 rfl rfl)
theorem dX0_run_38 : decode cX0_run 38 = .ok (.if_icmp .le 5, 3) := dk_164 0 5 (dk_at dksX0_run_1 14 rfl rfl)
theorem dX0_run_41 : decode cX0_run 41 = .ok (.iconst (-1), 1) := dk_2 (dk_at dksX0_run_1 17 rfl rfl)
theorem dX0_run_42 : decode cX0_run 42 = .ok (.ireturn, 1) := dk_172 (dk_at dksX0_run_1 18 rfl rfl)
theorem dX0_run_43 : decode cX0_run 43 = .ok (.aload_n 0, 1) := dk_42 (dk_at dksX0_run_1 19 rfl rfl)
theorem dX0_run_44 : decode cX0_run 44 = .ok (.invokevirtual 143, 3) := dk_182 0 143 (dk_at dksX0_run_1 20 rfl rfl)
theorem dX0_run_47 : decode cX0_run 47 = .ok (.iconst 0, 1) := dk_3 (dk_at dksX0_run_1 23 rfl rfl)
theorem dX0_run_48 : decode cX0_run 48 = .ok (.istore_n 3, 1) := dk_62 (dk_at dksX0_run_2 0 rfl rfl)
theorem dX0_run_49 : decode cX0_run 49 = .ok (.iload_n 3, 1) := dk_29 (dk_at dksX0_run_2 1 rfl rfl)
theorem dX0_run_50 : decode cX0_run 50 = .ok (.iload_n 2, 1) := dk_28 (dk_at dksX0_run_2 2 rfl rfl)
theorem dX0_run_51 : decode cX0_run 51 = .ok (.if_icmp .ge 29, 3) := dk_162 0 29 (dk_at dksX0_run_2 3 rfl rfl)
theorem dX0_run_54 : decode cX0_run 54 = .ok (.aload_n 0, 1) := dk_42 (dk_at dksX0_run_2 6 rfl rfl)
theorem dX0_run_55 : decode cX0_run 55 = .ok (.aload_n 0, 1) := dk_42 (dk_at dksX0_run_2 7 rfl rfl)
theorem dX0_run_56 : decode cX0_run 56 = .ok (.getfield 19, 3) := dk_180 0 19 (dk_at dksX0_run_2 8 rfl rfl)
theorem dX0_run_59 : decode cX0_run 59 = .ok (.aload_n 0, 1) := dk_42 (dk_at dksX0_run_2 11 rfl rfl)
theorem dX0_run_60 : decode cX0_run 60 = .ok (.getfield 31, 3) := dk_180 0 31 (dk_at dksX0_run_2 12 rfl rfl)
theorem dX0_run_63 : decode cX0_run 63 = .ok (.iload_n 1, 1) := dk_27 (dk_at dksX0_run_2 15 rfl rfl)
theorem dX0_run_64 : decode cX0_run 64 = .ok (.invokevirtual 153, 3) := dk_182 0 153 (dk_at dksX0_run_2 16 rfl rfl)
theorem dX0_run_67 : decode cX0_run 67 = .ok (.checkcast 321, 3) := dk_192 1 65 (dk_at dksX0_run_2 19 rfl rfl)
theorem dX0_run_70 : decode cX0_run 70 = .ok (.invokevirtual 341, 3) := dk_182 1 85 (dk_at dksX0_run_3 0 rfl rfl)
theorem dX0_run_73 : decode cX0_run 73 = .ok (.pop, 1) := dk_87 (dk_at dksX0_run_3 3 rfl rfl)
theorem dX0_run_74 : decode cX0_run 74 = .ok (.iinc 3 1, 3) := dk_132 3 1 (dk_at dksX0_run_3 4 rfl rfl)
theorem dX0_run_77 : decode cX0_run 77 = .ok (.goto (-28), 3) := dk_167 255 228 (dk_at dksX0_run_3 7 rfl rfl)
theorem dX0_run_80 : decode cX0_run 80 = .ok (.aload_n 0, 1) := dk_42 (dk_at dksX0_run_3 10 rfl rfl)
theorem dX0_run_81 : decode cX0_run 81 = .ok (.getfield 19, 3) := dk_180 0 19 (dk_at dksX0_run_3 11 rfl rfl)
theorem dX0_run_84 : decode cX0_run 84 = .ok (.getfield 165, 3) := dk_180 0 165 (dk_at dksX0_run_3 14 rfl rfl)
theorem dX0_run_87 : decode cX0_run 87 = .ok (.ireturn, 1) := dk_172 (dk_at dksX0_run_3 17 rfl rfl)
abbrev cX0_isRule : ByteArray := prog_1_method_12_code
def yX0_isRule : MethodName := ⟨RX0, "isRule", "(I)Z"⟩
def dkwX0_isRule_0 : List UInt8 := [27, 133, 9, 42, 180, 0, 31, 182, 0, 96, 4, 100, 133, 184, 0, 106, 172]
abbrev dktX0_isRule_0 : List UInt8 := dkwX0_isRule_0 ++ []
theorem dksX0_isRule_0 : cX0_isRule.data.toList.drop 0 = dktX0_isRule_0 := by decide +kernel
theorem dX0_isRule_0 : decode cX0_isRule 0 = .ok (.iload_n 1, 1) := dk_27 (dk_at dksX0_isRule_0 0 rfl rfl)
theorem dX0_isRule_1 : decode cX0_isRule 1 = .ok (.i2l, 1) := dk_133 (dk_at dksX0_isRule_0 1 rfl rfl)
theorem dX0_isRule_2 : decode cX0_isRule 2 = .ok (.lconst 0, 1) := dk_9 (dk_at dksX0_isRule_0 2 rfl rfl)
theorem dX0_isRule_3 : decode cX0_isRule 3 = .ok (.aload_n 0, 1) := dk_42 (dk_at dksX0_isRule_0 3 rfl rfl)
theorem dX0_isRule_4 : decode cX0_isRule 4 = .ok (.getfield 31, 3) := dk_180 0 31 (dk_at dksX0_isRule_0 4 rfl rfl)
theorem dX0_isRule_7 : decode cX0_isRule 7 = .ok (.invokevirtual 96, 3) := dk_182 0 96 (dk_at dksX0_isRule_0 7 rfl rfl)
theorem dX0_isRule_10 : decode cX0_isRule 10 = .ok (.iconst 1, 1) := dk_4 (dk_at dksX0_isRule_0 10 rfl rfl)
theorem dX0_isRule_11 : decode cX0_isRule 11 = .ok (.isub, 1) := dk_100 (dk_at dksX0_isRule_0 11 rfl rfl)
theorem dX0_isRule_12 : decode cX0_isRule 12 = .ok (.i2l, 1) := dk_133 (dk_at dksX0_isRule_0 12 rfl rfl)
theorem dX0_isRule_13 : decode cX0_isRule 13 = .ok (.invokestatic 106, 3) := dk_184 0 106 (dk_at dksX0_isRule_0 13 rfl rfl)
theorem dX0_isRule_16 : decode cX0_isRule 16 = .ok (.ireturn, 1) := dk_172 (dk_at dksX0_isRule_0 16 rfl rfl)
abbrev cX0_hourBy : ByteArray := prog_1_method_48_code
def yX0_hourBy : MethodName := ⟨RX0, "hourBy", "(LHalfFair$State;LHalfFair$Rule;)I"⟩
def dkwX0_hourBy_2 : List UInt8 := [167, 255, 215, 43, 42, 180, 0, 12, 182, 1, 7, 29, 172]
abbrev dktX0_hourBy_2 : List UInt8 := dkwX0_hourBy_2 ++ []
def dkwX0_hourBy_1 : List UInt8 := [62, 43, 42, 180, 0, 12, 21, 4, 42, 43, 21, 4, 44, 182, 1, 77, 182, 1, 3, 132, 4, 1]
abbrev dktX0_hourBy_1 : List UInt8 := dkwX0_hourBy_1 ++ dktX0_hourBy_2
def dkwX0_hourBy_0 : List UInt8 := [3, 62, 3, 54, 4, 21, 4, 42, 182, 0, 110, 162, 0, 38, 29, 42, 43, 21, 4, 44, 182, 1, 74, 128]
abbrev dktX0_hourBy_0 : List UInt8 := dkwX0_hourBy_0 ++ dktX0_hourBy_1
theorem dksX0_hourBy_0 : cX0_hourBy.data.toList.drop 0 = dktX0_hourBy_0 := by decide +kernel
theorem dksX0_hourBy_1 : cX0_hourBy.data.toList.drop 24 = dktX0_hourBy_1 := dk_seg dksX0_hourBy_0 24 rfl rfl
theorem dksX0_hourBy_2 : cX0_hourBy.data.toList.drop 46 = dktX0_hourBy_2 := dk_seg dksX0_hourBy_1 22 rfl rfl
theorem dX0_hourBy_0 : decode cX0_hourBy 0 = .ok (.iconst 0, 1) := dk_3 (dk_at dksX0_hourBy_0 0 rfl rfl)
theorem dX0_hourBy_1 : decode cX0_hourBy 1 = .ok (.istore_n 3, 1) := dk_62 (dk_at dksX0_hourBy_0 1 rfl rfl)
theorem dX0_hourBy_2 : decode cX0_hourBy 2 = .ok (.iconst 0, 1) := dk_3 (dk_at dksX0_hourBy_0 2 rfl rfl)
theorem dX0_hourBy_3 : decode cX0_hourBy 3 = .ok (.istore 4, 2) := dk_54 4 (dk_at dksX0_hourBy_0 3 rfl rfl)
theorem dX0_hourBy_5 : decode cX0_hourBy 5 = .ok (.iload 4, 2) := dk_21 4 (dk_at dksX0_hourBy_0 5 rfl rfl)
theorem dX0_hourBy_7 : decode cX0_hourBy 7 = .ok (.aload_n 0, 1) := dk_42 (dk_at dksX0_hourBy_0 7 rfl rfl)
theorem dX0_hourBy_8 : decode cX0_hourBy 8 = .ok (.invokevirtual 110, 3) := dk_182 0 110 (dk_at dksX0_hourBy_0 8 rfl rfl)
theorem dX0_hourBy_11 : decode cX0_hourBy 11 = .ok (.if_icmp .ge 38, 3) := dk_162 0 38 (dk_at dksX0_hourBy_0 11 rfl rfl)
theorem dX0_hourBy_14 : decode cX0_hourBy 14 = .ok (.iload_n 3, 1) := dk_29 (dk_at dksX0_hourBy_0 14 rfl rfl)
theorem dX0_hourBy_15 : decode cX0_hourBy 15 = .ok (.aload_n 0, 1) := dk_42 (dk_at dksX0_hourBy_0 15 rfl rfl)
theorem dX0_hourBy_16 : decode cX0_hourBy 16 = .ok (.aload_n 1, 1) := dk_43 (dk_at dksX0_hourBy_0 16 rfl rfl)
theorem dX0_hourBy_17 : decode cX0_hourBy 17 = .ok (.iload 4, 2) := dk_21 4 (dk_at dksX0_hourBy_0 17 rfl rfl)
theorem dX0_hourBy_19 : decode cX0_hourBy 19 = .ok (.aload_n 2, 1) := dk_44 (dk_at dksX0_hourBy_0 19 rfl rfl)
theorem dX0_hourBy_20 : decode cX0_hourBy 20 = .ok (.invokevirtual 330, 3) := dk_182 1 74 (dk_at dksX0_hourBy_0 20 rfl rfl)
theorem dX0_hourBy_23 : decode cX0_hourBy 23 = .ok (.ior, 1) := dk_128 (dk_at dksX0_hourBy_0 23 rfl rfl)
theorem dX0_hourBy_24 : decode cX0_hourBy 24 = .ok (.istore_n 3, 1) := dk_62 (dk_at dksX0_hourBy_1 0 rfl rfl)
theorem dX0_hourBy_25 : decode cX0_hourBy 25 = .ok (.aload_n 1, 1) := dk_43 (dk_at dksX0_hourBy_1 1 rfl rfl)
theorem dX0_hourBy_26 : decode cX0_hourBy 26 = .ok (.aload_n 0, 1) := dk_42 (dk_at dksX0_hourBy_1 2 rfl rfl)
theorem dX0_hourBy_27 : decode cX0_hourBy 27 = .ok (.getfield 12, 3) := dk_180 0 12 (dk_at dksX0_hourBy_1 3 rfl rfl)
theorem dX0_hourBy_30 : decode cX0_hourBy 30 = .ok (.iload 4, 2) := dk_21 4 (dk_at dksX0_hourBy_1 6 rfl rfl)
theorem dX0_hourBy_32 : decode cX0_hourBy 32 = .ok (.aload_n 0, 1) := dk_42 (dk_at dksX0_hourBy_1 8 rfl rfl)
theorem dX0_hourBy_33 : decode cX0_hourBy 33 = .ok (.aload_n 1, 1) := dk_43 (dk_at dksX0_hourBy_1 9 rfl rfl)
theorem dX0_hourBy_34 : decode cX0_hourBy 34 = .ok (.iload 4, 2) := dk_21 4 (dk_at dksX0_hourBy_1 10 rfl rfl)
theorem dX0_hourBy_36 : decode cX0_hourBy 36 = .ok (.aload_n 2, 1) := dk_44 (dk_at dksX0_hourBy_1 12 rfl rfl)
theorem dX0_hourBy_37 : decode cX0_hourBy 37 = .ok (.invokevirtual 333, 3) := dk_182 1 77 (dk_at dksX0_hourBy_1 13 rfl rfl)
theorem dX0_hourBy_40 : decode cX0_hourBy 40 = .ok (.invokevirtual 259, 3) := dk_182 1 3 (dk_at dksX0_hourBy_1 16 rfl rfl)
theorem dX0_hourBy_43 : decode cX0_hourBy 43 = .ok (.iinc 4 1, 3) := dk_132 4 1 (dk_at dksX0_hourBy_1 19 rfl rfl)
theorem dX0_hourBy_46 : decode cX0_hourBy 46 = .ok (.goto (-41), 3) := dk_167 255 215 (dk_at dksX0_hourBy_2 0 rfl rfl)
theorem dX0_hourBy_49 : decode cX0_hourBy 49 = .ok (.aload_n 1, 1) := dk_43 (dk_at dksX0_hourBy_2 3 rfl rfl)
theorem dX0_hourBy_50 : decode cX0_hourBy 50 = .ok (.aload_n 0, 1) := dk_42 (dk_at dksX0_hourBy_2 4 rfl rfl)
theorem dX0_hourBy_51 : decode cX0_hourBy 51 = .ok (.getfield 12, 3) := dk_180 0 12 (dk_at dksX0_hourBy_2 5 rfl rfl)
theorem dX0_hourBy_54 : decode cX0_hourBy 54 = .ok (.invokevirtual 263, 3) := dk_182 1 7 (dk_at dksX0_hourBy_2 8 rfl rfl)
theorem dX0_hourBy_57 : decode cX0_hourBy 57 = .ok (.iload_n 3, 1) := dk_29 (dk_at dksX0_hourBy_2 11 rfl rfl)
theorem dX0_hourBy_58 : decode cX0_hourBy 58 = .ok (.ireturn, 1) := dk_172 (dk_at dksX0_hourBy_2 12 rfl rfl)
abbrev cX0_buysBy : ByteArray := prog_1_method_46_code
def yX0_buysBy : MethodName := ⟨RX0, "buysBy", "(LHalfFair$State;ILHalfFair$Rule;)I"⟩
def dkwX0_buysBy_2 : List UInt8 := [167, 255, 221, 21, 4, 172]
abbrev dktX0_buysBy_2 : List UInt8 := dkwX0_buysBy_2 ++ []
def dkwX0_buysBy_1 : List UInt8 := [21, 5, 182, 1, 14, 21, 4, 4, 21, 5, 120, 128, 54, 4, 42, 43, 28, 45, 182, 1, 70, 54, 5]
abbrev dktX0_buysBy_1 : List UInt8 := dkwX0_buysBy_1 ++ dktX0_buysBy_2
def dkwX0_buysBy_0 : List UInt8 := [3, 54, 4, 42, 43, 28, 45, 182, 1, 70, 54, 5, 21, 5, 2, 159, 0, 35, 43, 42, 180, 0, 12, 28]
abbrev dktX0_buysBy_0 : List UInt8 := dkwX0_buysBy_0 ++ dktX0_buysBy_1
theorem dksX0_buysBy_0 : cX0_buysBy.data.toList.drop 0 = dktX0_buysBy_0 := by decide +kernel
theorem dksX0_buysBy_1 : cX0_buysBy.data.toList.drop 24 = dktX0_buysBy_1 := dk_seg dksX0_buysBy_0 24 rfl rfl
theorem dksX0_buysBy_2 : cX0_buysBy.data.toList.drop 47 = dktX0_buysBy_2 := dk_seg dksX0_buysBy_1 23 rfl rfl
theorem dX0_buysBy_0 : decode cX0_buysBy 0 = .ok (.iconst 0, 1) := dk_3 (dk_at dksX0_buysBy_0 0 rfl rfl)
theorem dX0_buysBy_1 : decode cX0_buysBy 1 = .ok (.istore 4, 2) := dk_54 4 (dk_at dksX0_buysBy_0 1 rfl rfl)
theorem dX0_buysBy_3 : decode cX0_buysBy 3 = .ok (.aload_n 0, 1) := dk_42 (dk_at dksX0_buysBy_0 3 rfl rfl)
theorem dX0_buysBy_4 : decode cX0_buysBy 4 = .ok (.aload_n 1, 1) := dk_43 (dk_at dksX0_buysBy_0 4 rfl rfl)
theorem dX0_buysBy_5 : decode cX0_buysBy 5 = .ok (.iload_n 2, 1) := dk_28 (dk_at dksX0_buysBy_0 5 rfl rfl)
theorem dX0_buysBy_6 : decode cX0_buysBy 6 = .ok (.aload_n 3, 1) := dk_45 (dk_at dksX0_buysBy_0 6 rfl rfl)
theorem dX0_buysBy_7 : decode cX0_buysBy 7 = .ok (.invokevirtual 326, 3) := dk_182 1 70 (dk_at dksX0_buysBy_0 7 rfl rfl)
theorem dX0_buysBy_10 : decode cX0_buysBy 10 = .ok (.istore 5, 2) := dk_54 5 (dk_at dksX0_buysBy_0 10 rfl rfl)
theorem dX0_buysBy_12 : decode cX0_buysBy 12 = .ok (.iload 5, 2) := dk_21 5 (dk_at dksX0_buysBy_0 12 rfl rfl)
theorem dX0_buysBy_14 : decode cX0_buysBy 14 = .ok (.iconst (-1), 1) := dk_2 (dk_at dksX0_buysBy_0 14 rfl rfl)
theorem dX0_buysBy_15 : decode cX0_buysBy 15 = .ok (.if_icmp .eq 35, 3) := dk_159 0 35 (dk_at dksX0_buysBy_0 15 rfl rfl)
theorem dX0_buysBy_18 : decode cX0_buysBy 18 = .ok (.aload_n 1, 1) := dk_43 (dk_at dksX0_buysBy_0 18 rfl rfl)
theorem dX0_buysBy_19 : decode cX0_buysBy 19 = .ok (.aload_n 0, 1) := dk_42 (dk_at dksX0_buysBy_0 19 rfl rfl)
theorem dX0_buysBy_20 : decode cX0_buysBy 20 = .ok (.getfield 12, 3) := dk_180 0 12 (dk_at dksX0_buysBy_0 20 rfl rfl)
theorem dX0_buysBy_23 : decode cX0_buysBy 23 = .ok (.iload_n 2, 1) := dk_28 (dk_at dksX0_buysBy_0 23 rfl rfl)
theorem dX0_buysBy_24 : decode cX0_buysBy 24 = .ok (.iload 5, 2) := dk_21 5 (dk_at dksX0_buysBy_1 0 rfl rfl)
theorem dX0_buysBy_26 : decode cX0_buysBy 26 = .ok (.invokevirtual 270, 3) := dk_182 1 14 (dk_at dksX0_buysBy_1 2 rfl rfl)
theorem dX0_buysBy_29 : decode cX0_buysBy 29 = .ok (.iload 4, 2) := dk_21 4 (dk_at dksX0_buysBy_1 5 rfl rfl)
theorem dX0_buysBy_31 : decode cX0_buysBy 31 = .ok (.iconst 1, 1) := dk_4 (dk_at dksX0_buysBy_1 7 rfl rfl)
theorem dX0_buysBy_32 : decode cX0_buysBy 32 = .ok (.iload 5, 2) := dk_21 5 (dk_at dksX0_buysBy_1 8 rfl rfl)
theorem dX0_buysBy_34 : decode cX0_buysBy 34 = .ok (.ishl, 1) := dk_120 (dk_at dksX0_buysBy_1 10 rfl rfl)
theorem dX0_buysBy_35 : decode cX0_buysBy 35 = .ok (.ior, 1) := dk_128 (dk_at dksX0_buysBy_1 11 rfl rfl)
theorem dX0_buysBy_36 : decode cX0_buysBy 36 = .ok (.istore 4, 2) := dk_54 4 (dk_at dksX0_buysBy_1 12 rfl rfl)
theorem dX0_buysBy_38 : decode cX0_buysBy 38 = .ok (.aload_n 0, 1) := dk_42 (dk_at dksX0_buysBy_1 14 rfl rfl)
theorem dX0_buysBy_39 : decode cX0_buysBy 39 = .ok (.aload_n 1, 1) := dk_43 (dk_at dksX0_buysBy_1 15 rfl rfl)
theorem dX0_buysBy_40 : decode cX0_buysBy 40 = .ok (.iload_n 2, 1) := dk_28 (dk_at dksX0_buysBy_1 16 rfl rfl)
theorem dX0_buysBy_41 : decode cX0_buysBy 41 = .ok (.aload_n 3, 1) := dk_45 (dk_at dksX0_buysBy_1 17 rfl rfl)
theorem dX0_buysBy_42 : decode cX0_buysBy 42 = .ok (.invokevirtual 326, 3) := dk_182 1 70 (dk_at dksX0_buysBy_1 18 rfl rfl)
theorem dX0_buysBy_45 : decode cX0_buysBy 45 = .ok (.istore 5, 2) := dk_54 5 (dk_at dksX0_buysBy_1 21 rfl rfl)
theorem dX0_buysBy_47 : decode cX0_buysBy 47 = .ok (.goto (-35), 3) := dk_167 255 221 (dk_at dksX0_buysBy_2 0 rfl rfl)
theorem dX0_buysBy_50 : decode cX0_buysBy 50 = .ok (.iload 4, 2) := dk_21 4 (dk_at dksX0_buysBy_2 3 rfl rfl)
theorem dX0_buysBy_52 : decode cX0_buysBy 52 = .ok (.ireturn, 1) := dk_172 (dk_at dksX0_buysBy_2 5 rfl rfl)
abbrev cX0_wanted : ByteArray := prog_1_method_45_code
def yX0_wanted : MethodName := ⟨RX0, "wanted", "(LHalfFair$State;ILHalfFair$Rule;)I"⟩
def dkwX0_wanted_3 : List UInt8 := [22, 8, 55, 5, 132, 7, 1, 167, 255, 189, 21, 4, 172]
abbrev dktX0_wanted_3 : List UInt8 := dkwX0_wanted_3 ++ []
def dkwX0_wanted_2 : List UInt8 := [180, 0, 72, 182, 1, 64, 55, 8, 22, 8, 22, 5, 148, 157, 0, 6, 167, 0, 11, 21, 7, 54, 4]
abbrev dktX0_wanted_2 : List UInt8 := dkwX0_wanted_2 ++ dktX0_wanted_3
def dkwX0_wanted_1 : List UInt8 := [21, 7, 182, 1, 10, 154, 0, 6, 167, 0, 41, 42, 43, 28, 21, 7, 182, 1, 60, 45, 4, 42]
abbrev dktX0_wanted_1 : List UInt8 := dkwX0_wanted_1 ++ dktX0_wanted_2
def dkwX0_wanted_0 : List UInt8 := [2, 54, 4, 9, 55, 5, 3, 54, 7, 21, 7, 42, 182, 0, 103, 162, 0, 64, 43, 42, 180, 0, 12, 28]
abbrev dktX0_wanted_0 : List UInt8 := dkwX0_wanted_0 ++ dktX0_wanted_1
theorem dksX0_wanted_0 : cX0_wanted.data.toList.drop 0 = dktX0_wanted_0 := by decide +kernel
theorem dksX0_wanted_1 : cX0_wanted.data.toList.drop 24 = dktX0_wanted_1 := dk_seg dksX0_wanted_0 24 rfl rfl
theorem dksX0_wanted_2 : cX0_wanted.data.toList.drop 46 = dktX0_wanted_2 := dk_seg dksX0_wanted_1 22 rfl rfl
theorem dksX0_wanted_3 : cX0_wanted.data.toList.drop 69 = dktX0_wanted_3 := dk_seg dksX0_wanted_2 23 rfl rfl
theorem dX0_wanted_0 : decode cX0_wanted 0 = .ok (.iconst (-1), 1) := dk_2 (dk_at dksX0_wanted_0 0 rfl rfl)
theorem dX0_wanted_1 : decode cX0_wanted 1 = .ok (.istore 4, 2) := dk_54 4 (dk_at dksX0_wanted_0 1 rfl rfl)
theorem dX0_wanted_3 : decode cX0_wanted 3 = .ok (.lconst 0, 1) := dk_9 (dk_at dksX0_wanted_0 3 rfl rfl)
theorem dX0_wanted_4 : decode cX0_wanted 4 = .ok (.lstore 5, 2) := dk_55 5 (dk_at dksX0_wanted_0 4 rfl rfl)
theorem dX0_wanted_6 : decode cX0_wanted 6 = .ok (.iconst 0, 1) := dk_3 (dk_at dksX0_wanted_0 6 rfl rfl)
theorem dX0_wanted_7 : decode cX0_wanted 7 = .ok (.istore 7, 2) := dk_54 7 (dk_at dksX0_wanted_0 7 rfl rfl)
theorem dX0_wanted_9 : decode cX0_wanted 9 = .ok (.iload 7, 2) := dk_21 7 (dk_at dksX0_wanted_0 9 rfl rfl)
theorem dX0_wanted_11 : decode cX0_wanted 11 = .ok (.aload_n 0, 1) := dk_42 (dk_at dksX0_wanted_0 11 rfl rfl)
theorem dX0_wanted_12 : decode cX0_wanted 12 = .ok (.invokevirtual 103, 3) := dk_182 0 103 (dk_at dksX0_wanted_0 12 rfl rfl)
theorem dX0_wanted_15 : decode cX0_wanted 15 = .ok (.if_icmp .ge 64, 3) := dk_162 0 64 (dk_at dksX0_wanted_0 15 rfl rfl)
theorem dX0_wanted_18 : decode cX0_wanted 18 = .ok (.aload_n 1, 1) := dk_43 (dk_at dksX0_wanted_0 18 rfl rfl)
theorem dX0_wanted_19 : decode cX0_wanted 19 = .ok (.aload_n 0, 1) := dk_42 (dk_at dksX0_wanted_0 19 rfl rfl)
theorem dX0_wanted_20 : decode cX0_wanted 20 = .ok (.getfield 12, 3) := dk_180 0 12 (dk_at dksX0_wanted_0 20 rfl rfl)
theorem dX0_wanted_23 : decode cX0_wanted 23 = .ok (.iload_n 2, 1) := dk_28 (dk_at dksX0_wanted_0 23 rfl rfl)
theorem dX0_wanted_24 : decode cX0_wanted 24 = .ok (.iload 7, 2) := dk_21 7 (dk_at dksX0_wanted_1 0 rfl rfl)
theorem dX0_wanted_26 : decode cX0_wanted 26 = .ok (.invokevirtual 266, 3) := dk_182 1 10 (dk_at dksX0_wanted_1 2 rfl rfl)
theorem dX0_wanted_29 : decode cX0_wanted 29 = .ok (.ifCond .ne 6, 3) := dk_154 0 6 (dk_at dksX0_wanted_1 5 rfl rfl)
theorem dX0_wanted_32 : decode cX0_wanted 32 = .ok (.goto 41, 3) := dk_167 0 41 (dk_at dksX0_wanted_1 8 rfl rfl)
theorem dX0_wanted_35 : decode cX0_wanted 35 = .ok (.aload_n 0, 1) := dk_42 (dk_at dksX0_wanted_1 11 rfl rfl)
theorem dX0_wanted_36 : decode cX0_wanted 36 = .ok (.aload_n 1, 1) := dk_43 (dk_at dksX0_wanted_1 12 rfl rfl)
theorem dX0_wanted_37 : decode cX0_wanted 37 = .ok (.iload_n 2, 1) := dk_28 (dk_at dksX0_wanted_1 13 rfl rfl)
theorem dX0_wanted_38 : decode cX0_wanted 38 = .ok (.iload 7, 2) := dk_21 7 (dk_at dksX0_wanted_1 14 rfl rfl)
theorem dX0_wanted_40 : decode cX0_wanted 40 = .ok (.invokevirtual 316, 3) := dk_182 1 60 (dk_at dksX0_wanted_1 16 rfl rfl)
theorem dX0_wanted_43 : decode cX0_wanted 43 = .ok (.aload_n 3, 1) := dk_45 (dk_at dksX0_wanted_1 19 rfl rfl)
theorem dX0_wanted_44 : decode cX0_wanted 44 = .ok (.iconst 1, 1) := dk_4 (dk_at dksX0_wanted_1 20 rfl rfl)
theorem dX0_wanted_45 : decode cX0_wanted 45 = .ok (.aload_n 0, 1) := dk_42 (dk_at dksX0_wanted_1 21 rfl rfl)
theorem dX0_wanted_46 : decode cX0_wanted 46 = .ok (.getfield 72, 3) := dk_180 0 72 (dk_at dksX0_wanted_2 0 rfl rfl)
theorem dX0_wanted_49 : decode cX0_wanted 49 = .ok (.invokevirtual 320, 3) := dk_182 1 64 (dk_at dksX0_wanted_2 3 rfl rfl)
theorem dX0_wanted_52 : decode cX0_wanted 52 = .ok (.lstore 8, 2) := dk_55 8 (dk_at dksX0_wanted_2 6 rfl rfl)
theorem dX0_wanted_54 : decode cX0_wanted 54 = .ok (.lload 8, 2) := dk_22 8 (dk_at dksX0_wanted_2 8 rfl rfl)
theorem dX0_wanted_56 : decode cX0_wanted 56 = .ok (.lload 5, 2) := dk_22 5 (dk_at dksX0_wanted_2 10 rfl rfl)
theorem dX0_wanted_58 : decode cX0_wanted 58 = .ok (.lcmp, 1) := dk_148 (dk_at dksX0_wanted_2 12 rfl rfl)
theorem dX0_wanted_59 : decode cX0_wanted 59 = .ok (.ifCond .gt 6, 3) := dk_157 0 6 (dk_at dksX0_wanted_2 13 rfl rfl)
theorem dX0_wanted_62 : decode cX0_wanted 62 = .ok (.goto 11, 3) := dk_167 0 11 (dk_at dksX0_wanted_2 16 rfl rfl)
theorem dX0_wanted_65 : decode cX0_wanted 65 = .ok (.iload 7, 2) := dk_21 7 (dk_at dksX0_wanted_2 19 rfl rfl)
theorem dX0_wanted_67 : decode cX0_wanted 67 = .ok (.istore 4, 2) := dk_54 4 (dk_at dksX0_wanted_2 21 rfl rfl)
theorem dX0_wanted_69 : decode cX0_wanted 69 = .ok (.lload 8, 2) := dk_22 8 (dk_at dksX0_wanted_3 0 rfl rfl)
theorem dX0_wanted_71 : decode cX0_wanted 71 = .ok (.lstore 5, 2) := dk_55 5 (dk_at dksX0_wanted_3 2 rfl rfl)
theorem dX0_wanted_73 : decode cX0_wanted 73 = .ok (.iinc 7 1, 3) := dk_132 7 1 (dk_at dksX0_wanted_3 4 rfl rfl)
theorem dX0_wanted_76 : decode cX0_wanted 76 = .ok (.goto (-67), 3) := dk_167 255 189 (dk_at dksX0_wanted_3 7 rfl rfl)
theorem dX0_wanted_79 : decode cX0_wanted 79 = .ok (.iload 4, 2) := dk_21 4 (dk_at dksX0_wanted_3 10 rfl rfl)
theorem dX0_wanted_81 : decode cX0_wanted 81 = .ok (.ireturn, 1) := dk_172 (dk_at dksX0_wanted_3 12 rfl rfl)
abbrev cX0_asks : ByteArray := prog_1_method_44_code
def yX0_asks : MethodName := ⟨RX0, "asks", "(LHalfFair$State;II)V"⟩
def dkwX0_asks_11 : List UInt8 := [126, 5, 182, 1, 53, 133, 80, 177]
abbrev dktX0_asks_11 : List UInt8 := dkwX0_asks_11 ++ []
def dkwX0_asks_10 : List UInt8 := [180, 0, 72, 16, 12, 42, 29, 43, 42, 180, 0, 12, 28, 182, 0, 199, 43, 42, 180, 0, 12, 182, 1, 56]
abbrev dktX0_asks_10 : List UInt8 := dkwX0_asks_10 ++ dktX0_asks_11
def dkwX0_asks_9 : List UInt8 := [5, 182, 1, 53, 133, 80, 42, 180, 0, 72, 16, 11, 42, 29, 21, 4, 4, 182, 1, 53, 133, 80, 42]
abbrev dktX0_asks_9 : List UInt8 := dkwX0_asks_9 ++ dktX0_asks_10
def dkwX0_asks_8 : List UInt8 := [42, 180, 0, 12, 29, 43, 180, 0, 165, 182, 0, 168, 133, 80, 42, 180, 0, 72, 16, 10, 42, 29, 21, 4]
abbrev dktX0_asks_8 : List UInt8 := dkwX0_asks_8 ++ dktX0_asks_9
def dkwX0_asks_7 : List UInt8 := [180, 0, 12, 180, 0, 93, 29, 182, 0, 153, 192, 0, 157, 180, 0, 162, 133, 80, 42, 180, 0, 72, 16, 9]
abbrev dktX0_asks_7 : List UInt8 := dkwX0_asks_7 ++ dktX0_asks_8
def dkwX0_asks_6 : List UInt8 := [180, 0, 93, 29, 182, 0, 153, 192, 0, 157, 180, 0, 159, 133, 80, 42, 180, 0, 72, 16, 8, 42]
abbrev dktX0_asks_6 : List UInt8 := dkwX0_asks_6 ++ dktX0_asks_7
def dkwX0_asks_5 : List UInt8 := [160, 0, 4, 177, 42, 180, 0, 72, 16, 6, 29, 133, 80, 42, 180, 0, 72, 16, 7, 42, 180, 0, 12]
abbrev dktX0_asks_5 : List UInt8 := dkwX0_asks_5 ++ dktX0_asks_6
def dkwX0_asks_4 : List UInt8 := [180, 0, 72, 190, 162, 0, 17, 42, 180, 0, 72, 21, 5, 9, 80, 132, 5, 1, 167, 255, 235, 29, 2]
abbrev dktX0_asks_4 : List UInt8 := dkwX0_asks_4 ++ dktX0_asks_5
def dkwX0_asks_3 : List UInt8 := [182, 1, 50, 133, 80, 42, 180, 0, 72, 8, 21, 4, 184, 1, 35, 133, 80, 16, 6, 54, 5, 21, 5, 42]
abbrev dktX0_asks_3 : List UInt8 := dkwX0_asks_3 ++ dktX0_asks_4
def dkwX0_asks_2 : List UInt8 := [180, 0, 72, 6, 43, 180, 0, 165, 133, 80, 42, 180, 0, 72, 7, 42, 180, 0, 12, 43, 180, 0, 165]
abbrev dktX0_asks_2 : List UInt8 := dkwX0_asks_2 ++ dktX0_asks_3
def dkwX0_asks_1 : List UInt8 := [43, 180, 0, 189, 28, 46, 133, 80, 42, 180, 0, 72, 5, 43, 180, 0, 192, 28, 46, 133, 80, 42]
abbrev dktX0_asks_1 : List UInt8 := dkwX0_asks_1 ++ dktX0_asks_2
def dkwX0_asks_0 : List UInt8 := [43, 42, 180, 0, 12, 28, 182, 0, 195, 54, 4, 42, 180, 0, 72, 3, 28, 133, 80, 42, 180, 0, 72, 4]
abbrev dktX0_asks_0 : List UInt8 := dkwX0_asks_0 ++ dktX0_asks_1
theorem dksX0_asks_0 : cX0_asks.data.toList.drop 0 = dktX0_asks_0 := by decide +kernel
theorem dksX0_asks_1 : cX0_asks.data.toList.drop 24 = dktX0_asks_1 := dk_seg dksX0_asks_0 24 rfl rfl
theorem dksX0_asks_2 : cX0_asks.data.toList.drop 46 = dktX0_asks_2 := dk_seg dksX0_asks_1 22 rfl rfl
theorem dksX0_asks_3 : cX0_asks.data.toList.drop 69 = dktX0_asks_3 := dk_seg dksX0_asks_2 23 rfl rfl
theorem dksX0_asks_4 : cX0_asks.data.toList.drop 93 = dktX0_asks_4 := dk_seg dksX0_asks_3 24 rfl rfl
theorem dksX0_asks_5 : cX0_asks.data.toList.drop 116 = dktX0_asks_5 := dk_seg dksX0_asks_4 23 rfl rfl
theorem dksX0_asks_6 : cX0_asks.data.toList.drop 139 = dktX0_asks_6 := dk_seg dksX0_asks_5 23 rfl rfl
theorem dksX0_asks_7 : cX0_asks.data.toList.drop 161 = dktX0_asks_7 := dk_seg dksX0_asks_6 22 rfl rfl
theorem dksX0_asks_8 : cX0_asks.data.toList.drop 185 = dktX0_asks_8 := dk_seg dksX0_asks_7 24 rfl rfl
theorem dksX0_asks_9 : cX0_asks.data.toList.drop 209 = dktX0_asks_9 := dk_seg dksX0_asks_8 24 rfl rfl
theorem dksX0_asks_10 : cX0_asks.data.toList.drop 232 = dktX0_asks_10 := dk_seg dksX0_asks_9 23 rfl rfl
theorem dksX0_asks_11 : cX0_asks.data.toList.drop 256 = dktX0_asks_11 := dk_seg dksX0_asks_10 24 rfl rfl
theorem dX0_asks_0 : decode cX0_asks 0 = .ok (.aload_n 1, 1) := dk_43 (dk_at dksX0_asks_0 0 rfl rfl)
theorem dX0_asks_1 : decode cX0_asks 1 = .ok (.aload_n 0, 1) := dk_42 (dk_at dksX0_asks_0 1 rfl rfl)
theorem dX0_asks_2 : decode cX0_asks 2 = .ok (.getfield 12, 3) := dk_180 0 12 (dk_at dksX0_asks_0 2 rfl rfl)
theorem dX0_asks_5 : decode cX0_asks 5 = .ok (.iload_n 2, 1) := dk_28 (dk_at dksX0_asks_0 5 rfl rfl)
theorem dX0_asks_6 : decode cX0_asks 6 = .ok (.invokevirtual 195, 3) := dk_182 0 195 (dk_at dksX0_asks_0 6 rfl rfl)
theorem dX0_asks_9 : decode cX0_asks 9 = .ok (.istore 4, 2) := dk_54 4 (dk_at dksX0_asks_0 9 rfl rfl)
theorem dX0_asks_11 : decode cX0_asks 11 = .ok (.aload_n 0, 1) := dk_42 (dk_at dksX0_asks_0 11 rfl rfl)
theorem dX0_asks_12 : decode cX0_asks 12 = .ok (.getfield 72, 3) := dk_180 0 72 (dk_at dksX0_asks_0 12 rfl rfl)
theorem dX0_asks_15 : decode cX0_asks 15 = .ok (.iconst 0, 1) := dk_3 (dk_at dksX0_asks_0 15 rfl rfl)
theorem dX0_asks_16 : decode cX0_asks 16 = .ok (.iload_n 2, 1) := dk_28 (dk_at dksX0_asks_0 16 rfl rfl)
theorem dX0_asks_17 : decode cX0_asks 17 = .ok (.i2l, 1) := dk_133 (dk_at dksX0_asks_0 17 rfl rfl)
theorem dX0_asks_18 : decode cX0_asks 18 = .ok (.lastore, 1) := dk_80 (dk_at dksX0_asks_0 18 rfl rfl)
theorem dX0_asks_19 : decode cX0_asks 19 = .ok (.aload_n 0, 1) := dk_42 (dk_at dksX0_asks_0 19 rfl rfl)
theorem dX0_asks_20 : decode cX0_asks 20 = .ok (.getfield 72, 3) := dk_180 0 72 (dk_at dksX0_asks_0 20 rfl rfl)
theorem dX0_asks_23 : decode cX0_asks 23 = .ok (.iconst 1, 1) := dk_4 (dk_at dksX0_asks_0 23 rfl rfl)
theorem dX0_asks_24 : decode cX0_asks 24 = .ok (.aload_n 1, 1) := dk_43 (dk_at dksX0_asks_1 0 rfl rfl)
theorem dX0_asks_25 : decode cX0_asks 25 = .ok (.getfield 189, 3) := dk_180 0 189 (dk_at dksX0_asks_1 1 rfl rfl)
theorem dX0_asks_28 : decode cX0_asks 28 = .ok (.iload_n 2, 1) := dk_28 (dk_at dksX0_asks_1 4 rfl rfl)
theorem dX0_asks_29 : decode cX0_asks 29 = .ok (.iaload, 1) := dk_46 (dk_at dksX0_asks_1 5 rfl rfl)
theorem dX0_asks_30 : decode cX0_asks 30 = .ok (.i2l, 1) := dk_133 (dk_at dksX0_asks_1 6 rfl rfl)
theorem dX0_asks_31 : decode cX0_asks 31 = .ok (.lastore, 1) := dk_80 (dk_at dksX0_asks_1 7 rfl rfl)
theorem dX0_asks_32 : decode cX0_asks 32 = .ok (.aload_n 0, 1) := dk_42 (dk_at dksX0_asks_1 8 rfl rfl)
theorem dX0_asks_33 : decode cX0_asks 33 = .ok (.getfield 72, 3) := dk_180 0 72 (dk_at dksX0_asks_1 9 rfl rfl)
theorem dX0_asks_36 : decode cX0_asks 36 = .ok (.iconst 2, 1) := dk_5 (dk_at dksX0_asks_1 12 rfl rfl)
theorem dX0_asks_37 : decode cX0_asks 37 = .ok (.aload_n 1, 1) := dk_43 (dk_at dksX0_asks_1 13 rfl rfl)
theorem dX0_asks_38 : decode cX0_asks 38 = .ok (.getfield 192, 3) := dk_180 0 192 (dk_at dksX0_asks_1 14 rfl rfl)
theorem dX0_asks_41 : decode cX0_asks 41 = .ok (.iload_n 2, 1) := dk_28 (dk_at dksX0_asks_1 17 rfl rfl)
theorem dX0_asks_42 : decode cX0_asks 42 = .ok (.iaload, 1) := dk_46 (dk_at dksX0_asks_1 18 rfl rfl)
theorem dX0_asks_43 : decode cX0_asks 43 = .ok (.i2l, 1) := dk_133 (dk_at dksX0_asks_1 19 rfl rfl)
theorem dX0_asks_44 : decode cX0_asks 44 = .ok (.lastore, 1) := dk_80 (dk_at dksX0_asks_1 20 rfl rfl)
theorem dX0_asks_45 : decode cX0_asks 45 = .ok (.aload_n 0, 1) := dk_42 (dk_at dksX0_asks_1 21 rfl rfl)
theorem dX0_asks_46 : decode cX0_asks 46 = .ok (.getfield 72, 3) := dk_180 0 72 (dk_at dksX0_asks_2 0 rfl rfl)
theorem dX0_asks_49 : decode cX0_asks 49 = .ok (.iconst 3, 1) := dk_6 (dk_at dksX0_asks_2 3 rfl rfl)
theorem dX0_asks_50 : decode cX0_asks 50 = .ok (.aload_n 1, 1) := dk_43 (dk_at dksX0_asks_2 4 rfl rfl)
theorem dX0_asks_51 : decode cX0_asks 51 = .ok (.getfield 165, 3) := dk_180 0 165 (dk_at dksX0_asks_2 5 rfl rfl)
theorem dX0_asks_54 : decode cX0_asks 54 = .ok (.i2l, 1) := dk_133 (dk_at dksX0_asks_2 8 rfl rfl)
theorem dX0_asks_55 : decode cX0_asks 55 = .ok (.lastore, 1) := dk_80 (dk_at dksX0_asks_2 9 rfl rfl)
theorem dX0_asks_56 : decode cX0_asks 56 = .ok (.aload_n 0, 1) := dk_42 (dk_at dksX0_asks_2 10 rfl rfl)
theorem dX0_asks_57 : decode cX0_asks 57 = .ok (.getfield 72, 3) := dk_180 0 72 (dk_at dksX0_asks_2 11 rfl rfl)
theorem dX0_asks_60 : decode cX0_asks 60 = .ok (.iconst 4, 1) := dk_7 (dk_at dksX0_asks_2 14 rfl rfl)
theorem dX0_asks_61 : decode cX0_asks 61 = .ok (.aload_n 0, 1) := dk_42 (dk_at dksX0_asks_2 15 rfl rfl)
theorem dX0_asks_62 : decode cX0_asks 62 = .ok (.getfield 12, 3) := dk_180 0 12 (dk_at dksX0_asks_2 16 rfl rfl)
theorem dX0_asks_65 : decode cX0_asks 65 = .ok (.aload_n 1, 1) := dk_43 (dk_at dksX0_asks_2 19 rfl rfl)
theorem dX0_asks_66 : decode cX0_asks 66 = .ok (.getfield 165, 3) := dk_180 0 165 (dk_at dksX0_asks_2 20 rfl rfl)
theorem dX0_asks_69 : decode cX0_asks 69 = .ok (.invokevirtual 306, 3) := dk_182 1 50 (dk_at dksX0_asks_3 0 rfl rfl)
theorem dX0_asks_72 : decode cX0_asks 72 = .ok (.i2l, 1) := dk_133 (dk_at dksX0_asks_3 3 rfl rfl)
theorem dX0_asks_73 : decode cX0_asks 73 = .ok (.lastore, 1) := dk_80 (dk_at dksX0_asks_3 4 rfl rfl)
theorem dX0_asks_74 : decode cX0_asks 74 = .ok (.aload_n 0, 1) := dk_42 (dk_at dksX0_asks_3 5 rfl rfl)
theorem dX0_asks_75 : decode cX0_asks 75 = .ok (.getfield 72, 3) := dk_180 0 72 (dk_at dksX0_asks_3 6 rfl rfl)
theorem dX0_asks_78 : decode cX0_asks 78 = .ok (.iconst 5, 1) := dk_8 (dk_at dksX0_asks_3 9 rfl rfl)
theorem dX0_asks_79 : decode cX0_asks 79 = .ok (.iload 4, 2) := dk_21 4 (dk_at dksX0_asks_3 10 rfl rfl)
theorem dX0_asks_81 : decode cX0_asks 81 = .ok (.invokestatic 291, 3) := dk_184 1 35 (dk_at dksX0_asks_3 12 rfl rfl)
theorem dX0_asks_84 : decode cX0_asks 84 = .ok (.i2l, 1) := dk_133 (dk_at dksX0_asks_3 15 rfl rfl)
theorem dX0_asks_85 : decode cX0_asks 85 = .ok (.lastore, 1) := dk_80 (dk_at dksX0_asks_3 16 rfl rfl)
theorem dX0_asks_86 : decode cX0_asks 86 = .ok (.bipush 6, 2) := dk_16 6 (dk_at dksX0_asks_3 17 rfl rfl)
theorem dX0_asks_88 : decode cX0_asks 88 = .ok (.istore 5, 2) := dk_54 5 (dk_at dksX0_asks_3 19 rfl rfl)
theorem dX0_asks_90 : decode cX0_asks 90 = .ok (.iload 5, 2) := dk_21 5 (dk_at dksX0_asks_3 21 rfl rfl)
theorem dX0_asks_92 : decode cX0_asks 92 = .ok (.aload_n 0, 1) := dk_42 (dk_at dksX0_asks_3 23 rfl rfl)
theorem dX0_asks_93 : decode cX0_asks 93 = .ok (.getfield 72, 3) := dk_180 0 72 (dk_at dksX0_asks_4 0 rfl rfl)
theorem dX0_asks_96 : decode cX0_asks 96 = .ok (.arraylength, 1) := dk_190 (dk_at dksX0_asks_4 3 rfl rfl)
theorem dX0_asks_97 : decode cX0_asks 97 = .ok (.if_icmp .ge 17, 3) := dk_162 0 17 (dk_at dksX0_asks_4 4 rfl rfl)
theorem dX0_asks_100 : decode cX0_asks 100 = .ok (.aload_n 0, 1) := dk_42 (dk_at dksX0_asks_4 7 rfl rfl)
theorem dX0_asks_101 : decode cX0_asks 101 = .ok (.getfield 72, 3) := dk_180 0 72 (dk_at dksX0_asks_4 8 rfl rfl)
theorem dX0_asks_104 : decode cX0_asks 104 = .ok (.iload 5, 2) := dk_21 5 (dk_at dksX0_asks_4 11 rfl rfl)
theorem dX0_asks_106 : decode cX0_asks 106 = .ok (.lconst 0, 1) := dk_9 (dk_at dksX0_asks_4 13 rfl rfl)
theorem dX0_asks_107 : decode cX0_asks 107 = .ok (.lastore, 1) := dk_80 (dk_at dksX0_asks_4 14 rfl rfl)
theorem dX0_asks_108 : decode cX0_asks 108 = .ok (.iinc 5 1, 3) := dk_132 5 1 (dk_at dksX0_asks_4 15 rfl rfl)
theorem dX0_asks_111 : decode cX0_asks 111 = .ok (.goto (-21), 3) := dk_167 255 235 (dk_at dksX0_asks_4 18 rfl rfl)
theorem dX0_asks_114 : decode cX0_asks 114 = .ok (.iload_n 3, 1) := dk_29 (dk_at dksX0_asks_4 21 rfl rfl)
theorem dX0_asks_115 : decode cX0_asks 115 = .ok (.iconst (-1), 1) := dk_2 (dk_at dksX0_asks_4 22 rfl rfl)
theorem dX0_asks_116 : decode cX0_asks 116 = .ok (.if_icmp .ne 4, 3) := dk_160 0 4 (dk_at dksX0_asks_5 0 rfl rfl)
theorem dX0_asks_119 : decode cX0_asks 119 = .ok (.return_, 1) := dk_177 (dk_at dksX0_asks_5 3 rfl rfl)
theorem dX0_asks_120 : decode cX0_asks 120 = .ok (.aload_n 0, 1) := dk_42 (dk_at dksX0_asks_5 4 rfl rfl)
theorem dX0_asks_121 : decode cX0_asks 121 = .ok (.getfield 72, 3) := dk_180 0 72 (dk_at dksX0_asks_5 5 rfl rfl)
theorem dX0_asks_124 : decode cX0_asks 124 = .ok (.bipush 6, 2) := dk_16 6 (dk_at dksX0_asks_5 8 rfl rfl)
theorem dX0_asks_126 : decode cX0_asks 126 = .ok (.iload_n 3, 1) := dk_29 (dk_at dksX0_asks_5 10 rfl rfl)
theorem dX0_asks_127 : decode cX0_asks 127 = .ok (.i2l, 1) := dk_133 (dk_at dksX0_asks_5 11 rfl rfl)
theorem dX0_asks_128 : decode cX0_asks 128 = .ok (.lastore, 1) := dk_80 (dk_at dksX0_asks_5 12 rfl rfl)
theorem dX0_asks_129 : decode cX0_asks 129 = .ok (.aload_n 0, 1) := dk_42 (dk_at dksX0_asks_5 13 rfl rfl)
theorem dX0_asks_130 : decode cX0_asks 130 = .ok (.getfield 72, 3) := dk_180 0 72 (dk_at dksX0_asks_5 14 rfl rfl)
theorem dX0_asks_133 : decode cX0_asks 133 = .ok (.bipush 7, 2) := dk_16 7 (dk_at dksX0_asks_5 17 rfl rfl)
theorem dX0_asks_135 : decode cX0_asks 135 = .ok (.aload_n 0, 1) := dk_42 (dk_at dksX0_asks_5 19 rfl rfl)
theorem dX0_asks_136 : decode cX0_asks 136 = .ok (.getfield 12, 3) := dk_180 0 12 (dk_at dksX0_asks_5 20 rfl rfl)
theorem dX0_asks_139 : decode cX0_asks 139 = .ok (.getfield 93, 3) := dk_180 0 93 (dk_at dksX0_asks_6 0 rfl rfl)
theorem dX0_asks_142 : decode cX0_asks 142 = .ok (.iload_n 3, 1) := dk_29 (dk_at dksX0_asks_6 3 rfl rfl)
theorem dX0_asks_143 : decode cX0_asks 143 = .ok (.invokevirtual 153, 3) := dk_182 0 153 (dk_at dksX0_asks_6 4 rfl rfl)
theorem dX0_asks_146 : decode cX0_asks 146 = .ok (.checkcast 157, 3) := dk_192 0 157 (dk_at dksX0_asks_6 7 rfl rfl)
theorem dX0_asks_149 : decode cX0_asks 149 = .ok (.getfield 159, 3) := dk_180 0 159 (dk_at dksX0_asks_6 10 rfl rfl)
theorem dX0_asks_152 : decode cX0_asks 152 = .ok (.i2l, 1) := dk_133 (dk_at dksX0_asks_6 13 rfl rfl)
theorem dX0_asks_153 : decode cX0_asks 153 = .ok (.lastore, 1) := dk_80 (dk_at dksX0_asks_6 14 rfl rfl)
theorem dX0_asks_154 : decode cX0_asks 154 = .ok (.aload_n 0, 1) := dk_42 (dk_at dksX0_asks_6 15 rfl rfl)
theorem dX0_asks_155 : decode cX0_asks 155 = .ok (.getfield 72, 3) := dk_180 0 72 (dk_at dksX0_asks_6 16 rfl rfl)
theorem dX0_asks_158 : decode cX0_asks 158 = .ok (.bipush 8, 2) := dk_16 8 (dk_at dksX0_asks_6 19 rfl rfl)
theorem dX0_asks_160 : decode cX0_asks 160 = .ok (.aload_n 0, 1) := dk_42 (dk_at dksX0_asks_6 21 rfl rfl)
theorem dX0_asks_161 : decode cX0_asks 161 = .ok (.getfield 12, 3) := dk_180 0 12 (dk_at dksX0_asks_7 0 rfl rfl)
theorem dX0_asks_164 : decode cX0_asks 164 = .ok (.getfield 93, 3) := dk_180 0 93 (dk_at dksX0_asks_7 3 rfl rfl)
theorem dX0_asks_167 : decode cX0_asks 167 = .ok (.iload_n 3, 1) := dk_29 (dk_at dksX0_asks_7 6 rfl rfl)
theorem dX0_asks_168 : decode cX0_asks 168 = .ok (.invokevirtual 153, 3) := dk_182 0 153 (dk_at dksX0_asks_7 7 rfl rfl)
theorem dX0_asks_171 : decode cX0_asks 171 = .ok (.checkcast 157, 3) := dk_192 0 157 (dk_at dksX0_asks_7 10 rfl rfl)
theorem dX0_asks_174 : decode cX0_asks 174 = .ok (.getfield 162, 3) := dk_180 0 162 (dk_at dksX0_asks_7 13 rfl rfl)
theorem dX0_asks_177 : decode cX0_asks 177 = .ok (.i2l, 1) := dk_133 (dk_at dksX0_asks_7 16 rfl rfl)
theorem dX0_asks_178 : decode cX0_asks 178 = .ok (.lastore, 1) := dk_80 (dk_at dksX0_asks_7 17 rfl rfl)
theorem dX0_asks_179 : decode cX0_asks 179 = .ok (.aload_n 0, 1) := dk_42 (dk_at dksX0_asks_7 18 rfl rfl)
theorem dX0_asks_180 : decode cX0_asks 180 = .ok (.getfield 72, 3) := dk_180 0 72 (dk_at dksX0_asks_7 19 rfl rfl)
theorem dX0_asks_183 : decode cX0_asks 183 = .ok (.bipush 9, 2) := dk_16 9 (dk_at dksX0_asks_7 22 rfl rfl)
theorem dX0_asks_185 : decode cX0_asks 185 = .ok (.aload_n 0, 1) := dk_42 (dk_at dksX0_asks_8 0 rfl rfl)
theorem dX0_asks_186 : decode cX0_asks 186 = .ok (.getfield 12, 3) := dk_180 0 12 (dk_at dksX0_asks_8 1 rfl rfl)
theorem dX0_asks_189 : decode cX0_asks 189 = .ok (.iload_n 3, 1) := dk_29 (dk_at dksX0_asks_8 4 rfl rfl)
theorem dX0_asks_190 : decode cX0_asks 190 = .ok (.aload_n 1, 1) := dk_43 (dk_at dksX0_asks_8 5 rfl rfl)
theorem dX0_asks_191 : decode cX0_asks 191 = .ok (.getfield 165, 3) := dk_180 0 165 (dk_at dksX0_asks_8 6 rfl rfl)
theorem dX0_asks_194 : decode cX0_asks 194 = .ok (.invokevirtual 168, 3) := dk_182 0 168 (dk_at dksX0_asks_8 9 rfl rfl)
theorem dX0_asks_197 : decode cX0_asks 197 = .ok (.i2l, 1) := dk_133 (dk_at dksX0_asks_8 12 rfl rfl)
theorem dX0_asks_198 : decode cX0_asks 198 = .ok (.lastore, 1) := dk_80 (dk_at dksX0_asks_8 13 rfl rfl)
theorem dX0_asks_199 : decode cX0_asks 199 = .ok (.aload_n 0, 1) := dk_42 (dk_at dksX0_asks_8 14 rfl rfl)
theorem dX0_asks_200 : decode cX0_asks 200 = .ok (.getfield 72, 3) := dk_180 0 72 (dk_at dksX0_asks_8 15 rfl rfl)
theorem dX0_asks_203 : decode cX0_asks 203 = .ok (.bipush 10, 2) := dk_16 10 (dk_at dksX0_asks_8 18 rfl rfl)
theorem dX0_asks_205 : decode cX0_asks 205 = .ok (.aload_n 0, 1) := dk_42 (dk_at dksX0_asks_8 20 rfl rfl)
theorem dX0_asks_206 : decode cX0_asks 206 = .ok (.iload_n 3, 1) := dk_29 (dk_at dksX0_asks_8 21 rfl rfl)
theorem dX0_asks_207 : decode cX0_asks 207 = .ok (.iload 4, 2) := dk_21 4 (dk_at dksX0_asks_8 22 rfl rfl)
theorem dX0_asks_209 : decode cX0_asks 209 = .ok (.iconst 2, 1) := dk_5 (dk_at dksX0_asks_9 0 rfl rfl)
theorem dX0_asks_210 : decode cX0_asks 210 = .ok (.invokevirtual 309, 3) := dk_182 1 53 (dk_at dksX0_asks_9 1 rfl rfl)
theorem dX0_asks_213 : decode cX0_asks 213 = .ok (.i2l, 1) := dk_133 (dk_at dksX0_asks_9 4 rfl rfl)
theorem dX0_asks_214 : decode cX0_asks 214 = .ok (.lastore, 1) := dk_80 (dk_at dksX0_asks_9 5 rfl rfl)
theorem dX0_asks_215 : decode cX0_asks 215 = .ok (.aload_n 0, 1) := dk_42 (dk_at dksX0_asks_9 6 rfl rfl)
theorem dX0_asks_216 : decode cX0_asks 216 = .ok (.getfield 72, 3) := dk_180 0 72 (dk_at dksX0_asks_9 7 rfl rfl)
theorem dX0_asks_219 : decode cX0_asks 219 = .ok (.bipush 11, 2) := dk_16 11 (dk_at dksX0_asks_9 10 rfl rfl)
theorem dX0_asks_221 : decode cX0_asks 221 = .ok (.aload_n 0, 1) := dk_42 (dk_at dksX0_asks_9 12 rfl rfl)
theorem dX0_asks_222 : decode cX0_asks 222 = .ok (.iload_n 3, 1) := dk_29 (dk_at dksX0_asks_9 13 rfl rfl)
theorem dX0_asks_223 : decode cX0_asks 223 = .ok (.iload 4, 2) := dk_21 4 (dk_at dksX0_asks_9 14 rfl rfl)
theorem dX0_asks_225 : decode cX0_asks 225 = .ok (.iconst 1, 1) := dk_4 (dk_at dksX0_asks_9 16 rfl rfl)
theorem dX0_asks_226 : decode cX0_asks 226 = .ok (.invokevirtual 309, 3) := dk_182 1 53 (dk_at dksX0_asks_9 17 rfl rfl)
theorem dX0_asks_229 : decode cX0_asks 229 = .ok (.i2l, 1) := dk_133 (dk_at dksX0_asks_9 20 rfl rfl)
theorem dX0_asks_230 : decode cX0_asks 230 = .ok (.lastore, 1) := dk_80 (dk_at dksX0_asks_9 21 rfl rfl)
theorem dX0_asks_231 : decode cX0_asks 231 = .ok (.aload_n 0, 1) := dk_42 (dk_at dksX0_asks_9 22 rfl rfl)
theorem dX0_asks_232 : decode cX0_asks 232 = .ok (.getfield 72, 3) := dk_180 0 72 (dk_at dksX0_asks_10 0 rfl rfl)
theorem dX0_asks_235 : decode cX0_asks 235 = .ok (.bipush 12, 2) := dk_16 12 (dk_at dksX0_asks_10 3 rfl rfl)
theorem dX0_asks_237 : decode cX0_asks 237 = .ok (.aload_n 0, 1) := dk_42 (dk_at dksX0_asks_10 5 rfl rfl)
theorem dX0_asks_238 : decode cX0_asks 238 = .ok (.iload_n 3, 1) := dk_29 (dk_at dksX0_asks_10 6 rfl rfl)
theorem dX0_asks_239 : decode cX0_asks 239 = .ok (.aload_n 1, 1) := dk_43 (dk_at dksX0_asks_10 7 rfl rfl)
theorem dX0_asks_240 : decode cX0_asks 240 = .ok (.aload_n 0, 1) := dk_42 (dk_at dksX0_asks_10 8 rfl rfl)
theorem dX0_asks_241 : decode cX0_asks 241 = .ok (.getfield 12, 3) := dk_180 0 12 (dk_at dksX0_asks_10 9 rfl rfl)
theorem dX0_asks_244 : decode cX0_asks 244 = .ok (.iload_n 2, 1) := dk_28 (dk_at dksX0_asks_10 12 rfl rfl)
theorem dX0_asks_245 : decode cX0_asks 245 = .ok (.invokevirtual 199, 3) := dk_182 0 199 (dk_at dksX0_asks_10 13 rfl rfl)
theorem dX0_asks_248 : decode cX0_asks 248 = .ok (.aload_n 1, 1) := dk_43 (dk_at dksX0_asks_10 16 rfl rfl)
theorem dX0_asks_249 : decode cX0_asks 249 = .ok (.aload_n 0, 1) := dk_42 (dk_at dksX0_asks_10 17 rfl rfl)
theorem dX0_asks_250 : decode cX0_asks 250 = .ok (.getfield 12, 3) := dk_180 0 12 (dk_at dksX0_asks_10 18 rfl rfl)
theorem dX0_asks_253 : decode cX0_asks 253 = .ok (.invokevirtual 312, 3) := dk_182 1 56 (dk_at dksX0_asks_10 21 rfl rfl)
theorem dX0_asks_256 : decode cX0_asks 256 = .ok (.iand, 1) := dk_126 (dk_at dksX0_asks_11 0 rfl rfl)
theorem dX0_asks_257 : decode cX0_asks 257 = .ok (.iconst 2, 1) := dk_5 (dk_at dksX0_asks_11 1 rfl rfl)
theorem dX0_asks_258 : decode cX0_asks 258 = .ok (.invokevirtual 309, 3) := dk_182 1 53 (dk_at dksX0_asks_11 2 rfl rfl)
theorem dX0_asks_261 : decode cX0_asks 261 = .ok (.i2l, 1) := dk_133 (dk_at dksX0_asks_11 5 rfl rfl)
theorem dX0_asks_262 : decode cX0_asks 262 = .ok (.lastore, 1) := dk_80 (dk_at dksX0_asks_11 6 rfl rfl)
theorem dX0_asks_263 : decode cX0_asks 263 = .ok (.return_, 1) := dk_177 (dk_at dksX0_asks_11 7 rfl rfl)
abbrev cX0_fitting : ByteArray := prog_1_method_43_code
def yX0_fitting : MethodName := ⟨RX0, "fitting", "(III)I"⟩
def dkwX0_fitting_2 : List UInt8 := [3, 184, 0, 179, 96, 54, 4, 132, 5, 1, 167, 255, 205, 21, 4, 172]
abbrev dktX0_fitting_2 : List UInt8 := dkwX0_fitting_2 ++ []
def dkwX0_fitting_1 : List UInt8 := [153, 0, 24, 21, 5, 27, 159, 0, 18, 42, 27, 21, 5, 182, 0, 183, 29, 160, 0, 7, 4, 167, 0, 4]
abbrev dktX0_fitting_1 : List UInt8 := dkwX0_fitting_1 ++ dktX0_fitting_2
def dkwX0_fitting_0 : List UInt8 := [3, 54, 4, 3, 54, 5, 21, 5, 42, 182, 0, 103, 162, 0, 48, 21, 4, 28, 21, 5, 184, 0, 175]
abbrev dktX0_fitting_0 : List UInt8 := dkwX0_fitting_0 ++ dktX0_fitting_1
theorem dksX0_fitting_0 : cX0_fitting.data.toList.drop 0 = dktX0_fitting_0 := by decide +kernel
theorem dksX0_fitting_1 : cX0_fitting.data.toList.drop 23 = dktX0_fitting_1 := dk_seg dksX0_fitting_0 23 rfl rfl
theorem dksX0_fitting_2 : cX0_fitting.data.toList.drop 47 = dktX0_fitting_2 := dk_seg dksX0_fitting_1 24 rfl rfl
theorem dX0_fitting_0 : decode cX0_fitting 0 = .ok (.iconst 0, 1) := dk_3 (dk_at dksX0_fitting_0 0 rfl rfl)
theorem dX0_fitting_1 : decode cX0_fitting 1 = .ok (.istore 4, 2) := dk_54 4 (dk_at dksX0_fitting_0 1 rfl rfl)
theorem dX0_fitting_3 : decode cX0_fitting 3 = .ok (.iconst 0, 1) := dk_3 (dk_at dksX0_fitting_0 3 rfl rfl)
theorem dX0_fitting_4 : decode cX0_fitting 4 = .ok (.istore 5, 2) := dk_54 5 (dk_at dksX0_fitting_0 4 rfl rfl)
theorem dX0_fitting_6 : decode cX0_fitting 6 = .ok (.iload 5, 2) := dk_21 5 (dk_at dksX0_fitting_0 6 rfl rfl)
theorem dX0_fitting_8 : decode cX0_fitting 8 = .ok (.aload_n 0, 1) := dk_42 (dk_at dksX0_fitting_0 8 rfl rfl)
theorem dX0_fitting_9 : decode cX0_fitting 9 = .ok (.invokevirtual 103, 3) := dk_182 0 103 (dk_at dksX0_fitting_0 9 rfl rfl)
theorem dX0_fitting_12 : decode cX0_fitting 12 = .ok (.if_icmp .ge 48, 3) := dk_162 0 48 (dk_at dksX0_fitting_0 12 rfl rfl)
theorem dX0_fitting_15 : decode cX0_fitting 15 = .ok (.iload 4, 2) := dk_21 4 (dk_at dksX0_fitting_0 15 rfl rfl)
theorem dX0_fitting_17 : decode cX0_fitting 17 = .ok (.iload_n 2, 1) := dk_28 (dk_at dksX0_fitting_0 17 rfl rfl)
theorem dX0_fitting_18 : decode cX0_fitting 18 = .ok (.iload 5, 2) := dk_21 5 (dk_at dksX0_fitting_0 18 rfl rfl)
theorem dX0_fitting_20 : decode cX0_fitting 20 = .ok (.invokestatic 175, 3) := dk_184 0 175 (dk_at dksX0_fitting_0 20 rfl rfl)
theorem dX0_fitting_23 : decode cX0_fitting 23 = .ok (.ifCond .eq 24, 3) := dk_153 0 24 (dk_at dksX0_fitting_1 0 rfl rfl)
theorem dX0_fitting_26 : decode cX0_fitting 26 = .ok (.iload 5, 2) := dk_21 5 (dk_at dksX0_fitting_1 3 rfl rfl)
theorem dX0_fitting_28 : decode cX0_fitting 28 = .ok (.iload_n 1, 1) := dk_27 (dk_at dksX0_fitting_1 5 rfl rfl)
theorem dX0_fitting_29 : decode cX0_fitting 29 = .ok (.if_icmp .eq 18, 3) := dk_159 0 18 (dk_at dksX0_fitting_1 6 rfl rfl)
theorem dX0_fitting_32 : decode cX0_fitting 32 = .ok (.aload_n 0, 1) := dk_42 (dk_at dksX0_fitting_1 9 rfl rfl)
theorem dX0_fitting_33 : decode cX0_fitting 33 = .ok (.iload_n 1, 1) := dk_27 (dk_at dksX0_fitting_1 10 rfl rfl)
theorem dX0_fitting_34 : decode cX0_fitting 34 = .ok (.iload 5, 2) := dk_21 5 (dk_at dksX0_fitting_1 11 rfl rfl)
theorem dX0_fitting_36 : decode cX0_fitting 36 = .ok (.invokevirtual 183, 3) := dk_182 0 183 (dk_at dksX0_fitting_1 13 rfl rfl)
theorem dX0_fitting_39 : decode cX0_fitting 39 = .ok (.iload_n 3, 1) := dk_29 (dk_at dksX0_fitting_1 16 rfl rfl)
theorem dX0_fitting_40 : decode cX0_fitting 40 = .ok (.if_icmp .ne 7, 3) := dk_160 0 7 (dk_at dksX0_fitting_1 17 rfl rfl)
theorem dX0_fitting_43 : decode cX0_fitting 43 = .ok (.iconst 1, 1) := dk_4 (dk_at dksX0_fitting_1 20 rfl rfl)
theorem dX0_fitting_44 : decode cX0_fitting 44 = .ok (.goto 4, 3) := dk_167 0 4 (dk_at dksX0_fitting_1 21 rfl rfl)
theorem dX0_fitting_47 : decode cX0_fitting 47 = .ok (.iconst 0, 1) := dk_3 (dk_at dksX0_fitting_2 0 rfl rfl)
theorem dX0_fitting_48 : decode cX0_fitting 48 = .ok (.invokestatic 179, 3) := dk_184 0 179 (dk_at dksX0_fitting_2 1 rfl rfl)
theorem dX0_fitting_51 : decode cX0_fitting 51 = .ok (.iadd, 1) := dk_96 (dk_at dksX0_fitting_2 4 rfl rfl)
theorem dX0_fitting_52 : decode cX0_fitting 52 = .ok (.istore 4, 2) := dk_54 4 (dk_at dksX0_fitting_2 5 rfl rfl)
theorem dX0_fitting_54 : decode cX0_fitting 54 = .ok (.iinc 5 1, 3) := dk_132 5 1 (dk_at dksX0_fitting_2 7 rfl rfl)
theorem dX0_fitting_57 : decode cX0_fitting 57 = .ok (.goto (-51), 3) := dk_167 255 205 (dk_at dksX0_fitting_2 10 rfl rfl)
theorem dX0_fitting_60 : decode cX0_fitting 60 = .ok (.iload 4, 2) := dk_21 4 (dk_at dksX0_fitting_2 13 rfl rfl)
theorem dX0_fitting_62 : decode cX0_fitting 62 = .ok (.ireturn, 1) := dk_172 (dk_at dksX0_fitting_2 15 rfl rfl)
abbrev cX0_wayBy : ByteArray := prog_1_method_47_code
def yX0_wayBy : MethodName := ⟨RX0, "wayBy", "(LHalfFair$State;ILHalfFair$Rule;)I"⟩
def dkwX0_wayBy_1 : List UInt8 := [153, 0, 12, 22, 4, 20, 0, 254, 148, 154, 0, 9, 22, 4, 136, 167, 0, 4, 3, 172]
abbrev dktX0_wayBy_1 : List UInt8 := dkwX0_wayBy_1 ++ []
def dkwX0_wayBy_0 : List UInt8 := [42, 43, 28, 2, 182, 1, 60, 45, 3, 42, 180, 0, 72, 182, 1, 64, 55, 4, 22, 4, 10, 148]
abbrev dktX0_wayBy_0 : List UInt8 := dkwX0_wayBy_0 ++ dktX0_wayBy_1
theorem dksX0_wayBy_0 : cX0_wayBy.data.toList.drop 0 = dktX0_wayBy_0 := by decide +kernel
theorem dksX0_wayBy_1 : cX0_wayBy.data.toList.drop 22 = dktX0_wayBy_1 := dk_seg dksX0_wayBy_0 22 rfl rfl
theorem dX0_wayBy_0 : decode cX0_wayBy 0 = .ok (.aload_n 0, 1) := dk_42 (dk_at dksX0_wayBy_0 0 rfl rfl)
theorem dX0_wayBy_1 : decode cX0_wayBy 1 = .ok (.aload_n 1, 1) := dk_43 (dk_at dksX0_wayBy_0 1 rfl rfl)
theorem dX0_wayBy_2 : decode cX0_wayBy 2 = .ok (.iload_n 2, 1) := dk_28 (dk_at dksX0_wayBy_0 2 rfl rfl)
theorem dX0_wayBy_3 : decode cX0_wayBy 3 = .ok (.iconst (-1), 1) := dk_2 (dk_at dksX0_wayBy_0 3 rfl rfl)
theorem dX0_wayBy_4 : decode cX0_wayBy 4 = .ok (.invokevirtual 316, 3) := dk_182 1 60 (dk_at dksX0_wayBy_0 4 rfl rfl)
theorem dX0_wayBy_7 : decode cX0_wayBy 7 = .ok (.aload_n 3, 1) := dk_45 (dk_at dksX0_wayBy_0 7 rfl rfl)
theorem dX0_wayBy_8 : decode cX0_wayBy 8 = .ok (.iconst 0, 1) := dk_3 (dk_at dksX0_wayBy_0 8 rfl rfl)
theorem dX0_wayBy_9 : decode cX0_wayBy 9 = .ok (.aload_n 0, 1) := dk_42 (dk_at dksX0_wayBy_0 9 rfl rfl)
theorem dX0_wayBy_10 : decode cX0_wayBy 10 = .ok (.getfield 72, 3) := dk_180 0 72 (dk_at dksX0_wayBy_0 10 rfl rfl)
theorem dX0_wayBy_13 : decode cX0_wayBy 13 = .ok (.invokevirtual 320, 3) := dk_182 1 64 (dk_at dksX0_wayBy_0 13 rfl rfl)
theorem dX0_wayBy_16 : decode cX0_wayBy 16 = .ok (.lstore 4, 2) := dk_55 4 (dk_at dksX0_wayBy_0 16 rfl rfl)
theorem dX0_wayBy_18 : decode cX0_wayBy 18 = .ok (.lload 4, 2) := dk_22 4 (dk_at dksX0_wayBy_0 18 rfl rfl)
theorem dX0_wayBy_20 : decode cX0_wayBy 20 = .ok (.lconst 1, 1) := dk_10 (dk_at dksX0_wayBy_0 20 rfl rfl)
theorem dX0_wayBy_21 : decode cX0_wayBy 21 = .ok (.lcmp, 1) := dk_148 (dk_at dksX0_wayBy_0 21 rfl rfl)
theorem dX0_wayBy_22 : decode cX0_wayBy 22 = .ok (.ifCond .eq 12, 3) := dk_153 0 12 (dk_at dksX0_wayBy_1 0 rfl rfl)
theorem dX0_wayBy_25 : decode cX0_wayBy 25 = .ok (.lload 4, 2) := dk_22 4 (dk_at dksX0_wayBy_1 3 rfl rfl)
theorem dX0_wayBy_27 : decode cX0_wayBy 27 = .ok (.ldc2_w 254, 3) := dk_20 0 254 (dk_at dksX0_wayBy_1 5 rfl rfl)
theorem dX0_wayBy_30 : decode cX0_wayBy 30 = .ok (.lcmp, 1) := dk_148 (dk_at dksX0_wayBy_1 8 rfl rfl)
theorem dX0_wayBy_31 : decode cX0_wayBy 31 = .ok (.ifCond .ne 9, 3) := dk_154 0 9 (dk_at dksX0_wayBy_1 9 rfl rfl)
theorem dX0_wayBy_34 : decode cX0_wayBy 34 = .ok (.lload 4, 2) := dk_22 4 (dk_at dksX0_wayBy_1 12 rfl rfl)
theorem dX0_wayBy_36 : decode cX0_wayBy 36 = .ok (.l2i, 1) := dk_136 (dk_at dksX0_wayBy_1 14 rfl rfl)
theorem dX0_wayBy_37 : decode cX0_wayBy 37 = .ok (.goto 4, 3) := dk_167 0 4 (dk_at dksX0_wayBy_1 15 rfl rfl)
theorem dX0_wayBy_40 : decode cX0_wayBy 40 = .ok (.iconst 0, 1) := dk_3 (dk_at dksX0_wayBy_1 18 rfl rfl)
theorem dX0_wayBy_41 : decode cX0_wayBy 41 = .ok (.ireturn, 1) := dk_172 (dk_at dksX0_wayBy_1 19 rfl rfl)
abbrev cX0_walk : ByteArray := prog_1_method_55_code
def yX0_walk : MethodName := ⟨RX0, "walk", "(II)I"⟩
def dkwX0_walk_6 : List UInt8 := [167, 0, 7, 42, 180, 1, 118, 172]
abbrev dktX0_walk_6 : List UInt8 := dkwX0_walk_6 ++ []
def dkwX0_walk_5 : List UInt8 := [167, 255, 240, 28, 154, 0, 10, 42, 180, 1, 112, 167, 0, 19, 28, 4, 160, 0, 10, 42, 180, 1, 115]
abbrev dktX0_walk_5 : List UInt8 := dkwX0_walk_5 ++ dktX0_walk_6
def dkwX0_walk_4 : List UInt8 := [167, 0, 25, 2, 54, 4, 21, 4, 4, 163, 0, 16, 42, 27, 21, 4, 182, 1, 123, 132, 4, 1]
abbrev dktX0_walk_4 : List UInt8 := dkwX0_walk_4 ++ dktX0_walk_5
def dkwX0_walk_3 : List UInt8 := [180, 0, 12, 27, 182, 0, 195, 46, 42, 180, 0, 19, 180, 0, 189, 27, 46, 96, 16, 254, 3, 182, 1, 108]
abbrev dktX0_walk_3 : List UInt8 := dkwX0_walk_3 ++ dktX0_walk_4
def dkwX0_walk_2 : List UInt8 := [182, 0, 228, 42, 2, 181, 1, 112, 29, 154, 0, 40, 42, 42, 180, 0, 57, 42, 180, 0, 19, 42]
abbrev dktX0_walk_2 : List UInt8 := dkwX0_walk_2 ++ dktX0_walk_3
def dkwX0_walk_1 : List UInt8 := [180, 0, 12, 42, 180, 0, 19, 180, 0, 165, 182, 1, 50, 62, 29, 16, 12, 164, 0, 6, 16, 252, 172, 42]
abbrev dktX0_walk_1 : List UInt8 := dkwX0_walk_1 ++ dktX0_walk_2
def dkwX0_walk_0 : List UInt8 := [42, 27, 182, 0, 186, 153, 0, 15, 28, 133, 9, 20, 1, 121, 184, 0, 106, 154, 0, 6, 16, 253, 172, 42]
abbrev dktX0_walk_0 : List UInt8 := dkwX0_walk_0 ++ dktX0_walk_1
theorem dksX0_walk_0 : cX0_walk.data.toList.drop 0 = dktX0_walk_0 := by decide +kernel
theorem dksX0_walk_1 : cX0_walk.data.toList.drop 24 = dktX0_walk_1 := dk_seg dksX0_walk_0 24 rfl rfl
theorem dksX0_walk_2 : cX0_walk.data.toList.drop 48 = dktX0_walk_2 := dk_seg dksX0_walk_1 24 rfl rfl
theorem dksX0_walk_3 : cX0_walk.data.toList.drop 70 = dktX0_walk_3 := dk_seg dksX0_walk_2 22 rfl rfl
theorem dksX0_walk_4 : cX0_walk.data.toList.drop 94 = dktX0_walk_4 := dk_seg dksX0_walk_3 24 rfl rfl
theorem dksX0_walk_5 : cX0_walk.data.toList.drop 116 = dktX0_walk_5 := dk_seg dksX0_walk_4 22 rfl rfl
theorem dksX0_walk_6 : cX0_walk.data.toList.drop 139 = dktX0_walk_6 := dk_seg dksX0_walk_5 23 rfl rfl
theorem dX0_walk_0 : decode cX0_walk 0 = .ok (.aload_n 0, 1) := dk_42 (dk_at dksX0_walk_0 0 rfl rfl)
theorem dX0_walk_1 : decode cX0_walk 1 = .ok (.iload_n 1, 1) := dk_27 (dk_at dksX0_walk_0 1 rfl rfl)
theorem dX0_walk_2 : decode cX0_walk 2 = .ok (.invokevirtual 186, 3) := dk_182 0 186 (dk_at dksX0_walk_0 2 rfl rfl)
theorem dX0_walk_5 : decode cX0_walk 5 = .ok (.ifCond .eq 15, 3) := dk_153 0 15 (dk_at dksX0_walk_0 5 rfl rfl)
theorem dX0_walk_8 : decode cX0_walk 8 = .ok (.iload_n 2, 1) := dk_28 (dk_at dksX0_walk_0 8 rfl rfl)
theorem dX0_walk_9 : decode cX0_walk 9 = .ok (.i2l, 1) := dk_133 (dk_at dksX0_walk_0 9 rfl rfl)
theorem dX0_walk_10 : decode cX0_walk 10 = .ok (.lconst 0, 1) := dk_9 (dk_at dksX0_walk_0 10 rfl rfl)
theorem dX0_walk_11 : decode cX0_walk 11 = .ok (.ldc2_w 377, 3) := dk_20 1 121 (dk_at dksX0_walk_0 11 rfl rfl)
theorem dX0_walk_14 : decode cX0_walk 14 = .ok (.invokestatic 106, 3) := dk_184 0 106 (dk_at dksX0_walk_0 14 rfl rfl)
theorem dX0_walk_17 : decode cX0_walk 17 = .ok (.ifCond .ne 6, 3) := dk_154 0 6 (dk_at dksX0_walk_0 17 rfl rfl)
theorem dX0_walk_20 : decode cX0_walk 20 = .ok (.bipush (-3), 2) := dk_16 253 (dk_at dksX0_walk_0 20 rfl rfl)
theorem dX0_walk_22 : decode cX0_walk 22 = .ok (.ireturn, 1) := dk_172 (dk_at dksX0_walk_0 22 rfl rfl)
theorem dX0_walk_23 : decode cX0_walk 23 = .ok (.aload_n 0, 1) := dk_42 (dk_at dksX0_walk_0 23 rfl rfl)
theorem dX0_walk_24 : decode cX0_walk 24 = .ok (.getfield 12, 3) := dk_180 0 12 (dk_at dksX0_walk_1 0 rfl rfl)
theorem dX0_walk_27 : decode cX0_walk 27 = .ok (.aload_n 0, 1) := dk_42 (dk_at dksX0_walk_1 3 rfl rfl)
theorem dX0_walk_28 : decode cX0_walk 28 = .ok (.getfield 19, 3) := dk_180 0 19 (dk_at dksX0_walk_1 4 rfl rfl)
theorem dX0_walk_31 : decode cX0_walk 31 = .ok (.getfield 165, 3) := dk_180 0 165 (dk_at dksX0_walk_1 7 rfl rfl)
theorem dX0_walk_34 : decode cX0_walk 34 = .ok (.invokevirtual 306, 3) := dk_182 1 50 (dk_at dksX0_walk_1 10 rfl rfl)
theorem dX0_walk_37 : decode cX0_walk 37 = .ok (.istore_n 3, 1) := dk_62 (dk_at dksX0_walk_1 13 rfl rfl)
theorem dX0_walk_38 : decode cX0_walk 38 = .ok (.iload_n 3, 1) := dk_29 (dk_at dksX0_walk_1 14 rfl rfl)
theorem dX0_walk_39 : decode cX0_walk 39 = .ok (.bipush 12, 2) := dk_16 12 (dk_at dksX0_walk_1 15 rfl rfl)
theorem dX0_walk_41 : decode cX0_walk 41 = .ok (.if_icmp .le 6, 3) := dk_164 0 6 (dk_at dksX0_walk_1 17 rfl rfl)
theorem dX0_walk_44 : decode cX0_walk 44 = .ok (.bipush (-4), 2) := dk_16 252 (dk_at dksX0_walk_1 20 rfl rfl)
theorem dX0_walk_46 : decode cX0_walk 46 = .ok (.ireturn, 1) := dk_172 (dk_at dksX0_walk_1 22 rfl rfl)
theorem dX0_walk_47 : decode cX0_walk 47 = .ok (.aload_n 0, 1) := dk_42 (dk_at dksX0_walk_1 23 rfl rfl)
theorem dX0_walk_48 : decode cX0_walk 48 = .ok (.invokevirtual 228, 3) := dk_182 0 228 (dk_at dksX0_walk_2 0 rfl rfl)
theorem dX0_walk_51 : decode cX0_walk 51 = .ok (.aload_n 0, 1) := dk_42 (dk_at dksX0_walk_2 3 rfl rfl)
theorem dX0_walk_52 : decode cX0_walk 52 = .ok (.iconst (-1), 1) := dk_2 (dk_at dksX0_walk_2 4 rfl rfl)
theorem dX0_walk_53 : decode cX0_walk 53 = .ok (.putfield 368, 3) := dk_181 1 112 (dk_at dksX0_walk_2 5 rfl rfl)
theorem dX0_walk_56 : decode cX0_walk 56 = .ok (.iload_n 3, 1) := dk_29 (dk_at dksX0_walk_2 8 rfl rfl)
theorem dX0_walk_57 : decode cX0_walk 57 = .ok (.ifCond .ne 40, 3) := dk_154 0 40 (dk_at dksX0_walk_2 9 rfl rfl)
theorem dX0_walk_60 : decode cX0_walk 60 = .ok (.aload_n 0, 1) := dk_42 (dk_at dksX0_walk_2 12 rfl rfl)
theorem dX0_walk_61 : decode cX0_walk 61 = .ok (.aload_n 0, 1) := dk_42 (dk_at dksX0_walk_2 13 rfl rfl)
theorem dX0_walk_62 : decode cX0_walk 62 = .ok (.getfield 57, 3) := dk_180 0 57 (dk_at dksX0_walk_2 14 rfl rfl)
theorem dX0_walk_65 : decode cX0_walk 65 = .ok (.aload_n 0, 1) := dk_42 (dk_at dksX0_walk_2 17 rfl rfl)
theorem dX0_walk_66 : decode cX0_walk 66 = .ok (.getfield 19, 3) := dk_180 0 19 (dk_at dksX0_walk_2 18 rfl rfl)
theorem dX0_walk_69 : decode cX0_walk 69 = .ok (.aload_n 0, 1) := dk_42 (dk_at dksX0_walk_2 21 rfl rfl)
theorem dX0_walk_70 : decode cX0_walk 70 = .ok (.getfield 12, 3) := dk_180 0 12 (dk_at dksX0_walk_3 0 rfl rfl)
theorem dX0_walk_73 : decode cX0_walk 73 = .ok (.iload_n 1, 1) := dk_27 (dk_at dksX0_walk_3 3 rfl rfl)
theorem dX0_walk_74 : decode cX0_walk 74 = .ok (.invokevirtual 195, 3) := dk_182 0 195 (dk_at dksX0_walk_3 4 rfl rfl)
theorem dX0_walk_77 : decode cX0_walk 77 = .ok (.iaload, 1) := dk_46 (dk_at dksX0_walk_3 7 rfl rfl)
theorem dX0_walk_78 : decode cX0_walk 78 = .ok (.aload_n 0, 1) := dk_42 (dk_at dksX0_walk_3 8 rfl rfl)
theorem dX0_walk_79 : decode cX0_walk 79 = .ok (.getfield 19, 3) := dk_180 0 19 (dk_at dksX0_walk_3 9 rfl rfl)
theorem dX0_walk_82 : decode cX0_walk 82 = .ok (.getfield 189, 3) := dk_180 0 189 (dk_at dksX0_walk_3 12 rfl rfl)
theorem dX0_walk_85 : decode cX0_walk 85 = .ok (.iload_n 1, 1) := dk_27 (dk_at dksX0_walk_3 15 rfl rfl)
theorem dX0_walk_86 : decode cX0_walk 86 = .ok (.iaload, 1) := dk_46 (dk_at dksX0_walk_3 16 rfl rfl)
theorem dX0_walk_87 : decode cX0_walk 87 = .ok (.iadd, 1) := dk_96 (dk_at dksX0_walk_3 17 rfl rfl)
theorem dX0_walk_88 : decode cX0_walk 88 = .ok (.bipush (-2), 2) := dk_16 254 (dk_at dksX0_walk_3 18 rfl rfl)
theorem dX0_walk_90 : decode cX0_walk 90 = .ok (.iconst 0, 1) := dk_3 (dk_at dksX0_walk_3 20 rfl rfl)
theorem dX0_walk_91 : decode cX0_walk 91 = .ok (.invokevirtual 364, 3) := dk_182 1 108 (dk_at dksX0_walk_3 21 rfl rfl)
theorem dX0_walk_94 : decode cX0_walk 94 = .ok (.goto 25, 3) := dk_167 0 25 (dk_at dksX0_walk_4 0 rfl rfl)
theorem dX0_walk_97 : decode cX0_walk 97 = .ok (.iconst (-1), 1) := dk_2 (dk_at dksX0_walk_4 3 rfl rfl)
theorem dX0_walk_98 : decode cX0_walk 98 = .ok (.istore 4, 2) := dk_54 4 (dk_at dksX0_walk_4 4 rfl rfl)
theorem dX0_walk_100 : decode cX0_walk 100 = .ok (.iload 4, 2) := dk_21 4 (dk_at dksX0_walk_4 6 rfl rfl)
theorem dX0_walk_102 : decode cX0_walk 102 = .ok (.iconst 1, 1) := dk_4 (dk_at dksX0_walk_4 8 rfl rfl)
theorem dX0_walk_103 : decode cX0_walk 103 = .ok (.if_icmp .gt 16, 3) := dk_163 0 16 (dk_at dksX0_walk_4 9 rfl rfl)
theorem dX0_walk_106 : decode cX0_walk 106 = .ok (.aload_n 0, 1) := dk_42 (dk_at dksX0_walk_4 12 rfl rfl)
theorem dX0_walk_107 : decode cX0_walk 107 = .ok (.iload_n 1, 1) := dk_27 (dk_at dksX0_walk_4 13 rfl rfl)
theorem dX0_walk_108 : decode cX0_walk 108 = .ok (.iload 4, 2) := dk_21 4 (dk_at dksX0_walk_4 14 rfl rfl)
theorem dX0_walk_110 : decode cX0_walk 110 = .ok (.invokevirtual 379, 3) := dk_182 1 123 (dk_at dksX0_walk_4 16 rfl rfl)
theorem dX0_walk_113 : decode cX0_walk 113 = .ok (.iinc 4 1, 3) := dk_132 4 1 (dk_at dksX0_walk_4 19 rfl rfl)
theorem dX0_walk_116 : decode cX0_walk 116 = .ok (.goto (-16), 3) := dk_167 255 240 (dk_at dksX0_walk_5 0 rfl rfl)
theorem dX0_walk_119 : decode cX0_walk 119 = .ok (.iload_n 2, 1) := dk_28 (dk_at dksX0_walk_5 3 rfl rfl)
theorem dX0_walk_120 : decode cX0_walk 120 = .ok (.ifCond .ne 10, 3) := dk_154 0 10 (dk_at dksX0_walk_5 4 rfl rfl)
theorem dX0_walk_123 : decode cX0_walk 123 = .ok (.aload_n 0, 1) := dk_42 (dk_at dksX0_walk_5 7 rfl rfl)
theorem dX0_walk_124 : decode cX0_walk 124 = .ok (.getfield 368, 3) := dk_180 1 112 (dk_at dksX0_walk_5 8 rfl rfl)
theorem dX0_walk_127 : decode cX0_walk 127 = .ok (.goto 19, 3) := dk_167 0 19 (dk_at dksX0_walk_5 11 rfl rfl)
theorem dX0_walk_130 : decode cX0_walk 130 = .ok (.iload_n 2, 1) := dk_28 (dk_at dksX0_walk_5 14 rfl rfl)
theorem dX0_walk_131 : decode cX0_walk 131 = .ok (.iconst 1, 1) := dk_4 (dk_at dksX0_walk_5 15 rfl rfl)
theorem dX0_walk_132 : decode cX0_walk 132 = .ok (.if_icmp .ne 10, 3) := dk_160 0 10 (dk_at dksX0_walk_5 16 rfl rfl)
theorem dX0_walk_135 : decode cX0_walk 135 = .ok (.aload_n 0, 1) := dk_42 (dk_at dksX0_walk_5 19 rfl rfl)
theorem dX0_walk_136 : decode cX0_walk 136 = .ok (.getfield 371, 3) := dk_180 1 115 (dk_at dksX0_walk_5 20 rfl rfl)
theorem dX0_walk_139 : decode cX0_walk 139 = .ok (.goto 7, 3) := dk_167 0 7 (dk_at dksX0_walk_6 0 rfl rfl)
theorem dX0_walk_142 : decode cX0_walk 142 = .ok (.aload_n 0, 1) := dk_42 (dk_at dksX0_walk_6 3 rfl rfl)
theorem dX0_walk_143 : decode cX0_walk 143 = .ok (.getfield 374, 3) := dk_180 1 118 (dk_at dksX0_walk_6 4 rfl rfl)
theorem dX0_walk_146 : decode cX0_walk 146 = .ok (.ireturn, 1) := dk_172 (dk_at dksX0_walk_6 7 rfl rfl)
abbrev cX0_comes : ByteArray := prog_1_method_54_code
def yX0_comes : MethodName := ⟨RX0, "comes", "(III)V"⟩
def dkwX0_comes_2 : List UInt8 := [42, 180, 1, 118, 29, 184, 0, 251, 181, 1, 118, 177]
abbrev dktX0_comes_2 : List UInt8 := dkwX0_comes_2 ++ []
def dkwX0_comes_1 : List UInt8 := [167, 0, 35, 27, 42, 180, 1, 112, 160, 0, 27, 42, 42, 180, 1, 115, 28, 184, 0, 251, 181, 1, 115, 42]
abbrev dktX0_comes_1 : List UInt8 := dkwX0_comes_1 ++ dktX0_comes_2
def dkwX0_comes_0 : List UInt8 := [27, 42, 180, 1, 112, 164, 0, 21, 42, 27, 181, 1, 112, 42, 28, 181, 1, 115, 42, 29, 181, 1, 118]
abbrev dktX0_comes_0 : List UInt8 := dkwX0_comes_0 ++ dktX0_comes_1
theorem dksX0_comes_0 : cX0_comes.data.toList.drop 0 = dktX0_comes_0 := by decide +kernel
theorem dksX0_comes_1 : cX0_comes.data.toList.drop 23 = dktX0_comes_1 := dk_seg dksX0_comes_0 23 rfl rfl
theorem dksX0_comes_2 : cX0_comes.data.toList.drop 47 = dktX0_comes_2 := dk_seg dksX0_comes_1 24 rfl rfl
theorem dX0_comes_0 : decode cX0_comes 0 = .ok (.iload_n 1, 1) := dk_27 (dk_at dksX0_comes_0 0 rfl rfl)
theorem dX0_comes_1 : decode cX0_comes 1 = .ok (.aload_n 0, 1) := dk_42 (dk_at dksX0_comes_0 1 rfl rfl)
theorem dX0_comes_2 : decode cX0_comes 2 = .ok (.getfield 368, 3) := dk_180 1 112 (dk_at dksX0_comes_0 2 rfl rfl)
theorem dX0_comes_5 : decode cX0_comes 5 = .ok (.if_icmp .le 21, 3) := dk_164 0 21 (dk_at dksX0_comes_0 5 rfl rfl)
theorem dX0_comes_8 : decode cX0_comes 8 = .ok (.aload_n 0, 1) := dk_42 (dk_at dksX0_comes_0 8 rfl rfl)
theorem dX0_comes_9 : decode cX0_comes 9 = .ok (.iload_n 1, 1) := dk_27 (dk_at dksX0_comes_0 9 rfl rfl)
theorem dX0_comes_10 : decode cX0_comes 10 = .ok (.putfield 368, 3) := dk_181 1 112 (dk_at dksX0_comes_0 10 rfl rfl)
theorem dX0_comes_13 : decode cX0_comes 13 = .ok (.aload_n 0, 1) := dk_42 (dk_at dksX0_comes_0 13 rfl rfl)
theorem dX0_comes_14 : decode cX0_comes 14 = .ok (.iload_n 2, 1) := dk_28 (dk_at dksX0_comes_0 14 rfl rfl)
theorem dX0_comes_15 : decode cX0_comes 15 = .ok (.putfield 371, 3) := dk_181 1 115 (dk_at dksX0_comes_0 15 rfl rfl)
theorem dX0_comes_18 : decode cX0_comes 18 = .ok (.aload_n 0, 1) := dk_42 (dk_at dksX0_comes_0 18 rfl rfl)
theorem dX0_comes_19 : decode cX0_comes 19 = .ok (.iload_n 3, 1) := dk_29 (dk_at dksX0_comes_0 19 rfl rfl)
theorem dX0_comes_20 : decode cX0_comes 20 = .ok (.putfield 374, 3) := dk_181 1 118 (dk_at dksX0_comes_0 20 rfl rfl)
theorem dX0_comes_23 : decode cX0_comes 23 = .ok (.goto 35, 3) := dk_167 0 35 (dk_at dksX0_comes_1 0 rfl rfl)
theorem dX0_comes_26 : decode cX0_comes 26 = .ok (.iload_n 1, 1) := dk_27 (dk_at dksX0_comes_1 3 rfl rfl)
theorem dX0_comes_27 : decode cX0_comes 27 = .ok (.aload_n 0, 1) := dk_42 (dk_at dksX0_comes_1 4 rfl rfl)
theorem dX0_comes_28 : decode cX0_comes 28 = .ok (.getfield 368, 3) := dk_180 1 112 (dk_at dksX0_comes_1 5 rfl rfl)
theorem dX0_comes_31 : decode cX0_comes 31 = .ok (.if_icmp .ne 27, 3) := dk_160 0 27 (dk_at dksX0_comes_1 8 rfl rfl)
theorem dX0_comes_34 : decode cX0_comes 34 = .ok (.aload_n 0, 1) := dk_42 (dk_at dksX0_comes_1 11 rfl rfl)
theorem dX0_comes_35 : decode cX0_comes 35 = .ok (.aload_n 0, 1) := dk_42 (dk_at dksX0_comes_1 12 rfl rfl)
theorem dX0_comes_36 : decode cX0_comes 36 = .ok (.getfield 371, 3) := dk_180 1 115 (dk_at dksX0_comes_1 13 rfl rfl)
theorem dX0_comes_39 : decode cX0_comes 39 = .ok (.iload_n 2, 1) := dk_28 (dk_at dksX0_comes_1 16 rfl rfl)
theorem dX0_comes_40 : decode cX0_comes 40 = .ok (.invokestatic 251, 3) := dk_184 0 251 (dk_at dksX0_comes_1 17 rfl rfl)
theorem dX0_comes_43 : decode cX0_comes 43 = .ok (.putfield 371, 3) := dk_181 1 115 (dk_at dksX0_comes_1 20 rfl rfl)
theorem dX0_comes_46 : decode cX0_comes 46 = .ok (.aload_n 0, 1) := dk_42 (dk_at dksX0_comes_1 23 rfl rfl)
theorem dX0_comes_47 : decode cX0_comes 47 = .ok (.aload_n 0, 1) := dk_42 (dk_at dksX0_comes_2 0 rfl rfl)
theorem dX0_comes_48 : decode cX0_comes 48 = .ok (.getfield 374, 3) := dk_180 1 118 (dk_at dksX0_comes_2 1 rfl rfl)
theorem dX0_comes_51 : decode cX0_comes 51 = .ok (.iload_n 3, 1) := dk_29 (dk_at dksX0_comes_2 4 rfl rfl)
theorem dX0_comes_52 : decode cX0_comes 52 = .ok (.invokestatic 251, 3) := dk_184 0 251 (dk_at dksX0_comes_2 5 rfl rfl)
theorem dX0_comes_55 : decode cX0_comes 55 = .ok (.putfield 374, 3) := dk_181 1 118 (dk_at dksX0_comes_2 8 rfl rfl)
theorem dX0_comes_58 : decode cX0_comes 58 = .ok (.return_, 1) := dk_177 (dk_at dksX0_comes_2 11 rfl rfl)
abbrev cX0_walksBy : ByteArray := prog_1_method_53_code
def yX0_walksBy : MethodName := ⟨RX0, "walksBy", "(II)V"⟩
def dkwX0_walksBy_10 : List UInt8 := [28, 21, 6, 182, 1, 108, 132, 6, 1, 167, 255, 157, 177]
abbrev dktX0_walksBy_10 : List UInt8 := dkwX0_walksBy_10 ++ []
def dkwX0_walksBy_9 : List UInt8 := [153, 0, 30, 42, 42, 180, 0, 57, 21, 5, 21, 6, 128, 46, 21, 4, 96, 42, 21, 6, 182, 1, 98, 100]
abbrev dktX0_walksBy_9 : List UInt8 := dkwX0_walksBy_9 ++ dktX0_walksBy_10
def dkwX0_walksBy_8 : List UInt8 := [21, 6, 96, 51, 153, 0, 7, 4, 167, 0, 4, 3, 54, 7, 132, 8, 1, 167, 255, 212, 21, 7]
abbrev dktX0_walksBy_8 : List UInt8 := dkwX0_walksBy_8 ++ dktX0_walksBy_9
def dkwX0_walksBy_7 : List UInt8 := [180, 0, 12, 180, 0, 89, 162, 0, 38, 21, 7, 154, 0, 20, 42, 180, 0, 77, 17, 16, 0, 21, 8, 104]
abbrev dktX0_walksBy_7 : List UInt8 := dkwX0_walksBy_7 ++ dktX0_walksBy_8
def dkwX0_walksBy_6 : List UInt8 := [54, 6, 21, 6, 4, 42, 182, 0, 103, 120, 162, 0, 94, 3, 54, 7, 3, 54, 8, 21, 8, 42]
abbrev dktX0_walksBy_6 : List UInt8 := dkwX0_walksBy_6 ++ dktX0_walksBy_7
def dkwX0_walksBy_5 : List UInt8 := [182, 1, 105, 132, 5, 1, 167, 255, 207, 42, 180, 0, 19, 42, 180, 0, 12, 27, 182, 0, 195, 54, 5, 3]
abbrev dktX0_walksBy_5 : List UInt8 := dkwX0_walksBy_5 ++ dktX0_walksBy_6
def dkwX0_walksBy_4 : List UInt8 := [182, 1, 101, 42, 21, 5, 154, 0, 7, 28, 167, 0, 4, 2, 21, 5, 154, 0, 7, 28, 167, 0, 4, 4]
abbrev dktX0_walksBy_4 : List UInt8 := dkwX0_walksBy_4 ++ dktX0_walksBy_5
def dkwX0_walksBy_3 : List UInt8 := [84, 3, 54, 5, 21, 5, 29, 162, 0, 49, 42, 42, 180, 0, 19, 180, 0, 165, 21, 5, 96, 21, 4]
abbrev dktX0_walksBy_3 : List UInt8 := dkwX0_walksBy_3 ++ dktX0_walksBy_4
def dkwX0_walksBy_2 : List UInt8 := [132, 5, 1, 167, 255, 235, 42, 180, 0, 77, 17, 16, 0, 42, 180, 0, 19, 180, 0, 192, 27, 46, 104, 4]
abbrev dktX0_walksBy_2 : List UInt8 := dkwX0_walksBy_2 ++ dktX0_walksBy_3
def dkwX0_walksBy_1 : List UInt8 := [54, 4, 3, 54, 5, 21, 5, 42, 180, 0, 77, 190, 162, 0, 17, 42, 180, 0, 77, 21, 5, 3, 84]
abbrev dktX0_walksBy_1 : List UInt8 := dkwX0_walksBy_1 ++ dktX0_walksBy_2
def dkwX0_walksBy_0 : List UInt8 := [42, 180, 0, 12, 42, 180, 0, 19, 180, 0, 165, 182, 1, 50, 62, 42, 180, 0, 19, 180, 0, 189, 27, 46]
abbrev dktX0_walksBy_0 : List UInt8 := dkwX0_walksBy_0 ++ dktX0_walksBy_1
theorem dksX0_walksBy_0 : cX0_walksBy.data.toList.drop 0 = dktX0_walksBy_0 := by decide +kernel
theorem dksX0_walksBy_1 : cX0_walksBy.data.toList.drop 24 = dktX0_walksBy_1 := dk_seg dksX0_walksBy_0 24 rfl rfl
theorem dksX0_walksBy_2 : cX0_walksBy.data.toList.drop 47 = dktX0_walksBy_2 := dk_seg dksX0_walksBy_1 23 rfl rfl
theorem dksX0_walksBy_3 : cX0_walksBy.data.toList.drop 71 = dktX0_walksBy_3 := dk_seg dksX0_walksBy_2 24 rfl rfl
theorem dksX0_walksBy_4 : cX0_walksBy.data.toList.drop 94 = dktX0_walksBy_4 := dk_seg dksX0_walksBy_3 23 rfl rfl
theorem dksX0_walksBy_5 : cX0_walksBy.data.toList.drop 118 = dktX0_walksBy_5 := dk_seg dksX0_walksBy_4 24 rfl rfl
theorem dksX0_walksBy_6 : cX0_walksBy.data.toList.drop 142 = dktX0_walksBy_6 := dk_seg dksX0_walksBy_5 24 rfl rfl
theorem dksX0_walksBy_7 : cX0_walksBy.data.toList.drop 164 = dktX0_walksBy_7 := dk_seg dksX0_walksBy_6 22 rfl rfl
theorem dksX0_walksBy_8 : cX0_walksBy.data.toList.drop 188 = dktX0_walksBy_8 := dk_seg dksX0_walksBy_7 24 rfl rfl
theorem dksX0_walksBy_9 : cX0_walksBy.data.toList.drop 210 = dktX0_walksBy_9 := dk_seg dksX0_walksBy_8 22 rfl rfl
theorem dksX0_walksBy_10 : cX0_walksBy.data.toList.drop 234 = dktX0_walksBy_10 := dk_seg dksX0_walksBy_9 24 rfl rfl
theorem dX0_walksBy_0 : decode cX0_walksBy 0 = .ok (.aload_n 0, 1) := dk_42 (dk_at dksX0_walksBy_0 0 rfl rfl)
theorem dX0_walksBy_1 : decode cX0_walksBy 1 = .ok (.getfield 12, 3) := dk_180 0 12 (dk_at dksX0_walksBy_0 1 rfl rfl)
theorem dX0_walksBy_4 : decode cX0_walksBy 4 = .ok (.aload_n 0, 1) := dk_42 (dk_at dksX0_walksBy_0 4 rfl rfl)
theorem dX0_walksBy_5 : decode cX0_walksBy 5 = .ok (.getfield 19, 3) := dk_180 0 19 (dk_at dksX0_walksBy_0 5 rfl rfl)
theorem dX0_walksBy_8 : decode cX0_walksBy 8 = .ok (.getfield 165, 3) := dk_180 0 165 (dk_at dksX0_walksBy_0 8 rfl rfl)
theorem dX0_walksBy_11 : decode cX0_walksBy 11 = .ok (.invokevirtual 306, 3) := dk_182 1 50 (dk_at dksX0_walksBy_0 11 rfl rfl)
theorem dX0_walksBy_14 : decode cX0_walksBy 14 = .ok (.istore_n 3, 1) := dk_62 (dk_at dksX0_walksBy_0 14 rfl rfl)
theorem dX0_walksBy_15 : decode cX0_walksBy 15 = .ok (.aload_n 0, 1) := dk_42 (dk_at dksX0_walksBy_0 15 rfl rfl)
theorem dX0_walksBy_16 : decode cX0_walksBy 16 = .ok (.getfield 19, 3) := dk_180 0 19 (dk_at dksX0_walksBy_0 16 rfl rfl)
theorem dX0_walksBy_19 : decode cX0_walksBy 19 = .ok (.getfield 189, 3) := dk_180 0 189 (dk_at dksX0_walksBy_0 19 rfl rfl)
theorem dX0_walksBy_22 : decode cX0_walksBy 22 = .ok (.iload_n 1, 1) := dk_27 (dk_at dksX0_walksBy_0 22 rfl rfl)
theorem dX0_walksBy_23 : decode cX0_walksBy 23 = .ok (.iaload, 1) := dk_46 (dk_at dksX0_walksBy_0 23 rfl rfl)
theorem dX0_walksBy_24 : decode cX0_walksBy 24 = .ok (.istore 4, 2) := dk_54 4 (dk_at dksX0_walksBy_1 0 rfl rfl)
theorem dX0_walksBy_26 : decode cX0_walksBy 26 = .ok (.iconst 0, 1) := dk_3 (dk_at dksX0_walksBy_1 2 rfl rfl)
theorem dX0_walksBy_27 : decode cX0_walksBy 27 = .ok (.istore 5, 2) := dk_54 5 (dk_at dksX0_walksBy_1 3 rfl rfl)
theorem dX0_walksBy_29 : decode cX0_walksBy 29 = .ok (.iload 5, 2) := dk_21 5 (dk_at dksX0_walksBy_1 5 rfl rfl)
theorem dX0_walksBy_31 : decode cX0_walksBy 31 = .ok (.aload_n 0, 1) := dk_42 (dk_at dksX0_walksBy_1 7 rfl rfl)
theorem dX0_walksBy_32 : decode cX0_walksBy 32 = .ok (.getfield 77, 3) := dk_180 0 77 (dk_at dksX0_walksBy_1 8 rfl rfl)
theorem dX0_walksBy_35 : decode cX0_walksBy 35 = .ok (.arraylength, 1) := dk_190 (dk_at dksX0_walksBy_1 11 rfl rfl)
theorem dX0_walksBy_36 : decode cX0_walksBy 36 = .ok (.if_icmp .ge 17, 3) := dk_162 0 17 (dk_at dksX0_walksBy_1 12 rfl rfl)
theorem dX0_walksBy_39 : decode cX0_walksBy 39 = .ok (.aload_n 0, 1) := dk_42 (dk_at dksX0_walksBy_1 15 rfl rfl)
theorem dX0_walksBy_40 : decode cX0_walksBy 40 = .ok (.getfield 77, 3) := dk_180 0 77 (dk_at dksX0_walksBy_1 16 rfl rfl)
theorem dX0_walksBy_43 : decode cX0_walksBy 43 = .ok (.iload 5, 2) := dk_21 5 (dk_at dksX0_walksBy_1 19 rfl rfl)
theorem dX0_walksBy_45 : decode cX0_walksBy 45 = .ok (.iconst 0, 1) := dk_3 (dk_at dksX0_walksBy_1 21 rfl rfl)
theorem dX0_walksBy_46 : decode cX0_walksBy 46 = .ok (.bastore, 1) := dk_84 (dk_at dksX0_walksBy_1 22 rfl rfl)
theorem dX0_walksBy_47 : decode cX0_walksBy 47 = .ok (.iinc 5 1, 3) := dk_132 5 1 (dk_at dksX0_walksBy_2 0 rfl rfl)
theorem dX0_walksBy_50 : decode cX0_walksBy 50 = .ok (.goto (-21), 3) := dk_167 255 235 (dk_at dksX0_walksBy_2 3 rfl rfl)
theorem dX0_walksBy_53 : decode cX0_walksBy 53 = .ok (.aload_n 0, 1) := dk_42 (dk_at dksX0_walksBy_2 6 rfl rfl)
theorem dX0_walksBy_54 : decode cX0_walksBy 54 = .ok (.getfield 77, 3) := dk_180 0 77 (dk_at dksX0_walksBy_2 7 rfl rfl)
theorem dX0_walksBy_57 : decode cX0_walksBy 57 = .ok (.sipush 4096, 3) := dk_17 16 0 (dk_at dksX0_walksBy_2 10 rfl rfl)
theorem dX0_walksBy_60 : decode cX0_walksBy 60 = .ok (.aload_n 0, 1) := dk_42 (dk_at dksX0_walksBy_2 13 rfl rfl)
theorem dX0_walksBy_61 : decode cX0_walksBy 61 = .ok (.getfield 19, 3) := dk_180 0 19 (dk_at dksX0_walksBy_2 14 rfl rfl)
theorem dX0_walksBy_64 : decode cX0_walksBy 64 = .ok (.getfield 192, 3) := dk_180 0 192 (dk_at dksX0_walksBy_2 17 rfl rfl)
theorem dX0_walksBy_67 : decode cX0_walksBy 67 = .ok (.iload_n 1, 1) := dk_27 (dk_at dksX0_walksBy_2 20 rfl rfl)
theorem dX0_walksBy_68 : decode cX0_walksBy 68 = .ok (.iaload, 1) := dk_46 (dk_at dksX0_walksBy_2 21 rfl rfl)
theorem dX0_walksBy_69 : decode cX0_walksBy 69 = .ok (.imul, 1) := dk_104 (dk_at dksX0_walksBy_2 22 rfl rfl)
theorem dX0_walksBy_70 : decode cX0_walksBy 70 = .ok (.iconst 1, 1) := dk_4 (dk_at dksX0_walksBy_2 23 rfl rfl)
theorem dX0_walksBy_71 : decode cX0_walksBy 71 = .ok (.bastore, 1) := dk_84 (dk_at dksX0_walksBy_3 0 rfl rfl)
theorem dX0_walksBy_72 : decode cX0_walksBy 72 = .ok (.iconst 0, 1) := dk_3 (dk_at dksX0_walksBy_3 1 rfl rfl)
theorem dX0_walksBy_73 : decode cX0_walksBy 73 = .ok (.istore 5, 2) := dk_54 5 (dk_at dksX0_walksBy_3 2 rfl rfl)
theorem dX0_walksBy_75 : decode cX0_walksBy 75 = .ok (.iload 5, 2) := dk_21 5 (dk_at dksX0_walksBy_3 4 rfl rfl)
theorem dX0_walksBy_77 : decode cX0_walksBy 77 = .ok (.iload_n 3, 1) := dk_29 (dk_at dksX0_walksBy_3 6 rfl rfl)
theorem dX0_walksBy_78 : decode cX0_walksBy 78 = .ok (.if_icmp .ge 49, 3) := dk_162 0 49 (dk_at dksX0_walksBy_3 7 rfl rfl)
theorem dX0_walksBy_81 : decode cX0_walksBy 81 = .ok (.aload_n 0, 1) := dk_42 (dk_at dksX0_walksBy_3 10 rfl rfl)
theorem dX0_walksBy_82 : decode cX0_walksBy 82 = .ok (.aload_n 0, 1) := dk_42 (dk_at dksX0_walksBy_3 11 rfl rfl)
theorem dX0_walksBy_83 : decode cX0_walksBy 83 = .ok (.getfield 19, 3) := dk_180 0 19 (dk_at dksX0_walksBy_3 12 rfl rfl)
theorem dX0_walksBy_86 : decode cX0_walksBy 86 = .ok (.getfield 165, 3) := dk_180 0 165 (dk_at dksX0_walksBy_3 15 rfl rfl)
theorem dX0_walksBy_89 : decode cX0_walksBy 89 = .ok (.iload 5, 2) := dk_21 5 (dk_at dksX0_walksBy_3 18 rfl rfl)
theorem dX0_walksBy_91 : decode cX0_walksBy 91 = .ok (.iadd, 1) := dk_96 (dk_at dksX0_walksBy_3 20 rfl rfl)
theorem dX0_walksBy_92 : decode cX0_walksBy 92 = .ok (.iload 4, 2) := dk_21 4 (dk_at dksX0_walksBy_3 21 rfl rfl)
theorem dX0_walksBy_94 : decode cX0_walksBy 94 = .ok (.invokevirtual 357, 3) := dk_182 1 101 (dk_at dksX0_walksBy_4 0 rfl rfl)
theorem dX0_walksBy_97 : decode cX0_walksBy 97 = .ok (.aload_n 0, 1) := dk_42 (dk_at dksX0_walksBy_4 3 rfl rfl)
theorem dX0_walksBy_98 : decode cX0_walksBy 98 = .ok (.iload 5, 2) := dk_21 5 (dk_at dksX0_walksBy_4 4 rfl rfl)
theorem dX0_walksBy_100 : decode cX0_walksBy 100 = .ok (.ifCond .ne 7, 3) := dk_154 0 7 (dk_at dksX0_walksBy_4 6 rfl rfl)
theorem dX0_walksBy_103 : decode cX0_walksBy 103 = .ok (.iload_n 2, 1) := dk_28 (dk_at dksX0_walksBy_4 9 rfl rfl)
theorem dX0_walksBy_104 : decode cX0_walksBy 104 = .ok (.goto 4, 3) := dk_167 0 4 (dk_at dksX0_walksBy_4 10 rfl rfl)
theorem dX0_walksBy_107 : decode cX0_walksBy 107 = .ok (.iconst (-1), 1) := dk_2 (dk_at dksX0_walksBy_4 13 rfl rfl)
theorem dX0_walksBy_108 : decode cX0_walksBy 108 = .ok (.iload 5, 2) := dk_21 5 (dk_at dksX0_walksBy_4 14 rfl rfl)
theorem dX0_walksBy_110 : decode cX0_walksBy 110 = .ok (.ifCond .ne 7, 3) := dk_154 0 7 (dk_at dksX0_walksBy_4 16 rfl rfl)
theorem dX0_walksBy_113 : decode cX0_walksBy 113 = .ok (.iload_n 2, 1) := dk_28 (dk_at dksX0_walksBy_4 19 rfl rfl)
theorem dX0_walksBy_114 : decode cX0_walksBy 114 = .ok (.goto 4, 3) := dk_167 0 4 (dk_at dksX0_walksBy_4 20 rfl rfl)
theorem dX0_walksBy_117 : decode cX0_walksBy 117 = .ok (.iconst 1, 1) := dk_4 (dk_at dksX0_walksBy_4 23 rfl rfl)
theorem dX0_walksBy_118 : decode cX0_walksBy 118 = .ok (.invokevirtual 361, 3) := dk_182 1 105 (dk_at dksX0_walksBy_5 0 rfl rfl)
theorem dX0_walksBy_121 : decode cX0_walksBy 121 = .ok (.iinc 5 1, 3) := dk_132 5 1 (dk_at dksX0_walksBy_5 3 rfl rfl)
theorem dX0_walksBy_124 : decode cX0_walksBy 124 = .ok (.goto (-49), 3) := dk_167 255 207 (dk_at dksX0_walksBy_5 6 rfl rfl)
theorem dX0_walksBy_127 : decode cX0_walksBy 127 = .ok (.aload_n 0, 1) := dk_42 (dk_at dksX0_walksBy_5 9 rfl rfl)
theorem dX0_walksBy_128 : decode cX0_walksBy 128 = .ok (.getfield 19, 3) := dk_180 0 19 (dk_at dksX0_walksBy_5 10 rfl rfl)
theorem dX0_walksBy_131 : decode cX0_walksBy 131 = .ok (.aload_n 0, 1) := dk_42 (dk_at dksX0_walksBy_5 13 rfl rfl)
theorem dX0_walksBy_132 : decode cX0_walksBy 132 = .ok (.getfield 12, 3) := dk_180 0 12 (dk_at dksX0_walksBy_5 14 rfl rfl)
theorem dX0_walksBy_135 : decode cX0_walksBy 135 = .ok (.iload_n 1, 1) := dk_27 (dk_at dksX0_walksBy_5 17 rfl rfl)
theorem dX0_walksBy_136 : decode cX0_walksBy 136 = .ok (.invokevirtual 195, 3) := dk_182 0 195 (dk_at dksX0_walksBy_5 18 rfl rfl)
theorem dX0_walksBy_139 : decode cX0_walksBy 139 = .ok (.istore 5, 2) := dk_54 5 (dk_at dksX0_walksBy_5 21 rfl rfl)
theorem dX0_walksBy_141 : decode cX0_walksBy 141 = .ok (.iconst 0, 1) := dk_3 (dk_at dksX0_walksBy_5 23 rfl rfl)
theorem dX0_walksBy_142 : decode cX0_walksBy 142 = .ok (.istore 6, 2) := dk_54 6 (dk_at dksX0_walksBy_6 0 rfl rfl)
theorem dX0_walksBy_144 : decode cX0_walksBy 144 = .ok (.iload 6, 2) := dk_21 6 (dk_at dksX0_walksBy_6 2 rfl rfl)
theorem dX0_walksBy_146 : decode cX0_walksBy 146 = .ok (.iconst 1, 1) := dk_4 (dk_at dksX0_walksBy_6 4 rfl rfl)
theorem dX0_walksBy_147 : decode cX0_walksBy 147 = .ok (.aload_n 0, 1) := dk_42 (dk_at dksX0_walksBy_6 5 rfl rfl)
theorem dX0_walksBy_148 : decode cX0_walksBy 148 = .ok (.invokevirtual 103, 3) := dk_182 0 103 (dk_at dksX0_walksBy_6 6 rfl rfl)
theorem dX0_walksBy_151 : decode cX0_walksBy 151 = .ok (.ishl, 1) := dk_120 (dk_at dksX0_walksBy_6 9 rfl rfl)
theorem dX0_walksBy_152 : decode cX0_walksBy 152 = .ok (.if_icmp .ge 94, 3) := dk_162 0 94 (dk_at dksX0_walksBy_6 10 rfl rfl)
theorem dX0_walksBy_155 : decode cX0_walksBy 155 = .ok (.iconst 0, 1) := dk_3 (dk_at dksX0_walksBy_6 13 rfl rfl)
theorem dX0_walksBy_156 : decode cX0_walksBy 156 = .ok (.istore 7, 2) := dk_54 7 (dk_at dksX0_walksBy_6 14 rfl rfl)
theorem dX0_walksBy_158 : decode cX0_walksBy 158 = .ok (.iconst 0, 1) := dk_3 (dk_at dksX0_walksBy_6 16 rfl rfl)
theorem dX0_walksBy_159 : decode cX0_walksBy 159 = .ok (.istore 8, 2) := dk_54 8 (dk_at dksX0_walksBy_6 17 rfl rfl)
theorem dX0_walksBy_161 : decode cX0_walksBy 161 = .ok (.iload 8, 2) := dk_21 8 (dk_at dksX0_walksBy_6 19 rfl rfl)
theorem dX0_walksBy_163 : decode cX0_walksBy 163 = .ok (.aload_n 0, 1) := dk_42 (dk_at dksX0_walksBy_6 21 rfl rfl)
theorem dX0_walksBy_164 : decode cX0_walksBy 164 = .ok (.getfield 12, 3) := dk_180 0 12 (dk_at dksX0_walksBy_7 0 rfl rfl)
theorem dX0_walksBy_167 : decode cX0_walksBy 167 = .ok (.getfield 89, 3) := dk_180 0 89 (dk_at dksX0_walksBy_7 3 rfl rfl)
theorem dX0_walksBy_170 : decode cX0_walksBy 170 = .ok (.if_icmp .ge 38, 3) := dk_162 0 38 (dk_at dksX0_walksBy_7 6 rfl rfl)
theorem dX0_walksBy_173 : decode cX0_walksBy 173 = .ok (.iload 7, 2) := dk_21 7 (dk_at dksX0_walksBy_7 9 rfl rfl)
theorem dX0_walksBy_175 : decode cX0_walksBy 175 = .ok (.ifCond .ne 20, 3) := dk_154 0 20 (dk_at dksX0_walksBy_7 11 rfl rfl)
theorem dX0_walksBy_178 : decode cX0_walksBy 178 = .ok (.aload_n 0, 1) := dk_42 (dk_at dksX0_walksBy_7 14 rfl rfl)
theorem dX0_walksBy_179 : decode cX0_walksBy 179 = .ok (.getfield 77, 3) := dk_180 0 77 (dk_at dksX0_walksBy_7 15 rfl rfl)
theorem dX0_walksBy_182 : decode cX0_walksBy 182 = .ok (.sipush 4096, 3) := dk_17 16 0 (dk_at dksX0_walksBy_7 18 rfl rfl)
theorem dX0_walksBy_185 : decode cX0_walksBy 185 = .ok (.iload 8, 2) := dk_21 8 (dk_at dksX0_walksBy_7 21 rfl rfl)
theorem dX0_walksBy_187 : decode cX0_walksBy 187 = .ok (.imul, 1) := dk_104 (dk_at dksX0_walksBy_7 23 rfl rfl)
theorem dX0_walksBy_188 : decode cX0_walksBy 188 = .ok (.iload 6, 2) := dk_21 6 (dk_at dksX0_walksBy_8 0 rfl rfl)
theorem dX0_walksBy_190 : decode cX0_walksBy 190 = .ok (.iadd, 1) := dk_96 (dk_at dksX0_walksBy_8 2 rfl rfl)
theorem dX0_walksBy_191 : decode cX0_walksBy 191 = .ok (.baload, 1) := dk_51 (dk_at dksX0_walksBy_8 3 rfl rfl)
theorem dX0_walksBy_192 : decode cX0_walksBy 192 = .ok (.ifCond .eq 7, 3) := dk_153 0 7 (dk_at dksX0_walksBy_8 4 rfl rfl)
theorem dX0_walksBy_195 : decode cX0_walksBy 195 = .ok (.iconst 1, 1) := dk_4 (dk_at dksX0_walksBy_8 7 rfl rfl)
theorem dX0_walksBy_196 : decode cX0_walksBy 196 = .ok (.goto 4, 3) := dk_167 0 4 (dk_at dksX0_walksBy_8 8 rfl rfl)
theorem dX0_walksBy_199 : decode cX0_walksBy 199 = .ok (.iconst 0, 1) := dk_3 (dk_at dksX0_walksBy_8 11 rfl rfl)
theorem dX0_walksBy_200 : decode cX0_walksBy 200 = .ok (.istore 7, 2) := dk_54 7 (dk_at dksX0_walksBy_8 12 rfl rfl)
theorem dX0_walksBy_202 : decode cX0_walksBy 202 = .ok (.iinc 8 1, 3) := dk_132 8 1 (dk_at dksX0_walksBy_8 14 rfl rfl)
theorem dX0_walksBy_205 : decode cX0_walksBy 205 = .ok (.goto (-44), 3) := dk_167 255 212 (dk_at dksX0_walksBy_8 17 rfl rfl)
theorem dX0_walksBy_208 : decode cX0_walksBy 208 = .ok (.iload 7, 2) := dk_21 7 (dk_at dksX0_walksBy_8 20 rfl rfl)
theorem dX0_walksBy_210 : decode cX0_walksBy 210 = .ok (.ifCond .eq 30, 3) := dk_153 0 30 (dk_at dksX0_walksBy_9 0 rfl rfl)
theorem dX0_walksBy_213 : decode cX0_walksBy 213 = .ok (.aload_n 0, 1) := dk_42 (dk_at dksX0_walksBy_9 3 rfl rfl)
theorem dX0_walksBy_214 : decode cX0_walksBy 214 = .ok (.aload_n 0, 1) := dk_42 (dk_at dksX0_walksBy_9 4 rfl rfl)
theorem dX0_walksBy_215 : decode cX0_walksBy 215 = .ok (.getfield 57, 3) := dk_180 0 57 (dk_at dksX0_walksBy_9 5 rfl rfl)
theorem dX0_walksBy_218 : decode cX0_walksBy 218 = .ok (.iload 5, 2) := dk_21 5 (dk_at dksX0_walksBy_9 8 rfl rfl)
theorem dX0_walksBy_220 : decode cX0_walksBy 220 = .ok (.iload 6, 2) := dk_21 6 (dk_at dksX0_walksBy_9 10 rfl rfl)
theorem dX0_walksBy_222 : decode cX0_walksBy 222 = .ok (.ior, 1) := dk_128 (dk_at dksX0_walksBy_9 12 rfl rfl)
theorem dX0_walksBy_223 : decode cX0_walksBy 223 = .ok (.iaload, 1) := dk_46 (dk_at dksX0_walksBy_9 13 rfl rfl)
theorem dX0_walksBy_224 : decode cX0_walksBy 224 = .ok (.iload 4, 2) := dk_21 4 (dk_at dksX0_walksBy_9 14 rfl rfl)
theorem dX0_walksBy_226 : decode cX0_walksBy 226 = .ok (.iadd, 1) := dk_96 (dk_at dksX0_walksBy_9 16 rfl rfl)
theorem dX0_walksBy_227 : decode cX0_walksBy 227 = .ok (.aload_n 0, 1) := dk_42 (dk_at dksX0_walksBy_9 17 rfl rfl)
theorem dX0_walksBy_228 : decode cX0_walksBy 228 = .ok (.iload 6, 2) := dk_21 6 (dk_at dksX0_walksBy_9 18 rfl rfl)
theorem dX0_walksBy_230 : decode cX0_walksBy 230 = .ok (.invokevirtual 354, 3) := dk_182 1 98 (dk_at dksX0_walksBy_9 20 rfl rfl)
theorem dX0_walksBy_233 : decode cX0_walksBy 233 = .ok (.isub, 1) := dk_100 (dk_at dksX0_walksBy_9 23 rfl rfl)
theorem dX0_walksBy_234 : decode cX0_walksBy 234 = .ok (.iload_n 2, 1) := dk_28 (dk_at dksX0_walksBy_10 0 rfl rfl)
theorem dX0_walksBy_235 : decode cX0_walksBy 235 = .ok (.iload 6, 2) := dk_21 6 (dk_at dksX0_walksBy_10 1 rfl rfl)
theorem dX0_walksBy_237 : decode cX0_walksBy 237 = .ok (.invokevirtual 364, 3) := dk_182 1 108 (dk_at dksX0_walksBy_10 3 rfl rfl)
theorem dX0_walksBy_240 : decode cX0_walksBy 240 = .ok (.iinc 6 1, 3) := dk_132 6 1 (dk_at dksX0_walksBy_10 6 rfl rfl)
theorem dX0_walksBy_243 : decode cX0_walksBy 243 = .ok (.goto (-99), 3) := dk_167 255 157 (dk_at dksX0_walksBy_10 9 rfl rfl)
theorem dX0_walksBy_246 : decode cX0_walksBy 246 = .ok (.return_, 1) := dk_177 (dk_at dksX0_walksBy_10 12 rfl rfl)
