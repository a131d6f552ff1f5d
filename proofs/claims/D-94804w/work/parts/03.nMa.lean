set_option maxRecDepth 100000
/-! HalfFairModel -/
set_option maxRecDepth 100000
def RX4 : String := "HalfFairModel"
def TX4 : u_T := fun k => match k with
  | 0 => ("HalfFairModel", "tape", "[B", true)
  | 1 => ("HalfFairModel", "taped", "I", false)
  | 2 => ("HalfFairModel", "rules", "I", false)
  | 3 => ("HalfFairModel", "sign", "[I", true)
  | 4 => ("HalfFairModel", "length", "[I", true)
  | 5 => ("HalfFairModel", "clause", "[I", true)
  | 6 => ("HalfFairModel", "clauses", "[I", true)
  | 7 => ("HalfFairModel", "read", "[I", true)
  | 8 => ("HalfFairModel", "next", "I", false)
  | 9 => ("HalfFairModel", "wrong", "I", false)
  | 10 => ("HalfFairModel", "number", "I", false)
  | 11 => ("HalfFairModel", "text", "I", false)
  | 12 => ("HalfFairModel", "made", "I", false)
  | 13 => ("HalfFairModel", "deep", "I", false)
  | 14 => ("HalfFairModel", "lines", "I", false)
  | 15 => ("HalfFairModel", "open", "[I", true)
  | 16 => ("HalfFairModel", "opened", "I", false)
  | 17 => ("HalfFairModel", "stack", "[J", true)
  | 18 => ("HalfFairModel", "top", "I", false)
  | 19 => ("HalfFairModel", "word", "[J", true)
  | 20 => ("HalfFairModel", "said", "[I", true)
  | 21 => ("HalfFairModel", "x", "I", false)
  | 22 => ("HalfFairModel", "worth", "[I", true)
  | 23 => ("HalfFairModel", "mate", "[I", true)
  | 24 => ("HalfFairModel", "wasSaid", "[I", true)
  | 25 => ("HalfFairModel", "undone", "I", false)
  | 26 => ("HalfFairModel", "boughtNow", "I", false)
  | 27 => ("HalfFairModel", "wayBy", "[I", true)
  | 28 => ("HalfFairModel", "wayThen", "[I", true)
  | 29 => ("HalfFairModel", "walkMost", "I", false)
  | 30 => ("HalfFairModel", "walkGoing", "I", false)
  | 31 => ("HalfFairModel", "walkSet", "I", false)
  | 32 => ("HalfFairModel", "kept", "[I", true)
  | 33 => ("HalfFairModel", "drawX", "J", false)
  | 34 => ("HalfFairModel", "images", "[I", true)
  | 35 => ("HalfFairModel", "imageX", "[I", true)
  | _ => ("HalfFairModel", "isMade", "[Z", true)
def tyX4 : Nat → FieldType := fun k => match k with
  | 0 => .array .byte
  | 1 => .int
  | 2 => .int
  | 3 => .array .int
  | 4 => .array .int
  | 5 => .array .int
  | 6 => .array .int
  | 7 => .array .int
  | 8 => .int
  | 9 => .int
  | 10 => .int
  | 11 => .int
  | 12 => .int
  | 13 => .int
  | 14 => .int
  | 15 => .array .int
  | 16 => .int
  | 17 => .array .long
  | 18 => .int
  | 19 => .array .long
  | 20 => .array .int
  | 21 => .int
  | 22 => .array .int
  | 23 => .array .int
  | 24 => .array .int
  | 25 => .int
  | 26 => .int
  | 27 => .array .int
  | 28 => .array .int
  | 29 => .int
  | 30 => .int
  | 31 => .int
  | 32 => .array .int
  | 33 => .long
  | 34 => .array .int
  | 35 => .array .int
  | _ => .array .boolean
abbrev wsX40 : List Cond := u_ws RX4 TX4 37
set_option maxRecDepth 100000 in
theorem nmX4 : ∀ a, a < 37 → ∀ b, b < 37 → a ≠ b → (TX4 a).2.1 ≠ (TX4 b).2.1 := by decide +kernel
set_option maxRecDepth 100000 in
theorem tyX4_ok : ∀ k, k < 37 → parseFieldDescriptor (TX4 k).2.2.1 = some (tyX4 k) := by decide +kernel
abbrev cX4_init : ByteArray := prog_20_method_1_code
def yX4_init : MethodName := ⟨RX4, "<init>", "()V"⟩
def dkwX4_init_7 : List UInt8 := [181, 0, 66, 177]
abbrev dktX4_init_7 : List UInt8 := dkwX4_init_7 ++ []
def dkwX4_init_6 : List UInt8 := [181, 0, 57, 42, 17, 1, 236, 188, 10, 181, 0, 60, 42, 7, 188, 10, 181, 0, 63, 42, 7, 188, 4]
abbrev dktX4_init_6 : List UInt8 := dkwX4_init_6 ++ dktX4_init_7
def dkwX4_init_5 : List UInt8 := [17, 8, 0, 188, 10, 181, 0, 51, 42, 17, 8, 0, 188, 10, 181, 0, 54, 42, 16, 86, 188, 10]
abbrev dktX4_init_5 : List UInt8 := dkwX4_init_5 ++ dktX4_init_6
def dkwX4_init_4 : List UInt8 := [188, 10, 181, 0, 42, 42, 17, 16, 0, 188, 10, 181, 0, 45, 42, 17, 6, 184, 188, 10, 181, 0, 48, 42]
abbrev dktX4_init_4 : List UInt8 := dkwX4_init_4 ++ dktX4_init_5
def dkwX4_init_3 : List UInt8 := [181, 0, 32, 42, 16, 13, 188, 11, 181, 0, 36, 42, 16, 123, 188, 10, 181, 0, 39, 42, 17, 16, 0]
abbrev dktX4_init_3 : List UInt8 := dkwX4_init_3 ++ dktX4_init_4
def dkwX4_init_2 : List UInt8 := [42, 16, 86, 188, 10, 181, 0, 26, 42, 17, 1, 144, 188, 10, 181, 0, 29, 42, 16, 64, 188, 11]
abbrev dktX4_init_2 : List UInt8 := dkwX4_init_2 ++ dktX4_init_3
def dkwX4_init_1 : List UInt8 := [16, 7, 188, 10, 181, 0, 17, 42, 17, 1, 104, 188, 10, 181, 0, 20, 42, 16, 6, 188, 10, 181, 0, 23]
abbrev dktX4_init_1 : List UInt8 := dkwX4_init_1 ++ dktX4_init_2
def dkwX4_init_0 : List UInt8 := [42, 183, 0, 1, 42, 17, 1, 144, 188, 8, 181, 0, 7, 42, 17, 9, 96, 188, 10, 181, 0, 13, 42]
abbrev dktX4_init_0 : List UInt8 := dkwX4_init_0 ++ dktX4_init_1
theorem dksX4_init_0 : cX4_init.data.toList.drop 0 = dktX4_init_0 := by decide +kernel
theorem dksX4_init_1 : cX4_init.data.toList.drop 23 = dktX4_init_1 := dk_seg dksX4_init_0 23 rfl rfl
theorem dksX4_init_2 : cX4_init.data.toList.drop 47 = dktX4_init_2 := dk_seg dksX4_init_1 24 rfl rfl
theorem dksX4_init_3 : cX4_init.data.toList.drop 69 = dktX4_init_3 := dk_seg dksX4_init_2 22 rfl rfl
theorem dksX4_init_4 : cX4_init.data.toList.drop 92 = dktX4_init_4 := dk_seg dksX4_init_3 23 rfl rfl
theorem dksX4_init_5 : cX4_init.data.toList.drop 116 = dktX4_init_5 := dk_seg dksX4_init_4 24 rfl rfl
theorem dksX4_init_6 : cX4_init.data.toList.drop 138 = dktX4_init_6 := dk_seg dksX4_init_5 22 rfl rfl
theorem dksX4_init_7 : cX4_init.data.toList.drop 161 = dktX4_init_7 := dk_seg dksX4_init_6 23 rfl rfl
theorem dX4_init_0 : decode cX4_init 0 = .ok (.aload_n 0, 1) := dk_42 (dk_at dksX4_init_0 0 rfl rfl)
theorem dX4_init_1 : decode cX4_init 1 = .ok (.invokespecial 1, 3) := dk_183 0 1 (dk_at dksX4_init_0 1 rfl rfl)
theorem dX4_init_4 : decode cX4_init 4 = .ok (.aload_n 0, 1) := dk_42 (dk_at dksX4_init_0 4 rfl rfl)
theorem dX4_init_5 : decode cX4_init 5 = .ok (.sipush 400, 3) := dk_17 1 144 (dk_at dksX4_init_0 5 rfl rfl)
theorem dX4_init_8 : decode cX4_init 8 = .ok (.newarray .byte, 2) := dk_188_8 (dk_at dksX4_init_0 8 rfl rfl)
theorem dX4_init_10 : decode cX4_init 10 = .ok (.putfield 7, 3) := dk_181 0 7 (dk_at dksX4_init_0 10 rfl rfl)
theorem dX4_init_13 : decode cX4_init 13 = .ok (.aload_n 0, 1) := dk_42 (dk_at dksX4_init_0 13 rfl rfl)
theorem dX4_init_14 : decode cX4_init 14 = .ok (.sipush 2400, 3) := dk_17 9 96 (dk_at dksX4_init_0 14 rfl rfl)
theorem dX4_init_17 : decode cX4_init 17 = .ok (.newarray .int, 2) := dk_188_10 (dk_at dksX4_init_0 17 rfl rfl)
theorem dX4_init_19 : decode cX4_init 19 = .ok (.putfield 13, 3) := dk_181 0 13 (dk_at dksX4_init_0 19 rfl rfl)
theorem dX4_init_22 : decode cX4_init 22 = .ok (.aload_n 0, 1) := dk_42 (dk_at dksX4_init_0 22 rfl rfl)
theorem dX4_init_23 : decode cX4_init 23 = .ok (.bipush 7, 2) := dk_16 7 (dk_at dksX4_init_1 0 rfl rfl)
theorem dX4_init_25 : decode cX4_init 25 = .ok (.newarray .int, 2) := dk_188_10 (dk_at dksX4_init_1 2 rfl rfl)
theorem dX4_init_27 : decode cX4_init 27 = .ok (.putfield 17, 3) := dk_181 0 17 (dk_at dksX4_init_1 4 rfl rfl)
theorem dX4_init_30 : decode cX4_init 30 = .ok (.aload_n 0, 1) := dk_42 (dk_at dksX4_init_1 7 rfl rfl)
theorem dX4_init_31 : decode cX4_init 31 = .ok (.sipush 360, 3) := dk_17 1 104 (dk_at dksX4_init_1 8 rfl rfl)
theorem dX4_init_34 : decode cX4_init 34 = .ok (.newarray .int, 2) := dk_188_10 (dk_at dksX4_init_1 11 rfl rfl)
theorem dX4_init_36 : decode cX4_init 36 = .ok (.putfield 20, 3) := dk_181 0 20 (dk_at dksX4_init_1 13 rfl rfl)
theorem dX4_init_39 : decode cX4_init 39 = .ok (.aload_n 0, 1) := dk_42 (dk_at dksX4_init_1 16 rfl rfl)
theorem dX4_init_40 : decode cX4_init 40 = .ok (.bipush 6, 2) := dk_16 6 (dk_at dksX4_init_1 17 rfl rfl)
theorem dX4_init_42 : decode cX4_init 42 = .ok (.newarray .int, 2) := dk_188_10 (dk_at dksX4_init_1 19 rfl rfl)
theorem dX4_init_44 : decode cX4_init 44 = .ok (.putfield 23, 3) := dk_181 0 23 (dk_at dksX4_init_1 21 rfl rfl)
theorem dX4_init_47 : decode cX4_init 47 = .ok (.aload_n 0, 1) := dk_42 (dk_at dksX4_init_2 0 rfl rfl)
theorem dX4_init_48 : decode cX4_init 48 = .ok (.bipush 86, 2) := dk_16 86 (dk_at dksX4_init_2 1 rfl rfl)
theorem dX4_init_50 : decode cX4_init 50 = .ok (.newarray .int, 2) := dk_188_10 (dk_at dksX4_init_2 3 rfl rfl)
theorem dX4_init_52 : decode cX4_init 52 = .ok (.putfield 26, 3) := dk_181 0 26 (dk_at dksX4_init_2 5 rfl rfl)
theorem dX4_init_55 : decode cX4_init 55 = .ok (.aload_n 0, 1) := dk_42 (dk_at dksX4_init_2 8 rfl rfl)
theorem dX4_init_56 : decode cX4_init 56 = .ok (.sipush 400, 3) := dk_17 1 144 (dk_at dksX4_init_2 9 rfl rfl)
theorem dX4_init_59 : decode cX4_init 59 = .ok (.newarray .int, 2) := dk_188_10 (dk_at dksX4_init_2 12 rfl rfl)
theorem dX4_init_61 : decode cX4_init 61 = .ok (.putfield 29, 3) := dk_181 0 29 (dk_at dksX4_init_2 14 rfl rfl)
theorem dX4_init_64 : decode cX4_init 64 = .ok (.aload_n 0, 1) := dk_42 (dk_at dksX4_init_2 17 rfl rfl)
theorem dX4_init_65 : decode cX4_init 65 = .ok (.bipush 64, 2) := dk_16 64 (dk_at dksX4_init_2 18 rfl rfl)
theorem dX4_init_67 : decode cX4_init 67 = .ok (.newarray .long, 2) := dk_188_11 (dk_at dksX4_init_2 20 rfl rfl)
theorem dX4_init_69 : decode cX4_init 69 = .ok (.putfield 32, 3) := dk_181 0 32 (dk_at dksX4_init_3 0 rfl rfl)
theorem dX4_init_72 : decode cX4_init 72 = .ok (.aload_n 0, 1) := dk_42 (dk_at dksX4_init_3 3 rfl rfl)
theorem dX4_init_73 : decode cX4_init 73 = .ok (.bipush 13, 2) := dk_16 13 (dk_at dksX4_init_3 4 rfl rfl)
theorem dX4_init_75 : decode cX4_init 75 = .ok (.newarray .long, 2) := dk_188_11 (dk_at dksX4_init_3 6 rfl rfl)
theorem dX4_init_77 : decode cX4_init 77 = .ok (.putfield 36, 3) := dk_181 0 36 (dk_at dksX4_init_3 8 rfl rfl)
theorem dX4_init_80 : decode cX4_init 80 = .ok (.aload_n 0, 1) := dk_42 (dk_at dksX4_init_3 11 rfl rfl)
theorem dX4_init_81 : decode cX4_init 81 = .ok (.bipush 123, 2) := dk_16 123 (dk_at dksX4_init_3 12 rfl rfl)
theorem dX4_init_83 : decode cX4_init 83 = .ok (.newarray .int, 2) := dk_188_10 (dk_at dksX4_init_3 14 rfl rfl)
theorem dX4_init_85 : decode cX4_init 85 = .ok (.putfield 39, 3) := dk_181 0 39 (dk_at dksX4_init_3 16 rfl rfl)
theorem dX4_init_88 : decode cX4_init 88 = .ok (.aload_n 0, 1) := dk_42 (dk_at dksX4_init_3 19 rfl rfl)
theorem dX4_init_89 : decode cX4_init 89 = .ok (.sipush 4096, 3) := dk_17 16 0 (dk_at dksX4_init_3 20 rfl rfl)
theorem dX4_init_92 : decode cX4_init 92 = .ok (.newarray .int, 2) := dk_188_10 (dk_at dksX4_init_4 0 rfl rfl)
theorem dX4_init_94 : decode cX4_init 94 = .ok (.putfield 42, 3) := dk_181 0 42 (dk_at dksX4_init_4 2 rfl rfl)
theorem dX4_init_97 : decode cX4_init 97 = .ok (.aload_n 0, 1) := dk_42 (dk_at dksX4_init_4 5 rfl rfl)
theorem dX4_init_98 : decode cX4_init 98 = .ok (.sipush 4096, 3) := dk_17 16 0 (dk_at dksX4_init_4 6 rfl rfl)
theorem dX4_init_101 : decode cX4_init 101 = .ok (.newarray .int, 2) := dk_188_10 (dk_at dksX4_init_4 9 rfl rfl)
theorem dX4_init_103 : decode cX4_init 103 = .ok (.putfield 45, 3) := dk_181 0 45 (dk_at dksX4_init_4 11 rfl rfl)
theorem dX4_init_106 : decode cX4_init 106 = .ok (.aload_n 0, 1) := dk_42 (dk_at dksX4_init_4 14 rfl rfl)
theorem dX4_init_107 : decode cX4_init 107 = .ok (.sipush 1720, 3) := dk_17 6 184 (dk_at dksX4_init_4 15 rfl rfl)
theorem dX4_init_110 : decode cX4_init 110 = .ok (.newarray .int, 2) := dk_188_10 (dk_at dksX4_init_4 18 rfl rfl)
theorem dX4_init_112 : decode cX4_init 112 = .ok (.putfield 48, 3) := dk_181 0 48 (dk_at dksX4_init_4 20 rfl rfl)
theorem dX4_init_115 : decode cX4_init 115 = .ok (.aload_n 0, 1) := dk_42 (dk_at dksX4_init_4 23 rfl rfl)
theorem dX4_init_116 : decode cX4_init 116 = .ok (.sipush 2048, 3) := dk_17 8 0 (dk_at dksX4_init_5 0 rfl rfl)
theorem dX4_init_119 : decode cX4_init 119 = .ok (.newarray .int, 2) := dk_188_10 (dk_at dksX4_init_5 3 rfl rfl)
theorem dX4_init_121 : decode cX4_init 121 = .ok (.putfield 51, 3) := dk_181 0 51 (dk_at dksX4_init_5 5 rfl rfl)
theorem dX4_init_124 : decode cX4_init 124 = .ok (.aload_n 0, 1) := dk_42 (dk_at dksX4_init_5 8 rfl rfl)
theorem dX4_init_125 : decode cX4_init 125 = .ok (.sipush 2048, 3) := dk_17 8 0 (dk_at dksX4_init_5 9 rfl rfl)
theorem dX4_init_128 : decode cX4_init 128 = .ok (.newarray .int, 2) := dk_188_10 (dk_at dksX4_init_5 12 rfl rfl)
theorem dX4_init_130 : decode cX4_init 130 = .ok (.putfield 54, 3) := dk_181 0 54 (dk_at dksX4_init_5 14 rfl rfl)
theorem dX4_init_133 : decode cX4_init 133 = .ok (.aload_n 0, 1) := dk_42 (dk_at dksX4_init_5 17 rfl rfl)
theorem dX4_init_134 : decode cX4_init 134 = .ok (.bipush 86, 2) := dk_16 86 (dk_at dksX4_init_5 18 rfl rfl)
theorem dX4_init_136 : decode cX4_init 136 = .ok (.newarray .int, 2) := dk_188_10 (dk_at dksX4_init_5 20 rfl rfl)
theorem dX4_init_138 : decode cX4_init 138 = .ok (.putfield 57, 3) := dk_181 0 57 (dk_at dksX4_init_6 0 rfl rfl)
theorem dX4_init_141 : decode cX4_init 141 = .ok (.aload_n 0, 1) := dk_42 (dk_at dksX4_init_6 3 rfl rfl)
theorem dX4_init_142 : decode cX4_init 142 = .ok (.sipush 492, 3) := dk_17 1 236 (dk_at dksX4_init_6 4 rfl rfl)
theorem dX4_init_145 : decode cX4_init 145 = .ok (.newarray .int, 2) := dk_188_10 (dk_at dksX4_init_6 7 rfl rfl)
theorem dX4_init_147 : decode cX4_init 147 = .ok (.putfield 60, 3) := dk_181 0 60 (dk_at dksX4_init_6 9 rfl rfl)
theorem dX4_init_150 : decode cX4_init 150 = .ok (.aload_n 0, 1) := dk_42 (dk_at dksX4_init_6 12 rfl rfl)
theorem dX4_init_151 : decode cX4_init 151 = .ok (.iconst 4, 1) := dk_7 (dk_at dksX4_init_6 13 rfl rfl)
theorem dX4_init_152 : decode cX4_init 152 = .ok (.newarray .int, 2) := dk_188_10 (dk_at dksX4_init_6 14 rfl rfl)
theorem dX4_init_154 : decode cX4_init 154 = .ok (.putfield 63, 3) := dk_181 0 63 (dk_at dksX4_init_6 16 rfl rfl)
theorem dX4_init_157 : decode cX4_init 157 = .ok (.aload_n 0, 1) := dk_42 (dk_at dksX4_init_6 19 rfl rfl)
theorem dX4_init_158 : decode cX4_init 158 = .ok (.iconst 4, 1) := dk_7 (dk_at dksX4_init_6 20 rfl rfl)
theorem dX4_init_159 : decode cX4_init 159 = .ok (.newarray .boolean, 2) := dk_188_4 (dk_at dksX4_init_6 21 rfl rfl)
theorem dX4_init_161 : decode cX4_init 161 = .ok (.putfield 66, 3) := dk_181 0 66 (dk_at dksX4_init_7 0 rfl rfl)
theorem dX4_init_164 : decode cX4_init 164 = .ok (.return_, 1) := dk_177 (dk_at dksX4_init_7 3 rfl rfl)
abbrev cX4_feed : ByteArray := prog_20_method_6_code
def yX4_feed : MethodName := ⟨RX4, "feed", "(IIIII)I"⟩
def dkwX4_feed_2 : List UInt8 := [172]
abbrev dktX4_feed_2 : List UInt8 := dkwX4_feed_2 ++ []
def dkwX4_feed_1 : List UInt8 := [182, 0, 74, 42, 29, 182, 0, 74, 42, 21, 4, 182, 0, 74, 42, 21, 5, 182, 0, 74, 42, 180, 0, 70]
abbrev dktX4_feed_1 : List UInt8 := dkwX4_feed_1 ++ dktX4_feed_2
def dkwX4_feed_0 : List UInt8 := [42, 180, 0, 70, 16, 20, 96, 17, 1, 144, 164, 0, 5, 2, 172, 42, 27, 182, 0, 74, 42, 28]
abbrev dktX4_feed_0 : List UInt8 := dkwX4_feed_0 ++ dktX4_feed_1
theorem dksX4_feed_0 : cX4_feed.data.toList.drop 0 = dktX4_feed_0 := by decide +kernel
theorem dksX4_feed_1 : cX4_feed.data.toList.drop 22 = dktX4_feed_1 := dk_seg dksX4_feed_0 22 rfl rfl
theorem dksX4_feed_2 : cX4_feed.data.toList.drop 46 = dktX4_feed_2 := dk_seg dksX4_feed_1 24 rfl rfl
theorem dX4_feed_0 : decode cX4_feed 0 = .ok (.aload_n 0, 1) := dk_42 (dk_at dksX4_feed_0 0 rfl rfl)
theorem dX4_feed_1 : decode cX4_feed 1 = .ok (.getfield 70, 3) := dk_180 0 70 (dk_at dksX4_feed_0 1 rfl rfl)
theorem dX4_feed_4 : decode cX4_feed 4 = .ok (.bipush 20, 2) := dk_16 20 (dk_at dksX4_feed_0 4 rfl rfl)
theorem dX4_feed_6 : decode cX4_feed 6 = .ok (.iadd, 1) := dk_96 (dk_at dksX4_feed_0 6 rfl rfl)
theorem dX4_feed_7 : decode cX4_feed 7 = .ok (.sipush 400, 3) := dk_17 1 144 (dk_at dksX4_feed_0 7 rfl rfl)
theorem dX4_feed_10 : decode cX4_feed 10 = .ok (.if_icmp .le 5, 3) := dk_164 0 5 (dk_at dksX4_feed_0 10 rfl rfl)
theorem dX4_feed_13 : decode cX4_feed 13 = .ok (.iconst (-1), 1) := dk_2 (dk_at dksX4_feed_0 13 rfl rfl)
theorem dX4_feed_14 : decode cX4_feed 14 = .ok (.ireturn, 1) := dk_172 (dk_at dksX4_feed_0 14 rfl rfl)
theorem dX4_feed_15 : decode cX4_feed 15 = .ok (.aload_n 0, 1) := dk_42 (dk_at dksX4_feed_0 15 rfl rfl)
theorem dX4_feed_16 : decode cX4_feed 16 = .ok (.iload_n 1, 1) := dk_27 (dk_at dksX4_feed_0 16 rfl rfl)
theorem dX4_feed_17 : decode cX4_feed 17 = .ok (.invokevirtual 74, 3) := dk_182 0 74 (dk_at dksX4_feed_0 17 rfl rfl)
theorem dX4_feed_20 : decode cX4_feed 20 = .ok (.aload_n 0, 1) := dk_42 (dk_at dksX4_feed_0 20 rfl rfl)
theorem dX4_feed_21 : decode cX4_feed 21 = .ok (.iload_n 2, 1) := dk_28 (dk_at dksX4_feed_0 21 rfl rfl)
theorem dX4_feed_22 : decode cX4_feed 22 = .ok (.invokevirtual 74, 3) := dk_182 0 74 (dk_at dksX4_feed_1 0 rfl rfl)
theorem dX4_feed_25 : decode cX4_feed 25 = .ok (.aload_n 0, 1) := dk_42 (dk_at dksX4_feed_1 3 rfl rfl)
theorem dX4_feed_26 : decode cX4_feed 26 = .ok (.iload_n 3, 1) := dk_29 (dk_at dksX4_feed_1 4 rfl rfl)
theorem dX4_feed_27 : decode cX4_feed 27 = .ok (.invokevirtual 74, 3) := dk_182 0 74 (dk_at dksX4_feed_1 5 rfl rfl)
theorem dX4_feed_30 : decode cX4_feed 30 = .ok (.aload_n 0, 1) := dk_42 (dk_at dksX4_feed_1 8 rfl rfl)
theorem dX4_feed_31 : decode cX4_feed 31 = .ok (.iload 4, 2) := dk_21 4 (dk_at dksX4_feed_1 9 rfl rfl)
theorem dX4_feed_33 : decode cX4_feed 33 = .ok (.invokevirtual 74, 3) := dk_182 0 74 (dk_at dksX4_feed_1 11 rfl rfl)
theorem dX4_feed_36 : decode cX4_feed 36 = .ok (.aload_n 0, 1) := dk_42 (dk_at dksX4_feed_1 14 rfl rfl)
theorem dX4_feed_37 : decode cX4_feed 37 = .ok (.iload 5, 2) := dk_21 5 (dk_at dksX4_feed_1 15 rfl rfl)
theorem dX4_feed_39 : decode cX4_feed 39 = .ok (.invokevirtual 74, 3) := dk_182 0 74 (dk_at dksX4_feed_1 17 rfl rfl)
theorem dX4_feed_42 : decode cX4_feed 42 = .ok (.aload_n 0, 1) := dk_42 (dk_at dksX4_feed_1 20 rfl rfl)
theorem dX4_feed_43 : decode cX4_feed 43 = .ok (.getfield 70, 3) := dk_180 0 70 (dk_at dksX4_feed_1 21 rfl rfl)
theorem dX4_feed_46 : decode cX4_feed 46 = .ok (.ireturn, 1) := dk_172 (dk_at dksX4_feed_2 0 rfl rfl)
abbrev cX4_four : ByteArray := prog_20_method_5_code
def yX4_four : MethodName := ⟨RX4, "four", "(I)V"⟩
def dkwX4_four_1 : List UInt8 := [180, 0, 70, 4, 96, 181, 0, 70, 132, 2, 248, 167, 255, 226, 177]
abbrev dktX4_four_1 : List UInt8 := dkwX4_four_1 ++ []
def dkwX4_four_0 : List UInt8 := [16, 24, 61, 28, 155, 0, 32, 42, 180, 0, 7, 42, 180, 0, 70, 27, 28, 122, 145, 84, 42, 89]
abbrev dktX4_four_0 : List UInt8 := dkwX4_four_0 ++ dktX4_four_1
theorem dksX4_four_0 : cX4_four.data.toList.drop 0 = dktX4_four_0 := by decide +kernel
theorem dksX4_four_1 : cX4_four.data.toList.drop 22 = dktX4_four_1 := dk_seg dksX4_four_0 22 rfl rfl
theorem dX4_four_0 : decode cX4_four 0 = .ok (.bipush 24, 2) := dk_16 24 (dk_at dksX4_four_0 0 rfl rfl)
theorem dX4_four_2 : decode cX4_four 2 = .ok (.istore_n 2, 1) := dk_61 (dk_at dksX4_four_0 2 rfl rfl)
theorem dX4_four_3 : decode cX4_four 3 = .ok (.iload_n 2, 1) := dk_28 (dk_at dksX4_four_0 3 rfl rfl)
theorem dX4_four_4 : decode cX4_four 4 = .ok (.ifCond .lt 32, 3) := dk_155 0 32 (dk_at dksX4_four_0 4 rfl rfl)
theorem dX4_four_7 : decode cX4_four 7 = .ok (.aload_n 0, 1) := dk_42 (dk_at dksX4_four_0 7 rfl rfl)
theorem dX4_four_8 : decode cX4_four 8 = .ok (.getfield 7, 3) := dk_180 0 7 (dk_at dksX4_four_0 8 rfl rfl)
theorem dX4_four_11 : decode cX4_four 11 = .ok (.aload_n 0, 1) := dk_42 (dk_at dksX4_four_0 11 rfl rfl)
theorem dX4_four_12 : decode cX4_four 12 = .ok (.getfield 70, 3) := dk_180 0 70 (dk_at dksX4_four_0 12 rfl rfl)
theorem dX4_four_15 : decode cX4_four 15 = .ok (.iload_n 1, 1) := dk_27 (dk_at dksX4_four_0 15 rfl rfl)
theorem dX4_four_16 : decode cX4_four 16 = .ok (.iload_n 2, 1) := dk_28 (dk_at dksX4_four_0 16 rfl rfl)
theorem dX4_four_17 : decode cX4_four 17 = .ok (.ishr, 1) := dk_122 (dk_at dksX4_four_0 17 rfl rfl)
theorem dX4_four_18 : decode cX4_four 18 = .ok (.i2b, 1) := dk_145 (dk_at dksX4_four_0 18 rfl rfl)
theorem dX4_four_19 : decode cX4_four 19 = .ok (.bastore, 1) := dk_84 (dk_at dksX4_four_0 19 rfl rfl)
theorem dX4_four_20 : decode cX4_four 20 = .ok (.aload_n 0, 1) := dk_42 (dk_at dksX4_four_0 20 rfl rfl)
theorem dX4_four_21 : decode cX4_four 21 = .ok (.dup, 1) := dk_89 (dk_at dksX4_four_0 21 rfl rfl)
theorem dX4_four_22 : decode cX4_four 22 = .ok (.getfield 70, 3) := dk_180 0 70 (dk_at dksX4_four_1 0 rfl rfl)
theorem dX4_four_25 : decode cX4_four 25 = .ok (.iconst 1, 1) := dk_4 (dk_at dksX4_four_1 3 rfl rfl)
theorem dX4_four_26 : decode cX4_four 26 = .ok (.iadd, 1) := dk_96 (dk_at dksX4_four_1 4 rfl rfl)
theorem dX4_four_27 : decode cX4_four 27 = .ok (.putfield 70, 3) := dk_181 0 70 (dk_at dksX4_four_1 5 rfl rfl)
theorem dX4_four_30 : decode cX4_four 30 = .ok (.iinc 2 (-8), 3) := dk_132 2 248 (dk_at dksX4_four_1 8 rfl rfl)
theorem dX4_four_33 : decode cX4_four 33 = .ok (.goto (-30), 3) := dk_167 255 226 (dk_at dksX4_four_1 11 rfl rfl)
theorem dX4_four_36 : decode cX4_four 36 = .ok (.return_, 1) := dk_177 (dk_at dksX4_four_1 14 rfl rfl)
abbrev cX4_end : ByteArray := prog_20_method_7_code
def yX4_end : MethodName := ⟨RX4, "end", "(I)I"⟩
def dkwX4_end_0 : List UInt8 := [27, 155, 0, 11, 27, 42, 180, 0, 70, 164, 0, 5, 2, 172, 42, 27, 181, 0, 70, 27, 172]
abbrev dktX4_end_0 : List UInt8 := dkwX4_end_0 ++ []
theorem dksX4_end_0 : cX4_end.data.toList.drop 0 = dktX4_end_0 := by decide +kernel
theorem dX4_end_0 : decode cX4_end 0 = .ok (.iload_n 1, 1) := dk_27 (dk_at dksX4_end_0 0 rfl rfl)
theorem dX4_end_1 : decode cX4_end 1 = .ok (.ifCond .lt 11, 3) := dk_155 0 11 (dk_at dksX4_end_0 1 rfl rfl)
theorem dX4_end_4 : decode cX4_end 4 = .ok (.iload_n 1, 1) := dk_27 (dk_at dksX4_end_0 4 rfl rfl)
theorem dX4_end_5 : decode cX4_end 5 = .ok (.aload_n 0, 1) := dk_42 (dk_at dksX4_end_0 5 rfl rfl)
theorem dX4_end_6 : decode cX4_end 6 = .ok (.getfield 70, 3) := dk_180 0 70 (dk_at dksX4_end_0 6 rfl rfl)
theorem dX4_end_9 : decode cX4_end 9 = .ok (.if_icmp .le 5, 3) := dk_164 0 5 (dk_at dksX4_end_0 9 rfl rfl)
theorem dX4_end_12 : decode cX4_end 12 = .ok (.iconst (-1), 1) := dk_2 (dk_at dksX4_end_0 12 rfl rfl)
theorem dX4_end_13 : decode cX4_end 13 = .ok (.ireturn, 1) := dk_172 (dk_at dksX4_end_0 13 rfl rfl)
theorem dX4_end_14 : decode cX4_end 14 = .ok (.aload_n 0, 1) := dk_42 (dk_at dksX4_end_0 14 rfl rfl)
theorem dX4_end_15 : decode cX4_end 15 = .ok (.iload_n 1, 1) := dk_27 (dk_at dksX4_end_0 15 rfl rfl)
theorem dX4_end_16 : decode cX4_end 16 = .ok (.putfield 70, 3) := dk_181 0 70 (dk_at dksX4_end_0 16 rfl rfl)
theorem dX4_end_19 : decode cX4_end 19 = .ok (.iload_n 1, 1) := dk_27 (dk_at dksX4_end_0 19 rfl rfl)
theorem dX4_end_20 : decode cX4_end 20 = .ok (.ireturn, 1) := dk_172 (dk_at dksX4_end_0 20 rfl rfl)
abbrev cX4_rule : ByteArray := prog_20_method_42_code
def yX4_rule : MethodName := ⟨RX4, "rule", "()I"⟩
def dkwX4_rule_2 : List UInt8 := [180, 1, 12, 4, 96, 181, 1, 12, 42, 180, 1, 12, 4, 100, 172]
abbrev dktX4_rule_2 : List UInt8 := dkwX4_rule_2 ++ []
def dkwX4_rule_1 : List UInt8 := [180, 0, 139, 3, 79, 42, 182, 1, 15, 154, 0, 11, 16, 254, 42, 180, 0, 78, 100, 172, 42, 89]
abbrev dktX4_rule_1 : List UInt8 := dkwX4_rule_1 ++ dktX4_rule_2
def dkwX4_rule_0 : List UInt8 := [42, 180, 1, 12, 16, 6, 160, 0, 5, 2, 172, 42, 42, 180, 1, 12, 181, 0, 139, 42, 180, 0, 23, 42]
abbrev dktX4_rule_0 : List UInt8 := dkwX4_rule_0 ++ dktX4_rule_1
theorem dksX4_rule_0 : cX4_rule.data.toList.drop 0 = dktX4_rule_0 := by decide +kernel
theorem dksX4_rule_1 : cX4_rule.data.toList.drop 24 = dktX4_rule_1 := dk_seg dksX4_rule_0 24 rfl rfl
theorem dksX4_rule_2 : cX4_rule.data.toList.drop 46 = dktX4_rule_2 := dk_seg dksX4_rule_1 22 rfl rfl
theorem dX4_rule_0 : decode cX4_rule 0 = .ok (.aload_n 0, 1) := dk_42 (dk_at dksX4_rule_0 0 rfl rfl)
theorem dX4_rule_1 : decode cX4_rule 1 = .ok (.getfield 268, 3) := dk_180 1 12 (dk_at dksX4_rule_0 1 rfl rfl)
theorem dX4_rule_4 : decode cX4_rule 4 = .ok (.bipush 6, 2) := dk_16 6 (dk_at dksX4_rule_0 4 rfl rfl)
theorem dX4_rule_6 : decode cX4_rule 6 = .ok (.if_icmp .ne 5, 3) := dk_160 0 5 (dk_at dksX4_rule_0 6 rfl rfl)
theorem dX4_rule_9 : decode cX4_rule 9 = .ok (.iconst (-1), 1) := dk_2 (dk_at dksX4_rule_0 9 rfl rfl)
theorem dX4_rule_10 : decode cX4_rule 10 = .ok (.ireturn, 1) := dk_172 (dk_at dksX4_rule_0 10 rfl rfl)
theorem dX4_rule_11 : decode cX4_rule 11 = .ok (.aload_n 0, 1) := dk_42 (dk_at dksX4_rule_0 11 rfl rfl)
theorem dX4_rule_12 : decode cX4_rule 12 = .ok (.aload_n 0, 1) := dk_42 (dk_at dksX4_rule_0 12 rfl rfl)
theorem dX4_rule_13 : decode cX4_rule 13 = .ok (.getfield 268, 3) := dk_180 1 12 (dk_at dksX4_rule_0 13 rfl rfl)
theorem dX4_rule_16 : decode cX4_rule 16 = .ok (.putfield 139, 3) := dk_181 0 139 (dk_at dksX4_rule_0 16 rfl rfl)
theorem dX4_rule_19 : decode cX4_rule 19 = .ok (.aload_n 0, 1) := dk_42 (dk_at dksX4_rule_0 19 rfl rfl)
theorem dX4_rule_20 : decode cX4_rule 20 = .ok (.getfield 23, 3) := dk_180 0 23 (dk_at dksX4_rule_0 20 rfl rfl)
theorem dX4_rule_23 : decode cX4_rule 23 = .ok (.aload_n 0, 1) := dk_42 (dk_at dksX4_rule_0 23 rfl rfl)
theorem dX4_rule_24 : decode cX4_rule 24 = .ok (.getfield 139, 3) := dk_180 0 139 (dk_at dksX4_rule_1 0 rfl rfl)
theorem dX4_rule_27 : decode cX4_rule 27 = .ok (.iconst 0, 1) := dk_3 (dk_at dksX4_rule_1 3 rfl rfl)
theorem dX4_rule_28 : decode cX4_rule 28 = .ok (.iastore, 1) := dk_79 (dk_at dksX4_rule_1 4 rfl rfl)
theorem dX4_rule_29 : decode cX4_rule 29 = .ok (.aload_n 0, 1) := dk_42 (dk_at dksX4_rule_1 5 rfl rfl)
theorem dX4_rule_30 : decode cX4_rule 30 = .ok (.invokevirtual 271, 3) := dk_182 1 15 (dk_at dksX4_rule_1 6 rfl rfl)
theorem dX4_rule_33 : decode cX4_rule 33 = .ok (.ifCond .ne 11, 3) := dk_154 0 11 (dk_at dksX4_rule_1 9 rfl rfl)
theorem dX4_rule_36 : decode cX4_rule 36 = .ok (.bipush (-2), 2) := dk_16 254 (dk_at dksX4_rule_1 12 rfl rfl)
theorem dX4_rule_38 : decode cX4_rule 38 = .ok (.aload_n 0, 1) := dk_42 (dk_at dksX4_rule_1 14 rfl rfl)
theorem dX4_rule_39 : decode cX4_rule 39 = .ok (.getfield 78, 3) := dk_180 0 78 (dk_at dksX4_rule_1 15 rfl rfl)
theorem dX4_rule_42 : decode cX4_rule 42 = .ok (.isub, 1) := dk_100 (dk_at dksX4_rule_1 18 rfl rfl)
theorem dX4_rule_43 : decode cX4_rule 43 = .ok (.ireturn, 1) := dk_172 (dk_at dksX4_rule_1 19 rfl rfl)
theorem dX4_rule_44 : decode cX4_rule 44 = .ok (.aload_n 0, 1) := dk_42 (dk_at dksX4_rule_1 20 rfl rfl)
theorem dX4_rule_45 : decode cX4_rule 45 = .ok (.dup, 1) := dk_89 (dk_at dksX4_rule_1 21 rfl rfl)
theorem dX4_rule_46 : decode cX4_rule 46 = .ok (.getfield 268, 3) := dk_180 1 12 (dk_at dksX4_rule_2 0 rfl rfl)
theorem dX4_rule_49 : decode cX4_rule 49 = .ok (.iconst 1, 1) := dk_4 (dk_at dksX4_rule_2 3 rfl rfl)
theorem dX4_rule_50 : decode cX4_rule 50 = .ok (.iadd, 1) := dk_96 (dk_at dksX4_rule_2 4 rfl rfl)
theorem dX4_rule_51 : decode cX4_rule 51 = .ok (.putfield 268, 3) := dk_181 1 12 (dk_at dksX4_rule_2 5 rfl rfl)
theorem dX4_rule_54 : decode cX4_rule 54 = .ok (.aload_n 0, 1) := dk_42 (dk_at dksX4_rule_2 8 rfl rfl)
theorem dX4_rule_55 : decode cX4_rule 55 = .ok (.getfield 268, 3) := dk_180 1 12 (dk_at dksX4_rule_2 9 rfl rfl)
theorem dX4_rule_58 : decode cX4_rule 58 = .ok (.iconst 1, 1) := dk_4 (dk_at dksX4_rule_2 12 rfl rfl)
theorem dX4_rule_59 : decode cX4_rule 59 = .ok (.isub, 1) := dk_100 (dk_at dksX4_rule_2 13 rfl rfl)
theorem dX4_rule_60 : decode cX4_rule 60 = .ok (.ireturn, 1) := dk_172 (dk_at dksX4_rule_2 14 rfl rfl)
abbrev cX4_readsAll : ByteArray := prog_20_method_41_code
def yX4_readsAll : MethodName := ⟨RX4, "readsAll", "()Z"⟩
def dkwX4_readsAll_4 : List UInt8 := [181, 0, 70, 42, 180, 0, 78, 154, 0, 7, 4, 167, 0, 4, 3, 172]
abbrev dktX4_readsAll_4 : List UInt8 := dkwX4_readsAll_4 ++ []
def dkwX4_readsAll_3 : List UInt8 := [153, 0, 21, 42, 182, 0, 84, 2, 159, 0, 13, 42, 3, 42, 180, 0, 81, 182, 0, 102, 87, 42, 3]
abbrev dktX4_readsAll_3 : List UInt8 := dkwX4_readsAll_3 ++ dktX4_readsAll_4
def dkwX4_readsAll_2 : List UInt8 := [160, 0, 21, 42, 89, 180, 0, 81, 4, 96, 181, 0, 81, 42, 182, 1, 9, 60, 167, 255, 228, 27]
abbrev dktX4_readsAll_2 : List UInt8 := dkwX4_readsAll_2 ++ dktX4_readsAll_3
def dkwX4_readsAll_1 : List UInt8 := [181, 0, 78, 42, 3, 181, 0, 142, 42, 182, 1, 9, 60, 27, 153, 0, 30, 42, 182, 0, 84, 16, 59]
abbrev dktX4_readsAll_1 : List UInt8 := dkwX4_readsAll_1 ++ dktX4_readsAll_2
def dkwX4_readsAll_0 : List UInt8 := [42, 180, 0, 17, 42, 180, 0, 139, 3, 79, 42, 3, 181, 1, 0, 42, 3, 181, 0, 81, 42, 3]
abbrev dktX4_readsAll_0 : List UInt8 := dkwX4_readsAll_0 ++ dktX4_readsAll_1
theorem dksX4_readsAll_0 : cX4_readsAll.data.toList.drop 0 = dktX4_readsAll_0 := by decide +kernel
theorem dksX4_readsAll_1 : cX4_readsAll.data.toList.drop 22 = dktX4_readsAll_1 := dk_seg dksX4_readsAll_0 22 rfl rfl
theorem dksX4_readsAll_2 : cX4_readsAll.data.toList.drop 45 = dktX4_readsAll_2 := dk_seg dksX4_readsAll_1 23 rfl rfl
theorem dksX4_readsAll_3 : cX4_readsAll.data.toList.drop 67 = dktX4_readsAll_3 := dk_seg dksX4_readsAll_2 22 rfl rfl
theorem dksX4_readsAll_4 : cX4_readsAll.data.toList.drop 90 = dktX4_readsAll_4 := dk_seg dksX4_readsAll_3 23 rfl rfl
theorem dX4_readsAll_0 : decode cX4_readsAll 0 = .ok (.aload_n 0, 1) := dk_42 (dk_at dksX4_readsAll_0 0 rfl rfl)
theorem dX4_readsAll_1 : decode cX4_readsAll 1 = .ok (.getfield 17, 3) := dk_180 0 17 (dk_at dksX4_readsAll_0 1 rfl rfl)
theorem dX4_readsAll_4 : decode cX4_readsAll 4 = .ok (.aload_n 0, 1) := dk_42 (dk_at dksX4_readsAll_0 4 rfl rfl)
theorem dX4_readsAll_5 : decode cX4_readsAll 5 = .ok (.getfield 139, 3) := dk_180 0 139 (dk_at dksX4_readsAll_0 5 rfl rfl)
theorem dX4_readsAll_8 : decode cX4_readsAll 8 = .ok (.iconst 0, 1) := dk_3 (dk_at dksX4_readsAll_0 8 rfl rfl)
theorem dX4_readsAll_9 : decode cX4_readsAll 9 = .ok (.iastore, 1) := dk_79 (dk_at dksX4_readsAll_0 9 rfl rfl)
theorem dX4_readsAll_10 : decode cX4_readsAll 10 = .ok (.aload_n 0, 1) := dk_42 (dk_at dksX4_readsAll_0 10 rfl rfl)
theorem dX4_readsAll_11 : decode cX4_readsAll 11 = .ok (.iconst 0, 1) := dk_3 (dk_at dksX4_readsAll_0 11 rfl rfl)
theorem dX4_readsAll_12 : decode cX4_readsAll 12 = .ok (.putfield 256, 3) := dk_181 1 0 (dk_at dksX4_readsAll_0 12 rfl rfl)
theorem dX4_readsAll_15 : decode cX4_readsAll 15 = .ok (.aload_n 0, 1) := dk_42 (dk_at dksX4_readsAll_0 15 rfl rfl)
theorem dX4_readsAll_16 : decode cX4_readsAll 16 = .ok (.iconst 0, 1) := dk_3 (dk_at dksX4_readsAll_0 16 rfl rfl)
theorem dX4_readsAll_17 : decode cX4_readsAll 17 = .ok (.putfield 81, 3) := dk_181 0 81 (dk_at dksX4_readsAll_0 17 rfl rfl)
theorem dX4_readsAll_20 : decode cX4_readsAll 20 = .ok (.aload_n 0, 1) := dk_42 (dk_at dksX4_readsAll_0 20 rfl rfl)
theorem dX4_readsAll_21 : decode cX4_readsAll 21 = .ok (.iconst 0, 1) := dk_3 (dk_at dksX4_readsAll_0 21 rfl rfl)
theorem dX4_readsAll_22 : decode cX4_readsAll 22 = .ok (.putfield 78, 3) := dk_181 0 78 (dk_at dksX4_readsAll_1 0 rfl rfl)
theorem dX4_readsAll_25 : decode cX4_readsAll 25 = .ok (.aload_n 0, 1) := dk_42 (dk_at dksX4_readsAll_1 3 rfl rfl)
theorem dX4_readsAll_26 : decode cX4_readsAll 26 = .ok (.iconst 0, 1) := dk_3 (dk_at dksX4_readsAll_1 4 rfl rfl)
theorem dX4_readsAll_27 : decode cX4_readsAll 27 = .ok (.putfield 142, 3) := dk_181 0 142 (dk_at dksX4_readsAll_1 5 rfl rfl)
theorem dX4_readsAll_30 : decode cX4_readsAll 30 = .ok (.aload_n 0, 1) := dk_42 (dk_at dksX4_readsAll_1 8 rfl rfl)
theorem dX4_readsAll_31 : decode cX4_readsAll 31 = .ok (.invokevirtual 265, 3) := dk_182 1 9 (dk_at dksX4_readsAll_1 9 rfl rfl)
theorem dX4_readsAll_34 : decode cX4_readsAll 34 = .ok (.istore_n 1, 1) := dk_60 (dk_at dksX4_readsAll_1 12 rfl rfl)
theorem dX4_readsAll_35 : decode cX4_readsAll 35 = .ok (.iload_n 1, 1) := dk_27 (dk_at dksX4_readsAll_1 13 rfl rfl)
theorem dX4_readsAll_36 : decode cX4_readsAll 36 = .ok (.ifCond .eq 30, 3) := dk_153 0 30 (dk_at dksX4_readsAll_1 14 rfl rfl)
theorem dX4_readsAll_39 : decode cX4_readsAll 39 = .ok (.aload_n 0, 1) := dk_42 (dk_at dksX4_readsAll_1 17 rfl rfl)
theorem dX4_readsAll_40 : decode cX4_readsAll 40 = .ok (.invokevirtual 84, 3) := dk_182 0 84 (dk_at dksX4_readsAll_1 18 rfl rfl)
theorem dX4_readsAll_43 : decode cX4_readsAll 43 = .ok (.bipush 59, 2) := dk_16 59 (dk_at dksX4_readsAll_1 21 rfl rfl)
theorem dX4_readsAll_45 : decode cX4_readsAll 45 = .ok (.if_icmp .ne 21, 3) := dk_160 0 21 (dk_at dksX4_readsAll_2 0 rfl rfl)
theorem dX4_readsAll_48 : decode cX4_readsAll 48 = .ok (.aload_n 0, 1) := dk_42 (dk_at dksX4_readsAll_2 3 rfl rfl)
theorem dX4_readsAll_49 : decode cX4_readsAll 49 = .ok (.dup, 1) := dk_89 (dk_at dksX4_readsAll_2 4 rfl rfl)
theorem dX4_readsAll_50 : decode cX4_readsAll 50 = .ok (.getfield 81, 3) := dk_180 0 81 (dk_at dksX4_readsAll_2 5 rfl rfl)
theorem dX4_readsAll_53 : decode cX4_readsAll 53 = .ok (.iconst 1, 1) := dk_4 (dk_at dksX4_readsAll_2 8 rfl rfl)
theorem dX4_readsAll_54 : decode cX4_readsAll 54 = .ok (.iadd, 1) := dk_96 (dk_at dksX4_readsAll_2 9 rfl rfl)
theorem dX4_readsAll_55 : decode cX4_readsAll 55 = .ok (.putfield 81, 3) := dk_181 0 81 (dk_at dksX4_readsAll_2 10 rfl rfl)
theorem dX4_readsAll_58 : decode cX4_readsAll 58 = .ok (.aload_n 0, 1) := dk_42 (dk_at dksX4_readsAll_2 13 rfl rfl)
theorem dX4_readsAll_59 : decode cX4_readsAll 59 = .ok (.invokevirtual 265, 3) := dk_182 1 9 (dk_at dksX4_readsAll_2 14 rfl rfl)
theorem dX4_readsAll_62 : decode cX4_readsAll 62 = .ok (.istore_n 1, 1) := dk_60 (dk_at dksX4_readsAll_2 17 rfl rfl)
theorem dX4_readsAll_63 : decode cX4_readsAll 63 = .ok (.goto (-28), 3) := dk_167 255 228 (dk_at dksX4_readsAll_2 18 rfl rfl)
theorem dX4_readsAll_66 : decode cX4_readsAll 66 = .ok (.iload_n 1, 1) := dk_27 (dk_at dksX4_readsAll_2 21 rfl rfl)
theorem dX4_readsAll_67 : decode cX4_readsAll 67 = .ok (.ifCond .eq 21, 3) := dk_153 0 21 (dk_at dksX4_readsAll_3 0 rfl rfl)
theorem dX4_readsAll_70 : decode cX4_readsAll 70 = .ok (.aload_n 0, 1) := dk_42 (dk_at dksX4_readsAll_3 3 rfl rfl)
theorem dX4_readsAll_71 : decode cX4_readsAll 71 = .ok (.invokevirtual 84, 3) := dk_182 0 84 (dk_at dksX4_readsAll_3 4 rfl rfl)
theorem dX4_readsAll_74 : decode cX4_readsAll 74 = .ok (.iconst (-1), 1) := dk_2 (dk_at dksX4_readsAll_3 7 rfl rfl)
theorem dX4_readsAll_75 : decode cX4_readsAll 75 = .ok (.if_icmp .eq 13, 3) := dk_159 0 13 (dk_at dksX4_readsAll_3 8 rfl rfl)
theorem dX4_readsAll_78 : decode cX4_readsAll 78 = .ok (.aload_n 0, 1) := dk_42 (dk_at dksX4_readsAll_3 11 rfl rfl)
theorem dX4_readsAll_79 : decode cX4_readsAll 79 = .ok (.iconst 0, 1) := dk_3 (dk_at dksX4_readsAll_3 12 rfl rfl)
theorem dX4_readsAll_80 : decode cX4_readsAll 80 = .ok (.aload_n 0, 1) := dk_42 (dk_at dksX4_readsAll_3 13 rfl rfl)
theorem dX4_readsAll_81 : decode cX4_readsAll 81 = .ok (.getfield 81, 3) := dk_180 0 81 (dk_at dksX4_readsAll_3 14 rfl rfl)
theorem dX4_readsAll_84 : decode cX4_readsAll 84 = .ok (.invokevirtual 102, 3) := dk_182 0 102 (dk_at dksX4_readsAll_3 17 rfl rfl)
theorem dX4_readsAll_87 : decode cX4_readsAll 87 = .ok (.pop, 1) := dk_87 (dk_at dksX4_readsAll_3 20 rfl rfl)
theorem dX4_readsAll_88 : decode cX4_readsAll 88 = .ok (.aload_n 0, 1) := dk_42 (dk_at dksX4_readsAll_3 21 rfl rfl)
theorem dX4_readsAll_89 : decode cX4_readsAll 89 = .ok (.iconst 0, 1) := dk_3 (dk_at dksX4_readsAll_3 22 rfl rfl)
theorem dX4_readsAll_90 : decode cX4_readsAll 90 = .ok (.putfield 70, 3) := dk_181 0 70 (dk_at dksX4_readsAll_4 0 rfl rfl)
theorem dX4_readsAll_93 : decode cX4_readsAll 93 = .ok (.aload_n 0, 1) := dk_42 (dk_at dksX4_readsAll_4 3 rfl rfl)
theorem dX4_readsAll_94 : decode cX4_readsAll 94 = .ok (.getfield 78, 3) := dk_180 0 78 (dk_at dksX4_readsAll_4 4 rfl rfl)
theorem dX4_readsAll_97 : decode cX4_readsAll 97 = .ok (.ifCond .ne 7, 3) := dk_154 0 7 (dk_at dksX4_readsAll_4 7 rfl rfl)
theorem dX4_readsAll_100 : decode cX4_readsAll 100 = .ok (.iconst 1, 1) := dk_4 (dk_at dksX4_readsAll_4 10 rfl rfl)
theorem dX4_readsAll_101 : decode cX4_readsAll 101 = .ok (.goto 4, 3) := dk_167 0 4 (dk_at dksX4_readsAll_4 11 rfl rfl)
theorem dX4_readsAll_104 : decode cX4_readsAll 104 = .ok (.iconst 0, 1) := dk_3 (dk_at dksX4_readsAll_4 14 rfl rfl)
theorem dX4_readsAll_105 : decode cX4_readsAll 105 = .ok (.ireturn, 1) := dk_172 (dk_at dksX4_readsAll_4 15 rfl rfl)
abbrev cX4_clauseHere : ByteArray := prog_20_method_40_code
def yX4_clauseHere : MethodName := ⟨RX4, "clauseHere", "()Z"⟩
def dkwX4_clauseHere_5 : List UInt8 := [20, 0, 252, 182, 0, 92, 153, 0, 7, 3, 167, 0, 4, 4, 182, 1, 6, 172]
abbrev dktX4_clauseHere_5 : List UInt8 := dkwX4_clauseHere_5 ++ []
def dkwX4_clauseHere_4 : List UInt8 := [180, 1, 0, 4, 96, 181, 1, 0, 28, 153, 0, 11, 42, 27, 182, 1, 3, 167, 0, 22, 42, 42]
abbrev dktX4_clauseHere_4 : List UInt8 := dkwX4_clauseHere_4 ++ dktX4_clauseHere_5
def dkwX4_clauseHere_3 : List UInt8 := [28, 153, 0, 8, 16, 40, 167, 0, 5, 16, 12, 160, 0, 10, 42, 7, 27, 182, 0, 102, 172, 42, 89]
abbrev dktX4_clauseHere_3 : List UInt8 := dkwX4_clauseHere_3 ++ dktX4_clauseHere_4
def dkwX4_clauseHere_2 : List UInt8 := [154, 0, 20, 42, 20, 0, 254, 182, 0, 92, 154, 0, 10, 42, 3, 27, 182, 0, 102, 172, 42, 180, 1, 0]
abbrev dktX4_clauseHere_2 : List UInt8 := dkwX4_clauseHere_2 ++ dktX4_clauseHere_3
def dkwX4_clauseHere_1 : List UInt8 := [61, 28, 153, 0, 13, 42, 182, 0, 249, 154, 0, 33, 167, 0, 23, 42, 20, 0, 252, 182, 0, 92]
abbrev dktX4_clauseHere_1 : List UInt8 := dkwX4_clauseHere_1 ++ dktX4_clauseHere_2
def dkwX4_clauseHere_0 : List UInt8 := [42, 182, 0, 84, 87, 42, 180, 0, 81, 60, 42, 180, 0, 139, 16, 6, 160, 0, 7, 4, 167, 0, 4, 3]
abbrev dktX4_clauseHere_0 : List UInt8 := dkwX4_clauseHere_0 ++ dktX4_clauseHere_1
theorem dksX4_clauseHere_0 : cX4_clauseHere.data.toList.drop 0 = dktX4_clauseHere_0 := by decide +kernel
theorem dksX4_clauseHere_1 : cX4_clauseHere.data.toList.drop 24 = dktX4_clauseHere_1 := dk_seg dksX4_clauseHere_0 24 rfl rfl
theorem dksX4_clauseHere_2 : cX4_clauseHere.data.toList.drop 46 = dktX4_clauseHere_2 := dk_seg dksX4_clauseHere_1 22 rfl rfl
theorem dksX4_clauseHere_3 : cX4_clauseHere.data.toList.drop 70 = dktX4_clauseHere_3 := dk_seg dksX4_clauseHere_2 24 rfl rfl
theorem dksX4_clauseHere_4 : cX4_clauseHere.data.toList.drop 93 = dktX4_clauseHere_4 := dk_seg dksX4_clauseHere_3 23 rfl rfl
theorem dksX4_clauseHere_5 : cX4_clauseHere.data.toList.drop 115 = dktX4_clauseHere_5 := dk_seg dksX4_clauseHere_4 22 rfl rfl
theorem dX4_clauseHere_0 : decode cX4_clauseHere 0 = .ok (.aload_n 0, 1) := dk_42 (dk_at dksX4_clauseHere_0 0 rfl rfl)
theorem dX4_clauseHere_1 : decode cX4_clauseHere 1 = .ok (.invokevirtual 84, 3) := dk_182 0 84 (dk_at dksX4_clauseHere_0 1 rfl rfl)
theorem dX4_clauseHere_4 : decode cX4_clauseHere 4 = .ok (.pop, 1) := dk_87 (dk_at dksX4_clauseHere_0 4 rfl rfl)
theorem dX4_clauseHere_5 : decode cX4_clauseHere 5 = .ok (.aload_n 0, 1) := dk_42 (dk_at dksX4_clauseHere_0 5 rfl rfl)
theorem dX4_clauseHere_6 : decode cX4_clauseHere 6 = .ok (.getfield 81, 3) := dk_180 0 81 (dk_at dksX4_clauseHere_0 6 rfl rfl)
theorem dX4_clauseHere_9 : decode cX4_clauseHere 9 = .ok (.istore_n 1, 1) := dk_60 (dk_at dksX4_clauseHere_0 9 rfl rfl)
theorem dX4_clauseHere_10 : decode cX4_clauseHere 10 = .ok (.aload_n 0, 1) := dk_42 (dk_at dksX4_clauseHere_0 10 rfl rfl)
theorem dX4_clauseHere_11 : decode cX4_clauseHere 11 = .ok (.getfield 139, 3) := dk_180 0 139 (dk_at dksX4_clauseHere_0 11 rfl rfl)
theorem dX4_clauseHere_14 : decode cX4_clauseHere 14 = .ok (.bipush 6, 2) := dk_16 6 (dk_at dksX4_clauseHere_0 14 rfl rfl)
theorem dX4_clauseHere_16 : decode cX4_clauseHere 16 = .ok (.if_icmp .ne 7, 3) := dk_160 0 7 (dk_at dksX4_clauseHere_0 16 rfl rfl)
theorem dX4_clauseHere_19 : decode cX4_clauseHere 19 = .ok (.iconst 1, 1) := dk_4 (dk_at dksX4_clauseHere_0 19 rfl rfl)
theorem dX4_clauseHere_20 : decode cX4_clauseHere 20 = .ok (.goto 4, 3) := dk_167 0 4 (dk_at dksX4_clauseHere_0 20 rfl rfl)
theorem dX4_clauseHere_23 : decode cX4_clauseHere 23 = .ok (.iconst 0, 1) := dk_3 (dk_at dksX4_clauseHere_0 23 rfl rfl)
theorem dX4_clauseHere_24 : decode cX4_clauseHere 24 = .ok (.istore_n 2, 1) := dk_61 (dk_at dksX4_clauseHere_1 0 rfl rfl)
theorem dX4_clauseHere_25 : decode cX4_clauseHere 25 = .ok (.iload_n 2, 1) := dk_28 (dk_at dksX4_clauseHere_1 1 rfl rfl)
theorem dX4_clauseHere_26 : decode cX4_clauseHere 26 = .ok (.ifCond .eq 13, 3) := dk_153 0 13 (dk_at dksX4_clauseHere_1 2 rfl rfl)
theorem dX4_clauseHere_29 : decode cX4_clauseHere 29 = .ok (.aload_n 0, 1) := dk_42 (dk_at dksX4_clauseHere_1 5 rfl rfl)
theorem dX4_clauseHere_30 : decode cX4_clauseHere 30 = .ok (.invokevirtual 249, 3) := dk_182 0 249 (dk_at dksX4_clauseHere_1 6 rfl rfl)
theorem dX4_clauseHere_33 : decode cX4_clauseHere 33 = .ok (.ifCond .ne 33, 3) := dk_154 0 33 (dk_at dksX4_clauseHere_1 9 rfl rfl)
theorem dX4_clauseHere_36 : decode cX4_clauseHere 36 = .ok (.goto 23, 3) := dk_167 0 23 (dk_at dksX4_clauseHere_1 12 rfl rfl)
theorem dX4_clauseHere_39 : decode cX4_clauseHere 39 = .ok (.aload_n 0, 1) := dk_42 (dk_at dksX4_clauseHere_1 15 rfl rfl)
theorem dX4_clauseHere_40 : decode cX4_clauseHere 40 = .ok (.ldc2_w 252, 3) := dk_20 0 252 (dk_at dksX4_clauseHere_1 16 rfl rfl)
theorem dX4_clauseHere_43 : decode cX4_clauseHere 43 = .ok (.invokevirtual 92, 3) := dk_182 0 92 (dk_at dksX4_clauseHere_1 19 rfl rfl)
theorem dX4_clauseHere_46 : decode cX4_clauseHere 46 = .ok (.ifCond .ne 20, 3) := dk_154 0 20 (dk_at dksX4_clauseHere_2 0 rfl rfl)
theorem dX4_clauseHere_49 : decode cX4_clauseHere 49 = .ok (.aload_n 0, 1) := dk_42 (dk_at dksX4_clauseHere_2 3 rfl rfl)
theorem dX4_clauseHere_50 : decode cX4_clauseHere 50 = .ok (.ldc2_w 254, 3) := dk_20 0 254 (dk_at dksX4_clauseHere_2 4 rfl rfl)
theorem dX4_clauseHere_53 : decode cX4_clauseHere 53 = .ok (.invokevirtual 92, 3) := dk_182 0 92 (dk_at dksX4_clauseHere_2 7 rfl rfl)
theorem dX4_clauseHere_56 : decode cX4_clauseHere 56 = .ok (.ifCond .ne 10, 3) := dk_154 0 10 (dk_at dksX4_clauseHere_2 10 rfl rfl)
theorem dX4_clauseHere_59 : decode cX4_clauseHere 59 = .ok (.aload_n 0, 1) := dk_42 (dk_at dksX4_clauseHere_2 13 rfl rfl)
theorem dX4_clauseHere_60 : decode cX4_clauseHere 60 = .ok (.iconst 0, 1) := dk_3 (dk_at dksX4_clauseHere_2 14 rfl rfl)
theorem dX4_clauseHere_61 : decode cX4_clauseHere 61 = .ok (.iload_n 1, 1) := dk_27 (dk_at dksX4_clauseHere_2 15 rfl rfl)
theorem dX4_clauseHere_62 : decode cX4_clauseHere 62 = .ok (.invokevirtual 102, 3) := dk_182 0 102 (dk_at dksX4_clauseHere_2 16 rfl rfl)
theorem dX4_clauseHere_65 : decode cX4_clauseHere 65 = .ok (.ireturn, 1) := dk_172 (dk_at dksX4_clauseHere_2 19 rfl rfl)
theorem dX4_clauseHere_66 : decode cX4_clauseHere 66 = .ok (.aload_n 0, 1) := dk_42 (dk_at dksX4_clauseHere_2 20 rfl rfl)
theorem dX4_clauseHere_67 : decode cX4_clauseHere 67 = .ok (.getfield 256, 3) := dk_180 1 0 (dk_at dksX4_clauseHere_2 21 rfl rfl)
theorem dX4_clauseHere_70 : decode cX4_clauseHere 70 = .ok (.iload_n 2, 1) := dk_28 (dk_at dksX4_clauseHere_3 0 rfl rfl)
theorem dX4_clauseHere_71 : decode cX4_clauseHere 71 = .ok (.ifCond .eq 8, 3) := dk_153 0 8 (dk_at dksX4_clauseHere_3 1 rfl rfl)
theorem dX4_clauseHere_74 : decode cX4_clauseHere 74 = .ok (.bipush 40, 2) := dk_16 40 (dk_at dksX4_clauseHere_3 4 rfl rfl)
theorem dX4_clauseHere_76 : decode cX4_clauseHere 76 = .ok (.goto 5, 3) := dk_167 0 5 (dk_at dksX4_clauseHere_3 6 rfl rfl)
theorem dX4_clauseHere_79 : decode cX4_clauseHere 79 = .ok (.bipush 12, 2) := dk_16 12 (dk_at dksX4_clauseHere_3 9 rfl rfl)
theorem dX4_clauseHere_81 : decode cX4_clauseHere 81 = .ok (.if_icmp .ne 10, 3) := dk_160 0 10 (dk_at dksX4_clauseHere_3 11 rfl rfl)
theorem dX4_clauseHere_84 : decode cX4_clauseHere 84 = .ok (.aload_n 0, 1) := dk_42 (dk_at dksX4_clauseHere_3 14 rfl rfl)
theorem dX4_clauseHere_85 : decode cX4_clauseHere 85 = .ok (.iconst 4, 1) := dk_7 (dk_at dksX4_clauseHere_3 15 rfl rfl)
theorem dX4_clauseHere_86 : decode cX4_clauseHere 86 = .ok (.iload_n 1, 1) := dk_27 (dk_at dksX4_clauseHere_3 16 rfl rfl)
theorem dX4_clauseHere_87 : decode cX4_clauseHere 87 = .ok (.invokevirtual 102, 3) := dk_182 0 102 (dk_at dksX4_clauseHere_3 17 rfl rfl)
theorem dX4_clauseHere_90 : decode cX4_clauseHere 90 = .ok (.ireturn, 1) := dk_172 (dk_at dksX4_clauseHere_3 20 rfl rfl)
theorem dX4_clauseHere_91 : decode cX4_clauseHere 91 = .ok (.aload_n 0, 1) := dk_42 (dk_at dksX4_clauseHere_3 21 rfl rfl)
theorem dX4_clauseHere_92 : decode cX4_clauseHere 92 = .ok (.dup, 1) := dk_89 (dk_at dksX4_clauseHere_3 22 rfl rfl)
theorem dX4_clauseHere_93 : decode cX4_clauseHere 93 = .ok (.getfield 256, 3) := dk_180 1 0 (dk_at dksX4_clauseHere_4 0 rfl rfl)
theorem dX4_clauseHere_96 : decode cX4_clauseHere 96 = .ok (.iconst 1, 1) := dk_4 (dk_at dksX4_clauseHere_4 3 rfl rfl)
theorem dX4_clauseHere_97 : decode cX4_clauseHere 97 = .ok (.iadd, 1) := dk_96 (dk_at dksX4_clauseHere_4 4 rfl rfl)
theorem dX4_clauseHere_98 : decode cX4_clauseHere 98 = .ok (.putfield 256, 3) := dk_181 1 0 (dk_at dksX4_clauseHere_4 5 rfl rfl)
theorem dX4_clauseHere_101 : decode cX4_clauseHere 101 = .ok (.iload_n 2, 1) := dk_28 (dk_at dksX4_clauseHere_4 8 rfl rfl)
theorem dX4_clauseHere_102 : decode cX4_clauseHere 102 = .ok (.ifCond .eq 11, 3) := dk_153 0 11 (dk_at dksX4_clauseHere_4 9 rfl rfl)
theorem dX4_clauseHere_105 : decode cX4_clauseHere 105 = .ok (.aload_n 0, 1) := dk_42 (dk_at dksX4_clauseHere_4 12 rfl rfl)
theorem dX4_clauseHere_106 : decode cX4_clauseHere 106 = .ok (.iload_n 1, 1) := dk_27 (dk_at dksX4_clauseHere_4 13 rfl rfl)
theorem dX4_clauseHere_107 : decode cX4_clauseHere 107 = .ok (.invokevirtual 259, 3) := dk_182 1 3 (dk_at dksX4_clauseHere_4 14 rfl rfl)
theorem dX4_clauseHere_110 : decode cX4_clauseHere 110 = .ok (.goto 22, 3) := dk_167 0 22 (dk_at dksX4_clauseHere_4 17 rfl rfl)
theorem dX4_clauseHere_113 : decode cX4_clauseHere 113 = .ok (.aload_n 0, 1) := dk_42 (dk_at dksX4_clauseHere_4 20 rfl rfl)
theorem dX4_clauseHere_114 : decode cX4_clauseHere 114 = .ok (.aload_n 0, 1) := dk_42 (dk_at dksX4_clauseHere_4 21 rfl rfl)
theorem dX4_clauseHere_115 : decode cX4_clauseHere 115 = .ok (.ldc2_w 252, 3) := dk_20 0 252 (dk_at dksX4_clauseHere_5 0 rfl rfl)
theorem dX4_clauseHere_118 : decode cX4_clauseHere 118 = .ok (.invokevirtual 92, 3) := dk_182 0 92 (dk_at dksX4_clauseHere_5 3 rfl rfl)
theorem dX4_clauseHere_121 : decode cX4_clauseHere 121 = .ok (.ifCond .eq 7, 3) := dk_153 0 7 (dk_at dksX4_clauseHere_5 6 rfl rfl)
theorem dX4_clauseHere_124 : decode cX4_clauseHere 124 = .ok (.iconst 0, 1) := dk_3 (dk_at dksX4_clauseHere_5 9 rfl rfl)
theorem dX4_clauseHere_125 : decode cX4_clauseHere 125 = .ok (.goto 4, 3) := dk_167 0 4 (dk_at dksX4_clauseHere_5 10 rfl rfl)
theorem dX4_clauseHere_128 : decode cX4_clauseHere 128 = .ok (.iconst 1, 1) := dk_4 (dk_at dksX4_clauseHere_5 13 rfl rfl)
theorem dX4_clauseHere_129 : decode cX4_clauseHere 129 = .ok (.invokevirtual 262, 3) := dk_182 1 6 (dk_at dksX4_clauseHere_5 14 rfl rfl)
theorem dX4_clauseHere_132 : decode cX4_clauseHere 132 = .ok (.ireturn, 1) := dk_172 (dk_at dksX4_clauseHere_5 17 rfl rfl)
abbrev cX4_see : ByteArray := prog_20_method_9_code
def yX4_see : MethodName := ⟨RX4, "see", "()I"⟩
def dkwX4_see_2 : List UInt8 := [162, 0, 19, 42, 180, 0, 7, 42, 180, 0, 81, 51, 17, 0, 255, 126, 167, 0, 4, 2, 172]
abbrev dktX4_see_2 : List UInt8 := dkwX4_see_2 ++ []
def dkwX4_see_1 : List UInt8 := [160, 0, 16, 42, 89, 180, 0, 81, 4, 96, 181, 0, 81, 167, 255, 221, 42, 180, 0, 81, 42, 180, 0, 70]
abbrev dktX4_see_1 : List UInt8 := dkwX4_see_1 ++ dktX4_see_2
def dkwX4_see_0 : List UInt8 := [42, 180, 0, 81, 42, 180, 0, 70, 162, 0, 30, 42, 180, 0, 7, 42, 180, 0, 81, 51, 16, 32]
abbrev dktX4_see_0 : List UInt8 := dkwX4_see_0 ++ dktX4_see_1
theorem dksX4_see_0 : cX4_see.data.toList.drop 0 = dktX4_see_0 := by decide +kernel
theorem dksX4_see_1 : cX4_see.data.toList.drop 22 = dktX4_see_1 := dk_seg dksX4_see_0 22 rfl rfl
theorem dksX4_see_2 : cX4_see.data.toList.drop 46 = dktX4_see_2 := dk_seg dksX4_see_1 24 rfl rfl
theorem dX4_see_0 : decode cX4_see 0 = .ok (.aload_n 0, 1) := dk_42 (dk_at dksX4_see_0 0 rfl rfl)
theorem dX4_see_1 : decode cX4_see 1 = .ok (.getfield 81, 3) := dk_180 0 81 (dk_at dksX4_see_0 1 rfl rfl)
theorem dX4_see_4 : decode cX4_see 4 = .ok (.aload_n 0, 1) := dk_42 (dk_at dksX4_see_0 4 rfl rfl)
theorem dX4_see_5 : decode cX4_see 5 = .ok (.getfield 70, 3) := dk_180 0 70 (dk_at dksX4_see_0 5 rfl rfl)
theorem dX4_see_8 : decode cX4_see 8 = .ok (.if_icmp .ge 30, 3) := dk_162 0 30 (dk_at dksX4_see_0 8 rfl rfl)
theorem dX4_see_11 : decode cX4_see 11 = .ok (.aload_n 0, 1) := dk_42 (dk_at dksX4_see_0 11 rfl rfl)
theorem dX4_see_12 : decode cX4_see 12 = .ok (.getfield 7, 3) := dk_180 0 7 (dk_at dksX4_see_0 12 rfl rfl)
theorem dX4_see_15 : decode cX4_see 15 = .ok (.aload_n 0, 1) := dk_42 (dk_at dksX4_see_0 15 rfl rfl)
theorem dX4_see_16 : decode cX4_see 16 = .ok (.getfield 81, 3) := dk_180 0 81 (dk_at dksX4_see_0 16 rfl rfl)
theorem dX4_see_19 : decode cX4_see 19 = .ok (.baload, 1) := dk_51 (dk_at dksX4_see_0 19 rfl rfl)
theorem dX4_see_20 : decode cX4_see 20 = .ok (.bipush 32, 2) := dk_16 32 (dk_at dksX4_see_0 20 rfl rfl)
theorem dX4_see_22 : decode cX4_see 22 = .ok (.if_icmp .ne 16, 3) := dk_160 0 16 (dk_at dksX4_see_1 0 rfl rfl)
theorem dX4_see_25 : decode cX4_see 25 = .ok (.aload_n 0, 1) := dk_42 (dk_at dksX4_see_1 3 rfl rfl)
theorem dX4_see_26 : decode cX4_see 26 = .ok (.dup, 1) := dk_89 (dk_at dksX4_see_1 4 rfl rfl)
theorem dX4_see_27 : decode cX4_see 27 = .ok (.getfield 81, 3) := dk_180 0 81 (dk_at dksX4_see_1 5 rfl rfl)
theorem dX4_see_30 : decode cX4_see 30 = .ok (.iconst 1, 1) := dk_4 (dk_at dksX4_see_1 8 rfl rfl)
theorem dX4_see_31 : decode cX4_see 31 = .ok (.iadd, 1) := dk_96 (dk_at dksX4_see_1 9 rfl rfl)
theorem dX4_see_32 : decode cX4_see 32 = .ok (.putfield 81, 3) := dk_181 0 81 (dk_at dksX4_see_1 10 rfl rfl)
theorem dX4_see_35 : decode cX4_see 35 = .ok (.goto (-35), 3) := dk_167 255 221 (dk_at dksX4_see_1 13 rfl rfl)
theorem dX4_see_38 : decode cX4_see 38 = .ok (.aload_n 0, 1) := dk_42 (dk_at dksX4_see_1 16 rfl rfl)
theorem dX4_see_39 : decode cX4_see 39 = .ok (.getfield 81, 3) := dk_180 0 81 (dk_at dksX4_see_1 17 rfl rfl)
theorem dX4_see_42 : decode cX4_see 42 = .ok (.aload_n 0, 1) := dk_42 (dk_at dksX4_see_1 20 rfl rfl)
theorem dX4_see_43 : decode cX4_see 43 = .ok (.getfield 70, 3) := dk_180 0 70 (dk_at dksX4_see_1 21 rfl rfl)
theorem dX4_see_46 : decode cX4_see 46 = .ok (.if_icmp .ge 19, 3) := dk_162 0 19 (dk_at dksX4_see_2 0 rfl rfl)
theorem dX4_see_49 : decode cX4_see 49 = .ok (.aload_n 0, 1) := dk_42 (dk_at dksX4_see_2 3 rfl rfl)
theorem dX4_see_50 : decode cX4_see 50 = .ok (.getfield 7, 3) := dk_180 0 7 (dk_at dksX4_see_2 4 rfl rfl)
theorem dX4_see_53 : decode cX4_see 53 = .ok (.aload_n 0, 1) := dk_42 (dk_at dksX4_see_2 7 rfl rfl)
theorem dX4_see_54 : decode cX4_see 54 = .ok (.getfield 81, 3) := dk_180 0 81 (dk_at dksX4_see_2 8 rfl rfl)
theorem dX4_see_57 : decode cX4_see 57 = .ok (.baload, 1) := dk_51 (dk_at dksX4_see_2 11 rfl rfl)
theorem dX4_see_58 : decode cX4_see 58 = .ok (.sipush 255, 3) := dk_17 0 255 (dk_at dksX4_see_2 12 rfl rfl)
theorem dX4_see_61 : decode cX4_see 61 = .ok (.iand, 1) := dk_126 (dk_at dksX4_see_2 15 rfl rfl)
theorem dX4_see_62 : decode cX4_see 62 = .ok (.goto 4, 3) := dk_167 0 4 (dk_at dksX4_see_2 16 rfl rfl)
theorem dX4_see_65 : decode cX4_see 65 = .ok (.iconst (-1), 1) := dk_2 (dk_at dksX4_see_2 19 rfl rfl)
theorem dX4_see_66 : decode cX4_see 66 = .ok (.ireturn, 1) := dk_172 (dk_at dksX4_see_2 20 rfl rfl)
abbrev cX4_isFairWord : ByteArray := prog_20_method_39_code
def yX4_isFairWord : MethodName := ⟨RX4, "isFairWord", "()Z"⟩
def dkwX4_isFairWord_3 : List UInt8 := [20, 0, 245, 182, 0, 92, 153, 0, 7, 4, 167, 0, 4, 3, 172]
abbrev dktX4_isFairWord_3 : List UInt8 := dkwX4_isFairWord_3 ++ []
def dkwX4_isFairWord_2 : List UInt8 := [154, 0, 33, 42, 20, 0, 239, 182, 0, 92, 154, 0, 23, 42, 20, 0, 247, 182, 0, 92, 154, 0, 13, 42]
abbrev dktX4_isFairWord_2 : List UInt8 := dkwX4_isFairWord_2 ++ dktX4_isFairWord_3
def dkwX4_isFairWord_1 : List UInt8 := [182, 0, 92, 154, 0, 53, 42, 20, 0, 113, 182, 0, 92, 154, 0, 43, 42, 20, 0, 234, 182, 0, 92]
abbrev dktX4_isFairWord_1 : List UInt8 := dkwX4_isFairWord_1 ++ dktX4_isFairWord_2
def dkwX4_isFairWord_0 : List UInt8 := [42, 20, 0, 218, 182, 0, 92, 154, 0, 73, 42, 20, 0, 125, 182, 0, 92, 154, 0, 63, 42, 20, 0, 226]
abbrev dktX4_isFairWord_0 : List UInt8 := dkwX4_isFairWord_0 ++ dktX4_isFairWord_1
theorem dksX4_isFairWord_0 : cX4_isFairWord.data.toList.drop 0 = dktX4_isFairWord_0 := by decide +kernel
theorem dksX4_isFairWord_1 : cX4_isFairWord.data.toList.drop 24 = dktX4_isFairWord_1 := dk_seg dksX4_isFairWord_0 24 rfl rfl
theorem dksX4_isFairWord_2 : cX4_isFairWord.data.toList.drop 47 = dktX4_isFairWord_2 := dk_seg dksX4_isFairWord_1 23 rfl rfl
theorem dksX4_isFairWord_3 : cX4_isFairWord.data.toList.drop 71 = dktX4_isFairWord_3 := dk_seg dksX4_isFairWord_2 24 rfl rfl
theorem dX4_isFairWord_0 : decode cX4_isFairWord 0 = .ok (.aload_n 0, 1) := dk_42 (dk_at dksX4_isFairWord_0 0 rfl rfl)
theorem dX4_isFairWord_1 : decode cX4_isFairWord 1 = .ok (.ldc2_w 218, 3) := dk_20 0 218 (dk_at dksX4_isFairWord_0 1 rfl rfl)
theorem dX4_isFairWord_4 : decode cX4_isFairWord 4 = .ok (.invokevirtual 92, 3) := dk_182 0 92 (dk_at dksX4_isFairWord_0 4 rfl rfl)
theorem dX4_isFairWord_7 : decode cX4_isFairWord 7 = .ok (.ifCond .ne 73, 3) := dk_154 0 73 (dk_at dksX4_isFairWord_0 7 rfl rfl)
theorem dX4_isFairWord_10 : decode cX4_isFairWord 10 = .ok (.aload_n 0, 1) := dk_42 (dk_at dksX4_isFairWord_0 10 rfl rfl)
theorem dX4_isFairWord_11 : decode cX4_isFairWord 11 = .ok (.ldc2_w 125, 3) := dk_20 0 125 (dk_at dksX4_isFairWord_0 11 rfl rfl)
theorem dX4_isFairWord_14 : decode cX4_isFairWord 14 = .ok (.invokevirtual 92, 3) := dk_182 0 92 (dk_at dksX4_isFairWord_0 14 rfl rfl)
theorem dX4_isFairWord_17 : decode cX4_isFairWord 17 = .ok (.ifCond .ne 63, 3) := dk_154 0 63 (dk_at dksX4_isFairWord_0 17 rfl rfl)
theorem dX4_isFairWord_20 : decode cX4_isFairWord 20 = .ok (.aload_n 0, 1) := dk_42 (dk_at dksX4_isFairWord_0 20 rfl rfl)
theorem dX4_isFairWord_21 : decode cX4_isFairWord 21 = .ok (.ldc2_w 226, 3) := dk_20 0 226 (dk_at dksX4_isFairWord_0 21 rfl rfl)
theorem dX4_isFairWord_24 : decode cX4_isFairWord 24 = .ok (.invokevirtual 92, 3) := dk_182 0 92 (dk_at dksX4_isFairWord_1 0 rfl rfl)
theorem dX4_isFairWord_27 : decode cX4_isFairWord 27 = .ok (.ifCond .ne 53, 3) := dk_154 0 53 (dk_at dksX4_isFairWord_1 3 rfl rfl)
theorem dX4_isFairWord_30 : decode cX4_isFairWord 30 = .ok (.aload_n 0, 1) := dk_42 (dk_at dksX4_isFairWord_1 6 rfl rfl)
theorem dX4_isFairWord_31 : decode cX4_isFairWord 31 = .ok (.ldc2_w 113, 3) := dk_20 0 113 (dk_at dksX4_isFairWord_1 7 rfl rfl)
theorem dX4_isFairWord_34 : decode cX4_isFairWord 34 = .ok (.invokevirtual 92, 3) := dk_182 0 92 (dk_at dksX4_isFairWord_1 10 rfl rfl)
theorem dX4_isFairWord_37 : decode cX4_isFairWord 37 = .ok (.ifCond .ne 43, 3) := dk_154 0 43 (dk_at dksX4_isFairWord_1 13 rfl rfl)
theorem dX4_isFairWord_40 : decode cX4_isFairWord 40 = .ok (.aload_n 0, 1) := dk_42 (dk_at dksX4_isFairWord_1 16 rfl rfl)
theorem dX4_isFairWord_41 : decode cX4_isFairWord 41 = .ok (.ldc2_w 234, 3) := dk_20 0 234 (dk_at dksX4_isFairWord_1 17 rfl rfl)
theorem dX4_isFairWord_44 : decode cX4_isFairWord 44 = .ok (.invokevirtual 92, 3) := dk_182 0 92 (dk_at dksX4_isFairWord_1 20 rfl rfl)
theorem dX4_isFairWord_47 : decode cX4_isFairWord 47 = .ok (.ifCond .ne 33, 3) := dk_154 0 33 (dk_at dksX4_isFairWord_2 0 rfl rfl)
theorem dX4_isFairWord_50 : decode cX4_isFairWord 50 = .ok (.aload_n 0, 1) := dk_42 (dk_at dksX4_isFairWord_2 3 rfl rfl)
theorem dX4_isFairWord_51 : decode cX4_isFairWord 51 = .ok (.ldc2_w 239, 3) := dk_20 0 239 (dk_at dksX4_isFairWord_2 4 rfl rfl)
theorem dX4_isFairWord_54 : decode cX4_isFairWord 54 = .ok (.invokevirtual 92, 3) := dk_182 0 92 (dk_at dksX4_isFairWord_2 7 rfl rfl)
theorem dX4_isFairWord_57 : decode cX4_isFairWord 57 = .ok (.ifCond .ne 23, 3) := dk_154 0 23 (dk_at dksX4_isFairWord_2 10 rfl rfl)
theorem dX4_isFairWord_60 : decode cX4_isFairWord 60 = .ok (.aload_n 0, 1) := dk_42 (dk_at dksX4_isFairWord_2 13 rfl rfl)
theorem dX4_isFairWord_61 : decode cX4_isFairWord 61 = .ok (.ldc2_w 247, 3) := dk_20 0 247 (dk_at dksX4_isFairWord_2 14 rfl rfl)
theorem dX4_isFairWord_64 : decode cX4_isFairWord 64 = .ok (.invokevirtual 92, 3) := dk_182 0 92 (dk_at dksX4_isFairWord_2 17 rfl rfl)
theorem dX4_isFairWord_67 : decode cX4_isFairWord 67 = .ok (.ifCond .ne 13, 3) := dk_154 0 13 (dk_at dksX4_isFairWord_2 20 rfl rfl)
theorem dX4_isFairWord_70 : decode cX4_isFairWord 70 = .ok (.aload_n 0, 1) := dk_42 (dk_at dksX4_isFairWord_2 23 rfl rfl)
theorem dX4_isFairWord_71 : decode cX4_isFairWord 71 = .ok (.ldc2_w 245, 3) := dk_20 0 245 (dk_at dksX4_isFairWord_3 0 rfl rfl)
theorem dX4_isFairWord_74 : decode cX4_isFairWord 74 = .ok (.invokevirtual 92, 3) := dk_182 0 92 (dk_at dksX4_isFairWord_3 3 rfl rfl)
theorem dX4_isFairWord_77 : decode cX4_isFairWord 77 = .ok (.ifCond .eq 7, 3) := dk_153 0 7 (dk_at dksX4_isFairWord_3 6 rfl rfl)
theorem dX4_isFairWord_80 : decode cX4_isFairWord 80 = .ok (.iconst 1, 1) := dk_4 (dk_at dksX4_isFairWord_3 9 rfl rfl)
theorem dX4_isFairWord_81 : decode cX4_isFairWord 81 = .ok (.goto 4, 3) := dk_167 0 4 (dk_at dksX4_isFairWord_3 10 rfl rfl)
theorem dX4_isFairWord_84 : decode cX4_isFairWord 84 = .ok (.iconst 0, 1) := dk_3 (dk_at dksX4_isFairWord_3 13 rfl rfl)
theorem dX4_isFairWord_85 : decode cX4_isFairWord 85 = .ok (.ireturn, 1) := dk_172 (dk_at dksX4_isFairWord_3 14 rfl rfl)
abbrev cX4_isWord : ByteArray := prog_20_method_12_code
def yX4_isWord : MethodName := ⟨RX4, "isWord", "(J)Z"⟩
def dkwX4_isWord_3 : List UInt8 := [154, 0, 7, 4, 167, 0, 4, 3, 172]
abbrev dktX4_isWord_3 : List UInt8 := dkwX4_isWord_3 ++ []
def dkwX4_isWord_2 : List UInt8 := [129, 66, 132, 5, 1, 167, 255, 213, 21, 5, 158, 0, 20, 21, 5, 16, 8, 162, 0, 13, 33, 31, 148]
abbrev dktX4_isWord_2 : List UInt8 := dkwX4_isWord_2 ++ dktX4_isWord_3
def dkwX4_isWord_1 : List UInt8 := [21, 5, 16, 8, 162, 0, 22, 33, 16, 8, 121, 42, 180, 0, 7, 42, 180, 0, 81, 21, 5, 96, 51, 133]
abbrev dktX4_isWord_1 : List UInt8 := dkwX4_isWord_1 ++ dktX4_isWord_2
def dkwX4_isWord_0 : List UInt8 := [42, 182, 0, 84, 87, 9, 66, 3, 54, 5, 42, 42, 180, 0, 81, 21, 5, 96, 182, 0, 88, 153, 0, 35]
abbrev dktX4_isWord_0 : List UInt8 := dkwX4_isWord_0 ++ dktX4_isWord_1
theorem dksX4_isWord_0 : cX4_isWord.data.toList.drop 0 = dktX4_isWord_0 := by decide +kernel
theorem dksX4_isWord_1 : cX4_isWord.data.toList.drop 24 = dktX4_isWord_1 := dk_seg dksX4_isWord_0 24 rfl rfl
theorem dksX4_isWord_2 : cX4_isWord.data.toList.drop 48 = dktX4_isWord_2 := dk_seg dksX4_isWord_1 24 rfl rfl
theorem dksX4_isWord_3 : cX4_isWord.data.toList.drop 71 = dktX4_isWord_3 := dk_seg dksX4_isWord_2 23 rfl rfl
theorem dX4_isWord_0 : decode cX4_isWord 0 = .ok (.aload_n 0, 1) := dk_42 (dk_at dksX4_isWord_0 0 rfl rfl)
theorem dX4_isWord_1 : decode cX4_isWord 1 = .ok (.invokevirtual 84, 3) := dk_182 0 84 (dk_at dksX4_isWord_0 1 rfl rfl)
theorem dX4_isWord_4 : decode cX4_isWord 4 = .ok (.pop, 1) := dk_87 (dk_at dksX4_isWord_0 4 rfl rfl)
theorem dX4_isWord_5 : decode cX4_isWord 5 = .ok (.lconst 0, 1) := dk_9 (dk_at dksX4_isWord_0 5 rfl rfl)
theorem dX4_isWord_6 : decode cX4_isWord 6 = .ok (.lstore_n 3, 1) := dk_66 (dk_at dksX4_isWord_0 6 rfl rfl)
theorem dX4_isWord_7 : decode cX4_isWord 7 = .ok (.iconst 0, 1) := dk_3 (dk_at dksX4_isWord_0 7 rfl rfl)
theorem dX4_isWord_8 : decode cX4_isWord 8 = .ok (.istore 5, 2) := dk_54 5 (dk_at dksX4_isWord_0 8 rfl rfl)
theorem dX4_isWord_10 : decode cX4_isWord 10 = .ok (.aload_n 0, 1) := dk_42 (dk_at dksX4_isWord_0 10 rfl rfl)
theorem dX4_isWord_11 : decode cX4_isWord 11 = .ok (.aload_n 0, 1) := dk_42 (dk_at dksX4_isWord_0 11 rfl rfl)
theorem dX4_isWord_12 : decode cX4_isWord 12 = .ok (.getfield 81, 3) := dk_180 0 81 (dk_at dksX4_isWord_0 12 rfl rfl)
theorem dX4_isWord_15 : decode cX4_isWord 15 = .ok (.iload 5, 2) := dk_21 5 (dk_at dksX4_isWord_0 15 rfl rfl)
theorem dX4_isWord_17 : decode cX4_isWord 17 = .ok (.iadd, 1) := dk_96 (dk_at dksX4_isWord_0 17 rfl rfl)
theorem dX4_isWord_18 : decode cX4_isWord 18 = .ok (.invokevirtual 88, 3) := dk_182 0 88 (dk_at dksX4_isWord_0 18 rfl rfl)
theorem dX4_isWord_21 : decode cX4_isWord 21 = .ok (.ifCond .eq 35, 3) := dk_153 0 35 (dk_at dksX4_isWord_0 21 rfl rfl)
theorem dX4_isWord_24 : decode cX4_isWord 24 = .ok (.iload 5, 2) := dk_21 5 (dk_at dksX4_isWord_1 0 rfl rfl)
theorem dX4_isWord_26 : decode cX4_isWord 26 = .ok (.bipush 8, 2) := dk_16 8 (dk_at dksX4_isWord_1 2 rfl rfl)
theorem dX4_isWord_28 : decode cX4_isWord 28 = .ok (.if_icmp .ge 22, 3) := dk_162 0 22 (dk_at dksX4_isWord_1 4 rfl rfl)
theorem dX4_isWord_31 : decode cX4_isWord 31 = .ok (.lload_n 3, 1) := dk_33 (dk_at dksX4_isWord_1 7 rfl rfl)
theorem dX4_isWord_32 : decode cX4_isWord 32 = .ok (.bipush 8, 2) := dk_16 8 (dk_at dksX4_isWord_1 8 rfl rfl)
theorem dX4_isWord_34 : decode cX4_isWord 34 = .ok (.lshl, 1) := dk_121 (dk_at dksX4_isWord_1 10 rfl rfl)
theorem dX4_isWord_35 : decode cX4_isWord 35 = .ok (.aload_n 0, 1) := dk_42 (dk_at dksX4_isWord_1 11 rfl rfl)
theorem dX4_isWord_36 : decode cX4_isWord 36 = .ok (.getfield 7, 3) := dk_180 0 7 (dk_at dksX4_isWord_1 12 rfl rfl)
theorem dX4_isWord_39 : decode cX4_isWord 39 = .ok (.aload_n 0, 1) := dk_42 (dk_at dksX4_isWord_1 15 rfl rfl)
theorem dX4_isWord_40 : decode cX4_isWord 40 = .ok (.getfield 81, 3) := dk_180 0 81 (dk_at dksX4_isWord_1 16 rfl rfl)
theorem dX4_isWord_43 : decode cX4_isWord 43 = .ok (.iload 5, 2) := dk_21 5 (dk_at dksX4_isWord_1 19 rfl rfl)
theorem dX4_isWord_45 : decode cX4_isWord 45 = .ok (.iadd, 1) := dk_96 (dk_at dksX4_isWord_1 21 rfl rfl)
theorem dX4_isWord_46 : decode cX4_isWord 46 = .ok (.baload, 1) := dk_51 (dk_at dksX4_isWord_1 22 rfl rfl)
theorem dX4_isWord_47 : decode cX4_isWord 47 = .ok (.i2l, 1) := dk_133 (dk_at dksX4_isWord_1 23 rfl rfl)
theorem dX4_isWord_48 : decode cX4_isWord 48 = .ok (.lor, 1) := dk_129 (dk_at dksX4_isWord_2 0 rfl rfl)
theorem dX4_isWord_49 : decode cX4_isWord 49 = .ok (.lstore_n 3, 1) := dk_66 (dk_at dksX4_isWord_2 1 rfl rfl)
theorem dX4_isWord_50 : decode cX4_isWord 50 = .ok (.iinc 5 1, 3) := dk_132 5 1 (dk_at dksX4_isWord_2 2 rfl rfl)
theorem dX4_isWord_53 : decode cX4_isWord 53 = .ok (.goto (-43), 3) := dk_167 255 213 (dk_at dksX4_isWord_2 5 rfl rfl)
theorem dX4_isWord_56 : decode cX4_isWord 56 = .ok (.iload 5, 2) := dk_21 5 (dk_at dksX4_isWord_2 8 rfl rfl)
theorem dX4_isWord_58 : decode cX4_isWord 58 = .ok (.ifCond .le 20, 3) := dk_158 0 20 (dk_at dksX4_isWord_2 10 rfl rfl)
theorem dX4_isWord_61 : decode cX4_isWord 61 = .ok (.iload 5, 2) := dk_21 5 (dk_at dksX4_isWord_2 13 rfl rfl)
theorem dX4_isWord_63 : decode cX4_isWord 63 = .ok (.bipush 8, 2) := dk_16 8 (dk_at dksX4_isWord_2 15 rfl rfl)
theorem dX4_isWord_65 : decode cX4_isWord 65 = .ok (.if_icmp .ge 13, 3) := dk_162 0 13 (dk_at dksX4_isWord_2 17 rfl rfl)
theorem dX4_isWord_68 : decode cX4_isWord 68 = .ok (.lload_n 3, 1) := dk_33 (dk_at dksX4_isWord_2 20 rfl rfl)
theorem dX4_isWord_69 : decode cX4_isWord 69 = .ok (.lload_n 1, 1) := dk_31 (dk_at dksX4_isWord_2 21 rfl rfl)
theorem dX4_isWord_70 : decode cX4_isWord 70 = .ok (.lcmp, 1) := dk_148 (dk_at dksX4_isWord_2 22 rfl rfl)
theorem dX4_isWord_71 : decode cX4_isWord 71 = .ok (.ifCond .ne 7, 3) := dk_154 0 7 (dk_at dksX4_isWord_3 0 rfl rfl)
theorem dX4_isWord_74 : decode cX4_isWord 74 = .ok (.iconst 1, 1) := dk_4 (dk_at dksX4_isWord_3 3 rfl rfl)
theorem dX4_isWord_75 : decode cX4_isWord 75 = .ok (.goto 4, 3) := dk_167 0 4 (dk_at dksX4_isWord_3 4 rfl rfl)
theorem dX4_isWord_78 : decode cX4_isWord 78 = .ok (.iconst 0, 1) := dk_3 (dk_at dksX4_isWord_3 7 rfl rfl)
theorem dX4_isWord_79 : decode cX4_isWord 79 = .ok (.ireturn, 1) := dk_172 (dk_at dksX4_isWord_3 8 rfl rfl)
abbrev cX4_isLetter : ByteArray := prog_20_method_11_code
def yX4_isLetter : MethodName := ⟨RX4, "isLetter", "(I)Z"⟩
def dkwX4_isLetter_1 : List UInt8 := [51, 16, 122, 163, 0, 7, 4, 167, 0, 4, 3, 172]
abbrev dktX4_isLetter_1 : List UInt8 := dkwX4_isLetter_1 ++ []
def dkwX4_isLetter_0 : List UInt8 := [27, 42, 180, 0, 70, 162, 0, 29, 42, 180, 0, 7, 27, 51, 16, 97, 161, 0, 18, 42, 180, 0, 7, 27]
abbrev dktX4_isLetter_0 : List UInt8 := dkwX4_isLetter_0 ++ dktX4_isLetter_1
theorem dksX4_isLetter_0 : cX4_isLetter.data.toList.drop 0 = dktX4_isLetter_0 := by decide +kernel
theorem dksX4_isLetter_1 : cX4_isLetter.data.toList.drop 24 = dktX4_isLetter_1 := dk_seg dksX4_isLetter_0 24 rfl rfl
theorem dX4_isLetter_0 : decode cX4_isLetter 0 = .ok (.iload_n 1, 1) := dk_27 (dk_at dksX4_isLetter_0 0 rfl rfl)
theorem dX4_isLetter_1 : decode cX4_isLetter 1 = .ok (.aload_n 0, 1) := dk_42 (dk_at dksX4_isLetter_0 1 rfl rfl)
theorem dX4_isLetter_2 : decode cX4_isLetter 2 = .ok (.getfield 70, 3) := dk_180 0 70 (dk_at dksX4_isLetter_0 2 rfl rfl)
theorem dX4_isLetter_5 : decode cX4_isLetter 5 = .ok (.if_icmp .ge 29, 3) := dk_162 0 29 (dk_at dksX4_isLetter_0 5 rfl rfl)
theorem dX4_isLetter_8 : decode cX4_isLetter 8 = .ok (.aload_n 0, 1) := dk_42 (dk_at dksX4_isLetter_0 8 rfl rfl)
theorem dX4_isLetter_9 : decode cX4_isLetter 9 = .ok (.getfield 7, 3) := dk_180 0 7 (dk_at dksX4_isLetter_0 9 rfl rfl)
theorem dX4_isLetter_12 : decode cX4_isLetter 12 = .ok (.iload_n 1, 1) := dk_27 (dk_at dksX4_isLetter_0 12 rfl rfl)
theorem dX4_isLetter_13 : decode cX4_isLetter 13 = .ok (.baload, 1) := dk_51 (dk_at dksX4_isLetter_0 13 rfl rfl)
theorem dX4_isLetter_14 : decode cX4_isLetter 14 = .ok (.bipush 97, 2) := dk_16 97 (dk_at dksX4_isLetter_0 14 rfl rfl)
theorem dX4_isLetter_16 : decode cX4_isLetter 16 = .ok (.if_icmp .lt 18, 3) := dk_161 0 18 (dk_at dksX4_isLetter_0 16 rfl rfl)
theorem dX4_isLetter_19 : decode cX4_isLetter 19 = .ok (.aload_n 0, 1) := dk_42 (dk_at dksX4_isLetter_0 19 rfl rfl)
theorem dX4_isLetter_20 : decode cX4_isLetter 20 = .ok (.getfield 7, 3) := dk_180 0 7 (dk_at dksX4_isLetter_0 20 rfl rfl)
theorem dX4_isLetter_23 : decode cX4_isLetter 23 = .ok (.iload_n 1, 1) := dk_27 (dk_at dksX4_isLetter_0 23 rfl rfl)
theorem dX4_isLetter_24 : decode cX4_isLetter 24 = .ok (.baload, 1) := dk_51 (dk_at dksX4_isLetter_1 0 rfl rfl)
theorem dX4_isLetter_25 : decode cX4_isLetter 25 = .ok (.bipush 122, 2) := dk_16 122 (dk_at dksX4_isLetter_1 1 rfl rfl)
theorem dX4_isLetter_27 : decode cX4_isLetter 27 = .ok (.if_icmp .gt 7, 3) := dk_163 0 7 (dk_at dksX4_isLetter_1 3 rfl rfl)
theorem dX4_isLetter_30 : decode cX4_isLetter 30 = .ok (.iconst 1, 1) := dk_4 (dk_at dksX4_isLetter_1 6 rfl rfl)
theorem dX4_isLetter_31 : decode cX4_isLetter 31 = .ok (.goto 4, 3) := dk_167 0 4 (dk_at dksX4_isLetter_1 7 rfl rfl)
theorem dX4_isLetter_34 : decode cX4_isLetter 34 = .ok (.iconst 0, 1) := dk_3 (dk_at dksX4_isLetter_1 10 rfl rfl)
theorem dX4_isLetter_35 : decode cX4_isLetter 35 = .ok (.ireturn, 1) := dk_172 (dk_at dksX4_isLetter_1 11 rfl rfl)
abbrev cX4_fails : ByteArray := prog_20_method_8_code
def yX4_fails : MethodName := ⟨RX4, "fails", "(II)Z"⟩
def dkwX4_fails_0 : List UInt8 := [42, 180, 0, 78, 154, 0, 15, 42, 4, 16, 8, 28, 104, 96, 27, 96, 181, 0, 78, 3, 172]
abbrev dktX4_fails_0 : List UInt8 := dkwX4_fails_0 ++ []
theorem dksX4_fails_0 : cX4_fails.data.toList.drop 0 = dktX4_fails_0 := by decide +kernel
theorem dX4_fails_0 : decode cX4_fails 0 = .ok (.aload_n 0, 1) := dk_42 (dk_at dksX4_fails_0 0 rfl rfl)
theorem dX4_fails_1 : decode cX4_fails 1 = .ok (.getfield 78, 3) := dk_180 0 78 (dk_at dksX4_fails_0 1 rfl rfl)
theorem dX4_fails_4 : decode cX4_fails 4 = .ok (.ifCond .ne 15, 3) := dk_154 0 15 (dk_at dksX4_fails_0 4 rfl rfl)
theorem dX4_fails_7 : decode cX4_fails 7 = .ok (.aload_n 0, 1) := dk_42 (dk_at dksX4_fails_0 7 rfl rfl)
theorem dX4_fails_8 : decode cX4_fails 8 = .ok (.iconst 1, 1) := dk_4 (dk_at dksX4_fails_0 8 rfl rfl)
theorem dX4_fails_9 : decode cX4_fails 9 = .ok (.bipush 8, 2) := dk_16 8 (dk_at dksX4_fails_0 9 rfl rfl)
theorem dX4_fails_11 : decode cX4_fails 11 = .ok (.iload_n 2, 1) := dk_28 (dk_at dksX4_fails_0 11 rfl rfl)
theorem dX4_fails_12 : decode cX4_fails 12 = .ok (.imul, 1) := dk_104 (dk_at dksX4_fails_0 12 rfl rfl)
theorem dX4_fails_13 : decode cX4_fails 13 = .ok (.iadd, 1) := dk_96 (dk_at dksX4_fails_0 13 rfl rfl)
theorem dX4_fails_14 : decode cX4_fails 14 = .ok (.iload_n 1, 1) := dk_27 (dk_at dksX4_fails_0 14 rfl rfl)
theorem dX4_fails_15 : decode cX4_fails 15 = .ok (.iadd, 1) := dk_96 (dk_at dksX4_fails_0 15 rfl rfl)
theorem dX4_fails_16 : decode cX4_fails 16 = .ok (.putfield 78, 3) := dk_181 0 78 (dk_at dksX4_fails_0 16 rfl rfl)
theorem dX4_fails_19 : decode cX4_fails 19 = .ok (.iconst 0, 1) := dk_3 (dk_at dksX4_fails_0 19 rfl rfl)
theorem dX4_fails_20 : decode cX4_fails 20 = .ok (.ireturn, 1) := dk_172 (dk_at dksX4_fails_0 20 rfl rfl)
abbrev cX4_fairLineHere : ByteArray := prog_20_method_38_code
def yX4_fairLineHere : MethodName := ⟨RX4, "fairLineHere", "(I)Z"⟩
def dkwX4_fairLineHere_7 : List UInt8 := [4, 167, 0, 4, 3, 172]
abbrev dktX4_fairLineHere_7 : List UInt8 := dkwX4_fairLineHere_7 ++ []
def dkwX4_fairLineHere_6 : List UInt8 := [16, 6, 27, 4, 16, 24, 182, 0, 241, 153, 0, 19, 42, 16, 7, 4, 16, 99, 182, 0, 211, 153, 0, 7]
abbrev dktX4_fairLineHere_6 : List UInt8 := dkwX4_fairLineHere_6 ++ dktX4_fairLineHere_7
def dkwX4_fairLineHere_5 : List UInt8 := [42, 20, 0, 245, 182, 0, 92, 153, 0, 16, 42, 16, 8, 27, 3, 16, 7, 182, 0, 241, 167, 0, 33, 42]
abbrev dktX4_fairLineHere_5 : List UInt8 := dkwX4_fairLineHere_5 ++ dktX4_fairLineHere_6
def dkwX4_fairLineHere_4 : List UInt8 := [182, 0, 236, 172, 42, 20, 0, 239, 182, 0, 92, 153, 0, 13, 42, 8, 27, 3, 16, 9, 182, 0, 241, 172]
abbrev dktX4_fairLineHere_4 : List UInt8 := dkwX4_fairLineHere_4 ++ dktX4_fairLineHere_5
def dkwX4_fairLineHere_3 : List UInt8 := [182, 0, 92, 153, 0, 9, 42, 27, 182, 0, 231, 172, 42, 20, 0, 234, 182, 0, 92, 153, 0, 8, 42]
abbrev dktX4_fairLineHere_3 : List UInt8 := dkwX4_fairLineHere_3 ++ dktX4_fairLineHere_4
def dkwX4_fairLineHere_2 : List UInt8 := [182, 0, 223, 172, 42, 20, 0, 226, 182, 0, 92, 153, 0, 8, 42, 182, 0, 228, 172, 42, 20, 0, 113]
abbrev dktX4_fairLineHere_2 : List UInt8 := dkwX4_fairLineHere_2 ++ dktX4_fairLineHere_3
def dkwX4_fairLineHere_1 : List UInt8 := [154, 0, 10, 42, 7, 27, 182, 0, 102, 172, 42, 20, 0, 125, 182, 0, 92, 153, 0, 9, 42, 27]
abbrev dktX4_fairLineHere_1 : List UInt8 := dkwX4_fairLineHere_1 ++ dktX4_fairLineHere_2
def dkwX4_fairLineHere_0 : List UInt8 := [42, 20, 0, 218, 182, 0, 92, 153, 0, 9, 42, 27, 182, 0, 220, 172, 42, 180, 0, 26, 3, 46]
abbrev dktX4_fairLineHere_0 : List UInt8 := dkwX4_fairLineHere_0 ++ dktX4_fairLineHere_1
theorem dksX4_fairLineHere_0 : cX4_fairLineHere.data.toList.drop 0 = dktX4_fairLineHere_0 := by decide +kernel
theorem dksX4_fairLineHere_1 : cX4_fairLineHere.data.toList.drop 22 = dktX4_fairLineHere_1 := dk_seg dksX4_fairLineHere_0 22 rfl rfl
theorem dksX4_fairLineHere_2 : cX4_fairLineHere.data.toList.drop 44 = dktX4_fairLineHere_2 := dk_seg dksX4_fairLineHere_1 22 rfl rfl
theorem dksX4_fairLineHere_3 : cX4_fairLineHere.data.toList.drop 67 = dktX4_fairLineHere_3 := dk_seg dksX4_fairLineHere_2 23 rfl rfl
theorem dksX4_fairLineHere_4 : cX4_fairLineHere.data.toList.drop 90 = dktX4_fairLineHere_4 := dk_seg dksX4_fairLineHere_3 23 rfl rfl
theorem dksX4_fairLineHere_5 : cX4_fairLineHere.data.toList.drop 114 = dktX4_fairLineHere_5 := dk_seg dksX4_fairLineHere_4 24 rfl rfl
theorem dksX4_fairLineHere_6 : cX4_fairLineHere.data.toList.drop 138 = dktX4_fairLineHere_6 := dk_seg dksX4_fairLineHere_5 24 rfl rfl
theorem dksX4_fairLineHere_7 : cX4_fairLineHere.data.toList.drop 162 = dktX4_fairLineHere_7 := dk_seg dksX4_fairLineHere_6 24 rfl rfl
theorem dX4_fairLineHere_0 : decode cX4_fairLineHere 0 = .ok (.aload_n 0, 1) := dk_42 (dk_at dksX4_fairLineHere_0 0 rfl rfl)
theorem dX4_fairLineHere_1 : decode cX4_fairLineHere 1 = .ok (.ldc2_w 218, 3) := dk_20 0 218 (dk_at dksX4_fairLineHere_0 1 rfl rfl)
theorem dX4_fairLineHere_4 : decode cX4_fairLineHere 4 = .ok (.invokevirtual 92, 3) := dk_182 0 92 (dk_at dksX4_fairLineHere_0 4 rfl rfl)
theorem dX4_fairLineHere_7 : decode cX4_fairLineHere 7 = .ok (.ifCond .eq 9, 3) := dk_153 0 9 (dk_at dksX4_fairLineHere_0 7 rfl rfl)
theorem dX4_fairLineHere_10 : decode cX4_fairLineHere 10 = .ok (.aload_n 0, 1) := dk_42 (dk_at dksX4_fairLineHere_0 10 rfl rfl)
theorem dX4_fairLineHere_11 : decode cX4_fairLineHere 11 = .ok (.iload_n 1, 1) := dk_27 (dk_at dksX4_fairLineHere_0 11 rfl rfl)
theorem dX4_fairLineHere_12 : decode cX4_fairLineHere 12 = .ok (.invokevirtual 220, 3) := dk_182 0 220 (dk_at dksX4_fairLineHere_0 12 rfl rfl)
theorem dX4_fairLineHere_15 : decode cX4_fairLineHere 15 = .ok (.ireturn, 1) := dk_172 (dk_at dksX4_fairLineHere_0 15 rfl rfl)
theorem dX4_fairLineHere_16 : decode cX4_fairLineHere 16 = .ok (.aload_n 0, 1) := dk_42 (dk_at dksX4_fairLineHere_0 16 rfl rfl)
theorem dX4_fairLineHere_17 : decode cX4_fairLineHere 17 = .ok (.getfield 26, 3) := dk_180 0 26 (dk_at dksX4_fairLineHere_0 17 rfl rfl)
theorem dX4_fairLineHere_20 : decode cX4_fairLineHere 20 = .ok (.iconst 0, 1) := dk_3 (dk_at dksX4_fairLineHere_0 20 rfl rfl)
theorem dX4_fairLineHere_21 : decode cX4_fairLineHere 21 = .ok (.iaload, 1) := dk_46 (dk_at dksX4_fairLineHere_0 21 rfl rfl)
theorem dX4_fairLineHere_22 : decode cX4_fairLineHere 22 = .ok (.ifCond .ne 10, 3) := dk_154 0 10 (dk_at dksX4_fairLineHere_1 0 rfl rfl)
theorem dX4_fairLineHere_25 : decode cX4_fairLineHere 25 = .ok (.aload_n 0, 1) := dk_42 (dk_at dksX4_fairLineHere_1 3 rfl rfl)
theorem dX4_fairLineHere_26 : decode cX4_fairLineHere 26 = .ok (.iconst 4, 1) := dk_7 (dk_at dksX4_fairLineHere_1 4 rfl rfl)
theorem dX4_fairLineHere_27 : decode cX4_fairLineHere 27 = .ok (.iload_n 1, 1) := dk_27 (dk_at dksX4_fairLineHere_1 5 rfl rfl)
theorem dX4_fairLineHere_28 : decode cX4_fairLineHere 28 = .ok (.invokevirtual 102, 3) := dk_182 0 102 (dk_at dksX4_fairLineHere_1 6 rfl rfl)
theorem dX4_fairLineHere_31 : decode cX4_fairLineHere 31 = .ok (.ireturn, 1) := dk_172 (dk_at dksX4_fairLineHere_1 9 rfl rfl)
theorem dX4_fairLineHere_32 : decode cX4_fairLineHere 32 = .ok (.aload_n 0, 1) := dk_42 (dk_at dksX4_fairLineHere_1 10 rfl rfl)
theorem dX4_fairLineHere_33 : decode cX4_fairLineHere 33 = .ok (.ldc2_w 125, 3) := dk_20 0 125 (dk_at dksX4_fairLineHere_1 11 rfl rfl)
theorem dX4_fairLineHere_36 : decode cX4_fairLineHere 36 = .ok (.invokevirtual 92, 3) := dk_182 0 92 (dk_at dksX4_fairLineHere_1 14 rfl rfl)
theorem dX4_fairLineHere_39 : decode cX4_fairLineHere 39 = .ok (.ifCond .eq 9, 3) := dk_153 0 9 (dk_at dksX4_fairLineHere_1 17 rfl rfl)
theorem dX4_fairLineHere_42 : decode cX4_fairLineHere 42 = .ok (.aload_n 0, 1) := dk_42 (dk_at dksX4_fairLineHere_1 20 rfl rfl)
theorem dX4_fairLineHere_43 : decode cX4_fairLineHere 43 = .ok (.iload_n 1, 1) := dk_27 (dk_at dksX4_fairLineHere_1 21 rfl rfl)
theorem dX4_fairLineHere_44 : decode cX4_fairLineHere 44 = .ok (.invokevirtual 223, 3) := dk_182 0 223 (dk_at dksX4_fairLineHere_2 0 rfl rfl)
theorem dX4_fairLineHere_47 : decode cX4_fairLineHere 47 = .ok (.ireturn, 1) := dk_172 (dk_at dksX4_fairLineHere_2 3 rfl rfl)
theorem dX4_fairLineHere_48 : decode cX4_fairLineHere 48 = .ok (.aload_n 0, 1) := dk_42 (dk_at dksX4_fairLineHere_2 4 rfl rfl)
theorem dX4_fairLineHere_49 : decode cX4_fairLineHere 49 = .ok (.ldc2_w 226, 3) := dk_20 0 226 (dk_at dksX4_fairLineHere_2 5 rfl rfl)
theorem dX4_fairLineHere_52 : decode cX4_fairLineHere 52 = .ok (.invokevirtual 92, 3) := dk_182 0 92 (dk_at dksX4_fairLineHere_2 8 rfl rfl)
theorem dX4_fairLineHere_55 : decode cX4_fairLineHere 55 = .ok (.ifCond .eq 8, 3) := dk_153 0 8 (dk_at dksX4_fairLineHere_2 11 rfl rfl)
theorem dX4_fairLineHere_58 : decode cX4_fairLineHere 58 = .ok (.aload_n 0, 1) := dk_42 (dk_at dksX4_fairLineHere_2 14 rfl rfl)
theorem dX4_fairLineHere_59 : decode cX4_fairLineHere 59 = .ok (.invokevirtual 228, 3) := dk_182 0 228 (dk_at dksX4_fairLineHere_2 15 rfl rfl)
theorem dX4_fairLineHere_62 : decode cX4_fairLineHere 62 = .ok (.ireturn, 1) := dk_172 (dk_at dksX4_fairLineHere_2 18 rfl rfl)
theorem dX4_fairLineHere_63 : decode cX4_fairLineHere 63 = .ok (.aload_n 0, 1) := dk_42 (dk_at dksX4_fairLineHere_2 19 rfl rfl)
theorem dX4_fairLineHere_64 : decode cX4_fairLineHere 64 = .ok (.ldc2_w 113, 3) := dk_20 0 113 (dk_at dksX4_fairLineHere_2 20 rfl rfl)
theorem dX4_fairLineHere_67 : decode cX4_fairLineHere 67 = .ok (.invokevirtual 92, 3) := dk_182 0 92 (dk_at dksX4_fairLineHere_3 0 rfl rfl)
theorem dX4_fairLineHere_70 : decode cX4_fairLineHere 70 = .ok (.ifCond .eq 9, 3) := dk_153 0 9 (dk_at dksX4_fairLineHere_3 3 rfl rfl)
theorem dX4_fairLineHere_73 : decode cX4_fairLineHere 73 = .ok (.aload_n 0, 1) := dk_42 (dk_at dksX4_fairLineHere_3 6 rfl rfl)
theorem dX4_fairLineHere_74 : decode cX4_fairLineHere 74 = .ok (.iload_n 1, 1) := dk_27 (dk_at dksX4_fairLineHere_3 7 rfl rfl)
theorem dX4_fairLineHere_75 : decode cX4_fairLineHere 75 = .ok (.invokevirtual 231, 3) := dk_182 0 231 (dk_at dksX4_fairLineHere_3 8 rfl rfl)
theorem dX4_fairLineHere_78 : decode cX4_fairLineHere 78 = .ok (.ireturn, 1) := dk_172 (dk_at dksX4_fairLineHere_3 11 rfl rfl)
theorem dX4_fairLineHere_79 : decode cX4_fairLineHere 79 = .ok (.aload_n 0, 1) := dk_42 (dk_at dksX4_fairLineHere_3 12 rfl rfl)
theorem dX4_fairLineHere_80 : decode cX4_fairLineHere 80 = .ok (.ldc2_w 234, 3) := dk_20 0 234 (dk_at dksX4_fairLineHere_3 13 rfl rfl)
theorem dX4_fairLineHere_83 : decode cX4_fairLineHere 83 = .ok (.invokevirtual 92, 3) := dk_182 0 92 (dk_at dksX4_fairLineHere_3 16 rfl rfl)
theorem dX4_fairLineHere_86 : decode cX4_fairLineHere 86 = .ok (.ifCond .eq 8, 3) := dk_153 0 8 (dk_at dksX4_fairLineHere_3 19 rfl rfl)
theorem dX4_fairLineHere_89 : decode cX4_fairLineHere 89 = .ok (.aload_n 0, 1) := dk_42 (dk_at dksX4_fairLineHere_3 22 rfl rfl)
theorem dX4_fairLineHere_90 : decode cX4_fairLineHere 90 = .ok (.invokevirtual 236, 3) := dk_182 0 236 (dk_at dksX4_fairLineHere_4 0 rfl rfl)
theorem dX4_fairLineHere_93 : decode cX4_fairLineHere 93 = .ok (.ireturn, 1) := dk_172 (dk_at dksX4_fairLineHere_4 3 rfl rfl)
theorem dX4_fairLineHere_94 : decode cX4_fairLineHere 94 = .ok (.aload_n 0, 1) := dk_42 (dk_at dksX4_fairLineHere_4 4 rfl rfl)
theorem dX4_fairLineHere_95 : decode cX4_fairLineHere 95 = .ok (.ldc2_w 239, 3) := dk_20 0 239 (dk_at dksX4_fairLineHere_4 5 rfl rfl)
theorem dX4_fairLineHere_98 : decode cX4_fairLineHere 98 = .ok (.invokevirtual 92, 3) := dk_182 0 92 (dk_at dksX4_fairLineHere_4 8 rfl rfl)
theorem dX4_fairLineHere_101 : decode cX4_fairLineHere 101 = .ok (.ifCond .eq 13, 3) := dk_153 0 13 (dk_at dksX4_fairLineHere_4 11 rfl rfl)
theorem dX4_fairLineHere_104 : decode cX4_fairLineHere 104 = .ok (.aload_n 0, 1) := dk_42 (dk_at dksX4_fairLineHere_4 14 rfl rfl)
theorem dX4_fairLineHere_105 : decode cX4_fairLineHere 105 = .ok (.iconst 5, 1) := dk_8 (dk_at dksX4_fairLineHere_4 15 rfl rfl)
theorem dX4_fairLineHere_106 : decode cX4_fairLineHere 106 = .ok (.iload_n 1, 1) := dk_27 (dk_at dksX4_fairLineHere_4 16 rfl rfl)
theorem dX4_fairLineHere_107 : decode cX4_fairLineHere 107 = .ok (.iconst 0, 1) := dk_3 (dk_at dksX4_fairLineHere_4 17 rfl rfl)
theorem dX4_fairLineHere_108 : decode cX4_fairLineHere 108 = .ok (.bipush 9, 2) := dk_16 9 (dk_at dksX4_fairLineHere_4 18 rfl rfl)
theorem dX4_fairLineHere_110 : decode cX4_fairLineHere 110 = .ok (.invokevirtual 241, 3) := dk_182 0 241 (dk_at dksX4_fairLineHere_4 20 rfl rfl)
theorem dX4_fairLineHere_113 : decode cX4_fairLineHere 113 = .ok (.ireturn, 1) := dk_172 (dk_at dksX4_fairLineHere_4 23 rfl rfl)
theorem dX4_fairLineHere_114 : decode cX4_fairLineHere 114 = .ok (.aload_n 0, 1) := dk_42 (dk_at dksX4_fairLineHere_5 0 rfl rfl)
theorem dX4_fairLineHere_115 : decode cX4_fairLineHere 115 = .ok (.ldc2_w 245, 3) := dk_20 0 245 (dk_at dksX4_fairLineHere_5 1 rfl rfl)
theorem dX4_fairLineHere_118 : decode cX4_fairLineHere 118 = .ok (.invokevirtual 92, 3) := dk_182 0 92 (dk_at dksX4_fairLineHere_5 4 rfl rfl)
theorem dX4_fairLineHere_121 : decode cX4_fairLineHere 121 = .ok (.ifCond .eq 16, 3) := dk_153 0 16 (dk_at dksX4_fairLineHere_5 7 rfl rfl)
theorem dX4_fairLineHere_124 : decode cX4_fairLineHere 124 = .ok (.aload_n 0, 1) := dk_42 (dk_at dksX4_fairLineHere_5 10 rfl rfl)
theorem dX4_fairLineHere_125 : decode cX4_fairLineHere 125 = .ok (.bipush 8, 2) := dk_16 8 (dk_at dksX4_fairLineHere_5 11 rfl rfl)
theorem dX4_fairLineHere_127 : decode cX4_fairLineHere 127 = .ok (.iload_n 1, 1) := dk_27 (dk_at dksX4_fairLineHere_5 13 rfl rfl)
theorem dX4_fairLineHere_128 : decode cX4_fairLineHere 128 = .ok (.iconst 0, 1) := dk_3 (dk_at dksX4_fairLineHere_5 14 rfl rfl)
theorem dX4_fairLineHere_129 : decode cX4_fairLineHere 129 = .ok (.bipush 7, 2) := dk_16 7 (dk_at dksX4_fairLineHere_5 15 rfl rfl)
theorem dX4_fairLineHere_131 : decode cX4_fairLineHere 131 = .ok (.invokevirtual 241, 3) := dk_182 0 241 (dk_at dksX4_fairLineHere_5 17 rfl rfl)
theorem dX4_fairLineHere_134 : decode cX4_fairLineHere 134 = .ok (.goto 33, 3) := dk_167 0 33 (dk_at dksX4_fairLineHere_5 20 rfl rfl)
theorem dX4_fairLineHere_137 : decode cX4_fairLineHere 137 = .ok (.aload_n 0, 1) := dk_42 (dk_at dksX4_fairLineHere_5 23 rfl rfl)
theorem dX4_fairLineHere_138 : decode cX4_fairLineHere 138 = .ok (.bipush 6, 2) := dk_16 6 (dk_at dksX4_fairLineHere_6 0 rfl rfl)
theorem dX4_fairLineHere_140 : decode cX4_fairLineHere 140 = .ok (.iload_n 1, 1) := dk_27 (dk_at dksX4_fairLineHere_6 2 rfl rfl)
theorem dX4_fairLineHere_141 : decode cX4_fairLineHere 141 = .ok (.iconst 1, 1) := dk_4 (dk_at dksX4_fairLineHere_6 3 rfl rfl)
theorem dX4_fairLineHere_142 : decode cX4_fairLineHere 142 = .ok (.bipush 24, 2) := dk_16 24 (dk_at dksX4_fairLineHere_6 4 rfl rfl)
theorem dX4_fairLineHere_144 : decode cX4_fairLineHere 144 = .ok (.invokevirtual 241, 3) := dk_182 0 241 (dk_at dksX4_fairLineHere_6 6 rfl rfl)
theorem dX4_fairLineHere_147 : decode cX4_fairLineHere 147 = .ok (.ifCond .eq 19, 3) := dk_153 0 19 (dk_at dksX4_fairLineHere_6 9 rfl rfl)
theorem dX4_fairLineHere_150 : decode cX4_fairLineHere 150 = .ok (.aload_n 0, 1) := dk_42 (dk_at dksX4_fairLineHere_6 12 rfl rfl)
theorem dX4_fairLineHere_151 : decode cX4_fairLineHere 151 = .ok (.bipush 7, 2) := dk_16 7 (dk_at dksX4_fairLineHere_6 13 rfl rfl)
theorem dX4_fairLineHere_153 : decode cX4_fairLineHere 153 = .ok (.iconst 1, 1) := dk_4 (dk_at dksX4_fairLineHere_6 15 rfl rfl)
theorem dX4_fairLineHere_154 : decode cX4_fairLineHere 154 = .ok (.bipush 99, 2) := dk_16 99 (dk_at dksX4_fairLineHere_6 16 rfl rfl)
theorem dX4_fairLineHere_156 : decode cX4_fairLineHere 156 = .ok (.invokevirtual 211, 3) := dk_182 0 211 (dk_at dksX4_fairLineHere_6 18 rfl rfl)
theorem dX4_fairLineHere_159 : decode cX4_fairLineHere 159 = .ok (.ifCond .eq 7, 3) := dk_153 0 7 (dk_at dksX4_fairLineHere_6 21 rfl rfl)
theorem dX4_fairLineHere_162 : decode cX4_fairLineHere 162 = .ok (.iconst 1, 1) := dk_4 (dk_at dksX4_fairLineHere_7 0 rfl rfl)
theorem dX4_fairLineHere_163 : decode cX4_fairLineHere 163 = .ok (.goto 4, 3) := dk_167 0 4 (dk_at dksX4_fairLineHere_7 1 rfl rfl)
theorem dX4_fairLineHere_166 : decode cX4_fairLineHere 166 = .ok (.iconst 0, 1) := dk_3 (dk_at dksX4_fairLineHere_7 4 rfl rfl)
theorem dX4_fairLineHere_167 : decode cX4_fairLineHere 167 = .ok (.ireturn, 1) := dk_172 (dk_at dksX4_fairLineHere_7 5 rfl rfl)
abbrev cX4_areStallsHere : ByteArray := prog_20_method_32_code
def yX4_areStallsHere : MethodName := ⟨RX4, "areStallsHere", "(I)Z"⟩
def dkwX4_areStallsHere_2 : List UInt8 := [172]
abbrev dktX4_areStallsHere_2 : List UInt8 := dkwX4_areStallsHere_2 ++ []
def dkwX4_areStallsHere_1 : List UInt8 := [16, 8, 182, 0, 211, 153, 0, 18, 42, 7, 3, 16, 7, 182, 0, 211, 153, 0, 7, 4, 167, 0, 4, 3]
abbrev dktX4_areStallsHere_1 : List UInt8 := dkwX4_areStallsHere_1 ++ dktX4_areStallsHere_2
def dkwX4_areStallsHere_0 : List UInt8 := [42, 180, 0, 26, 3, 46, 158, 0, 10, 42, 7, 27, 182, 0, 102, 172, 42, 182, 0, 96, 42, 3, 5]
abbrev dktX4_areStallsHere_0 : List UInt8 := dkwX4_areStallsHere_0 ++ dktX4_areStallsHere_1
theorem dksX4_areStallsHere_0 : cX4_areStallsHere.data.toList.drop 0 = dktX4_areStallsHere_0 := by decide +kernel
theorem dksX4_areStallsHere_1 : cX4_areStallsHere.data.toList.drop 23 = dktX4_areStallsHere_1 := dk_seg dksX4_areStallsHere_0 23 rfl rfl
theorem dksX4_areStallsHere_2 : cX4_areStallsHere.data.toList.drop 47 = dktX4_areStallsHere_2 := dk_seg dksX4_areStallsHere_1 24 rfl rfl
theorem dX4_areStallsHere_0 : decode cX4_areStallsHere 0 = .ok (.aload_n 0, 1) := dk_42 (dk_at dksX4_areStallsHere_0 0 rfl rfl)
theorem dX4_areStallsHere_1 : decode cX4_areStallsHere 1 = .ok (.getfield 26, 3) := dk_180 0 26 (dk_at dksX4_areStallsHere_0 1 rfl rfl)
theorem dX4_areStallsHere_4 : decode cX4_areStallsHere 4 = .ok (.iconst 0, 1) := dk_3 (dk_at dksX4_areStallsHere_0 4 rfl rfl)
theorem dX4_areStallsHere_5 : decode cX4_areStallsHere 5 = .ok (.iaload, 1) := dk_46 (dk_at dksX4_areStallsHere_0 5 rfl rfl)
theorem dX4_areStallsHere_6 : decode cX4_areStallsHere 6 = .ok (.ifCond .le 10, 3) := dk_158 0 10 (dk_at dksX4_areStallsHere_0 6 rfl rfl)
theorem dX4_areStallsHere_9 : decode cX4_areStallsHere 9 = .ok (.aload_n 0, 1) := dk_42 (dk_at dksX4_areStallsHere_0 9 rfl rfl)
theorem dX4_areStallsHere_10 : decode cX4_areStallsHere 10 = .ok (.iconst 4, 1) := dk_7 (dk_at dksX4_areStallsHere_0 10 rfl rfl)
theorem dX4_areStallsHere_11 : decode cX4_areStallsHere 11 = .ok (.iload_n 1, 1) := dk_27 (dk_at dksX4_areStallsHere_0 11 rfl rfl)
theorem dX4_areStallsHere_12 : decode cX4_areStallsHere 12 = .ok (.invokevirtual 102, 3) := dk_182 0 102 (dk_at dksX4_areStallsHere_0 12 rfl rfl)
theorem dX4_areStallsHere_15 : decode cX4_areStallsHere 15 = .ok (.ireturn, 1) := dk_172 (dk_at dksX4_areStallsHere_0 15 rfl rfl)
theorem dX4_areStallsHere_16 : decode cX4_areStallsHere 16 = .ok (.aload_n 0, 1) := dk_42 (dk_at dksX4_areStallsHere_0 16 rfl rfl)
theorem dX4_areStallsHere_17 : decode cX4_areStallsHere 17 = .ok (.invokevirtual 96, 3) := dk_182 0 96 (dk_at dksX4_areStallsHere_0 17 rfl rfl)
theorem dX4_areStallsHere_20 : decode cX4_areStallsHere 20 = .ok (.aload_n 0, 1) := dk_42 (dk_at dksX4_areStallsHere_0 20 rfl rfl)
theorem dX4_areStallsHere_21 : decode cX4_areStallsHere 21 = .ok (.iconst 0, 1) := dk_3 (dk_at dksX4_areStallsHere_0 21 rfl rfl)
theorem dX4_areStallsHere_22 : decode cX4_areStallsHere 22 = .ok (.iconst 2, 1) := dk_5 (dk_at dksX4_areStallsHere_0 22 rfl rfl)
theorem dX4_areStallsHere_23 : decode cX4_areStallsHere 23 = .ok (.bipush 8, 2) := dk_16 8 (dk_at dksX4_areStallsHere_1 0 rfl rfl)
theorem dX4_areStallsHere_25 : decode cX4_areStallsHere 25 = .ok (.invokevirtual 211, 3) := dk_182 0 211 (dk_at dksX4_areStallsHere_1 2 rfl rfl)
theorem dX4_areStallsHere_28 : decode cX4_areStallsHere 28 = .ok (.ifCond .eq 18, 3) := dk_153 0 18 (dk_at dksX4_areStallsHere_1 5 rfl rfl)
theorem dX4_areStallsHere_31 : decode cX4_areStallsHere 31 = .ok (.aload_n 0, 1) := dk_42 (dk_at dksX4_areStallsHere_1 8 rfl rfl)
theorem dX4_areStallsHere_32 : decode cX4_areStallsHere 32 = .ok (.iconst 4, 1) := dk_7 (dk_at dksX4_areStallsHere_1 9 rfl rfl)
theorem dX4_areStallsHere_33 : decode cX4_areStallsHere 33 = .ok (.iconst 0, 1) := dk_3 (dk_at dksX4_areStallsHere_1 10 rfl rfl)
theorem dX4_areStallsHere_34 : decode cX4_areStallsHere 34 = .ok (.bipush 7, 2) := dk_16 7 (dk_at dksX4_areStallsHere_1 11 rfl rfl)
theorem dX4_areStallsHere_36 : decode cX4_areStallsHere 36 = .ok (.invokevirtual 211, 3) := dk_182 0 211 (dk_at dksX4_areStallsHere_1 13 rfl rfl)
theorem dX4_areStallsHere_39 : decode cX4_areStallsHere 39 = .ok (.ifCond .eq 7, 3) := dk_153 0 7 (dk_at dksX4_areStallsHere_1 16 rfl rfl)
theorem dX4_areStallsHere_42 : decode cX4_areStallsHere 42 = .ok (.iconst 1, 1) := dk_4 (dk_at dksX4_areStallsHere_1 19 rfl rfl)
theorem dX4_areStallsHere_43 : decode cX4_areStallsHere 43 = .ok (.goto 4, 3) := dk_167 0 4 (dk_at dksX4_areStallsHere_1 20 rfl rfl)
theorem dX4_areStallsHere_46 : decode cX4_areStallsHere 46 = .ok (.iconst 0, 1) := dk_3 (dk_at dksX4_areStallsHere_1 23 rfl rfl)
theorem dX4_areStallsHere_47 : decode cX4_areStallsHere 47 = .ok (.ireturn, 1) := dk_172 (dk_at dksX4_areStallsHere_2 0 rfl rfl)
abbrev cX4_passWord : ByteArray := prog_20_method_13_code
def yX4_passWord : MethodName := ⟨RX4, "passWord", "()V"⟩
def dkwX4_passWord_1 : List UInt8 := [177]
abbrev dktX4_passWord_1 : List UInt8 := dkwX4_passWord_1 ++ []
def dkwX4_passWord_0 : List UInt8 := [42, 42, 180, 0, 81, 182, 0, 88, 153, 0, 16, 42, 89, 180, 0, 81, 4, 96, 181, 0, 81, 167, 255, 235]
abbrev dktX4_passWord_0 : List UInt8 := dkwX4_passWord_0 ++ dktX4_passWord_1
theorem dksX4_passWord_0 : cX4_passWord.data.toList.drop 0 = dktX4_passWord_0 := by decide +kernel
theorem dksX4_passWord_1 : cX4_passWord.data.toList.drop 24 = dktX4_passWord_1 := dk_seg dksX4_passWord_0 24 rfl rfl
theorem dX4_passWord_0 : decode cX4_passWord 0 = .ok (.aload_n 0, 1) := dk_42 (dk_at dksX4_passWord_0 0 rfl rfl)
theorem dX4_passWord_1 : decode cX4_passWord 1 = .ok (.aload_n 0, 1) := dk_42 (dk_at dksX4_passWord_0 1 rfl rfl)
theorem dX4_passWord_2 : decode cX4_passWord 2 = .ok (.getfield 81, 3) := dk_180 0 81 (dk_at dksX4_passWord_0 2 rfl rfl)
theorem dX4_passWord_5 : decode cX4_passWord 5 = .ok (.invokevirtual 88, 3) := dk_182 0 88 (dk_at dksX4_passWord_0 5 rfl rfl)
theorem dX4_passWord_8 : decode cX4_passWord 8 = .ok (.ifCond .eq 16, 3) := dk_153 0 16 (dk_at dksX4_passWord_0 8 rfl rfl)
theorem dX4_passWord_11 : decode cX4_passWord 11 = .ok (.aload_n 0, 1) := dk_42 (dk_at dksX4_passWord_0 11 rfl rfl)
theorem dX4_passWord_12 : decode cX4_passWord 12 = .ok (.dup, 1) := dk_89 (dk_at dksX4_passWord_0 12 rfl rfl)
theorem dX4_passWord_13 : decode cX4_passWord 13 = .ok (.getfield 81, 3) := dk_180 0 81 (dk_at dksX4_passWord_0 13 rfl rfl)
theorem dX4_passWord_16 : decode cX4_passWord 16 = .ok (.iconst 1, 1) := dk_4 (dk_at dksX4_passWord_0 16 rfl rfl)
theorem dX4_passWord_17 : decode cX4_passWord 17 = .ok (.iadd, 1) := dk_96 (dk_at dksX4_passWord_0 17 rfl rfl)
theorem dX4_passWord_18 : decode cX4_passWord 18 = .ok (.putfield 81, 3) := dk_181 0 81 (dk_at dksX4_passWord_0 18 rfl rfl)
theorem dX4_passWord_21 : decode cX4_passWord 21 = .ok (.goto (-21), 3) := dk_167 255 235 (dk_at dksX4_passWord_0 21 rfl rfl)
theorem dX4_passWord_24 : decode cX4_passWord 24 = .ok (.return_, 1) := dk_177 (dk_at dksX4_passWord_1 0 rfl rfl)
abbrev cX4_cellHere : ByteArray := prog_20_method_31_code
def yX4_cellHere : MethodName := ⟨RX4, "cellHere", "(III)Z"⟩
def dkwX4_cellHere_0 : List UInt8 := [42, 28, 29, 182, 0, 160, 154, 0, 5, 3, 172, 42, 180, 0, 26, 27, 42, 180, 0, 106, 79, 4, 172]
abbrev dktX4_cellHere_0 : List UInt8 := dkwX4_cellHere_0 ++ []
theorem dksX4_cellHere_0 : cX4_cellHere.data.toList.drop 0 = dktX4_cellHere_0 := by decide +kernel
theorem dX4_cellHere_0 : decode cX4_cellHere 0 = .ok (.aload_n 0, 1) := dk_42 (dk_at dksX4_cellHere_0 0 rfl rfl)
theorem dX4_cellHere_1 : decode cX4_cellHere 1 = .ok (.iload_n 2, 1) := dk_28 (dk_at dksX4_cellHere_0 1 rfl rfl)
theorem dX4_cellHere_2 : decode cX4_cellHere 2 = .ok (.iload_n 3, 1) := dk_29 (dk_at dksX4_cellHere_0 2 rfl rfl)
theorem dX4_cellHere_3 : decode cX4_cellHere 3 = .ok (.invokevirtual 160, 3) := dk_182 0 160 (dk_at dksX4_cellHere_0 3 rfl rfl)
theorem dX4_cellHere_6 : decode cX4_cellHere 6 = .ok (.ifCond .ne 5, 3) := dk_154 0 5 (dk_at dksX4_cellHere_0 6 rfl rfl)
theorem dX4_cellHere_9 : decode cX4_cellHere 9 = .ok (.iconst 0, 1) := dk_3 (dk_at dksX4_cellHere_0 9 rfl rfl)
theorem dX4_cellHere_10 : decode cX4_cellHere 10 = .ok (.ireturn, 1) := dk_172 (dk_at dksX4_cellHere_0 10 rfl rfl)
theorem dX4_cellHere_11 : decode cX4_cellHere 11 = .ok (.aload_n 0, 1) := dk_42 (dk_at dksX4_cellHere_0 11 rfl rfl)
theorem dX4_cellHere_12 : decode cX4_cellHere 12 = .ok (.getfield 26, 3) := dk_180 0 26 (dk_at dksX4_cellHere_0 12 rfl rfl)
theorem dX4_cellHere_15 : decode cX4_cellHere 15 = .ok (.iload_n 1, 1) := dk_27 (dk_at dksX4_cellHere_0 15 rfl rfl)
theorem dX4_cellHere_16 : decode cX4_cellHere 16 = .ok (.aload_n 0, 1) := dk_42 (dk_at dksX4_cellHere_0 16 rfl rfl)
theorem dX4_cellHere_17 : decode cX4_cellHere 17 = .ok (.getfield 106, 3) := dk_180 0 106 (dk_at dksX4_cellHere_0 17 rfl rfl)
theorem dX4_cellHere_20 : decode cX4_cellHere 20 = .ok (.iastore, 1) := dk_79 (dk_at dksX4_cellHere_0 20 rfl rfl)
theorem dX4_cellHere_21 : decode cX4_cellHere 21 = .ok (.iconst 1, 1) := dk_4 (dk_at dksX4_cellHere_0 21 rfl rfl)
theorem dX4_cellHere_22 : decode cX4_cellHere 22 = .ok (.ireturn, 1) := dk_172 (dk_at dksX4_cellHere_0 22 rfl rfl)
abbrev cX4_numberHere : ByteArray := prog_20_method_15_code
def yX4_numberHere : MethodName := ⟨RX4, "numberHere", "(II)Z"⟩
def dkwX4_numberHere_5 : List UInt8 := [4, 29, 182, 0, 102, 153, 0, 7, 4, 167, 0, 4, 3, 172]
abbrev dktX4_numberHere_5 : List UInt8 := dkwX4_numberHere_5 ++ []
def dkwX4_numberHere_4 : List UInt8 := [42, 180, 0, 81, 29, 100, 8, 163, 0, 16, 21, 4, 133, 27, 133, 28, 133, 184, 0, 109, 154, 0, 12, 42]
abbrev dktX4_numberHere_4 : List UInt8 := dkwX4_numberHere_4 ++ dktX4_numberHere_5
def dkwX4_numberHere_3 : List UInt8 := [16, 48, 100, 54, 4, 42, 89, 180, 0, 81, 4, 96, 181, 0, 81, 167, 255, 205, 42, 21, 4, 181, 0, 106]
abbrev dktX4_numberHere_3 : List UInt8 := dkwX4_numberHere_3 ++ dktX4_numberHere_4
def dkwX4_numberHere_2 : List UInt8 := [180, 0, 81, 29, 100, 8, 162, 0, 23, 16, 10, 21, 4, 104, 42, 180, 0, 7, 42, 180, 0, 81, 51, 96]
abbrev dktX4_numberHere_2 : List UInt8 := dkwX4_numberHere_2 ++ dktX4_numberHere_3
def dkwX4_numberHere_1 : List UInt8 := [182, 0, 102, 172, 42, 180, 0, 81, 62, 3, 54, 4, 42, 42, 180, 0, 81, 182, 0, 99, 153, 0, 46, 42]
abbrev dktX4_numberHere_1 : List UInt8 := dkwX4_numberHere_1 ++ dktX4_numberHere_2
def dkwX4_numberHere_0 : List UInt8 := [42, 182, 0, 84, 87, 42, 42, 180, 0, 81, 182, 0, 99, 154, 0, 13, 42, 3, 42, 180, 0, 81]
abbrev dktX4_numberHere_0 : List UInt8 := dkwX4_numberHere_0 ++ dktX4_numberHere_1
theorem dksX4_numberHere_0 : cX4_numberHere.data.toList.drop 0 = dktX4_numberHere_0 := by decide +kernel
theorem dksX4_numberHere_1 : cX4_numberHere.data.toList.drop 22 = dktX4_numberHere_1 := dk_seg dksX4_numberHere_0 22 rfl rfl
theorem dksX4_numberHere_2 : cX4_numberHere.data.toList.drop 46 = dktX4_numberHere_2 := dk_seg dksX4_numberHere_1 24 rfl rfl
theorem dksX4_numberHere_3 : cX4_numberHere.data.toList.drop 70 = dktX4_numberHere_3 := dk_seg dksX4_numberHere_2 24 rfl rfl
theorem dksX4_numberHere_4 : cX4_numberHere.data.toList.drop 94 = dktX4_numberHere_4 := dk_seg dksX4_numberHere_3 24 rfl rfl
theorem dksX4_numberHere_5 : cX4_numberHere.data.toList.drop 118 = dktX4_numberHere_5 := dk_seg dksX4_numberHere_4 24 rfl rfl
theorem dX4_numberHere_0 : decode cX4_numberHere 0 = .ok (.aload_n 0, 1) := dk_42 (dk_at dksX4_numberHere_0 0 rfl rfl)
theorem dX4_numberHere_1 : decode cX4_numberHere 1 = .ok (.invokevirtual 84, 3) := dk_182 0 84 (dk_at dksX4_numberHere_0 1 rfl rfl)
theorem dX4_numberHere_4 : decode cX4_numberHere 4 = .ok (.pop, 1) := dk_87 (dk_at dksX4_numberHere_0 4 rfl rfl)
theorem dX4_numberHere_5 : decode cX4_numberHere 5 = .ok (.aload_n 0, 1) := dk_42 (dk_at dksX4_numberHere_0 5 rfl rfl)
theorem dX4_numberHere_6 : decode cX4_numberHere 6 = .ok (.aload_n 0, 1) := dk_42 (dk_at dksX4_numberHere_0 6 rfl rfl)
theorem dX4_numberHere_7 : decode cX4_numberHere 7 = .ok (.getfield 81, 3) := dk_180 0 81 (dk_at dksX4_numberHere_0 7 rfl rfl)
theorem dX4_numberHere_10 : decode cX4_numberHere 10 = .ok (.invokevirtual 99, 3) := dk_182 0 99 (dk_at dksX4_numberHere_0 10 rfl rfl)
theorem dX4_numberHere_13 : decode cX4_numberHere 13 = .ok (.ifCond .ne 13, 3) := dk_154 0 13 (dk_at dksX4_numberHere_0 13 rfl rfl)
theorem dX4_numberHere_16 : decode cX4_numberHere 16 = .ok (.aload_n 0, 1) := dk_42 (dk_at dksX4_numberHere_0 16 rfl rfl)
theorem dX4_numberHere_17 : decode cX4_numberHere 17 = .ok (.iconst 0, 1) := dk_3 (dk_at dksX4_numberHere_0 17 rfl rfl)
theorem dX4_numberHere_18 : decode cX4_numberHere 18 = .ok (.aload_n 0, 1) := dk_42 (dk_at dksX4_numberHere_0 18 rfl rfl)
theorem dX4_numberHere_19 : decode cX4_numberHere 19 = .ok (.getfield 81, 3) := dk_180 0 81 (dk_at dksX4_numberHere_0 19 rfl rfl)
theorem dX4_numberHere_22 : decode cX4_numberHere 22 = .ok (.invokevirtual 102, 3) := dk_182 0 102 (dk_at dksX4_numberHere_1 0 rfl rfl)
theorem dX4_numberHere_25 : decode cX4_numberHere 25 = .ok (.ireturn, 1) := dk_172 (dk_at dksX4_numberHere_1 3 rfl rfl)
theorem dX4_numberHere_26 : decode cX4_numberHere 26 = .ok (.aload_n 0, 1) := dk_42 (dk_at dksX4_numberHere_1 4 rfl rfl)
theorem dX4_numberHere_27 : decode cX4_numberHere 27 = .ok (.getfield 81, 3) := dk_180 0 81 (dk_at dksX4_numberHere_1 5 rfl rfl)
theorem dX4_numberHere_30 : decode cX4_numberHere 30 = .ok (.istore_n 3, 1) := dk_62 (dk_at dksX4_numberHere_1 8 rfl rfl)
theorem dX4_numberHere_31 : decode cX4_numberHere 31 = .ok (.iconst 0, 1) := dk_3 (dk_at dksX4_numberHere_1 9 rfl rfl)
theorem dX4_numberHere_32 : decode cX4_numberHere 32 = .ok (.istore 4, 2) := dk_54 4 (dk_at dksX4_numberHere_1 10 rfl rfl)
theorem dX4_numberHere_34 : decode cX4_numberHere 34 = .ok (.aload_n 0, 1) := dk_42 (dk_at dksX4_numberHere_1 12 rfl rfl)
theorem dX4_numberHere_35 : decode cX4_numberHere 35 = .ok (.aload_n 0, 1) := dk_42 (dk_at dksX4_numberHere_1 13 rfl rfl)
theorem dX4_numberHere_36 : decode cX4_numberHere 36 = .ok (.getfield 81, 3) := dk_180 0 81 (dk_at dksX4_numberHere_1 14 rfl rfl)
theorem dX4_numberHere_39 : decode cX4_numberHere 39 = .ok (.invokevirtual 99, 3) := dk_182 0 99 (dk_at dksX4_numberHere_1 17 rfl rfl)
theorem dX4_numberHere_42 : decode cX4_numberHere 42 = .ok (.ifCond .eq 46, 3) := dk_153 0 46 (dk_at dksX4_numberHere_1 20 rfl rfl)
theorem dX4_numberHere_45 : decode cX4_numberHere 45 = .ok (.aload_n 0, 1) := dk_42 (dk_at dksX4_numberHere_1 23 rfl rfl)
theorem dX4_numberHere_46 : decode cX4_numberHere 46 = .ok (.getfield 81, 3) := dk_180 0 81 (dk_at dksX4_numberHere_2 0 rfl rfl)
theorem dX4_numberHere_49 : decode cX4_numberHere 49 = .ok (.iload_n 3, 1) := dk_29 (dk_at dksX4_numberHere_2 3 rfl rfl)
theorem dX4_numberHere_50 : decode cX4_numberHere 50 = .ok (.isub, 1) := dk_100 (dk_at dksX4_numberHere_2 4 rfl rfl)
theorem dX4_numberHere_51 : decode cX4_numberHere 51 = .ok (.iconst 5, 1) := dk_8 (dk_at dksX4_numberHere_2 5 rfl rfl)
theorem dX4_numberHere_52 : decode cX4_numberHere 52 = .ok (.if_icmp .ge 23, 3) := dk_162 0 23 (dk_at dksX4_numberHere_2 6 rfl rfl)
theorem dX4_numberHere_55 : decode cX4_numberHere 55 = .ok (.bipush 10, 2) := dk_16 10 (dk_at dksX4_numberHere_2 9 rfl rfl)
theorem dX4_numberHere_57 : decode cX4_numberHere 57 = .ok (.iload 4, 2) := dk_21 4 (dk_at dksX4_numberHere_2 11 rfl rfl)
theorem dX4_numberHere_59 : decode cX4_numberHere 59 = .ok (.imul, 1) := dk_104 (dk_at dksX4_numberHere_2 13 rfl rfl)
theorem dX4_numberHere_60 : decode cX4_numberHere 60 = .ok (.aload_n 0, 1) := dk_42 (dk_at dksX4_numberHere_2 14 rfl rfl)
theorem dX4_numberHere_61 : decode cX4_numberHere 61 = .ok (.getfield 7, 3) := dk_180 0 7 (dk_at dksX4_numberHere_2 15 rfl rfl)
theorem dX4_numberHere_64 : decode cX4_numberHere 64 = .ok (.aload_n 0, 1) := dk_42 (dk_at dksX4_numberHere_2 18 rfl rfl)
theorem dX4_numberHere_65 : decode cX4_numberHere 65 = .ok (.getfield 81, 3) := dk_180 0 81 (dk_at dksX4_numberHere_2 19 rfl rfl)
theorem dX4_numberHere_68 : decode cX4_numberHere 68 = .ok (.baload, 1) := dk_51 (dk_at dksX4_numberHere_2 22 rfl rfl)
theorem dX4_numberHere_69 : decode cX4_numberHere 69 = .ok (.iadd, 1) := dk_96 (dk_at dksX4_numberHere_2 23 rfl rfl)
theorem dX4_numberHere_70 : decode cX4_numberHere 70 = .ok (.bipush 48, 2) := dk_16 48 (dk_at dksX4_numberHere_3 0 rfl rfl)
theorem dX4_numberHere_72 : decode cX4_numberHere 72 = .ok (.isub, 1) := dk_100 (dk_at dksX4_numberHere_3 2 rfl rfl)
theorem dX4_numberHere_73 : decode cX4_numberHere 73 = .ok (.istore 4, 2) := dk_54 4 (dk_at dksX4_numberHere_3 3 rfl rfl)
theorem dX4_numberHere_75 : decode cX4_numberHere 75 = .ok (.aload_n 0, 1) := dk_42 (dk_at dksX4_numberHere_3 5 rfl rfl)
theorem dX4_numberHere_76 : decode cX4_numberHere 76 = .ok (.dup, 1) := dk_89 (dk_at dksX4_numberHere_3 6 rfl rfl)
theorem dX4_numberHere_77 : decode cX4_numberHere 77 = .ok (.getfield 81, 3) := dk_180 0 81 (dk_at dksX4_numberHere_3 7 rfl rfl)
theorem dX4_numberHere_80 : decode cX4_numberHere 80 = .ok (.iconst 1, 1) := dk_4 (dk_at dksX4_numberHere_3 10 rfl rfl)
theorem dX4_numberHere_81 : decode cX4_numberHere 81 = .ok (.iadd, 1) := dk_96 (dk_at dksX4_numberHere_3 11 rfl rfl)
theorem dX4_numberHere_82 : decode cX4_numberHere 82 = .ok (.putfield 81, 3) := dk_181 0 81 (dk_at dksX4_numberHere_3 12 rfl rfl)
theorem dX4_numberHere_85 : decode cX4_numberHere 85 = .ok (.goto (-51), 3) := dk_167 255 205 (dk_at dksX4_numberHere_3 15 rfl rfl)
theorem dX4_numberHere_88 : decode cX4_numberHere 88 = .ok (.aload_n 0, 1) := dk_42 (dk_at dksX4_numberHere_3 18 rfl rfl)
theorem dX4_numberHere_89 : decode cX4_numberHere 89 = .ok (.iload 4, 2) := dk_21 4 (dk_at dksX4_numberHere_3 19 rfl rfl)
theorem dX4_numberHere_91 : decode cX4_numberHere 91 = .ok (.putfield 106, 3) := dk_181 0 106 (dk_at dksX4_numberHere_3 21 rfl rfl)
theorem dX4_numberHere_94 : decode cX4_numberHere 94 = .ok (.aload_n 0, 1) := dk_42 (dk_at dksX4_numberHere_4 0 rfl rfl)
theorem dX4_numberHere_95 : decode cX4_numberHere 95 = .ok (.getfield 81, 3) := dk_180 0 81 (dk_at dksX4_numberHere_4 1 rfl rfl)
theorem dX4_numberHere_98 : decode cX4_numberHere 98 = .ok (.iload_n 3, 1) := dk_29 (dk_at dksX4_numberHere_4 4 rfl rfl)
theorem dX4_numberHere_99 : decode cX4_numberHere 99 = .ok (.isub, 1) := dk_100 (dk_at dksX4_numberHere_4 5 rfl rfl)
theorem dX4_numberHere_100 : decode cX4_numberHere 100 = .ok (.iconst 5, 1) := dk_8 (dk_at dksX4_numberHere_4 6 rfl rfl)
theorem dX4_numberHere_101 : decode cX4_numberHere 101 = .ok (.if_icmp .gt 16, 3) := dk_163 0 16 (dk_at dksX4_numberHere_4 7 rfl rfl)
theorem dX4_numberHere_104 : decode cX4_numberHere 104 = .ok (.iload 4, 2) := dk_21 4 (dk_at dksX4_numberHere_4 10 rfl rfl)
theorem dX4_numberHere_106 : decode cX4_numberHere 106 = .ok (.i2l, 1) := dk_133 (dk_at dksX4_numberHere_4 12 rfl rfl)
theorem dX4_numberHere_107 : decode cX4_numberHere 107 = .ok (.iload_n 1, 1) := dk_27 (dk_at dksX4_numberHere_4 13 rfl rfl)
theorem dX4_numberHere_108 : decode cX4_numberHere 108 = .ok (.i2l, 1) := dk_133 (dk_at dksX4_numberHere_4 14 rfl rfl)
theorem dX4_numberHere_109 : decode cX4_numberHere 109 = .ok (.iload_n 2, 1) := dk_28 (dk_at dksX4_numberHere_4 15 rfl rfl)
theorem dX4_numberHere_110 : decode cX4_numberHere 110 = .ok (.i2l, 1) := dk_133 (dk_at dksX4_numberHere_4 16 rfl rfl)
theorem dX4_numberHere_111 : decode cX4_numberHere 111 = .ok (.invokestatic 109, 3) := dk_184 0 109 (dk_at dksX4_numberHere_4 17 rfl rfl)
theorem dX4_numberHere_114 : decode cX4_numberHere 114 = .ok (.ifCond .ne 12, 3) := dk_154 0 12 (dk_at dksX4_numberHere_4 20 rfl rfl)
theorem dX4_numberHere_117 : decode cX4_numberHere 117 = .ok (.aload_n 0, 1) := dk_42 (dk_at dksX4_numberHere_4 23 rfl rfl)
theorem dX4_numberHere_118 : decode cX4_numberHere 118 = .ok (.iconst 1, 1) := dk_4 (dk_at dksX4_numberHere_5 0 rfl rfl)
theorem dX4_numberHere_119 : decode cX4_numberHere 119 = .ok (.iload_n 3, 1) := dk_29 (dk_at dksX4_numberHere_5 1 rfl rfl)
theorem dX4_numberHere_120 : decode cX4_numberHere 120 = .ok (.invokevirtual 102, 3) := dk_182 0 102 (dk_at dksX4_numberHere_5 2 rfl rfl)
theorem dX4_numberHere_123 : decode cX4_numberHere 123 = .ok (.ifCond .eq 7, 3) := dk_153 0 7 (dk_at dksX4_numberHere_5 5 rfl rfl)
theorem dX4_numberHere_126 : decode cX4_numberHere 126 = .ok (.iconst 1, 1) := dk_4 (dk_at dksX4_numberHere_5 8 rfl rfl)
theorem dX4_numberHere_127 : decode cX4_numberHere 127 = .ok (.goto 4, 3) := dk_167 0 4 (dk_at dksX4_numberHere_5 9 rfl rfl)
theorem dX4_numberHere_130 : decode cX4_numberHere 130 = .ok (.iconst 0, 1) := dk_3 (dk_at dksX4_numberHere_5 12 rfl rfl)
theorem dX4_numberHere_131 : decode cX4_numberHere 131 = .ok (.ireturn, 1) := dk_172 (dk_at dksX4_numberHere_5 13 rfl rfl)
abbrev cX4_isDigit : ByteArray := prog_20_method_10_code
def yX4_isDigit : MethodName := ⟨RX4, "isDigit", "(I)Z"⟩
def dkwX4_isDigit_1 : List UInt8 := [51, 16, 57, 163, 0, 7, 4, 167, 0, 4, 3, 172]
abbrev dktX4_isDigit_1 : List UInt8 := dkwX4_isDigit_1 ++ []
def dkwX4_isDigit_0 : List UInt8 := [27, 42, 180, 0, 70, 162, 0, 29, 42, 180, 0, 7, 27, 51, 16, 48, 161, 0, 18, 42, 180, 0, 7, 27]
abbrev dktX4_isDigit_0 : List UInt8 := dkwX4_isDigit_0 ++ dktX4_isDigit_1
theorem dksX4_isDigit_0 : cX4_isDigit.data.toList.drop 0 = dktX4_isDigit_0 := by decide +kernel
theorem dksX4_isDigit_1 : cX4_isDigit.data.toList.drop 24 = dktX4_isDigit_1 := dk_seg dksX4_isDigit_0 24 rfl rfl
theorem dX4_isDigit_0 : decode cX4_isDigit 0 = .ok (.iload_n 1, 1) := dk_27 (dk_at dksX4_isDigit_0 0 rfl rfl)
theorem dX4_isDigit_1 : decode cX4_isDigit 1 = .ok (.aload_n 0, 1) := dk_42 (dk_at dksX4_isDigit_0 1 rfl rfl)
theorem dX4_isDigit_2 : decode cX4_isDigit 2 = .ok (.getfield 70, 3) := dk_180 0 70 (dk_at dksX4_isDigit_0 2 rfl rfl)
theorem dX4_isDigit_5 : decode cX4_isDigit 5 = .ok (.if_icmp .ge 29, 3) := dk_162 0 29 (dk_at dksX4_isDigit_0 5 rfl rfl)
theorem dX4_isDigit_8 : decode cX4_isDigit 8 = .ok (.aload_n 0, 1) := dk_42 (dk_at dksX4_isDigit_0 8 rfl rfl)
theorem dX4_isDigit_9 : decode cX4_isDigit 9 = .ok (.getfield 7, 3) := dk_180 0 7 (dk_at dksX4_isDigit_0 9 rfl rfl)
theorem dX4_isDigit_12 : decode cX4_isDigit 12 = .ok (.iload_n 1, 1) := dk_27 (dk_at dksX4_isDigit_0 12 rfl rfl)
theorem dX4_isDigit_13 : decode cX4_isDigit 13 = .ok (.baload, 1) := dk_51 (dk_at dksX4_isDigit_0 13 rfl rfl)
theorem dX4_isDigit_14 : decode cX4_isDigit 14 = .ok (.bipush 48, 2) := dk_16 48 (dk_at dksX4_isDigit_0 14 rfl rfl)
theorem dX4_isDigit_16 : decode cX4_isDigit 16 = .ok (.if_icmp .lt 18, 3) := dk_161 0 18 (dk_at dksX4_isDigit_0 16 rfl rfl)
theorem dX4_isDigit_19 : decode cX4_isDigit 19 = .ok (.aload_n 0, 1) := dk_42 (dk_at dksX4_isDigit_0 19 rfl rfl)
theorem dX4_isDigit_20 : decode cX4_isDigit 20 = .ok (.getfield 7, 3) := dk_180 0 7 (dk_at dksX4_isDigit_0 20 rfl rfl)
theorem dX4_isDigit_23 : decode cX4_isDigit 23 = .ok (.iload_n 1, 1) := dk_27 (dk_at dksX4_isDigit_0 23 rfl rfl)
theorem dX4_isDigit_24 : decode cX4_isDigit 24 = .ok (.baload, 1) := dk_51 (dk_at dksX4_isDigit_1 0 rfl rfl)
theorem dX4_isDigit_25 : decode cX4_isDigit 25 = .ok (.bipush 57, 2) := dk_16 57 (dk_at dksX4_isDigit_1 1 rfl rfl)
theorem dX4_isDigit_27 : decode cX4_isDigit 27 = .ok (.if_icmp .gt 7, 3) := dk_163 0 7 (dk_at dksX4_isDigit_1 3 rfl rfl)
theorem dX4_isDigit_30 : decode cX4_isDigit 30 = .ok (.iconst 1, 1) := dk_4 (dk_at dksX4_isDigit_1 6 rfl rfl)
theorem dX4_isDigit_31 : decode cX4_isDigit 31 = .ok (.goto 4, 3) := dk_167 0 4 (dk_at dksX4_isDigit_1 7 rfl rfl)
theorem dX4_isDigit_34 : decode cX4_isDigit 34 = .ok (.iconst 0, 1) := dk_3 (dk_at dksX4_isDigit_1 10 rfl rfl)
theorem dX4_isDigit_35 : decode cX4_isDigit 35 = .ok (.ireturn, 1) := dk_172 (dk_at dksX4_isDigit_1 11 rfl rfl)
abbrev cX4_in : ByteArray := prog_20_method_2_code
def yX4_in : MethodName := ⟨RX4, "in", "(JJJ)Z"⟩
def dkwX4_in_0 : List UInt8 := [30, 32, 148, 155, 0, 14, 30, 22, 4, 148, 157, 0, 7, 4, 167, 0, 4, 3, 172]
abbrev dktX4_in_0 : List UInt8 := dkwX4_in_0 ++ []
theorem dksX4_in_0 : cX4_in.data.toList.drop 0 = dktX4_in_0 := by decide +kernel
theorem dX4_in_0 : decode cX4_in 0 = .ok (.lload_n 0, 1) := dk_30 (dk_at dksX4_in_0 0 rfl rfl)
theorem dX4_in_1 : decode cX4_in 1 = .ok (.lload_n 2, 1) := dk_32 (dk_at dksX4_in_0 1 rfl rfl)
theorem dX4_in_2 : decode cX4_in 2 = .ok (.lcmp, 1) := dk_148 (dk_at dksX4_in_0 2 rfl rfl)
theorem dX4_in_3 : decode cX4_in 3 = .ok (.ifCond .lt 14, 3) := dk_155 0 14 (dk_at dksX4_in_0 3 rfl rfl)
theorem dX4_in_6 : decode cX4_in 6 = .ok (.lload_n 0, 1) := dk_30 (dk_at dksX4_in_0 6 rfl rfl)
theorem dX4_in_7 : decode cX4_in 7 = .ok (.lload 4, 2) := dk_22 4 (dk_at dksX4_in_0 7 rfl rfl)
theorem dX4_in_9 : decode cX4_in 9 = .ok (.lcmp, 1) := dk_148 (dk_at dksX4_in_0 9 rfl rfl)
theorem dX4_in_10 : decode cX4_in 10 = .ok (.ifCond .gt 7, 3) := dk_157 0 7 (dk_at dksX4_in_0 10 rfl rfl)
theorem dX4_in_13 : decode cX4_in 13 = .ok (.iconst 1, 1) := dk_4 (dk_at dksX4_in_0 13 rfl rfl)
theorem dX4_in_14 : decode cX4_in 14 = .ok (.goto 4, 3) := dk_167 0 4 (dk_at dksX4_in_0 14 rfl rfl)
theorem dX4_in_17 : decode cX4_in 17 = .ok (.iconst 0, 1) := dk_3 (dk_at dksX4_in_0 17 rfl rfl)
theorem dX4_in_18 : decode cX4_in 18 = .ok (.ireturn, 1) := dk_172 (dk_at dksX4_in_0 18 rfl rfl)
abbrev cX4_isHalfHere : ByteArray := prog_20_method_33_code
def yX4_isHalfHere : MethodName := ⟨RX4, "isHalfHere", "(I)Z"⟩
def dkwX4_isHalfHere_4 : List UInt8 := [180, 0, 26, 28, 7, 96, 3, 79, 42, 180, 0, 26, 4, 92, 46, 4, 96, 79, 4, 172]
abbrev dktX4_isHalfHere_4 : List UInt8 := dkwX4_isHalfHere_4 ++ []
def dkwX4_isHalfHere_3 : List UInt8 := [182, 0, 211, 153, 0, 16, 42, 28, 5, 96, 4, 16, 99, 182, 0, 211, 154, 0, 5, 3, 172, 42]
abbrev dktX4_isHalfHere_3 : List UInt8 := dkwX4_isHalfHere_3 ++ dktX4_isHalfHere_4
def dkwX4_isHalfHere_2 : List UInt8 := [182, 0, 211, 153, 0, 39, 42, 28, 3, 16, 99, 182, 0, 211, 153, 0, 28, 42, 28, 4, 96, 3, 4]
abbrev dktX4_isHalfHere_2 : List UInt8 := dkwX4_isHalfHere_2 ++ dktX4_isHalfHere_3
def dkwX4_isHalfHere_1 : List UInt8 := [8, 42, 180, 0, 26, 4, 46, 104, 96, 61, 42, 28, 6, 96, 3, 42, 180, 0, 26, 3, 46, 4, 100]
abbrev dktX4_isHalfHere_1 : List UInt8 := dkwX4_isHalfHere_1 ++ dktX4_isHalfHere_2
def dkwX4_isHalfHere_0 : List UInt8 := [42, 180, 0, 26, 4, 46, 16, 12, 160, 0, 10, 42, 7, 27, 182, 0, 102, 172, 42, 182, 0, 96, 16, 10]
abbrev dktX4_isHalfHere_0 : List UInt8 := dkwX4_isHalfHere_0 ++ dktX4_isHalfHere_1
theorem dksX4_isHalfHere_0 : cX4_isHalfHere.data.toList.drop 0 = dktX4_isHalfHere_0 := by decide +kernel
theorem dksX4_isHalfHere_1 : cX4_isHalfHere.data.toList.drop 24 = dktX4_isHalfHere_1 := dk_seg dksX4_isHalfHere_0 24 rfl rfl
theorem dksX4_isHalfHere_2 : cX4_isHalfHere.data.toList.drop 47 = dktX4_isHalfHere_2 := dk_seg dksX4_isHalfHere_1 23 rfl rfl
theorem dksX4_isHalfHere_3 : cX4_isHalfHere.data.toList.drop 70 = dktX4_isHalfHere_3 := dk_seg dksX4_isHalfHere_2 23 rfl rfl
theorem dksX4_isHalfHere_4 : cX4_isHalfHere.data.toList.drop 92 = dktX4_isHalfHere_4 := dk_seg dksX4_isHalfHere_3 22 rfl rfl
theorem dX4_isHalfHere_0 : decode cX4_isHalfHere 0 = .ok (.aload_n 0, 1) := dk_42 (dk_at dksX4_isHalfHere_0 0 rfl rfl)
theorem dX4_isHalfHere_1 : decode cX4_isHalfHere 1 = .ok (.getfield 26, 3) := dk_180 0 26 (dk_at dksX4_isHalfHere_0 1 rfl rfl)
theorem dX4_isHalfHere_4 : decode cX4_isHalfHere 4 = .ok (.iconst 1, 1) := dk_4 (dk_at dksX4_isHalfHere_0 4 rfl rfl)
theorem dX4_isHalfHere_5 : decode cX4_isHalfHere 5 = .ok (.iaload, 1) := dk_46 (dk_at dksX4_isHalfHere_0 5 rfl rfl)
theorem dX4_isHalfHere_6 : decode cX4_isHalfHere 6 = .ok (.bipush 12, 2) := dk_16 12 (dk_at dksX4_isHalfHere_0 6 rfl rfl)
theorem dX4_isHalfHere_8 : decode cX4_isHalfHere 8 = .ok (.if_icmp .ne 10, 3) := dk_160 0 10 (dk_at dksX4_isHalfHere_0 8 rfl rfl)
theorem dX4_isHalfHere_11 : decode cX4_isHalfHere 11 = .ok (.aload_n 0, 1) := dk_42 (dk_at dksX4_isHalfHere_0 11 rfl rfl)
theorem dX4_isHalfHere_12 : decode cX4_isHalfHere 12 = .ok (.iconst 4, 1) := dk_7 (dk_at dksX4_isHalfHere_0 12 rfl rfl)
theorem dX4_isHalfHere_13 : decode cX4_isHalfHere 13 = .ok (.iload_n 1, 1) := dk_27 (dk_at dksX4_isHalfHere_0 13 rfl rfl)
theorem dX4_isHalfHere_14 : decode cX4_isHalfHere 14 = .ok (.invokevirtual 102, 3) := dk_182 0 102 (dk_at dksX4_isHalfHere_0 14 rfl rfl)
theorem dX4_isHalfHere_17 : decode cX4_isHalfHere 17 = .ok (.ireturn, 1) := dk_172 (dk_at dksX4_isHalfHere_0 17 rfl rfl)
theorem dX4_isHalfHere_18 : decode cX4_isHalfHere 18 = .ok (.aload_n 0, 1) := dk_42 (dk_at dksX4_isHalfHere_0 18 rfl rfl)
theorem dX4_isHalfHere_19 : decode cX4_isHalfHere 19 = .ok (.invokevirtual 96, 3) := dk_182 0 96 (dk_at dksX4_isHalfHere_0 19 rfl rfl)
theorem dX4_isHalfHere_22 : decode cX4_isHalfHere 22 = .ok (.bipush 10, 2) := dk_16 10 (dk_at dksX4_isHalfHere_0 22 rfl rfl)
theorem dX4_isHalfHere_24 : decode cX4_isHalfHere 24 = .ok (.iconst 5, 1) := dk_8 (dk_at dksX4_isHalfHere_1 0 rfl rfl)
theorem dX4_isHalfHere_25 : decode cX4_isHalfHere 25 = .ok (.aload_n 0, 1) := dk_42 (dk_at dksX4_isHalfHere_1 1 rfl rfl)
theorem dX4_isHalfHere_26 : decode cX4_isHalfHere 26 = .ok (.getfield 26, 3) := dk_180 0 26 (dk_at dksX4_isHalfHere_1 2 rfl rfl)
theorem dX4_isHalfHere_29 : decode cX4_isHalfHere 29 = .ok (.iconst 1, 1) := dk_4 (dk_at dksX4_isHalfHere_1 5 rfl rfl)
theorem dX4_isHalfHere_30 : decode cX4_isHalfHere 30 = .ok (.iaload, 1) := dk_46 (dk_at dksX4_isHalfHere_1 6 rfl rfl)
theorem dX4_isHalfHere_31 : decode cX4_isHalfHere 31 = .ok (.imul, 1) := dk_104 (dk_at dksX4_isHalfHere_1 7 rfl rfl)
theorem dX4_isHalfHere_32 : decode cX4_isHalfHere 32 = .ok (.iadd, 1) := dk_96 (dk_at dksX4_isHalfHere_1 8 rfl rfl)
theorem dX4_isHalfHere_33 : decode cX4_isHalfHere 33 = .ok (.istore_n 2, 1) := dk_61 (dk_at dksX4_isHalfHere_1 9 rfl rfl)
theorem dX4_isHalfHere_34 : decode cX4_isHalfHere 34 = .ok (.aload_n 0, 1) := dk_42 (dk_at dksX4_isHalfHere_1 10 rfl rfl)
theorem dX4_isHalfHere_35 : decode cX4_isHalfHere 35 = .ok (.iload_n 2, 1) := dk_28 (dk_at dksX4_isHalfHere_1 11 rfl rfl)
theorem dX4_isHalfHere_36 : decode cX4_isHalfHere 36 = .ok (.iconst 3, 1) := dk_6 (dk_at dksX4_isHalfHere_1 12 rfl rfl)
theorem dX4_isHalfHere_37 : decode cX4_isHalfHere 37 = .ok (.iadd, 1) := dk_96 (dk_at dksX4_isHalfHere_1 13 rfl rfl)
theorem dX4_isHalfHere_38 : decode cX4_isHalfHere 38 = .ok (.iconst 0, 1) := dk_3 (dk_at dksX4_isHalfHere_1 14 rfl rfl)
theorem dX4_isHalfHere_39 : decode cX4_isHalfHere 39 = .ok (.aload_n 0, 1) := dk_42 (dk_at dksX4_isHalfHere_1 15 rfl rfl)
theorem dX4_isHalfHere_40 : decode cX4_isHalfHere 40 = .ok (.getfield 26, 3) := dk_180 0 26 (dk_at dksX4_isHalfHere_1 16 rfl rfl)
theorem dX4_isHalfHere_43 : decode cX4_isHalfHere 43 = .ok (.iconst 0, 1) := dk_3 (dk_at dksX4_isHalfHere_1 19 rfl rfl)
theorem dX4_isHalfHere_44 : decode cX4_isHalfHere 44 = .ok (.iaload, 1) := dk_46 (dk_at dksX4_isHalfHere_1 20 rfl rfl)
theorem dX4_isHalfHere_45 : decode cX4_isHalfHere 45 = .ok (.iconst 1, 1) := dk_4 (dk_at dksX4_isHalfHere_1 21 rfl rfl)
theorem dX4_isHalfHere_46 : decode cX4_isHalfHere 46 = .ok (.isub, 1) := dk_100 (dk_at dksX4_isHalfHere_1 22 rfl rfl)
theorem dX4_isHalfHere_47 : decode cX4_isHalfHere 47 = .ok (.invokevirtual 211, 3) := dk_182 0 211 (dk_at dksX4_isHalfHere_2 0 rfl rfl)
theorem dX4_isHalfHere_50 : decode cX4_isHalfHere 50 = .ok (.ifCond .eq 39, 3) := dk_153 0 39 (dk_at dksX4_isHalfHere_2 3 rfl rfl)
theorem dX4_isHalfHere_53 : decode cX4_isHalfHere 53 = .ok (.aload_n 0, 1) := dk_42 (dk_at dksX4_isHalfHere_2 6 rfl rfl)
theorem dX4_isHalfHere_54 : decode cX4_isHalfHere 54 = .ok (.iload_n 2, 1) := dk_28 (dk_at dksX4_isHalfHere_2 7 rfl rfl)
theorem dX4_isHalfHere_55 : decode cX4_isHalfHere 55 = .ok (.iconst 0, 1) := dk_3 (dk_at dksX4_isHalfHere_2 8 rfl rfl)
theorem dX4_isHalfHere_56 : decode cX4_isHalfHere 56 = .ok (.bipush 99, 2) := dk_16 99 (dk_at dksX4_isHalfHere_2 9 rfl rfl)
theorem dX4_isHalfHere_58 : decode cX4_isHalfHere 58 = .ok (.invokevirtual 211, 3) := dk_182 0 211 (dk_at dksX4_isHalfHere_2 11 rfl rfl)
theorem dX4_isHalfHere_61 : decode cX4_isHalfHere 61 = .ok (.ifCond .eq 28, 3) := dk_153 0 28 (dk_at dksX4_isHalfHere_2 14 rfl rfl)
theorem dX4_isHalfHere_64 : decode cX4_isHalfHere 64 = .ok (.aload_n 0, 1) := dk_42 (dk_at dksX4_isHalfHere_2 17 rfl rfl)
theorem dX4_isHalfHere_65 : decode cX4_isHalfHere 65 = .ok (.iload_n 2, 1) := dk_28 (dk_at dksX4_isHalfHere_2 18 rfl rfl)
theorem dX4_isHalfHere_66 : decode cX4_isHalfHere 66 = .ok (.iconst 1, 1) := dk_4 (dk_at dksX4_isHalfHere_2 19 rfl rfl)
theorem dX4_isHalfHere_67 : decode cX4_isHalfHere 67 = .ok (.iadd, 1) := dk_96 (dk_at dksX4_isHalfHere_2 20 rfl rfl)
theorem dX4_isHalfHere_68 : decode cX4_isHalfHere 68 = .ok (.iconst 0, 1) := dk_3 (dk_at dksX4_isHalfHere_2 21 rfl rfl)
theorem dX4_isHalfHere_69 : decode cX4_isHalfHere 69 = .ok (.iconst 1, 1) := dk_4 (dk_at dksX4_isHalfHere_2 22 rfl rfl)
theorem dX4_isHalfHere_70 : decode cX4_isHalfHere 70 = .ok (.invokevirtual 211, 3) := dk_182 0 211 (dk_at dksX4_isHalfHere_3 0 rfl rfl)
theorem dX4_isHalfHere_73 : decode cX4_isHalfHere 73 = .ok (.ifCond .eq 16, 3) := dk_153 0 16 (dk_at dksX4_isHalfHere_3 3 rfl rfl)
theorem dX4_isHalfHere_76 : decode cX4_isHalfHere 76 = .ok (.aload_n 0, 1) := dk_42 (dk_at dksX4_isHalfHere_3 6 rfl rfl)
theorem dX4_isHalfHere_77 : decode cX4_isHalfHere 77 = .ok (.iload_n 2, 1) := dk_28 (dk_at dksX4_isHalfHere_3 7 rfl rfl)
theorem dX4_isHalfHere_78 : decode cX4_isHalfHere 78 = .ok (.iconst 2, 1) := dk_5 (dk_at dksX4_isHalfHere_3 8 rfl rfl)
theorem dX4_isHalfHere_79 : decode cX4_isHalfHere 79 = .ok (.iadd, 1) := dk_96 (dk_at dksX4_isHalfHere_3 9 rfl rfl)
theorem dX4_isHalfHere_80 : decode cX4_isHalfHere 80 = .ok (.iconst 1, 1) := dk_4 (dk_at dksX4_isHalfHere_3 10 rfl rfl)
theorem dX4_isHalfHere_81 : decode cX4_isHalfHere 81 = .ok (.bipush 99, 2) := dk_16 99 (dk_at dksX4_isHalfHere_3 11 rfl rfl)
theorem dX4_isHalfHere_83 : decode cX4_isHalfHere 83 = .ok (.invokevirtual 211, 3) := dk_182 0 211 (dk_at dksX4_isHalfHere_3 13 rfl rfl)
theorem dX4_isHalfHere_86 : decode cX4_isHalfHere 86 = .ok (.ifCond .ne 5, 3) := dk_154 0 5 (dk_at dksX4_isHalfHere_3 16 rfl rfl)
theorem dX4_isHalfHere_89 : decode cX4_isHalfHere 89 = .ok (.iconst 0, 1) := dk_3 (dk_at dksX4_isHalfHere_3 19 rfl rfl)
theorem dX4_isHalfHere_90 : decode cX4_isHalfHere 90 = .ok (.ireturn, 1) := dk_172 (dk_at dksX4_isHalfHere_3 20 rfl rfl)
theorem dX4_isHalfHere_91 : decode cX4_isHalfHere 91 = .ok (.aload_n 0, 1) := dk_42 (dk_at dksX4_isHalfHere_3 21 rfl rfl)
theorem dX4_isHalfHere_92 : decode cX4_isHalfHere 92 = .ok (.getfield 26, 3) := dk_180 0 26 (dk_at dksX4_isHalfHere_4 0 rfl rfl)
theorem dX4_isHalfHere_95 : decode cX4_isHalfHere 95 = .ok (.iload_n 2, 1) := dk_28 (dk_at dksX4_isHalfHere_4 3 rfl rfl)
theorem dX4_isHalfHere_96 : decode cX4_isHalfHere 96 = .ok (.iconst 4, 1) := dk_7 (dk_at dksX4_isHalfHere_4 4 rfl rfl)
theorem dX4_isHalfHere_97 : decode cX4_isHalfHere 97 = .ok (.iadd, 1) := dk_96 (dk_at dksX4_isHalfHere_4 5 rfl rfl)
theorem dX4_isHalfHere_98 : decode cX4_isHalfHere 98 = .ok (.iconst 0, 1) := dk_3 (dk_at dksX4_isHalfHere_4 6 rfl rfl)
theorem dX4_isHalfHere_99 : decode cX4_isHalfHere 99 = .ok (.iastore, 1) := dk_79 (dk_at dksX4_isHalfHere_4 7 rfl rfl)
theorem dX4_isHalfHere_100 : decode cX4_isHalfHere 100 = .ok (.aload_n 0, 1) := dk_42 (dk_at dksX4_isHalfHere_4 8 rfl rfl)
theorem dX4_isHalfHere_101 : decode cX4_isHalfHere 101 = .ok (.getfield 26, 3) := dk_180 0 26 (dk_at dksX4_isHalfHere_4 9 rfl rfl)
theorem dX4_isHalfHere_104 : decode cX4_isHalfHere 104 = .ok (.iconst 1, 1) := dk_4 (dk_at dksX4_isHalfHere_4 12 rfl rfl)
theorem dX4_isHalfHere_105 : decode cX4_isHalfHere 105 = .ok (.dup2, 1) := dk_92 (dk_at dksX4_isHalfHere_4 13 rfl rfl)
theorem dX4_isHalfHere_106 : decode cX4_isHalfHere 106 = .ok (.iaload, 1) := dk_46 (dk_at dksX4_isHalfHere_4 14 rfl rfl)
theorem dX4_isHalfHere_107 : decode cX4_isHalfHere 107 = .ok (.iconst 1, 1) := dk_4 (dk_at dksX4_isHalfHere_4 15 rfl rfl)
theorem dX4_isHalfHere_108 : decode cX4_isHalfHere 108 = .ok (.iadd, 1) := dk_96 (dk_at dksX4_isHalfHere_4 16 rfl rfl)
theorem dX4_isHalfHere_109 : decode cX4_isHalfHere 109 = .ok (.iastore, 1) := dk_79 (dk_at dksX4_isHalfHere_4 17 rfl rfl)
theorem dX4_isHalfHere_110 : decode cX4_isHalfHere 110 = .ok (.iconst 1, 1) := dk_4 (dk_at dksX4_isHalfHere_4 18 rfl rfl)
theorem dX4_isHalfHere_111 : decode cX4_isHalfHere 111 = .ok (.ireturn, 1) := dk_172 (dk_at dksX4_isHalfHere_4 19 rfl rfl)
abbrev cX4_isForgedHere : ByteArray := prog_20_method_34_code
def yX4_isForgedHere : MethodName := ⟨RX4, "isForgedHere", "()Z"⟩
def dkwX4_isForgedHere_1 : List UInt8 := [180, 0, 26, 16, 10, 8, 42, 180, 0, 106, 104, 96, 7, 96, 4, 79, 4, 172]
abbrev dktX4_isForgedHere_1 : List UInt8 := dkwX4_isForgedHere_1 ++ []
def dkwX4_isForgedHere_0 : List UInt8 := [42, 182, 0, 96, 42, 3, 42, 180, 0, 26, 4, 46, 4, 100, 182, 0, 160, 154, 0, 5, 3, 172, 42]
abbrev dktX4_isForgedHere_0 : List UInt8 := dkwX4_isForgedHere_0 ++ dktX4_isForgedHere_1
theorem dksX4_isForgedHere_0 : cX4_isForgedHere.data.toList.drop 0 = dktX4_isForgedHere_0 := by decide +kernel
theorem dksX4_isForgedHere_1 : cX4_isForgedHere.data.toList.drop 23 = dktX4_isForgedHere_1 := dk_seg dksX4_isForgedHere_0 23 rfl rfl
theorem dX4_isForgedHere_0 : decode cX4_isForgedHere 0 = .ok (.aload_n 0, 1) := dk_42 (dk_at dksX4_isForgedHere_0 0 rfl rfl)
theorem dX4_isForgedHere_1 : decode cX4_isForgedHere 1 = .ok (.invokevirtual 96, 3) := dk_182 0 96 (dk_at dksX4_isForgedHere_0 1 rfl rfl)
theorem dX4_isForgedHere_4 : decode cX4_isForgedHere 4 = .ok (.aload_n 0, 1) := dk_42 (dk_at dksX4_isForgedHere_0 4 rfl rfl)
theorem dX4_isForgedHere_5 : decode cX4_isForgedHere 5 = .ok (.iconst 0, 1) := dk_3 (dk_at dksX4_isForgedHere_0 5 rfl rfl)
theorem dX4_isForgedHere_6 : decode cX4_isForgedHere 6 = .ok (.aload_n 0, 1) := dk_42 (dk_at dksX4_isForgedHere_0 6 rfl rfl)
theorem dX4_isForgedHere_7 : decode cX4_isForgedHere 7 = .ok (.getfield 26, 3) := dk_180 0 26 (dk_at dksX4_isForgedHere_0 7 rfl rfl)
theorem dX4_isForgedHere_10 : decode cX4_isForgedHere 10 = .ok (.iconst 1, 1) := dk_4 (dk_at dksX4_isForgedHere_0 10 rfl rfl)
theorem dX4_isForgedHere_11 : decode cX4_isForgedHere 11 = .ok (.iaload, 1) := dk_46 (dk_at dksX4_isForgedHere_0 11 rfl rfl)
theorem dX4_isForgedHere_12 : decode cX4_isForgedHere 12 = .ok (.iconst 1, 1) := dk_4 (dk_at dksX4_isForgedHere_0 12 rfl rfl)
theorem dX4_isForgedHere_13 : decode cX4_isForgedHere 13 = .ok (.isub, 1) := dk_100 (dk_at dksX4_isForgedHere_0 13 rfl rfl)
theorem dX4_isForgedHere_14 : decode cX4_isForgedHere 14 = .ok (.invokevirtual 160, 3) := dk_182 0 160 (dk_at dksX4_isForgedHere_0 14 rfl rfl)
theorem dX4_isForgedHere_17 : decode cX4_isForgedHere 17 = .ok (.ifCond .ne 5, 3) := dk_154 0 5 (dk_at dksX4_isForgedHere_0 17 rfl rfl)
theorem dX4_isForgedHere_20 : decode cX4_isForgedHere 20 = .ok (.iconst 0, 1) := dk_3 (dk_at dksX4_isForgedHere_0 20 rfl rfl)
theorem dX4_isForgedHere_21 : decode cX4_isForgedHere 21 = .ok (.ireturn, 1) := dk_172 (dk_at dksX4_isForgedHere_0 21 rfl rfl)
theorem dX4_isForgedHere_22 : decode cX4_isForgedHere 22 = .ok (.aload_n 0, 1) := dk_42 (dk_at dksX4_isForgedHere_0 22 rfl rfl)
theorem dX4_isForgedHere_23 : decode cX4_isForgedHere 23 = .ok (.getfield 26, 3) := dk_180 0 26 (dk_at dksX4_isForgedHere_1 0 rfl rfl)
theorem dX4_isForgedHere_26 : decode cX4_isForgedHere 26 = .ok (.bipush 10, 2) := dk_16 10 (dk_at dksX4_isForgedHere_1 3 rfl rfl)
theorem dX4_isForgedHere_28 : decode cX4_isForgedHere 28 = .ok (.iconst 5, 1) := dk_8 (dk_at dksX4_isForgedHere_1 5 rfl rfl)
theorem dX4_isForgedHere_29 : decode cX4_isForgedHere 29 = .ok (.aload_n 0, 1) := dk_42 (dk_at dksX4_isForgedHere_1 6 rfl rfl)
theorem dX4_isForgedHere_30 : decode cX4_isForgedHere 30 = .ok (.getfield 106, 3) := dk_180 0 106 (dk_at dksX4_isForgedHere_1 7 rfl rfl)
theorem dX4_isForgedHere_33 : decode cX4_isForgedHere 33 = .ok (.imul, 1) := dk_104 (dk_at dksX4_isForgedHere_1 10 rfl rfl)
theorem dX4_isForgedHere_34 : decode cX4_isForgedHere 34 = .ok (.iadd, 1) := dk_96 (dk_at dksX4_isForgedHere_1 11 rfl rfl)
theorem dX4_isForgedHere_35 : decode cX4_isForgedHere 35 = .ok (.iconst 4, 1) := dk_7 (dk_at dksX4_isForgedHere_1 12 rfl rfl)
theorem dX4_isForgedHere_36 : decode cX4_isForgedHere 36 = .ok (.iadd, 1) := dk_96 (dk_at dksX4_isForgedHere_1 13 rfl rfl)
theorem dX4_isForgedHere_37 : decode cX4_isForgedHere 37 = .ok (.iconst 1, 1) := dk_4 (dk_at dksX4_isForgedHere_1 14 rfl rfl)
theorem dX4_isForgedHere_38 : decode cX4_isForgedHere 38 = .ok (.iastore, 1) := dk_79 (dk_at dksX4_isForgedHere_1 15 rfl rfl)
theorem dX4_isForgedHere_39 : decode cX4_isForgedHere 39 = .ok (.iconst 1, 1) := dk_4 (dk_at dksX4_isForgedHere_1 16 rfl rfl)
theorem dX4_isForgedHere_40 : decode cX4_isForgedHere 40 = .ok (.ireturn, 1) := dk_172 (dk_at dksX4_isForgedHere_1 17 rfl rfl)
abbrev cX4_isBuyerHere : ByteArray := prog_20_method_35_code
def yX4_isBuyerHere : MethodName := ⟨RX4, "isBuyerHere", "(I)Z"⟩
def dkwX4_isBuyerHere_4 : List UInt8 := [92, 46, 4, 96, 79, 4, 172]
abbrev dktX4_isBuyerHere_4 : List UInt8 := dkwX4_isBuyerHere_4 ++ []
def dkwX4_isBuyerHere_3 : List UInt8 := [96, 3, 79, 42, 180, 0, 26, 28, 6, 96, 4, 42, 180, 0, 26, 5, 46, 120, 79, 42, 180, 0, 26, 5]
abbrev dktX4_isBuyerHere_3 : List UInt8 := dkwX4_isBuyerHere_3 ++ dktX4_isBuyerHere_4
def dkwX4_isBuyerHere_2 : List UInt8 := [96, 3, 42, 180, 0, 26, 3, 46, 4, 100, 182, 0, 211, 154, 0, 5, 3, 172, 42, 180, 0, 26, 28, 5]
abbrev dktX4_isBuyerHere_2 : List UInt8 := dkwX4_isBuyerHere_2 ++ dktX4_isBuyerHere_3
def dkwX4_isBuyerHere_1 : List UInt8 := [42, 180, 0, 26, 5, 46, 104, 96, 61, 42, 28, 3, 17, 3, 231, 182, 0, 211, 153, 0, 22, 42, 28, 4]
abbrev dktX4_isBuyerHere_1 : List UInt8 := dkwX4_isBuyerHere_1 ++ dktX4_isBuyerHere_2
def dkwX4_isBuyerHere_0 : List UInt8 := [42, 180, 0, 26, 5, 46, 7, 160, 0, 10, 42, 7, 27, 182, 0, 102, 172, 42, 182, 0, 96, 16, 70, 7]
abbrev dktX4_isBuyerHere_0 : List UInt8 := dkwX4_isBuyerHere_0 ++ dktX4_isBuyerHere_1
theorem dksX4_isBuyerHere_0 : cX4_isBuyerHere.data.toList.drop 0 = dktX4_isBuyerHere_0 := by decide +kernel
theorem dksX4_isBuyerHere_1 : cX4_isBuyerHere.data.toList.drop 24 = dktX4_isBuyerHere_1 := dk_seg dksX4_isBuyerHere_0 24 rfl rfl
theorem dksX4_isBuyerHere_2 : cX4_isBuyerHere.data.toList.drop 48 = dktX4_isBuyerHere_2 := dk_seg dksX4_isBuyerHere_1 24 rfl rfl
theorem dksX4_isBuyerHere_3 : cX4_isBuyerHere.data.toList.drop 72 = dktX4_isBuyerHere_3 := dk_seg dksX4_isBuyerHere_2 24 rfl rfl
theorem dksX4_isBuyerHere_4 : cX4_isBuyerHere.data.toList.drop 96 = dktX4_isBuyerHere_4 := dk_seg dksX4_isBuyerHere_3 24 rfl rfl
theorem dX4_isBuyerHere_0 : decode cX4_isBuyerHere 0 = .ok (.aload_n 0, 1) := dk_42 (dk_at dksX4_isBuyerHere_0 0 rfl rfl)
theorem dX4_isBuyerHere_1 : decode cX4_isBuyerHere 1 = .ok (.getfield 26, 3) := dk_180 0 26 (dk_at dksX4_isBuyerHere_0 1 rfl rfl)
theorem dX4_isBuyerHere_4 : decode cX4_isBuyerHere 4 = .ok (.iconst 2, 1) := dk_5 (dk_at dksX4_isBuyerHere_0 4 rfl rfl)
theorem dX4_isBuyerHere_5 : decode cX4_isBuyerHere 5 = .ok (.iaload, 1) := dk_46 (dk_at dksX4_isBuyerHere_0 5 rfl rfl)
theorem dX4_isBuyerHere_6 : decode cX4_isBuyerHere 6 = .ok (.iconst 4, 1) := dk_7 (dk_at dksX4_isBuyerHere_0 6 rfl rfl)
theorem dX4_isBuyerHere_7 : decode cX4_isBuyerHere 7 = .ok (.if_icmp .ne 10, 3) := dk_160 0 10 (dk_at dksX4_isBuyerHere_0 7 rfl rfl)
theorem dX4_isBuyerHere_10 : decode cX4_isBuyerHere 10 = .ok (.aload_n 0, 1) := dk_42 (dk_at dksX4_isBuyerHere_0 10 rfl rfl)
theorem dX4_isBuyerHere_11 : decode cX4_isBuyerHere 11 = .ok (.iconst 4, 1) := dk_7 (dk_at dksX4_isBuyerHere_0 11 rfl rfl)
theorem dX4_isBuyerHere_12 : decode cX4_isBuyerHere 12 = .ok (.iload_n 1, 1) := dk_27 (dk_at dksX4_isBuyerHere_0 12 rfl rfl)
theorem dX4_isBuyerHere_13 : decode cX4_isBuyerHere 13 = .ok (.invokevirtual 102, 3) := dk_182 0 102 (dk_at dksX4_isBuyerHere_0 13 rfl rfl)
theorem dX4_isBuyerHere_16 : decode cX4_isBuyerHere 16 = .ok (.ireturn, 1) := dk_172 (dk_at dksX4_isBuyerHere_0 16 rfl rfl)
theorem dX4_isBuyerHere_17 : decode cX4_isBuyerHere 17 = .ok (.aload_n 0, 1) := dk_42 (dk_at dksX4_isBuyerHere_0 17 rfl rfl)
theorem dX4_isBuyerHere_18 : decode cX4_isBuyerHere 18 = .ok (.invokevirtual 96, 3) := dk_182 0 96 (dk_at dksX4_isBuyerHere_0 18 rfl rfl)
theorem dX4_isBuyerHere_21 : decode cX4_isBuyerHere 21 = .ok (.bipush 70, 2) := dk_16 70 (dk_at dksX4_isBuyerHere_0 21 rfl rfl)
theorem dX4_isBuyerHere_23 : decode cX4_isBuyerHere 23 = .ok (.iconst 4, 1) := dk_7 (dk_at dksX4_isBuyerHere_0 23 rfl rfl)
theorem dX4_isBuyerHere_24 : decode cX4_isBuyerHere 24 = .ok (.aload_n 0, 1) := dk_42 (dk_at dksX4_isBuyerHere_1 0 rfl rfl)
theorem dX4_isBuyerHere_25 : decode cX4_isBuyerHere 25 = .ok (.getfield 26, 3) := dk_180 0 26 (dk_at dksX4_isBuyerHere_1 1 rfl rfl)
theorem dX4_isBuyerHere_28 : decode cX4_isBuyerHere 28 = .ok (.iconst 2, 1) := dk_5 (dk_at dksX4_isBuyerHere_1 4 rfl rfl)
theorem dX4_isBuyerHere_29 : decode cX4_isBuyerHere 29 = .ok (.iaload, 1) := dk_46 (dk_at dksX4_isBuyerHere_1 5 rfl rfl)
theorem dX4_isBuyerHere_30 : decode cX4_isBuyerHere 30 = .ok (.imul, 1) := dk_104 (dk_at dksX4_isBuyerHere_1 6 rfl rfl)
theorem dX4_isBuyerHere_31 : decode cX4_isBuyerHere 31 = .ok (.iadd, 1) := dk_96 (dk_at dksX4_isBuyerHere_1 7 rfl rfl)
theorem dX4_isBuyerHere_32 : decode cX4_isBuyerHere 32 = .ok (.istore_n 2, 1) := dk_61 (dk_at dksX4_isBuyerHere_1 8 rfl rfl)
theorem dX4_isBuyerHere_33 : decode cX4_isBuyerHere 33 = .ok (.aload_n 0, 1) := dk_42 (dk_at dksX4_isBuyerHere_1 9 rfl rfl)
theorem dX4_isBuyerHere_34 : decode cX4_isBuyerHere 34 = .ok (.iload_n 2, 1) := dk_28 (dk_at dksX4_isBuyerHere_1 10 rfl rfl)
theorem dX4_isBuyerHere_35 : decode cX4_isBuyerHere 35 = .ok (.iconst 0, 1) := dk_3 (dk_at dksX4_isBuyerHere_1 11 rfl rfl)
theorem dX4_isBuyerHere_36 : decode cX4_isBuyerHere 36 = .ok (.sipush 999, 3) := dk_17 3 231 (dk_at dksX4_isBuyerHere_1 12 rfl rfl)
theorem dX4_isBuyerHere_39 : decode cX4_isBuyerHere 39 = .ok (.invokevirtual 211, 3) := dk_182 0 211 (dk_at dksX4_isBuyerHere_1 15 rfl rfl)
theorem dX4_isBuyerHere_42 : decode cX4_isBuyerHere 42 = .ok (.ifCond .eq 22, 3) := dk_153 0 22 (dk_at dksX4_isBuyerHere_1 18 rfl rfl)
theorem dX4_isBuyerHere_45 : decode cX4_isBuyerHere 45 = .ok (.aload_n 0, 1) := dk_42 (dk_at dksX4_isBuyerHere_1 21 rfl rfl)
theorem dX4_isBuyerHere_46 : decode cX4_isBuyerHere 46 = .ok (.iload_n 2, 1) := dk_28 (dk_at dksX4_isBuyerHere_1 22 rfl rfl)
theorem dX4_isBuyerHere_47 : decode cX4_isBuyerHere 47 = .ok (.iconst 1, 1) := dk_4 (dk_at dksX4_isBuyerHere_1 23 rfl rfl)
theorem dX4_isBuyerHere_48 : decode cX4_isBuyerHere 48 = .ok (.iadd, 1) := dk_96 (dk_at dksX4_isBuyerHere_2 0 rfl rfl)
theorem dX4_isBuyerHere_49 : decode cX4_isBuyerHere 49 = .ok (.iconst 0, 1) := dk_3 (dk_at dksX4_isBuyerHere_2 1 rfl rfl)
theorem dX4_isBuyerHere_50 : decode cX4_isBuyerHere 50 = .ok (.aload_n 0, 1) := dk_42 (dk_at dksX4_isBuyerHere_2 2 rfl rfl)
theorem dX4_isBuyerHere_51 : decode cX4_isBuyerHere 51 = .ok (.getfield 26, 3) := dk_180 0 26 (dk_at dksX4_isBuyerHere_2 3 rfl rfl)
theorem dX4_isBuyerHere_54 : decode cX4_isBuyerHere 54 = .ok (.iconst 0, 1) := dk_3 (dk_at dksX4_isBuyerHere_2 6 rfl rfl)
theorem dX4_isBuyerHere_55 : decode cX4_isBuyerHere 55 = .ok (.iaload, 1) := dk_46 (dk_at dksX4_isBuyerHere_2 7 rfl rfl)
theorem dX4_isBuyerHere_56 : decode cX4_isBuyerHere 56 = .ok (.iconst 1, 1) := dk_4 (dk_at dksX4_isBuyerHere_2 8 rfl rfl)
theorem dX4_isBuyerHere_57 : decode cX4_isBuyerHere 57 = .ok (.isub, 1) := dk_100 (dk_at dksX4_isBuyerHere_2 9 rfl rfl)
theorem dX4_isBuyerHere_58 : decode cX4_isBuyerHere 58 = .ok (.invokevirtual 211, 3) := dk_182 0 211 (dk_at dksX4_isBuyerHere_2 10 rfl rfl)
theorem dX4_isBuyerHere_61 : decode cX4_isBuyerHere 61 = .ok (.ifCond .ne 5, 3) := dk_154 0 5 (dk_at dksX4_isBuyerHere_2 13 rfl rfl)
theorem dX4_isBuyerHere_64 : decode cX4_isBuyerHere 64 = .ok (.iconst 0, 1) := dk_3 (dk_at dksX4_isBuyerHere_2 16 rfl rfl)
theorem dX4_isBuyerHere_65 : decode cX4_isBuyerHere 65 = .ok (.ireturn, 1) := dk_172 (dk_at dksX4_isBuyerHere_2 17 rfl rfl)
theorem dX4_isBuyerHere_66 : decode cX4_isBuyerHere 66 = .ok (.aload_n 0, 1) := dk_42 (dk_at dksX4_isBuyerHere_2 18 rfl rfl)
theorem dX4_isBuyerHere_67 : decode cX4_isBuyerHere 67 = .ok (.getfield 26, 3) := dk_180 0 26 (dk_at dksX4_isBuyerHere_2 19 rfl rfl)
theorem dX4_isBuyerHere_70 : decode cX4_isBuyerHere 70 = .ok (.iload_n 2, 1) := dk_28 (dk_at dksX4_isBuyerHere_2 22 rfl rfl)
theorem dX4_isBuyerHere_71 : decode cX4_isBuyerHere 71 = .ok (.iconst 2, 1) := dk_5 (dk_at dksX4_isBuyerHere_2 23 rfl rfl)
theorem dX4_isBuyerHere_72 : decode cX4_isBuyerHere 72 = .ok (.iadd, 1) := dk_96 (dk_at dksX4_isBuyerHere_3 0 rfl rfl)
theorem dX4_isBuyerHere_73 : decode cX4_isBuyerHere 73 = .ok (.iconst 0, 1) := dk_3 (dk_at dksX4_isBuyerHere_3 1 rfl rfl)
theorem dX4_isBuyerHere_74 : decode cX4_isBuyerHere 74 = .ok (.iastore, 1) := dk_79 (dk_at dksX4_isBuyerHere_3 2 rfl rfl)
theorem dX4_isBuyerHere_75 : decode cX4_isBuyerHere 75 = .ok (.aload_n 0, 1) := dk_42 (dk_at dksX4_isBuyerHere_3 3 rfl rfl)
theorem dX4_isBuyerHere_76 : decode cX4_isBuyerHere 76 = .ok (.getfield 26, 3) := dk_180 0 26 (dk_at dksX4_isBuyerHere_3 4 rfl rfl)
theorem dX4_isBuyerHere_79 : decode cX4_isBuyerHere 79 = .ok (.iload_n 2, 1) := dk_28 (dk_at dksX4_isBuyerHere_3 7 rfl rfl)
theorem dX4_isBuyerHere_80 : decode cX4_isBuyerHere 80 = .ok (.iconst 3, 1) := dk_6 (dk_at dksX4_isBuyerHere_3 8 rfl rfl)
theorem dX4_isBuyerHere_81 : decode cX4_isBuyerHere 81 = .ok (.iadd, 1) := dk_96 (dk_at dksX4_isBuyerHere_3 9 rfl rfl)
theorem dX4_isBuyerHere_82 : decode cX4_isBuyerHere 82 = .ok (.iconst 1, 1) := dk_4 (dk_at dksX4_isBuyerHere_3 10 rfl rfl)
theorem dX4_isBuyerHere_83 : decode cX4_isBuyerHere 83 = .ok (.aload_n 0, 1) := dk_42 (dk_at dksX4_isBuyerHere_3 11 rfl rfl)
theorem dX4_isBuyerHere_84 : decode cX4_isBuyerHere 84 = .ok (.getfield 26, 3) := dk_180 0 26 (dk_at dksX4_isBuyerHere_3 12 rfl rfl)
theorem dX4_isBuyerHere_87 : decode cX4_isBuyerHere 87 = .ok (.iconst 2, 1) := dk_5 (dk_at dksX4_isBuyerHere_3 15 rfl rfl)
theorem dX4_isBuyerHere_88 : decode cX4_isBuyerHere 88 = .ok (.iaload, 1) := dk_46 (dk_at dksX4_isBuyerHere_3 16 rfl rfl)
theorem dX4_isBuyerHere_89 : decode cX4_isBuyerHere 89 = .ok (.ishl, 1) := dk_120 (dk_at dksX4_isBuyerHere_3 17 rfl rfl)
theorem dX4_isBuyerHere_90 : decode cX4_isBuyerHere 90 = .ok (.iastore, 1) := dk_79 (dk_at dksX4_isBuyerHere_3 18 rfl rfl)
theorem dX4_isBuyerHere_91 : decode cX4_isBuyerHere 91 = .ok (.aload_n 0, 1) := dk_42 (dk_at dksX4_isBuyerHere_3 19 rfl rfl)
theorem dX4_isBuyerHere_92 : decode cX4_isBuyerHere 92 = .ok (.getfield 26, 3) := dk_180 0 26 (dk_at dksX4_isBuyerHere_3 20 rfl rfl)
theorem dX4_isBuyerHere_95 : decode cX4_isBuyerHere 95 = .ok (.iconst 2, 1) := dk_5 (dk_at dksX4_isBuyerHere_3 23 rfl rfl)
theorem dX4_isBuyerHere_96 : decode cX4_isBuyerHere 96 = .ok (.dup2, 1) := dk_92 (dk_at dksX4_isBuyerHere_4 0 rfl rfl)
theorem dX4_isBuyerHere_97 : decode cX4_isBuyerHere 97 = .ok (.iaload, 1) := dk_46 (dk_at dksX4_isBuyerHere_4 1 rfl rfl)
theorem dX4_isBuyerHere_98 : decode cX4_isBuyerHere 98 = .ok (.iconst 1, 1) := dk_4 (dk_at dksX4_isBuyerHere_4 2 rfl rfl)
theorem dX4_isBuyerHere_99 : decode cX4_isBuyerHere 99 = .ok (.iadd, 1) := dk_96 (dk_at dksX4_isBuyerHere_4 3 rfl rfl)
theorem dX4_isBuyerHere_100 : decode cX4_isBuyerHere 100 = .ok (.iastore, 1) := dk_79 (dk_at dksX4_isBuyerHere_4 4 rfl rfl)
theorem dX4_isBuyerHere_101 : decode cX4_isBuyerHere 101 = .ok (.iconst 1, 1) := dk_4 (dk_at dksX4_isBuyerHere_4 5 rfl rfl)
theorem dX4_isBuyerHere_102 : decode cX4_isBuyerHere 102 = .ok (.ireturn, 1) := dk_172 (dk_at dksX4_isBuyerHere_4 6 rfl rfl)
abbrev cX4_isClubHere : ByteArray := prog_20_method_36_code
def yX4_isClubHere : MethodName := ⟨RX4, "isClubHere", "()Z"⟩
def dkwX4_isClubHere_6 : List UInt8 := [167, 255, 218, 4, 172]
abbrev dktX4_isClubHere_6 : List UInt8 := dkwX4_isClubHere_6 ++ []
def dkwX4_isClubHere_5 : List UInt8 := [184, 0, 215, 153, 0, 18, 42, 180, 0, 26, 16, 70, 7, 21, 4, 104, 96, 6, 96, 29, 79, 132, 4, 1]
abbrev dktX4_isClubHere_5 : List UInt8 := dkwX4_isClubHere_5 ++ dktX4_isClubHere_6
def dkwX4_isClubHere_4 : List UInt8 := [96, 6, 96, 46, 128, 62, 3, 54, 4, 21, 4, 42, 180, 0, 26, 5, 46, 162, 0, 33, 29, 21, 4]
abbrev dktX4_isClubHere_4 : List UInt8 := dkwX4_isClubHere_4 ++ dktX4_isClubHere_5
def dkwX4_isClubHere_3 : List UInt8 := [180, 0, 26, 16, 70, 7, 27, 104, 96, 6, 96, 46, 42, 180, 0, 26, 16, 70, 7, 42, 180, 0, 106, 104]
abbrev dktX4_isClubHere_3 : List UInt8 := dkwX4_isClubHere_3 ++ dktX4_isClubHere_4
def dkwX4_isClubHere_2 : List UInt8 := [182, 0, 160, 154, 0, 5, 3, 172, 42, 180, 0, 106, 27, 160, 0, 10, 42, 4, 28, 182, 0, 102, 172, 42]
abbrev dktX4_isClubHere_2 : List UInt8 := dkwX4_isClubHere_2 ++ dktX4_isClubHere_3
def dkwX4_isClubHere_1 : List UInt8 := [180, 0, 106, 60, 42, 182, 0, 84, 87, 42, 180, 0, 81, 61, 42, 3, 42, 180, 0, 26, 5, 46, 4, 100]
abbrev dktX4_isClubHere_1 : List UInt8 := dkwX4_isClubHere_1 ++ dktX4_isClubHere_2
def dkwX4_isClubHere_0 : List UInt8 := [42, 182, 0, 96, 42, 3, 42, 180, 0, 26, 5, 46, 4, 100, 182, 0, 160, 154, 0, 5, 3, 172, 42]
abbrev dktX4_isClubHere_0 : List UInt8 := dkwX4_isClubHere_0 ++ dktX4_isClubHere_1
theorem dksX4_isClubHere_0 : cX4_isClubHere.data.toList.drop 0 = dktX4_isClubHere_0 := by decide +kernel
theorem dksX4_isClubHere_1 : cX4_isClubHere.data.toList.drop 23 = dktX4_isClubHere_1 := dk_seg dksX4_isClubHere_0 23 rfl rfl
theorem dksX4_isClubHere_2 : cX4_isClubHere.data.toList.drop 47 = dktX4_isClubHere_2 := dk_seg dksX4_isClubHere_1 24 rfl rfl
theorem dksX4_isClubHere_3 : cX4_isClubHere.data.toList.drop 71 = dktX4_isClubHere_3 := dk_seg dksX4_isClubHere_2 24 rfl rfl
theorem dksX4_isClubHere_4 : cX4_isClubHere.data.toList.drop 95 = dktX4_isClubHere_4 := dk_seg dksX4_isClubHere_3 24 rfl rfl
theorem dksX4_isClubHere_5 : cX4_isClubHere.data.toList.drop 118 = dktX4_isClubHere_5 := dk_seg dksX4_isClubHere_4 23 rfl rfl
theorem dksX4_isClubHere_6 : cX4_isClubHere.data.toList.drop 142 = dktX4_isClubHere_6 := dk_seg dksX4_isClubHere_5 24 rfl rfl
theorem dX4_isClubHere_0 : decode cX4_isClubHere 0 = .ok (.aload_n 0, 1) := dk_42 (dk_at dksX4_isClubHere_0 0 rfl rfl)
theorem dX4_isClubHere_1 : decode cX4_isClubHere 1 = .ok (.invokevirtual 96, 3) := dk_182 0 96 (dk_at dksX4_isClubHere_0 1 rfl rfl)
theorem dX4_isClubHere_4 : decode cX4_isClubHere 4 = .ok (.aload_n 0, 1) := dk_42 (dk_at dksX4_isClubHere_0 4 rfl rfl)
theorem dX4_isClubHere_5 : decode cX4_isClubHere 5 = .ok (.iconst 0, 1) := dk_3 (dk_at dksX4_isClubHere_0 5 rfl rfl)
theorem dX4_isClubHere_6 : decode cX4_isClubHere 6 = .ok (.aload_n 0, 1) := dk_42 (dk_at dksX4_isClubHere_0 6 rfl rfl)
theorem dX4_isClubHere_7 : decode cX4_isClubHere 7 = .ok (.getfield 26, 3) := dk_180 0 26 (dk_at dksX4_isClubHere_0 7 rfl rfl)
theorem dX4_isClubHere_10 : decode cX4_isClubHere 10 = .ok (.iconst 2, 1) := dk_5 (dk_at dksX4_isClubHere_0 10 rfl rfl)
theorem dX4_isClubHere_11 : decode cX4_isClubHere 11 = .ok (.iaload, 1) := dk_46 (dk_at dksX4_isClubHere_0 11 rfl rfl)
theorem dX4_isClubHere_12 : decode cX4_isClubHere 12 = .ok (.iconst 1, 1) := dk_4 (dk_at dksX4_isClubHere_0 12 rfl rfl)
theorem dX4_isClubHere_13 : decode cX4_isClubHere 13 = .ok (.isub, 1) := dk_100 (dk_at dksX4_isClubHere_0 13 rfl rfl)
theorem dX4_isClubHere_14 : decode cX4_isClubHere 14 = .ok (.invokevirtual 160, 3) := dk_182 0 160 (dk_at dksX4_isClubHere_0 14 rfl rfl)
theorem dX4_isClubHere_17 : decode cX4_isClubHere 17 = .ok (.ifCond .ne 5, 3) := dk_154 0 5 (dk_at dksX4_isClubHere_0 17 rfl rfl)
theorem dX4_isClubHere_20 : decode cX4_isClubHere 20 = .ok (.iconst 0, 1) := dk_3 (dk_at dksX4_isClubHere_0 20 rfl rfl)
theorem dX4_isClubHere_21 : decode cX4_isClubHere 21 = .ok (.ireturn, 1) := dk_172 (dk_at dksX4_isClubHere_0 21 rfl rfl)
theorem dX4_isClubHere_22 : decode cX4_isClubHere 22 = .ok (.aload_n 0, 1) := dk_42 (dk_at dksX4_isClubHere_0 22 rfl rfl)
theorem dX4_isClubHere_23 : decode cX4_isClubHere 23 = .ok (.getfield 106, 3) := dk_180 0 106 (dk_at dksX4_isClubHere_1 0 rfl rfl)
theorem dX4_isClubHere_26 : decode cX4_isClubHere 26 = .ok (.istore_n 1, 1) := dk_60 (dk_at dksX4_isClubHere_1 3 rfl rfl)
theorem dX4_isClubHere_27 : decode cX4_isClubHere 27 = .ok (.aload_n 0, 1) := dk_42 (dk_at dksX4_isClubHere_1 4 rfl rfl)
theorem dX4_isClubHere_28 : decode cX4_isClubHere 28 = .ok (.invokevirtual 84, 3) := dk_182 0 84 (dk_at dksX4_isClubHere_1 5 rfl rfl)
theorem dX4_isClubHere_31 : decode cX4_isClubHere 31 = .ok (.pop, 1) := dk_87 (dk_at dksX4_isClubHere_1 8 rfl rfl)
theorem dX4_isClubHere_32 : decode cX4_isClubHere 32 = .ok (.aload_n 0, 1) := dk_42 (dk_at dksX4_isClubHere_1 9 rfl rfl)
theorem dX4_isClubHere_33 : decode cX4_isClubHere 33 = .ok (.getfield 81, 3) := dk_180 0 81 (dk_at dksX4_isClubHere_1 10 rfl rfl)
theorem dX4_isClubHere_36 : decode cX4_isClubHere 36 = .ok (.istore_n 2, 1) := dk_61 (dk_at dksX4_isClubHere_1 13 rfl rfl)
theorem dX4_isClubHere_37 : decode cX4_isClubHere 37 = .ok (.aload_n 0, 1) := dk_42 (dk_at dksX4_isClubHere_1 14 rfl rfl)
theorem dX4_isClubHere_38 : decode cX4_isClubHere 38 = .ok (.iconst 0, 1) := dk_3 (dk_at dksX4_isClubHere_1 15 rfl rfl)
theorem dX4_isClubHere_39 : decode cX4_isClubHere 39 = .ok (.aload_n 0, 1) := dk_42 (dk_at dksX4_isClubHere_1 16 rfl rfl)
theorem dX4_isClubHere_40 : decode cX4_isClubHere 40 = .ok (.getfield 26, 3) := dk_180 0 26 (dk_at dksX4_isClubHere_1 17 rfl rfl)
theorem dX4_isClubHere_43 : decode cX4_isClubHere 43 = .ok (.iconst 2, 1) := dk_5 (dk_at dksX4_isClubHere_1 20 rfl rfl)
theorem dX4_isClubHere_44 : decode cX4_isClubHere 44 = .ok (.iaload, 1) := dk_46 (dk_at dksX4_isClubHere_1 21 rfl rfl)
theorem dX4_isClubHere_45 : decode cX4_isClubHere 45 = .ok (.iconst 1, 1) := dk_4 (dk_at dksX4_isClubHere_1 22 rfl rfl)
theorem dX4_isClubHere_46 : decode cX4_isClubHere 46 = .ok (.isub, 1) := dk_100 (dk_at dksX4_isClubHere_1 23 rfl rfl)
theorem dX4_isClubHere_47 : decode cX4_isClubHere 47 = .ok (.invokevirtual 160, 3) := dk_182 0 160 (dk_at dksX4_isClubHere_2 0 rfl rfl)
theorem dX4_isClubHere_50 : decode cX4_isClubHere 50 = .ok (.ifCond .ne 5, 3) := dk_154 0 5 (dk_at dksX4_isClubHere_2 3 rfl rfl)
theorem dX4_isClubHere_53 : decode cX4_isClubHere 53 = .ok (.iconst 0, 1) := dk_3 (dk_at dksX4_isClubHere_2 6 rfl rfl)
theorem dX4_isClubHere_54 : decode cX4_isClubHere 54 = .ok (.ireturn, 1) := dk_172 (dk_at dksX4_isClubHere_2 7 rfl rfl)
theorem dX4_isClubHere_55 : decode cX4_isClubHere 55 = .ok (.aload_n 0, 1) := dk_42 (dk_at dksX4_isClubHere_2 8 rfl rfl)
theorem dX4_isClubHere_56 : decode cX4_isClubHere 56 = .ok (.getfield 106, 3) := dk_180 0 106 (dk_at dksX4_isClubHere_2 9 rfl rfl)
theorem dX4_isClubHere_59 : decode cX4_isClubHere 59 = .ok (.iload_n 1, 1) := dk_27 (dk_at dksX4_isClubHere_2 12 rfl rfl)
theorem dX4_isClubHere_60 : decode cX4_isClubHere 60 = .ok (.if_icmp .ne 10, 3) := dk_160 0 10 (dk_at dksX4_isClubHere_2 13 rfl rfl)
theorem dX4_isClubHere_63 : decode cX4_isClubHere 63 = .ok (.aload_n 0, 1) := dk_42 (dk_at dksX4_isClubHere_2 16 rfl rfl)
theorem dX4_isClubHere_64 : decode cX4_isClubHere 64 = .ok (.iconst 1, 1) := dk_4 (dk_at dksX4_isClubHere_2 17 rfl rfl)
theorem dX4_isClubHere_65 : decode cX4_isClubHere 65 = .ok (.iload_n 2, 1) := dk_28 (dk_at dksX4_isClubHere_2 18 rfl rfl)
theorem dX4_isClubHere_66 : decode cX4_isClubHere 66 = .ok (.invokevirtual 102, 3) := dk_182 0 102 (dk_at dksX4_isClubHere_2 19 rfl rfl)
theorem dX4_isClubHere_69 : decode cX4_isClubHere 69 = .ok (.ireturn, 1) := dk_172 (dk_at dksX4_isClubHere_2 22 rfl rfl)
theorem dX4_isClubHere_70 : decode cX4_isClubHere 70 = .ok (.aload_n 0, 1) := dk_42 (dk_at dksX4_isClubHere_2 23 rfl rfl)
theorem dX4_isClubHere_71 : decode cX4_isClubHere 71 = .ok (.getfield 26, 3) := dk_180 0 26 (dk_at dksX4_isClubHere_3 0 rfl rfl)
theorem dX4_isClubHere_74 : decode cX4_isClubHere 74 = .ok (.bipush 70, 2) := dk_16 70 (dk_at dksX4_isClubHere_3 3 rfl rfl)
theorem dX4_isClubHere_76 : decode cX4_isClubHere 76 = .ok (.iconst 4, 1) := dk_7 (dk_at dksX4_isClubHere_3 5 rfl rfl)
theorem dX4_isClubHere_77 : decode cX4_isClubHere 77 = .ok (.iload_n 1, 1) := dk_27 (dk_at dksX4_isClubHere_3 6 rfl rfl)
theorem dX4_isClubHere_78 : decode cX4_isClubHere 78 = .ok (.imul, 1) := dk_104 (dk_at dksX4_isClubHere_3 7 rfl rfl)
theorem dX4_isClubHere_79 : decode cX4_isClubHere 79 = .ok (.iadd, 1) := dk_96 (dk_at dksX4_isClubHere_3 8 rfl rfl)
theorem dX4_isClubHere_80 : decode cX4_isClubHere 80 = .ok (.iconst 3, 1) := dk_6 (dk_at dksX4_isClubHere_3 9 rfl rfl)
theorem dX4_isClubHere_81 : decode cX4_isClubHere 81 = .ok (.iadd, 1) := dk_96 (dk_at dksX4_isClubHere_3 10 rfl rfl)
theorem dX4_isClubHere_82 : decode cX4_isClubHere 82 = .ok (.iaload, 1) := dk_46 (dk_at dksX4_isClubHere_3 11 rfl rfl)
theorem dX4_isClubHere_83 : decode cX4_isClubHere 83 = .ok (.aload_n 0, 1) := dk_42 (dk_at dksX4_isClubHere_3 12 rfl rfl)
theorem dX4_isClubHere_84 : decode cX4_isClubHere 84 = .ok (.getfield 26, 3) := dk_180 0 26 (dk_at dksX4_isClubHere_3 13 rfl rfl)
theorem dX4_isClubHere_87 : decode cX4_isClubHere 87 = .ok (.bipush 70, 2) := dk_16 70 (dk_at dksX4_isClubHere_3 16 rfl rfl)
theorem dX4_isClubHere_89 : decode cX4_isClubHere 89 = .ok (.iconst 4, 1) := dk_7 (dk_at dksX4_isClubHere_3 18 rfl rfl)
theorem dX4_isClubHere_90 : decode cX4_isClubHere 90 = .ok (.aload_n 0, 1) := dk_42 (dk_at dksX4_isClubHere_3 19 rfl rfl)
theorem dX4_isClubHere_91 : decode cX4_isClubHere 91 = .ok (.getfield 106, 3) := dk_180 0 106 (dk_at dksX4_isClubHere_3 20 rfl rfl)
theorem dX4_isClubHere_94 : decode cX4_isClubHere 94 = .ok (.imul, 1) := dk_104 (dk_at dksX4_isClubHere_3 23 rfl rfl)
theorem dX4_isClubHere_95 : decode cX4_isClubHere 95 = .ok (.iadd, 1) := dk_96 (dk_at dksX4_isClubHere_4 0 rfl rfl)
theorem dX4_isClubHere_96 : decode cX4_isClubHere 96 = .ok (.iconst 3, 1) := dk_6 (dk_at dksX4_isClubHere_4 1 rfl rfl)
theorem dX4_isClubHere_97 : decode cX4_isClubHere 97 = .ok (.iadd, 1) := dk_96 (dk_at dksX4_isClubHere_4 2 rfl rfl)
theorem dX4_isClubHere_98 : decode cX4_isClubHere 98 = .ok (.iaload, 1) := dk_46 (dk_at dksX4_isClubHere_4 3 rfl rfl)
theorem dX4_isClubHere_99 : decode cX4_isClubHere 99 = .ok (.ior, 1) := dk_128 (dk_at dksX4_isClubHere_4 4 rfl rfl)
theorem dX4_isClubHere_100 : decode cX4_isClubHere 100 = .ok (.istore_n 3, 1) := dk_62 (dk_at dksX4_isClubHere_4 5 rfl rfl)
theorem dX4_isClubHere_101 : decode cX4_isClubHere 101 = .ok (.iconst 0, 1) := dk_3 (dk_at dksX4_isClubHere_4 6 rfl rfl)
theorem dX4_isClubHere_102 : decode cX4_isClubHere 102 = .ok (.istore 4, 2) := dk_54 4 (dk_at dksX4_isClubHere_4 7 rfl rfl)
theorem dX4_isClubHere_104 : decode cX4_isClubHere 104 = .ok (.iload 4, 2) := dk_21 4 (dk_at dksX4_isClubHere_4 9 rfl rfl)
theorem dX4_isClubHere_106 : decode cX4_isClubHere 106 = .ok (.aload_n 0, 1) := dk_42 (dk_at dksX4_isClubHere_4 11 rfl rfl)
theorem dX4_isClubHere_107 : decode cX4_isClubHere 107 = .ok (.getfield 26, 3) := dk_180 0 26 (dk_at dksX4_isClubHere_4 12 rfl rfl)
theorem dX4_isClubHere_110 : decode cX4_isClubHere 110 = .ok (.iconst 2, 1) := dk_5 (dk_at dksX4_isClubHere_4 15 rfl rfl)
theorem dX4_isClubHere_111 : decode cX4_isClubHere 111 = .ok (.iaload, 1) := dk_46 (dk_at dksX4_isClubHere_4 16 rfl rfl)
theorem dX4_isClubHere_112 : decode cX4_isClubHere 112 = .ok (.if_icmp .ge 33, 3) := dk_162 0 33 (dk_at dksX4_isClubHere_4 17 rfl rfl)
theorem dX4_isClubHere_115 : decode cX4_isClubHere 115 = .ok (.iload_n 3, 1) := dk_29 (dk_at dksX4_isClubHere_4 20 rfl rfl)
theorem dX4_isClubHere_116 : decode cX4_isClubHere 116 = .ok (.iload 4, 2) := dk_21 4 (dk_at dksX4_isClubHere_4 21 rfl rfl)
theorem dX4_isClubHere_118 : decode cX4_isClubHere 118 = .ok (.invokestatic 215, 3) := dk_184 0 215 (dk_at dksX4_isClubHere_5 0 rfl rfl)
theorem dX4_isClubHere_121 : decode cX4_isClubHere 121 = .ok (.ifCond .eq 18, 3) := dk_153 0 18 (dk_at dksX4_isClubHere_5 3 rfl rfl)
theorem dX4_isClubHere_124 : decode cX4_isClubHere 124 = .ok (.aload_n 0, 1) := dk_42 (dk_at dksX4_isClubHere_5 6 rfl rfl)
theorem dX4_isClubHere_125 : decode cX4_isClubHere 125 = .ok (.getfield 26, 3) := dk_180 0 26 (dk_at dksX4_isClubHere_5 7 rfl rfl)
theorem dX4_isClubHere_128 : decode cX4_isClubHere 128 = .ok (.bipush 70, 2) := dk_16 70 (dk_at dksX4_isClubHere_5 10 rfl rfl)
theorem dX4_isClubHere_130 : decode cX4_isClubHere 130 = .ok (.iconst 4, 1) := dk_7 (dk_at dksX4_isClubHere_5 12 rfl rfl)
theorem dX4_isClubHere_131 : decode cX4_isClubHere 131 = .ok (.iload 4, 2) := dk_21 4 (dk_at dksX4_isClubHere_5 13 rfl rfl)
theorem dX4_isClubHere_133 : decode cX4_isClubHere 133 = .ok (.imul, 1) := dk_104 (dk_at dksX4_isClubHere_5 15 rfl rfl)
theorem dX4_isClubHere_134 : decode cX4_isClubHere 134 = .ok (.iadd, 1) := dk_96 (dk_at dksX4_isClubHere_5 16 rfl rfl)
theorem dX4_isClubHere_135 : decode cX4_isClubHere 135 = .ok (.iconst 3, 1) := dk_6 (dk_at dksX4_isClubHere_5 17 rfl rfl)
theorem dX4_isClubHere_136 : decode cX4_isClubHere 136 = .ok (.iadd, 1) := dk_96 (dk_at dksX4_isClubHere_5 18 rfl rfl)
theorem dX4_isClubHere_137 : decode cX4_isClubHere 137 = .ok (.iload_n 3, 1) := dk_29 (dk_at dksX4_isClubHere_5 19 rfl rfl)
theorem dX4_isClubHere_138 : decode cX4_isClubHere 138 = .ok (.iastore, 1) := dk_79 (dk_at dksX4_isClubHere_5 20 rfl rfl)
theorem dX4_isClubHere_139 : decode cX4_isClubHere 139 = .ok (.iinc 4 1, 3) := dk_132 4 1 (dk_at dksX4_isClubHere_5 21 rfl rfl)
theorem dX4_isClubHere_142 : decode cX4_isClubHere 142 = .ok (.goto (-38), 3) := dk_167 255 218 (dk_at dksX4_isClubHere_6 0 rfl rfl)
theorem dX4_isClubHere_145 : decode cX4_isClubHere 145 = .ok (.iconst 1, 1) := dk_4 (dk_at dksX4_isClubHere_6 3 rfl rfl)
theorem dX4_isClubHere_146 : decode cX4_isClubHere 146 = .ok (.ireturn, 1) := dk_172 (dk_at dksX4_isClubHere_6 4 rfl rfl)
abbrev cX4_isOf : ByteArray := prog_20_method_3_code
def yX4_isOf : MethodName := ⟨RX4, "isOf", "(II)Z"⟩
def dkwX4_isOf_0 : List UInt8 := [26, 27, 122, 4, 126, 4, 160, 0, 7, 4, 167, 0, 4, 3, 172]
abbrev dktX4_isOf_0 : List UInt8 := dkwX4_isOf_0 ++ []
theorem dksX4_isOf_0 : cX4_isOf.data.toList.drop 0 = dktX4_isOf_0 := by decide +kernel
theorem dX4_isOf_0 : decode cX4_isOf 0 = .ok (.iload_n 0, 1) := dk_26 (dk_at dksX4_isOf_0 0 rfl rfl)
theorem dX4_isOf_1 : decode cX4_isOf 1 = .ok (.iload_n 1, 1) := dk_27 (dk_at dksX4_isOf_0 1 rfl rfl)
theorem dX4_isOf_2 : decode cX4_isOf 2 = .ok (.ishr, 1) := dk_122 (dk_at dksX4_isOf_0 2 rfl rfl)
theorem dX4_isOf_3 : decode cX4_isOf 3 = .ok (.iconst 1, 1) := dk_4 (dk_at dksX4_isOf_0 3 rfl rfl)
theorem dX4_isOf_4 : decode cX4_isOf 4 = .ok (.iand, 1) := dk_126 (dk_at dksX4_isOf_0 4 rfl rfl)
theorem dX4_isOf_5 : decode cX4_isOf 5 = .ok (.iconst 1, 1) := dk_4 (dk_at dksX4_isOf_0 5 rfl rfl)
theorem dX4_isOf_6 : decode cX4_isOf 6 = .ok (.if_icmp .ne 7, 3) := dk_160 0 7 (dk_at dksX4_isOf_0 6 rfl rfl)
theorem dX4_isOf_9 : decode cX4_isOf 9 = .ok (.iconst 1, 1) := dk_4 (dk_at dksX4_isOf_0 9 rfl rfl)
theorem dX4_isOf_10 : decode cX4_isOf 10 = .ok (.goto 4, 3) := dk_167 0 4 (dk_at dksX4_isOf_0 10 rfl rfl)
theorem dX4_isOf_13 : decode cX4_isOf 13 = .ok (.iconst 0, 1) := dk_3 (dk_at dksX4_isOf_0 13 rfl rfl)
theorem dX4_isOf_14 : decode cX4_isOf 14 = .ok (.ireturn, 1) := dk_172 (dk_at dksX4_isOf_0 14 rfl rfl)
abbrev cX4_isOnceHere : ByteArray := prog_20_method_37_code
def yX4_isOnceHere : MethodName := ⟨RX4, "isOnceHere", "(IIII)Z"⟩
def dkwX4_isOnceHere_1 : List UInt8 := [21, 4, 182, 0, 211, 172]
abbrev dktX4_isOnceHere_1 : List UInt8 := dkwX4_isOnceHere_1 ++ []
def dkwX4_isOnceHere_0 : List UInt8 := [42, 180, 0, 26, 27, 46, 155, 0, 10, 42, 7, 28, 182, 0, 102, 172, 42, 182, 0, 96, 42, 27, 29]
abbrev dktX4_isOnceHere_0 : List UInt8 := dkwX4_isOnceHere_0 ++ dktX4_isOnceHere_1
theorem dksX4_isOnceHere_0 : cX4_isOnceHere.data.toList.drop 0 = dktX4_isOnceHere_0 := by decide +kernel
theorem dksX4_isOnceHere_1 : cX4_isOnceHere.data.toList.drop 23 = dktX4_isOnceHere_1 := dk_seg dksX4_isOnceHere_0 23 rfl rfl
theorem dX4_isOnceHere_0 : decode cX4_isOnceHere 0 = .ok (.aload_n 0, 1) := dk_42 (dk_at dksX4_isOnceHere_0 0 rfl rfl)
theorem dX4_isOnceHere_1 : decode cX4_isOnceHere 1 = .ok (.getfield 26, 3) := dk_180 0 26 (dk_at dksX4_isOnceHere_0 1 rfl rfl)
theorem dX4_isOnceHere_4 : decode cX4_isOnceHere 4 = .ok (.iload_n 1, 1) := dk_27 (dk_at dksX4_isOnceHere_0 4 rfl rfl)
theorem dX4_isOnceHere_5 : decode cX4_isOnceHere 5 = .ok (.iaload, 1) := dk_46 (dk_at dksX4_isOnceHere_0 5 rfl rfl)
theorem dX4_isOnceHere_6 : decode cX4_isOnceHere 6 = .ok (.ifCond .lt 10, 3) := dk_155 0 10 (dk_at dksX4_isOnceHere_0 6 rfl rfl)
theorem dX4_isOnceHere_9 : decode cX4_isOnceHere 9 = .ok (.aload_n 0, 1) := dk_42 (dk_at dksX4_isOnceHere_0 9 rfl rfl)
theorem dX4_isOnceHere_10 : decode cX4_isOnceHere 10 = .ok (.iconst 4, 1) := dk_7 (dk_at dksX4_isOnceHere_0 10 rfl rfl)
theorem dX4_isOnceHere_11 : decode cX4_isOnceHere 11 = .ok (.iload_n 2, 1) := dk_28 (dk_at dksX4_isOnceHere_0 11 rfl rfl)
theorem dX4_isOnceHere_12 : decode cX4_isOnceHere 12 = .ok (.invokevirtual 102, 3) := dk_182 0 102 (dk_at dksX4_isOnceHere_0 12 rfl rfl)
theorem dX4_isOnceHere_15 : decode cX4_isOnceHere 15 = .ok (.ireturn, 1) := dk_172 (dk_at dksX4_isOnceHere_0 15 rfl rfl)
theorem dX4_isOnceHere_16 : decode cX4_isOnceHere 16 = .ok (.aload_n 0, 1) := dk_42 (dk_at dksX4_isOnceHere_0 16 rfl rfl)
theorem dX4_isOnceHere_17 : decode cX4_isOnceHere 17 = .ok (.invokevirtual 96, 3) := dk_182 0 96 (dk_at dksX4_isOnceHere_0 17 rfl rfl)
theorem dX4_isOnceHere_20 : decode cX4_isOnceHere 20 = .ok (.aload_n 0, 1) := dk_42 (dk_at dksX4_isOnceHere_0 20 rfl rfl)
theorem dX4_isOnceHere_21 : decode cX4_isOnceHere 21 = .ok (.iload_n 1, 1) := dk_27 (dk_at dksX4_isOnceHere_0 21 rfl rfl)
theorem dX4_isOnceHere_22 : decode cX4_isOnceHere 22 = .ok (.iload_n 3, 1) := dk_29 (dk_at dksX4_isOnceHere_0 22 rfl rfl)
theorem dX4_isOnceHere_23 : decode cX4_isOnceHere 23 = .ok (.iload 4, 2) := dk_21 4 (dk_at dksX4_isOnceHere_1 0 rfl rfl)
theorem dX4_isOnceHere_25 : decode cX4_isOnceHere 25 = .ok (.invokevirtual 211, 3) := dk_182 0 211 (dk_at dksX4_isOnceHere_1 2 rfl rfl)
theorem dX4_isOnceHere_28 : decode cX4_isOnceHere 28 = .ok (.ireturn, 1) := dk_172 (dk_at dksX4_isOnceHere_1 5 rfl rfl)
abbrev cX4_isDoingHere : ByteArray := prog_20_method_30_code
def yX4_isDoingHere : MethodName := ⟨RX4, "isDoingHere", "(I)Z"⟩
def dkwX4_isDoingHere_6 : List UInt8 := [180, 0, 139, 92, 46, 4, 96, 79, 4, 172]
abbrev dktX4_isDoingHere_6 : List UInt8 := dkwX4_isDoingHere_6 ++ []
def dkwX4_isDoingHere_5 : List UInt8 := [172, 42, 180, 0, 20, 28, 7, 96, 42, 180, 0, 17, 42, 180, 0, 139, 46, 79, 42, 180, 0, 23, 42]
abbrev dktX4_isDoingHere_5 : List UInt8 := dkwX4_isDoingHere_5 ++ dktX4_isDoingHere_6
def dkwX4_isDoingHere_4 : List UInt8 := [180, 0, 20, 28, 6, 96, 42, 180, 0, 17, 42, 180, 0, 139, 46, 79, 42, 182, 0, 208, 154, 0, 5, 3]
abbrev dktX4_isDoingHere_4 : List UInt8 := dkwX4_isDoingHere_4 ++ dktX4_isDoingHere_5
def dkwX4_isDoingHere_3 : List UInt8 := [46, 79, 42, 180, 0, 20, 28, 6, 96, 2, 79, 42, 20, 0, 203, 182, 0, 205, 153, 0, 29, 42]
abbrev dktX4_isDoingHere_3 : List UInt8 := dkwX4_isDoingHere_3 ++ dktX4_isDoingHere_4
def dkwX4_isDoingHere_2 : List UInt8 := [42, 182, 0, 176, 154, 0, 5, 3, 172, 42, 180, 0, 20, 28, 5, 96, 42, 180, 0, 17, 42, 180, 0, 139]
abbrev dktX4_isDoingHere_2 : List UInt8 := dkwX4_isDoingHere_2 ++ dktX4_isDoingHere_3
def dkwX4_isDoingHere_1 : List UInt8 := [42, 180, 0, 20, 28, 27, 79, 42, 180, 0, 20, 28, 4, 96, 42, 180, 0, 17, 42, 180, 0, 139, 46, 79]
abbrev dktX4_isDoingHere_1 : List UInt8 := dkwX4_isDoingHere_1 ++ dktX4_isDoingHere_2
def dkwX4_isDoingHere_0 : List UInt8 := [42, 182, 0, 96, 16, 60, 42, 180, 0, 139, 104, 8, 42, 180, 0, 23, 42, 180, 0, 139, 46, 104, 96, 61]
abbrev dktX4_isDoingHere_0 : List UInt8 := dkwX4_isDoingHere_0 ++ dktX4_isDoingHere_1
theorem dksX4_isDoingHere_0 : cX4_isDoingHere.data.toList.drop 0 = dktX4_isDoingHere_0 := by decide +kernel
theorem dksX4_isDoingHere_1 : cX4_isDoingHere.data.toList.drop 24 = dktX4_isDoingHere_1 := dk_seg dksX4_isDoingHere_0 24 rfl rfl
theorem dksX4_isDoingHere_2 : cX4_isDoingHere.data.toList.drop 48 = dktX4_isDoingHere_2 := dk_seg dksX4_isDoingHere_1 24 rfl rfl
theorem dksX4_isDoingHere_3 : cX4_isDoingHere.data.toList.drop 72 = dktX4_isDoingHere_3 := dk_seg dksX4_isDoingHere_2 24 rfl rfl
theorem dksX4_isDoingHere_4 : cX4_isDoingHere.data.toList.drop 94 = dktX4_isDoingHere_4 := dk_seg dksX4_isDoingHere_3 22 rfl rfl
theorem dksX4_isDoingHere_5 : cX4_isDoingHere.data.toList.drop 118 = dktX4_isDoingHere_5 := dk_seg dksX4_isDoingHere_4 24 rfl rfl
theorem dksX4_isDoingHere_6 : cX4_isDoingHere.data.toList.drop 141 = dktX4_isDoingHere_6 := dk_seg dksX4_isDoingHere_5 23 rfl rfl
theorem dX4_isDoingHere_0 : decode cX4_isDoingHere 0 = .ok (.aload_n 0, 1) := dk_42 (dk_at dksX4_isDoingHere_0 0 rfl rfl)
theorem dX4_isDoingHere_1 : decode cX4_isDoingHere 1 = .ok (.invokevirtual 96, 3) := dk_182 0 96 (dk_at dksX4_isDoingHere_0 1 rfl rfl)
theorem dX4_isDoingHere_4 : decode cX4_isDoingHere 4 = .ok (.bipush 60, 2) := dk_16 60 (dk_at dksX4_isDoingHere_0 4 rfl rfl)
theorem dX4_isDoingHere_6 : decode cX4_isDoingHere 6 = .ok (.aload_n 0, 1) := dk_42 (dk_at dksX4_isDoingHere_0 6 rfl rfl)
theorem dX4_isDoingHere_7 : decode cX4_isDoingHere 7 = .ok (.getfield 139, 3) := dk_180 0 139 (dk_at dksX4_isDoingHere_0 7 rfl rfl)
theorem dX4_isDoingHere_10 : decode cX4_isDoingHere 10 = .ok (.imul, 1) := dk_104 (dk_at dksX4_isDoingHere_0 10 rfl rfl)
theorem dX4_isDoingHere_11 : decode cX4_isDoingHere 11 = .ok (.iconst 5, 1) := dk_8 (dk_at dksX4_isDoingHere_0 11 rfl rfl)
theorem dX4_isDoingHere_12 : decode cX4_isDoingHere 12 = .ok (.aload_n 0, 1) := dk_42 (dk_at dksX4_isDoingHere_0 12 rfl rfl)
theorem dX4_isDoingHere_13 : decode cX4_isDoingHere 13 = .ok (.getfield 23, 3) := dk_180 0 23 (dk_at dksX4_isDoingHere_0 13 rfl rfl)
theorem dX4_isDoingHere_16 : decode cX4_isDoingHere 16 = .ok (.aload_n 0, 1) := dk_42 (dk_at dksX4_isDoingHere_0 16 rfl rfl)
theorem dX4_isDoingHere_17 : decode cX4_isDoingHere 17 = .ok (.getfield 139, 3) := dk_180 0 139 (dk_at dksX4_isDoingHere_0 17 rfl rfl)
theorem dX4_isDoingHere_20 : decode cX4_isDoingHere 20 = .ok (.iaload, 1) := dk_46 (dk_at dksX4_isDoingHere_0 20 rfl rfl)
theorem dX4_isDoingHere_21 : decode cX4_isDoingHere 21 = .ok (.imul, 1) := dk_104 (dk_at dksX4_isDoingHere_0 21 rfl rfl)
theorem dX4_isDoingHere_22 : decode cX4_isDoingHere 22 = .ok (.iadd, 1) := dk_96 (dk_at dksX4_isDoingHere_0 22 rfl rfl)
theorem dX4_isDoingHere_23 : decode cX4_isDoingHere 23 = .ok (.istore_n 2, 1) := dk_61 (dk_at dksX4_isDoingHere_0 23 rfl rfl)
theorem dX4_isDoingHere_24 : decode cX4_isDoingHere 24 = .ok (.aload_n 0, 1) := dk_42 (dk_at dksX4_isDoingHere_1 0 rfl rfl)
theorem dX4_isDoingHere_25 : decode cX4_isDoingHere 25 = .ok (.getfield 20, 3) := dk_180 0 20 (dk_at dksX4_isDoingHere_1 1 rfl rfl)
theorem dX4_isDoingHere_28 : decode cX4_isDoingHere 28 = .ok (.iload_n 2, 1) := dk_28 (dk_at dksX4_isDoingHere_1 4 rfl rfl)
theorem dX4_isDoingHere_29 : decode cX4_isDoingHere 29 = .ok (.iload_n 1, 1) := dk_27 (dk_at dksX4_isDoingHere_1 5 rfl rfl)
theorem dX4_isDoingHere_30 : decode cX4_isDoingHere 30 = .ok (.iastore, 1) := dk_79 (dk_at dksX4_isDoingHere_1 6 rfl rfl)
theorem dX4_isDoingHere_31 : decode cX4_isDoingHere 31 = .ok (.aload_n 0, 1) := dk_42 (dk_at dksX4_isDoingHere_1 7 rfl rfl)
theorem dX4_isDoingHere_32 : decode cX4_isDoingHere 32 = .ok (.getfield 20, 3) := dk_180 0 20 (dk_at dksX4_isDoingHere_1 8 rfl rfl)
theorem dX4_isDoingHere_35 : decode cX4_isDoingHere 35 = .ok (.iload_n 2, 1) := dk_28 (dk_at dksX4_isDoingHere_1 11 rfl rfl)
theorem dX4_isDoingHere_36 : decode cX4_isDoingHere 36 = .ok (.iconst 1, 1) := dk_4 (dk_at dksX4_isDoingHere_1 12 rfl rfl)
theorem dX4_isDoingHere_37 : decode cX4_isDoingHere 37 = .ok (.iadd, 1) := dk_96 (dk_at dksX4_isDoingHere_1 13 rfl rfl)
theorem dX4_isDoingHere_38 : decode cX4_isDoingHere 38 = .ok (.aload_n 0, 1) := dk_42 (dk_at dksX4_isDoingHere_1 14 rfl rfl)
theorem dX4_isDoingHere_39 : decode cX4_isDoingHere 39 = .ok (.getfield 17, 3) := dk_180 0 17 (dk_at dksX4_isDoingHere_1 15 rfl rfl)
theorem dX4_isDoingHere_42 : decode cX4_isDoingHere 42 = .ok (.aload_n 0, 1) := dk_42 (dk_at dksX4_isDoingHere_1 18 rfl rfl)
theorem dX4_isDoingHere_43 : decode cX4_isDoingHere 43 = .ok (.getfield 139, 3) := dk_180 0 139 (dk_at dksX4_isDoingHere_1 19 rfl rfl)
theorem dX4_isDoingHere_46 : decode cX4_isDoingHere 46 = .ok (.iaload, 1) := dk_46 (dk_at dksX4_isDoingHere_1 22 rfl rfl)
theorem dX4_isDoingHere_47 : decode cX4_isDoingHere 47 = .ok (.iastore, 1) := dk_79 (dk_at dksX4_isDoingHere_1 23 rfl rfl)
theorem dX4_isDoingHere_48 : decode cX4_isDoingHere 48 = .ok (.aload_n 0, 1) := dk_42 (dk_at dksX4_isDoingHere_2 0 rfl rfl)
theorem dX4_isDoingHere_49 : decode cX4_isDoingHere 49 = .ok (.invokevirtual 176, 3) := dk_182 0 176 (dk_at dksX4_isDoingHere_2 1 rfl rfl)
theorem dX4_isDoingHere_52 : decode cX4_isDoingHere 52 = .ok (.ifCond .ne 5, 3) := dk_154 0 5 (dk_at dksX4_isDoingHere_2 4 rfl rfl)
theorem dX4_isDoingHere_55 : decode cX4_isDoingHere 55 = .ok (.iconst 0, 1) := dk_3 (dk_at dksX4_isDoingHere_2 7 rfl rfl)
theorem dX4_isDoingHere_56 : decode cX4_isDoingHere 56 = .ok (.ireturn, 1) := dk_172 (dk_at dksX4_isDoingHere_2 8 rfl rfl)
theorem dX4_isDoingHere_57 : decode cX4_isDoingHere 57 = .ok (.aload_n 0, 1) := dk_42 (dk_at dksX4_isDoingHere_2 9 rfl rfl)
theorem dX4_isDoingHere_58 : decode cX4_isDoingHere 58 = .ok (.getfield 20, 3) := dk_180 0 20 (dk_at dksX4_isDoingHere_2 10 rfl rfl)
theorem dX4_isDoingHere_61 : decode cX4_isDoingHere 61 = .ok (.iload_n 2, 1) := dk_28 (dk_at dksX4_isDoingHere_2 13 rfl rfl)
theorem dX4_isDoingHere_62 : decode cX4_isDoingHere 62 = .ok (.iconst 2, 1) := dk_5 (dk_at dksX4_isDoingHere_2 14 rfl rfl)
theorem dX4_isDoingHere_63 : decode cX4_isDoingHere 63 = .ok (.iadd, 1) := dk_96 (dk_at dksX4_isDoingHere_2 15 rfl rfl)
theorem dX4_isDoingHere_64 : decode cX4_isDoingHere 64 = .ok (.aload_n 0, 1) := dk_42 (dk_at dksX4_isDoingHere_2 16 rfl rfl)
theorem dX4_isDoingHere_65 : decode cX4_isDoingHere 65 = .ok (.getfield 17, 3) := dk_180 0 17 (dk_at dksX4_isDoingHere_2 17 rfl rfl)
theorem dX4_isDoingHere_68 : decode cX4_isDoingHere 68 = .ok (.aload_n 0, 1) := dk_42 (dk_at dksX4_isDoingHere_2 20 rfl rfl)
theorem dX4_isDoingHere_69 : decode cX4_isDoingHere 69 = .ok (.getfield 139, 3) := dk_180 0 139 (dk_at dksX4_isDoingHere_2 21 rfl rfl)
theorem dX4_isDoingHere_72 : decode cX4_isDoingHere 72 = .ok (.iaload, 1) := dk_46 (dk_at dksX4_isDoingHere_3 0 rfl rfl)
theorem dX4_isDoingHere_73 : decode cX4_isDoingHere 73 = .ok (.iastore, 1) := dk_79 (dk_at dksX4_isDoingHere_3 1 rfl rfl)
theorem dX4_isDoingHere_74 : decode cX4_isDoingHere 74 = .ok (.aload_n 0, 1) := dk_42 (dk_at dksX4_isDoingHere_3 2 rfl rfl)
theorem dX4_isDoingHere_75 : decode cX4_isDoingHere 75 = .ok (.getfield 20, 3) := dk_180 0 20 (dk_at dksX4_isDoingHere_3 3 rfl rfl)
theorem dX4_isDoingHere_78 : decode cX4_isDoingHere 78 = .ok (.iload_n 2, 1) := dk_28 (dk_at dksX4_isDoingHere_3 6 rfl rfl)
theorem dX4_isDoingHere_79 : decode cX4_isDoingHere 79 = .ok (.iconst 3, 1) := dk_6 (dk_at dksX4_isDoingHere_3 7 rfl rfl)
theorem dX4_isDoingHere_80 : decode cX4_isDoingHere 80 = .ok (.iadd, 1) := dk_96 (dk_at dksX4_isDoingHere_3 8 rfl rfl)
theorem dX4_isDoingHere_81 : decode cX4_isDoingHere 81 = .ok (.iconst (-1), 1) := dk_2 (dk_at dksX4_isDoingHere_3 9 rfl rfl)
theorem dX4_isDoingHere_82 : decode cX4_isDoingHere 82 = .ok (.iastore, 1) := dk_79 (dk_at dksX4_isDoingHere_3 10 rfl rfl)
theorem dX4_isDoingHere_83 : decode cX4_isDoingHere 83 = .ok (.aload_n 0, 1) := dk_42 (dk_at dksX4_isDoingHere_3 11 rfl rfl)
theorem dX4_isDoingHere_84 : decode cX4_isDoingHere 84 = .ok (.ldc2_w 203, 3) := dk_20 0 203 (dk_at dksX4_isDoingHere_3 12 rfl rfl)
theorem dX4_isDoingHere_87 : decode cX4_isDoingHere 87 = .ok (.invokevirtual 205, 3) := dk_182 0 205 (dk_at dksX4_isDoingHere_3 15 rfl rfl)
theorem dX4_isDoingHere_90 : decode cX4_isDoingHere 90 = .ok (.ifCond .eq 29, 3) := dk_153 0 29 (dk_at dksX4_isDoingHere_3 18 rfl rfl)
theorem dX4_isDoingHere_93 : decode cX4_isDoingHere 93 = .ok (.aload_n 0, 1) := dk_42 (dk_at dksX4_isDoingHere_3 21 rfl rfl)
theorem dX4_isDoingHere_94 : decode cX4_isDoingHere 94 = .ok (.getfield 20, 3) := dk_180 0 20 (dk_at dksX4_isDoingHere_4 0 rfl rfl)
theorem dX4_isDoingHere_97 : decode cX4_isDoingHere 97 = .ok (.iload_n 2, 1) := dk_28 (dk_at dksX4_isDoingHere_4 3 rfl rfl)
theorem dX4_isDoingHere_98 : decode cX4_isDoingHere 98 = .ok (.iconst 3, 1) := dk_6 (dk_at dksX4_isDoingHere_4 4 rfl rfl)
theorem dX4_isDoingHere_99 : decode cX4_isDoingHere 99 = .ok (.iadd, 1) := dk_96 (dk_at dksX4_isDoingHere_4 5 rfl rfl)
theorem dX4_isDoingHere_100 : decode cX4_isDoingHere 100 = .ok (.aload_n 0, 1) := dk_42 (dk_at dksX4_isDoingHere_4 6 rfl rfl)
theorem dX4_isDoingHere_101 : decode cX4_isDoingHere 101 = .ok (.getfield 17, 3) := dk_180 0 17 (dk_at dksX4_isDoingHere_4 7 rfl rfl)
theorem dX4_isDoingHere_104 : decode cX4_isDoingHere 104 = .ok (.aload_n 0, 1) := dk_42 (dk_at dksX4_isDoingHere_4 10 rfl rfl)
theorem dX4_isDoingHere_105 : decode cX4_isDoingHere 105 = .ok (.getfield 139, 3) := dk_180 0 139 (dk_at dksX4_isDoingHere_4 11 rfl rfl)
theorem dX4_isDoingHere_108 : decode cX4_isDoingHere 108 = .ok (.iaload, 1) := dk_46 (dk_at dksX4_isDoingHere_4 14 rfl rfl)
theorem dX4_isDoingHere_109 : decode cX4_isDoingHere 109 = .ok (.iastore, 1) := dk_79 (dk_at dksX4_isDoingHere_4 15 rfl rfl)
theorem dX4_isDoingHere_110 : decode cX4_isDoingHere 110 = .ok (.aload_n 0, 1) := dk_42 (dk_at dksX4_isDoingHere_4 16 rfl rfl)
theorem dX4_isDoingHere_111 : decode cX4_isDoingHere 111 = .ok (.invokevirtual 208, 3) := dk_182 0 208 (dk_at dksX4_isDoingHere_4 17 rfl rfl)
theorem dX4_isDoingHere_114 : decode cX4_isDoingHere 114 = .ok (.ifCond .ne 5, 3) := dk_154 0 5 (dk_at dksX4_isDoingHere_4 20 rfl rfl)
theorem dX4_isDoingHere_117 : decode cX4_isDoingHere 117 = .ok (.iconst 0, 1) := dk_3 (dk_at dksX4_isDoingHere_4 23 rfl rfl)
theorem dX4_isDoingHere_118 : decode cX4_isDoingHere 118 = .ok (.ireturn, 1) := dk_172 (dk_at dksX4_isDoingHere_5 0 rfl rfl)
theorem dX4_isDoingHere_119 : decode cX4_isDoingHere 119 = .ok (.aload_n 0, 1) := dk_42 (dk_at dksX4_isDoingHere_5 1 rfl rfl)
theorem dX4_isDoingHere_120 : decode cX4_isDoingHere 120 = .ok (.getfield 20, 3) := dk_180 0 20 (dk_at dksX4_isDoingHere_5 2 rfl rfl)
theorem dX4_isDoingHere_123 : decode cX4_isDoingHere 123 = .ok (.iload_n 2, 1) := dk_28 (dk_at dksX4_isDoingHere_5 5 rfl rfl)
theorem dX4_isDoingHere_124 : decode cX4_isDoingHere 124 = .ok (.iconst 4, 1) := dk_7 (dk_at dksX4_isDoingHere_5 6 rfl rfl)
theorem dX4_isDoingHere_125 : decode cX4_isDoingHere 125 = .ok (.iadd, 1) := dk_96 (dk_at dksX4_isDoingHere_5 7 rfl rfl)
theorem dX4_isDoingHere_126 : decode cX4_isDoingHere 126 = .ok (.aload_n 0, 1) := dk_42 (dk_at dksX4_isDoingHere_5 8 rfl rfl)
theorem dX4_isDoingHere_127 : decode cX4_isDoingHere 127 = .ok (.getfield 17, 3) := dk_180 0 17 (dk_at dksX4_isDoingHere_5 9 rfl rfl)
theorem dX4_isDoingHere_130 : decode cX4_isDoingHere 130 = .ok (.aload_n 0, 1) := dk_42 (dk_at dksX4_isDoingHere_5 12 rfl rfl)
theorem dX4_isDoingHere_131 : decode cX4_isDoingHere 131 = .ok (.getfield 139, 3) := dk_180 0 139 (dk_at dksX4_isDoingHere_5 13 rfl rfl)
theorem dX4_isDoingHere_134 : decode cX4_isDoingHere 134 = .ok (.iaload, 1) := dk_46 (dk_at dksX4_isDoingHere_5 16 rfl rfl)
theorem dX4_isDoingHere_135 : decode cX4_isDoingHere 135 = .ok (.iastore, 1) := dk_79 (dk_at dksX4_isDoingHere_5 17 rfl rfl)
theorem dX4_isDoingHere_136 : decode cX4_isDoingHere 136 = .ok (.aload_n 0, 1) := dk_42 (dk_at dksX4_isDoingHere_5 18 rfl rfl)
theorem dX4_isDoingHere_137 : decode cX4_isDoingHere 137 = .ok (.getfield 23, 3) := dk_180 0 23 (dk_at dksX4_isDoingHere_5 19 rfl rfl)
theorem dX4_isDoingHere_140 : decode cX4_isDoingHere 140 = .ok (.aload_n 0, 1) := dk_42 (dk_at dksX4_isDoingHere_5 22 rfl rfl)
theorem dX4_isDoingHere_141 : decode cX4_isDoingHere 141 = .ok (.getfield 139, 3) := dk_180 0 139 (dk_at dksX4_isDoingHere_6 0 rfl rfl)
theorem dX4_isDoingHere_144 : decode cX4_isDoingHere 144 = .ok (.dup2, 1) := dk_92 (dk_at dksX4_isDoingHere_6 3 rfl rfl)
theorem dX4_isDoingHere_145 : decode cX4_isDoingHere 145 = .ok (.iaload, 1) := dk_46 (dk_at dksX4_isDoingHere_6 4 rfl rfl)
theorem dX4_isDoingHere_146 : decode cX4_isDoingHere 146 = .ok (.iconst 1, 1) := dk_4 (dk_at dksX4_isDoingHere_6 5 rfl rfl)
theorem dX4_isDoingHere_147 : decode cX4_isDoingHere 147 = .ok (.iadd, 1) := dk_96 (dk_at dksX4_isDoingHere_6 6 rfl rfl)
theorem dX4_isDoingHere_148 : decode cX4_isDoingHere 148 = .ok (.iastore, 1) := dk_79 (dk_at dksX4_isDoingHere_6 7 rfl rfl)
theorem dX4_isDoingHere_149 : decode cX4_isDoingHere 149 = .ok (.iconst 1, 1) := dk_4 (dk_at dksX4_isDoingHere_6 8 rfl rfl)
theorem dX4_isDoingHere_150 : decode cX4_isDoingHere 150 = .ok (.ireturn, 1) := dk_172 (dk_at dksX4_isDoingHere_6 9 rfl rfl)
abbrev cX4_sum : ByteArray := prog_20_method_24_code
def yX4_sum : MethodName := ⟨RX4, "sum", "()Z"⟩
def dkwX4_sum_3 : List UInt8 := [167, 255, 193, 4, 172]
abbrev dktX4_sum_3 : List UInt8 := dkwX4_sum_3 ++ []
def dkwX4_sum_2 : List UInt8 := [89, 180, 0, 81, 4, 96, 181, 0, 81, 42, 182, 0, 173, 154, 0, 5, 3, 172, 42, 27, 3, 182, 0, 155]
abbrev dktX4_sum_2 : List UInt8 := dkwX4_sum_2 ++ dktX4_sum_3
def dkwX4_sum_1 : List UInt8 := [160, 0, 51, 42, 180, 0, 7, 42, 180, 0, 81, 51, 16, 43, 160, 0, 7, 5, 167, 0, 4, 6, 60, 42]
abbrev dktX4_sum_1 : List UInt8 := dkwX4_sum_1 ++ dktX4_sum_2
def dkwX4_sum_0 : List UInt8 := [42, 182, 0, 173, 154, 0, 5, 3, 172, 42, 182, 0, 84, 16, 43, 159, 0, 12, 42, 182, 0, 84, 16, 45]
abbrev dktX4_sum_0 : List UInt8 := dkwX4_sum_0 ++ dktX4_sum_1
theorem dksX4_sum_0 : cX4_sum.data.toList.drop 0 = dktX4_sum_0 := by decide +kernel
theorem dksX4_sum_1 : cX4_sum.data.toList.drop 24 = dktX4_sum_1 := dk_seg dksX4_sum_0 24 rfl rfl
theorem dksX4_sum_2 : cX4_sum.data.toList.drop 48 = dktX4_sum_2 := dk_seg dksX4_sum_1 24 rfl rfl
theorem dksX4_sum_3 : cX4_sum.data.toList.drop 72 = dktX4_sum_3 := dk_seg dksX4_sum_2 24 rfl rfl
theorem dX4_sum_0 : decode cX4_sum 0 = .ok (.aload_n 0, 1) := dk_42 (dk_at dksX4_sum_0 0 rfl rfl)
theorem dX4_sum_1 : decode cX4_sum 1 = .ok (.invokevirtual 173, 3) := dk_182 0 173 (dk_at dksX4_sum_0 1 rfl rfl)
theorem dX4_sum_4 : decode cX4_sum 4 = .ok (.ifCond .ne 5, 3) := dk_154 0 5 (dk_at dksX4_sum_0 4 rfl rfl)
theorem dX4_sum_7 : decode cX4_sum 7 = .ok (.iconst 0, 1) := dk_3 (dk_at dksX4_sum_0 7 rfl rfl)
theorem dX4_sum_8 : decode cX4_sum 8 = .ok (.ireturn, 1) := dk_172 (dk_at dksX4_sum_0 8 rfl rfl)
theorem dX4_sum_9 : decode cX4_sum 9 = .ok (.aload_n 0, 1) := dk_42 (dk_at dksX4_sum_0 9 rfl rfl)
theorem dX4_sum_10 : decode cX4_sum 10 = .ok (.invokevirtual 84, 3) := dk_182 0 84 (dk_at dksX4_sum_0 10 rfl rfl)
theorem dX4_sum_13 : decode cX4_sum 13 = .ok (.bipush 43, 2) := dk_16 43 (dk_at dksX4_sum_0 13 rfl rfl)
theorem dX4_sum_15 : decode cX4_sum 15 = .ok (.if_icmp .eq 12, 3) := dk_159 0 12 (dk_at dksX4_sum_0 15 rfl rfl)
theorem dX4_sum_18 : decode cX4_sum 18 = .ok (.aload_n 0, 1) := dk_42 (dk_at dksX4_sum_0 18 rfl rfl)
theorem dX4_sum_19 : decode cX4_sum 19 = .ok (.invokevirtual 84, 3) := dk_182 0 84 (dk_at dksX4_sum_0 19 rfl rfl)
theorem dX4_sum_22 : decode cX4_sum 22 = .ok (.bipush 45, 2) := dk_16 45 (dk_at dksX4_sum_0 22 rfl rfl)
theorem dX4_sum_24 : decode cX4_sum 24 = .ok (.if_icmp .ne 51, 3) := dk_160 0 51 (dk_at dksX4_sum_1 0 rfl rfl)
theorem dX4_sum_27 : decode cX4_sum 27 = .ok (.aload_n 0, 1) := dk_42 (dk_at dksX4_sum_1 3 rfl rfl)
theorem dX4_sum_28 : decode cX4_sum 28 = .ok (.getfield 7, 3) := dk_180 0 7 (dk_at dksX4_sum_1 4 rfl rfl)
theorem dX4_sum_31 : decode cX4_sum 31 = .ok (.aload_n 0, 1) := dk_42 (dk_at dksX4_sum_1 7 rfl rfl)
theorem dX4_sum_32 : decode cX4_sum 32 = .ok (.getfield 81, 3) := dk_180 0 81 (dk_at dksX4_sum_1 8 rfl rfl)
theorem dX4_sum_35 : decode cX4_sum 35 = .ok (.baload, 1) := dk_51 (dk_at dksX4_sum_1 11 rfl rfl)
theorem dX4_sum_36 : decode cX4_sum 36 = .ok (.bipush 43, 2) := dk_16 43 (dk_at dksX4_sum_1 12 rfl rfl)
theorem dX4_sum_38 : decode cX4_sum 38 = .ok (.if_icmp .ne 7, 3) := dk_160 0 7 (dk_at dksX4_sum_1 14 rfl rfl)
theorem dX4_sum_41 : decode cX4_sum 41 = .ok (.iconst 2, 1) := dk_5 (dk_at dksX4_sum_1 17 rfl rfl)
theorem dX4_sum_42 : decode cX4_sum 42 = .ok (.goto 4, 3) := dk_167 0 4 (dk_at dksX4_sum_1 18 rfl rfl)
theorem dX4_sum_45 : decode cX4_sum 45 = .ok (.iconst 3, 1) := dk_6 (dk_at dksX4_sum_1 21 rfl rfl)
theorem dX4_sum_46 : decode cX4_sum 46 = .ok (.istore_n 1, 1) := dk_60 (dk_at dksX4_sum_1 22 rfl rfl)
theorem dX4_sum_47 : decode cX4_sum 47 = .ok (.aload_n 0, 1) := dk_42 (dk_at dksX4_sum_1 23 rfl rfl)
theorem dX4_sum_48 : decode cX4_sum 48 = .ok (.dup, 1) := dk_89 (dk_at dksX4_sum_2 0 rfl rfl)
theorem dX4_sum_49 : decode cX4_sum 49 = .ok (.getfield 81, 3) := dk_180 0 81 (dk_at dksX4_sum_2 1 rfl rfl)
theorem dX4_sum_52 : decode cX4_sum 52 = .ok (.iconst 1, 1) := dk_4 (dk_at dksX4_sum_2 4 rfl rfl)
theorem dX4_sum_53 : decode cX4_sum 53 = .ok (.iadd, 1) := dk_96 (dk_at dksX4_sum_2 5 rfl rfl)
theorem dX4_sum_54 : decode cX4_sum 54 = .ok (.putfield 81, 3) := dk_181 0 81 (dk_at dksX4_sum_2 6 rfl rfl)
theorem dX4_sum_57 : decode cX4_sum 57 = .ok (.aload_n 0, 1) := dk_42 (dk_at dksX4_sum_2 9 rfl rfl)
theorem dX4_sum_58 : decode cX4_sum 58 = .ok (.invokevirtual 173, 3) := dk_182 0 173 (dk_at dksX4_sum_2 10 rfl rfl)
theorem dX4_sum_61 : decode cX4_sum 61 = .ok (.ifCond .ne 5, 3) := dk_154 0 5 (dk_at dksX4_sum_2 13 rfl rfl)
theorem dX4_sum_64 : decode cX4_sum 64 = .ok (.iconst 0, 1) := dk_3 (dk_at dksX4_sum_2 16 rfl rfl)
theorem dX4_sum_65 : decode cX4_sum 65 = .ok (.ireturn, 1) := dk_172 (dk_at dksX4_sum_2 17 rfl rfl)
theorem dX4_sum_66 : decode cX4_sum 66 = .ok (.aload_n 0, 1) := dk_42 (dk_at dksX4_sum_2 18 rfl rfl)
theorem dX4_sum_67 : decode cX4_sum 67 = .ok (.iload_n 1, 1) := dk_27 (dk_at dksX4_sum_2 19 rfl rfl)
theorem dX4_sum_68 : decode cX4_sum 68 = .ok (.iconst 0, 1) := dk_3 (dk_at dksX4_sum_2 20 rfl rfl)
theorem dX4_sum_69 : decode cX4_sum 69 = .ok (.invokevirtual 155, 3) := dk_182 0 155 (dk_at dksX4_sum_2 21 rfl rfl)
theorem dX4_sum_72 : decode cX4_sum 72 = .ok (.goto (-63), 3) := dk_167 255 193 (dk_at dksX4_sum_3 0 rfl rfl)
theorem dX4_sum_75 : decode cX4_sum 75 = .ok (.iconst 1, 1) := dk_4 (dk_at dksX4_sum_3 3 rfl rfl)
theorem dX4_sum_76 : decode cX4_sum 76 = .ok (.ireturn, 1) := dk_172 (dk_at dksX4_sum_3 4 rfl rfl)
abbrev cX4_term : ByteArray := prog_20_method_23_code
def yX4_term : MethodName := ⟨RX4, "term", "()Z"⟩
def dkwX4_term_4 : List UInt8 := [172, 42, 27, 3, 182, 0, 155, 167, 255, 165, 4, 172]
abbrev dktX4_term_4 : List UInt8 := dkwX4_term_4 ++ []
def dkwX4_term_3 : List UInt8 := [167, 0, 5, 16, 14, 60, 42, 89, 180, 0, 81, 4, 96, 181, 0, 81, 42, 182, 0, 169, 154, 0, 5, 3]
abbrev dktX4_term_3 : List UInt8 := dkwX4_term_3 ++ dktX4_term_4
def dkwX4_term_2 : List UInt8 := [160, 0, 7, 7, 167, 0, 23, 42, 180, 0, 7, 42, 180, 0, 81, 51, 16, 47, 160, 0, 7, 8]
abbrev dktX4_term_2 : List UInt8 := dkwX4_term_2 ++ dktX4_term_3
def dkwX4_term_1 : List UInt8 := [159, 0, 12, 42, 182, 0, 84, 16, 37, 160, 0, 70, 42, 180, 0, 7, 42, 180, 0, 81, 51, 16, 42]
abbrev dktX4_term_1 : List UInt8 := dkwX4_term_1 ++ dktX4_term_2
def dkwX4_term_0 : List UInt8 := [42, 182, 0, 169, 154, 0, 5, 3, 172, 42, 182, 0, 84, 16, 42, 159, 0, 21, 42, 182, 0, 84, 16, 47]
abbrev dktX4_term_0 : List UInt8 := dkwX4_term_0 ++ dktX4_term_1
theorem dksX4_term_0 : cX4_term.data.toList.drop 0 = dktX4_term_0 := by decide +kernel
theorem dksX4_term_1 : cX4_term.data.toList.drop 24 = dktX4_term_1 := dk_seg dksX4_term_0 24 rfl rfl
theorem dksX4_term_2 : cX4_term.data.toList.drop 47 = dktX4_term_2 := dk_seg dksX4_term_1 23 rfl rfl
theorem dksX4_term_3 : cX4_term.data.toList.drop 69 = dktX4_term_3 := dk_seg dksX4_term_2 22 rfl rfl
theorem dksX4_term_4 : cX4_term.data.toList.drop 93 = dktX4_term_4 := dk_seg dksX4_term_3 24 rfl rfl
theorem dX4_term_0 : decode cX4_term 0 = .ok (.aload_n 0, 1) := dk_42 (dk_at dksX4_term_0 0 rfl rfl)
theorem dX4_term_1 : decode cX4_term 1 = .ok (.invokevirtual 169, 3) := dk_182 0 169 (dk_at dksX4_term_0 1 rfl rfl)
theorem dX4_term_4 : decode cX4_term 4 = .ok (.ifCond .ne 5, 3) := dk_154 0 5 (dk_at dksX4_term_0 4 rfl rfl)
theorem dX4_term_7 : decode cX4_term 7 = .ok (.iconst 0, 1) := dk_3 (dk_at dksX4_term_0 7 rfl rfl)
theorem dX4_term_8 : decode cX4_term 8 = .ok (.ireturn, 1) := dk_172 (dk_at dksX4_term_0 8 rfl rfl)
theorem dX4_term_9 : decode cX4_term 9 = .ok (.aload_n 0, 1) := dk_42 (dk_at dksX4_term_0 9 rfl rfl)
theorem dX4_term_10 : decode cX4_term 10 = .ok (.invokevirtual 84, 3) := dk_182 0 84 (dk_at dksX4_term_0 10 rfl rfl)
theorem dX4_term_13 : decode cX4_term 13 = .ok (.bipush 42, 2) := dk_16 42 (dk_at dksX4_term_0 13 rfl rfl)
theorem dX4_term_15 : decode cX4_term 15 = .ok (.if_icmp .eq 21, 3) := dk_159 0 21 (dk_at dksX4_term_0 15 rfl rfl)
theorem dX4_term_18 : decode cX4_term 18 = .ok (.aload_n 0, 1) := dk_42 (dk_at dksX4_term_0 18 rfl rfl)
theorem dX4_term_19 : decode cX4_term 19 = .ok (.invokevirtual 84, 3) := dk_182 0 84 (dk_at dksX4_term_0 19 rfl rfl)
theorem dX4_term_22 : decode cX4_term 22 = .ok (.bipush 47, 2) := dk_16 47 (dk_at dksX4_term_0 22 rfl rfl)
theorem dX4_term_24 : decode cX4_term 24 = .ok (.if_icmp .eq 12, 3) := dk_159 0 12 (dk_at dksX4_term_1 0 rfl rfl)
theorem dX4_term_27 : decode cX4_term 27 = .ok (.aload_n 0, 1) := dk_42 (dk_at dksX4_term_1 3 rfl rfl)
theorem dX4_term_28 : decode cX4_term 28 = .ok (.invokevirtual 84, 3) := dk_182 0 84 (dk_at dksX4_term_1 4 rfl rfl)
theorem dX4_term_31 : decode cX4_term 31 = .ok (.bipush 37, 2) := dk_16 37 (dk_at dksX4_term_1 7 rfl rfl)
theorem dX4_term_33 : decode cX4_term 33 = .ok (.if_icmp .ne 70, 3) := dk_160 0 70 (dk_at dksX4_term_1 9 rfl rfl)
theorem dX4_term_36 : decode cX4_term 36 = .ok (.aload_n 0, 1) := dk_42 (dk_at dksX4_term_1 12 rfl rfl)
theorem dX4_term_37 : decode cX4_term 37 = .ok (.getfield 7, 3) := dk_180 0 7 (dk_at dksX4_term_1 13 rfl rfl)
theorem dX4_term_40 : decode cX4_term 40 = .ok (.aload_n 0, 1) := dk_42 (dk_at dksX4_term_1 16 rfl rfl)
theorem dX4_term_41 : decode cX4_term 41 = .ok (.getfield 81, 3) := dk_180 0 81 (dk_at dksX4_term_1 17 rfl rfl)
theorem dX4_term_44 : decode cX4_term 44 = .ok (.baload, 1) := dk_51 (dk_at dksX4_term_1 20 rfl rfl)
theorem dX4_term_45 : decode cX4_term 45 = .ok (.bipush 42, 2) := dk_16 42 (dk_at dksX4_term_1 21 rfl rfl)
theorem dX4_term_47 : decode cX4_term 47 = .ok (.if_icmp .ne 7, 3) := dk_160 0 7 (dk_at dksX4_term_2 0 rfl rfl)
theorem dX4_term_50 : decode cX4_term 50 = .ok (.iconst 4, 1) := dk_7 (dk_at dksX4_term_2 3 rfl rfl)
theorem dX4_term_51 : decode cX4_term 51 = .ok (.goto 23, 3) := dk_167 0 23 (dk_at dksX4_term_2 4 rfl rfl)
theorem dX4_term_54 : decode cX4_term 54 = .ok (.aload_n 0, 1) := dk_42 (dk_at dksX4_term_2 7 rfl rfl)
theorem dX4_term_55 : decode cX4_term 55 = .ok (.getfield 7, 3) := dk_180 0 7 (dk_at dksX4_term_2 8 rfl rfl)
theorem dX4_term_58 : decode cX4_term 58 = .ok (.aload_n 0, 1) := dk_42 (dk_at dksX4_term_2 11 rfl rfl)
theorem dX4_term_59 : decode cX4_term 59 = .ok (.getfield 81, 3) := dk_180 0 81 (dk_at dksX4_term_2 12 rfl rfl)
theorem dX4_term_62 : decode cX4_term 62 = .ok (.baload, 1) := dk_51 (dk_at dksX4_term_2 15 rfl rfl)
theorem dX4_term_63 : decode cX4_term 63 = .ok (.bipush 47, 2) := dk_16 47 (dk_at dksX4_term_2 16 rfl rfl)
theorem dX4_term_65 : decode cX4_term 65 = .ok (.if_icmp .ne 7, 3) := dk_160 0 7 (dk_at dksX4_term_2 18 rfl rfl)
theorem dX4_term_68 : decode cX4_term 68 = .ok (.iconst 5, 1) := dk_8 (dk_at dksX4_term_2 21 rfl rfl)
theorem dX4_term_69 : decode cX4_term 69 = .ok (.goto 5, 3) := dk_167 0 5 (dk_at dksX4_term_3 0 rfl rfl)
theorem dX4_term_72 : decode cX4_term 72 = .ok (.bipush 14, 2) := dk_16 14 (dk_at dksX4_term_3 3 rfl rfl)
theorem dX4_term_74 : decode cX4_term 74 = .ok (.istore_n 1, 1) := dk_60 (dk_at dksX4_term_3 5 rfl rfl)
theorem dX4_term_75 : decode cX4_term 75 = .ok (.aload_n 0, 1) := dk_42 (dk_at dksX4_term_3 6 rfl rfl)
theorem dX4_term_76 : decode cX4_term 76 = .ok (.dup, 1) := dk_89 (dk_at dksX4_term_3 7 rfl rfl)
theorem dX4_term_77 : decode cX4_term 77 = .ok (.getfield 81, 3) := dk_180 0 81 (dk_at dksX4_term_3 8 rfl rfl)
theorem dX4_term_80 : decode cX4_term 80 = .ok (.iconst 1, 1) := dk_4 (dk_at dksX4_term_3 11 rfl rfl)
theorem dX4_term_81 : decode cX4_term 81 = .ok (.iadd, 1) := dk_96 (dk_at dksX4_term_3 12 rfl rfl)
theorem dX4_term_82 : decode cX4_term 82 = .ok (.putfield 81, 3) := dk_181 0 81 (dk_at dksX4_term_3 13 rfl rfl)
theorem dX4_term_85 : decode cX4_term 85 = .ok (.aload_n 0, 1) := dk_42 (dk_at dksX4_term_3 16 rfl rfl)
theorem dX4_term_86 : decode cX4_term 86 = .ok (.invokevirtual 169, 3) := dk_182 0 169 (dk_at dksX4_term_3 17 rfl rfl)
theorem dX4_term_89 : decode cX4_term 89 = .ok (.ifCond .ne 5, 3) := dk_154 0 5 (dk_at dksX4_term_3 20 rfl rfl)
theorem dX4_term_92 : decode cX4_term 92 = .ok (.iconst 0, 1) := dk_3 (dk_at dksX4_term_3 23 rfl rfl)
theorem dX4_term_93 : decode cX4_term 93 = .ok (.ireturn, 1) := dk_172 (dk_at dksX4_term_4 0 rfl rfl)
theorem dX4_term_94 : decode cX4_term 94 = .ok (.aload_n 0, 1) := dk_42 (dk_at dksX4_term_4 1 rfl rfl)
theorem dX4_term_95 : decode cX4_term 95 = .ok (.iload_n 1, 1) := dk_27 (dk_at dksX4_term_4 2 rfl rfl)
theorem dX4_term_96 : decode cX4_term 96 = .ok (.iconst 0, 1) := dk_3 (dk_at dksX4_term_4 3 rfl rfl)
theorem dX4_term_97 : decode cX4_term 97 = .ok (.invokevirtual 155, 3) := dk_182 0 155 (dk_at dksX4_term_4 4 rfl rfl)
theorem dX4_term_100 : decode cX4_term 100 = .ok (.goto (-91), 3) := dk_167 255 165 (dk_at dksX4_term_4 7 rfl rfl)
theorem dX4_term_103 : decode cX4_term 103 = .ok (.iconst 1, 1) := dk_4 (dk_at dksX4_term_4 10 rfl rfl)
theorem dX4_term_104 : decode cX4_term 104 = .ok (.ireturn, 1) := dk_172 (dk_at dksX4_term_4 11 rfl rfl)
abbrev cX4_value : ByteArray := prog_20_method_22_code
def yX4_value : MethodName := ⟨RX4, "value", "()Z"⟩
def dkwX4_value_3 : List UInt8 := [182, 0, 163, 154, 0, 5, 3, 172, 42, 182, 0, 96, 42, 4, 28, 182, 0, 155, 4, 172]
abbrev dktX4_value_3 : List UInt8 := dkwX4_value_3 ++ []
def dkwX4_value_2 : List UInt8 := [182, 0, 155, 4, 172, 42, 182, 0, 166, 61, 28, 156, 0, 10, 42, 3, 27, 182, 0, 102, 172, 42, 27]
abbrev dktX4_value_2 : List UInt8 := dkwX4_value_2 ++ dktX4_value_3
def dkwX4_value_1 : List UInt8 := [18, 159, 182, 0, 160, 153, 0, 11, 42, 27, 182, 0, 163, 154, 0, 5, 3, 172, 42, 3, 42, 180, 0, 106]
abbrev dktX4_value_1 : List UInt8 := dkwX4_value_1 ++ dktX4_value_2
def dkwX4_value_0 : List UInt8 := [42, 182, 0, 84, 87, 42, 180, 0, 81, 60, 42, 42, 180, 0, 81, 182, 0, 99, 153, 0, 34, 42, 3]
abbrev dktX4_value_0 : List UInt8 := dkwX4_value_0 ++ dktX4_value_1
theorem dksX4_value_0 : cX4_value.data.toList.drop 0 = dktX4_value_0 := by decide +kernel
theorem dksX4_value_1 : cX4_value.data.toList.drop 23 = dktX4_value_1 := dk_seg dksX4_value_0 23 rfl rfl
theorem dksX4_value_2 : cX4_value.data.toList.drop 47 = dktX4_value_2 := dk_seg dksX4_value_1 24 rfl rfl
theorem dksX4_value_3 : cX4_value.data.toList.drop 70 = dktX4_value_3 := dk_seg dksX4_value_2 23 rfl rfl
theorem dX4_value_0 : decode cX4_value 0 = .ok (.aload_n 0, 1) := dk_42 (dk_at dksX4_value_0 0 rfl rfl)
theorem dX4_value_1 : decode cX4_value 1 = .ok (.invokevirtual 84, 3) := dk_182 0 84 (dk_at dksX4_value_0 1 rfl rfl)
theorem dX4_value_4 : decode cX4_value 4 = .ok (.pop, 1) := dk_87 (dk_at dksX4_value_0 4 rfl rfl)
theorem dX4_value_5 : decode cX4_value 5 = .ok (.aload_n 0, 1) := dk_42 (dk_at dksX4_value_0 5 rfl rfl)
theorem dX4_value_6 : decode cX4_value 6 = .ok (.getfield 81, 3) := dk_180 0 81 (dk_at dksX4_value_0 6 rfl rfl)
theorem dX4_value_9 : decode cX4_value 9 = .ok (.istore_n 1, 1) := dk_60 (dk_at dksX4_value_0 9 rfl rfl)
theorem dX4_value_10 : decode cX4_value 10 = .ok (.aload_n 0, 1) := dk_42 (dk_at dksX4_value_0 10 rfl rfl)
theorem dX4_value_11 : decode cX4_value 11 = .ok (.aload_n 0, 1) := dk_42 (dk_at dksX4_value_0 11 rfl rfl)
theorem dX4_value_12 : decode cX4_value 12 = .ok (.getfield 81, 3) := dk_180 0 81 (dk_at dksX4_value_0 12 rfl rfl)
theorem dX4_value_15 : decode cX4_value 15 = .ok (.invokevirtual 99, 3) := dk_182 0 99 (dk_at dksX4_value_0 15 rfl rfl)
theorem dX4_value_18 : decode cX4_value 18 = .ok (.ifCond .eq 34, 3) := dk_153 0 34 (dk_at dksX4_value_0 18 rfl rfl)
theorem dX4_value_21 : decode cX4_value 21 = .ok (.aload_n 0, 1) := dk_42 (dk_at dksX4_value_0 21 rfl rfl)
theorem dX4_value_22 : decode cX4_value 22 = .ok (.iconst 0, 1) := dk_3 (dk_at dksX4_value_0 22 rfl rfl)
theorem dX4_value_23 : decode cX4_value 23 = .ok (.ldc 159, 2) := dk_18 159 (dk_at dksX4_value_1 0 rfl rfl)
theorem dX4_value_25 : decode cX4_value 25 = .ok (.invokevirtual 160, 3) := dk_182 0 160 (dk_at dksX4_value_1 2 rfl rfl)
theorem dX4_value_28 : decode cX4_value 28 = .ok (.ifCond .eq 11, 3) := dk_153 0 11 (dk_at dksX4_value_1 5 rfl rfl)
theorem dX4_value_31 : decode cX4_value 31 = .ok (.aload_n 0, 1) := dk_42 (dk_at dksX4_value_1 8 rfl rfl)
theorem dX4_value_32 : decode cX4_value 32 = .ok (.iload_n 1, 1) := dk_27 (dk_at dksX4_value_1 9 rfl rfl)
theorem dX4_value_33 : decode cX4_value 33 = .ok (.invokevirtual 163, 3) := dk_182 0 163 (dk_at dksX4_value_1 10 rfl rfl)
theorem dX4_value_36 : decode cX4_value 36 = .ok (.ifCond .ne 5, 3) := dk_154 0 5 (dk_at dksX4_value_1 13 rfl rfl)
theorem dX4_value_39 : decode cX4_value 39 = .ok (.iconst 0, 1) := dk_3 (dk_at dksX4_value_1 16 rfl rfl)
theorem dX4_value_40 : decode cX4_value 40 = .ok (.ireturn, 1) := dk_172 (dk_at dksX4_value_1 17 rfl rfl)
theorem dX4_value_41 : decode cX4_value 41 = .ok (.aload_n 0, 1) := dk_42 (dk_at dksX4_value_1 18 rfl rfl)
theorem dX4_value_42 : decode cX4_value 42 = .ok (.iconst 0, 1) := dk_3 (dk_at dksX4_value_1 19 rfl rfl)
theorem dX4_value_43 : decode cX4_value 43 = .ok (.aload_n 0, 1) := dk_42 (dk_at dksX4_value_1 20 rfl rfl)
theorem dX4_value_44 : decode cX4_value 44 = .ok (.getfield 106, 3) := dk_180 0 106 (dk_at dksX4_value_1 21 rfl rfl)
theorem dX4_value_47 : decode cX4_value 47 = .ok (.invokevirtual 155, 3) := dk_182 0 155 (dk_at dksX4_value_2 0 rfl rfl)
theorem dX4_value_50 : decode cX4_value 50 = .ok (.iconst 1, 1) := dk_4 (dk_at dksX4_value_2 3 rfl rfl)
theorem dX4_value_51 : decode cX4_value 51 = .ok (.ireturn, 1) := dk_172 (dk_at dksX4_value_2 4 rfl rfl)
theorem dX4_value_52 : decode cX4_value 52 = .ok (.aload_n 0, 1) := dk_42 (dk_at dksX4_value_2 5 rfl rfl)
theorem dX4_value_53 : decode cX4_value 53 = .ok (.invokevirtual 166, 3) := dk_182 0 166 (dk_at dksX4_value_2 6 rfl rfl)
theorem dX4_value_56 : decode cX4_value 56 = .ok (.istore_n 2, 1) := dk_61 (dk_at dksX4_value_2 9 rfl rfl)
theorem dX4_value_57 : decode cX4_value 57 = .ok (.iload_n 2, 1) := dk_28 (dk_at dksX4_value_2 10 rfl rfl)
theorem dX4_value_58 : decode cX4_value 58 = .ok (.ifCond .ge 10, 3) := dk_156 0 10 (dk_at dksX4_value_2 11 rfl rfl)
theorem dX4_value_61 : decode cX4_value 61 = .ok (.aload_n 0, 1) := dk_42 (dk_at dksX4_value_2 14 rfl rfl)
theorem dX4_value_62 : decode cX4_value 62 = .ok (.iconst 0, 1) := dk_3 (dk_at dksX4_value_2 15 rfl rfl)
theorem dX4_value_63 : decode cX4_value 63 = .ok (.iload_n 1, 1) := dk_27 (dk_at dksX4_value_2 16 rfl rfl)
theorem dX4_value_64 : decode cX4_value 64 = .ok (.invokevirtual 102, 3) := dk_182 0 102 (dk_at dksX4_value_2 17 rfl rfl)
theorem dX4_value_67 : decode cX4_value 67 = .ok (.ireturn, 1) := dk_172 (dk_at dksX4_value_2 20 rfl rfl)
theorem dX4_value_68 : decode cX4_value 68 = .ok (.aload_n 0, 1) := dk_42 (dk_at dksX4_value_2 21 rfl rfl)
theorem dX4_value_69 : decode cX4_value 69 = .ok (.iload_n 1, 1) := dk_27 (dk_at dksX4_value_2 22 rfl rfl)
theorem dX4_value_70 : decode cX4_value 70 = .ok (.invokevirtual 163, 3) := dk_182 0 163 (dk_at dksX4_value_3 0 rfl rfl)
theorem dX4_value_73 : decode cX4_value 73 = .ok (.ifCond .ne 5, 3) := dk_154 0 5 (dk_at dksX4_value_3 3 rfl rfl)
theorem dX4_value_76 : decode cX4_value 76 = .ok (.iconst 0, 1) := dk_3 (dk_at dksX4_value_3 6 rfl rfl)
theorem dX4_value_77 : decode cX4_value 77 = .ok (.ireturn, 1) := dk_172 (dk_at dksX4_value_3 7 rfl rfl)
theorem dX4_value_78 : decode cX4_value 78 = .ok (.aload_n 0, 1) := dk_42 (dk_at dksX4_value_3 8 rfl rfl)
theorem dX4_value_79 : decode cX4_value 79 = .ok (.invokevirtual 96, 3) := dk_182 0 96 (dk_at dksX4_value_3 9 rfl rfl)
theorem dX4_value_82 : decode cX4_value 82 = .ok (.aload_n 0, 1) := dk_42 (dk_at dksX4_value_3 12 rfl rfl)
theorem dX4_value_83 : decode cX4_value 83 = .ok (.iconst 1, 1) := dk_4 (dk_at dksX4_value_3 13 rfl rfl)
theorem dX4_value_84 : decode cX4_value 84 = .ok (.iload_n 2, 1) := dk_28 (dk_at dksX4_value_3 14 rfl rfl)
theorem dX4_value_85 : decode cX4_value 85 = .ok (.invokevirtual 155, 3) := dk_182 0 155 (dk_at dksX4_value_3 15 rfl rfl)
theorem dX4_value_88 : decode cX4_value 88 = .ok (.iconst 1, 1) := dk_4 (dk_at dksX4_value_3 18 rfl rfl)
theorem dX4_value_89 : decode cX4_value 89 = .ok (.ireturn, 1) := dk_172 (dk_at dksX4_value_3 19 rfl rfl)
abbrev cX4_makes : ByteArray := prog_20_method_18_code
def yX4_makes : MethodName := ⟨RX4, "makes", "(I)Z"⟩
def dkwX4_makes_1 : List UInt8 := [181, 0, 142, 4, 172]
abbrev dktX4_makes_1 : List UInt8 := dkwX4_makes_1 ++ []
def dkwX4_makes_0 : List UInt8 := [42, 180, 0, 142, 16, 60, 160, 0, 10, 42, 6, 27, 182, 0, 102, 172, 42, 89, 180, 0, 142, 4, 96]
abbrev dktX4_makes_0 : List UInt8 := dkwX4_makes_0 ++ dktX4_makes_1
theorem dksX4_makes_0 : cX4_makes.data.toList.drop 0 = dktX4_makes_0 := by decide +kernel
theorem dksX4_makes_1 : cX4_makes.data.toList.drop 23 = dktX4_makes_1 := dk_seg dksX4_makes_0 23 rfl rfl
theorem dX4_makes_0 : decode cX4_makes 0 = .ok (.aload_n 0, 1) := dk_42 (dk_at dksX4_makes_0 0 rfl rfl)
theorem dX4_makes_1 : decode cX4_makes 1 = .ok (.getfield 142, 3) := dk_180 0 142 (dk_at dksX4_makes_0 1 rfl rfl)
theorem dX4_makes_4 : decode cX4_makes 4 = .ok (.bipush 60, 2) := dk_16 60 (dk_at dksX4_makes_0 4 rfl rfl)
theorem dX4_makes_6 : decode cX4_makes 6 = .ok (.if_icmp .ne 10, 3) := dk_160 0 10 (dk_at dksX4_makes_0 6 rfl rfl)
theorem dX4_makes_9 : decode cX4_makes 9 = .ok (.aload_n 0, 1) := dk_42 (dk_at dksX4_makes_0 9 rfl rfl)
theorem dX4_makes_10 : decode cX4_makes 10 = .ok (.iconst 3, 1) := dk_6 (dk_at dksX4_makes_0 10 rfl rfl)
theorem dX4_makes_11 : decode cX4_makes 11 = .ok (.iload_n 1, 1) := dk_27 (dk_at dksX4_makes_0 11 rfl rfl)
theorem dX4_makes_12 : decode cX4_makes 12 = .ok (.invokevirtual 102, 3) := dk_182 0 102 (dk_at dksX4_makes_0 12 rfl rfl)
theorem dX4_makes_15 : decode cX4_makes 15 = .ok (.ireturn, 1) := dk_172 (dk_at dksX4_makes_0 15 rfl rfl)
theorem dX4_makes_16 : decode cX4_makes 16 = .ok (.aload_n 0, 1) := dk_42 (dk_at dksX4_makes_0 16 rfl rfl)
theorem dX4_makes_17 : decode cX4_makes 17 = .ok (.dup, 1) := dk_89 (dk_at dksX4_makes_0 17 rfl rfl)
theorem dX4_makes_18 : decode cX4_makes 18 = .ok (.getfield 142, 3) := dk_180 0 142 (dk_at dksX4_makes_0 18 rfl rfl)
theorem dX4_makes_21 : decode cX4_makes 21 = .ok (.iconst 1, 1) := dk_4 (dk_at dksX4_makes_0 21 rfl rfl)
theorem dX4_makes_22 : decode cX4_makes 22 = .ok (.iadd, 1) := dk_96 (dk_at dksX4_makes_0 22 rfl rfl)
theorem dX4_makes_23 : decode cX4_makes 23 = .ok (.putfield 142, 3) := dk_181 0 142 (dk_at dksX4_makes_1 0 rfl rfl)
theorem dX4_makes_26 : decode cX4_makes 26 = .ok (.iconst 1, 1) := dk_4 (dk_at dksX4_makes_1 3 rfl rfl)
theorem dX4_makes_27 : decode cX4_makes 27 = .ok (.ireturn, 1) := dk_172 (dk_at dksX4_makes_1 4 rfl rfl)
abbrev cX4_puts : ByteArray := prog_20_method_17_code
def yX4_puts : MethodName := ⟨RX4, "puts", "(II)V"⟩
def dkwX4_puts_1 : List UInt8 := [16, 16, 28, 104, 96, 79, 42, 180, 0, 17, 42, 180, 0, 139, 92, 46, 4, 96, 79, 177]
abbrev dktX4_puts_1 : List UInt8 := dkwX4_puts_1 ++ []
def dkwX4_puts_0 : List UInt8 := [42, 180, 0, 13, 17, 1, 144, 42, 180, 0, 139, 104, 42, 180, 0, 17, 42, 180, 0, 139, 46, 96, 27]
abbrev dktX4_puts_0 : List UInt8 := dkwX4_puts_0 ++ dktX4_puts_1
theorem dksX4_puts_0 : cX4_puts.data.toList.drop 0 = dktX4_puts_0 := by decide +kernel
theorem dksX4_puts_1 : cX4_puts.data.toList.drop 23 = dktX4_puts_1 := dk_seg dksX4_puts_0 23 rfl rfl
theorem dX4_puts_0 : decode cX4_puts 0 = .ok (.aload_n 0, 1) := dk_42 (dk_at dksX4_puts_0 0 rfl rfl)
theorem dX4_puts_1 : decode cX4_puts 1 = .ok (.getfield 13, 3) := dk_180 0 13 (dk_at dksX4_puts_0 1 rfl rfl)
theorem dX4_puts_4 : decode cX4_puts 4 = .ok (.sipush 400, 3) := dk_17 1 144 (dk_at dksX4_puts_0 4 rfl rfl)
theorem dX4_puts_7 : decode cX4_puts 7 = .ok (.aload_n 0, 1) := dk_42 (dk_at dksX4_puts_0 7 rfl rfl)
theorem dX4_puts_8 : decode cX4_puts 8 = .ok (.getfield 139, 3) := dk_180 0 139 (dk_at dksX4_puts_0 8 rfl rfl)
theorem dX4_puts_11 : decode cX4_puts 11 = .ok (.imul, 1) := dk_104 (dk_at dksX4_puts_0 11 rfl rfl)
theorem dX4_puts_12 : decode cX4_puts 12 = .ok (.aload_n 0, 1) := dk_42 (dk_at dksX4_puts_0 12 rfl rfl)
theorem dX4_puts_13 : decode cX4_puts 13 = .ok (.getfield 17, 3) := dk_180 0 17 (dk_at dksX4_puts_0 13 rfl rfl)
theorem dX4_puts_16 : decode cX4_puts 16 = .ok (.aload_n 0, 1) := dk_42 (dk_at dksX4_puts_0 16 rfl rfl)
theorem dX4_puts_17 : decode cX4_puts 17 = .ok (.getfield 139, 3) := dk_180 0 139 (dk_at dksX4_puts_0 17 rfl rfl)
theorem dX4_puts_20 : decode cX4_puts 20 = .ok (.iaload, 1) := dk_46 (dk_at dksX4_puts_0 20 rfl rfl)
theorem dX4_puts_21 : decode cX4_puts 21 = .ok (.iadd, 1) := dk_96 (dk_at dksX4_puts_0 21 rfl rfl)
theorem dX4_puts_22 : decode cX4_puts 22 = .ok (.iload_n 1, 1) := dk_27 (dk_at dksX4_puts_0 22 rfl rfl)
theorem dX4_puts_23 : decode cX4_puts 23 = .ok (.bipush 16, 2) := dk_16 16 (dk_at dksX4_puts_1 0 rfl rfl)
theorem dX4_puts_25 : decode cX4_puts 25 = .ok (.iload_n 2, 1) := dk_28 (dk_at dksX4_puts_1 2 rfl rfl)
theorem dX4_puts_26 : decode cX4_puts 26 = .ok (.imul, 1) := dk_104 (dk_at dksX4_puts_1 3 rfl rfl)
theorem dX4_puts_27 : decode cX4_puts 27 = .ok (.iadd, 1) := dk_96 (dk_at dksX4_puts_1 4 rfl rfl)
theorem dX4_puts_28 : decode cX4_puts 28 = .ok (.iastore, 1) := dk_79 (dk_at dksX4_puts_1 5 rfl rfl)
theorem dX4_puts_29 : decode cX4_puts 29 = .ok (.aload_n 0, 1) := dk_42 (dk_at dksX4_puts_1 6 rfl rfl)
theorem dX4_puts_30 : decode cX4_puts 30 = .ok (.getfield 17, 3) := dk_180 0 17 (dk_at dksX4_puts_1 7 rfl rfl)
theorem dX4_puts_33 : decode cX4_puts 33 = .ok (.aload_n 0, 1) := dk_42 (dk_at dksX4_puts_1 10 rfl rfl)
theorem dX4_puts_34 : decode cX4_puts 34 = .ok (.getfield 139, 3) := dk_180 0 139 (dk_at dksX4_puts_1 11 rfl rfl)
theorem dX4_puts_37 : decode cX4_puts 37 = .ok (.dup2, 1) := dk_92 (dk_at dksX4_puts_1 14 rfl rfl)
theorem dX4_puts_38 : decode cX4_puts 38 = .ok (.iaload, 1) := dk_46 (dk_at dksX4_puts_1 15 rfl rfl)
theorem dX4_puts_39 : decode cX4_puts 39 = .ok (.iconst 1, 1) := dk_4 (dk_at dksX4_puts_1 16 rfl rfl)
theorem dX4_puts_40 : decode cX4_puts 40 = .ok (.iadd, 1) := dk_96 (dk_at dksX4_puts_1 17 rfl rfl)
theorem dX4_puts_41 : decode cX4_puts 41 = .ok (.iastore, 1) := dk_79 (dk_at dksX4_puts_1 18 rfl rfl)
theorem dX4_puts_42 : decode cX4_puts 42 = .ok (.return_, 1) := dk_177 (dk_at dksX4_puts_1 19 rfl rfl)
abbrev cX4_wordHere : ByteArray := prog_20_method_16_code
def yX4_wordHere : MethodName := ⟨RX4, "wordHere", "()I"⟩
def dkwX4_wordHere_7 : List UInt8 := [167, 0, 4, 2, 172]
abbrev dktX4_wordHere_7 : List UInt8 := dkwX4_wordHere_7 ++ []
def dkwX4_wordHere_6 : List UInt8 := [182, 0, 92, 153, 0, 8, 16, 11, 167, 0, 19, 42, 20, 0, 137, 182, 0, 92, 153, 0, 8, 16, 12]
abbrev dktX4_wordHere_6 : List UInt8 := dkwX4_wordHere_6 ++ dktX4_wordHere_7
def dkwX4_wordHere_5 : List UInt8 := [153, 0, 6, 16, 9, 172, 42, 20, 0, 133, 182, 0, 92, 153, 0, 6, 16, 10, 172, 42, 20, 0, 135]
abbrev dktX4_wordHere_5 : List UInt8 := dkwX4_wordHere_5 ++ dktX4_wordHere_6
def dkwX4_wordHere_4 : List UInt8 := [16, 7, 172, 42, 20, 0, 129, 182, 0, 92, 153, 0, 6, 16, 8, 172, 42, 20, 0, 131, 182, 0, 92]
abbrev dktX4_wordHere_4 : List UInt8 := dkwX4_wordHere_4 ++ dktX4_wordHere_5
def dkwX4_wordHere_3 : List UInt8 := [42, 20, 0, 125, 182, 0, 92, 153, 0, 6, 16, 6, 172, 42, 20, 0, 127, 182, 0, 92, 153, 0, 6]
abbrev dktX4_wordHere_3 : List UInt8 := dkwX4_wordHere_3 ++ dktX4_wordHere_4
def dkwX4_wordHere_2 : List UInt8 := [42, 20, 0, 121, 182, 0, 92, 153, 0, 5, 7, 172, 42, 20, 0, 123, 182, 0, 92, 153, 0, 5, 8, 172]
abbrev dktX4_wordHere_2 : List UInt8 := dkwX4_wordHere_2 ++ dktX4_wordHere_3
def dkwX4_wordHere_1 : List UInt8 := [42, 20, 0, 117, 182, 0, 92, 153, 0, 5, 5, 172, 42, 20, 0, 119, 182, 0, 92, 153, 0, 5, 6, 172]
abbrev dktX4_wordHere_1 : List UInt8 := dkwX4_wordHere_1 ++ dktX4_wordHere_2
def dkwX4_wordHere_0 : List UInt8 := [42, 20, 0, 113, 182, 0, 92, 153, 0, 5, 3, 172, 42, 20, 0, 115, 182, 0, 92, 153, 0, 5, 4, 172]
abbrev dktX4_wordHere_0 : List UInt8 := dkwX4_wordHere_0 ++ dktX4_wordHere_1
theorem dksX4_wordHere_0 : cX4_wordHere.data.toList.drop 0 = dktX4_wordHere_0 := by decide +kernel
theorem dksX4_wordHere_1 : cX4_wordHere.data.toList.drop 24 = dktX4_wordHere_1 := dk_seg dksX4_wordHere_0 24 rfl rfl
theorem dksX4_wordHere_2 : cX4_wordHere.data.toList.drop 48 = dktX4_wordHere_2 := dk_seg dksX4_wordHere_1 24 rfl rfl
theorem dksX4_wordHere_3 : cX4_wordHere.data.toList.drop 72 = dktX4_wordHere_3 := dk_seg dksX4_wordHere_2 24 rfl rfl
theorem dksX4_wordHere_4 : cX4_wordHere.data.toList.drop 95 = dktX4_wordHere_4 := dk_seg dksX4_wordHere_3 23 rfl rfl
theorem dksX4_wordHere_5 : cX4_wordHere.data.toList.drop 118 = dktX4_wordHere_5 := dk_seg dksX4_wordHere_4 23 rfl rfl
theorem dksX4_wordHere_6 : cX4_wordHere.data.toList.drop 141 = dktX4_wordHere_6 := dk_seg dksX4_wordHere_5 23 rfl rfl
theorem dksX4_wordHere_7 : cX4_wordHere.data.toList.drop 164 = dktX4_wordHere_7 := dk_seg dksX4_wordHere_6 23 rfl rfl
theorem dX4_wordHere_0 : decode cX4_wordHere 0 = .ok (.aload_n 0, 1) := dk_42 (dk_at dksX4_wordHere_0 0 rfl rfl)
theorem dX4_wordHere_1 : decode cX4_wordHere 1 = .ok (.ldc2_w 113, 3) := dk_20 0 113 (dk_at dksX4_wordHere_0 1 rfl rfl)
theorem dX4_wordHere_4 : decode cX4_wordHere 4 = .ok (.invokevirtual 92, 3) := dk_182 0 92 (dk_at dksX4_wordHere_0 4 rfl rfl)
theorem dX4_wordHere_7 : decode cX4_wordHere 7 = .ok (.ifCond .eq 5, 3) := dk_153 0 5 (dk_at dksX4_wordHere_0 7 rfl rfl)
theorem dX4_wordHere_10 : decode cX4_wordHere 10 = .ok (.iconst 0, 1) := dk_3 (dk_at dksX4_wordHere_0 10 rfl rfl)
theorem dX4_wordHere_11 : decode cX4_wordHere 11 = .ok (.ireturn, 1) := dk_172 (dk_at dksX4_wordHere_0 11 rfl rfl)
theorem dX4_wordHere_12 : decode cX4_wordHere 12 = .ok (.aload_n 0, 1) := dk_42 (dk_at dksX4_wordHere_0 12 rfl rfl)
theorem dX4_wordHere_13 : decode cX4_wordHere 13 = .ok (.ldc2_w 115, 3) := dk_20 0 115 (dk_at dksX4_wordHere_0 13 rfl rfl)
theorem dX4_wordHere_16 : decode cX4_wordHere 16 = .ok (.invokevirtual 92, 3) := dk_182 0 92 (dk_at dksX4_wordHere_0 16 rfl rfl)
theorem dX4_wordHere_19 : decode cX4_wordHere 19 = .ok (.ifCond .eq 5, 3) := dk_153 0 5 (dk_at dksX4_wordHere_0 19 rfl rfl)
theorem dX4_wordHere_22 : decode cX4_wordHere 22 = .ok (.iconst 1, 1) := dk_4 (dk_at dksX4_wordHere_0 22 rfl rfl)
theorem dX4_wordHere_23 : decode cX4_wordHere 23 = .ok (.ireturn, 1) := dk_172 (dk_at dksX4_wordHere_0 23 rfl rfl)
theorem dX4_wordHere_24 : decode cX4_wordHere 24 = .ok (.aload_n 0, 1) := dk_42 (dk_at dksX4_wordHere_1 0 rfl rfl)
theorem dX4_wordHere_25 : decode cX4_wordHere 25 = .ok (.ldc2_w 117, 3) := dk_20 0 117 (dk_at dksX4_wordHere_1 1 rfl rfl)
theorem dX4_wordHere_28 : decode cX4_wordHere 28 = .ok (.invokevirtual 92, 3) := dk_182 0 92 (dk_at dksX4_wordHere_1 4 rfl rfl)
theorem dX4_wordHere_31 : decode cX4_wordHere 31 = .ok (.ifCond .eq 5, 3) := dk_153 0 5 (dk_at dksX4_wordHere_1 7 rfl rfl)
theorem dX4_wordHere_34 : decode cX4_wordHere 34 = .ok (.iconst 2, 1) := dk_5 (dk_at dksX4_wordHere_1 10 rfl rfl)
theorem dX4_wordHere_35 : decode cX4_wordHere 35 = .ok (.ireturn, 1) := dk_172 (dk_at dksX4_wordHere_1 11 rfl rfl)
theorem dX4_wordHere_36 : decode cX4_wordHere 36 = .ok (.aload_n 0, 1) := dk_42 (dk_at dksX4_wordHere_1 12 rfl rfl)
theorem dX4_wordHere_37 : decode cX4_wordHere 37 = .ok (.ldc2_w 119, 3) := dk_20 0 119 (dk_at dksX4_wordHere_1 13 rfl rfl)
theorem dX4_wordHere_40 : decode cX4_wordHere 40 = .ok (.invokevirtual 92, 3) := dk_182 0 92 (dk_at dksX4_wordHere_1 16 rfl rfl)
theorem dX4_wordHere_43 : decode cX4_wordHere 43 = .ok (.ifCond .eq 5, 3) := dk_153 0 5 (dk_at dksX4_wordHere_1 19 rfl rfl)
theorem dX4_wordHere_46 : decode cX4_wordHere 46 = .ok (.iconst 3, 1) := dk_6 (dk_at dksX4_wordHere_1 22 rfl rfl)
theorem dX4_wordHere_47 : decode cX4_wordHere 47 = .ok (.ireturn, 1) := dk_172 (dk_at dksX4_wordHere_1 23 rfl rfl)
theorem dX4_wordHere_48 : decode cX4_wordHere 48 = .ok (.aload_n 0, 1) := dk_42 (dk_at dksX4_wordHere_2 0 rfl rfl)
theorem dX4_wordHere_49 : decode cX4_wordHere 49 = .ok (.ldc2_w 121, 3) := dk_20 0 121 (dk_at dksX4_wordHere_2 1 rfl rfl)
theorem dX4_wordHere_52 : decode cX4_wordHere 52 = .ok (.invokevirtual 92, 3) := dk_182 0 92 (dk_at dksX4_wordHere_2 4 rfl rfl)
theorem dX4_wordHere_55 : decode cX4_wordHere 55 = .ok (.ifCond .eq 5, 3) := dk_153 0 5 (dk_at dksX4_wordHere_2 7 rfl rfl)
theorem dX4_wordHere_58 : decode cX4_wordHere 58 = .ok (.iconst 4, 1) := dk_7 (dk_at dksX4_wordHere_2 10 rfl rfl)
theorem dX4_wordHere_59 : decode cX4_wordHere 59 = .ok (.ireturn, 1) := dk_172 (dk_at dksX4_wordHere_2 11 rfl rfl)
theorem dX4_wordHere_60 : decode cX4_wordHere 60 = .ok (.aload_n 0, 1) := dk_42 (dk_at dksX4_wordHere_2 12 rfl rfl)
theorem dX4_wordHere_61 : decode cX4_wordHere 61 = .ok (.ldc2_w 123, 3) := dk_20 0 123 (dk_at dksX4_wordHere_2 13 rfl rfl)
theorem dX4_wordHere_64 : decode cX4_wordHere 64 = .ok (.invokevirtual 92, 3) := dk_182 0 92 (dk_at dksX4_wordHere_2 16 rfl rfl)
theorem dX4_wordHere_67 : decode cX4_wordHere 67 = .ok (.ifCond .eq 5, 3) := dk_153 0 5 (dk_at dksX4_wordHere_2 19 rfl rfl)
theorem dX4_wordHere_70 : decode cX4_wordHere 70 = .ok (.iconst 5, 1) := dk_8 (dk_at dksX4_wordHere_2 22 rfl rfl)
theorem dX4_wordHere_71 : decode cX4_wordHere 71 = .ok (.ireturn, 1) := dk_172 (dk_at dksX4_wordHere_2 23 rfl rfl)
theorem dX4_wordHere_72 : decode cX4_wordHere 72 = .ok (.aload_n 0, 1) := dk_42 (dk_at dksX4_wordHere_3 0 rfl rfl)
theorem dX4_wordHere_73 : decode cX4_wordHere 73 = .ok (.ldc2_w 125, 3) := dk_20 0 125 (dk_at dksX4_wordHere_3 1 rfl rfl)
theorem dX4_wordHere_76 : decode cX4_wordHere 76 = .ok (.invokevirtual 92, 3) := dk_182 0 92 (dk_at dksX4_wordHere_3 4 rfl rfl)
theorem dX4_wordHere_79 : decode cX4_wordHere 79 = .ok (.ifCond .eq 6, 3) := dk_153 0 6 (dk_at dksX4_wordHere_3 7 rfl rfl)
theorem dX4_wordHere_82 : decode cX4_wordHere 82 = .ok (.bipush 6, 2) := dk_16 6 (dk_at dksX4_wordHere_3 10 rfl rfl)
theorem dX4_wordHere_84 : decode cX4_wordHere 84 = .ok (.ireturn, 1) := dk_172 (dk_at dksX4_wordHere_3 12 rfl rfl)
theorem dX4_wordHere_85 : decode cX4_wordHere 85 = .ok (.aload_n 0, 1) := dk_42 (dk_at dksX4_wordHere_3 13 rfl rfl)
theorem dX4_wordHere_86 : decode cX4_wordHere 86 = .ok (.ldc2_w 127, 3) := dk_20 0 127 (dk_at dksX4_wordHere_3 14 rfl rfl)
theorem dX4_wordHere_89 : decode cX4_wordHere 89 = .ok (.invokevirtual 92, 3) := dk_182 0 92 (dk_at dksX4_wordHere_3 17 rfl rfl)
theorem dX4_wordHere_92 : decode cX4_wordHere 92 = .ok (.ifCond .eq 6, 3) := dk_153 0 6 (dk_at dksX4_wordHere_3 20 rfl rfl)
theorem dX4_wordHere_95 : decode cX4_wordHere 95 = .ok (.bipush 7, 2) := dk_16 7 (dk_at dksX4_wordHere_4 0 rfl rfl)
theorem dX4_wordHere_97 : decode cX4_wordHere 97 = .ok (.ireturn, 1) := dk_172 (dk_at dksX4_wordHere_4 2 rfl rfl)
theorem dX4_wordHere_98 : decode cX4_wordHere 98 = .ok (.aload_n 0, 1) := dk_42 (dk_at dksX4_wordHere_4 3 rfl rfl)
theorem dX4_wordHere_99 : decode cX4_wordHere 99 = .ok (.ldc2_w 129, 3) := dk_20 0 129 (dk_at dksX4_wordHere_4 4 rfl rfl)
theorem dX4_wordHere_102 : decode cX4_wordHere 102 = .ok (.invokevirtual 92, 3) := dk_182 0 92 (dk_at dksX4_wordHere_4 7 rfl rfl)
theorem dX4_wordHere_105 : decode cX4_wordHere 105 = .ok (.ifCond .eq 6, 3) := dk_153 0 6 (dk_at dksX4_wordHere_4 10 rfl rfl)
theorem dX4_wordHere_108 : decode cX4_wordHere 108 = .ok (.bipush 8, 2) := dk_16 8 (dk_at dksX4_wordHere_4 13 rfl rfl)
theorem dX4_wordHere_110 : decode cX4_wordHere 110 = .ok (.ireturn, 1) := dk_172 (dk_at dksX4_wordHere_4 15 rfl rfl)
theorem dX4_wordHere_111 : decode cX4_wordHere 111 = .ok (.aload_n 0, 1) := dk_42 (dk_at dksX4_wordHere_4 16 rfl rfl)
theorem dX4_wordHere_112 : decode cX4_wordHere 112 = .ok (.ldc2_w 131, 3) := dk_20 0 131 (dk_at dksX4_wordHere_4 17 rfl rfl)
theorem dX4_wordHere_115 : decode cX4_wordHere 115 = .ok (.invokevirtual 92, 3) := dk_182 0 92 (dk_at dksX4_wordHere_4 20 rfl rfl)
theorem dX4_wordHere_118 : decode cX4_wordHere 118 = .ok (.ifCond .eq 6, 3) := dk_153 0 6 (dk_at dksX4_wordHere_5 0 rfl rfl)
theorem dX4_wordHere_121 : decode cX4_wordHere 121 = .ok (.bipush 9, 2) := dk_16 9 (dk_at dksX4_wordHere_5 3 rfl rfl)
theorem dX4_wordHere_123 : decode cX4_wordHere 123 = .ok (.ireturn, 1) := dk_172 (dk_at dksX4_wordHere_5 5 rfl rfl)
theorem dX4_wordHere_124 : decode cX4_wordHere 124 = .ok (.aload_n 0, 1) := dk_42 (dk_at dksX4_wordHere_5 6 rfl rfl)
theorem dX4_wordHere_125 : decode cX4_wordHere 125 = .ok (.ldc2_w 133, 3) := dk_20 0 133 (dk_at dksX4_wordHere_5 7 rfl rfl)
theorem dX4_wordHere_128 : decode cX4_wordHere 128 = .ok (.invokevirtual 92, 3) := dk_182 0 92 (dk_at dksX4_wordHere_5 10 rfl rfl)
theorem dX4_wordHere_131 : decode cX4_wordHere 131 = .ok (.ifCond .eq 6, 3) := dk_153 0 6 (dk_at dksX4_wordHere_5 13 rfl rfl)
theorem dX4_wordHere_134 : decode cX4_wordHere 134 = .ok (.bipush 10, 2) := dk_16 10 (dk_at dksX4_wordHere_5 16 rfl rfl)
theorem dX4_wordHere_136 : decode cX4_wordHere 136 = .ok (.ireturn, 1) := dk_172 (dk_at dksX4_wordHere_5 18 rfl rfl)
theorem dX4_wordHere_137 : decode cX4_wordHere 137 = .ok (.aload_n 0, 1) := dk_42 (dk_at dksX4_wordHere_5 19 rfl rfl)
theorem dX4_wordHere_138 : decode cX4_wordHere 138 = .ok (.ldc2_w 135, 3) := dk_20 0 135 (dk_at dksX4_wordHere_5 20 rfl rfl)
theorem dX4_wordHere_141 : decode cX4_wordHere 141 = .ok (.invokevirtual 92, 3) := dk_182 0 92 (dk_at dksX4_wordHere_6 0 rfl rfl)
theorem dX4_wordHere_144 : decode cX4_wordHere 144 = .ok (.ifCond .eq 8, 3) := dk_153 0 8 (dk_at dksX4_wordHere_6 3 rfl rfl)
theorem dX4_wordHere_147 : decode cX4_wordHere 147 = .ok (.bipush 11, 2) := dk_16 11 (dk_at dksX4_wordHere_6 6 rfl rfl)
theorem dX4_wordHere_149 : decode cX4_wordHere 149 = .ok (.goto 19, 3) := dk_167 0 19 (dk_at dksX4_wordHere_6 8 rfl rfl)
theorem dX4_wordHere_152 : decode cX4_wordHere 152 = .ok (.aload_n 0, 1) := dk_42 (dk_at dksX4_wordHere_6 11 rfl rfl)
theorem dX4_wordHere_153 : decode cX4_wordHere 153 = .ok (.ldc2_w 137, 3) := dk_20 0 137 (dk_at dksX4_wordHere_6 12 rfl rfl)
theorem dX4_wordHere_156 : decode cX4_wordHere 156 = .ok (.invokevirtual 92, 3) := dk_182 0 92 (dk_at dksX4_wordHere_6 15 rfl rfl)
theorem dX4_wordHere_159 : decode cX4_wordHere 159 = .ok (.ifCond .eq 8, 3) := dk_153 0 8 (dk_at dksX4_wordHere_6 18 rfl rfl)
theorem dX4_wordHere_162 : decode cX4_wordHere 162 = .ok (.bipush 12, 2) := dk_16 12 (dk_at dksX4_wordHere_6 21 rfl rfl)
theorem dX4_wordHere_164 : decode cX4_wordHere 164 = .ok (.goto 4, 3) := dk_167 0 4 (dk_at dksX4_wordHere_7 0 rfl rfl)
theorem dX4_wordHere_167 : decode cX4_wordHere 167 = .ok (.iconst (-1), 1) := dk_2 (dk_at dksX4_wordHere_7 3 rfl rfl)
theorem dX4_wordHere_168 : decode cX4_wordHere 168 = .ok (.ireturn, 1) := dk_172 (dk_at dksX4_wordHere_7 4 rfl rfl)
abbrev cX4_takesWord : ByteArray := prog_20_method_14_code
def yX4_takesWord : MethodName := ⟨RX4, "takesWord", "(J)Z"⟩
def dkwX4_takesWord_0 : List UInt8 := [42, 31, 182, 0, 92, 154, 0, 5, 3, 172, 42, 182, 0, 96, 4, 172]
abbrev dktX4_takesWord_0 : List UInt8 := dkwX4_takesWord_0 ++ []
theorem dksX4_takesWord_0 : cX4_takesWord.data.toList.drop 0 = dktX4_takesWord_0 := by decide +kernel
theorem dX4_takesWord_0 : decode cX4_takesWord 0 = .ok (.aload_n 0, 1) := dk_42 (dk_at dksX4_takesWord_0 0 rfl rfl)
theorem dX4_takesWord_1 : decode cX4_takesWord 1 = .ok (.lload_n 1, 1) := dk_31 (dk_at dksX4_takesWord_0 1 rfl rfl)
theorem dX4_takesWord_2 : decode cX4_takesWord 2 = .ok (.invokevirtual 92, 3) := dk_182 0 92 (dk_at dksX4_takesWord_0 2 rfl rfl)
theorem dX4_takesWord_5 : decode cX4_takesWord 5 = .ok (.ifCond .ne 5, 3) := dk_154 0 5 (dk_at dksX4_takesWord_0 5 rfl rfl)
theorem dX4_takesWord_8 : decode cX4_takesWord 8 = .ok (.iconst 0, 1) := dk_3 (dk_at dksX4_takesWord_0 8 rfl rfl)
theorem dX4_takesWord_9 : decode cX4_takesWord 9 = .ok (.ireturn, 1) := dk_172 (dk_at dksX4_takesWord_0 9 rfl rfl)
theorem dX4_takesWord_10 : decode cX4_takesWord 10 = .ok (.aload_n 0, 1) := dk_42 (dk_at dksX4_takesWord_0 10 rfl rfl)
theorem dX4_takesWord_11 : decode cX4_takesWord 11 = .ok (.invokevirtual 96, 3) := dk_182 0 96 (dk_at dksX4_takesWord_0 11 rfl rfl)
theorem dX4_takesWord_14 : decode cX4_takesWord 14 = .ok (.iconst 1, 1) := dk_4 (dk_at dksX4_takesWord_0 14 rfl rfl)
theorem dX4_takesWord_15 : decode cX4_takesWord 15 = .ok (.ireturn, 1) := dk_172 (dk_at dksX4_takesWord_0 15 rfl rfl)
abbrev cX4_tested : ByteArray := prog_20_method_29_code
def yX4_tested : MethodName := ⟨RX4, "tested", "()Z"⟩
def dkwX4_tested_6 : List UInt8 := [172]
abbrev dktX4_tested_6 : List UInt8 := dkwX4_tested_6 ++ []
def dkwX4_tested_5 : List UInt8 := [153, 0, 18, 42, 182, 0, 84, 87, 42, 3, 42, 180, 0, 81, 182, 0, 102, 172, 42, 4, 182, 0, 187, 4]
abbrev dktX4_tested_5 : List UInt8 := dkwX4_tested_5 ++ dktX4_tested_6
def dkwX4_tested_4 : List UInt8 := [42, 180, 0, 148, 28, 79, 42, 89, 180, 0, 148, 4, 96, 181, 0, 148, 167, 255, 159, 42, 182, 0, 190]
abbrev dktX4_tested_4 : List UInt8 := dkwX4_tested_4 ++ dktX4_tested_5
def dkwX4_tested_3 : List UInt8 := [16, 12, 167, 0, 5, 16, 13, 61, 42, 182, 0, 96, 42, 28, 184, 0, 151, 182, 0, 187, 42, 180, 0, 29]
abbrev dktX4_tested_3 : List UInt8 := dkwX4_tested_3 ++ dktX4_tested_4
def dkwX4_tested_2 : List UInt8 := [153, 0, 7, 4, 167, 0, 4, 3, 60, 27, 153, 255, 212, 42, 20, 0, 199, 182, 0, 92, 153, 0, 8]
abbrev dktX4_tested_2 : List UInt8 := dkwX4_tested_2 ++ dktX4_tested_3
def dkwX4_tested_1 : List UInt8 := [172, 42, 182, 0, 196, 42, 20, 0, 199, 182, 0, 92, 154, 0, 13, 42, 20, 0, 201, 182, 0, 92]
abbrev dktX4_tested_1 : List UInt8 := dkwX4_tested_1 ++ dktX4_tested_2
def dkwX4_tested_0 : List UInt8 := [42, 3, 181, 0, 148, 42, 3, 181, 0, 145, 4, 60, 27, 153, 0, 99, 42, 182, 0, 193, 154, 0, 5, 3]
abbrev dktX4_tested_0 : List UInt8 := dkwX4_tested_0 ++ dktX4_tested_1
theorem dksX4_tested_0 : cX4_tested.data.toList.drop 0 = dktX4_tested_0 := by decide +kernel
theorem dksX4_tested_1 : cX4_tested.data.toList.drop 24 = dktX4_tested_1 := dk_seg dksX4_tested_0 24 rfl rfl
theorem dksX4_tested_2 : cX4_tested.data.toList.drop 46 = dktX4_tested_2 := dk_seg dksX4_tested_1 22 rfl rfl
theorem dksX4_tested_3 : cX4_tested.data.toList.drop 69 = dktX4_tested_3 := dk_seg dksX4_tested_2 23 rfl rfl
theorem dksX4_tested_4 : cX4_tested.data.toList.drop 93 = dktX4_tested_4 := dk_seg dksX4_tested_3 24 rfl rfl
theorem dksX4_tested_5 : cX4_tested.data.toList.drop 116 = dktX4_tested_5 := dk_seg dksX4_tested_4 23 rfl rfl
theorem dksX4_tested_6 : cX4_tested.data.toList.drop 140 = dktX4_tested_6 := dk_seg dksX4_tested_5 24 rfl rfl
theorem dX4_tested_0 : decode cX4_tested 0 = .ok (.aload_n 0, 1) := dk_42 (dk_at dksX4_tested_0 0 rfl rfl)
theorem dX4_tested_1 : decode cX4_tested 1 = .ok (.iconst 0, 1) := dk_3 (dk_at dksX4_tested_0 1 rfl rfl)
theorem dX4_tested_2 : decode cX4_tested 2 = .ok (.putfield 148, 3) := dk_181 0 148 (dk_at dksX4_tested_0 2 rfl rfl)
theorem dX4_tested_5 : decode cX4_tested 5 = .ok (.aload_n 0, 1) := dk_42 (dk_at dksX4_tested_0 5 rfl rfl)
theorem dX4_tested_6 : decode cX4_tested 6 = .ok (.iconst 0, 1) := dk_3 (dk_at dksX4_tested_0 6 rfl rfl)
theorem dX4_tested_7 : decode cX4_tested 7 = .ok (.putfield 145, 3) := dk_181 0 145 (dk_at dksX4_tested_0 7 rfl rfl)
theorem dX4_tested_10 : decode cX4_tested 10 = .ok (.iconst 1, 1) := dk_4 (dk_at dksX4_tested_0 10 rfl rfl)
theorem dX4_tested_11 : decode cX4_tested 11 = .ok (.istore_n 1, 1) := dk_60 (dk_at dksX4_tested_0 11 rfl rfl)
theorem dX4_tested_12 : decode cX4_tested 12 = .ok (.iload_n 1, 1) := dk_27 (dk_at dksX4_tested_0 12 rfl rfl)
theorem dX4_tested_13 : decode cX4_tested 13 = .ok (.ifCond .eq 99, 3) := dk_153 0 99 (dk_at dksX4_tested_0 13 rfl rfl)
theorem dX4_tested_16 : decode cX4_tested 16 = .ok (.aload_n 0, 1) := dk_42 (dk_at dksX4_tested_0 16 rfl rfl)
theorem dX4_tested_17 : decode cX4_tested 17 = .ok (.invokevirtual 193, 3) := dk_182 0 193 (dk_at dksX4_tested_0 17 rfl rfl)
theorem dX4_tested_20 : decode cX4_tested 20 = .ok (.ifCond .ne 5, 3) := dk_154 0 5 (dk_at dksX4_tested_0 20 rfl rfl)
theorem dX4_tested_23 : decode cX4_tested 23 = .ok (.iconst 0, 1) := dk_3 (dk_at dksX4_tested_0 23 rfl rfl)
theorem dX4_tested_24 : decode cX4_tested 24 = .ok (.ireturn, 1) := dk_172 (dk_at dksX4_tested_1 0 rfl rfl)
theorem dX4_tested_25 : decode cX4_tested 25 = .ok (.aload_n 0, 1) := dk_42 (dk_at dksX4_tested_1 1 rfl rfl)
theorem dX4_tested_26 : decode cX4_tested 26 = .ok (.invokevirtual 196, 3) := dk_182 0 196 (dk_at dksX4_tested_1 2 rfl rfl)
theorem dX4_tested_29 : decode cX4_tested 29 = .ok (.aload_n 0, 1) := dk_42 (dk_at dksX4_tested_1 5 rfl rfl)
theorem dX4_tested_30 : decode cX4_tested 30 = .ok (.ldc2_w 199, 3) := dk_20 0 199 (dk_at dksX4_tested_1 6 rfl rfl)
theorem dX4_tested_33 : decode cX4_tested 33 = .ok (.invokevirtual 92, 3) := dk_182 0 92 (dk_at dksX4_tested_1 9 rfl rfl)
theorem dX4_tested_36 : decode cX4_tested 36 = .ok (.ifCond .ne 13, 3) := dk_154 0 13 (dk_at dksX4_tested_1 12 rfl rfl)
theorem dX4_tested_39 : decode cX4_tested 39 = .ok (.aload_n 0, 1) := dk_42 (dk_at dksX4_tested_1 15 rfl rfl)
theorem dX4_tested_40 : decode cX4_tested 40 = .ok (.ldc2_w 201, 3) := dk_20 0 201 (dk_at dksX4_tested_1 16 rfl rfl)
theorem dX4_tested_43 : decode cX4_tested 43 = .ok (.invokevirtual 92, 3) := dk_182 0 92 (dk_at dksX4_tested_1 19 rfl rfl)
theorem dX4_tested_46 : decode cX4_tested 46 = .ok (.ifCond .eq 7, 3) := dk_153 0 7 (dk_at dksX4_tested_2 0 rfl rfl)
theorem dX4_tested_49 : decode cX4_tested 49 = .ok (.iconst 1, 1) := dk_4 (dk_at dksX4_tested_2 3 rfl rfl)
theorem dX4_tested_50 : decode cX4_tested 50 = .ok (.goto 4, 3) := dk_167 0 4 (dk_at dksX4_tested_2 4 rfl rfl)
theorem dX4_tested_53 : decode cX4_tested 53 = .ok (.iconst 0, 1) := dk_3 (dk_at dksX4_tested_2 7 rfl rfl)
theorem dX4_tested_54 : decode cX4_tested 54 = .ok (.istore_n 1, 1) := dk_60 (dk_at dksX4_tested_2 8 rfl rfl)
theorem dX4_tested_55 : decode cX4_tested 55 = .ok (.iload_n 1, 1) := dk_27 (dk_at dksX4_tested_2 9 rfl rfl)
theorem dX4_tested_56 : decode cX4_tested 56 = .ok (.ifCond .eq (-44), 3) := dk_153 255 212 (dk_at dksX4_tested_2 10 rfl rfl)
theorem dX4_tested_59 : decode cX4_tested 59 = .ok (.aload_n 0, 1) := dk_42 (dk_at dksX4_tested_2 13 rfl rfl)
theorem dX4_tested_60 : decode cX4_tested 60 = .ok (.ldc2_w 199, 3) := dk_20 0 199 (dk_at dksX4_tested_2 14 rfl rfl)
theorem dX4_tested_63 : decode cX4_tested 63 = .ok (.invokevirtual 92, 3) := dk_182 0 92 (dk_at dksX4_tested_2 17 rfl rfl)
theorem dX4_tested_66 : decode cX4_tested 66 = .ok (.ifCond .eq 8, 3) := dk_153 0 8 (dk_at dksX4_tested_2 20 rfl rfl)
theorem dX4_tested_69 : decode cX4_tested 69 = .ok (.bipush 12, 2) := dk_16 12 (dk_at dksX4_tested_3 0 rfl rfl)
theorem dX4_tested_71 : decode cX4_tested 71 = .ok (.goto 5, 3) := dk_167 0 5 (dk_at dksX4_tested_3 2 rfl rfl)
theorem dX4_tested_74 : decode cX4_tested 74 = .ok (.bipush 13, 2) := dk_16 13 (dk_at dksX4_tested_3 5 rfl rfl)
theorem dX4_tested_76 : decode cX4_tested 76 = .ok (.istore_n 2, 1) := dk_61 (dk_at dksX4_tested_3 7 rfl rfl)
theorem dX4_tested_77 : decode cX4_tested 77 = .ok (.aload_n 0, 1) := dk_42 (dk_at dksX4_tested_3 8 rfl rfl)
theorem dX4_tested_78 : decode cX4_tested 78 = .ok (.invokevirtual 96, 3) := dk_182 0 96 (dk_at dksX4_tested_3 9 rfl rfl)
theorem dX4_tested_81 : decode cX4_tested 81 = .ok (.aload_n 0, 1) := dk_42 (dk_at dksX4_tested_3 12 rfl rfl)
theorem dX4_tested_82 : decode cX4_tested 82 = .ok (.iload_n 2, 1) := dk_28 (dk_at dksX4_tested_3 13 rfl rfl)
theorem dX4_tested_83 : decode cX4_tested 83 = .ok (.invokestatic 151, 3) := dk_184 0 151 (dk_at dksX4_tested_3 14 rfl rfl)
theorem dX4_tested_86 : decode cX4_tested 86 = .ok (.invokevirtual 187, 3) := dk_182 0 187 (dk_at dksX4_tested_3 17 rfl rfl)
theorem dX4_tested_89 : decode cX4_tested 89 = .ok (.aload_n 0, 1) := dk_42 (dk_at dksX4_tested_3 20 rfl rfl)
theorem dX4_tested_90 : decode cX4_tested 90 = .ok (.getfield 29, 3) := dk_180 0 29 (dk_at dksX4_tested_3 21 rfl rfl)
theorem dX4_tested_93 : decode cX4_tested 93 = .ok (.aload_n 0, 1) := dk_42 (dk_at dksX4_tested_4 0 rfl rfl)
theorem dX4_tested_94 : decode cX4_tested 94 = .ok (.getfield 148, 3) := dk_180 0 148 (dk_at dksX4_tested_4 1 rfl rfl)
theorem dX4_tested_97 : decode cX4_tested 97 = .ok (.iload_n 2, 1) := dk_28 (dk_at dksX4_tested_4 4 rfl rfl)
theorem dX4_tested_98 : decode cX4_tested 98 = .ok (.iastore, 1) := dk_79 (dk_at dksX4_tested_4 5 rfl rfl)
theorem dX4_tested_99 : decode cX4_tested 99 = .ok (.aload_n 0, 1) := dk_42 (dk_at dksX4_tested_4 6 rfl rfl)
theorem dX4_tested_100 : decode cX4_tested 100 = .ok (.dup, 1) := dk_89 (dk_at dksX4_tested_4 7 rfl rfl)
theorem dX4_tested_101 : decode cX4_tested 101 = .ok (.getfield 148, 3) := dk_180 0 148 (dk_at dksX4_tested_4 8 rfl rfl)
theorem dX4_tested_104 : decode cX4_tested 104 = .ok (.iconst 1, 1) := dk_4 (dk_at dksX4_tested_4 11 rfl rfl)
theorem dX4_tested_105 : decode cX4_tested 105 = .ok (.iadd, 1) := dk_96 (dk_at dksX4_tested_4 12 rfl rfl)
theorem dX4_tested_106 : decode cX4_tested 106 = .ok (.putfield 148, 3) := dk_181 0 148 (dk_at dksX4_tested_4 13 rfl rfl)
theorem dX4_tested_109 : decode cX4_tested 109 = .ok (.goto (-97), 3) := dk_167 255 159 (dk_at dksX4_tested_4 16 rfl rfl)
theorem dX4_tested_112 : decode cX4_tested 112 = .ok (.aload_n 0, 1) := dk_42 (dk_at dksX4_tested_4 19 rfl rfl)
theorem dX4_tested_113 : decode cX4_tested 113 = .ok (.invokevirtual 190, 3) := dk_182 0 190 (dk_at dksX4_tested_4 20 rfl rfl)
theorem dX4_tested_116 : decode cX4_tested 116 = .ok (.ifCond .eq 18, 3) := dk_153 0 18 (dk_at dksX4_tested_5 0 rfl rfl)
theorem dX4_tested_119 : decode cX4_tested 119 = .ok (.aload_n 0, 1) := dk_42 (dk_at dksX4_tested_5 3 rfl rfl)
theorem dX4_tested_120 : decode cX4_tested 120 = .ok (.invokevirtual 84, 3) := dk_182 0 84 (dk_at dksX4_tested_5 4 rfl rfl)
theorem dX4_tested_123 : decode cX4_tested 123 = .ok (.pop, 1) := dk_87 (dk_at dksX4_tested_5 7 rfl rfl)
theorem dX4_tested_124 : decode cX4_tested 124 = .ok (.aload_n 0, 1) := dk_42 (dk_at dksX4_tested_5 8 rfl rfl)
theorem dX4_tested_125 : decode cX4_tested 125 = .ok (.iconst 0, 1) := dk_3 (dk_at dksX4_tested_5 9 rfl rfl)
theorem dX4_tested_126 : decode cX4_tested 126 = .ok (.aload_n 0, 1) := dk_42 (dk_at dksX4_tested_5 10 rfl rfl)
theorem dX4_tested_127 : decode cX4_tested 127 = .ok (.getfield 81, 3) := dk_180 0 81 (dk_at dksX4_tested_5 11 rfl rfl)
theorem dX4_tested_130 : decode cX4_tested 130 = .ok (.invokevirtual 102, 3) := dk_182 0 102 (dk_at dksX4_tested_5 14 rfl rfl)
theorem dX4_tested_133 : decode cX4_tested 133 = .ok (.ireturn, 1) := dk_172 (dk_at dksX4_tested_5 17 rfl rfl)
theorem dX4_tested_134 : decode cX4_tested 134 = .ok (.aload_n 0, 1) := dk_42 (dk_at dksX4_tested_5 18 rfl rfl)
theorem dX4_tested_135 : decode cX4_tested 135 = .ok (.iconst 1, 1) := dk_4 (dk_at dksX4_tested_5 19 rfl rfl)
theorem dX4_tested_136 : decode cX4_tested 136 = .ok (.invokevirtual 187, 3) := dk_182 0 187 (dk_at dksX4_tested_5 20 rfl rfl)
theorem dX4_tested_139 : decode cX4_tested 139 = .ok (.iconst 1, 1) := dk_4 (dk_at dksX4_tested_5 23 rfl rfl)
theorem dX4_tested_140 : decode cX4_tested 140 = .ok (.ireturn, 1) := dk_172 (dk_at dksX4_tested_6 0 rfl rfl)
abbrev cX4_fact : ByteArray := prog_20_method_26_code
def yX4_fact : MethodName := ⟨RX4, "fact", "()Z"⟩
def dkwX4_fact_3 : List UInt8 := [4, 60, 167, 255, 186, 42, 182, 0, 184, 172]
abbrev dktX4_fact_3 : List UInt8 := dkwX4_fact_3 ++ []
def dkwX4_fact_2 : List UInt8 := [160, 0, 26, 42, 16, 91, 182, 0, 181, 154, 0, 5, 3, 172, 42, 89, 180, 0, 81, 4, 96, 181, 0, 81]
abbrev dktX4_fact_2 : List UInt8 := dkwX4_fact_2 ++ dktX4_fact_3
def dkwX4_fact_1 : List UInt8 := [16, 11, 182, 0, 181, 154, 0, 5, 3, 172, 42, 182, 0, 96, 4, 60, 167, 0, 32, 28, 16, 91]
abbrev dktX4_fact_1 : List UInt8 := dkwX4_fact_1 ++ dktX4_fact_2
def dkwX4_fact_0 : List UInt8 := [4, 60, 27, 153, 0, 72, 3, 60, 42, 182, 0, 84, 61, 42, 20, 0, 179, 182, 0, 92, 153, 0, 23, 42]
abbrev dktX4_fact_0 : List UInt8 := dkwX4_fact_0 ++ dktX4_fact_1
theorem dksX4_fact_0 : cX4_fact.data.toList.drop 0 = dktX4_fact_0 := by decide +kernel
theorem dksX4_fact_1 : cX4_fact.data.toList.drop 24 = dktX4_fact_1 := dk_seg dksX4_fact_0 24 rfl rfl
theorem dksX4_fact_2 : cX4_fact.data.toList.drop 46 = dktX4_fact_2 := dk_seg dksX4_fact_1 22 rfl rfl
theorem dksX4_fact_3 : cX4_fact.data.toList.drop 70 = dktX4_fact_3 := dk_seg dksX4_fact_2 24 rfl rfl
theorem dX4_fact_0 : decode cX4_fact 0 = .ok (.iconst 1, 1) := dk_4 (dk_at dksX4_fact_0 0 rfl rfl)
theorem dX4_fact_1 : decode cX4_fact 1 = .ok (.istore_n 1, 1) := dk_60 (dk_at dksX4_fact_0 1 rfl rfl)
theorem dX4_fact_2 : decode cX4_fact 2 = .ok (.iload_n 1, 1) := dk_27 (dk_at dksX4_fact_0 2 rfl rfl)
theorem dX4_fact_3 : decode cX4_fact 3 = .ok (.ifCond .eq 72, 3) := dk_153 0 72 (dk_at dksX4_fact_0 3 rfl rfl)
theorem dX4_fact_6 : decode cX4_fact 6 = .ok (.iconst 0, 1) := dk_3 (dk_at dksX4_fact_0 6 rfl rfl)
theorem dX4_fact_7 : decode cX4_fact 7 = .ok (.istore_n 1, 1) := dk_60 (dk_at dksX4_fact_0 7 rfl rfl)
theorem dX4_fact_8 : decode cX4_fact 8 = .ok (.aload_n 0, 1) := dk_42 (dk_at dksX4_fact_0 8 rfl rfl)
theorem dX4_fact_9 : decode cX4_fact 9 = .ok (.invokevirtual 84, 3) := dk_182 0 84 (dk_at dksX4_fact_0 9 rfl rfl)
theorem dX4_fact_12 : decode cX4_fact 12 = .ok (.istore_n 2, 1) := dk_61 (dk_at dksX4_fact_0 12 rfl rfl)
theorem dX4_fact_13 : decode cX4_fact 13 = .ok (.aload_n 0, 1) := dk_42 (dk_at dksX4_fact_0 13 rfl rfl)
theorem dX4_fact_14 : decode cX4_fact 14 = .ok (.ldc2_w 179, 3) := dk_20 0 179 (dk_at dksX4_fact_0 14 rfl rfl)
theorem dX4_fact_17 : decode cX4_fact 17 = .ok (.invokevirtual 92, 3) := dk_182 0 92 (dk_at dksX4_fact_0 17 rfl rfl)
theorem dX4_fact_20 : decode cX4_fact 20 = .ok (.ifCond .eq 23, 3) := dk_153 0 23 (dk_at dksX4_fact_0 20 rfl rfl)
theorem dX4_fact_23 : decode cX4_fact 23 = .ok (.aload_n 0, 1) := dk_42 (dk_at dksX4_fact_0 23 rfl rfl)
theorem dX4_fact_24 : decode cX4_fact 24 = .ok (.bipush 11, 2) := dk_16 11 (dk_at dksX4_fact_1 0 rfl rfl)
theorem dX4_fact_26 : decode cX4_fact 26 = .ok (.invokevirtual 181, 3) := dk_182 0 181 (dk_at dksX4_fact_1 2 rfl rfl)
theorem dX4_fact_29 : decode cX4_fact 29 = .ok (.ifCond .ne 5, 3) := dk_154 0 5 (dk_at dksX4_fact_1 5 rfl rfl)
theorem dX4_fact_32 : decode cX4_fact 32 = .ok (.iconst 0, 1) := dk_3 (dk_at dksX4_fact_1 8 rfl rfl)
theorem dX4_fact_33 : decode cX4_fact 33 = .ok (.ireturn, 1) := dk_172 (dk_at dksX4_fact_1 9 rfl rfl)
theorem dX4_fact_34 : decode cX4_fact 34 = .ok (.aload_n 0, 1) := dk_42 (dk_at dksX4_fact_1 10 rfl rfl)
theorem dX4_fact_35 : decode cX4_fact 35 = .ok (.invokevirtual 96, 3) := dk_182 0 96 (dk_at dksX4_fact_1 11 rfl rfl)
theorem dX4_fact_38 : decode cX4_fact 38 = .ok (.iconst 1, 1) := dk_4 (dk_at dksX4_fact_1 14 rfl rfl)
theorem dX4_fact_39 : decode cX4_fact 39 = .ok (.istore_n 1, 1) := dk_60 (dk_at dksX4_fact_1 15 rfl rfl)
theorem dX4_fact_40 : decode cX4_fact 40 = .ok (.goto 32, 3) := dk_167 0 32 (dk_at dksX4_fact_1 16 rfl rfl)
theorem dX4_fact_43 : decode cX4_fact 43 = .ok (.iload_n 2, 1) := dk_28 (dk_at dksX4_fact_1 19 rfl rfl)
theorem dX4_fact_44 : decode cX4_fact 44 = .ok (.bipush 91, 2) := dk_16 91 (dk_at dksX4_fact_1 20 rfl rfl)
theorem dX4_fact_46 : decode cX4_fact 46 = .ok (.if_icmp .ne 26, 3) := dk_160 0 26 (dk_at dksX4_fact_2 0 rfl rfl)
theorem dX4_fact_49 : decode cX4_fact 49 = .ok (.aload_n 0, 1) := dk_42 (dk_at dksX4_fact_2 3 rfl rfl)
theorem dX4_fact_50 : decode cX4_fact 50 = .ok (.bipush 91, 2) := dk_16 91 (dk_at dksX4_fact_2 4 rfl rfl)
theorem dX4_fact_52 : decode cX4_fact 52 = .ok (.invokevirtual 181, 3) := dk_182 0 181 (dk_at dksX4_fact_2 6 rfl rfl)
theorem dX4_fact_55 : decode cX4_fact 55 = .ok (.ifCond .ne 5, 3) := dk_154 0 5 (dk_at dksX4_fact_2 9 rfl rfl)
theorem dX4_fact_58 : decode cX4_fact 58 = .ok (.iconst 0, 1) := dk_3 (dk_at dksX4_fact_2 12 rfl rfl)
theorem dX4_fact_59 : decode cX4_fact 59 = .ok (.ireturn, 1) := dk_172 (dk_at dksX4_fact_2 13 rfl rfl)
theorem dX4_fact_60 : decode cX4_fact 60 = .ok (.aload_n 0, 1) := dk_42 (dk_at dksX4_fact_2 14 rfl rfl)
theorem dX4_fact_61 : decode cX4_fact 61 = .ok (.dup, 1) := dk_89 (dk_at dksX4_fact_2 15 rfl rfl)
theorem dX4_fact_62 : decode cX4_fact 62 = .ok (.getfield 81, 3) := dk_180 0 81 (dk_at dksX4_fact_2 16 rfl rfl)
theorem dX4_fact_65 : decode cX4_fact 65 = .ok (.iconst 1, 1) := dk_4 (dk_at dksX4_fact_2 19 rfl rfl)
theorem dX4_fact_66 : decode cX4_fact 66 = .ok (.iadd, 1) := dk_96 (dk_at dksX4_fact_2 20 rfl rfl)
theorem dX4_fact_67 : decode cX4_fact 67 = .ok (.putfield 81, 3) := dk_181 0 81 (dk_at dksX4_fact_2 21 rfl rfl)
theorem dX4_fact_70 : decode cX4_fact 70 = .ok (.iconst 1, 1) := dk_4 (dk_at dksX4_fact_3 0 rfl rfl)
theorem dX4_fact_71 : decode cX4_fact 71 = .ok (.istore_n 1, 1) := dk_60 (dk_at dksX4_fact_3 1 rfl rfl)
theorem dX4_fact_72 : decode cX4_fact 72 = .ok (.goto (-70), 3) := dk_167 255 186 (dk_at dksX4_fact_3 2 rfl rfl)
theorem dX4_fact_75 : decode cX4_fact 75 = .ok (.aload_n 0, 1) := dk_42 (dk_at dksX4_fact_3 5 rfl rfl)
theorem dX4_fact_76 : decode cX4_fact 76 = .ok (.invokevirtual 184, 3) := dk_182 0 184 (dk_at dksX4_fact_3 6 rfl rfl)
theorem dX4_fact_79 : decode cX4_fact 79 = .ok (.ireturn, 1) := dk_172 (dk_at dksX4_fact_3 9 rfl rfl)
abbrev cX4_opens : ByteArray := prog_20_method_19_code
def yX4_opens : MethodName := ⟨RX4, "opens", "(I)Z"⟩
def dkwX4_opens_2 : List UInt8 := [181, 0, 148, 4, 172]
abbrev dktX4_opens_2 : List UInt8 := dkwX4_opens_2 ++ []
def dkwX4_opens_1 : List UInt8 := [4, 96, 181, 0, 145, 42, 180, 0, 29, 42, 180, 0, 148, 27, 79, 42, 89, 180, 0, 148, 4, 96]
abbrev dktX4_opens_1 : List UInt8 := dkwX4_opens_1 ++ dktX4_opens_2
def dkwX4_opens_0 : List UInt8 := [42, 180, 0, 145, 16, 10, 160, 0, 13, 42, 5, 42, 180, 0, 81, 182, 0, 102, 172, 42, 89, 180, 0, 145]
abbrev dktX4_opens_0 : List UInt8 := dkwX4_opens_0 ++ dktX4_opens_1
theorem dksX4_opens_0 : cX4_opens.data.toList.drop 0 = dktX4_opens_0 := by decide +kernel
theorem dksX4_opens_1 : cX4_opens.data.toList.drop 24 = dktX4_opens_1 := dk_seg dksX4_opens_0 24 rfl rfl
theorem dksX4_opens_2 : cX4_opens.data.toList.drop 46 = dktX4_opens_2 := dk_seg dksX4_opens_1 22 rfl rfl
theorem dX4_opens_0 : decode cX4_opens 0 = .ok (.aload_n 0, 1) := dk_42 (dk_at dksX4_opens_0 0 rfl rfl)
theorem dX4_opens_1 : decode cX4_opens 1 = .ok (.getfield 145, 3) := dk_180 0 145 (dk_at dksX4_opens_0 1 rfl rfl)
theorem dX4_opens_4 : decode cX4_opens 4 = .ok (.bipush 10, 2) := dk_16 10 (dk_at dksX4_opens_0 4 rfl rfl)
theorem dX4_opens_6 : decode cX4_opens 6 = .ok (.if_icmp .ne 13, 3) := dk_160 0 13 (dk_at dksX4_opens_0 6 rfl rfl)
theorem dX4_opens_9 : decode cX4_opens 9 = .ok (.aload_n 0, 1) := dk_42 (dk_at dksX4_opens_0 9 rfl rfl)
theorem dX4_opens_10 : decode cX4_opens 10 = .ok (.iconst 2, 1) := dk_5 (dk_at dksX4_opens_0 10 rfl rfl)
theorem dX4_opens_11 : decode cX4_opens 11 = .ok (.aload_n 0, 1) := dk_42 (dk_at dksX4_opens_0 11 rfl rfl)
theorem dX4_opens_12 : decode cX4_opens 12 = .ok (.getfield 81, 3) := dk_180 0 81 (dk_at dksX4_opens_0 12 rfl rfl)
theorem dX4_opens_15 : decode cX4_opens 15 = .ok (.invokevirtual 102, 3) := dk_182 0 102 (dk_at dksX4_opens_0 15 rfl rfl)
theorem dX4_opens_18 : decode cX4_opens 18 = .ok (.ireturn, 1) := dk_172 (dk_at dksX4_opens_0 18 rfl rfl)
theorem dX4_opens_19 : decode cX4_opens 19 = .ok (.aload_n 0, 1) := dk_42 (dk_at dksX4_opens_0 19 rfl rfl)
theorem dX4_opens_20 : decode cX4_opens 20 = .ok (.dup, 1) := dk_89 (dk_at dksX4_opens_0 20 rfl rfl)
theorem dX4_opens_21 : decode cX4_opens 21 = .ok (.getfield 145, 3) := dk_180 0 145 (dk_at dksX4_opens_0 21 rfl rfl)
theorem dX4_opens_24 : decode cX4_opens 24 = .ok (.iconst 1, 1) := dk_4 (dk_at dksX4_opens_1 0 rfl rfl)
theorem dX4_opens_25 : decode cX4_opens 25 = .ok (.iadd, 1) := dk_96 (dk_at dksX4_opens_1 1 rfl rfl)
theorem dX4_opens_26 : decode cX4_opens 26 = .ok (.putfield 145, 3) := dk_181 0 145 (dk_at dksX4_opens_1 2 rfl rfl)
theorem dX4_opens_29 : decode cX4_opens 29 = .ok (.aload_n 0, 1) := dk_42 (dk_at dksX4_opens_1 5 rfl rfl)
theorem dX4_opens_30 : decode cX4_opens 30 = .ok (.getfield 29, 3) := dk_180 0 29 (dk_at dksX4_opens_1 6 rfl rfl)
theorem dX4_opens_33 : decode cX4_opens 33 = .ok (.aload_n 0, 1) := dk_42 (dk_at dksX4_opens_1 9 rfl rfl)
theorem dX4_opens_34 : decode cX4_opens 34 = .ok (.getfield 148, 3) := dk_180 0 148 (dk_at dksX4_opens_1 10 rfl rfl)
theorem dX4_opens_37 : decode cX4_opens 37 = .ok (.iload_n 1, 1) := dk_27 (dk_at dksX4_opens_1 13 rfl rfl)
theorem dX4_opens_38 : decode cX4_opens 38 = .ok (.iastore, 1) := dk_79 (dk_at dksX4_opens_1 14 rfl rfl)
theorem dX4_opens_39 : decode cX4_opens 39 = .ok (.aload_n 0, 1) := dk_42 (dk_at dksX4_opens_1 15 rfl rfl)
theorem dX4_opens_40 : decode cX4_opens 40 = .ok (.dup, 1) := dk_89 (dk_at dksX4_opens_1 16 rfl rfl)
theorem dX4_opens_41 : decode cX4_opens 41 = .ok (.getfield 148, 3) := dk_180 0 148 (dk_at dksX4_opens_1 17 rfl rfl)
theorem dX4_opens_44 : decode cX4_opens 44 = .ok (.iconst 1, 1) := dk_4 (dk_at dksX4_opens_1 20 rfl rfl)
theorem dX4_opens_45 : decode cX4_opens 45 = .ok (.iadd, 1) := dk_96 (dk_at dksX4_opens_1 21 rfl rfl)
theorem dX4_opens_46 : decode cX4_opens 46 = .ok (.putfield 148, 3) := dk_181 0 148 (dk_at dksX4_opens_2 0 rfl rfl)
theorem dX4_opens_49 : decode cX4_opens 49 = .ok (.iconst 1, 1) := dk_4 (dk_at dksX4_opens_2 3 rfl rfl)
theorem dX4_opens_50 : decode cX4_opens 50 = .ok (.ireturn, 1) := dk_172 (dk_at dksX4_opens_2 4 rfl rfl)
abbrev cX4_compare : ByteArray := prog_20_method_25_code
def yX4_compare : MethodName := ⟨RX4, "compare", "()Z"⟩
def dkwX4_compare_7 : List UInt8 := [16, 6, 21, 4, 96, 3, 182, 0, 155, 4, 172]
abbrev dktX4_compare_7 : List UInt8 := dkwX4_compare_7 ++ []
def dkwX4_compare_6 : List UInt8 := [167, 0, 12, 29, 153, 0, 7, 6, 167, 0, 4, 7, 54, 4, 42, 182, 0, 176, 154, 0, 5, 3, 172, 42]
abbrev dktX4_compare_6 : List UInt8 := dkwX4_compare_6 ++ dktX4_compare_7
def dkwX4_compare_5 : List UInt8 := [16, 60, 160, 0, 15, 29, 153, 0, 7, 4, 167, 0, 26, 3, 167, 0, 22, 27, 16, 61, 160, 0, 7, 5]
abbrev dktX4_compare_5 : List UInt8 := dkwX4_compare_5 ++ dktX4_compare_6
def dkwX4_compare_4 : List UInt8 := [153, 0, 13, 42, 89, 180, 0, 81, 4, 96, 181, 0, 81, 42, 28, 182, 0, 163, 154, 0, 5, 3, 172, 27]
abbrev dktX4_compare_4 : List UInt8 := dkwX4_compare_4 ++ dktX4_compare_5
def dkwX4_compare_3 : List UInt8 := [162, 0, 21, 42, 180, 0, 7, 42, 180, 0, 81, 51, 16, 61, 160, 0, 7, 4, 167, 0, 4, 3, 62, 29]
abbrev dktX4_compare_3 : List UInt8 := dkwX4_compare_3 ++ dktX4_compare_4
def dkwX4_compare_2 : List UInt8 := [180, 0, 81, 4, 96, 181, 0, 81, 27, 16, 61, 159, 0, 32, 42, 180, 0, 81, 42, 180, 0, 70]
abbrev dktX4_compare_2 : List UInt8 := dkwX4_compare_2 ++ dktX4_compare_3
def dkwX4_compare_1 : List UInt8 := [159, 0, 22, 27, 16, 61, 159, 0, 16, 27, 16, 62, 159, 0, 10, 42, 3, 28, 182, 0, 102, 172, 42, 89]
abbrev dktX4_compare_1 : List UInt8 := dkwX4_compare_1 ++ dktX4_compare_2
def dkwX4_compare_0 : List UInt8 := [42, 182, 0, 176, 154, 0, 5, 3, 172, 42, 182, 0, 84, 60, 42, 180, 0, 81, 61, 27, 16, 60]
abbrev dktX4_compare_0 : List UInt8 := dkwX4_compare_0 ++ dktX4_compare_1
theorem dksX4_compare_0 : cX4_compare.data.toList.drop 0 = dktX4_compare_0 := by decide +kernel
theorem dksX4_compare_1 : cX4_compare.data.toList.drop 22 = dktX4_compare_1 := dk_seg dksX4_compare_0 22 rfl rfl
theorem dksX4_compare_2 : cX4_compare.data.toList.drop 46 = dktX4_compare_2 := dk_seg dksX4_compare_1 24 rfl rfl
theorem dksX4_compare_3 : cX4_compare.data.toList.drop 68 = dktX4_compare_3 := dk_seg dksX4_compare_2 22 rfl rfl
theorem dksX4_compare_4 : cX4_compare.data.toList.drop 92 = dktX4_compare_4 := dk_seg dksX4_compare_3 24 rfl rfl
theorem dksX4_compare_5 : cX4_compare.data.toList.drop 116 = dktX4_compare_5 := dk_seg dksX4_compare_4 24 rfl rfl
theorem dksX4_compare_6 : cX4_compare.data.toList.drop 140 = dktX4_compare_6 := dk_seg dksX4_compare_5 24 rfl rfl
theorem dksX4_compare_7 : cX4_compare.data.toList.drop 164 = dktX4_compare_7 := dk_seg dksX4_compare_6 24 rfl rfl
theorem dX4_compare_0 : decode cX4_compare 0 = .ok (.aload_n 0, 1) := dk_42 (dk_at dksX4_compare_0 0 rfl rfl)
theorem dX4_compare_1 : decode cX4_compare 1 = .ok (.invokevirtual 176, 3) := dk_182 0 176 (dk_at dksX4_compare_0 1 rfl rfl)
theorem dX4_compare_4 : decode cX4_compare 4 = .ok (.ifCond .ne 5, 3) := dk_154 0 5 (dk_at dksX4_compare_0 4 rfl rfl)
theorem dX4_compare_7 : decode cX4_compare 7 = .ok (.iconst 0, 1) := dk_3 (dk_at dksX4_compare_0 7 rfl rfl)
theorem dX4_compare_8 : decode cX4_compare 8 = .ok (.ireturn, 1) := dk_172 (dk_at dksX4_compare_0 8 rfl rfl)
theorem dX4_compare_9 : decode cX4_compare 9 = .ok (.aload_n 0, 1) := dk_42 (dk_at dksX4_compare_0 9 rfl rfl)
theorem dX4_compare_10 : decode cX4_compare 10 = .ok (.invokevirtual 84, 3) := dk_182 0 84 (dk_at dksX4_compare_0 10 rfl rfl)
theorem dX4_compare_13 : decode cX4_compare 13 = .ok (.istore_n 1, 1) := dk_60 (dk_at dksX4_compare_0 13 rfl rfl)
theorem dX4_compare_14 : decode cX4_compare 14 = .ok (.aload_n 0, 1) := dk_42 (dk_at dksX4_compare_0 14 rfl rfl)
theorem dX4_compare_15 : decode cX4_compare 15 = .ok (.getfield 81, 3) := dk_180 0 81 (dk_at dksX4_compare_0 15 rfl rfl)
theorem dX4_compare_18 : decode cX4_compare 18 = .ok (.istore_n 2, 1) := dk_61 (dk_at dksX4_compare_0 18 rfl rfl)
theorem dX4_compare_19 : decode cX4_compare 19 = .ok (.iload_n 1, 1) := dk_27 (dk_at dksX4_compare_0 19 rfl rfl)
theorem dX4_compare_20 : decode cX4_compare 20 = .ok (.bipush 60, 2) := dk_16 60 (dk_at dksX4_compare_0 20 rfl rfl)
theorem dX4_compare_22 : decode cX4_compare 22 = .ok (.if_icmp .eq 22, 3) := dk_159 0 22 (dk_at dksX4_compare_1 0 rfl rfl)
theorem dX4_compare_25 : decode cX4_compare 25 = .ok (.iload_n 1, 1) := dk_27 (dk_at dksX4_compare_1 3 rfl rfl)
theorem dX4_compare_26 : decode cX4_compare 26 = .ok (.bipush 61, 2) := dk_16 61 (dk_at dksX4_compare_1 4 rfl rfl)
theorem dX4_compare_28 : decode cX4_compare 28 = .ok (.if_icmp .eq 16, 3) := dk_159 0 16 (dk_at dksX4_compare_1 6 rfl rfl)
theorem dX4_compare_31 : decode cX4_compare 31 = .ok (.iload_n 1, 1) := dk_27 (dk_at dksX4_compare_1 9 rfl rfl)
theorem dX4_compare_32 : decode cX4_compare 32 = .ok (.bipush 62, 2) := dk_16 62 (dk_at dksX4_compare_1 10 rfl rfl)
theorem dX4_compare_34 : decode cX4_compare 34 = .ok (.if_icmp .eq 10, 3) := dk_159 0 10 (dk_at dksX4_compare_1 12 rfl rfl)
theorem dX4_compare_37 : decode cX4_compare 37 = .ok (.aload_n 0, 1) := dk_42 (dk_at dksX4_compare_1 15 rfl rfl)
theorem dX4_compare_38 : decode cX4_compare 38 = .ok (.iconst 0, 1) := dk_3 (dk_at dksX4_compare_1 16 rfl rfl)
theorem dX4_compare_39 : decode cX4_compare 39 = .ok (.iload_n 2, 1) := dk_28 (dk_at dksX4_compare_1 17 rfl rfl)
theorem dX4_compare_40 : decode cX4_compare 40 = .ok (.invokevirtual 102, 3) := dk_182 0 102 (dk_at dksX4_compare_1 18 rfl rfl)
theorem dX4_compare_43 : decode cX4_compare 43 = .ok (.ireturn, 1) := dk_172 (dk_at dksX4_compare_1 21 rfl rfl)
theorem dX4_compare_44 : decode cX4_compare 44 = .ok (.aload_n 0, 1) := dk_42 (dk_at dksX4_compare_1 22 rfl rfl)
theorem dX4_compare_45 : decode cX4_compare 45 = .ok (.dup, 1) := dk_89 (dk_at dksX4_compare_1 23 rfl rfl)
theorem dX4_compare_46 : decode cX4_compare 46 = .ok (.getfield 81, 3) := dk_180 0 81 (dk_at dksX4_compare_2 0 rfl rfl)
theorem dX4_compare_49 : decode cX4_compare 49 = .ok (.iconst 1, 1) := dk_4 (dk_at dksX4_compare_2 3 rfl rfl)
theorem dX4_compare_50 : decode cX4_compare 50 = .ok (.iadd, 1) := dk_96 (dk_at dksX4_compare_2 4 rfl rfl)
theorem dX4_compare_51 : decode cX4_compare 51 = .ok (.putfield 81, 3) := dk_181 0 81 (dk_at dksX4_compare_2 5 rfl rfl)
theorem dX4_compare_54 : decode cX4_compare 54 = .ok (.iload_n 1, 1) := dk_27 (dk_at dksX4_compare_2 8 rfl rfl)
theorem dX4_compare_55 : decode cX4_compare 55 = .ok (.bipush 61, 2) := dk_16 61 (dk_at dksX4_compare_2 9 rfl rfl)
theorem dX4_compare_57 : decode cX4_compare 57 = .ok (.if_icmp .eq 32, 3) := dk_159 0 32 (dk_at dksX4_compare_2 11 rfl rfl)
theorem dX4_compare_60 : decode cX4_compare 60 = .ok (.aload_n 0, 1) := dk_42 (dk_at dksX4_compare_2 14 rfl rfl)
theorem dX4_compare_61 : decode cX4_compare 61 = .ok (.getfield 81, 3) := dk_180 0 81 (dk_at dksX4_compare_2 15 rfl rfl)
theorem dX4_compare_64 : decode cX4_compare 64 = .ok (.aload_n 0, 1) := dk_42 (dk_at dksX4_compare_2 18 rfl rfl)
theorem dX4_compare_65 : decode cX4_compare 65 = .ok (.getfield 70, 3) := dk_180 0 70 (dk_at dksX4_compare_2 19 rfl rfl)
theorem dX4_compare_68 : decode cX4_compare 68 = .ok (.if_icmp .ge 21, 3) := dk_162 0 21 (dk_at dksX4_compare_3 0 rfl rfl)
theorem dX4_compare_71 : decode cX4_compare 71 = .ok (.aload_n 0, 1) := dk_42 (dk_at dksX4_compare_3 3 rfl rfl)
theorem dX4_compare_72 : decode cX4_compare 72 = .ok (.getfield 7, 3) := dk_180 0 7 (dk_at dksX4_compare_3 4 rfl rfl)
theorem dX4_compare_75 : decode cX4_compare 75 = .ok (.aload_n 0, 1) := dk_42 (dk_at dksX4_compare_3 7 rfl rfl)
theorem dX4_compare_76 : decode cX4_compare 76 = .ok (.getfield 81, 3) := dk_180 0 81 (dk_at dksX4_compare_3 8 rfl rfl)
theorem dX4_compare_79 : decode cX4_compare 79 = .ok (.baload, 1) := dk_51 (dk_at dksX4_compare_3 11 rfl rfl)
theorem dX4_compare_80 : decode cX4_compare 80 = .ok (.bipush 61, 2) := dk_16 61 (dk_at dksX4_compare_3 12 rfl rfl)
theorem dX4_compare_82 : decode cX4_compare 82 = .ok (.if_icmp .ne 7, 3) := dk_160 0 7 (dk_at dksX4_compare_3 14 rfl rfl)
theorem dX4_compare_85 : decode cX4_compare 85 = .ok (.iconst 1, 1) := dk_4 (dk_at dksX4_compare_3 17 rfl rfl)
theorem dX4_compare_86 : decode cX4_compare 86 = .ok (.goto 4, 3) := dk_167 0 4 (dk_at dksX4_compare_3 18 rfl rfl)
theorem dX4_compare_89 : decode cX4_compare 89 = .ok (.iconst 0, 1) := dk_3 (dk_at dksX4_compare_3 21 rfl rfl)
theorem dX4_compare_90 : decode cX4_compare 90 = .ok (.istore_n 3, 1) := dk_62 (dk_at dksX4_compare_3 22 rfl rfl)
theorem dX4_compare_91 : decode cX4_compare 91 = .ok (.iload_n 3, 1) := dk_29 (dk_at dksX4_compare_3 23 rfl rfl)
theorem dX4_compare_92 : decode cX4_compare 92 = .ok (.ifCond .eq 13, 3) := dk_153 0 13 (dk_at dksX4_compare_4 0 rfl rfl)
theorem dX4_compare_95 : decode cX4_compare 95 = .ok (.aload_n 0, 1) := dk_42 (dk_at dksX4_compare_4 3 rfl rfl)
theorem dX4_compare_96 : decode cX4_compare 96 = .ok (.dup, 1) := dk_89 (dk_at dksX4_compare_4 4 rfl rfl)
theorem dX4_compare_97 : decode cX4_compare 97 = .ok (.getfield 81, 3) := dk_180 0 81 (dk_at dksX4_compare_4 5 rfl rfl)
theorem dX4_compare_100 : decode cX4_compare 100 = .ok (.iconst 1, 1) := dk_4 (dk_at dksX4_compare_4 8 rfl rfl)
theorem dX4_compare_101 : decode cX4_compare 101 = .ok (.iadd, 1) := dk_96 (dk_at dksX4_compare_4 9 rfl rfl)
theorem dX4_compare_102 : decode cX4_compare 102 = .ok (.putfield 81, 3) := dk_181 0 81 (dk_at dksX4_compare_4 10 rfl rfl)
theorem dX4_compare_105 : decode cX4_compare 105 = .ok (.aload_n 0, 1) := dk_42 (dk_at dksX4_compare_4 13 rfl rfl)
theorem dX4_compare_106 : decode cX4_compare 106 = .ok (.iload_n 2, 1) := dk_28 (dk_at dksX4_compare_4 14 rfl rfl)
theorem dX4_compare_107 : decode cX4_compare 107 = .ok (.invokevirtual 163, 3) := dk_182 0 163 (dk_at dksX4_compare_4 15 rfl rfl)
theorem dX4_compare_110 : decode cX4_compare 110 = .ok (.ifCond .ne 5, 3) := dk_154 0 5 (dk_at dksX4_compare_4 18 rfl rfl)
theorem dX4_compare_113 : decode cX4_compare 113 = .ok (.iconst 0, 1) := dk_3 (dk_at dksX4_compare_4 21 rfl rfl)
theorem dX4_compare_114 : decode cX4_compare 114 = .ok (.ireturn, 1) := dk_172 (dk_at dksX4_compare_4 22 rfl rfl)
theorem dX4_compare_115 : decode cX4_compare 115 = .ok (.iload_n 1, 1) := dk_27 (dk_at dksX4_compare_4 23 rfl rfl)
theorem dX4_compare_116 : decode cX4_compare 116 = .ok (.bipush 60, 2) := dk_16 60 (dk_at dksX4_compare_5 0 rfl rfl)
theorem dX4_compare_118 : decode cX4_compare 118 = .ok (.if_icmp .ne 15, 3) := dk_160 0 15 (dk_at dksX4_compare_5 2 rfl rfl)
theorem dX4_compare_121 : decode cX4_compare 121 = .ok (.iload_n 3, 1) := dk_29 (dk_at dksX4_compare_5 5 rfl rfl)
theorem dX4_compare_122 : decode cX4_compare 122 = .ok (.ifCond .eq 7, 3) := dk_153 0 7 (dk_at dksX4_compare_5 6 rfl rfl)
theorem dX4_compare_125 : decode cX4_compare 125 = .ok (.iconst 1, 1) := dk_4 (dk_at dksX4_compare_5 9 rfl rfl)
theorem dX4_compare_126 : decode cX4_compare 126 = .ok (.goto 26, 3) := dk_167 0 26 (dk_at dksX4_compare_5 10 rfl rfl)
theorem dX4_compare_129 : decode cX4_compare 129 = .ok (.iconst 0, 1) := dk_3 (dk_at dksX4_compare_5 13 rfl rfl)
theorem dX4_compare_130 : decode cX4_compare 130 = .ok (.goto 22, 3) := dk_167 0 22 (dk_at dksX4_compare_5 14 rfl rfl)
theorem dX4_compare_133 : decode cX4_compare 133 = .ok (.iload_n 1, 1) := dk_27 (dk_at dksX4_compare_5 17 rfl rfl)
theorem dX4_compare_134 : decode cX4_compare 134 = .ok (.bipush 61, 2) := dk_16 61 (dk_at dksX4_compare_5 18 rfl rfl)
theorem dX4_compare_136 : decode cX4_compare 136 = .ok (.if_icmp .ne 7, 3) := dk_160 0 7 (dk_at dksX4_compare_5 20 rfl rfl)
theorem dX4_compare_139 : decode cX4_compare 139 = .ok (.iconst 2, 1) := dk_5 (dk_at dksX4_compare_5 23 rfl rfl)
theorem dX4_compare_140 : decode cX4_compare 140 = .ok (.goto 12, 3) := dk_167 0 12 (dk_at dksX4_compare_6 0 rfl rfl)
theorem dX4_compare_143 : decode cX4_compare 143 = .ok (.iload_n 3, 1) := dk_29 (dk_at dksX4_compare_6 3 rfl rfl)
theorem dX4_compare_144 : decode cX4_compare 144 = .ok (.ifCond .eq 7, 3) := dk_153 0 7 (dk_at dksX4_compare_6 4 rfl rfl)
theorem dX4_compare_147 : decode cX4_compare 147 = .ok (.iconst 3, 1) := dk_6 (dk_at dksX4_compare_6 7 rfl rfl)
theorem dX4_compare_148 : decode cX4_compare 148 = .ok (.goto 4, 3) := dk_167 0 4 (dk_at dksX4_compare_6 8 rfl rfl)
theorem dX4_compare_151 : decode cX4_compare 151 = .ok (.iconst 4, 1) := dk_7 (dk_at dksX4_compare_6 11 rfl rfl)
theorem dX4_compare_152 : decode cX4_compare 152 = .ok (.istore 4, 2) := dk_54 4 (dk_at dksX4_compare_6 12 rfl rfl)
theorem dX4_compare_154 : decode cX4_compare 154 = .ok (.aload_n 0, 1) := dk_42 (dk_at dksX4_compare_6 14 rfl rfl)
theorem dX4_compare_155 : decode cX4_compare 155 = .ok (.invokevirtual 176, 3) := dk_182 0 176 (dk_at dksX4_compare_6 15 rfl rfl)
theorem dX4_compare_158 : decode cX4_compare 158 = .ok (.ifCond .ne 5, 3) := dk_154 0 5 (dk_at dksX4_compare_6 18 rfl rfl)
theorem dX4_compare_161 : decode cX4_compare 161 = .ok (.iconst 0, 1) := dk_3 (dk_at dksX4_compare_6 21 rfl rfl)
theorem dX4_compare_162 : decode cX4_compare 162 = .ok (.ireturn, 1) := dk_172 (dk_at dksX4_compare_6 22 rfl rfl)
theorem dX4_compare_163 : decode cX4_compare 163 = .ok (.aload_n 0, 1) := dk_42 (dk_at dksX4_compare_6 23 rfl rfl)
theorem dX4_compare_164 : decode cX4_compare 164 = .ok (.bipush 6, 2) := dk_16 6 (dk_at dksX4_compare_7 0 rfl rfl)
theorem dX4_compare_166 : decode cX4_compare 166 = .ok (.iload 4, 2) := dk_21 4 (dk_at dksX4_compare_7 2 rfl rfl)
theorem dX4_compare_168 : decode cX4_compare 168 = .ok (.iadd, 1) := dk_96 (dk_at dksX4_compare_7 4 rfl rfl)
theorem dX4_compare_169 : decode cX4_compare 169 = .ok (.iconst 0, 1) := dk_3 (dk_at dksX4_compare_7 5 rfl rfl)
theorem dX4_compare_170 : decode cX4_compare 170 = .ok (.invokevirtual 155, 3) := dk_182 0 155 (dk_at dksX4_compare_7 6 rfl rfl)
theorem dX4_compare_173 : decode cX4_compare 173 = .ok (.iconst 1, 1) := dk_4 (dk_at dksX4_compare_7 9 rfl rfl)
theorem dX4_compare_174 : decode cX4_compare 174 = .ok (.ireturn, 1) := dk_172 (dk_at dksX4_compare_7 10 rfl rfl)
