set_option maxRecDepth 100000
/-! HalfFair$Fair -/
set_option maxRecDepth 100000
def RX1 : String := "HalfFair$Fair"
def TX1 : u_T := fun k => match k with
  | 0 => ("HalfFair$Fair", "halves", "Ljava/util/ArrayList;", true)
  | 1 => ("HalfFair$Fair", "buyers", "Ljava/util/ArrayList;", true)
  | 2 => ("HalfFair$Fair", "club", "[I", true)
  | 3 => ("HalfFair$Fair", "stalls", "I", false)
  | 4 => ("HalfFair$Fair", "shift", "I", false)
  | 5 => ("HalfFair$Fair", "near", "I", false)
  | 6 => ("HalfFair$Fair", "dusk", "I", false)
  | 7 => ("HalfFair$Fair", "duskPrice", "I", false)
  | 8 => ("HalfFair$Fair", "hear", "I", false)
  | 9 => ("HalfFair$Fair", "forged", "I", false)
  | 10 => ("HalfFair$Fair", "isNearTold", "Z", false)
  | 11 => ("HalfFair$Fair", "isDuskTold", "Z", false)
  | _ => ("HalfFair$Fair", "isHearTold", "Z", false)
def tyX1 : Nat → FieldType := fun k => match k with
  | 0 => .object "java/util/ArrayList"
  | 1 => .object "java/util/ArrayList"
  | 2 => .array .int
  | 3 => .int
  | 4 => .int
  | 5 => .int
  | 6 => .int
  | 7 => .int
  | 8 => .int
  | 9 => .int
  | 10 => .boolean
  | 11 => .boolean
  | _ => .boolean
abbrev wsX10 : List Cond := u_ws RX1 TX1 13
set_option maxRecDepth 100000 in
theorem nmX1 : ∀ a, a < 13 → ∀ b, b < 13 → a ≠ b → (TX1 a).2.1 ≠ (TX1 b).2.1 := by decide +kernel
set_option maxRecDepth 100000 in
theorem tyX1_ok : ∀ k, k < 13 → parseFieldDescriptor (TX1 k).2.2.1 = some (tyX1 k) := by decide +kernel
abbrev cX1_init : ByteArray := prog_7_method_1_code
def yX1_init : MethodName := ⟨RX1, "<init>", "()V"⟩
def dkwX1_init_2 : List UInt8 := [16, 8, 79, 181, 0, 23, 42, 16, 12, 181, 0, 27, 42, 8, 181, 0, 31, 42, 4, 181, 0, 34, 177]
abbrev dktX1_init_2 : List UInt8 := dkwX1_init_2 ++ []
def dkwX1_init_1 : List UInt8 := [183, 0, 11, 181, 0, 20, 42, 7, 188, 10, 89, 3, 4, 79, 89, 4, 5, 79, 89, 5, 7, 79, 89, 6]
abbrev dktX1_init_1 : List UInt8 := dkwX1_init_1 ++ dktX1_init_2
def dkwX1_init_0 : List UInt8 := [42, 183, 0, 3, 42, 187, 0, 9, 89, 5, 183, 0, 11, 181, 0, 14, 42, 187, 0, 9, 89, 5]
abbrev dktX1_init_0 : List UInt8 := dkwX1_init_0 ++ dktX1_init_1
theorem dksX1_init_0 : cX1_init.data.toList.drop 0 = dktX1_init_0 := by decide +kernel
theorem dksX1_init_1 : cX1_init.data.toList.drop 22 = dktX1_init_1 := dk_seg dksX1_init_0 22 rfl rfl
theorem dksX1_init_2 : cX1_init.data.toList.drop 46 = dktX1_init_2 := dk_seg dksX1_init_1 24 rfl rfl
theorem dX1_init_0 : decode cX1_init 0 = .ok (.aload_n 0, 1) := dk_42 (dk_at dksX1_init_0 0 rfl rfl)
theorem dX1_init_1 : decode cX1_init 1 = .ok (.invokespecial 3, 3) := dk_183 0 3 (dk_at dksX1_init_0 1 rfl rfl)
theorem dX1_init_4 : decode cX1_init 4 = .ok (.aload_n 0, 1) := dk_42 (dk_at dksX1_init_0 4 rfl rfl)
theorem dX1_init_5 : decode cX1_init 5 = .ok (.new 9, 3) := dk_187 0 9 (dk_at dksX1_init_0 5 rfl rfl)
theorem dX1_init_8 : decode cX1_init 8 = .ok (.dup, 1) := dk_89 (dk_at dksX1_init_0 8 rfl rfl)
theorem dX1_init_9 : decode cX1_init 9 = .ok (.iconst 2, 1) := dk_5 (dk_at dksX1_init_0 9 rfl rfl)
theorem dX1_init_10 : decode cX1_init 10 = .ok (.invokespecial 11, 3) := dk_183 0 11 (dk_at dksX1_init_0 10 rfl rfl)
theorem dX1_init_13 : decode cX1_init 13 = .ok (.putfield 14, 3) := dk_181 0 14 (dk_at dksX1_init_0 13 rfl rfl)
theorem dX1_init_16 : decode cX1_init 16 = .ok (.aload_n 0, 1) := dk_42 (dk_at dksX1_init_0 16 rfl rfl)
theorem dX1_init_17 : decode cX1_init 17 = .ok (.new 9, 3) := dk_187 0 9 (dk_at dksX1_init_0 17 rfl rfl)
theorem dX1_init_20 : decode cX1_init 20 = .ok (.dup, 1) := dk_89 (dk_at dksX1_init_0 20 rfl rfl)
theorem dX1_init_21 : decode cX1_init 21 = .ok (.iconst 2, 1) := dk_5 (dk_at dksX1_init_0 21 rfl rfl)
theorem dX1_init_22 : decode cX1_init 22 = .ok (.invokespecial 11, 3) := dk_183 0 11 (dk_at dksX1_init_1 0 rfl rfl)
theorem dX1_init_25 : decode cX1_init 25 = .ok (.putfield 20, 3) := dk_181 0 20 (dk_at dksX1_init_1 3 rfl rfl)
theorem dX1_init_28 : decode cX1_init 28 = .ok (.aload_n 0, 1) := dk_42 (dk_at dksX1_init_1 6 rfl rfl)
theorem dX1_init_29 : decode cX1_init 29 = .ok (.iconst 4, 1) := dk_7 (dk_at dksX1_init_1 7 rfl rfl)
theorem dX1_init_30 : decode cX1_init 30 = .ok (.newarray .int, 2) := dk_188_10 (dk_at dksX1_init_1 8 rfl rfl)
theorem dX1_init_32 : decode cX1_init 32 = .ok (.dup, 1) := dk_89 (dk_at dksX1_init_1 10 rfl rfl)
theorem dX1_init_33 : decode cX1_init 33 = .ok (.iconst 0, 1) := dk_3 (dk_at dksX1_init_1 11 rfl rfl)
theorem dX1_init_34 : decode cX1_init 34 = .ok (.iconst 1, 1) := dk_4 (dk_at dksX1_init_1 12 rfl rfl)
theorem dX1_init_35 : decode cX1_init 35 = .ok (.iastore, 1) := dk_79 (dk_at dksX1_init_1 13 rfl rfl)
theorem dX1_init_36 : decode cX1_init 36 = .ok (.dup, 1) := dk_89 (dk_at dksX1_init_1 14 rfl rfl)
theorem dX1_init_37 : decode cX1_init 37 = .ok (.iconst 1, 1) := dk_4 (dk_at dksX1_init_1 15 rfl rfl)
theorem dX1_init_38 : decode cX1_init 38 = .ok (.iconst 2, 1) := dk_5 (dk_at dksX1_init_1 16 rfl rfl)
theorem dX1_init_39 : decode cX1_init 39 = .ok (.iastore, 1) := dk_79 (dk_at dksX1_init_1 17 rfl rfl)
theorem dX1_init_40 : decode cX1_init 40 = .ok (.dup, 1) := dk_89 (dk_at dksX1_init_1 18 rfl rfl)
theorem dX1_init_41 : decode cX1_init 41 = .ok (.iconst 2, 1) := dk_5 (dk_at dksX1_init_1 19 rfl rfl)
theorem dX1_init_42 : decode cX1_init 42 = .ok (.iconst 4, 1) := dk_7 (dk_at dksX1_init_1 20 rfl rfl)
theorem dX1_init_43 : decode cX1_init 43 = .ok (.iastore, 1) := dk_79 (dk_at dksX1_init_1 21 rfl rfl)
theorem dX1_init_44 : decode cX1_init 44 = .ok (.dup, 1) := dk_89 (dk_at dksX1_init_1 22 rfl rfl)
theorem dX1_init_45 : decode cX1_init 45 = .ok (.iconst 3, 1) := dk_6 (dk_at dksX1_init_1 23 rfl rfl)
theorem dX1_init_46 : decode cX1_init 46 = .ok (.bipush 8, 2) := dk_16 8 (dk_at dksX1_init_2 0 rfl rfl)
theorem dX1_init_48 : decode cX1_init 48 = .ok (.iastore, 1) := dk_79 (dk_at dksX1_init_2 2 rfl rfl)
theorem dX1_init_49 : decode cX1_init 49 = .ok (.putfield 23, 3) := dk_181 0 23 (dk_at dksX1_init_2 3 rfl rfl)
theorem dX1_init_52 : decode cX1_init 52 = .ok (.aload_n 0, 1) := dk_42 (dk_at dksX1_init_2 6 rfl rfl)
theorem dX1_init_53 : decode cX1_init 53 = .ok (.bipush 12, 2) := dk_16 12 (dk_at dksX1_init_2 7 rfl rfl)
theorem dX1_init_55 : decode cX1_init 55 = .ok (.putfield 27, 3) := dk_181 0 27 (dk_at dksX1_init_2 9 rfl rfl)
theorem dX1_init_58 : decode cX1_init 58 = .ok (.aload_n 0, 1) := dk_42 (dk_at dksX1_init_2 12 rfl rfl)
theorem dX1_init_59 : decode cX1_init 59 = .ok (.iconst 5, 1) := dk_8 (dk_at dksX1_init_2 13 rfl rfl)
theorem dX1_init_60 : decode cX1_init 60 = .ok (.putfield 31, 3) := dk_181 0 31 (dk_at dksX1_init_2 14 rfl rfl)
theorem dX1_init_63 : decode cX1_init 63 = .ok (.aload_n 0, 1) := dk_42 (dk_at dksX1_init_2 17 rfl rfl)
theorem dX1_init_64 : decode cX1_init 64 = .ok (.iconst 1, 1) := dk_4 (dk_at dksX1_init_2 18 rfl rfl)
theorem dX1_init_65 : decode cX1_init 65 = .ok (.putfield 34, 3) := dk_181 0 34 (dk_at dksX1_init_2 19 rfl rfl)
theorem dX1_init_68 : decode cX1_init 68 = .ok (.return_, 1) := dk_177 (dk_at dksX1_init_2 22 rfl rfl)
abbrev cX1_joins : ByteArray := prog_7_method_2_code
def yX1_joins : MethodName := ⟨RX1, "joins", "(II)V"⟩
def dkwX1_joins_1 : List UInt8 := [21, 4, 184, 0, 37, 153, 0, 11, 42, 180, 0, 23, 21, 4, 29, 79, 132, 4, 1, 167, 255, 230, 177]
abbrev dktX1_joins_1 : List UInt8 := dkwX1_joins_1 ++ []
def dkwX1_joins_0 : List UInt8 := [42, 180, 0, 23, 27, 46, 42, 180, 0, 23, 28, 46, 128, 62, 3, 54, 4, 21, 4, 7, 162, 0, 26, 29]
abbrev dktX1_joins_0 : List UInt8 := dkwX1_joins_0 ++ dktX1_joins_1
theorem dksX1_joins_0 : cX1_joins.data.toList.drop 0 = dktX1_joins_0 := by decide +kernel
theorem dksX1_joins_1 : cX1_joins.data.toList.drop 24 = dktX1_joins_1 := dk_seg dksX1_joins_0 24 rfl rfl
theorem dX1_joins_0 : decode cX1_joins 0 = .ok (.aload_n 0, 1) := dk_42 (dk_at dksX1_joins_0 0 rfl rfl)
theorem dX1_joins_1 : decode cX1_joins 1 = .ok (.getfield 23, 3) := dk_180 0 23 (dk_at dksX1_joins_0 1 rfl rfl)
theorem dX1_joins_4 : decode cX1_joins 4 = .ok (.iload_n 1, 1) := dk_27 (dk_at dksX1_joins_0 4 rfl rfl)
theorem dX1_joins_5 : decode cX1_joins 5 = .ok (.iaload, 1) := dk_46 (dk_at dksX1_joins_0 5 rfl rfl)
theorem dX1_joins_6 : decode cX1_joins 6 = .ok (.aload_n 0, 1) := dk_42 (dk_at dksX1_joins_0 6 rfl rfl)
theorem dX1_joins_7 : decode cX1_joins 7 = .ok (.getfield 23, 3) := dk_180 0 23 (dk_at dksX1_joins_0 7 rfl rfl)
theorem dX1_joins_10 : decode cX1_joins 10 = .ok (.iload_n 2, 1) := dk_28 (dk_at dksX1_joins_0 10 rfl rfl)
theorem dX1_joins_11 : decode cX1_joins 11 = .ok (.iaload, 1) := dk_46 (dk_at dksX1_joins_0 11 rfl rfl)
theorem dX1_joins_12 : decode cX1_joins 12 = .ok (.ior, 1) := dk_128 (dk_at dksX1_joins_0 12 rfl rfl)
theorem dX1_joins_13 : decode cX1_joins 13 = .ok (.istore_n 3, 1) := dk_62 (dk_at dksX1_joins_0 13 rfl rfl)
theorem dX1_joins_14 : decode cX1_joins 14 = .ok (.iconst 0, 1) := dk_3 (dk_at dksX1_joins_0 14 rfl rfl)
theorem dX1_joins_15 : decode cX1_joins 15 = .ok (.istore 4, 2) := dk_54 4 (dk_at dksX1_joins_0 15 rfl rfl)
theorem dX1_joins_17 : decode cX1_joins 17 = .ok (.iload 4, 2) := dk_21 4 (dk_at dksX1_joins_0 17 rfl rfl)
theorem dX1_joins_19 : decode cX1_joins 19 = .ok (.iconst 4, 1) := dk_7 (dk_at dksX1_joins_0 19 rfl rfl)
theorem dX1_joins_20 : decode cX1_joins 20 = .ok (.if_icmp .ge 26, 3) := dk_162 0 26 (dk_at dksX1_joins_0 20 rfl rfl)
theorem dX1_joins_23 : decode cX1_joins 23 = .ok (.iload_n 3, 1) := dk_29 (dk_at dksX1_joins_0 23 rfl rfl)
theorem dX1_joins_24 : decode cX1_joins 24 = .ok (.iload 4, 2) := dk_21 4 (dk_at dksX1_joins_1 0 rfl rfl)
theorem dX1_joins_26 : decode cX1_joins 26 = .ok (.invokestatic 37, 3) := dk_184 0 37 (dk_at dksX1_joins_1 2 rfl rfl)
theorem dX1_joins_29 : decode cX1_joins 29 = .ok (.ifCond .eq 11, 3) := dk_153 0 11 (dk_at dksX1_joins_1 5 rfl rfl)
theorem dX1_joins_32 : decode cX1_joins 32 = .ok (.aload_n 0, 1) := dk_42 (dk_at dksX1_joins_1 8 rfl rfl)
theorem dX1_joins_33 : decode cX1_joins 33 = .ok (.getfield 23, 3) := dk_180 0 23 (dk_at dksX1_joins_1 9 rfl rfl)
theorem dX1_joins_36 : decode cX1_joins 36 = .ok (.iload 4, 2) := dk_21 4 (dk_at dksX1_joins_1 12 rfl rfl)
theorem dX1_joins_38 : decode cX1_joins 38 = .ok (.iload_n 3, 1) := dk_29 (dk_at dksX1_joins_1 14 rfl rfl)
theorem dX1_joins_39 : decode cX1_joins 39 = .ok (.iastore, 1) := dk_79 (dk_at dksX1_joins_1 15 rfl rfl)
theorem dX1_joins_40 : decode cX1_joins 40 = .ok (.iinc 4 1, 3) := dk_132 4 1 (dk_at dksX1_joins_1 16 rfl rfl)
theorem dX1_joins_43 : decode cX1_joins 43 = .ok (.goto (-26), 3) := dk_167 255 230 (dk_at dksX1_joins_1 19 rfl rfl)
theorem dX1_joins_46 : decode cX1_joins 46 = .ok (.return_, 1) := dk_177 (dk_at dksX1_joins_1 22 rfl rfl)
abbrev cX1_stallAt : ByteArray := prog_7_method_4_code
def yX1_stallAt : MethodName := ⟨RX1, "stallAt", "(II)I"⟩
def dkwX1_stallAt_0 : List UInt8 := [3, 62, 42, 29, 28, 182, 0, 47, 27, 159, 0, 9, 132, 3, 1, 167, 255, 243, 29, 172]
abbrev dktX1_stallAt_0 : List UInt8 := dkwX1_stallAt_0 ++ []
theorem dksX1_stallAt_0 : cX1_stallAt.data.toList.drop 0 = dktX1_stallAt_0 := by decide +kernel
theorem dX1_stallAt_0 : decode cX1_stallAt 0 = .ok (.iconst 0, 1) := dk_3 (dk_at dksX1_stallAt_0 0 rfl rfl)
theorem dX1_stallAt_1 : decode cX1_stallAt 1 = .ok (.istore_n 3, 1) := dk_62 (dk_at dksX1_stallAt_0 1 rfl rfl)
theorem dX1_stallAt_2 : decode cX1_stallAt 2 = .ok (.aload_n 0, 1) := dk_42 (dk_at dksX1_stallAt_0 2 rfl rfl)
theorem dX1_stallAt_3 : decode cX1_stallAt 3 = .ok (.iload_n 3, 1) := dk_29 (dk_at dksX1_stallAt_0 3 rfl rfl)
theorem dX1_stallAt_4 : decode cX1_stallAt 4 = .ok (.iload_n 2, 1) := dk_28 (dk_at dksX1_stallAt_0 4 rfl rfl)
theorem dX1_stallAt_5 : decode cX1_stallAt 5 = .ok (.invokevirtual 47, 3) := dk_182 0 47 (dk_at dksX1_stallAt_0 5 rfl rfl)
theorem dX1_stallAt_8 : decode cX1_stallAt 8 = .ok (.iload_n 1, 1) := dk_27 (dk_at dksX1_stallAt_0 8 rfl rfl)
theorem dX1_stallAt_9 : decode cX1_stallAt 9 = .ok (.if_icmp .eq 9, 3) := dk_159 0 9 (dk_at dksX1_stallAt_0 9 rfl rfl)
theorem dX1_stallAt_12 : decode cX1_stallAt 12 = .ok (.iinc 3 1, 3) := dk_132 3 1 (dk_at dksX1_stallAt_0 12 rfl rfl)
theorem dX1_stallAt_15 : decode cX1_stallAt 15 = .ok (.goto (-13), 3) := dk_167 255 243 (dk_at dksX1_stallAt_0 15 rfl rfl)
theorem dX1_stallAt_18 : decode cX1_stallAt 18 = .ok (.iload_n 3, 1) := dk_29 (dk_at dksX1_stallAt_0 18 rfl rfl)
theorem dX1_stallAt_19 : decode cX1_stallAt 19 = .ok (.ireturn, 1) := dk_172 (dk_at dksX1_stallAt_0 19 rfl rfl)
abbrev cX1_spotOf : ByteArray := prog_7_method_3_code
def yX1_spotOf : MethodName := ⟨RX1, "spotOf", "(II)I"⟩
def dkwX1_spotOf_0 : List UInt8 := [27, 28, 42, 180, 0, 41, 104, 96, 42, 180, 0, 44, 112, 172]
abbrev dktX1_spotOf_0 : List UInt8 := dkwX1_spotOf_0 ++ []
theorem dksX1_spotOf_0 : cX1_spotOf.data.toList.drop 0 = dktX1_spotOf_0 := by decide +kernel
theorem dX1_spotOf_0 : decode cX1_spotOf 0 = .ok (.iload_n 1, 1) := dk_27 (dk_at dksX1_spotOf_0 0 rfl rfl)
theorem dX1_spotOf_1 : decode cX1_spotOf 1 = .ok (.iload_n 2, 1) := dk_28 (dk_at dksX1_spotOf_0 1 rfl rfl)
theorem dX1_spotOf_2 : decode cX1_spotOf 2 = .ok (.aload_n 0, 1) := dk_42 (dk_at dksX1_spotOf_0 2 rfl rfl)
theorem dX1_spotOf_3 : decode cX1_spotOf 3 = .ok (.getfield 41, 3) := dk_180 0 41 (dk_at dksX1_spotOf_0 3 rfl rfl)
theorem dX1_spotOf_6 : decode cX1_spotOf 6 = .ok (.imul, 1) := dk_104 (dk_at dksX1_spotOf_0 6 rfl rfl)
theorem dX1_spotOf_7 : decode cX1_spotOf 7 = .ok (.iadd, 1) := dk_96 (dk_at dksX1_spotOf_0 7 rfl rfl)
theorem dX1_spotOf_8 : decode cX1_spotOf 8 = .ok (.aload_n 0, 1) := dk_42 (dk_at dksX1_spotOf_0 8 rfl rfl)
theorem dX1_spotOf_9 : decode cX1_spotOf 9 = .ok (.getfield 44, 3) := dk_180 0 44 (dk_at dksX1_spotOf_0 9 rfl rfl)
theorem dX1_spotOf_12 : decode cX1_spotOf 12 = .ok (.irem, 1) := dk_112 (dk_at dksX1_spotOf_0 12 rfl rfl)
theorem dX1_spotOf_13 : decode cX1_spotOf 13 = .ok (.ireturn, 1) := dk_172 (dk_at dksX1_spotOf_0 13 rfl rfl)
abbrev cX1_priceAt : ByteArray := prog_7_method_6_code
def yX1_priceAt : MethodName := ⟨RX1, "priceAt", "(II)I"⟩
def dkwX1_priceAt_1 : List UInt8 := [192, 0, 64, 180, 0, 66, 172]
abbrev dktX1_priceAt_1 : List UInt8 := dkwX1_priceAt_1 ++ []
def dkwX1_priceAt_0 : List UInt8 := [28, 42, 180, 0, 27, 161, 0, 10, 42, 180, 0, 31, 167, 0, 17, 42, 180, 0, 14, 27, 182, 0, 60]
abbrev dktX1_priceAt_0 : List UInt8 := dkwX1_priceAt_0 ++ dktX1_priceAt_1
theorem dksX1_priceAt_0 : cX1_priceAt.data.toList.drop 0 = dktX1_priceAt_0 := by decide +kernel
theorem dksX1_priceAt_1 : cX1_priceAt.data.toList.drop 23 = dktX1_priceAt_1 := dk_seg dksX1_priceAt_0 23 rfl rfl
theorem dX1_priceAt_0 : decode cX1_priceAt 0 = .ok (.iload_n 2, 1) := dk_28 (dk_at dksX1_priceAt_0 0 rfl rfl)
theorem dX1_priceAt_1 : decode cX1_priceAt 1 = .ok (.aload_n 0, 1) := dk_42 (dk_at dksX1_priceAt_0 1 rfl rfl)
theorem dX1_priceAt_2 : decode cX1_priceAt 2 = .ok (.getfield 27, 3) := dk_180 0 27 (dk_at dksX1_priceAt_0 2 rfl rfl)
theorem dX1_priceAt_5 : decode cX1_priceAt 5 = .ok (.if_icmp .lt 10, 3) := dk_161 0 10 (dk_at dksX1_priceAt_0 5 rfl rfl)
theorem dX1_priceAt_8 : decode cX1_priceAt 8 = .ok (.aload_n 0, 1) := dk_42 (dk_at dksX1_priceAt_0 8 rfl rfl)
theorem dX1_priceAt_9 : decode cX1_priceAt 9 = .ok (.getfield 31, 3) := dk_180 0 31 (dk_at dksX1_priceAt_0 9 rfl rfl)
theorem dX1_priceAt_12 : decode cX1_priceAt 12 = .ok (.goto 17, 3) := dk_167 0 17 (dk_at dksX1_priceAt_0 12 rfl rfl)
theorem dX1_priceAt_15 : decode cX1_priceAt 15 = .ok (.aload_n 0, 1) := dk_42 (dk_at dksX1_priceAt_0 15 rfl rfl)
theorem dX1_priceAt_16 : decode cX1_priceAt 16 = .ok (.getfield 14, 3) := dk_180 0 14 (dk_at dksX1_priceAt_0 16 rfl rfl)
theorem dX1_priceAt_19 : decode cX1_priceAt 19 = .ok (.iload_n 1, 1) := dk_27 (dk_at dksX1_priceAt_0 19 rfl rfl)
theorem dX1_priceAt_20 : decode cX1_priceAt 20 = .ok (.invokevirtual 60, 3) := dk_182 0 60 (dk_at dksX1_priceAt_0 20 rfl rfl)
theorem dX1_priceAt_23 : decode cX1_priceAt 23 = .ok (.checkcast 64, 3) := dk_192 0 64 (dk_at dksX1_priceAt_1 0 rfl rfl)
theorem dX1_priceAt_26 : decode cX1_priceAt 26 = .ok (.getfield 66, 3) := dk_180 0 66 (dk_at dksX1_priceAt_1 3 rfl rfl)
theorem dX1_priceAt_29 : decode cX1_priceAt 29 = .ok (.ireturn, 1) := dk_172 (dk_at dksX1_priceAt_1 6 rfl rfl)
abbrev cX1_fit : ByteArray := prog_7_method_8_code
def yX1_fit : MethodName := ⟨RX1, "fit", "(III)I"⟩
def dkwX1_fit_4 : List UInt8 := [160, 0, 7, 5, 167, 0, 4, 4, 172]
abbrev dktX1_fit_4 : List UInt8 := dkwX1_fit_4 ++ []
def dkwX1_fit_3 : List UInt8 := [184, 0, 51, 42, 180, 0, 78, 164, 0, 5, 3, 172, 25, 4, 180, 0, 75, 25, 5, 180, 0, 75]
abbrev dktX1_fit_3 : List UInt8 := dkwX1_fit_3 ++ dktX1_fit_4
def dkwX1_fit_2 : List UInt8 := [180, 0, 72, 25, 5, 180, 0, 72, 159, 0, 24, 25, 4, 180, 0, 75, 25, 5, 180, 0, 75, 100]
abbrev dktX1_fit_2 : List UInt8 := dkwX1_fit_2 ++ dktX1_fit_3
def dkwX1_fit_1 : List UInt8 := [182, 0, 60, 192, 0, 64, 58, 4, 42, 180, 0, 14, 28, 182, 0, 60, 192, 0, 64, 58, 5, 25, 4]
abbrev dktX1_fit_1 : List UInt8 := dkwX1_fit_1 ++ dktX1_fit_2
def dkwX1_fit_0 : List UInt8 := [29, 27, 184, 0, 37, 154, 0, 11, 29, 28, 184, 0, 37, 153, 0, 5, 5, 172, 42, 180, 0, 14, 27]
abbrev dktX1_fit_0 : List UInt8 := dkwX1_fit_0 ++ dktX1_fit_1
theorem dksX1_fit_0 : cX1_fit.data.toList.drop 0 = dktX1_fit_0 := by decide +kernel
theorem dksX1_fit_1 : cX1_fit.data.toList.drop 23 = dktX1_fit_1 := dk_seg dksX1_fit_0 23 rfl rfl
theorem dksX1_fit_2 : cX1_fit.data.toList.drop 46 = dktX1_fit_2 := dk_seg dksX1_fit_1 23 rfl rfl
theorem dksX1_fit_3 : cX1_fit.data.toList.drop 68 = dktX1_fit_3 := dk_seg dksX1_fit_2 22 rfl rfl
theorem dksX1_fit_4 : cX1_fit.data.toList.drop 90 = dktX1_fit_4 := dk_seg dksX1_fit_3 22 rfl rfl
theorem dX1_fit_0 : decode cX1_fit 0 = .ok (.iload_n 3, 1) := dk_29 (dk_at dksX1_fit_0 0 rfl rfl)
theorem dX1_fit_1 : decode cX1_fit 1 = .ok (.iload_n 1, 1) := dk_27 (dk_at dksX1_fit_0 1 rfl rfl)
theorem dX1_fit_2 : decode cX1_fit 2 = .ok (.invokestatic 37, 3) := dk_184 0 37 (dk_at dksX1_fit_0 2 rfl rfl)
theorem dX1_fit_5 : decode cX1_fit 5 = .ok (.ifCond .ne 11, 3) := dk_154 0 11 (dk_at dksX1_fit_0 5 rfl rfl)
theorem dX1_fit_8 : decode cX1_fit 8 = .ok (.iload_n 3, 1) := dk_29 (dk_at dksX1_fit_0 8 rfl rfl)
theorem dX1_fit_9 : decode cX1_fit 9 = .ok (.iload_n 2, 1) := dk_28 (dk_at dksX1_fit_0 9 rfl rfl)
theorem dX1_fit_10 : decode cX1_fit 10 = .ok (.invokestatic 37, 3) := dk_184 0 37 (dk_at dksX1_fit_0 10 rfl rfl)
theorem dX1_fit_13 : decode cX1_fit 13 = .ok (.ifCond .eq 5, 3) := dk_153 0 5 (dk_at dksX1_fit_0 13 rfl rfl)
theorem dX1_fit_16 : decode cX1_fit 16 = .ok (.iconst 2, 1) := dk_5 (dk_at dksX1_fit_0 16 rfl rfl)
theorem dX1_fit_17 : decode cX1_fit 17 = .ok (.ireturn, 1) := dk_172 (dk_at dksX1_fit_0 17 rfl rfl)
theorem dX1_fit_18 : decode cX1_fit 18 = .ok (.aload_n 0, 1) := dk_42 (dk_at dksX1_fit_0 18 rfl rfl)
theorem dX1_fit_19 : decode cX1_fit 19 = .ok (.getfield 14, 3) := dk_180 0 14 (dk_at dksX1_fit_0 19 rfl rfl)
theorem dX1_fit_22 : decode cX1_fit 22 = .ok (.iload_n 1, 1) := dk_27 (dk_at dksX1_fit_0 22 rfl rfl)
theorem dX1_fit_23 : decode cX1_fit 23 = .ok (.invokevirtual 60, 3) := dk_182 0 60 (dk_at dksX1_fit_1 0 rfl rfl)
theorem dX1_fit_26 : decode cX1_fit 26 = .ok (.checkcast 64, 3) := dk_192 0 64 (dk_at dksX1_fit_1 3 rfl rfl)
theorem dX1_fit_29 : decode cX1_fit 29 = .ok (.astore 4, 2) := dk_58 4 (dk_at dksX1_fit_1 6 rfl rfl)
theorem dX1_fit_31 : decode cX1_fit 31 = .ok (.aload_n 0, 1) := dk_42 (dk_at dksX1_fit_1 8 rfl rfl)
theorem dX1_fit_32 : decode cX1_fit 32 = .ok (.getfield 14, 3) := dk_180 0 14 (dk_at dksX1_fit_1 9 rfl rfl)
theorem dX1_fit_35 : decode cX1_fit 35 = .ok (.iload_n 2, 1) := dk_28 (dk_at dksX1_fit_1 12 rfl rfl)
theorem dX1_fit_36 : decode cX1_fit 36 = .ok (.invokevirtual 60, 3) := dk_182 0 60 (dk_at dksX1_fit_1 13 rfl rfl)
theorem dX1_fit_39 : decode cX1_fit 39 = .ok (.checkcast 64, 3) := dk_192 0 64 (dk_at dksX1_fit_1 16 rfl rfl)
theorem dX1_fit_42 : decode cX1_fit 42 = .ok (.astore 5, 2) := dk_58 5 (dk_at dksX1_fit_1 19 rfl rfl)
theorem dX1_fit_44 : decode cX1_fit 44 = .ok (.aload 4, 2) := dk_25 4 (dk_at dksX1_fit_1 21 rfl rfl)
theorem dX1_fit_46 : decode cX1_fit 46 = .ok (.getfield 72, 3) := dk_180 0 72 (dk_at dksX1_fit_2 0 rfl rfl)
theorem dX1_fit_49 : decode cX1_fit 49 = .ok (.aload 5, 2) := dk_25 5 (dk_at dksX1_fit_2 3 rfl rfl)
theorem dX1_fit_51 : decode cX1_fit 51 = .ok (.getfield 72, 3) := dk_180 0 72 (dk_at dksX1_fit_2 5 rfl rfl)
theorem dX1_fit_54 : decode cX1_fit 54 = .ok (.if_icmp .eq 24, 3) := dk_159 0 24 (dk_at dksX1_fit_2 8 rfl rfl)
theorem dX1_fit_57 : decode cX1_fit 57 = .ok (.aload 4, 2) := dk_25 4 (dk_at dksX1_fit_2 11 rfl rfl)
theorem dX1_fit_59 : decode cX1_fit 59 = .ok (.getfield 75, 3) := dk_180 0 75 (dk_at dksX1_fit_2 13 rfl rfl)
theorem dX1_fit_62 : decode cX1_fit 62 = .ok (.aload 5, 2) := dk_25 5 (dk_at dksX1_fit_2 16 rfl rfl)
theorem dX1_fit_64 : decode cX1_fit 64 = .ok (.getfield 75, 3) := dk_180 0 75 (dk_at dksX1_fit_2 18 rfl rfl)
theorem dX1_fit_67 : decode cX1_fit 67 = .ok (.isub, 1) := dk_100 (dk_at dksX1_fit_2 21 rfl rfl)
theorem dX1_fit_68 : decode cX1_fit 68 = .ok (.invokestatic 51, 3) := dk_184 0 51 (dk_at dksX1_fit_3 0 rfl rfl)
theorem dX1_fit_71 : decode cX1_fit 71 = .ok (.aload_n 0, 1) := dk_42 (dk_at dksX1_fit_3 3 rfl rfl)
theorem dX1_fit_72 : decode cX1_fit 72 = .ok (.getfield 78, 3) := dk_180 0 78 (dk_at dksX1_fit_3 4 rfl rfl)
theorem dX1_fit_75 : decode cX1_fit 75 = .ok (.if_icmp .le 5, 3) := dk_164 0 5 (dk_at dksX1_fit_3 7 rfl rfl)
theorem dX1_fit_78 : decode cX1_fit 78 = .ok (.iconst 0, 1) := dk_3 (dk_at dksX1_fit_3 10 rfl rfl)
theorem dX1_fit_79 : decode cX1_fit 79 = .ok (.ireturn, 1) := dk_172 (dk_at dksX1_fit_3 11 rfl rfl)
theorem dX1_fit_80 : decode cX1_fit 80 = .ok (.aload 4, 2) := dk_25 4 (dk_at dksX1_fit_3 12 rfl rfl)
theorem dX1_fit_82 : decode cX1_fit 82 = .ok (.getfield 75, 3) := dk_180 0 75 (dk_at dksX1_fit_3 14 rfl rfl)
theorem dX1_fit_85 : decode cX1_fit 85 = .ok (.aload 5, 2) := dk_25 5 (dk_at dksX1_fit_3 17 rfl rfl)
theorem dX1_fit_87 : decode cX1_fit 87 = .ok (.getfield 75, 3) := dk_180 0 75 (dk_at dksX1_fit_3 19 rfl rfl)
theorem dX1_fit_90 : decode cX1_fit 90 = .ok (.if_icmp .ne 7, 3) := dk_160 0 7 (dk_at dksX1_fit_4 0 rfl rfl)
theorem dX1_fit_93 : decode cX1_fit 93 = .ok (.iconst 2, 1) := dk_5 (dk_at dksX1_fit_4 3 rfl rfl)
theorem dX1_fit_94 : decode cX1_fit 94 = .ok (.goto 4, 3) := dk_167 0 4 (dk_at dksX1_fit_4 4 rfl rfl)
theorem dX1_fit_97 : decode cX1_fit 97 = .ok (.iconst 1, 1) := dk_4 (dk_at dksX1_fit_4 7 rfl rfl)
theorem dX1_fit_98 : decode cX1_fit 98 = .ok (.ireturn, 1) := dk_172 (dk_at dksX1_fit_4 8 rfl rfl)
abbrev cX1_far : ByteArray := prog_7_method_5_code
def yX1_far : MethodName := ⟨RX1, "far", "(II)I"⟩
def dkwX1_far_0 : List UInt8 := [27, 28, 100, 184, 0, 51, 62, 29, 42, 180, 0, 44, 29, 100, 184, 0, 57, 172]
abbrev dktX1_far_0 : List UInt8 := dkwX1_far_0 ++ []
theorem dksX1_far_0 : cX1_far.data.toList.drop 0 = dktX1_far_0 := by decide +kernel
theorem dX1_far_0 : decode cX1_far 0 = .ok (.iload_n 1, 1) := dk_27 (dk_at dksX1_far_0 0 rfl rfl)
theorem dX1_far_1 : decode cX1_far 1 = .ok (.iload_n 2, 1) := dk_28 (dk_at dksX1_far_0 1 rfl rfl)
theorem dX1_far_2 : decode cX1_far 2 = .ok (.isub, 1) := dk_100 (dk_at dksX1_far_0 2 rfl rfl)
theorem dX1_far_3 : decode cX1_far 3 = .ok (.invokestatic 51, 3) := dk_184 0 51 (dk_at dksX1_far_0 3 rfl rfl)
theorem dX1_far_6 : decode cX1_far 6 = .ok (.istore_n 3, 1) := dk_62 (dk_at dksX1_far_0 6 rfl rfl)
theorem dX1_far_7 : decode cX1_far 7 = .ok (.iload_n 3, 1) := dk_29 (dk_at dksX1_far_0 7 rfl rfl)
theorem dX1_far_8 : decode cX1_far 8 = .ok (.aload_n 0, 1) := dk_42 (dk_at dksX1_far_0 8 rfl rfl)
theorem dX1_far_9 : decode cX1_far 9 = .ok (.getfield 44, 3) := dk_180 0 44 (dk_at dksX1_far_0 9 rfl rfl)
theorem dX1_far_12 : decode cX1_far 12 = .ok (.iload_n 3, 1) := dk_29 (dk_at dksX1_far_0 12 rfl rfl)
theorem dX1_far_13 : decode cX1_far 13 = .ok (.isub, 1) := dk_100 (dk_at dksX1_far_0 13 rfl rfl)
theorem dX1_far_14 : decode cX1_far 14 = .ok (.invokestatic 57, 3) := dk_184 0 57 (dk_at dksX1_far_0 14 rfl rfl)
theorem dX1_far_17 : decode cX1_far 17 = .ok (.ireturn, 1) := dk_172 (dk_at dksX1_far_0 17 rfl rfl)
abbrev cX1_left : ByteArray := prog_7_method_7_code
def yX1_left : MethodName := ⟨RX1, "left", "(I)I"⟩
def dkwX1_left_0 : List UInt8 := [3, 42, 180, 0, 27, 27, 100, 184, 0, 69, 172]
abbrev dktX1_left_0 : List UInt8 := dkwX1_left_0 ++ []
theorem dksX1_left_0 : cX1_left.data.toList.drop 0 = dktX1_left_0 := by decide +kernel
theorem dX1_left_0 : decode cX1_left 0 = .ok (.iconst 0, 1) := dk_3 (dk_at dksX1_left_0 0 rfl rfl)
theorem dX1_left_1 : decode cX1_left 1 = .ok (.aload_n 0, 1) := dk_42 (dk_at dksX1_left_0 1 rfl rfl)
theorem dX1_left_2 : decode cX1_left 2 = .ok (.getfield 27, 3) := dk_180 0 27 (dk_at dksX1_left_0 2 rfl rfl)
theorem dX1_left_5 : decode cX1_left 5 = .ok (.iload_n 1, 1) := dk_27 (dk_at dksX1_left_0 5 rfl rfl)
theorem dX1_left_6 : decode cX1_left 6 = .ok (.isub, 1) := dk_100 (dk_at dksX1_left_0 6 rfl rfl)
theorem dX1_left_7 : decode cX1_left 7 = .ok (.invokestatic 69, 3) := dk_184 0 69 (dk_at dksX1_left_0 7 rfl rfl)
theorem dX1_left_10 : decode cX1_left 10 = .ok (.ireturn, 1) := dk_172 (dk_at dksX1_left_0 10 rfl rfl)
theorem q154 : (Jvm.Cond.initialized "HalfFair$Fair") ∈ lw_all := lw_g (lw_at lw_m1 2 rfl) rfl
theorem q197 : (Jvm.Cond.instantiable "HalfFair$Fair" (13 : Nat)) ∈ lw_all := lw_g (lw_at lw_m1 45 rfl) rfl
theorem q199 : (Jvm.Cond.instanceMethod ({ cls := "HalfFair$Fair", name := "<init>", desc := "()V" } : Jvm.MethodName)) ∈ lw_all := lw_g (lw_at lw_m1 47 rfl) rfl
theorem q200 : (Jvm.Cond.code ({ cls := "HalfFair$Fair", name := "<init>", desc := "()V" } : Jvm.MethodName) prog_7_method_1_code (1 : Nat) (Option.none : Option Jvm.ClassFile.FieldType)) ∈ lw_all := lw_g (lw_at lw_m1 48 rfl) rfl
theorem q201 : (Jvm.Cond.methodLink "HalfFair$Fair" (3 : Nat) ({ cls := "java/lang/Object", name := "<init>", desc := "()V" } : Jvm.MethodName)) ∈ lw_all := lw_g (lw_at lw_m1 49 rfl) rfl
theorem q202 : (Jvm.Cond.classLink "HalfFair$Fair" (9 : Nat) "java/util/ArrayList") ∈ lw_all := lw_g (lw_at lw_m1 50 rfl) rfl
theorem q204 : (Jvm.Cond.methodLink "HalfFair$Fair" (11 : Nat) ({ cls := "java/util/ArrayList", name := "<init>", desc := "(I)V" } : Jvm.MethodName)) ∈ lw_all := lw_g (lw_at lw_m1 52 rfl) rfl
theorem q230 : (Jvm.Cond.fieldLink "HalfFair$Fair" (14 : Nat) "HalfFair$Fair" "halves" "Ljava/util/ArrayList;") ∈ lw_all := lw_g (lw_at lw_m1 78 rfl) rfl
theorem q234 : (Jvm.Cond.fieldLink "HalfFair$Fair" (20 : Nat) "HalfFair$Fair" "buyers" "Ljava/util/ArrayList;") ∈ lw_all := lw_g (lw_at lw_m1 82 rfl) rfl
theorem q238 : (Jvm.Cond.fieldLink "HalfFair$Fair" (23 : Nat) "HalfFair$Fair" "club" "[I") ∈ lw_all := lw_g (lw_at lw_m1 86 rfl) rfl
theorem q241 : (Jvm.Cond.fieldLink "HalfFair$Fair" (44 : Nat) "HalfFair$Fair" "stalls" "I") ∈ lw_all := lw_g (lw_at lw_m1 89 rfl) rfl
theorem q245 : (Jvm.Cond.fieldLink "HalfFair$Fair" (41 : Nat) "HalfFair$Fair" "shift" "I") ∈ lw_all := lw_g (lw_at lw_m1 93 rfl) rfl
theorem q247 : (Jvm.Cond.fieldLink "HalfFair$Fair" (78 : Nat) "HalfFair$Fair" "near" "I") ∈ lw_all := lw_g (lw_at lw_m1 95 rfl) rfl
theorem q250 : (Jvm.Cond.fieldLink "HalfFair$Fair" (27 : Nat) "HalfFair$Fair" "dusk" "I") ∈ lw_all := lw_g (lw_at lw_m1 98 rfl) rfl
theorem q252 : (Jvm.Cond.fieldLink "HalfFair$Fair" (31 : Nat) "HalfFair$Fair" "duskPrice" "I") ∈ lw_all := lw_g (lw_at lw_m1 100 rfl) rfl
theorem q254 : (Jvm.Cond.fieldLink "HalfFair$Fair" (34 : Nat) "HalfFair$Fair" "hear" "I") ∈ lw_all := lw_g (lw_at lw_m1 102 rfl) rfl
theorem q262 : (Jvm.Cond.laysFinal "HalfFair$Fair" "HalfFair$Fair" "halves" "Ljava/util/ArrayList;") ∈ lw_all := lw_g (lw_at lw_m1 110 rfl) rfl
theorem q263 : (Jvm.Cond.soleField "HalfFair$Fair" "halves") ∈ lw_all := lw_g (lw_at lw_m1 111 rfl) rfl
theorem q264 : (Jvm.Cond.laysFinal "HalfFair$Fair" "HalfFair$Fair" "buyers" "Ljava/util/ArrayList;") ∈ lw_all := lw_g (lw_at lw_m1 112 rfl) rfl
theorem q265 : (Jvm.Cond.soleField "HalfFair$Fair" "buyers") ∈ lw_all := lw_g (lw_at lw_m1 113 rfl) rfl
theorem q266 : (Jvm.Cond.laysFinal "HalfFair$Fair" "HalfFair$Fair" "club" "[I") ∈ lw_all := lw_g (lw_at lw_m1 114 rfl) rfl
theorem q267 : (Jvm.Cond.soleField "HalfFair$Fair" "club") ∈ lw_all := lw_g (lw_at lw_m1 115 rfl) rfl
theorem q268 : (Jvm.Cond.lays "HalfFair$Fair" "HalfFair$Fair" "stalls" "I") ∈ lw_all := lw_g (lw_at lw_m1 116 rfl) rfl
theorem q269 : (Jvm.Cond.soleField "HalfFair$Fair" "stalls") ∈ lw_all := lw_g (lw_at lw_m1 117 rfl) rfl
theorem q270 : (Jvm.Cond.lays "HalfFair$Fair" "HalfFair$Fair" "shift" "I") ∈ lw_all := lw_g (lw_at lw_m1 118 rfl) rfl
theorem q271 : (Jvm.Cond.soleField "HalfFair$Fair" "shift") ∈ lw_all := lw_g (lw_at lw_m1 119 rfl) rfl
theorem q272 : (Jvm.Cond.lays "HalfFair$Fair" "HalfFair$Fair" "near" "I") ∈ lw_all := lw_g (lw_at lw_m1 120 rfl) rfl
theorem q273 : (Jvm.Cond.soleField "HalfFair$Fair" "near") ∈ lw_all := lw_g (lw_at lw_m1 121 rfl) rfl
theorem q274 : (Jvm.Cond.lays "HalfFair$Fair" "HalfFair$Fair" "dusk" "I") ∈ lw_all := lw_g (lw_at lw_m1 122 rfl) rfl
theorem q275 : (Jvm.Cond.soleField "HalfFair$Fair" "dusk") ∈ lw_all := lw_g (lw_at lw_m1 123 rfl) rfl
theorem q276 : (Jvm.Cond.lays "HalfFair$Fair" "HalfFair$Fair" "duskPrice" "I") ∈ lw_all := lw_g (lw_at lw_m1 124 rfl) rfl
theorem q277 : (Jvm.Cond.soleField "HalfFair$Fair" "duskPrice") ∈ lw_all := lw_g (lw_at lw_m1 125 rfl) rfl
theorem q278 : (Jvm.Cond.lays "HalfFair$Fair" "HalfFair$Fair" "hear" "I") ∈ lw_all := lw_g (lw_at lw_m1 126 rfl) rfl
theorem q279 : (Jvm.Cond.soleField "HalfFair$Fair" "hear") ∈ lw_all := lw_g (lw_at lw_m1 127 rfl) rfl
theorem q280 : (Jvm.Cond.lays "HalfFair$Fair" "HalfFair$Fair" "forged" "I") ∈ lw_all := lw_g (lw_at lw_m1 128 rfl) rfl
theorem q281 : (Jvm.Cond.soleField "HalfFair$Fair" "forged") ∈ lw_all := lw_g (lw_at lw_m1 129 rfl) rfl
theorem q282 : (Jvm.Cond.lays "HalfFair$Fair" "HalfFair$Fair" "isNearTold" "Z") ∈ lw_all := lw_g (lw_at lw_m1 130 rfl) rfl
theorem q283 : (Jvm.Cond.soleField "HalfFair$Fair" "isNearTold") ∈ lw_all := lw_g (lw_at lw_m1 131 rfl) rfl
theorem q284 : (Jvm.Cond.lays "HalfFair$Fair" "HalfFair$Fair" "isDuskTold" "Z") ∈ lw_all := lw_g (lw_at lw_m1 132 rfl) rfl
theorem q285 : (Jvm.Cond.soleField "HalfFair$Fair" "isDuskTold") ∈ lw_all := lw_g (lw_at lw_m1 133 rfl) rfl
theorem q286 : (Jvm.Cond.lays "HalfFair$Fair" "HalfFair$Fair" "isHearTold" "Z") ∈ lw_all := lw_g (lw_at lw_m1 134 rfl) rfl
theorem q287 : (Jvm.Cond.soleField "HalfFair$Fair" "isHearTold") ∈ lw_all := lw_g (lw_at lw_m1 135 rfl) rfl
theorem q288 : (Jvm.Cond.superclass "HalfFair$Fair" "java/lang/Object") ∈ lw_all := lw_g (lw_at lw_m1 136 rfl) rfl
theorem q633 : (Jvm.Cond.fieldLinkNest "HalfFair$Fair" (75 : Nat) "HalfFair$Half" "shape" "I" "HalfFair") ∈ lw_tbl := lw_at lw_m3 1 rfl
theorem q636 : (Jvm.Cond.fieldLinkNest "HalfFair$Fair" (72 : Nat) "HalfFair$Half" "side" "I" "HalfFair") ∈ lw_tbl := lw_at lw_m3 4 rfl
theorem q639 : (Jvm.Cond.fieldLinkNest "HalfFair$Fair" (66 : Nat) "HalfFair$Half" "price" "I" "HalfFair") ∈ lw_tbl := lw_at lw_m3 7 rfl
theorem q689 : (Jvm.Cond.selects "HalfFair$Fair" ({ cls := "java/lang/Object", name := "getClass", desc := "()Ljava/lang/Class;" } : Jvm.MethodName) ({ cls := "java/lang/Object", name := "getClass", desc := "()Ljava/lang/Class;" } : Jvm.MethodName)) ∈ lw_all := lw_g (lw_at lw_m3 57 rfl) rfl
theorem q738 : (Jvm.Cond.instanceMethod ({ cls := "HalfFair$Fair", name := "joins", desc := "(II)V" } : Jvm.MethodName)) ∈ lw_all := lw_g (lw_at lw_m3 106 rfl) rfl
theorem q739 : (Jvm.Cond.selects "HalfFair$Fair" ({ cls := "HalfFair$Fair", name := "joins", desc := "(II)V" } : Jvm.MethodName) ({ cls := "HalfFair$Fair", name := "joins", desc := "(II)V" } : Jvm.MethodName)) ∈ lw_all := lw_g (lw_at lw_m3 107 rfl) rfl
theorem q740 : (Jvm.Cond.code ({ cls := "HalfFair$Fair", name := "joins", desc := "(II)V" } : Jvm.MethodName) prog_7_method_2_code (5 : Nat) (Option.none : Option Jvm.ClassFile.FieldType)) ∈ lw_all := lw_g (lw_at lw_m3 108 rfl) rfl
theorem q741 : (Jvm.Cond.methodLinkNest "HalfFair$Fair" (37 : Nat) ({ cls := "HalfFair", name := "has", desc := "(II)Z" } : Jvm.MethodName) "HalfFair") ∈ lw_tbl := lw_at lw_m3 109 rfl
theorem q787 : (Jvm.Cond.instanceMethod ({ cls := "HalfFair$Fair", name := "stallAt", desc := "(II)I" } : Jvm.MethodName)) ∈ lw_all := lw_g (lw_at lw_m3 155 rfl) rfl
theorem q788 : (Jvm.Cond.selects "HalfFair$Fair" ({ cls := "HalfFair$Fair", name := "stallAt", desc := "(II)I" } : Jvm.MethodName) ({ cls := "HalfFair$Fair", name := "stallAt", desc := "(II)I" } : Jvm.MethodName)) ∈ lw_all := lw_g (lw_at lw_m3 156 rfl) rfl
theorem q789 : (Jvm.Cond.code ({ cls := "HalfFair$Fair", name := "stallAt", desc := "(II)I" } : Jvm.MethodName) prog_7_method_4_code (4 : Nat) (Option.some Jvm.ClassFile.FieldType.int)) ∈ lw_all := lw_g (lw_at lw_m3 157 rfl) rfl
theorem q790 : (Jvm.Cond.methodLink "HalfFair$Fair" (47 : Nat) ({ cls := "HalfFair$Fair", name := "spotOf", desc := "(II)I" } : Jvm.MethodName)) ∈ lw_all := lw_g (lw_at lw_m3 158 rfl) rfl
theorem q791 : (Jvm.Cond.instanceMethod ({ cls := "HalfFair$Fair", name := "spotOf", desc := "(II)I" } : Jvm.MethodName)) ∈ lw_all := lw_g (lw_at lw_m3 159 rfl) rfl
theorem q792 : (Jvm.Cond.selects "HalfFair$Fair" ({ cls := "HalfFair$Fair", name := "spotOf", desc := "(II)I" } : Jvm.MethodName) ({ cls := "HalfFair$Fair", name := "spotOf", desc := "(II)I" } : Jvm.MethodName)) ∈ lw_all := lw_g (lw_at lw_m3 160 rfl) rfl
theorem q793 : (Jvm.Cond.code ({ cls := "HalfFair$Fair", name := "spotOf", desc := "(II)I" } : Jvm.MethodName) prog_7_method_3_code (3 : Nat) (Option.some Jvm.ClassFile.FieldType.int)) ∈ lw_all := lw_g (lw_at lw_m3 161 rfl) rfl
theorem q992 : (Jvm.Cond.instanceMethod ({ cls := "HalfFair$Fair", name := "priceAt", desc := "(II)I" } : Jvm.MethodName)) ∈ lw_all := lw_g (lw_at lw_m4 120 rfl) rfl
theorem q993 : (Jvm.Cond.selects "HalfFair$Fair" ({ cls := "HalfFair$Fair", name := "priceAt", desc := "(II)I" } : Jvm.MethodName) ({ cls := "HalfFair$Fair", name := "priceAt", desc := "(II)I" } : Jvm.MethodName)) ∈ lw_all := lw_g (lw_at lw_m4 121 rfl) rfl
theorem q994 : (Jvm.Cond.code ({ cls := "HalfFair$Fair", name := "priceAt", desc := "(II)I" } : Jvm.MethodName) prog_7_method_6_code (3 : Nat) (Option.some Jvm.ClassFile.FieldType.int)) ∈ lw_all := lw_g (lw_at lw_m4 122 rfl) rfl
theorem q995 : (Jvm.Cond.methodLink "HalfFair$Fair" (60 : Nat) ({ cls := "java/util/ArrayList", name := "get", desc := "(I)Ljava/lang/Object;" } : Jvm.MethodName)) ∈ lw_all := lw_g (lw_at lw_m4 123 rfl) rfl
theorem q996 : (Jvm.Cond.classLink "HalfFair$Fair" (64 : Nat) "HalfFair$Half") ∈ lw_all := lw_g (lw_at lw_m4 124 rfl) rfl
theorem q1010 : (Jvm.Cond.instanceMethod ({ cls := "HalfFair$Fair", name := "fit", desc := "(III)I" } : Jvm.MethodName)) ∈ lw_all := lw_g (lw_at lw_m4 138 rfl) rfl
theorem q1011 : (Jvm.Cond.selects "HalfFair$Fair" ({ cls := "HalfFair$Fair", name := "fit", desc := "(III)I" } : Jvm.MethodName) ({ cls := "HalfFair$Fair", name := "fit", desc := "(III)I" } : Jvm.MethodName)) ∈ lw_all := lw_g (lw_at lw_m4 139 rfl) rfl
theorem q1012 : (Jvm.Cond.code ({ cls := "HalfFair$Fair", name := "fit", desc := "(III)I" } : Jvm.MethodName) prog_7_method_8_code (6 : Nat) (Option.some Jvm.ClassFile.FieldType.int)) ∈ lw_all := lw_g (lw_at lw_m4 140 rfl) rfl
theorem q1013 : (Jvm.Cond.methodLink "HalfFair$Fair" (51 : Nat) ({ cls := "java/lang/Math", name := "abs", desc := "(I)I" } : Jvm.MethodName)) ∈ lw_all := lw_g (lw_at lw_m4 141 rfl) rfl
theorem q1132 : (Jvm.Cond.instanceMethod ({ cls := "HalfFair$Fair", name := "far", desc := "(II)I" } : Jvm.MethodName)) ∈ lw_all := lw_g (lw_at lw_m5 20 rfl) rfl
theorem q1133 : (Jvm.Cond.selects "HalfFair$Fair" ({ cls := "HalfFair$Fair", name := "far", desc := "(II)I" } : Jvm.MethodName) ({ cls := "HalfFair$Fair", name := "far", desc := "(II)I" } : Jvm.MethodName)) ∈ lw_all := lw_g (lw_at lw_m5 21 rfl) rfl
theorem q1134 : (Jvm.Cond.code ({ cls := "HalfFair$Fair", name := "far", desc := "(II)I" } : Jvm.MethodName) prog_7_method_5_code (4 : Nat) (Option.some Jvm.ClassFile.FieldType.int)) ∈ lw_all := lw_g (lw_at lw_m5 22 rfl) rfl
theorem q1135 : (Jvm.Cond.methodLink "HalfFair$Fair" (57 : Nat) ({ cls := "java/lang/Math", name := "min", desc := "(II)I" } : Jvm.MethodName)) ∈ lw_all := lw_g (lw_at lw_m5 23 rfl) rfl
theorem q1186 : (Jvm.Cond.instanceMethod ({ cls := "HalfFair$Fair", name := "left", desc := "(I)I" } : Jvm.MethodName)) ∈ lw_all := lw_g (lw_at lw_m5 74 rfl) rfl
theorem q1187 : (Jvm.Cond.selects "HalfFair$Fair" ({ cls := "HalfFair$Fair", name := "left", desc := "(I)I" } : Jvm.MethodName) ({ cls := "HalfFair$Fair", name := "left", desc := "(I)I" } : Jvm.MethodName)) ∈ lw_all := lw_g (lw_at lw_m5 75 rfl) rfl
theorem q1188 : (Jvm.Cond.code ({ cls := "HalfFair$Fair", name := "left", desc := "(I)I" } : Jvm.MethodName) prog_7_method_7_code (2 : Nat) (Option.some Jvm.ClassFile.FieldType.int)) ∈ lw_all := lw_g (lw_at lw_m5 76 rfl) rfl
theorem q1189 : (Jvm.Cond.methodLink "HalfFair$Fair" (69 : Nat) ({ cls := "java/lang/Math", name := "max", desc := "(II)I" } : Jvm.MethodName)) ∈ lw_all := lw_g (lw_at lw_m5 77 rfl) rfl
theorem q2045 : (Jvm.Cond.castable "HalfFair$Fair" "java/lang/Object") ∈ lw_tbl := lw_at lw_m8 213 rfl
theorem in_X1 : ∀ w ∈ wsX10, w ∈ lw_all := lw_in wsX10 [262, 264, 266, 268, 270, 272, 274, 276, 278, 280, 282, 284, 286] (by decide +kernel) (by decide +kernel)

/-! HalfFair$State -/
set_option maxRecDepth 100000
def RX2 : String := "HalfFair$State"
def TX2 : u_T := fun k => match k with
  | 0 => ("HalfFair$State", "where", "[I", true)
  | 1 => ("HalfFair$State", "purse", "[I", true)
  | 2 => ("HalfFair$State", "spot", "[I", true)
  | 3 => ("HalfFair$State", "saw", "[I", true)
  | _ => ("HalfFair$State", "now", "I", false)
def tyX2 : Nat → FieldType := fun k => match k with
  | 0 => .array .int
  | 1 => .array .int
  | 2 => .array .int
  | 3 => .array .int
  | _ => .int
abbrev wsX20 : List Cond := u_ws RX2 TX2 5
theorem nmX2 : ∀ a, a < 5 → ∀ b, b < 5 → a ≠ b → (TX2 a).2.1 ≠ (TX2 b).2.1 := by decide +kernel
theorem tyX2_ok : ∀ k, k < 5 → parseFieldDescriptor (TX2 k).2.2.1 = some (tyX2 k) := by decide +kernel
abbrev cX2_init : ByteArray := prog_15_method_1_code
def yX2_init : MethodName := ⟨RX2, "<init>", "()V"⟩
def dkwX2_init_1 : List UInt8 := [181, 0, 18, 42, 7, 188, 10, 181, 0, 21, 177]
abbrev dktX2_init_1 : List UInt8 := dkwX2_init_1 ++ []
def dkwX2_init_0 : List UInt8 := [42, 183, 0, 3, 42, 16, 12, 188, 10, 181, 0, 9, 42, 7, 188, 10, 181, 0, 15, 42, 7, 188, 10]
abbrev dktX2_init_0 : List UInt8 := dkwX2_init_0 ++ dktX2_init_1
theorem dksX2_init_0 : cX2_init.data.toList.drop 0 = dktX2_init_0 := by decide +kernel
theorem dksX2_init_1 : cX2_init.data.toList.drop 23 = dktX2_init_1 := dk_seg dksX2_init_0 23 rfl rfl
theorem dX2_init_0 : decode cX2_init 0 = .ok (.aload_n 0, 1) := dk_42 (dk_at dksX2_init_0 0 rfl rfl)
theorem dX2_init_1 : decode cX2_init 1 = .ok (.invokespecial 3, 3) := dk_183 0 3 (dk_at dksX2_init_0 1 rfl rfl)
theorem dX2_init_4 : decode cX2_init 4 = .ok (.aload_n 0, 1) := dk_42 (dk_at dksX2_init_0 4 rfl rfl)
theorem dX2_init_5 : decode cX2_init 5 = .ok (.bipush 12, 2) := dk_16 12 (dk_at dksX2_init_0 5 rfl rfl)
theorem dX2_init_7 : decode cX2_init 7 = .ok (.newarray .int, 2) := dk_188_10 (dk_at dksX2_init_0 7 rfl rfl)
theorem dX2_init_9 : decode cX2_init 9 = .ok (.putfield 9, 3) := dk_181 0 9 (dk_at dksX2_init_0 9 rfl rfl)
theorem dX2_init_12 : decode cX2_init 12 = .ok (.aload_n 0, 1) := dk_42 (dk_at dksX2_init_0 12 rfl rfl)
theorem dX2_init_13 : decode cX2_init 13 = .ok (.iconst 4, 1) := dk_7 (dk_at dksX2_init_0 13 rfl rfl)
theorem dX2_init_14 : decode cX2_init 14 = .ok (.newarray .int, 2) := dk_188_10 (dk_at dksX2_init_0 14 rfl rfl)
theorem dX2_init_16 : decode cX2_init 16 = .ok (.putfield 15, 3) := dk_181 0 15 (dk_at dksX2_init_0 16 rfl rfl)
theorem dX2_init_19 : decode cX2_init 19 = .ok (.aload_n 0, 1) := dk_42 (dk_at dksX2_init_0 19 rfl rfl)
theorem dX2_init_20 : decode cX2_init 20 = .ok (.iconst 4, 1) := dk_7 (dk_at dksX2_init_0 20 rfl rfl)
theorem dX2_init_21 : decode cX2_init 21 = .ok (.newarray .int, 2) := dk_188_10 (dk_at dksX2_init_0 21 rfl rfl)
theorem dX2_init_23 : decode cX2_init 23 = .ok (.putfield 18, 3) := dk_181 0 18 (dk_at dksX2_init_1 0 rfl rfl)
theorem dX2_init_26 : decode cX2_init 26 = .ok (.aload_n 0, 1) := dk_42 (dk_at dksX2_init_1 3 rfl rfl)
theorem dX2_init_27 : decode cX2_init 27 = .ok (.iconst 4, 1) := dk_7 (dk_at dksX2_init_1 4 rfl rfl)
theorem dX2_init_28 : decode cX2_init 28 = .ok (.newarray .int, 2) := dk_188_10 (dk_at dksX2_init_1 5 rfl rfl)
theorem dX2_init_30 : decode cX2_init 30 = .ok (.putfield 21, 3) := dk_181 0 21 (dk_at dksX2_init_1 7 rfl rfl)
theorem dX2_init_33 : decode cX2_init 33 = .ok (.return_, 1) := dk_177 (dk_at dksX2_init_1 10 rfl rfl)
abbrev cX2_begin : ByteArray := prog_15_method_3_code
def yX2_begin : MethodName := ⟨RX2, "begin", "(LHalfFair$Fair;)V"⟩
def dkwX2_begin_4 : List UInt8 := [42, 180, 0, 21, 28, 3, 79, 132, 2, 1, 167, 255, 195, 42, 3, 181, 0, 24, 42, 43, 182, 0, 58, 177]
abbrev dktX2_begin_4 : List UInt8 := dkwX2_begin_4 ++ []
def dkwX2_begin_3 : List UInt8 := [180, 0, 54, 79, 42, 180, 0, 18, 28, 43, 180, 0, 49, 28, 182, 0, 40, 192, 0, 52, 180, 0, 56, 79]
abbrev dktX2_begin_3 : List UInt8 := dkwX2_begin_3 ++ dktX2_begin_4
def dkwX2_begin_2 : List UInt8 := [182, 0, 34, 162, 0, 56, 42, 180, 0, 15, 28, 43, 180, 0, 49, 28, 182, 0, 40, 192, 0, 52]
abbrev dktX2_begin_2 : List UInt8 := dkwX2_begin_2 ++ dktX2_begin_3
def dkwX2_begin_1 : List UInt8 := [182, 0, 40, 192, 0, 44, 180, 0, 46, 79, 132, 2, 1, 167, 255, 222, 3, 61, 28, 43, 180, 0, 49]
abbrev dktX2_begin_1 : List UInt8 := dkwX2_begin_1 ++ dktX2_begin_2
def dkwX2_begin_0 : List UInt8 := [3, 61, 28, 43, 180, 0, 28, 182, 0, 34, 162, 0, 29, 42, 180, 0, 9, 28, 43, 180, 0, 28, 28]
abbrev dktX2_begin_0 : List UInt8 := dkwX2_begin_0 ++ dktX2_begin_1
theorem dksX2_begin_0 : cX2_begin.data.toList.drop 0 = dktX2_begin_0 := by decide +kernel
theorem dksX2_begin_1 : cX2_begin.data.toList.drop 23 = dktX2_begin_1 := dk_seg dksX2_begin_0 23 rfl rfl
theorem dksX2_begin_2 : cX2_begin.data.toList.drop 46 = dktX2_begin_2 := dk_seg dksX2_begin_1 23 rfl rfl
theorem dksX2_begin_3 : cX2_begin.data.toList.drop 68 = dktX2_begin_3 := dk_seg dksX2_begin_2 22 rfl rfl
theorem dksX2_begin_4 : cX2_begin.data.toList.drop 92 = dktX2_begin_4 := dk_seg dksX2_begin_3 24 rfl rfl
theorem dX2_begin_0 : decode cX2_begin 0 = .ok (.iconst 0, 1) := dk_3 (dk_at dksX2_begin_0 0 rfl rfl)
theorem dX2_begin_1 : decode cX2_begin 1 = .ok (.istore_n 2, 1) := dk_61 (dk_at dksX2_begin_0 1 rfl rfl)
theorem dX2_begin_2 : decode cX2_begin 2 = .ok (.iload_n 2, 1) := dk_28 (dk_at dksX2_begin_0 2 rfl rfl)
theorem dX2_begin_3 : decode cX2_begin 3 = .ok (.aload_n 1, 1) := dk_43 (dk_at dksX2_begin_0 3 rfl rfl)
theorem dX2_begin_4 : decode cX2_begin 4 = .ok (.getfield 28, 3) := dk_180 0 28 (dk_at dksX2_begin_0 4 rfl rfl)
theorem dX2_begin_7 : decode cX2_begin 7 = .ok (.invokevirtual 34, 3) := dk_182 0 34 (dk_at dksX2_begin_0 7 rfl rfl)
theorem dX2_begin_10 : decode cX2_begin 10 = .ok (.if_icmp .ge 29, 3) := dk_162 0 29 (dk_at dksX2_begin_0 10 rfl rfl)
theorem dX2_begin_13 : decode cX2_begin 13 = .ok (.aload_n 0, 1) := dk_42 (dk_at dksX2_begin_0 13 rfl rfl)
theorem dX2_begin_14 : decode cX2_begin 14 = .ok (.getfield 9, 3) := dk_180 0 9 (dk_at dksX2_begin_0 14 rfl rfl)
theorem dX2_begin_17 : decode cX2_begin 17 = .ok (.iload_n 2, 1) := dk_28 (dk_at dksX2_begin_0 17 rfl rfl)
theorem dX2_begin_18 : decode cX2_begin 18 = .ok (.aload_n 1, 1) := dk_43 (dk_at dksX2_begin_0 18 rfl rfl)
theorem dX2_begin_19 : decode cX2_begin 19 = .ok (.getfield 28, 3) := dk_180 0 28 (dk_at dksX2_begin_0 19 rfl rfl)
theorem dX2_begin_22 : decode cX2_begin 22 = .ok (.iload_n 2, 1) := dk_28 (dk_at dksX2_begin_0 22 rfl rfl)
theorem dX2_begin_23 : decode cX2_begin 23 = .ok (.invokevirtual 40, 3) := dk_182 0 40 (dk_at dksX2_begin_1 0 rfl rfl)
theorem dX2_begin_26 : decode cX2_begin 26 = .ok (.checkcast 44, 3) := dk_192 0 44 (dk_at dksX2_begin_1 3 rfl rfl)
theorem dX2_begin_29 : decode cX2_begin 29 = .ok (.getfield 46, 3) := dk_180 0 46 (dk_at dksX2_begin_1 6 rfl rfl)
theorem dX2_begin_32 : decode cX2_begin 32 = .ok (.iastore, 1) := dk_79 (dk_at dksX2_begin_1 9 rfl rfl)
theorem dX2_begin_33 : decode cX2_begin 33 = .ok (.iinc 2 1, 3) := dk_132 2 1 (dk_at dksX2_begin_1 10 rfl rfl)
theorem dX2_begin_36 : decode cX2_begin 36 = .ok (.goto (-34), 3) := dk_167 255 222 (dk_at dksX2_begin_1 13 rfl rfl)
theorem dX2_begin_39 : decode cX2_begin 39 = .ok (.iconst 0, 1) := dk_3 (dk_at dksX2_begin_1 16 rfl rfl)
theorem dX2_begin_40 : decode cX2_begin 40 = .ok (.istore_n 2, 1) := dk_61 (dk_at dksX2_begin_1 17 rfl rfl)
theorem dX2_begin_41 : decode cX2_begin 41 = .ok (.iload_n 2, 1) := dk_28 (dk_at dksX2_begin_1 18 rfl rfl)
theorem dX2_begin_42 : decode cX2_begin 42 = .ok (.aload_n 1, 1) := dk_43 (dk_at dksX2_begin_1 19 rfl rfl)
theorem dX2_begin_43 : decode cX2_begin 43 = .ok (.getfield 49, 3) := dk_180 0 49 (dk_at dksX2_begin_1 20 rfl rfl)
theorem dX2_begin_46 : decode cX2_begin 46 = .ok (.invokevirtual 34, 3) := dk_182 0 34 (dk_at dksX2_begin_2 0 rfl rfl)
theorem dX2_begin_49 : decode cX2_begin 49 = .ok (.if_icmp .ge 56, 3) := dk_162 0 56 (dk_at dksX2_begin_2 3 rfl rfl)
theorem dX2_begin_52 : decode cX2_begin 52 = .ok (.aload_n 0, 1) := dk_42 (dk_at dksX2_begin_2 6 rfl rfl)
theorem dX2_begin_53 : decode cX2_begin 53 = .ok (.getfield 15, 3) := dk_180 0 15 (dk_at dksX2_begin_2 7 rfl rfl)
theorem dX2_begin_56 : decode cX2_begin 56 = .ok (.iload_n 2, 1) := dk_28 (dk_at dksX2_begin_2 10 rfl rfl)
theorem dX2_begin_57 : decode cX2_begin 57 = .ok (.aload_n 1, 1) := dk_43 (dk_at dksX2_begin_2 11 rfl rfl)
theorem dX2_begin_58 : decode cX2_begin 58 = .ok (.getfield 49, 3) := dk_180 0 49 (dk_at dksX2_begin_2 12 rfl rfl)
theorem dX2_begin_61 : decode cX2_begin 61 = .ok (.iload_n 2, 1) := dk_28 (dk_at dksX2_begin_2 15 rfl rfl)
theorem dX2_begin_62 : decode cX2_begin 62 = .ok (.invokevirtual 40, 3) := dk_182 0 40 (dk_at dksX2_begin_2 16 rfl rfl)
theorem dX2_begin_65 : decode cX2_begin 65 = .ok (.checkcast 52, 3) := dk_192 0 52 (dk_at dksX2_begin_2 19 rfl rfl)
theorem dX2_begin_68 : decode cX2_begin 68 = .ok (.getfield 54, 3) := dk_180 0 54 (dk_at dksX2_begin_3 0 rfl rfl)
theorem dX2_begin_71 : decode cX2_begin 71 = .ok (.iastore, 1) := dk_79 (dk_at dksX2_begin_3 3 rfl rfl)
theorem dX2_begin_72 : decode cX2_begin 72 = .ok (.aload_n 0, 1) := dk_42 (dk_at dksX2_begin_3 4 rfl rfl)
theorem dX2_begin_73 : decode cX2_begin 73 = .ok (.getfield 18, 3) := dk_180 0 18 (dk_at dksX2_begin_3 5 rfl rfl)
theorem dX2_begin_76 : decode cX2_begin 76 = .ok (.iload_n 2, 1) := dk_28 (dk_at dksX2_begin_3 8 rfl rfl)
theorem dX2_begin_77 : decode cX2_begin 77 = .ok (.aload_n 1, 1) := dk_43 (dk_at dksX2_begin_3 9 rfl rfl)
theorem dX2_begin_78 : decode cX2_begin 78 = .ok (.getfield 49, 3) := dk_180 0 49 (dk_at dksX2_begin_3 10 rfl rfl)
theorem dX2_begin_81 : decode cX2_begin 81 = .ok (.iload_n 2, 1) := dk_28 (dk_at dksX2_begin_3 13 rfl rfl)
theorem dX2_begin_82 : decode cX2_begin 82 = .ok (.invokevirtual 40, 3) := dk_182 0 40 (dk_at dksX2_begin_3 14 rfl rfl)
theorem dX2_begin_85 : decode cX2_begin 85 = .ok (.checkcast 52, 3) := dk_192 0 52 (dk_at dksX2_begin_3 17 rfl rfl)
theorem dX2_begin_88 : decode cX2_begin 88 = .ok (.getfield 56, 3) := dk_180 0 56 (dk_at dksX2_begin_3 20 rfl rfl)
theorem dX2_begin_91 : decode cX2_begin 91 = .ok (.iastore, 1) := dk_79 (dk_at dksX2_begin_3 23 rfl rfl)
theorem dX2_begin_92 : decode cX2_begin 92 = .ok (.aload_n 0, 1) := dk_42 (dk_at dksX2_begin_4 0 rfl rfl)
theorem dX2_begin_93 : decode cX2_begin 93 = .ok (.getfield 21, 3) := dk_180 0 21 (dk_at dksX2_begin_4 1 rfl rfl)
theorem dX2_begin_96 : decode cX2_begin 96 = .ok (.iload_n 2, 1) := dk_28 (dk_at dksX2_begin_4 4 rfl rfl)
theorem dX2_begin_97 : decode cX2_begin 97 = .ok (.iconst 0, 1) := dk_3 (dk_at dksX2_begin_4 5 rfl rfl)
theorem dX2_begin_98 : decode cX2_begin 98 = .ok (.iastore, 1) := dk_79 (dk_at dksX2_begin_4 6 rfl rfl)
theorem dX2_begin_99 : decode cX2_begin 99 = .ok (.iinc 2 1, 3) := dk_132 2 1 (dk_at dksX2_begin_4 7 rfl rfl)
theorem dX2_begin_102 : decode cX2_begin 102 = .ok (.goto (-61), 3) := dk_167 255 195 (dk_at dksX2_begin_4 10 rfl rfl)
theorem dX2_begin_105 : decode cX2_begin 105 = .ok (.aload_n 0, 1) := dk_42 (dk_at dksX2_begin_4 13 rfl rfl)
theorem dX2_begin_106 : decode cX2_begin 106 = .ok (.iconst 0, 1) := dk_3 (dk_at dksX2_begin_4 14 rfl rfl)
theorem dX2_begin_107 : decode cX2_begin 107 = .ok (.putfield 24, 3) := dk_181 0 24 (dk_at dksX2_begin_4 15 rfl rfl)
theorem dX2_begin_110 : decode cX2_begin 110 = .ok (.aload_n 0, 1) := dk_42 (dk_at dksX2_begin_4 18 rfl rfl)
theorem dX2_begin_111 : decode cX2_begin 111 = .ok (.aload_n 1, 1) := dk_43 (dk_at dksX2_begin_4 19 rfl rfl)
theorem dX2_begin_112 : decode cX2_begin 112 = .ok (.invokevirtual 58, 3) := dk_182 0 58 (dk_at dksX2_begin_4 20 rfl rfl)
theorem dX2_begin_115 : decode cX2_begin 115 = .ok (.return_, 1) := dk_177 (dk_at dksX2_begin_4 23 rfl rfl)
abbrev cX2_sees : ByteArray := prog_15_method_8_code
def yX2_sees : MethodName := ⟨RX2, "sees", "(LHalfFair$Fair;)V"⟩
def dkwX2_sees_1 : List UInt8 := [28, 182, 0, 70, 182, 0, 62, 128, 79, 132, 2, 1, 167, 255, 222, 177]
abbrev dktX2_sees_1 : List UInt8 := dkwX2_sees_1 ++ []
def dkwX2_sees_0 : List UInt8 := [3, 61, 28, 43, 180, 0, 49, 182, 0, 34, 162, 0, 29, 42, 180, 0, 21, 28, 92, 46, 42, 43, 42, 43]
abbrev dktX2_sees_0 : List UInt8 := dkwX2_sees_0 ++ dktX2_sees_1
theorem dksX2_sees_0 : cX2_sees.data.toList.drop 0 = dktX2_sees_0 := by decide +kernel
theorem dksX2_sees_1 : cX2_sees.data.toList.drop 24 = dktX2_sees_1 := dk_seg dksX2_sees_0 24 rfl rfl
theorem dX2_sees_0 : decode cX2_sees 0 = .ok (.iconst 0, 1) := dk_3 (dk_at dksX2_sees_0 0 rfl rfl)
theorem dX2_sees_1 : decode cX2_sees 1 = .ok (.istore_n 2, 1) := dk_61 (dk_at dksX2_sees_0 1 rfl rfl)
theorem dX2_sees_2 : decode cX2_sees 2 = .ok (.iload_n 2, 1) := dk_28 (dk_at dksX2_sees_0 2 rfl rfl)
theorem dX2_sees_3 : decode cX2_sees 3 = .ok (.aload_n 1, 1) := dk_43 (dk_at dksX2_sees_0 3 rfl rfl)
theorem dX2_sees_4 : decode cX2_sees 4 = .ok (.getfield 49, 3) := dk_180 0 49 (dk_at dksX2_sees_0 4 rfl rfl)
theorem dX2_sees_7 : decode cX2_sees 7 = .ok (.invokevirtual 34, 3) := dk_182 0 34 (dk_at dksX2_sees_0 7 rfl rfl)
theorem dX2_sees_10 : decode cX2_sees 10 = .ok (.if_icmp .ge 29, 3) := dk_162 0 29 (dk_at dksX2_sees_0 10 rfl rfl)
theorem dX2_sees_13 : decode cX2_sees 13 = .ok (.aload_n 0, 1) := dk_42 (dk_at dksX2_sees_0 13 rfl rfl)
theorem dX2_sees_14 : decode cX2_sees 14 = .ok (.getfield 21, 3) := dk_180 0 21 (dk_at dksX2_sees_0 14 rfl rfl)
theorem dX2_sees_17 : decode cX2_sees 17 = .ok (.iload_n 2, 1) := dk_28 (dk_at dksX2_sees_0 17 rfl rfl)
theorem dX2_sees_18 : decode cX2_sees 18 = .ok (.dup2, 1) := dk_92 (dk_at dksX2_sees_0 18 rfl rfl)
theorem dX2_sees_19 : decode cX2_sees 19 = .ok (.iaload, 1) := dk_46 (dk_at dksX2_sees_0 19 rfl rfl)
theorem dX2_sees_20 : decode cX2_sees 20 = .ok (.aload_n 0, 1) := dk_42 (dk_at dksX2_sees_0 20 rfl rfl)
theorem dX2_sees_21 : decode cX2_sees 21 = .ok (.aload_n 1, 1) := dk_43 (dk_at dksX2_sees_0 21 rfl rfl)
theorem dX2_sees_22 : decode cX2_sees 22 = .ok (.aload_n 0, 1) := dk_42 (dk_at dksX2_sees_0 22 rfl rfl)
theorem dX2_sees_23 : decode cX2_sees 23 = .ok (.aload_n 1, 1) := dk_43 (dk_at dksX2_sees_0 23 rfl rfl)
theorem dX2_sees_24 : decode cX2_sees 24 = .ok (.iload_n 2, 1) := dk_28 (dk_at dksX2_sees_1 0 rfl rfl)
theorem dX2_sees_25 : decode cX2_sees 25 = .ok (.invokevirtual 70, 3) := dk_182 0 70 (dk_at dksX2_sees_1 1 rfl rfl)
theorem dX2_sees_28 : decode cX2_sees 28 = .ok (.invokevirtual 62, 3) := dk_182 0 62 (dk_at dksX2_sees_1 4 rfl rfl)
theorem dX2_sees_31 : decode cX2_sees 31 = .ok (.ior, 1) := dk_128 (dk_at dksX2_sees_1 7 rfl rfl)
theorem dX2_sees_32 : decode cX2_sees 32 = .ok (.iastore, 1) := dk_79 (dk_at dksX2_sees_1 8 rfl rfl)
theorem dX2_sees_33 : decode cX2_sees 33 = .ok (.iinc 2 1, 3) := dk_132 2 1 (dk_at dksX2_sees_1 9 rfl rfl)
theorem dX2_sees_36 : decode cX2_sees 36 = .ok (.goto (-34), 3) := dk_167 255 222 (dk_at dksX2_sees_1 12 rfl rfl)
theorem dX2_sees_39 : decode cX2_sees 39 = .ok (.return_, 1) := dk_177 (dk_at dksX2_sees_1 15 rfl rfl)
abbrev cX2_stallOf : ByteArray := prog_15_method_7_code
def yX2_stallOf : MethodName := ⟨RX2, "stallOf", "(LHalfFair$Fair;I)I"⟩
def dkwX2_stallOf_0 : List UInt8 := [43, 42, 180, 0, 18, 28, 46, 42, 180, 0, 24, 182, 0, 66, 172]
abbrev dktX2_stallOf_0 : List UInt8 := dkwX2_stallOf_0 ++ []
theorem dksX2_stallOf_0 : cX2_stallOf.data.toList.drop 0 = dktX2_stallOf_0 := by decide +kernel
theorem dX2_stallOf_0 : decode cX2_stallOf 0 = .ok (.aload_n 1, 1) := dk_43 (dk_at dksX2_stallOf_0 0 rfl rfl)
theorem dX2_stallOf_1 : decode cX2_stallOf 1 = .ok (.aload_n 0, 1) := dk_42 (dk_at dksX2_stallOf_0 1 rfl rfl)
theorem dX2_stallOf_2 : decode cX2_stallOf 2 = .ok (.getfield 18, 3) := dk_180 0 18 (dk_at dksX2_stallOf_0 2 rfl rfl)
theorem dX2_stallOf_5 : decode cX2_stallOf 5 = .ok (.iload_n 2, 1) := dk_28 (dk_at dksX2_stallOf_0 5 rfl rfl)
theorem dX2_stallOf_6 : decode cX2_stallOf 6 = .ok (.iaload, 1) := dk_46 (dk_at dksX2_stallOf_0 6 rfl rfl)
theorem dX2_stallOf_7 : decode cX2_stallOf 7 = .ok (.aload_n 0, 1) := dk_42 (dk_at dksX2_stallOf_0 7 rfl rfl)
theorem dX2_stallOf_8 : decode cX2_stallOf 8 = .ok (.getfield 24, 3) := dk_180 0 24 (dk_at dksX2_stallOf_0 8 rfl rfl)
theorem dX2_stallOf_11 : decode cX2_stallOf 11 = .ok (.invokevirtual 66, 3) := dk_182 0 66 (dk_at dksX2_stallOf_0 11 rfl rfl)
theorem dX2_stallOf_14 : decode cX2_stallOf 14 = .ok (.ireturn, 1) := dk_172 (dk_at dksX2_stallOf_0 14 rfl rfl)
abbrev cX2_halvesAt : ByteArray := prog_15_method_4_code
def yX2_halvesAt : MethodName := ⟨RX2, "halvesAt", "(LHalfFair$Fair;I)I"⟩
def dkwX2_halvesAt_1 : List UInt8 := [46, 28, 160, 0, 10, 4, 21, 4, 120, 167, 0, 4, 3, 128, 62, 132, 4, 1, 167, 255, 219, 29, 172]
abbrev dktX2_halvesAt_1 : List UInt8 := dkwX2_halvesAt_1 ++ []
def dkwX2_halvesAt_0 : List UInt8 := [3, 62, 3, 54, 4, 21, 4, 43, 180, 0, 28, 182, 0, 34, 162, 0, 31, 29, 42, 180, 0, 9, 21, 4]
abbrev dktX2_halvesAt_0 : List UInt8 := dkwX2_halvesAt_0 ++ dktX2_halvesAt_1
theorem dksX2_halvesAt_0 : cX2_halvesAt.data.toList.drop 0 = dktX2_halvesAt_0 := by decide +kernel
theorem dksX2_halvesAt_1 : cX2_halvesAt.data.toList.drop 24 = dktX2_halvesAt_1 := dk_seg dksX2_halvesAt_0 24 rfl rfl
theorem dX2_halvesAt_0 : decode cX2_halvesAt 0 = .ok (.iconst 0, 1) := dk_3 (dk_at dksX2_halvesAt_0 0 rfl rfl)
theorem dX2_halvesAt_1 : decode cX2_halvesAt 1 = .ok (.istore_n 3, 1) := dk_62 (dk_at dksX2_halvesAt_0 1 rfl rfl)
theorem dX2_halvesAt_2 : decode cX2_halvesAt 2 = .ok (.iconst 0, 1) := dk_3 (dk_at dksX2_halvesAt_0 2 rfl rfl)
theorem dX2_halvesAt_3 : decode cX2_halvesAt 3 = .ok (.istore 4, 2) := dk_54 4 (dk_at dksX2_halvesAt_0 3 rfl rfl)
theorem dX2_halvesAt_5 : decode cX2_halvesAt 5 = .ok (.iload 4, 2) := dk_21 4 (dk_at dksX2_halvesAt_0 5 rfl rfl)
theorem dX2_halvesAt_7 : decode cX2_halvesAt 7 = .ok (.aload_n 1, 1) := dk_43 (dk_at dksX2_halvesAt_0 7 rfl rfl)
theorem dX2_halvesAt_8 : decode cX2_halvesAt 8 = .ok (.getfield 28, 3) := dk_180 0 28 (dk_at dksX2_halvesAt_0 8 rfl rfl)
theorem dX2_halvesAt_11 : decode cX2_halvesAt 11 = .ok (.invokevirtual 34, 3) := dk_182 0 34 (dk_at dksX2_halvesAt_0 11 rfl rfl)
theorem dX2_halvesAt_14 : decode cX2_halvesAt 14 = .ok (.if_icmp .ge 31, 3) := dk_162 0 31 (dk_at dksX2_halvesAt_0 14 rfl rfl)
theorem dX2_halvesAt_17 : decode cX2_halvesAt 17 = .ok (.iload_n 3, 1) := dk_29 (dk_at dksX2_halvesAt_0 17 rfl rfl)
theorem dX2_halvesAt_18 : decode cX2_halvesAt 18 = .ok (.aload_n 0, 1) := dk_42 (dk_at dksX2_halvesAt_0 18 rfl rfl)
theorem dX2_halvesAt_19 : decode cX2_halvesAt 19 = .ok (.getfield 9, 3) := dk_180 0 9 (dk_at dksX2_halvesAt_0 19 rfl rfl)
theorem dX2_halvesAt_22 : decode cX2_halvesAt 22 = .ok (.iload 4, 2) := dk_21 4 (dk_at dksX2_halvesAt_0 22 rfl rfl)
theorem dX2_halvesAt_24 : decode cX2_halvesAt 24 = .ok (.iaload, 1) := dk_46 (dk_at dksX2_halvesAt_1 0 rfl rfl)
theorem dX2_halvesAt_25 : decode cX2_halvesAt 25 = .ok (.iload_n 2, 1) := dk_28 (dk_at dksX2_halvesAt_1 1 rfl rfl)
theorem dX2_halvesAt_26 : decode cX2_halvesAt 26 = .ok (.if_icmp .ne 10, 3) := dk_160 0 10 (dk_at dksX2_halvesAt_1 2 rfl rfl)
theorem dX2_halvesAt_29 : decode cX2_halvesAt 29 = .ok (.iconst 1, 1) := dk_4 (dk_at dksX2_halvesAt_1 5 rfl rfl)
theorem dX2_halvesAt_30 : decode cX2_halvesAt 30 = .ok (.iload 4, 2) := dk_21 4 (dk_at dksX2_halvesAt_1 6 rfl rfl)
theorem dX2_halvesAt_32 : decode cX2_halvesAt 32 = .ok (.ishl, 1) := dk_120 (dk_at dksX2_halvesAt_1 8 rfl rfl)
theorem dX2_halvesAt_33 : decode cX2_halvesAt 33 = .ok (.goto 4, 3) := dk_167 0 4 (dk_at dksX2_halvesAt_1 9 rfl rfl)
theorem dX2_halvesAt_36 : decode cX2_halvesAt 36 = .ok (.iconst 0, 1) := dk_3 (dk_at dksX2_halvesAt_1 12 rfl rfl)
theorem dX2_halvesAt_37 : decode cX2_halvesAt 37 = .ok (.ior, 1) := dk_128 (dk_at dksX2_halvesAt_1 13 rfl rfl)
theorem dX2_halvesAt_38 : decode cX2_halvesAt 38 = .ok (.istore_n 3, 1) := dk_62 (dk_at dksX2_halvesAt_1 14 rfl rfl)
theorem dX2_halvesAt_39 : decode cX2_halvesAt 39 = .ok (.iinc 4 1, 3) := dk_132 4 1 (dk_at dksX2_halvesAt_1 15 rfl rfl)
theorem dX2_halvesAt_42 : decode cX2_halvesAt 42 = .ok (.goto (-37), 3) := dk_167 255 219 (dk_at dksX2_halvesAt_1 18 rfl rfl)
theorem dX2_halvesAt_45 : decode cX2_halvesAt 45 = .ok (.iload_n 3, 1) := dk_29 (dk_at dksX2_halvesAt_1 21 rfl rfl)
theorem dX2_halvesAt_46 : decode cX2_halvesAt 46 = .ok (.ireturn, 1) := dk_172 (dk_at dksX2_halvesAt_1 22 rfl rfl)
abbrev cX2_halvesOf : ByteArray := prog_15_method_5_code
def yX2_halvesOf : MethodName := ⟨RX2, "halvesOf", "(LHalfFair$Fair;I)I"⟩
def dkwX2_halvesOf_0 : List UInt8 := [42, 43, 16, 100, 28, 96, 182, 0, 62, 172]
abbrev dktX2_halvesOf_0 : List UInt8 := dkwX2_halvesOf_0 ++ []
theorem dksX2_halvesOf_0 : cX2_halvesOf.data.toList.drop 0 = dktX2_halvesOf_0 := by decide +kernel
theorem dX2_halvesOf_0 : decode cX2_halvesOf 0 = .ok (.aload_n 0, 1) := dk_42 (dk_at dksX2_halvesOf_0 0 rfl rfl)
theorem dX2_halvesOf_1 : decode cX2_halvesOf 1 = .ok (.aload_n 1, 1) := dk_43 (dk_at dksX2_halvesOf_0 1 rfl rfl)
theorem dX2_halvesOf_2 : decode cX2_halvesOf 2 = .ok (.bipush 100, 2) := dk_16 100 (dk_at dksX2_halvesOf_0 2 rfl rfl)
theorem dX2_halvesOf_4 : decode cX2_halvesOf 4 = .ok (.iload_n 2, 1) := dk_28 (dk_at dksX2_halvesOf_0 4 rfl rfl)
theorem dX2_halvesOf_5 : decode cX2_halvesOf 5 = .ok (.iadd, 1) := dk_96 (dk_at dksX2_halvesOf_0 5 rfl rfl)
theorem dX2_halvesOf_6 : decode cX2_halvesOf 6 = .ok (.invokevirtual 62, 3) := dk_182 0 62 (dk_at dksX2_halvesOf_0 6 rfl rfl)
theorem dX2_halvesOf_9 : decode cX2_halvesOf 9 = .ok (.ireturn, 1) := dk_172 (dk_at dksX2_halvesOf_0 9 rfl rfl)
abbrev cX2_clubSaw : ByteArray := prog_15_method_9_code
def yX2_clubSaw : MethodName := ⟨RX2, "clubSaw", "(LHalfFair$Fair;I)I"⟩
def dkwX2_clubSaw_2 : List UInt8 := [167, 255, 213, 29, 172]
abbrev dktX2_clubSaw_2 : List UInt8 := dkwX2_clubSaw_2 ++ []
def dkwX2_clubSaw_1 : List UInt8 := [21, 4, 184, 0, 76, 153, 0, 13, 42, 180, 0, 21, 21, 4, 46, 167, 0, 4, 3, 128, 62, 132, 4, 1]
abbrev dktX2_clubSaw_1 : List UInt8 := dkwX2_clubSaw_1 ++ dktX2_clubSaw_2
def dkwX2_clubSaw_0 : List UInt8 := [3, 62, 3, 54, 4, 21, 4, 43, 180, 0, 49, 182, 0, 34, 162, 0, 37, 29, 43, 180, 0, 73, 28, 46]
abbrev dktX2_clubSaw_0 : List UInt8 := dkwX2_clubSaw_0 ++ dktX2_clubSaw_1
theorem dksX2_clubSaw_0 : cX2_clubSaw.data.toList.drop 0 = dktX2_clubSaw_0 := by decide +kernel
theorem dksX2_clubSaw_1 : cX2_clubSaw.data.toList.drop 24 = dktX2_clubSaw_1 := dk_seg dksX2_clubSaw_0 24 rfl rfl
theorem dksX2_clubSaw_2 : cX2_clubSaw.data.toList.drop 48 = dktX2_clubSaw_2 := dk_seg dksX2_clubSaw_1 24 rfl rfl
theorem dX2_clubSaw_0 : decode cX2_clubSaw 0 = .ok (.iconst 0, 1) := dk_3 (dk_at dksX2_clubSaw_0 0 rfl rfl)
theorem dX2_clubSaw_1 : decode cX2_clubSaw 1 = .ok (.istore_n 3, 1) := dk_62 (dk_at dksX2_clubSaw_0 1 rfl rfl)
theorem dX2_clubSaw_2 : decode cX2_clubSaw 2 = .ok (.iconst 0, 1) := dk_3 (dk_at dksX2_clubSaw_0 2 rfl rfl)
theorem dX2_clubSaw_3 : decode cX2_clubSaw 3 = .ok (.istore 4, 2) := dk_54 4 (dk_at dksX2_clubSaw_0 3 rfl rfl)
theorem dX2_clubSaw_5 : decode cX2_clubSaw 5 = .ok (.iload 4, 2) := dk_21 4 (dk_at dksX2_clubSaw_0 5 rfl rfl)
theorem dX2_clubSaw_7 : decode cX2_clubSaw 7 = .ok (.aload_n 1, 1) := dk_43 (dk_at dksX2_clubSaw_0 7 rfl rfl)
theorem dX2_clubSaw_8 : decode cX2_clubSaw 8 = .ok (.getfield 49, 3) := dk_180 0 49 (dk_at dksX2_clubSaw_0 8 rfl rfl)
theorem dX2_clubSaw_11 : decode cX2_clubSaw 11 = .ok (.invokevirtual 34, 3) := dk_182 0 34 (dk_at dksX2_clubSaw_0 11 rfl rfl)
theorem dX2_clubSaw_14 : decode cX2_clubSaw 14 = .ok (.if_icmp .ge 37, 3) := dk_162 0 37 (dk_at dksX2_clubSaw_0 14 rfl rfl)
theorem dX2_clubSaw_17 : decode cX2_clubSaw 17 = .ok (.iload_n 3, 1) := dk_29 (dk_at dksX2_clubSaw_0 17 rfl rfl)
theorem dX2_clubSaw_18 : decode cX2_clubSaw 18 = .ok (.aload_n 1, 1) := dk_43 (dk_at dksX2_clubSaw_0 18 rfl rfl)
theorem dX2_clubSaw_19 : decode cX2_clubSaw 19 = .ok (.getfield 73, 3) := dk_180 0 73 (dk_at dksX2_clubSaw_0 19 rfl rfl)
theorem dX2_clubSaw_22 : decode cX2_clubSaw 22 = .ok (.iload_n 2, 1) := dk_28 (dk_at dksX2_clubSaw_0 22 rfl rfl)
theorem dX2_clubSaw_23 : decode cX2_clubSaw 23 = .ok (.iaload, 1) := dk_46 (dk_at dksX2_clubSaw_0 23 rfl rfl)
theorem dX2_clubSaw_24 : decode cX2_clubSaw 24 = .ok (.iload 4, 2) := dk_21 4 (dk_at dksX2_clubSaw_1 0 rfl rfl)
theorem dX2_clubSaw_26 : decode cX2_clubSaw 26 = .ok (.invokestatic 76, 3) := dk_184 0 76 (dk_at dksX2_clubSaw_1 2 rfl rfl)
theorem dX2_clubSaw_29 : decode cX2_clubSaw 29 = .ok (.ifCond .eq 13, 3) := dk_153 0 13 (dk_at dksX2_clubSaw_1 5 rfl rfl)
theorem dX2_clubSaw_32 : decode cX2_clubSaw 32 = .ok (.aload_n 0, 1) := dk_42 (dk_at dksX2_clubSaw_1 8 rfl rfl)
theorem dX2_clubSaw_33 : decode cX2_clubSaw 33 = .ok (.getfield 21, 3) := dk_180 0 21 (dk_at dksX2_clubSaw_1 9 rfl rfl)
theorem dX2_clubSaw_36 : decode cX2_clubSaw 36 = .ok (.iload 4, 2) := dk_21 4 (dk_at dksX2_clubSaw_1 12 rfl rfl)
theorem dX2_clubSaw_38 : decode cX2_clubSaw 38 = .ok (.iaload, 1) := dk_46 (dk_at dksX2_clubSaw_1 14 rfl rfl)
theorem dX2_clubSaw_39 : decode cX2_clubSaw 39 = .ok (.goto 4, 3) := dk_167 0 4 (dk_at dksX2_clubSaw_1 15 rfl rfl)
theorem dX2_clubSaw_42 : decode cX2_clubSaw 42 = .ok (.iconst 0, 1) := dk_3 (dk_at dksX2_clubSaw_1 18 rfl rfl)
theorem dX2_clubSaw_43 : decode cX2_clubSaw 43 = .ok (.ior, 1) := dk_128 (dk_at dksX2_clubSaw_1 19 rfl rfl)
theorem dX2_clubSaw_44 : decode cX2_clubSaw 44 = .ok (.istore_n 3, 1) := dk_62 (dk_at dksX2_clubSaw_1 20 rfl rfl)
theorem dX2_clubSaw_45 : decode cX2_clubSaw 45 = .ok (.iinc 4 1, 3) := dk_132 4 1 (dk_at dksX2_clubSaw_1 21 rfl rfl)
theorem dX2_clubSaw_48 : decode cX2_clubSaw 48 = .ok (.goto (-43), 3) := dk_167 255 213 (dk_at dksX2_clubSaw_2 0 rfl rfl)
theorem dX2_clubSaw_51 : decode cX2_clubSaw 51 = .ok (.iload_n 3, 1) := dk_29 (dk_at dksX2_clubSaw_2 3 rfl rfl)
theorem dX2_clubSaw_52 : decode cX2_clubSaw 52 = .ok (.ireturn, 1) := dk_172 (dk_at dksX2_clubSaw_2 4 rfl rfl)
abbrev cX2_copyFrom : ByteArray := prog_15_method_2_code
def yX2_copyFrom : MethodName := ⟨RX2, "copyFrom", "(LHalfFair$State;)V"⟩
def dkwX2_copyFrom_3 : List UInt8 := [132, 2, 1, 167, 255, 212, 42, 43, 180, 0, 24, 181, 0, 24, 177]
abbrev dktX2_copyFrom_3 : List UInt8 := dkwX2_copyFrom_3 ++ []
def dkwX2_copyFrom_2 : List UInt8 := [180, 0, 18, 28, 43, 180, 0, 18, 28, 46, 79, 42, 180, 0, 21, 28, 43, 180, 0, 21, 28, 46, 79]
abbrev dktX2_copyFrom_2 : List UInt8 := dkwX2_copyFrom_2 ++ dktX2_copyFrom_3
def dkwX2_copyFrom_1 : List UInt8 := [167, 255, 235, 3, 61, 28, 7, 162, 0, 45, 42, 180, 0, 15, 28, 43, 180, 0, 15, 28, 46, 79, 42]
abbrev dktX2_copyFrom_1 : List UInt8 := dkwX2_copyFrom_1 ++ dktX2_copyFrom_2
def dkwX2_copyFrom_0 : List UInt8 := [3, 61, 28, 16, 12, 162, 0, 21, 42, 180, 0, 9, 28, 43, 180, 0, 9, 28, 46, 79, 132, 2, 1]
abbrev dktX2_copyFrom_0 : List UInt8 := dkwX2_copyFrom_0 ++ dktX2_copyFrom_1
theorem dksX2_copyFrom_0 : cX2_copyFrom.data.toList.drop 0 = dktX2_copyFrom_0 := by decide +kernel
theorem dksX2_copyFrom_1 : cX2_copyFrom.data.toList.drop 23 = dktX2_copyFrom_1 := dk_seg dksX2_copyFrom_0 23 rfl rfl
theorem dksX2_copyFrom_2 : cX2_copyFrom.data.toList.drop 46 = dktX2_copyFrom_2 := dk_seg dksX2_copyFrom_1 23 rfl rfl
theorem dksX2_copyFrom_3 : cX2_copyFrom.data.toList.drop 69 = dktX2_copyFrom_3 := dk_seg dksX2_copyFrom_2 23 rfl rfl
theorem dX2_copyFrom_0 : decode cX2_copyFrom 0 = .ok (.iconst 0, 1) := dk_3 (dk_at dksX2_copyFrom_0 0 rfl rfl)
theorem dX2_copyFrom_1 : decode cX2_copyFrom 1 = .ok (.istore_n 2, 1) := dk_61 (dk_at dksX2_copyFrom_0 1 rfl rfl)
theorem dX2_copyFrom_2 : decode cX2_copyFrom 2 = .ok (.iload_n 2, 1) := dk_28 (dk_at dksX2_copyFrom_0 2 rfl rfl)
theorem dX2_copyFrom_3 : decode cX2_copyFrom 3 = .ok (.bipush 12, 2) := dk_16 12 (dk_at dksX2_copyFrom_0 3 rfl rfl)
theorem dX2_copyFrom_5 : decode cX2_copyFrom 5 = .ok (.if_icmp .ge 21, 3) := dk_162 0 21 (dk_at dksX2_copyFrom_0 5 rfl rfl)
theorem dX2_copyFrom_8 : decode cX2_copyFrom 8 = .ok (.aload_n 0, 1) := dk_42 (dk_at dksX2_copyFrom_0 8 rfl rfl)
theorem dX2_copyFrom_9 : decode cX2_copyFrom 9 = .ok (.getfield 9, 3) := dk_180 0 9 (dk_at dksX2_copyFrom_0 9 rfl rfl)
theorem dX2_copyFrom_12 : decode cX2_copyFrom 12 = .ok (.iload_n 2, 1) := dk_28 (dk_at dksX2_copyFrom_0 12 rfl rfl)
theorem dX2_copyFrom_13 : decode cX2_copyFrom 13 = .ok (.aload_n 1, 1) := dk_43 (dk_at dksX2_copyFrom_0 13 rfl rfl)
theorem dX2_copyFrom_14 : decode cX2_copyFrom 14 = .ok (.getfield 9, 3) := dk_180 0 9 (dk_at dksX2_copyFrom_0 14 rfl rfl)
theorem dX2_copyFrom_17 : decode cX2_copyFrom 17 = .ok (.iload_n 2, 1) := dk_28 (dk_at dksX2_copyFrom_0 17 rfl rfl)
theorem dX2_copyFrom_18 : decode cX2_copyFrom 18 = .ok (.iaload, 1) := dk_46 (dk_at dksX2_copyFrom_0 18 rfl rfl)
theorem dX2_copyFrom_19 : decode cX2_copyFrom 19 = .ok (.iastore, 1) := dk_79 (dk_at dksX2_copyFrom_0 19 rfl rfl)
theorem dX2_copyFrom_20 : decode cX2_copyFrom 20 = .ok (.iinc 2 1, 3) := dk_132 2 1 (dk_at dksX2_copyFrom_0 20 rfl rfl)
theorem dX2_copyFrom_23 : decode cX2_copyFrom 23 = .ok (.goto (-21), 3) := dk_167 255 235 (dk_at dksX2_copyFrom_1 0 rfl rfl)
theorem dX2_copyFrom_26 : decode cX2_copyFrom 26 = .ok (.iconst 0, 1) := dk_3 (dk_at dksX2_copyFrom_1 3 rfl rfl)
theorem dX2_copyFrom_27 : decode cX2_copyFrom 27 = .ok (.istore_n 2, 1) := dk_61 (dk_at dksX2_copyFrom_1 4 rfl rfl)
theorem dX2_copyFrom_28 : decode cX2_copyFrom 28 = .ok (.iload_n 2, 1) := dk_28 (dk_at dksX2_copyFrom_1 5 rfl rfl)
theorem dX2_copyFrom_29 : decode cX2_copyFrom 29 = .ok (.iconst 4, 1) := dk_7 (dk_at dksX2_copyFrom_1 6 rfl rfl)
theorem dX2_copyFrom_30 : decode cX2_copyFrom 30 = .ok (.if_icmp .ge 45, 3) := dk_162 0 45 (dk_at dksX2_copyFrom_1 7 rfl rfl)
theorem dX2_copyFrom_33 : decode cX2_copyFrom 33 = .ok (.aload_n 0, 1) := dk_42 (dk_at dksX2_copyFrom_1 10 rfl rfl)
theorem dX2_copyFrom_34 : decode cX2_copyFrom 34 = .ok (.getfield 15, 3) := dk_180 0 15 (dk_at dksX2_copyFrom_1 11 rfl rfl)
theorem dX2_copyFrom_37 : decode cX2_copyFrom 37 = .ok (.iload_n 2, 1) := dk_28 (dk_at dksX2_copyFrom_1 14 rfl rfl)
theorem dX2_copyFrom_38 : decode cX2_copyFrom 38 = .ok (.aload_n 1, 1) := dk_43 (dk_at dksX2_copyFrom_1 15 rfl rfl)
theorem dX2_copyFrom_39 : decode cX2_copyFrom 39 = .ok (.getfield 15, 3) := dk_180 0 15 (dk_at dksX2_copyFrom_1 16 rfl rfl)
theorem dX2_copyFrom_42 : decode cX2_copyFrom 42 = .ok (.iload_n 2, 1) := dk_28 (dk_at dksX2_copyFrom_1 19 rfl rfl)
theorem dX2_copyFrom_43 : decode cX2_copyFrom 43 = .ok (.iaload, 1) := dk_46 (dk_at dksX2_copyFrom_1 20 rfl rfl)
theorem dX2_copyFrom_44 : decode cX2_copyFrom 44 = .ok (.iastore, 1) := dk_79 (dk_at dksX2_copyFrom_1 21 rfl rfl)
theorem dX2_copyFrom_45 : decode cX2_copyFrom 45 = .ok (.aload_n 0, 1) := dk_42 (dk_at dksX2_copyFrom_1 22 rfl rfl)
theorem dX2_copyFrom_46 : decode cX2_copyFrom 46 = .ok (.getfield 18, 3) := dk_180 0 18 (dk_at dksX2_copyFrom_2 0 rfl rfl)
theorem dX2_copyFrom_49 : decode cX2_copyFrom 49 = .ok (.iload_n 2, 1) := dk_28 (dk_at dksX2_copyFrom_2 3 rfl rfl)
theorem dX2_copyFrom_50 : decode cX2_copyFrom 50 = .ok (.aload_n 1, 1) := dk_43 (dk_at dksX2_copyFrom_2 4 rfl rfl)
theorem dX2_copyFrom_51 : decode cX2_copyFrom 51 = .ok (.getfield 18, 3) := dk_180 0 18 (dk_at dksX2_copyFrom_2 5 rfl rfl)
theorem dX2_copyFrom_54 : decode cX2_copyFrom 54 = .ok (.iload_n 2, 1) := dk_28 (dk_at dksX2_copyFrom_2 8 rfl rfl)
theorem dX2_copyFrom_55 : decode cX2_copyFrom 55 = .ok (.iaload, 1) := dk_46 (dk_at dksX2_copyFrom_2 9 rfl rfl)
theorem dX2_copyFrom_56 : decode cX2_copyFrom 56 = .ok (.iastore, 1) := dk_79 (dk_at dksX2_copyFrom_2 10 rfl rfl)
theorem dX2_copyFrom_57 : decode cX2_copyFrom 57 = .ok (.aload_n 0, 1) := dk_42 (dk_at dksX2_copyFrom_2 11 rfl rfl)
theorem dX2_copyFrom_58 : decode cX2_copyFrom 58 = .ok (.getfield 21, 3) := dk_180 0 21 (dk_at dksX2_copyFrom_2 12 rfl rfl)
theorem dX2_copyFrom_61 : decode cX2_copyFrom 61 = .ok (.iload_n 2, 1) := dk_28 (dk_at dksX2_copyFrom_2 15 rfl rfl)
theorem dX2_copyFrom_62 : decode cX2_copyFrom 62 = .ok (.aload_n 1, 1) := dk_43 (dk_at dksX2_copyFrom_2 16 rfl rfl)
theorem dX2_copyFrom_63 : decode cX2_copyFrom 63 = .ok (.getfield 21, 3) := dk_180 0 21 (dk_at dksX2_copyFrom_2 17 rfl rfl)
theorem dX2_copyFrom_66 : decode cX2_copyFrom 66 = .ok (.iload_n 2, 1) := dk_28 (dk_at dksX2_copyFrom_2 20 rfl rfl)
theorem dX2_copyFrom_67 : decode cX2_copyFrom 67 = .ok (.iaload, 1) := dk_46 (dk_at dksX2_copyFrom_2 21 rfl rfl)
theorem dX2_copyFrom_68 : decode cX2_copyFrom 68 = .ok (.iastore, 1) := dk_79 (dk_at dksX2_copyFrom_2 22 rfl rfl)
theorem dX2_copyFrom_69 : decode cX2_copyFrom 69 = .ok (.iinc 2 1, 3) := dk_132 2 1 (dk_at dksX2_copyFrom_3 0 rfl rfl)
theorem dX2_copyFrom_72 : decode cX2_copyFrom 72 = .ok (.goto (-44), 3) := dk_167 255 212 (dk_at dksX2_copyFrom_3 3 rfl rfl)
theorem dX2_copyFrom_75 : decode cX2_copyFrom 75 = .ok (.aload_n 0, 1) := dk_42 (dk_at dksX2_copyFrom_3 6 rfl rfl)
theorem dX2_copyFrom_76 : decode cX2_copyFrom 76 = .ok (.aload_n 1, 1) := dk_43 (dk_at dksX2_copyFrom_3 7 rfl rfl)
theorem dX2_copyFrom_77 : decode cX2_copyFrom 77 = .ok (.getfield 24, 3) := dk_180 0 24 (dk_at dksX2_copyFrom_3 8 rfl rfl)
theorem dX2_copyFrom_80 : decode cX2_copyFrom 80 = .ok (.putfield 24, 3) := dk_181 0 24 (dk_at dksX2_copyFrom_3 11 rfl rfl)
theorem dX2_copyFrom_83 : decode cX2_copyFrom 83 = .ok (.return_, 1) := dk_177 (dk_at dksX2_copyFrom_3 14 rfl rfl)
abbrev cX2_goes : ByteArray := prog_15_method_11_code
def yX2_goes : MethodName := ⟨RX2, "goes", "(LHalfFair$Fair;II)V"⟩
def dkwX2_goes_1 : List UInt8 := [177]
abbrev dktX2_goes_1 : List UInt8 := dkwX2_goes_1 ++ []
def dkwX2_goes_0 : List UInt8 := [42, 180, 0, 18, 28, 42, 180, 0, 18, 28, 46, 29, 96, 43, 180, 0, 87, 96, 43, 180, 0, 87, 112, 79]
abbrev dktX2_goes_0 : List UInt8 := dkwX2_goes_0 ++ dktX2_goes_1
theorem dksX2_goes_0 : cX2_goes.data.toList.drop 0 = dktX2_goes_0 := by decide +kernel
theorem dksX2_goes_1 : cX2_goes.data.toList.drop 24 = dktX2_goes_1 := dk_seg dksX2_goes_0 24 rfl rfl
theorem dX2_goes_0 : decode cX2_goes 0 = .ok (.aload_n 0, 1) := dk_42 (dk_at dksX2_goes_0 0 rfl rfl)
theorem dX2_goes_1 : decode cX2_goes 1 = .ok (.getfield 18, 3) := dk_180 0 18 (dk_at dksX2_goes_0 1 rfl rfl)
theorem dX2_goes_4 : decode cX2_goes 4 = .ok (.iload_n 2, 1) := dk_28 (dk_at dksX2_goes_0 4 rfl rfl)
theorem dX2_goes_5 : decode cX2_goes 5 = .ok (.aload_n 0, 1) := dk_42 (dk_at dksX2_goes_0 5 rfl rfl)
theorem dX2_goes_6 : decode cX2_goes 6 = .ok (.getfield 18, 3) := dk_180 0 18 (dk_at dksX2_goes_0 6 rfl rfl)
theorem dX2_goes_9 : decode cX2_goes 9 = .ok (.iload_n 2, 1) := dk_28 (dk_at dksX2_goes_0 9 rfl rfl)
theorem dX2_goes_10 : decode cX2_goes 10 = .ok (.iaload, 1) := dk_46 (dk_at dksX2_goes_0 10 rfl rfl)
theorem dX2_goes_11 : decode cX2_goes 11 = .ok (.iload_n 3, 1) := dk_29 (dk_at dksX2_goes_0 11 rfl rfl)
theorem dX2_goes_12 : decode cX2_goes 12 = .ok (.iadd, 1) := dk_96 (dk_at dksX2_goes_0 12 rfl rfl)
theorem dX2_goes_13 : decode cX2_goes 13 = .ok (.aload_n 1, 1) := dk_43 (dk_at dksX2_goes_0 13 rfl rfl)
theorem dX2_goes_14 : decode cX2_goes 14 = .ok (.getfield 87, 3) := dk_180 0 87 (dk_at dksX2_goes_0 14 rfl rfl)
theorem dX2_goes_17 : decode cX2_goes 17 = .ok (.iadd, 1) := dk_96 (dk_at dksX2_goes_0 17 rfl rfl)
theorem dX2_goes_18 : decode cX2_goes 18 = .ok (.aload_n 1, 1) := dk_43 (dk_at dksX2_goes_0 18 rfl rfl)
theorem dX2_goes_19 : decode cX2_goes 19 = .ok (.getfield 87, 3) := dk_180 0 87 (dk_at dksX2_goes_0 19 rfl rfl)
theorem dX2_goes_22 : decode cX2_goes 22 = .ok (.irem, 1) := dk_112 (dk_at dksX2_goes_0 22 rfl rfl)
theorem dX2_goes_23 : decode cX2_goes 23 = .ok (.iastore, 1) := dk_79 (dk_at dksX2_goes_0 23 rfl rfl)
theorem dX2_goes_24 : decode cX2_goes 24 = .ok (.return_, 1) := dk_177 (dk_at dksX2_goes_1 0 rfl rfl)
abbrev cX2_passes : ByteArray := prog_15_method_12_code
def yX2_passes : MethodName := ⟨RX2, "passes", "(LHalfFair$Fair;)V"⟩
def dkwX2_passes_0 : List UInt8 := [42, 89, 180, 0, 24, 4, 96, 181, 0, 24, 42, 43, 182, 0, 58, 177]
abbrev dktX2_passes_0 : List UInt8 := dkwX2_passes_0 ++ []
theorem dksX2_passes_0 : cX2_passes.data.toList.drop 0 = dktX2_passes_0 := by decide +kernel
theorem dX2_passes_0 : decode cX2_passes 0 = .ok (.aload_n 0, 1) := dk_42 (dk_at dksX2_passes_0 0 rfl rfl)
theorem dX2_passes_1 : decode cX2_passes 1 = .ok (.dup, 1) := dk_89 (dk_at dksX2_passes_0 1 rfl rfl)
theorem dX2_passes_2 : decode cX2_passes 2 = .ok (.getfield 24, 3) := dk_180 0 24 (dk_at dksX2_passes_0 2 rfl rfl)
theorem dX2_passes_5 : decode cX2_passes 5 = .ok (.iconst 1, 1) := dk_4 (dk_at dksX2_passes_0 5 rfl rfl)
theorem dX2_passes_6 : decode cX2_passes 6 = .ok (.iadd, 1) := dk_96 (dk_at dksX2_passes_0 6 rfl rfl)
theorem dX2_passes_7 : decode cX2_passes 7 = .ok (.putfield 24, 3) := dk_181 0 24 (dk_at dksX2_passes_0 7 rfl rfl)
theorem dX2_passes_10 : decode cX2_passes 10 = .ok (.aload_n 0, 1) := dk_42 (dk_at dksX2_passes_0 10 rfl rfl)
theorem dX2_passes_11 : decode cX2_passes 11 = .ok (.aload_n 1, 1) := dk_43 (dk_at dksX2_passes_0 11 rfl rfl)
theorem dX2_passes_12 : decode cX2_passes 12 = .ok (.invokevirtual 58, 3) := dk_182 0 58 (dk_at dksX2_passes_0 12 rfl rfl)
theorem dX2_passes_15 : decode cX2_passes 15 = .ok (.return_, 1) := dk_177 (dk_at dksX2_passes_0 15 rfl rfl)
abbrev cX2_canBuy : ByteArray := prog_15_method_13_code
def yX2_canBuy : MethodName := ⟨RX2, "canBuy", "(LHalfFair$Fair;II)Z"⟩
def dkwX2_canBuy_1 : List UInt8 := [180, 0, 24, 182, 0, 90, 161, 0, 7, 4, 167, 0, 4, 3, 172]
abbrev dktX2_canBuy_1 : List UInt8 := dkwX2_canBuy_1 ++ []
def dkwX2_canBuy_0 : List UInt8 := [42, 180, 0, 9, 29, 46, 42, 43, 28, 182, 0, 70, 160, 0, 25, 42, 180, 0, 15, 28, 46, 43, 29, 42]
abbrev dktX2_canBuy_0 : List UInt8 := dkwX2_canBuy_0 ++ dktX2_canBuy_1
theorem dksX2_canBuy_0 : cX2_canBuy.data.toList.drop 0 = dktX2_canBuy_0 := by decide +kernel
theorem dksX2_canBuy_1 : cX2_canBuy.data.toList.drop 24 = dktX2_canBuy_1 := dk_seg dksX2_canBuy_0 24 rfl rfl
theorem dX2_canBuy_0 : decode cX2_canBuy 0 = .ok (.aload_n 0, 1) := dk_42 (dk_at dksX2_canBuy_0 0 rfl rfl)
theorem dX2_canBuy_1 : decode cX2_canBuy 1 = .ok (.getfield 9, 3) := dk_180 0 9 (dk_at dksX2_canBuy_0 1 rfl rfl)
theorem dX2_canBuy_4 : decode cX2_canBuy 4 = .ok (.iload_n 3, 1) := dk_29 (dk_at dksX2_canBuy_0 4 rfl rfl)
theorem dX2_canBuy_5 : decode cX2_canBuy 5 = .ok (.iaload, 1) := dk_46 (dk_at dksX2_canBuy_0 5 rfl rfl)
theorem dX2_canBuy_6 : decode cX2_canBuy 6 = .ok (.aload_n 0, 1) := dk_42 (dk_at dksX2_canBuy_0 6 rfl rfl)
theorem dX2_canBuy_7 : decode cX2_canBuy 7 = .ok (.aload_n 1, 1) := dk_43 (dk_at dksX2_canBuy_0 7 rfl rfl)
theorem dX2_canBuy_8 : decode cX2_canBuy 8 = .ok (.iload_n 2, 1) := dk_28 (dk_at dksX2_canBuy_0 8 rfl rfl)
theorem dX2_canBuy_9 : decode cX2_canBuy 9 = .ok (.invokevirtual 70, 3) := dk_182 0 70 (dk_at dksX2_canBuy_0 9 rfl rfl)
theorem dX2_canBuy_12 : decode cX2_canBuy 12 = .ok (.if_icmp .ne 25, 3) := dk_160 0 25 (dk_at dksX2_canBuy_0 12 rfl rfl)
theorem dX2_canBuy_15 : decode cX2_canBuy 15 = .ok (.aload_n 0, 1) := dk_42 (dk_at dksX2_canBuy_0 15 rfl rfl)
theorem dX2_canBuy_16 : decode cX2_canBuy 16 = .ok (.getfield 15, 3) := dk_180 0 15 (dk_at dksX2_canBuy_0 16 rfl rfl)
theorem dX2_canBuy_19 : decode cX2_canBuy 19 = .ok (.iload_n 2, 1) := dk_28 (dk_at dksX2_canBuy_0 19 rfl rfl)
theorem dX2_canBuy_20 : decode cX2_canBuy 20 = .ok (.iaload, 1) := dk_46 (dk_at dksX2_canBuy_0 20 rfl rfl)
theorem dX2_canBuy_21 : decode cX2_canBuy 21 = .ok (.aload_n 1, 1) := dk_43 (dk_at dksX2_canBuy_0 21 rfl rfl)
theorem dX2_canBuy_22 : decode cX2_canBuy 22 = .ok (.iload_n 3, 1) := dk_29 (dk_at dksX2_canBuy_0 22 rfl rfl)
theorem dX2_canBuy_23 : decode cX2_canBuy 23 = .ok (.aload_n 0, 1) := dk_42 (dk_at dksX2_canBuy_0 23 rfl rfl)
theorem dX2_canBuy_24 : decode cX2_canBuy 24 = .ok (.getfield 24, 3) := dk_180 0 24 (dk_at dksX2_canBuy_1 0 rfl rfl)
theorem dX2_canBuy_27 : decode cX2_canBuy 27 = .ok (.invokevirtual 90, 3) := dk_182 0 90 (dk_at dksX2_canBuy_1 3 rfl rfl)
theorem dX2_canBuy_30 : decode cX2_canBuy 30 = .ok (.if_icmp .lt 7, 3) := dk_161 0 7 (dk_at dksX2_canBuy_1 6 rfl rfl)
theorem dX2_canBuy_33 : decode cX2_canBuy 33 = .ok (.iconst 1, 1) := dk_4 (dk_at dksX2_canBuy_1 9 rfl rfl)
theorem dX2_canBuy_34 : decode cX2_canBuy 34 = .ok (.goto 4, 3) := dk_167 0 4 (dk_at dksX2_canBuy_1 10 rfl rfl)
theorem dX2_canBuy_37 : decode cX2_canBuy 37 = .ok (.iconst 0, 1) := dk_3 (dk_at dksX2_canBuy_1 13 rfl rfl)
theorem dX2_canBuy_38 : decode cX2_canBuy 38 = .ok (.ireturn, 1) := dk_172 (dk_at dksX2_canBuy_1 14 rfl rfl)
abbrev cX2_buys : ByteArray := prog_15_method_14_code
def yX2_buys : MethodName := ⟨RX2, "buys", "(LHalfFair$Fair;II)V"⟩
def dkwX2_buys_1 : List UInt8 := [16, 100, 28, 96, 79, 177]
abbrev dktX2_buys_1 : List UInt8 := dkwX2_buys_1 ++ []
def dkwX2_buys_0 : List UInt8 := [42, 180, 0, 15, 28, 92, 46, 43, 29, 42, 180, 0, 24, 182, 0, 90, 100, 79, 42, 180, 0, 9, 29]
abbrev dktX2_buys_0 : List UInt8 := dkwX2_buys_0 ++ dktX2_buys_1
theorem dksX2_buys_0 : cX2_buys.data.toList.drop 0 = dktX2_buys_0 := by decide +kernel
theorem dksX2_buys_1 : cX2_buys.data.toList.drop 23 = dktX2_buys_1 := dk_seg dksX2_buys_0 23 rfl rfl
theorem dX2_buys_0 : decode cX2_buys 0 = .ok (.aload_n 0, 1) := dk_42 (dk_at dksX2_buys_0 0 rfl rfl)
theorem dX2_buys_1 : decode cX2_buys 1 = .ok (.getfield 15, 3) := dk_180 0 15 (dk_at dksX2_buys_0 1 rfl rfl)
theorem dX2_buys_4 : decode cX2_buys 4 = .ok (.iload_n 2, 1) := dk_28 (dk_at dksX2_buys_0 4 rfl rfl)
theorem dX2_buys_5 : decode cX2_buys 5 = .ok (.dup2, 1) := dk_92 (dk_at dksX2_buys_0 5 rfl rfl)
theorem dX2_buys_6 : decode cX2_buys 6 = .ok (.iaload, 1) := dk_46 (dk_at dksX2_buys_0 6 rfl rfl)
theorem dX2_buys_7 : decode cX2_buys 7 = .ok (.aload_n 1, 1) := dk_43 (dk_at dksX2_buys_0 7 rfl rfl)
theorem dX2_buys_8 : decode cX2_buys 8 = .ok (.iload_n 3, 1) := dk_29 (dk_at dksX2_buys_0 8 rfl rfl)
theorem dX2_buys_9 : decode cX2_buys 9 = .ok (.aload_n 0, 1) := dk_42 (dk_at dksX2_buys_0 9 rfl rfl)
theorem dX2_buys_10 : decode cX2_buys 10 = .ok (.getfield 24, 3) := dk_180 0 24 (dk_at dksX2_buys_0 10 rfl rfl)
theorem dX2_buys_13 : decode cX2_buys 13 = .ok (.invokevirtual 90, 3) := dk_182 0 90 (dk_at dksX2_buys_0 13 rfl rfl)
theorem dX2_buys_16 : decode cX2_buys 16 = .ok (.isub, 1) := dk_100 (dk_at dksX2_buys_0 16 rfl rfl)
theorem dX2_buys_17 : decode cX2_buys 17 = .ok (.iastore, 1) := dk_79 (dk_at dksX2_buys_0 17 rfl rfl)
theorem dX2_buys_18 : decode cX2_buys 18 = .ok (.aload_n 0, 1) := dk_42 (dk_at dksX2_buys_0 18 rfl rfl)
theorem dX2_buys_19 : decode cX2_buys 19 = .ok (.getfield 9, 3) := dk_180 0 9 (dk_at dksX2_buys_0 19 rfl rfl)
theorem dX2_buys_22 : decode cX2_buys 22 = .ok (.iload_n 3, 1) := dk_29 (dk_at dksX2_buys_0 22 rfl rfl)
theorem dX2_buys_23 : decode cX2_buys 23 = .ok (.bipush 100, 2) := dk_16 100 (dk_at dksX2_buys_1 0 rfl rfl)
theorem dX2_buys_25 : decode cX2_buys 25 = .ok (.iload_n 2, 1) := dk_28 (dk_at dksX2_buys_1 2 rfl rfl)
theorem dX2_buys_26 : decode cX2_buys 26 = .ok (.iadd, 1) := dk_96 (dk_at dksX2_buys_1 3 rfl rfl)
theorem dX2_buys_27 : decode cX2_buys 27 = .ok (.iastore, 1) := dk_79 (dk_at dksX2_buys_1 4 rfl rfl)
theorem dX2_buys_28 : decode cX2_buys 28 = .ok (.return_, 1) := dk_177 (dk_at dksX2_buys_1 5 rfl rfl)
abbrev cX2_atStalls : ByteArray := prog_15_method_6_code
def yX2_atStalls : MethodName := ⟨RX2, "atStalls", "(LHalfFair$Fair;)I"⟩
def dkwX2_atStalls_1 : List UInt8 := [162, 0, 9, 4, 29, 120, 167, 0, 4, 3, 128, 61, 132, 3, 1, 167, 255, 221, 28, 172]
abbrev dktX2_atStalls_1 : List UInt8 := dkwX2_atStalls_1 ++ []
def dkwX2_atStalls_0 : List UInt8 := [3, 61, 3, 62, 29, 43, 180, 0, 28, 182, 0, 34, 162, 0, 30, 28, 42, 180, 0, 9, 29, 46, 16, 100]
abbrev dktX2_atStalls_0 : List UInt8 := dkwX2_atStalls_0 ++ dktX2_atStalls_1
theorem dksX2_atStalls_0 : cX2_atStalls.data.toList.drop 0 = dktX2_atStalls_0 := by decide +kernel
theorem dksX2_atStalls_1 : cX2_atStalls.data.toList.drop 24 = dktX2_atStalls_1 := dk_seg dksX2_atStalls_0 24 rfl rfl
theorem dX2_atStalls_0 : decode cX2_atStalls 0 = .ok (.iconst 0, 1) := dk_3 (dk_at dksX2_atStalls_0 0 rfl rfl)
theorem dX2_atStalls_1 : decode cX2_atStalls 1 = .ok (.istore_n 2, 1) := dk_61 (dk_at dksX2_atStalls_0 1 rfl rfl)
theorem dX2_atStalls_2 : decode cX2_atStalls 2 = .ok (.iconst 0, 1) := dk_3 (dk_at dksX2_atStalls_0 2 rfl rfl)
theorem dX2_atStalls_3 : decode cX2_atStalls 3 = .ok (.istore_n 3, 1) := dk_62 (dk_at dksX2_atStalls_0 3 rfl rfl)
theorem dX2_atStalls_4 : decode cX2_atStalls 4 = .ok (.iload_n 3, 1) := dk_29 (dk_at dksX2_atStalls_0 4 rfl rfl)
theorem dX2_atStalls_5 : decode cX2_atStalls 5 = .ok (.aload_n 1, 1) := dk_43 (dk_at dksX2_atStalls_0 5 rfl rfl)
theorem dX2_atStalls_6 : decode cX2_atStalls 6 = .ok (.getfield 28, 3) := dk_180 0 28 (dk_at dksX2_atStalls_0 6 rfl rfl)
theorem dX2_atStalls_9 : decode cX2_atStalls 9 = .ok (.invokevirtual 34, 3) := dk_182 0 34 (dk_at dksX2_atStalls_0 9 rfl rfl)
theorem dX2_atStalls_12 : decode cX2_atStalls 12 = .ok (.if_icmp .ge 30, 3) := dk_162 0 30 (dk_at dksX2_atStalls_0 12 rfl rfl)
theorem dX2_atStalls_15 : decode cX2_atStalls 15 = .ok (.iload_n 2, 1) := dk_28 (dk_at dksX2_atStalls_0 15 rfl rfl)
theorem dX2_atStalls_16 : decode cX2_atStalls 16 = .ok (.aload_n 0, 1) := dk_42 (dk_at dksX2_atStalls_0 16 rfl rfl)
theorem dX2_atStalls_17 : decode cX2_atStalls 17 = .ok (.getfield 9, 3) := dk_180 0 9 (dk_at dksX2_atStalls_0 17 rfl rfl)
theorem dX2_atStalls_20 : decode cX2_atStalls 20 = .ok (.iload_n 3, 1) := dk_29 (dk_at dksX2_atStalls_0 20 rfl rfl)
theorem dX2_atStalls_21 : decode cX2_atStalls 21 = .ok (.iaload, 1) := dk_46 (dk_at dksX2_atStalls_0 21 rfl rfl)
theorem dX2_atStalls_22 : decode cX2_atStalls 22 = .ok (.bipush 100, 2) := dk_16 100 (dk_at dksX2_atStalls_0 22 rfl rfl)
theorem dX2_atStalls_24 : decode cX2_atStalls 24 = .ok (.if_icmp .ge 9, 3) := dk_162 0 9 (dk_at dksX2_atStalls_1 0 rfl rfl)
theorem dX2_atStalls_27 : decode cX2_atStalls 27 = .ok (.iconst 1, 1) := dk_4 (dk_at dksX2_atStalls_1 3 rfl rfl)
theorem dX2_atStalls_28 : decode cX2_atStalls 28 = .ok (.iload_n 3, 1) := dk_29 (dk_at dksX2_atStalls_1 4 rfl rfl)
theorem dX2_atStalls_29 : decode cX2_atStalls 29 = .ok (.ishl, 1) := dk_120 (dk_at dksX2_atStalls_1 5 rfl rfl)
theorem dX2_atStalls_30 : decode cX2_atStalls 30 = .ok (.goto 4, 3) := dk_167 0 4 (dk_at dksX2_atStalls_1 6 rfl rfl)
theorem dX2_atStalls_33 : decode cX2_atStalls 33 = .ok (.iconst 0, 1) := dk_3 (dk_at dksX2_atStalls_1 9 rfl rfl)
theorem dX2_atStalls_34 : decode cX2_atStalls 34 = .ok (.ior, 1) := dk_128 (dk_at dksX2_atStalls_1 10 rfl rfl)
theorem dX2_atStalls_35 : decode cX2_atStalls 35 = .ok (.istore_n 2, 1) := dk_61 (dk_at dksX2_atStalls_1 11 rfl rfl)
theorem dX2_atStalls_36 : decode cX2_atStalls 36 = .ok (.iinc 3 1, 3) := dk_132 3 1 (dk_at dksX2_atStalls_1 12 rfl rfl)
theorem dX2_atStalls_39 : decode cX2_atStalls 39 = .ok (.goto (-35), 3) := dk_167 255 221 (dk_at dksX2_atStalls_1 15 rfl rfl)
theorem dX2_atStalls_42 : decode cX2_atStalls 42 = .ok (.iload_n 2, 1) := dk_28 (dk_at dksX2_atStalls_1 18 rfl rfl)
theorem dX2_atStalls_43 : decode cX2_atStalls 43 = .ok (.ireturn, 1) := dk_172 (dk_at dksX2_atStalls_1 19 rfl rfl)
abbrev cX2_unseen : ByteArray := prog_15_method_10_code
def yX2_unseen : MethodName := ⟨RX2, "unseen", "(LHalfFair$Fair;I)I"⟩
def dkwX2_unseen_0 : List UInt8 := [42, 43, 182, 0, 80, 42, 43, 28, 182, 0, 84, 2, 130, 126, 172]
abbrev dktX2_unseen_0 : List UInt8 := dkwX2_unseen_0 ++ []
theorem dksX2_unseen_0 : cX2_unseen.data.toList.drop 0 = dktX2_unseen_0 := by decide +kernel
theorem dX2_unseen_0 : decode cX2_unseen 0 = .ok (.aload_n 0, 1) := dk_42 (dk_at dksX2_unseen_0 0 rfl rfl)
theorem dX2_unseen_1 : decode cX2_unseen 1 = .ok (.aload_n 1, 1) := dk_43 (dk_at dksX2_unseen_0 1 rfl rfl)
theorem dX2_unseen_2 : decode cX2_unseen 2 = .ok (.invokevirtual 80, 3) := dk_182 0 80 (dk_at dksX2_unseen_0 2 rfl rfl)
theorem dX2_unseen_5 : decode cX2_unseen 5 = .ok (.aload_n 0, 1) := dk_42 (dk_at dksX2_unseen_0 5 rfl rfl)
theorem dX2_unseen_6 : decode cX2_unseen 6 = .ok (.aload_n 1, 1) := dk_43 (dk_at dksX2_unseen_0 6 rfl rfl)
theorem dX2_unseen_7 : decode cX2_unseen 7 = .ok (.iload_n 2, 1) := dk_28 (dk_at dksX2_unseen_0 7 rfl rfl)
theorem dX2_unseen_8 : decode cX2_unseen 8 = .ok (.invokevirtual 84, 3) := dk_182 0 84 (dk_at dksX2_unseen_0 8 rfl rfl)
theorem dX2_unseen_11 : decode cX2_unseen 11 = .ok (.iconst (-1), 1) := dk_2 (dk_at dksX2_unseen_0 11 rfl rfl)
theorem dX2_unseen_12 : decode cX2_unseen 12 = .ok (.ixor, 1) := dk_130 (dk_at dksX2_unseen_0 12 rfl rfl)
theorem dX2_unseen_13 : decode cX2_unseen 13 = .ok (.iand, 1) := dk_126 (dk_at dksX2_unseen_0 13 rfl rfl)
theorem dX2_unseen_14 : decode cX2_unseen 14 = .ok (.ireturn, 1) := dk_172 (dk_at dksX2_unseen_0 14 rfl rfl)
theorem q158 : (Jvm.Cond.initialized "HalfFair$State") ∈ lw_all := lw_g (lw_at lw_m1 6 rfl) rfl
theorem q231 : (Jvm.Cond.fieldLinkNest "HalfFair$State" (28 : Nat) "HalfFair$Fair" "halves" "Ljava/util/ArrayList;" "HalfFair") ∈ lw_tbl := lw_at lw_m1 79 rfl
theorem q235 : (Jvm.Cond.fieldLinkNest "HalfFair$State" (49 : Nat) "HalfFair$Fair" "buyers" "Ljava/util/ArrayList;" "HalfFair") ∈ lw_tbl := lw_at lw_m1 83 rfl
theorem q239 : (Jvm.Cond.fieldLinkNest "HalfFair$State" (73 : Nat) "HalfFair$Fair" "club" "[I" "HalfFair") ∈ lw_tbl := lw_at lw_m1 87 rfl
theorem q243 : (Jvm.Cond.fieldLinkNest "HalfFair$State" (87 : Nat) "HalfFair$Fair" "stalls" "I" "HalfFair") ∈ lw_tbl := lw_at lw_m1 91 rfl
theorem q291 : (Jvm.Cond.instantiable "HalfFair$State" (5 : Nat)) ∈ lw_all := lw_g (lw_at lw_m1 139 rfl) rfl
theorem q293 : (Jvm.Cond.instanceMethod ({ cls := "HalfFair$State", name := "<init>", desc := "()V" } : Jvm.MethodName)) ∈ lw_all := lw_g (lw_at lw_m1 141 rfl) rfl
theorem q294 : (Jvm.Cond.code ({ cls := "HalfFair$State", name := "<init>", desc := "()V" } : Jvm.MethodName) prog_15_method_1_code (1 : Nat) (Option.none : Option Jvm.ClassFile.FieldType)) ∈ lw_all := lw_g (lw_at lw_m1 142 rfl) rfl
theorem q295 : (Jvm.Cond.methodLink "HalfFair$State" (3 : Nat) ({ cls := "java/lang/Object", name := "<init>", desc := "()V" } : Jvm.MethodName)) ∈ lw_all := lw_g (lw_at lw_m1 143 rfl) rfl
theorem q296 : (Jvm.Cond.fieldLink "HalfFair$State" (9 : Nat) "HalfFair$State" "where" "[I") ∈ lw_all := lw_g (lw_at lw_m1 144 rfl) rfl
theorem q298 : (Jvm.Cond.fieldLink "HalfFair$State" (15 : Nat) "HalfFair$State" "purse" "[I") ∈ lw_all := lw_g (lw_at lw_m1 146 rfl) rfl
theorem q300 : (Jvm.Cond.fieldLink "HalfFair$State" (18 : Nat) "HalfFair$State" "spot" "[I") ∈ lw_all := lw_g (lw_at lw_m1 148 rfl) rfl
theorem q302 : (Jvm.Cond.fieldLink "HalfFair$State" (21 : Nat) "HalfFair$State" "saw" "[I") ∈ lw_all := lw_g (lw_at lw_m1 150 rfl) rfl
theorem q304 : (Jvm.Cond.fieldLink "HalfFair$State" (24 : Nat) "HalfFair$State" "now" "I") ∈ lw_all := lw_g (lw_at lw_m1 152 rfl) rfl
theorem q306 : (Jvm.Cond.laysFinal "HalfFair$State" "HalfFair$State" "where" "[I") ∈ lw_all := lw_g (lw_at lw_m1 154 rfl) rfl
theorem q307 : (Jvm.Cond.soleField "HalfFair$State" "where") ∈ lw_all := lw_g (lw_at lw_m1 155 rfl) rfl
theorem q308 : (Jvm.Cond.laysFinal "HalfFair$State" "HalfFair$State" "purse" "[I") ∈ lw_all := lw_g (lw_at lw_m1 156 rfl) rfl
theorem q309 : (Jvm.Cond.soleField "HalfFair$State" "purse") ∈ lw_all := lw_g (lw_at lw_m1 157 rfl) rfl
theorem q310 : (Jvm.Cond.laysFinal "HalfFair$State" "HalfFair$State" "spot" "[I") ∈ lw_all := lw_g (lw_at lw_m1 158 rfl) rfl
theorem q311 : (Jvm.Cond.soleField "HalfFair$State" "spot") ∈ lw_all := lw_g (lw_at lw_m1 159 rfl) rfl
theorem q312 : (Jvm.Cond.laysFinal "HalfFair$State" "HalfFair$State" "saw" "[I") ∈ lw_all := lw_g (lw_at lw_m1 160 rfl) rfl
theorem q313 : (Jvm.Cond.soleField "HalfFair$State" "saw") ∈ lw_all := lw_g (lw_at lw_m1 161 rfl) rfl
theorem q314 : (Jvm.Cond.lays "HalfFair$State" "HalfFair$State" "now" "I") ∈ lw_all := lw_g (lw_at lw_m1 162 rfl) rfl
theorem q315 : (Jvm.Cond.soleField "HalfFair$State" "now") ∈ lw_all := lw_g (lw_at lw_m1 163 rfl) rfl
theorem q316 : (Jvm.Cond.superclass "HalfFair$State" "java/lang/Object") ∈ lw_all := lw_g (lw_at lw_m1 164 rfl) rfl
theorem q631 : (Jvm.Cond.fieldLinkNest "HalfFair$State" (46 : Nat) "HalfFair$Half" "stall" "I" "HalfFair") ∈ lw_tbl := lw_at lw_m2 239 rfl
theorem q697 : (Jvm.Cond.selects "HalfFair$State" ({ cls := "java/lang/Object", name := "getClass", desc := "()Ljava/lang/Class;" } : Jvm.MethodName) ({ cls := "java/lang/Object", name := "getClass", desc := "()Ljava/lang/Class;" } : Jvm.MethodName)) ∈ lw_all := lw_g (lw_at lw_m3 65 rfl) rfl
theorem q724 : (Jvm.Cond.fieldLinkNest "HalfFair$State" (54 : Nat) "HalfFair$Buyer" "purse" "I" "HalfFair") ∈ lw_tbl := lw_at lw_m3 92 rfl
theorem q726 : (Jvm.Cond.fieldLinkNest "HalfFair$State" (56 : Nat) "HalfFair$Buyer" "spot" "I" "HalfFair") ∈ lw_tbl := lw_at lw_m3 94 rfl
theorem q760 : (Jvm.Cond.instanceMethod ({ cls := "HalfFair$State", name := "begin", desc := "(LHalfFair$Fair;)V" } : Jvm.MethodName)) ∈ lw_all := lw_g (lw_at lw_m3 128 rfl) rfl
theorem q761 : (Jvm.Cond.selects "HalfFair$State" ({ cls := "HalfFair$State", name := "begin", desc := "(LHalfFair$Fair;)V" } : Jvm.MethodName) ({ cls := "HalfFair$State", name := "begin", desc := "(LHalfFair$Fair;)V" } : Jvm.MethodName)) ∈ lw_all := lw_g (lw_at lw_m3 129 rfl) rfl
theorem q762 : (Jvm.Cond.code ({ cls := "HalfFair$State", name := "begin", desc := "(LHalfFair$Fair;)V" } : Jvm.MethodName) prog_15_method_3_code (3 : Nat) (Option.none : Option Jvm.ClassFile.FieldType)) ∈ lw_all := lw_g (lw_at lw_m3 130 rfl) rfl
theorem q763 : (Jvm.Cond.methodLink "HalfFair$State" (34 : Nat) ({ cls := "java/util/ArrayList", name := "size", desc := "()I" } : Jvm.MethodName)) ∈ lw_all := lw_g (lw_at lw_m3 131 rfl) rfl
theorem q764 : (Jvm.Cond.methodLink "HalfFair$State" (40 : Nat) ({ cls := "java/util/ArrayList", name := "get", desc := "(I)Ljava/lang/Object;" } : Jvm.MethodName)) ∈ lw_all := lw_g (lw_at lw_m3 132 rfl) rfl
theorem q776 : (Jvm.Cond.classLink "HalfFair$State" (44 : Nat) "HalfFair$Half") ∈ lw_all := lw_g (lw_at lw_m3 144 rfl) rfl
theorem q777 : (Jvm.Cond.classLink "HalfFair$State" (52 : Nat) "HalfFair$Buyer") ∈ lw_all := lw_g (lw_at lw_m3 145 rfl) rfl
theorem q778 : (Jvm.Cond.methodLink "HalfFair$State" (58 : Nat) ({ cls := "HalfFair$State", name := "sees", desc := "(LHalfFair$Fair;)V" } : Jvm.MethodName)) ∈ lw_all := lw_g (lw_at lw_m3 146 rfl) rfl
theorem q779 : (Jvm.Cond.instanceMethod ({ cls := "HalfFair$State", name := "sees", desc := "(LHalfFair$Fair;)V" } : Jvm.MethodName)) ∈ lw_all := lw_g (lw_at lw_m3 147 rfl) rfl
theorem q780 : (Jvm.Cond.selects "HalfFair$State" ({ cls := "HalfFair$State", name := "sees", desc := "(LHalfFair$Fair;)V" } : Jvm.MethodName) ({ cls := "HalfFair$State", name := "sees", desc := "(LHalfFair$Fair;)V" } : Jvm.MethodName)) ∈ lw_all := lw_g (lw_at lw_m3 148 rfl) rfl
theorem q781 : (Jvm.Cond.code ({ cls := "HalfFair$State", name := "sees", desc := "(LHalfFair$Fair;)V" } : Jvm.MethodName) prog_15_method_8_code (3 : Nat) (Option.none : Option Jvm.ClassFile.FieldType)) ∈ lw_all := lw_g (lw_at lw_m3 149 rfl) rfl
theorem q782 : (Jvm.Cond.methodLink "HalfFair$State" (70 : Nat) ({ cls := "HalfFair$State", name := "stallOf", desc := "(LHalfFair$Fair;I)I" } : Jvm.MethodName)) ∈ lw_all := lw_g (lw_at lw_m3 150 rfl) rfl
theorem q783 : (Jvm.Cond.instanceMethod ({ cls := "HalfFair$State", name := "stallOf", desc := "(LHalfFair$Fair;I)I" } : Jvm.MethodName)) ∈ lw_all := lw_g (lw_at lw_m3 151 rfl) rfl
theorem q784 : (Jvm.Cond.selects "HalfFair$State" ({ cls := "HalfFair$State", name := "stallOf", desc := "(LHalfFair$Fair;I)I" } : Jvm.MethodName) ({ cls := "HalfFair$State", name := "stallOf", desc := "(LHalfFair$Fair;I)I" } : Jvm.MethodName)) ∈ lw_all := lw_g (lw_at lw_m3 152 rfl) rfl
theorem q785 : (Jvm.Cond.code ({ cls := "HalfFair$State", name := "stallOf", desc := "(LHalfFair$Fair;I)I" } : Jvm.MethodName) prog_15_method_7_code (3 : Nat) (Option.some Jvm.ClassFile.FieldType.int)) ∈ lw_all := lw_g (lw_at lw_m3 153 rfl) rfl
theorem q786 : (Jvm.Cond.methodLink "HalfFair$State" (66 : Nat) ({ cls := "HalfFair$Fair", name := "stallAt", desc := "(II)I" } : Jvm.MethodName)) ∈ lw_all := lw_g (lw_at lw_m3 154 rfl) rfl
theorem q794 : (Jvm.Cond.methodLink "HalfFair$State" (62 : Nat) ({ cls := "HalfFair$State", name := "halvesAt", desc := "(LHalfFair$Fair;I)I" } : Jvm.MethodName)) ∈ lw_all := lw_g (lw_at lw_m3 162 rfl) rfl
theorem q795 : (Jvm.Cond.instanceMethod ({ cls := "HalfFair$State", name := "halvesAt", desc := "(LHalfFair$Fair;I)I" } : Jvm.MethodName)) ∈ lw_all := lw_g (lw_at lw_m3 163 rfl) rfl
theorem q796 : (Jvm.Cond.selects "HalfFair$State" ({ cls := "HalfFair$State", name := "halvesAt", desc := "(LHalfFair$Fair;I)I" } : Jvm.MethodName) ({ cls := "HalfFair$State", name := "halvesAt", desc := "(LHalfFair$Fair;I)I" } : Jvm.MethodName)) ∈ lw_all := lw_g (lw_at lw_m3 164 rfl) rfl
theorem q797 : (Jvm.Cond.code ({ cls := "HalfFair$State", name := "halvesAt", desc := "(LHalfFair$Fair;I)I" } : Jvm.MethodName) prog_15_method_4_code (5 : Nat) (Option.some Jvm.ClassFile.FieldType.int)) ∈ lw_all := lw_g (lw_at lw_m3 165 rfl) rfl
theorem q1029 : (Jvm.Cond.instanceMethod ({ cls := "HalfFair$State", name := "halvesOf", desc := "(LHalfFair$Fair;I)I" } : Jvm.MethodName)) ∈ lw_all := lw_g (lw_at lw_m4 157 rfl) rfl
theorem q1030 : (Jvm.Cond.selects "HalfFair$State" ({ cls := "HalfFair$State", name := "halvesOf", desc := "(LHalfFair$Fair;I)I" } : Jvm.MethodName) ({ cls := "HalfFair$State", name := "halvesOf", desc := "(LHalfFair$Fair;I)I" } : Jvm.MethodName)) ∈ lw_all := lw_g (lw_at lw_m4 158 rfl) rfl
theorem q1031 : (Jvm.Cond.code ({ cls := "HalfFair$State", name := "halvesOf", desc := "(LHalfFair$Fair;I)I" } : Jvm.MethodName) prog_15_method_5_code (3 : Nat) (Option.some Jvm.ClassFile.FieldType.int)) ∈ lw_all := lw_g (lw_at lw_m4 159 rfl) rfl
theorem q1033 : (Jvm.Cond.instanceMethod ({ cls := "HalfFair$State", name := "clubSaw", desc := "(LHalfFair$Fair;I)I" } : Jvm.MethodName)) ∈ lw_all := lw_g (lw_at lw_m4 161 rfl) rfl
theorem q1034 : (Jvm.Cond.selects "HalfFair$State" ({ cls := "HalfFair$State", name := "clubSaw", desc := "(LHalfFair$Fair;I)I" } : Jvm.MethodName) ({ cls := "HalfFair$State", name := "clubSaw", desc := "(LHalfFair$Fair;I)I" } : Jvm.MethodName)) ∈ lw_all := lw_g (lw_at lw_m4 162 rfl) rfl
theorem q1035 : (Jvm.Cond.code ({ cls := "HalfFair$State", name := "clubSaw", desc := "(LHalfFair$Fair;I)I" } : Jvm.MethodName) prog_15_method_9_code (5 : Nat) (Option.some Jvm.ClassFile.FieldType.int)) ∈ lw_all := lw_g (lw_at lw_m4 163 rfl) rfl
theorem q1036 : (Jvm.Cond.methodLinkNest "HalfFair$State" (76 : Nat) ({ cls := "HalfFair", name := "has", desc := "(II)Z" } : Jvm.MethodName) "HalfFair") ∈ lw_tbl := lw_at lw_m4 164 rfl
theorem q1088 : (Jvm.Cond.instanceMethod ({ cls := "HalfFair$State", name := "copyFrom", desc := "(LHalfFair$State;)V" } : Jvm.MethodName)) ∈ lw_all := lw_g (lw_at lw_m4 216 rfl) rfl
theorem q1089 : (Jvm.Cond.selects "HalfFair$State" ({ cls := "HalfFair$State", name := "copyFrom", desc := "(LHalfFair$State;)V" } : Jvm.MethodName) ({ cls := "HalfFair$State", name := "copyFrom", desc := "(LHalfFair$State;)V" } : Jvm.MethodName)) ∈ lw_all := lw_g (lw_at lw_m4 217 rfl) rfl
theorem q1090 : (Jvm.Cond.code ({ cls := "HalfFair$State", name := "copyFrom", desc := "(LHalfFair$State;)V" } : Jvm.MethodName) prog_15_method_2_code (3 : Nat) (Option.none : Option Jvm.ClassFile.FieldType)) ∈ lw_all := lw_g (lw_at lw_m4 218 rfl) rfl
theorem q1102 : (Jvm.Cond.instanceMethod ({ cls := "HalfFair$State", name := "goes", desc := "(LHalfFair$Fair;II)V" } : Jvm.MethodName)) ∈ lw_all := lw_g (lw_at lw_m4 230 rfl) rfl
theorem q1103 : (Jvm.Cond.selects "HalfFair$State" ({ cls := "HalfFair$State", name := "goes", desc := "(LHalfFair$Fair;II)V" } : Jvm.MethodName) ({ cls := "HalfFair$State", name := "goes", desc := "(LHalfFair$Fair;II)V" } : Jvm.MethodName)) ∈ lw_all := lw_g (lw_at lw_m4 231 rfl) rfl
theorem q1104 : (Jvm.Cond.code ({ cls := "HalfFair$State", name := "goes", desc := "(LHalfFair$Fair;II)V" } : Jvm.MethodName) prog_15_method_11_code (4 : Nat) (Option.none : Option Jvm.ClassFile.FieldType)) ∈ lw_all := lw_g (lw_at lw_m4 232 rfl) rfl
theorem q1106 : (Jvm.Cond.instanceMethod ({ cls := "HalfFair$State", name := "passes", desc := "(LHalfFair$Fair;)V" } : Jvm.MethodName)) ∈ lw_all := lw_g (lw_at lw_m4 234 rfl) rfl
theorem q1107 : (Jvm.Cond.selects "HalfFair$State" ({ cls := "HalfFair$State", name := "passes", desc := "(LHalfFair$Fair;)V" } : Jvm.MethodName) ({ cls := "HalfFair$State", name := "passes", desc := "(LHalfFair$Fair;)V" } : Jvm.MethodName)) ∈ lw_all := lw_g (lw_at lw_m4 235 rfl) rfl
theorem q1108 : (Jvm.Cond.code ({ cls := "HalfFair$State", name := "passes", desc := "(LHalfFair$Fair;)V" } : Jvm.MethodName) prog_15_method_12_code (2 : Nat) (Option.none : Option Jvm.ClassFile.FieldType)) ∈ lw_all := lw_g (lw_at lw_m4 236 rfl) rfl
theorem q1114 : (Jvm.Cond.instanceMethod ({ cls := "HalfFair$State", name := "canBuy", desc := "(LHalfFair$Fair;II)Z" } : Jvm.MethodName)) ∈ lw_all := lw_g (lw_at lw_m5 2 rfl) rfl
theorem q1115 : (Jvm.Cond.selects "HalfFair$State" ({ cls := "HalfFair$State", name := "canBuy", desc := "(LHalfFair$Fair;II)Z" } : Jvm.MethodName) ({ cls := "HalfFair$State", name := "canBuy", desc := "(LHalfFair$Fair;II)Z" } : Jvm.MethodName)) ∈ lw_all := lw_g (lw_at lw_m5 3 rfl) rfl
theorem q1116 : (Jvm.Cond.code ({ cls := "HalfFair$State", name := "canBuy", desc := "(LHalfFair$Fair;II)Z" } : Jvm.MethodName) prog_15_method_13_code (4 : Nat) (Option.some Jvm.ClassFile.FieldType.boolean)) ∈ lw_all := lw_g (lw_at lw_m5 4 rfl) rfl
theorem q1117 : (Jvm.Cond.methodLink "HalfFair$State" (90 : Nat) ({ cls := "HalfFair$Fair", name := "priceAt", desc := "(II)I" } : Jvm.MethodName)) ∈ lw_all := lw_g (lw_at lw_m5 5 rfl) rfl
theorem q1119 : (Jvm.Cond.instanceMethod ({ cls := "HalfFair$State", name := "buys", desc := "(LHalfFair$Fair;II)V" } : Jvm.MethodName)) ∈ lw_all := lw_g (lw_at lw_m5 7 rfl) rfl
theorem q1120 : (Jvm.Cond.selects "HalfFair$State" ({ cls := "HalfFair$State", name := "buys", desc := "(LHalfFair$Fair;II)V" } : Jvm.MethodName) ({ cls := "HalfFair$State", name := "buys", desc := "(LHalfFair$Fair;II)V" } : Jvm.MethodName)) ∈ lw_all := lw_g (lw_at lw_m5 8 rfl) rfl
theorem q1121 : (Jvm.Cond.code ({ cls := "HalfFair$State", name := "buys", desc := "(LHalfFair$Fair;II)V" } : Jvm.MethodName) prog_15_method_14_code (4 : Nat) (Option.none : Option Jvm.ClassFile.FieldType)) ∈ lw_all := lw_g (lw_at lw_m5 9 rfl) rfl
theorem q1195 : (Jvm.Cond.instanceMethod ({ cls := "HalfFair$State", name := "atStalls", desc := "(LHalfFair$Fair;)I" } : Jvm.MethodName)) ∈ lw_all := lw_g (lw_at lw_m5 83 rfl) rfl
theorem q1196 : (Jvm.Cond.selects "HalfFair$State" ({ cls := "HalfFair$State", name := "atStalls", desc := "(LHalfFair$Fair;)I" } : Jvm.MethodName) ({ cls := "HalfFair$State", name := "atStalls", desc := "(LHalfFair$Fair;)I" } : Jvm.MethodName)) ∈ lw_all := lw_g (lw_at lw_m5 84 rfl) rfl
theorem q1197 : (Jvm.Cond.code ({ cls := "HalfFair$State", name := "atStalls", desc := "(LHalfFair$Fair;)I" } : Jvm.MethodName) prog_15_method_6_code (4 : Nat) (Option.some Jvm.ClassFile.FieldType.int)) ∈ lw_all := lw_g (lw_at lw_m5 85 rfl) rfl
theorem q1273 : (Jvm.Cond.instanceMethod ({ cls := "HalfFair$State", name := "unseen", desc := "(LHalfFair$Fair;I)I" } : Jvm.MethodName)) ∈ lw_all := lw_g (lw_at lw_m5 161 rfl) rfl
theorem q1274 : (Jvm.Cond.selects "HalfFair$State" ({ cls := "HalfFair$State", name := "unseen", desc := "(LHalfFair$Fair;I)I" } : Jvm.MethodName) ({ cls := "HalfFair$State", name := "unseen", desc := "(LHalfFair$Fair;I)I" } : Jvm.MethodName)) ∈ lw_all := lw_g (lw_at lw_m5 162 rfl) rfl
theorem q1275 : (Jvm.Cond.code ({ cls := "HalfFair$State", name := "unseen", desc := "(LHalfFair$Fair;I)I" } : Jvm.MethodName) prog_15_method_10_code (3 : Nat) (Option.some Jvm.ClassFile.FieldType.int)) ∈ lw_all := lw_g (lw_at lw_m5 163 rfl) rfl
theorem q1276 : (Jvm.Cond.methodLink "HalfFair$State" (80 : Nat) ({ cls := "HalfFair$State", name := "atStalls", desc := "(LHalfFair$Fair;)I" } : Jvm.MethodName)) ∈ lw_all := lw_g (lw_at lw_m5 164 rfl) rfl
theorem q1277 : (Jvm.Cond.methodLink "HalfFair$State" (84 : Nat) ({ cls := "HalfFair$State", name := "clubSaw", desc := "(LHalfFair$Fair;I)I" } : Jvm.MethodName)) ∈ lw_all := lw_g (lw_at lw_m5 165 rfl) rfl
theorem q2041 : (Jvm.Cond.castable "HalfFair$State" "java/lang/Object") ∈ lw_tbl := lw_at lw_m8 209 rfl
theorem in_X2 : ∀ w ∈ wsX20, w ∈ lw_all := lw_in wsX20 [306, 308, 310, 312, 314] (by decide +kernel) (by decide +kernel)

/-! HalfFair$Wrong -/
set_option maxRecDepth 100000
def RX3 : String := "HalfFair$Wrong"
def TX3 : u_T := fun k => match k with
  | 0 => ("java/lang/Throwable", "cause", "Ljava/lang/Throwable;", false)
  | 1 => ("java/lang/Throwable", "stackTrace", "[Ljava/lang/StackTraceElement;", false)
  | 2 => ("java/lang/Throwable", "suppressedExceptions", "Ljava/util/List;", false)
  | 3 => ("java/lang/Throwable", "detailMessage", "Ljava/lang/String;", false)
  | 4 => ("java/lang/Throwable", "backtrace", "Ljava/lang/Object;", false)
  | 5 => ("java/lang/Throwable", "depth", "I", false)
  | _ => ("HalfFair$Wrong", "number", "I", false)
def tyX3 : Nat → FieldType := fun k => match k with
  | 0 => .object "java/lang/Throwable"
  | 1 => .array (.object "java/lang/StackTraceElement")
  | 2 => .object "java/util/List"
  | 3 => .object "java/lang/String"
  | 4 => .object "java/lang/Object"
  | 5 => .int
  | _ => .int
abbrev wsX30 : List Cond := u_ws RX3 TX3 7
theorem nmX3 : ∀ a, a < 7 → ∀ b, b < 7 → a ≠ b → (TX3 a).2.1 ≠ (TX3 b).2.1 := by decide +kernel
theorem tyX3_ok : ∀ k, k < 7 → parseFieldDescriptor (TX3 k).2.2.1 = some (tyX3 k) := by decide +kernel
abbrev cX3_init : ByteArray := prog_18_method_1_code
def yX3_init : MethodName := ⟨RX3, "<init>", "()V"⟩
theorem dX3_init_0 : decode cX3_init 0 = .ok (.aload_n 0, 1) := by decide +kernel
theorem dX3_init_1 : decode cX3_init 1 = .ok (.invokespecial 1, 3) := by decide +kernel
theorem dX3_init_4 : decode cX3_init 4 = .ok (.return_, 1) := by decide +kernel
theorem q161 : (Jvm.Cond.initialized "HalfFair$Wrong") ∈ lw_all := lw_g (lw_at lw_m1 9 rfl) rfl
theorem q320 : (Jvm.Cond.instantiable "HalfFair$Wrong" (7 : Nat)) ∈ lw_all := lw_g (lw_at lw_m1 168 rfl) rfl
theorem q321 : (Jvm.Cond.castable "HalfFair$Wrong" "HalfFair$Wrong") ∈ lw_tbl := lw_at lw_m1 169 rfl
theorem q326 : (Jvm.Cond.selects "HalfFair$Wrong" ({ cls := "java/lang/Throwable", name := "fillInStackTrace", desc := "(I)Ljava/lang/Throwable;" } : Jvm.MethodName) ({ cls := "java/lang/Throwable", name := "fillInStackTrace", desc := "(I)Ljava/lang/Throwable;" } : Jvm.MethodName)) ∈ lw_all := lw_g (lw_at lw_m1 174 rfl) rfl
theorem q327 : (Jvm.Cond.selects "HalfFair$Wrong" ({ cls := "java/lang/Throwable", name := "fillInStackTrace", desc := "()Ljava/lang/Throwable;" } : Jvm.MethodName) ({ cls := "java/lang/Throwable", name := "fillInStackTrace", desc := "()Ljava/lang/Throwable;" } : Jvm.MethodName)) ∈ lw_all := lw_g (lw_at lw_m1 175 rfl) rfl
theorem q328 : (Jvm.Cond.lays "HalfFair$Wrong" "java/lang/Throwable" "cause" "Ljava/lang/Throwable;") ∈ lw_all := lw_g (lw_at lw_m1 176 rfl) rfl
theorem q330 : (Jvm.Cond.lays "HalfFair$Wrong" "java/lang/Throwable" "stackTrace" "[Ljava/lang/StackTraceElement;") ∈ lw_all := lw_g (lw_at lw_m1 178 rfl) rfl
theorem q332 : (Jvm.Cond.lays "HalfFair$Wrong" "java/lang/Throwable" "suppressedExceptions" "Ljava/util/List;") ∈ lw_all := lw_g (lw_at lw_m1 180 rfl) rfl
theorem q334 : (Jvm.Cond.lays "HalfFair$Wrong" "java/lang/Throwable" "detailMessage" "Ljava/lang/String;") ∈ lw_all := lw_g (lw_at lw_m1 182 rfl) rfl
theorem q336 : (Jvm.Cond.lays "HalfFair$Wrong" "java/lang/Throwable" "backtrace" "Ljava/lang/Object;") ∈ lw_all := lw_g (lw_at lw_m1 184 rfl) rfl
theorem q357 : (Jvm.Cond.instanceMethod ({ cls := "HalfFair$Wrong", name := "<init>", desc := "()V" } : Jvm.MethodName)) ∈ lw_all := lw_g (lw_at lw_m1 205 rfl) rfl
theorem q358 : (Jvm.Cond.code ({ cls := "HalfFair$Wrong", name := "<init>", desc := "()V" } : Jvm.MethodName) prog_18_method_1_code (1 : Nat) (Option.none : Option Jvm.ClassFile.FieldType)) ∈ lw_all := lw_g (lw_at lw_m1 206 rfl) rfl
theorem q359 : (Jvm.Cond.methodLink "HalfFair$Wrong" (1 : Nat) ({ cls := "java/lang/Exception", name := "<init>", desc := "()V" } : Jvm.MethodName)) ∈ lw_all := lw_g (lw_at lw_m1 207 rfl) rfl
theorem q368 : (Jvm.Cond.lays "HalfFair$Wrong" "HalfFair$Wrong" "number" "I") ∈ lw_all := lw_g (lw_at lw_m1 216 rfl) rfl
theorem q369 : (Jvm.Cond.soleField "HalfFair$Wrong" "number") ∈ lw_all := lw_g (lw_at lw_m1 217 rfl) rfl
theorem q374 : (Jvm.Cond.lays "HalfFair$Wrong" "java/lang/Throwable" "depth" "I") ∈ lw_all := lw_g (lw_at lw_m1 222 rfl) rfl
theorem q377 : (Jvm.Cond.superclass "HalfFair$Wrong" "java/lang/Exception") ∈ lw_all := lw_g (lw_at lw_m1 225 rfl) rfl
theorem q699 : (Jvm.Cond.selects "HalfFair$Wrong" ({ cls := "java/lang/Object", name := "getClass", desc := "()Ljava/lang/Class;" } : Jvm.MethodName) ({ cls := "java/lang/Object", name := "getClass", desc := "()Ljava/lang/Class;" } : Jvm.MethodName)) ∈ lw_all := lw_g (lw_at lw_m3 67 rfl) rfl
theorem q2047 : (Jvm.Cond.castable "HalfFair$Wrong" "java/lang/Object") ∈ lw_tbl := lw_at lw_m8 215 rfl
theorem in_X3 : ∀ w ∈ wsX30, w ∈ lw_all := lw_in wsX30 [328, 330, 332, 334, 336, 374, 368] (by decide +kernel) (by decide +kernel)

/-! HalfFair$Parser -/
set_option maxRecDepth 100000
def RX5 : String := "HalfFair$Parser"
def TX5 : u_T := fun k => match k with
  | 0 => ("HalfFair$Parser", "names", "[Ljava/lang/String;", true)
  | 1 => ("HalfFair$Parser", "at", "I", false)
  | 2 => ("HalfFair$Parser", "deep", "I", false)
  | 3 => ("HalfFair$Parser", "counted", "I", false)
  | 4 => ("HalfFair$Parser", "clauses", "I", false)
  | 5 => ("HalfFair$Parser", "most", "I", true)
  | _ => ("HalfFair$Parser", "this$0", "LHalfFair;", true)
def tyX5 : Nat → FieldType := fun k => match k with
  | 0 => .array (.object "java/lang/String")
  | 1 => .int
  | 2 => .int
  | 3 => .int
  | 4 => .int
  | 5 => .int
  | _ => .object "HalfFair"
abbrev wsX50 : List Cond := u_ws RX5 TX5 7
theorem nmX5 : ∀ a, a < 7 → ∀ b, b < 7 → a ≠ b → (TX5 a).2.1 ≠ (TX5 b).2.1 := by decide +kernel
theorem tyX5_ok : ∀ k, k < 7 → parseFieldDescriptor (TX5 k).2.2.1 = some (tyX5 k) := by decide +kernel
abbrev cX5_init : ByteArray := prog_12_method_1_code
def yX5_init : MethodName := ⟨RX5, "<init>", "(LHalfFair;[Ljava/lang/String;I)V"⟩
def dkwX5_init_0 : List UInt8 := [42, 43, 181, 0, 3, 42, 183, 0, 9, 42, 44, 181, 0, 15, 42, 29, 181, 0, 19, 177]
abbrev dktX5_init_0 : List UInt8 := dkwX5_init_0 ++ []
theorem dksX5_init_0 : cX5_init.data.toList.drop 0 = dktX5_init_0 := by decide +kernel
theorem dX5_init_0 : decode cX5_init 0 = .ok (.aload_n 0, 1) := dk_42 (dk_at dksX5_init_0 0 rfl rfl)
theorem dX5_init_1 : decode cX5_init 1 = .ok (.aload_n 1, 1) := dk_43 (dk_at dksX5_init_0 1 rfl rfl)
theorem dX5_init_2 : decode cX5_init 2 = .ok (.putfield 3, 3) := dk_181 0 3 (dk_at dksX5_init_0 2 rfl rfl)
theorem dX5_init_5 : decode cX5_init 5 = .ok (.aload_n 0, 1) := dk_42 (dk_at dksX5_init_0 5 rfl rfl)
theorem dX5_init_6 : decode cX5_init 6 = .ok (.invokespecial 9, 3) := dk_183 0 9 (dk_at dksX5_init_0 6 rfl rfl)
theorem dX5_init_9 : decode cX5_init 9 = .ok (.aload_n 0, 1) := dk_42 (dk_at dksX5_init_0 9 rfl rfl)
theorem dX5_init_10 : decode cX5_init 10 = .ok (.aload_n 2, 1) := dk_44 (dk_at dksX5_init_0 10 rfl rfl)
theorem dX5_init_11 : decode cX5_init 11 = .ok (.putfield 15, 3) := dk_181 0 15 (dk_at dksX5_init_0 11 rfl rfl)
theorem dX5_init_14 : decode cX5_init 14 = .ok (.aload_n 0, 1) := dk_42 (dk_at dksX5_init_0 14 rfl rfl)
theorem dX5_init_15 : decode cX5_init 15 = .ok (.iload_n 3, 1) := dk_29 (dk_at dksX5_init_0 15 rfl rfl)
theorem dX5_init_16 : decode cX5_init 16 = .ok (.putfield 19, 3) := dk_181 0 19 (dk_at dksX5_init_0 16 rfl rfl)
theorem dX5_init_19 : decode cX5_init 19 = .ok (.return_, 1) := dk_177 (dk_at dksX5_init_0 19 rfl rfl)
abbrev cX5_fair : ByteArray := prog_12_method_25_code
def yX5_fair : MethodName := ⟨RX5, "fair", "()LHalfFair$Fair;"⟩
def dkwX5_fair_1 : List UInt8 := [182, 1, 1, 167, 255, 244, 43, 176]
abbrev dktX5_fair_1 : List UInt8 := dkwX5_fair_1 ++ []
def dkwX5_fair_0 : List UInt8 := [187, 0, 151, 89, 183, 1, 0, 76, 42, 43, 182, 1, 1, 42, 182, 1, 4, 153, 0, 11, 42, 43]
abbrev dktX5_fair_0 : List UInt8 := dkwX5_fair_0 ++ dktX5_fair_1
theorem dksX5_fair_0 : cX5_fair.data.toList.drop 0 = dktX5_fair_0 := by decide +kernel
theorem dksX5_fair_1 : cX5_fair.data.toList.drop 22 = dktX5_fair_1 := dk_seg dksX5_fair_0 22 rfl rfl
theorem dX5_fair_0 : decode cX5_fair 0 = .ok (.new 151, 3) := dk_187 0 151 (dk_at dksX5_fair_0 0 rfl rfl)
theorem dX5_fair_3 : decode cX5_fair 3 = .ok (.dup, 1) := dk_89 (dk_at dksX5_fair_0 3 rfl rfl)
theorem dX5_fair_4 : decode cX5_fair 4 = .ok (.invokespecial 256, 3) := dk_183 1 0 (dk_at dksX5_fair_0 4 rfl rfl)
theorem dX5_fair_7 : decode cX5_fair 7 = .ok (.astore_n 1, 1) := dk_76 (dk_at dksX5_fair_0 7 rfl rfl)
theorem dX5_fair_8 : decode cX5_fair 8 = .ok (.aload_n 0, 1) := dk_42 (dk_at dksX5_fair_0 8 rfl rfl)
theorem dX5_fair_9 : decode cX5_fair 9 = .ok (.aload_n 1, 1) := dk_43 (dk_at dksX5_fair_0 9 rfl rfl)
theorem dX5_fair_10 : decode cX5_fair 10 = .ok (.invokevirtual 257, 3) := dk_182 1 1 (dk_at dksX5_fair_0 10 rfl rfl)
theorem dX5_fair_13 : decode cX5_fair 13 = .ok (.aload_n 0, 1) := dk_42 (dk_at dksX5_fair_0 13 rfl rfl)
theorem dX5_fair_14 : decode cX5_fair 14 = .ok (.invokevirtual 260, 3) := dk_182 1 4 (dk_at dksX5_fair_0 14 rfl rfl)
theorem dX5_fair_17 : decode cX5_fair 17 = .ok (.ifCond .eq 11, 3) := dk_153 0 11 (dk_at dksX5_fair_0 17 rfl rfl)
theorem dX5_fair_20 : decode cX5_fair 20 = .ok (.aload_n 0, 1) := dk_42 (dk_at dksX5_fair_0 20 rfl rfl)
theorem dX5_fair_21 : decode cX5_fair 21 = .ok (.aload_n 1, 1) := dk_43 (dk_at dksX5_fair_0 21 rfl rfl)
theorem dX5_fair_22 : decode cX5_fair 22 = .ok (.invokevirtual 257, 3) := dk_182 1 1 (dk_at dksX5_fair_1 0 rfl rfl)
theorem dX5_fair_25 : decode cX5_fair 25 = .ok (.goto (-12), 3) := dk_167 255 244 (dk_at dksX5_fair_1 3 rfl rfl)
theorem dX5_fair_28 : decode cX5_fair 28 = .ok (.aload_n 1, 1) := dk_43 (dk_at dksX5_fair_1 6 rfl rfl)
theorem dX5_fair_29 : decode cX5_fair 29 = .ok (.areturn, 1) := dk_176 (dk_at dksX5_fair_1 7 rfl rfl)
abbrev cX5_clause : ByteArray := prog_12_method_22_code
def yX5_clause : MethodName := ⟨RX5, "clause", "(LHalfFair$Fair;)V"⟩
def dkwX5_clause_8 : List UInt8 := [182, 0, 198, 153, 0, 11, 42, 43, 182, 0, 234, 167, 0, 9, 42, 43, 28, 182, 0, 236, 177]
abbrev dktX5_clause_8 : List UInt8 := dkwX5_clause_8 ++ []
def dkwX5_clause_7 : List UInt8 := [180, 0, 150, 4, 100, 182, 0, 82, 183, 0, 230, 182, 0, 164, 87, 167, 0, 27, 42, 18, 232, 28]
abbrev dktX5_clause_7 : List UInt8 := dkwX5_clause_7 ++ dktX5_clause_8
def dkwX5_clause_6 : List UInt8 := [153, 0, 42, 42, 3, 17, 3, 231, 182, 0, 82, 62, 43, 180, 0, 170, 187, 0, 228, 89, 29, 42, 3, 43]
abbrev dktX5_clause_6 : List UInt8 := dkwX5_clause_6 ++ dktX5_clause_7
def dkwX5_clause_5 : List UInt8 := [153, 0, 18, 43, 180, 0, 170, 182, 0, 173, 7, 162, 0, 7, 4, 167, 0, 4, 3, 182, 0, 198]
abbrev dktX5_clause_5 : List UInt8 := dkwX5_clause_5 ++ dktX5_clause_6
def dkwX5_clause_4 : List UInt8 := [43, 180, 0, 155, 182, 0, 173, 4, 100, 182, 0, 82, 120, 128, 181, 0, 224, 167, 0, 95, 42, 18, 226, 28]
abbrev dktX5_clause_4 : List UInt8 := dkwX5_clause_4 ++ dktX5_clause_5
def dkwX5_clause_3 : List UInt8 := [182, 0, 220, 167, 0, 133, 42, 18, 222, 28, 182, 0, 198, 153, 0, 31, 43, 89, 180, 0, 224, 4, 42, 3]
abbrev dktX5_clause_3 : List UInt8 := dkwX5_clause_3 ++ dktX5_clause_4
def dkwX5_clause_2 : List UInt8 := [180, 0, 155, 182, 0, 173, 16, 12, 162, 0, 7, 4, 167, 0, 4, 3, 182, 0, 198, 153, 0, 11, 42, 43]
abbrev dktX5_clause_2 : List UInt8 := dkwX5_clause_2 ++ dktX5_clause_3
def dkwX5_clause_1 : List UInt8 := [3, 182, 0, 198, 153, 0, 11, 42, 43, 182, 0, 216, 167, 0, 171, 42, 18, 218, 28, 153, 0, 19, 43]
abbrev dktX5_clause_1 : List UInt8 := dkwX5_clause_1 ++ dktX5_clause_2
def dkwX5_clause_0 : List UInt8 := [43, 180, 0, 150, 158, 0, 7, 4, 167, 0, 4, 3, 61, 42, 18, 215, 28, 154, 0, 7, 4, 167, 0, 4]
abbrev dktX5_clause_0 : List UInt8 := dkwX5_clause_0 ++ dktX5_clause_1
theorem dksX5_clause_0 : cX5_clause.data.toList.drop 0 = dktX5_clause_0 := by decide +kernel
theorem dksX5_clause_1 : cX5_clause.data.toList.drop 24 = dktX5_clause_1 := dk_seg dksX5_clause_0 24 rfl rfl
theorem dksX5_clause_2 : cX5_clause.data.toList.drop 47 = dktX5_clause_2 := dk_seg dksX5_clause_1 23 rfl rfl
theorem dksX5_clause_3 : cX5_clause.data.toList.drop 71 = dktX5_clause_3 := dk_seg dksX5_clause_2 24 rfl rfl
theorem dksX5_clause_4 : cX5_clause.data.toList.drop 95 = dktX5_clause_4 := dk_seg dksX5_clause_3 24 rfl rfl
theorem dksX5_clause_5 : cX5_clause.data.toList.drop 119 = dktX5_clause_5 := dk_seg dksX5_clause_4 24 rfl rfl
theorem dksX5_clause_6 : cX5_clause.data.toList.drop 141 = dktX5_clause_6 := dk_seg dksX5_clause_5 22 rfl rfl
theorem dksX5_clause_7 : cX5_clause.data.toList.drop 165 = dktX5_clause_7 := dk_seg dksX5_clause_6 24 rfl rfl
theorem dksX5_clause_8 : cX5_clause.data.toList.drop 187 = dktX5_clause_8 := dk_seg dksX5_clause_7 22 rfl rfl
theorem dX5_clause_0 : decode cX5_clause 0 = .ok (.aload_n 1, 1) := dk_43 (dk_at dksX5_clause_0 0 rfl rfl)
theorem dX5_clause_1 : decode cX5_clause 1 = .ok (.getfield 150, 3) := dk_180 0 150 (dk_at dksX5_clause_0 1 rfl rfl)
theorem dX5_clause_4 : decode cX5_clause 4 = .ok (.ifCond .le 7, 3) := dk_158 0 7 (dk_at dksX5_clause_0 4 rfl rfl)
theorem dX5_clause_7 : decode cX5_clause 7 = .ok (.iconst 1, 1) := dk_4 (dk_at dksX5_clause_0 7 rfl rfl)
theorem dX5_clause_8 : decode cX5_clause 8 = .ok (.goto 4, 3) := dk_167 0 4 (dk_at dksX5_clause_0 8 rfl rfl)
theorem dX5_clause_11 : decode cX5_clause 11 = .ok (.iconst 0, 1) := dk_3 (dk_at dksX5_clause_0 11 rfl rfl)
theorem dX5_clause_12 : decode cX5_clause 12 = .ok (.istore_n 2, 1) := dk_61 (dk_at dksX5_clause_0 12 rfl rfl)
theorem dX5_clause_13 : decode cX5_clause 13 = .ok (.aload_n 0, 1) := dk_42 (dk_at dksX5_clause_0 13 rfl rfl)
theorem dX5_clause_14 : decode cX5_clause 14 = .ok (.ldc 215, 2) := dk_18 215 (dk_at dksX5_clause_0 14 rfl rfl)
theorem dX5_clause_16 : decode cX5_clause 16 = .ok (.iload_n 2, 1) := dk_28 (dk_at dksX5_clause_0 16 rfl rfl)
theorem dX5_clause_17 : decode cX5_clause 17 = .ok (.ifCond .ne 7, 3) := dk_154 0 7 (dk_at dksX5_clause_0 17 rfl rfl)
theorem dX5_clause_20 : decode cX5_clause 20 = .ok (.iconst 1, 1) := dk_4 (dk_at dksX5_clause_0 20 rfl rfl)
theorem dX5_clause_21 : decode cX5_clause 21 = .ok (.goto 4, 3) := dk_167 0 4 (dk_at dksX5_clause_0 21 rfl rfl)
theorem dX5_clause_24 : decode cX5_clause 24 = .ok (.iconst 0, 1) := dk_3 (dk_at dksX5_clause_1 0 rfl rfl)
theorem dX5_clause_25 : decode cX5_clause 25 = .ok (.invokevirtual 198, 3) := dk_182 0 198 (dk_at dksX5_clause_1 1 rfl rfl)
theorem dX5_clause_28 : decode cX5_clause 28 = .ok (.ifCond .eq 11, 3) := dk_153 0 11 (dk_at dksX5_clause_1 4 rfl rfl)
theorem dX5_clause_31 : decode cX5_clause 31 = .ok (.aload_n 0, 1) := dk_42 (dk_at dksX5_clause_1 7 rfl rfl)
theorem dX5_clause_32 : decode cX5_clause 32 = .ok (.aload_n 1, 1) := dk_43 (dk_at dksX5_clause_1 8 rfl rfl)
theorem dX5_clause_33 : decode cX5_clause 33 = .ok (.invokevirtual 216, 3) := dk_182 0 216 (dk_at dksX5_clause_1 9 rfl rfl)
theorem dX5_clause_36 : decode cX5_clause 36 = .ok (.goto 171, 3) := dk_167 0 171 (dk_at dksX5_clause_1 12 rfl rfl)
theorem dX5_clause_39 : decode cX5_clause 39 = .ok (.aload_n 0, 1) := dk_42 (dk_at dksX5_clause_1 15 rfl rfl)
theorem dX5_clause_40 : decode cX5_clause 40 = .ok (.ldc 218, 2) := dk_18 218 (dk_at dksX5_clause_1 16 rfl rfl)
theorem dX5_clause_42 : decode cX5_clause 42 = .ok (.iload_n 2, 1) := dk_28 (dk_at dksX5_clause_1 18 rfl rfl)
theorem dX5_clause_43 : decode cX5_clause 43 = .ok (.ifCond .eq 19, 3) := dk_153 0 19 (dk_at dksX5_clause_1 19 rfl rfl)
theorem dX5_clause_46 : decode cX5_clause 46 = .ok (.aload_n 1, 1) := dk_43 (dk_at dksX5_clause_1 22 rfl rfl)
theorem dX5_clause_47 : decode cX5_clause 47 = .ok (.getfield 155, 3) := dk_180 0 155 (dk_at dksX5_clause_2 0 rfl rfl)
theorem dX5_clause_50 : decode cX5_clause 50 = .ok (.invokevirtual 173, 3) := dk_182 0 173 (dk_at dksX5_clause_2 3 rfl rfl)
theorem dX5_clause_53 : decode cX5_clause 53 = .ok (.bipush 12, 2) := dk_16 12 (dk_at dksX5_clause_2 6 rfl rfl)
theorem dX5_clause_55 : decode cX5_clause 55 = .ok (.if_icmp .ge 7, 3) := dk_162 0 7 (dk_at dksX5_clause_2 8 rfl rfl)
theorem dX5_clause_58 : decode cX5_clause 58 = .ok (.iconst 1, 1) := dk_4 (dk_at dksX5_clause_2 11 rfl rfl)
theorem dX5_clause_59 : decode cX5_clause 59 = .ok (.goto 4, 3) := dk_167 0 4 (dk_at dksX5_clause_2 12 rfl rfl)
theorem dX5_clause_62 : decode cX5_clause 62 = .ok (.iconst 0, 1) := dk_3 (dk_at dksX5_clause_2 15 rfl rfl)
theorem dX5_clause_63 : decode cX5_clause 63 = .ok (.invokevirtual 198, 3) := dk_182 0 198 (dk_at dksX5_clause_2 16 rfl rfl)
theorem dX5_clause_66 : decode cX5_clause 66 = .ok (.ifCond .eq 11, 3) := dk_153 0 11 (dk_at dksX5_clause_2 19 rfl rfl)
theorem dX5_clause_69 : decode cX5_clause 69 = .ok (.aload_n 0, 1) := dk_42 (dk_at dksX5_clause_2 22 rfl rfl)
theorem dX5_clause_70 : decode cX5_clause 70 = .ok (.aload_n 1, 1) := dk_43 (dk_at dksX5_clause_2 23 rfl rfl)
theorem dX5_clause_71 : decode cX5_clause 71 = .ok (.invokevirtual 220, 3) := dk_182 0 220 (dk_at dksX5_clause_3 0 rfl rfl)
theorem dX5_clause_74 : decode cX5_clause 74 = .ok (.goto 133, 3) := dk_167 0 133 (dk_at dksX5_clause_3 3 rfl rfl)
theorem dX5_clause_77 : decode cX5_clause 77 = .ok (.aload_n 0, 1) := dk_42 (dk_at dksX5_clause_3 6 rfl rfl)
theorem dX5_clause_78 : decode cX5_clause 78 = .ok (.ldc 222, 2) := dk_18 222 (dk_at dksX5_clause_3 7 rfl rfl)
theorem dX5_clause_80 : decode cX5_clause 80 = .ok (.iload_n 2, 1) := dk_28 (dk_at dksX5_clause_3 9 rfl rfl)
theorem dX5_clause_81 : decode cX5_clause 81 = .ok (.invokevirtual 198, 3) := dk_182 0 198 (dk_at dksX5_clause_3 10 rfl rfl)
theorem dX5_clause_84 : decode cX5_clause 84 = .ok (.ifCond .eq 31, 3) := dk_153 0 31 (dk_at dksX5_clause_3 13 rfl rfl)
theorem dX5_clause_87 : decode cX5_clause 87 = .ok (.aload_n 1, 1) := dk_43 (dk_at dksX5_clause_3 16 rfl rfl)
theorem dX5_clause_88 : decode cX5_clause 88 = .ok (.dup, 1) := dk_89 (dk_at dksX5_clause_3 17 rfl rfl)
theorem dX5_clause_89 : decode cX5_clause 89 = .ok (.getfield 224, 3) := dk_180 0 224 (dk_at dksX5_clause_3 18 rfl rfl)
theorem dX5_clause_92 : decode cX5_clause 92 = .ok (.iconst 1, 1) := dk_4 (dk_at dksX5_clause_3 21 rfl rfl)
theorem dX5_clause_93 : decode cX5_clause 93 = .ok (.aload_n 0, 1) := dk_42 (dk_at dksX5_clause_3 22 rfl rfl)
theorem dX5_clause_94 : decode cX5_clause 94 = .ok (.iconst 0, 1) := dk_3 (dk_at dksX5_clause_3 23 rfl rfl)
theorem dX5_clause_95 : decode cX5_clause 95 = .ok (.aload_n 1, 1) := dk_43 (dk_at dksX5_clause_4 0 rfl rfl)
theorem dX5_clause_96 : decode cX5_clause 96 = .ok (.getfield 155, 3) := dk_180 0 155 (dk_at dksX5_clause_4 1 rfl rfl)
theorem dX5_clause_99 : decode cX5_clause 99 = .ok (.invokevirtual 173, 3) := dk_182 0 173 (dk_at dksX5_clause_4 4 rfl rfl)
theorem dX5_clause_102 : decode cX5_clause 102 = .ok (.iconst 1, 1) := dk_4 (dk_at dksX5_clause_4 7 rfl rfl)
theorem dX5_clause_103 : decode cX5_clause 103 = .ok (.isub, 1) := dk_100 (dk_at dksX5_clause_4 8 rfl rfl)
theorem dX5_clause_104 : decode cX5_clause 104 = .ok (.invokevirtual 82, 3) := dk_182 0 82 (dk_at dksX5_clause_4 9 rfl rfl)
theorem dX5_clause_107 : decode cX5_clause 107 = .ok (.ishl, 1) := dk_120 (dk_at dksX5_clause_4 12 rfl rfl)
theorem dX5_clause_108 : decode cX5_clause 108 = .ok (.ior, 1) := dk_128 (dk_at dksX5_clause_4 13 rfl rfl)
theorem dX5_clause_109 : decode cX5_clause 109 = .ok (.putfield 224, 3) := dk_181 0 224 (dk_at dksX5_clause_4 14 rfl rfl)
theorem dX5_clause_112 : decode cX5_clause 112 = .ok (.goto 95, 3) := dk_167 0 95 (dk_at dksX5_clause_4 17 rfl rfl)
theorem dX5_clause_115 : decode cX5_clause 115 = .ok (.aload_n 0, 1) := dk_42 (dk_at dksX5_clause_4 20 rfl rfl)
theorem dX5_clause_116 : decode cX5_clause 116 = .ok (.ldc 226, 2) := dk_18 226 (dk_at dksX5_clause_4 21 rfl rfl)
theorem dX5_clause_118 : decode cX5_clause 118 = .ok (.iload_n 2, 1) := dk_28 (dk_at dksX5_clause_4 23 rfl rfl)
theorem dX5_clause_119 : decode cX5_clause 119 = .ok (.ifCond .eq 18, 3) := dk_153 0 18 (dk_at dksX5_clause_5 0 rfl rfl)
theorem dX5_clause_122 : decode cX5_clause 122 = .ok (.aload_n 1, 1) := dk_43 (dk_at dksX5_clause_5 3 rfl rfl)
theorem dX5_clause_123 : decode cX5_clause 123 = .ok (.getfield 170, 3) := dk_180 0 170 (dk_at dksX5_clause_5 4 rfl rfl)
theorem dX5_clause_126 : decode cX5_clause 126 = .ok (.invokevirtual 173, 3) := dk_182 0 173 (dk_at dksX5_clause_5 7 rfl rfl)
theorem dX5_clause_129 : decode cX5_clause 129 = .ok (.iconst 4, 1) := dk_7 (dk_at dksX5_clause_5 10 rfl rfl)
theorem dX5_clause_130 : decode cX5_clause 130 = .ok (.if_icmp .ge 7, 3) := dk_162 0 7 (dk_at dksX5_clause_5 11 rfl rfl)
theorem dX5_clause_133 : decode cX5_clause 133 = .ok (.iconst 1, 1) := dk_4 (dk_at dksX5_clause_5 14 rfl rfl)
theorem dX5_clause_134 : decode cX5_clause 134 = .ok (.goto 4, 3) := dk_167 0 4 (dk_at dksX5_clause_5 15 rfl rfl)
theorem dX5_clause_137 : decode cX5_clause 137 = .ok (.iconst 0, 1) := dk_3 (dk_at dksX5_clause_5 18 rfl rfl)
theorem dX5_clause_138 : decode cX5_clause 138 = .ok (.invokevirtual 198, 3) := dk_182 0 198 (dk_at dksX5_clause_5 19 rfl rfl)
theorem dX5_clause_141 : decode cX5_clause 141 = .ok (.ifCond .eq 42, 3) := dk_153 0 42 (dk_at dksX5_clause_6 0 rfl rfl)
theorem dX5_clause_144 : decode cX5_clause 144 = .ok (.aload_n 0, 1) := dk_42 (dk_at dksX5_clause_6 3 rfl rfl)
theorem dX5_clause_145 : decode cX5_clause 145 = .ok (.iconst 0, 1) := dk_3 (dk_at dksX5_clause_6 4 rfl rfl)
theorem dX5_clause_146 : decode cX5_clause 146 = .ok (.sipush 999, 3) := dk_17 3 231 (dk_at dksX5_clause_6 5 rfl rfl)
theorem dX5_clause_149 : decode cX5_clause 149 = .ok (.invokevirtual 82, 3) := dk_182 0 82 (dk_at dksX5_clause_6 8 rfl rfl)
theorem dX5_clause_152 : decode cX5_clause 152 = .ok (.istore_n 3, 1) := dk_62 (dk_at dksX5_clause_6 11 rfl rfl)
theorem dX5_clause_153 : decode cX5_clause 153 = .ok (.aload_n 1, 1) := dk_43 (dk_at dksX5_clause_6 12 rfl rfl)
theorem dX5_clause_154 : decode cX5_clause 154 = .ok (.getfield 170, 3) := dk_180 0 170 (dk_at dksX5_clause_6 13 rfl rfl)
theorem dX5_clause_157 : decode cX5_clause 157 = .ok (.new 228, 3) := dk_187 0 228 (dk_at dksX5_clause_6 16 rfl rfl)
theorem dX5_clause_160 : decode cX5_clause 160 = .ok (.dup, 1) := dk_89 (dk_at dksX5_clause_6 19 rfl rfl)
theorem dX5_clause_161 : decode cX5_clause 161 = .ok (.iload_n 3, 1) := dk_29 (dk_at dksX5_clause_6 20 rfl rfl)
theorem dX5_clause_162 : decode cX5_clause 162 = .ok (.aload_n 0, 1) := dk_42 (dk_at dksX5_clause_6 21 rfl rfl)
theorem dX5_clause_163 : decode cX5_clause 163 = .ok (.iconst 0, 1) := dk_3 (dk_at dksX5_clause_6 22 rfl rfl)
theorem dX5_clause_164 : decode cX5_clause 164 = .ok (.aload_n 1, 1) := dk_43 (dk_at dksX5_clause_6 23 rfl rfl)
theorem dX5_clause_165 : decode cX5_clause 165 = .ok (.getfield 150, 3) := dk_180 0 150 (dk_at dksX5_clause_7 0 rfl rfl)
theorem dX5_clause_168 : decode cX5_clause 168 = .ok (.iconst 1, 1) := dk_4 (dk_at dksX5_clause_7 3 rfl rfl)
theorem dX5_clause_169 : decode cX5_clause 169 = .ok (.isub, 1) := dk_100 (dk_at dksX5_clause_7 4 rfl rfl)
theorem dX5_clause_170 : decode cX5_clause 170 = .ok (.invokevirtual 82, 3) := dk_182 0 82 (dk_at dksX5_clause_7 5 rfl rfl)
theorem dX5_clause_173 : decode cX5_clause 173 = .ok (.invokespecial 230, 3) := dk_183 0 230 (dk_at dksX5_clause_7 8 rfl rfl)
theorem dX5_clause_176 : decode cX5_clause 176 = .ok (.invokevirtual 164, 3) := dk_182 0 164 (dk_at dksX5_clause_7 11 rfl rfl)
theorem dX5_clause_179 : decode cX5_clause 179 = .ok (.pop, 1) := dk_87 (dk_at dksX5_clause_7 14 rfl rfl)
theorem dX5_clause_180 : decode cX5_clause 180 = .ok (.goto 27, 3) := dk_167 0 27 (dk_at dksX5_clause_7 15 rfl rfl)
theorem dX5_clause_183 : decode cX5_clause 183 = .ok (.aload_n 0, 1) := dk_42 (dk_at dksX5_clause_7 18 rfl rfl)
theorem dX5_clause_184 : decode cX5_clause 184 = .ok (.ldc 232, 2) := dk_18 232 (dk_at dksX5_clause_7 19 rfl rfl)
theorem dX5_clause_186 : decode cX5_clause 186 = .ok (.iload_n 2, 1) := dk_28 (dk_at dksX5_clause_7 21 rfl rfl)
theorem dX5_clause_187 : decode cX5_clause 187 = .ok (.invokevirtual 198, 3) := dk_182 0 198 (dk_at dksX5_clause_8 0 rfl rfl)
theorem dX5_clause_190 : decode cX5_clause 190 = .ok (.ifCond .eq 11, 3) := dk_153 0 11 (dk_at dksX5_clause_8 3 rfl rfl)
theorem dX5_clause_193 : decode cX5_clause 193 = .ok (.aload_n 0, 1) := dk_42 (dk_at dksX5_clause_8 6 rfl rfl)
theorem dX5_clause_194 : decode cX5_clause 194 = .ok (.aload_n 1, 1) := dk_43 (dk_at dksX5_clause_8 7 rfl rfl)
theorem dX5_clause_195 : decode cX5_clause 195 = .ok (.invokevirtual 234, 3) := dk_182 0 234 (dk_at dksX5_clause_8 8 rfl rfl)
theorem dX5_clause_198 : decode cX5_clause 198 = .ok (.goto 9, 3) := dk_167 0 9 (dk_at dksX5_clause_8 11 rfl rfl)
theorem dX5_clause_201 : decode cX5_clause 201 = .ok (.aload_n 0, 1) := dk_42 (dk_at dksX5_clause_8 14 rfl rfl)
theorem dX5_clause_202 : decode cX5_clause 202 = .ok (.aload_n 1, 1) := dk_43 (dk_at dksX5_clause_8 15 rfl rfl)
theorem dX5_clause_203 : decode cX5_clause 203 = .ok (.iload_n 2, 1) := dk_28 (dk_at dksX5_clause_8 16 rfl rfl)
theorem dX5_clause_204 : decode cX5_clause 204 = .ok (.invokevirtual 236, 3) := dk_182 0 236 (dk_at dksX5_clause_8 17 rfl rfl)
theorem dX5_clause_207 : decode cX5_clause 207 = .ok (.return_, 1) := dk_177 (dk_at dksX5_clause_8 20 rfl rfl)
abbrev cX5_begins : ByteArray := prog_12_method_16_code
def yX5_begins : MethodName := ⟨RX5, "begins", "(Ljava/lang/String;Z)Z"⟩
def dkwX5_begins_2 : List UInt8 := [181, 0, 147, 42, 89, 180, 0, 23, 43, 182, 0, 52, 96, 181, 0, 23, 4, 172]
abbrev dktX5_begins_2 : List UInt8 := dkwX5_begins_2 ++ []
def dkwX5_begins_1 : List UInt8 := [154, 0, 16, 42, 180, 0, 3, 7, 42, 180, 0, 23, 182, 0, 69, 191, 42, 89, 180, 0, 147, 4, 96]
abbrev dktX5_begins_1 : List UInt8 := dkwX5_begins_1 ++ dktX5_begins_2
def dkwX5_begins_0 : List UInt8 := [42, 43, 182, 0, 61, 154, 0, 5, 3, 172, 42, 180, 0, 147, 42, 180, 0, 19, 159, 0, 7, 28]
abbrev dktX5_begins_0 : List UInt8 := dkwX5_begins_0 ++ dktX5_begins_1
theorem dksX5_begins_0 : cX5_begins.data.toList.drop 0 = dktX5_begins_0 := by decide +kernel
theorem dksX5_begins_1 : cX5_begins.data.toList.drop 22 = dktX5_begins_1 := dk_seg dksX5_begins_0 22 rfl rfl
theorem dksX5_begins_2 : cX5_begins.data.toList.drop 45 = dktX5_begins_2 := dk_seg dksX5_begins_1 23 rfl rfl
theorem dX5_begins_0 : decode cX5_begins 0 = .ok (.aload_n 0, 1) := dk_42 (dk_at dksX5_begins_0 0 rfl rfl)
theorem dX5_begins_1 : decode cX5_begins 1 = .ok (.aload_n 1, 1) := dk_43 (dk_at dksX5_begins_0 1 rfl rfl)
theorem dX5_begins_2 : decode cX5_begins 2 = .ok (.invokevirtual 61, 3) := dk_182 0 61 (dk_at dksX5_begins_0 2 rfl rfl)
theorem dX5_begins_5 : decode cX5_begins 5 = .ok (.ifCond .ne 5, 3) := dk_154 0 5 (dk_at dksX5_begins_0 5 rfl rfl)
theorem dX5_begins_8 : decode cX5_begins 8 = .ok (.iconst 0, 1) := dk_3 (dk_at dksX5_begins_0 8 rfl rfl)
theorem dX5_begins_9 : decode cX5_begins 9 = .ok (.ireturn, 1) := dk_172 (dk_at dksX5_begins_0 9 rfl rfl)
theorem dX5_begins_10 : decode cX5_begins 10 = .ok (.aload_n 0, 1) := dk_42 (dk_at dksX5_begins_0 10 rfl rfl)
theorem dX5_begins_11 : decode cX5_begins 11 = .ok (.getfield 147, 3) := dk_180 0 147 (dk_at dksX5_begins_0 11 rfl rfl)
theorem dX5_begins_14 : decode cX5_begins 14 = .ok (.aload_n 0, 1) := dk_42 (dk_at dksX5_begins_0 14 rfl rfl)
theorem dX5_begins_15 : decode cX5_begins 15 = .ok (.getfield 19, 3) := dk_180 0 19 (dk_at dksX5_begins_0 15 rfl rfl)
theorem dX5_begins_18 : decode cX5_begins 18 = .ok (.if_icmp .eq 7, 3) := dk_159 0 7 (dk_at dksX5_begins_0 18 rfl rfl)
theorem dX5_begins_21 : decode cX5_begins 21 = .ok (.iload_n 2, 1) := dk_28 (dk_at dksX5_begins_0 21 rfl rfl)
theorem dX5_begins_22 : decode cX5_begins 22 = .ok (.ifCond .ne 16, 3) := dk_154 0 16 (dk_at dksX5_begins_1 0 rfl rfl)
theorem dX5_begins_25 : decode cX5_begins 25 = .ok (.aload_n 0, 1) := dk_42 (dk_at dksX5_begins_1 3 rfl rfl)
theorem dX5_begins_26 : decode cX5_begins 26 = .ok (.getfield 3, 3) := dk_180 0 3 (dk_at dksX5_begins_1 4 rfl rfl)
theorem dX5_begins_29 : decode cX5_begins 29 = .ok (.iconst 4, 1) := dk_7 (dk_at dksX5_begins_1 7 rfl rfl)
theorem dX5_begins_30 : decode cX5_begins 30 = .ok (.aload_n 0, 1) := dk_42 (dk_at dksX5_begins_1 8 rfl rfl)
theorem dX5_begins_31 : decode cX5_begins 31 = .ok (.getfield 23, 3) := dk_180 0 23 (dk_at dksX5_begins_1 9 rfl rfl)
theorem dX5_begins_34 : decode cX5_begins 34 = .ok (.invokevirtual 69, 3) := dk_182 0 69 (dk_at dksX5_begins_1 12 rfl rfl)
theorem dX5_begins_37 : decode cX5_begins 37 = .ok (.athrow, 1) := dk_191 (dk_at dksX5_begins_1 15 rfl rfl)
theorem dX5_begins_38 : decode cX5_begins 38 = .ok (.aload_n 0, 1) := dk_42 (dk_at dksX5_begins_1 16 rfl rfl)
theorem dX5_begins_39 : decode cX5_begins 39 = .ok (.dup, 1) := dk_89 (dk_at dksX5_begins_1 17 rfl rfl)
theorem dX5_begins_40 : decode cX5_begins 40 = .ok (.getfield 147, 3) := dk_180 0 147 (dk_at dksX5_begins_1 18 rfl rfl)
theorem dX5_begins_43 : decode cX5_begins 43 = .ok (.iconst 1, 1) := dk_4 (dk_at dksX5_begins_1 21 rfl rfl)
theorem dX5_begins_44 : decode cX5_begins 44 = .ok (.iadd, 1) := dk_96 (dk_at dksX5_begins_1 22 rfl rfl)
theorem dX5_begins_45 : decode cX5_begins 45 = .ok (.putfield 147, 3) := dk_181 0 147 (dk_at dksX5_begins_2 0 rfl rfl)
theorem dX5_begins_48 : decode cX5_begins 48 = .ok (.aload_n 0, 1) := dk_42 (dk_at dksX5_begins_2 3 rfl rfl)
theorem dX5_begins_49 : decode cX5_begins 49 = .ok (.dup, 1) := dk_89 (dk_at dksX5_begins_2 4 rfl rfl)
theorem dX5_begins_50 : decode cX5_begins 50 = .ok (.getfield 23, 3) := dk_180 0 23 (dk_at dksX5_begins_2 5 rfl rfl)
theorem dX5_begins_53 : decode cX5_begins 53 = .ok (.aload_n 1, 1) := dk_43 (dk_at dksX5_begins_2 8 rfl rfl)
theorem dX5_begins_54 : decode cX5_begins 54 = .ok (.invokevirtual 52, 3) := dk_182 0 52 (dk_at dksX5_begins_2 9 rfl rfl)
theorem dX5_begins_57 : decode cX5_begins 57 = .ok (.iadd, 1) := dk_96 (dk_at dksX5_begins_2 12 rfl rfl)
theorem dX5_begins_58 : decode cX5_begins 58 = .ok (.putfield 23, 3) := dk_181 0 23 (dk_at dksX5_begins_2 13 rfl rfl)
theorem dX5_begins_61 : decode cX5_begins 61 = .ok (.iconst 1, 1) := dk_4 (dk_at dksX5_begins_2 16 rfl rfl)
theorem dX5_begins_62 : decode cX5_begins 62 = .ok (.ireturn, 1) := dk_172 (dk_at dksX5_begins_2 17 rfl rfl)
abbrev cX5_isWord : ByteArray := prog_12_method_5_code
def yX5_isWord : MethodName := ⟨RX5, "isWord", "(Ljava/lang/String;)Z"⟩
def dkwX5_isWord_5 : List UInt8 := [132, 4, 1, 167, 255, 210, 29, 172]
abbrev dktX5_isWord_5 : List UInt8 := dkwX5_isWord_5 ++ []
def dkwX5_isWord_4 : List UInt8 := [180, 0, 23, 21, 4, 96, 51, 43, 21, 4, 182, 0, 57, 160, 0, 7, 4, 167, 0, 4, 3, 62]
abbrev dktX5_isWord_4 : List UInt8 := dkwX5_isWord_4 ++ dktX5_isWord_5
def dkwX5_isWord_3 : List UInt8 := [54, 4, 21, 4, 43, 182, 0, 52, 162, 0, 43, 29, 153, 0, 39, 42, 180, 0, 3, 180, 0, 29, 42]
abbrev dktX5_isWord_3 : List UInt8 := dkwX5_isWord_3 ++ dktX5_isWord_4
def dkwX5_isWord_2 : List UInt8 := [167, 255, 220, 28, 42, 180, 0, 23, 100, 43, 182, 0, 52, 160, 0, 7, 4, 167, 0, 4, 3, 62, 3]
abbrev dktX5_isWord_2 : List UInt8 := dkwX5_isWord_2 ++ dktX5_isWord_3
def dkwX5_isWord_1 : List UInt8 := [180, 0, 3, 180, 0, 29, 28, 51, 133, 20, 0, 48, 20, 0, 50, 184, 0, 41, 153, 0, 9, 132, 2, 1]
abbrev dktX5_isWord_1 : List UInt8 := dkwX5_isWord_1 ++ dktX5_isWord_2
def dkwX5_isWord_0 : List UInt8 := [42, 182, 0, 45, 87, 42, 180, 0, 23, 61, 28, 42, 180, 0, 3, 180, 0, 26, 162, 0, 31, 42]
abbrev dktX5_isWord_0 : List UInt8 := dkwX5_isWord_0 ++ dktX5_isWord_1
theorem dksX5_isWord_0 : cX5_isWord.data.toList.drop 0 = dktX5_isWord_0 := by decide +kernel
theorem dksX5_isWord_1 : cX5_isWord.data.toList.drop 22 = dktX5_isWord_1 := dk_seg dksX5_isWord_0 22 rfl rfl
theorem dksX5_isWord_2 : cX5_isWord.data.toList.drop 46 = dktX5_isWord_2 := dk_seg dksX5_isWord_1 24 rfl rfl
theorem dksX5_isWord_3 : cX5_isWord.data.toList.drop 69 = dktX5_isWord_3 := dk_seg dksX5_isWord_2 23 rfl rfl
theorem dksX5_isWord_4 : cX5_isWord.data.toList.drop 92 = dktX5_isWord_4 := dk_seg dksX5_isWord_3 23 rfl rfl
theorem dksX5_isWord_5 : cX5_isWord.data.toList.drop 114 = dktX5_isWord_5 := dk_seg dksX5_isWord_4 22 rfl rfl
theorem dX5_isWord_0 : decode cX5_isWord 0 = .ok (.aload_n 0, 1) := dk_42 (dk_at dksX5_isWord_0 0 rfl rfl)
theorem dX5_isWord_1 : decode cX5_isWord 1 = .ok (.invokevirtual 45, 3) := dk_182 0 45 (dk_at dksX5_isWord_0 1 rfl rfl)
theorem dX5_isWord_4 : decode cX5_isWord 4 = .ok (.pop, 1) := dk_87 (dk_at dksX5_isWord_0 4 rfl rfl)
theorem dX5_isWord_5 : decode cX5_isWord 5 = .ok (.aload_n 0, 1) := dk_42 (dk_at dksX5_isWord_0 5 rfl rfl)
theorem dX5_isWord_6 : decode cX5_isWord 6 = .ok (.getfield 23, 3) := dk_180 0 23 (dk_at dksX5_isWord_0 6 rfl rfl)
theorem dX5_isWord_9 : decode cX5_isWord 9 = .ok (.istore_n 2, 1) := dk_61 (dk_at dksX5_isWord_0 9 rfl rfl)
theorem dX5_isWord_10 : decode cX5_isWord 10 = .ok (.iload_n 2, 1) := dk_28 (dk_at dksX5_isWord_0 10 rfl rfl)
theorem dX5_isWord_11 : decode cX5_isWord 11 = .ok (.aload_n 0, 1) := dk_42 (dk_at dksX5_isWord_0 11 rfl rfl)
theorem dX5_isWord_12 : decode cX5_isWord 12 = .ok (.getfield 3, 3) := dk_180 0 3 (dk_at dksX5_isWord_0 12 rfl rfl)
theorem dX5_isWord_15 : decode cX5_isWord 15 = .ok (.getfield 26, 3) := dk_180 0 26 (dk_at dksX5_isWord_0 15 rfl rfl)
theorem dX5_isWord_18 : decode cX5_isWord 18 = .ok (.if_icmp .ge 31, 3) := dk_162 0 31 (dk_at dksX5_isWord_0 18 rfl rfl)
theorem dX5_isWord_21 : decode cX5_isWord 21 = .ok (.aload_n 0, 1) := dk_42 (dk_at dksX5_isWord_0 21 rfl rfl)
theorem dX5_isWord_22 : decode cX5_isWord 22 = .ok (.getfield 3, 3) := dk_180 0 3 (dk_at dksX5_isWord_1 0 rfl rfl)
theorem dX5_isWord_25 : decode cX5_isWord 25 = .ok (.getfield 29, 3) := dk_180 0 29 (dk_at dksX5_isWord_1 3 rfl rfl)
theorem dX5_isWord_28 : decode cX5_isWord 28 = .ok (.iload_n 2, 1) := dk_28 (dk_at dksX5_isWord_1 6 rfl rfl)
theorem dX5_isWord_29 : decode cX5_isWord 29 = .ok (.baload, 1) := dk_51 (dk_at dksX5_isWord_1 7 rfl rfl)
theorem dX5_isWord_30 : decode cX5_isWord 30 = .ok (.i2l, 1) := dk_133 (dk_at dksX5_isWord_1 8 rfl rfl)
theorem dX5_isWord_31 : decode cX5_isWord 31 = .ok (.ldc2_w 48, 3) := dk_20 0 48 (dk_at dksX5_isWord_1 9 rfl rfl)
theorem dX5_isWord_34 : decode cX5_isWord 34 = .ok (.ldc2_w 50, 3) := dk_20 0 50 (dk_at dksX5_isWord_1 12 rfl rfl)
theorem dX5_isWord_37 : decode cX5_isWord 37 = .ok (.invokestatic 41, 3) := dk_184 0 41 (dk_at dksX5_isWord_1 15 rfl rfl)
theorem dX5_isWord_40 : decode cX5_isWord 40 = .ok (.ifCond .eq 9, 3) := dk_153 0 9 (dk_at dksX5_isWord_1 18 rfl rfl)
theorem dX5_isWord_43 : decode cX5_isWord 43 = .ok (.iinc 2 1, 3) := dk_132 2 1 (dk_at dksX5_isWord_1 21 rfl rfl)
theorem dX5_isWord_46 : decode cX5_isWord 46 = .ok (.goto (-36), 3) := dk_167 255 220 (dk_at dksX5_isWord_2 0 rfl rfl)
theorem dX5_isWord_49 : decode cX5_isWord 49 = .ok (.iload_n 2, 1) := dk_28 (dk_at dksX5_isWord_2 3 rfl rfl)
theorem dX5_isWord_50 : decode cX5_isWord 50 = .ok (.aload_n 0, 1) := dk_42 (dk_at dksX5_isWord_2 4 rfl rfl)
theorem dX5_isWord_51 : decode cX5_isWord 51 = .ok (.getfield 23, 3) := dk_180 0 23 (dk_at dksX5_isWord_2 5 rfl rfl)
theorem dX5_isWord_54 : decode cX5_isWord 54 = .ok (.isub, 1) := dk_100 (dk_at dksX5_isWord_2 8 rfl rfl)
theorem dX5_isWord_55 : decode cX5_isWord 55 = .ok (.aload_n 1, 1) := dk_43 (dk_at dksX5_isWord_2 9 rfl rfl)
theorem dX5_isWord_56 : decode cX5_isWord 56 = .ok (.invokevirtual 52, 3) := dk_182 0 52 (dk_at dksX5_isWord_2 10 rfl rfl)
theorem dX5_isWord_59 : decode cX5_isWord 59 = .ok (.if_icmp .ne 7, 3) := dk_160 0 7 (dk_at dksX5_isWord_2 13 rfl rfl)
theorem dX5_isWord_62 : decode cX5_isWord 62 = .ok (.iconst 1, 1) := dk_4 (dk_at dksX5_isWord_2 16 rfl rfl)
theorem dX5_isWord_63 : decode cX5_isWord 63 = .ok (.goto 4, 3) := dk_167 0 4 (dk_at dksX5_isWord_2 17 rfl rfl)
theorem dX5_isWord_66 : decode cX5_isWord 66 = .ok (.iconst 0, 1) := dk_3 (dk_at dksX5_isWord_2 20 rfl rfl)
theorem dX5_isWord_67 : decode cX5_isWord 67 = .ok (.istore_n 3, 1) := dk_62 (dk_at dksX5_isWord_2 21 rfl rfl)
theorem dX5_isWord_68 : decode cX5_isWord 68 = .ok (.iconst 0, 1) := dk_3 (dk_at dksX5_isWord_2 22 rfl rfl)
theorem dX5_isWord_69 : decode cX5_isWord 69 = .ok (.istore 4, 2) := dk_54 4 (dk_at dksX5_isWord_3 0 rfl rfl)
theorem dX5_isWord_71 : decode cX5_isWord 71 = .ok (.iload 4, 2) := dk_21 4 (dk_at dksX5_isWord_3 2 rfl rfl)
theorem dX5_isWord_73 : decode cX5_isWord 73 = .ok (.aload_n 1, 1) := dk_43 (dk_at dksX5_isWord_3 4 rfl rfl)
theorem dX5_isWord_74 : decode cX5_isWord 74 = .ok (.invokevirtual 52, 3) := dk_182 0 52 (dk_at dksX5_isWord_3 5 rfl rfl)
theorem dX5_isWord_77 : decode cX5_isWord 77 = .ok (.if_icmp .ge 43, 3) := dk_162 0 43 (dk_at dksX5_isWord_3 8 rfl rfl)
theorem dX5_isWord_80 : decode cX5_isWord 80 = .ok (.iload_n 3, 1) := dk_29 (dk_at dksX5_isWord_3 11 rfl rfl)
theorem dX5_isWord_81 : decode cX5_isWord 81 = .ok (.ifCond .eq 39, 3) := dk_153 0 39 (dk_at dksX5_isWord_3 12 rfl rfl)
theorem dX5_isWord_84 : decode cX5_isWord 84 = .ok (.aload_n 0, 1) := dk_42 (dk_at dksX5_isWord_3 15 rfl rfl)
theorem dX5_isWord_85 : decode cX5_isWord 85 = .ok (.getfield 3, 3) := dk_180 0 3 (dk_at dksX5_isWord_3 16 rfl rfl)
theorem dX5_isWord_88 : decode cX5_isWord 88 = .ok (.getfield 29, 3) := dk_180 0 29 (dk_at dksX5_isWord_3 19 rfl rfl)
theorem dX5_isWord_91 : decode cX5_isWord 91 = .ok (.aload_n 0, 1) := dk_42 (dk_at dksX5_isWord_3 22 rfl rfl)
theorem dX5_isWord_92 : decode cX5_isWord 92 = .ok (.getfield 23, 3) := dk_180 0 23 (dk_at dksX5_isWord_4 0 rfl rfl)
theorem dX5_isWord_95 : decode cX5_isWord 95 = .ok (.iload 4, 2) := dk_21 4 (dk_at dksX5_isWord_4 3 rfl rfl)
theorem dX5_isWord_97 : decode cX5_isWord 97 = .ok (.iadd, 1) := dk_96 (dk_at dksX5_isWord_4 5 rfl rfl)
theorem dX5_isWord_98 : decode cX5_isWord 98 = .ok (.baload, 1) := dk_51 (dk_at dksX5_isWord_4 6 rfl rfl)
theorem dX5_isWord_99 : decode cX5_isWord 99 = .ok (.aload_n 1, 1) := dk_43 (dk_at dksX5_isWord_4 7 rfl rfl)
theorem dX5_isWord_100 : decode cX5_isWord 100 = .ok (.iload 4, 2) := dk_21 4 (dk_at dksX5_isWord_4 8 rfl rfl)
theorem dX5_isWord_102 : decode cX5_isWord 102 = .ok (.invokevirtual 57, 3) := dk_182 0 57 (dk_at dksX5_isWord_4 10 rfl rfl)
theorem dX5_isWord_105 : decode cX5_isWord 105 = .ok (.if_icmp .ne 7, 3) := dk_160 0 7 (dk_at dksX5_isWord_4 13 rfl rfl)
theorem dX5_isWord_108 : decode cX5_isWord 108 = .ok (.iconst 1, 1) := dk_4 (dk_at dksX5_isWord_4 16 rfl rfl)
theorem dX5_isWord_109 : decode cX5_isWord 109 = .ok (.goto 4, 3) := dk_167 0 4 (dk_at dksX5_isWord_4 17 rfl rfl)
theorem dX5_isWord_112 : decode cX5_isWord 112 = .ok (.iconst 0, 1) := dk_3 (dk_at dksX5_isWord_4 20 rfl rfl)
theorem dX5_isWord_113 : decode cX5_isWord 113 = .ok (.istore_n 3, 1) := dk_62 (dk_at dksX5_isWord_4 21 rfl rfl)
theorem dX5_isWord_114 : decode cX5_isWord 114 = .ok (.iinc 4 1, 3) := dk_132 4 1 (dk_at dksX5_isWord_5 0 rfl rfl)
theorem dX5_isWord_117 : decode cX5_isWord 117 = .ok (.goto (-46), 3) := dk_167 255 210 (dk_at dksX5_isWord_5 3 rfl rfl)
theorem dX5_isWord_120 : decode cX5_isWord 120 = .ok (.iload_n 3, 1) := dk_29 (dk_at dksX5_isWord_5 6 rfl rfl)
theorem dX5_isWord_121 : decode cX5_isWord 121 = .ok (.ireturn, 1) := dk_172 (dk_at dksX5_isWord_5 7 rfl rfl)
abbrev cX5_next : ByteArray := prog_12_method_3_code
def yX5_next : MethodName := ⟨RX5, "next", "()I"⟩
def dkwX5_next_1 : List UInt8 := [182, 0, 33, 172]
abbrev dktX5_next_1 : List UInt8 := dkwX5_next_1 ++ []
def dkwX5_next_0 : List UInt8 := [42, 182, 0, 33, 16, 32, 160, 0, 16, 42, 89, 180, 0, 23, 4, 96, 181, 0, 23, 167, 255, 237, 42]
abbrev dktX5_next_0 : List UInt8 := dkwX5_next_0 ++ dktX5_next_1
theorem dksX5_next_0 : cX5_next.data.toList.drop 0 = dktX5_next_0 := by decide +kernel
theorem dksX5_next_1 : cX5_next.data.toList.drop 23 = dktX5_next_1 := dk_seg dksX5_next_0 23 rfl rfl
theorem dX5_next_0 : decode cX5_next 0 = .ok (.aload_n 0, 1) := dk_42 (dk_at dksX5_next_0 0 rfl rfl)
theorem dX5_next_1 : decode cX5_next 1 = .ok (.invokevirtual 33, 3) := dk_182 0 33 (dk_at dksX5_next_0 1 rfl rfl)
theorem dX5_next_4 : decode cX5_next 4 = .ok (.bipush 32, 2) := dk_16 32 (dk_at dksX5_next_0 4 rfl rfl)
theorem dX5_next_6 : decode cX5_next 6 = .ok (.if_icmp .ne 16, 3) := dk_160 0 16 (dk_at dksX5_next_0 6 rfl rfl)
theorem dX5_next_9 : decode cX5_next 9 = .ok (.aload_n 0, 1) := dk_42 (dk_at dksX5_next_0 9 rfl rfl)
theorem dX5_next_10 : decode cX5_next 10 = .ok (.dup, 1) := dk_89 (dk_at dksX5_next_0 10 rfl rfl)
theorem dX5_next_11 : decode cX5_next 11 = .ok (.getfield 23, 3) := dk_180 0 23 (dk_at dksX5_next_0 11 rfl rfl)
theorem dX5_next_14 : decode cX5_next 14 = .ok (.iconst 1, 1) := dk_4 (dk_at dksX5_next_0 14 rfl rfl)
theorem dX5_next_15 : decode cX5_next 15 = .ok (.iadd, 1) := dk_96 (dk_at dksX5_next_0 15 rfl rfl)
theorem dX5_next_16 : decode cX5_next 16 = .ok (.putfield 23, 3) := dk_181 0 23 (dk_at dksX5_next_0 16 rfl rfl)
theorem dX5_next_19 : decode cX5_next 19 = .ok (.goto (-19), 3) := dk_167 255 237 (dk_at dksX5_next_0 19 rfl rfl)
theorem dX5_next_22 : decode cX5_next 22 = .ok (.aload_n 0, 1) := dk_42 (dk_at dksX5_next_0 22 rfl rfl)
theorem dX5_next_23 : decode cX5_next 23 = .ok (.invokevirtual 33, 3) := dk_182 0 33 (dk_at dksX5_next_1 0 rfl rfl)
theorem dX5_next_26 : decode cX5_next 26 = .ok (.ireturn, 1) := dk_172 (dk_at dksX5_next_1 3 rfl rfl)
abbrev cX5_sign : ByteArray := prog_12_method_2_code
def yX5_sign : MethodName := ⟨RX5, "sign", "()I"⟩
def dkwX5_sign_1 : List UInt8 := [180, 0, 23, 51, 17, 0, 255, 126, 167, 0, 4, 2, 172]
abbrev dktX5_sign_1 : List UInt8 := dkwX5_sign_1 ++ []
def dkwX5_sign_0 : List UInt8 := [42, 180, 0, 23, 42, 180, 0, 3, 180, 0, 26, 162, 0, 22, 42, 180, 0, 3, 180, 0, 29, 42]
abbrev dktX5_sign_0 : List UInt8 := dkwX5_sign_0 ++ dktX5_sign_1
theorem dksX5_sign_0 : cX5_sign.data.toList.drop 0 = dktX5_sign_0 := by decide +kernel
theorem dksX5_sign_1 : cX5_sign.data.toList.drop 22 = dktX5_sign_1 := dk_seg dksX5_sign_0 22 rfl rfl
theorem dX5_sign_0 : decode cX5_sign 0 = .ok (.aload_n 0, 1) := dk_42 (dk_at dksX5_sign_0 0 rfl rfl)
theorem dX5_sign_1 : decode cX5_sign 1 = .ok (.getfield 23, 3) := dk_180 0 23 (dk_at dksX5_sign_0 1 rfl rfl)
theorem dX5_sign_4 : decode cX5_sign 4 = .ok (.aload_n 0, 1) := dk_42 (dk_at dksX5_sign_0 4 rfl rfl)
theorem dX5_sign_5 : decode cX5_sign 5 = .ok (.getfield 3, 3) := dk_180 0 3 (dk_at dksX5_sign_0 5 rfl rfl)
theorem dX5_sign_8 : decode cX5_sign 8 = .ok (.getfield 26, 3) := dk_180 0 26 (dk_at dksX5_sign_0 8 rfl rfl)
theorem dX5_sign_11 : decode cX5_sign 11 = .ok (.if_icmp .ge 22, 3) := dk_162 0 22 (dk_at dksX5_sign_0 11 rfl rfl)
theorem dX5_sign_14 : decode cX5_sign 14 = .ok (.aload_n 0, 1) := dk_42 (dk_at dksX5_sign_0 14 rfl rfl)
theorem dX5_sign_15 : decode cX5_sign 15 = .ok (.getfield 3, 3) := dk_180 0 3 (dk_at dksX5_sign_0 15 rfl rfl)
theorem dX5_sign_18 : decode cX5_sign 18 = .ok (.getfield 29, 3) := dk_180 0 29 (dk_at dksX5_sign_0 18 rfl rfl)
theorem dX5_sign_21 : decode cX5_sign 21 = .ok (.aload_n 0, 1) := dk_42 (dk_at dksX5_sign_0 21 rfl rfl)
theorem dX5_sign_22 : decode cX5_sign 22 = .ok (.getfield 23, 3) := dk_180 0 23 (dk_at dksX5_sign_1 0 rfl rfl)
theorem dX5_sign_25 : decode cX5_sign 25 = .ok (.baload, 1) := dk_51 (dk_at dksX5_sign_1 3 rfl rfl)
theorem dX5_sign_26 : decode cX5_sign 26 = .ok (.sipush 255, 3) := dk_17 0 255 (dk_at dksX5_sign_1 4 rfl rfl)
theorem dX5_sign_29 : decode cX5_sign 29 = .ok (.iand, 1) := dk_126 (dk_at dksX5_sign_1 7 rfl rfl)
theorem dX5_sign_30 : decode cX5_sign 30 = .ok (.goto 4, 3) := dk_167 0 4 (dk_at dksX5_sign_1 8 rfl rfl)
theorem dX5_sign_33 : decode cX5_sign 33 = .ok (.iconst (-1), 1) := dk_2 (dk_at dksX5_sign_1 11 rfl rfl)
theorem dX5_sign_34 : decode cX5_sign 34 = .ok (.ireturn, 1) := dk_172 (dk_at dksX5_sign_1 12 rfl rfl)
abbrev cX5_stalls : ByteArray := prog_12_method_19_code
def yX5_stalls : MethodName := ⟨RX5, "stalls", "(LHalfFair$Fair;)V"⟩
def dkwX5_stalls_0 : List UInt8 := [43, 42, 5, 16, 8, 182, 0, 82, 181, 0, 150, 43, 42, 3, 16, 7, 182, 0, 82, 181, 0, 180, 177]
abbrev dktX5_stalls_0 : List UInt8 := dkwX5_stalls_0 ++ []
theorem dksX5_stalls_0 : cX5_stalls.data.toList.drop 0 = dktX5_stalls_0 := by decide +kernel
theorem dX5_stalls_0 : decode cX5_stalls 0 = .ok (.aload_n 1, 1) := dk_43 (dk_at dksX5_stalls_0 0 rfl rfl)
theorem dX5_stalls_1 : decode cX5_stalls 1 = .ok (.aload_n 0, 1) := dk_42 (dk_at dksX5_stalls_0 1 rfl rfl)
theorem dX5_stalls_2 : decode cX5_stalls 2 = .ok (.iconst 2, 1) := dk_5 (dk_at dksX5_stalls_0 2 rfl rfl)
theorem dX5_stalls_3 : decode cX5_stalls 3 = .ok (.bipush 8, 2) := dk_16 8 (dk_at dksX5_stalls_0 3 rfl rfl)
theorem dX5_stalls_5 : decode cX5_stalls 5 = .ok (.invokevirtual 82, 3) := dk_182 0 82 (dk_at dksX5_stalls_0 5 rfl rfl)
theorem dX5_stalls_8 : decode cX5_stalls 8 = .ok (.putfield 150, 3) := dk_181 0 150 (dk_at dksX5_stalls_0 8 rfl rfl)
theorem dX5_stalls_11 : decode cX5_stalls 11 = .ok (.aload_n 1, 1) := dk_43 (dk_at dksX5_stalls_0 11 rfl rfl)
theorem dX5_stalls_12 : decode cX5_stalls 12 = .ok (.aload_n 0, 1) := dk_42 (dk_at dksX5_stalls_0 12 rfl rfl)
theorem dX5_stalls_13 : decode cX5_stalls 13 = .ok (.iconst 0, 1) := dk_3 (dk_at dksX5_stalls_0 13 rfl rfl)
theorem dX5_stalls_14 : decode cX5_stalls 14 = .ok (.bipush 7, 2) := dk_16 7 (dk_at dksX5_stalls_0 14 rfl rfl)
theorem dX5_stalls_16 : decode cX5_stalls 16 = .ok (.invokevirtual 82, 3) := dk_182 0 82 (dk_at dksX5_stalls_0 16 rfl rfl)
theorem dX5_stalls_19 : decode cX5_stalls 19 = .ok (.putfield 180, 3) := dk_181 0 180 (dk_at dksX5_stalls_0 19 rfl rfl)
theorem dX5_stalls_22 : decode cX5_stalls 22 = .ok (.return_, 1) := dk_177 (dk_at dksX5_stalls_0 22 rfl rfl)
abbrev cX5_number : ByteArray := prog_12_method_7_code
def yX5_number : MethodName := ⟨RX5, "number", "(II)I"⟩
def dkwX5_number_4 : List UInt8 := [133, 27, 133, 28, 133, 184, 0, 41, 154, 0, 13, 42, 180, 0, 3, 4, 29, 182, 0, 69, 191, 21, 4, 172]
abbrev dktX5_number_4 : List UInt8 := dkwX5_number_4 ++ []
def dkwX5_number_3 : List UInt8 := [89, 180, 0, 23, 4, 96, 181, 0, 23, 167, 255, 209, 42, 180, 0, 23, 29, 100, 8, 163, 0, 16, 21, 4]
abbrev dktX5_number_3 : List UInt8 := dkwX5_number_3 ++ dktX5_number_4
def dkwX5_number_2 : List UInt8 := [162, 0, 19, 16, 10, 21, 4, 104, 42, 182, 0, 33, 96, 16, 48, 100, 167, 0, 5, 21, 4, 54, 4, 42]
abbrev dktX5_number_2 : List UInt8 := dkwX5_number_2 ++ dktX5_number_3
def dkwX5_number_1 : List UInt8 := [191, 42, 180, 0, 23, 62, 3, 54, 4, 42, 182, 0, 65, 153, 0, 46, 42, 180, 0, 23, 29, 100, 8]
abbrev dktX5_number_1 : List UInt8 := dkwX5_number_1 ++ dktX5_number_2
def dkwX5_number_0 : List UInt8 := [42, 182, 0, 45, 87, 42, 182, 0, 65, 154, 0, 16, 42, 180, 0, 3, 3, 42, 180, 0, 23, 182, 0, 69]
abbrev dktX5_number_0 : List UInt8 := dkwX5_number_0 ++ dktX5_number_1
theorem dksX5_number_0 : cX5_number.data.toList.drop 0 = dktX5_number_0 := by decide +kernel
theorem dksX5_number_1 : cX5_number.data.toList.drop 24 = dktX5_number_1 := dk_seg dksX5_number_0 24 rfl rfl
theorem dksX5_number_2 : cX5_number.data.toList.drop 47 = dktX5_number_2 := dk_seg dksX5_number_1 23 rfl rfl
theorem dksX5_number_3 : cX5_number.data.toList.drop 71 = dktX5_number_3 := dk_seg dksX5_number_2 24 rfl rfl
theorem dksX5_number_4 : cX5_number.data.toList.drop 95 = dktX5_number_4 := dk_seg dksX5_number_3 24 rfl rfl
theorem dX5_number_0 : decode cX5_number 0 = .ok (.aload_n 0, 1) := dk_42 (dk_at dksX5_number_0 0 rfl rfl)
theorem dX5_number_1 : decode cX5_number 1 = .ok (.invokevirtual 45, 3) := dk_182 0 45 (dk_at dksX5_number_0 1 rfl rfl)
theorem dX5_number_4 : decode cX5_number 4 = .ok (.pop, 1) := dk_87 (dk_at dksX5_number_0 4 rfl rfl)
theorem dX5_number_5 : decode cX5_number 5 = .ok (.aload_n 0, 1) := dk_42 (dk_at dksX5_number_0 5 rfl rfl)
theorem dX5_number_6 : decode cX5_number 6 = .ok (.invokevirtual 65, 3) := dk_182 0 65 (dk_at dksX5_number_0 6 rfl rfl)
theorem dX5_number_9 : decode cX5_number 9 = .ok (.ifCond .ne 16, 3) := dk_154 0 16 (dk_at dksX5_number_0 9 rfl rfl)
theorem dX5_number_12 : decode cX5_number 12 = .ok (.aload_n 0, 1) := dk_42 (dk_at dksX5_number_0 12 rfl rfl)
theorem dX5_number_13 : decode cX5_number 13 = .ok (.getfield 3, 3) := dk_180 0 3 (dk_at dksX5_number_0 13 rfl rfl)
theorem dX5_number_16 : decode cX5_number 16 = .ok (.iconst 0, 1) := dk_3 (dk_at dksX5_number_0 16 rfl rfl)
theorem dX5_number_17 : decode cX5_number 17 = .ok (.aload_n 0, 1) := dk_42 (dk_at dksX5_number_0 17 rfl rfl)
theorem dX5_number_18 : decode cX5_number 18 = .ok (.getfield 23, 3) := dk_180 0 23 (dk_at dksX5_number_0 18 rfl rfl)
theorem dX5_number_21 : decode cX5_number 21 = .ok (.invokevirtual 69, 3) := dk_182 0 69 (dk_at dksX5_number_0 21 rfl rfl)
theorem dX5_number_24 : decode cX5_number 24 = .ok (.athrow, 1) := dk_191 (dk_at dksX5_number_1 0 rfl rfl)
theorem dX5_number_25 : decode cX5_number 25 = .ok (.aload_n 0, 1) := dk_42 (dk_at dksX5_number_1 1 rfl rfl)
theorem dX5_number_26 : decode cX5_number 26 = .ok (.getfield 23, 3) := dk_180 0 23 (dk_at dksX5_number_1 2 rfl rfl)
theorem dX5_number_29 : decode cX5_number 29 = .ok (.istore_n 3, 1) := dk_62 (dk_at dksX5_number_1 5 rfl rfl)
theorem dX5_number_30 : decode cX5_number 30 = .ok (.iconst 0, 1) := dk_3 (dk_at dksX5_number_1 6 rfl rfl)
theorem dX5_number_31 : decode cX5_number 31 = .ok (.istore 4, 2) := dk_54 4 (dk_at dksX5_number_1 7 rfl rfl)
theorem dX5_number_33 : decode cX5_number 33 = .ok (.aload_n 0, 1) := dk_42 (dk_at dksX5_number_1 9 rfl rfl)
theorem dX5_number_34 : decode cX5_number 34 = .ok (.invokevirtual 65, 3) := dk_182 0 65 (dk_at dksX5_number_1 10 rfl rfl)
theorem dX5_number_37 : decode cX5_number 37 = .ok (.ifCond .eq 46, 3) := dk_153 0 46 (dk_at dksX5_number_1 13 rfl rfl)
theorem dX5_number_40 : decode cX5_number 40 = .ok (.aload_n 0, 1) := dk_42 (dk_at dksX5_number_1 16 rfl rfl)
theorem dX5_number_41 : decode cX5_number 41 = .ok (.getfield 23, 3) := dk_180 0 23 (dk_at dksX5_number_1 17 rfl rfl)
theorem dX5_number_44 : decode cX5_number 44 = .ok (.iload_n 3, 1) := dk_29 (dk_at dksX5_number_1 20 rfl rfl)
theorem dX5_number_45 : decode cX5_number 45 = .ok (.isub, 1) := dk_100 (dk_at dksX5_number_1 21 rfl rfl)
theorem dX5_number_46 : decode cX5_number 46 = .ok (.iconst 5, 1) := dk_8 (dk_at dksX5_number_1 22 rfl rfl)
theorem dX5_number_47 : decode cX5_number 47 = .ok (.if_icmp .ge 19, 3) := dk_162 0 19 (dk_at dksX5_number_2 0 rfl rfl)
theorem dX5_number_50 : decode cX5_number 50 = .ok (.bipush 10, 2) := dk_16 10 (dk_at dksX5_number_2 3 rfl rfl)
theorem dX5_number_52 : decode cX5_number 52 = .ok (.iload 4, 2) := dk_21 4 (dk_at dksX5_number_2 5 rfl rfl)
theorem dX5_number_54 : decode cX5_number 54 = .ok (.imul, 1) := dk_104 (dk_at dksX5_number_2 7 rfl rfl)
theorem dX5_number_55 : decode cX5_number 55 = .ok (.aload_n 0, 1) := dk_42 (dk_at dksX5_number_2 8 rfl rfl)
theorem dX5_number_56 : decode cX5_number 56 = .ok (.invokevirtual 33, 3) := dk_182 0 33 (dk_at dksX5_number_2 9 rfl rfl)
theorem dX5_number_59 : decode cX5_number 59 = .ok (.iadd, 1) := dk_96 (dk_at dksX5_number_2 12 rfl rfl)
theorem dX5_number_60 : decode cX5_number 60 = .ok (.bipush 48, 2) := dk_16 48 (dk_at dksX5_number_2 13 rfl rfl)
theorem dX5_number_62 : decode cX5_number 62 = .ok (.isub, 1) := dk_100 (dk_at dksX5_number_2 15 rfl rfl)
theorem dX5_number_63 : decode cX5_number 63 = .ok (.goto 5, 3) := dk_167 0 5 (dk_at dksX5_number_2 16 rfl rfl)
theorem dX5_number_66 : decode cX5_number 66 = .ok (.iload 4, 2) := dk_21 4 (dk_at dksX5_number_2 19 rfl rfl)
theorem dX5_number_68 : decode cX5_number 68 = .ok (.istore 4, 2) := dk_54 4 (dk_at dksX5_number_2 21 rfl rfl)
theorem dX5_number_70 : decode cX5_number 70 = .ok (.aload_n 0, 1) := dk_42 (dk_at dksX5_number_2 23 rfl rfl)
theorem dX5_number_71 : decode cX5_number 71 = .ok (.dup, 1) := dk_89 (dk_at dksX5_number_3 0 rfl rfl)
theorem dX5_number_72 : decode cX5_number 72 = .ok (.getfield 23, 3) := dk_180 0 23 (dk_at dksX5_number_3 1 rfl rfl)
theorem dX5_number_75 : decode cX5_number 75 = .ok (.iconst 1, 1) := dk_4 (dk_at dksX5_number_3 4 rfl rfl)
theorem dX5_number_76 : decode cX5_number 76 = .ok (.iadd, 1) := dk_96 (dk_at dksX5_number_3 5 rfl rfl)
theorem dX5_number_77 : decode cX5_number 77 = .ok (.putfield 23, 3) := dk_181 0 23 (dk_at dksX5_number_3 6 rfl rfl)
theorem dX5_number_80 : decode cX5_number 80 = .ok (.goto (-47), 3) := dk_167 255 209 (dk_at dksX5_number_3 9 rfl rfl)
theorem dX5_number_83 : decode cX5_number 83 = .ok (.aload_n 0, 1) := dk_42 (dk_at dksX5_number_3 12 rfl rfl)
theorem dX5_number_84 : decode cX5_number 84 = .ok (.getfield 23, 3) := dk_180 0 23 (dk_at dksX5_number_3 13 rfl rfl)
theorem dX5_number_87 : decode cX5_number 87 = .ok (.iload_n 3, 1) := dk_29 (dk_at dksX5_number_3 16 rfl rfl)
theorem dX5_number_88 : decode cX5_number 88 = .ok (.isub, 1) := dk_100 (dk_at dksX5_number_3 17 rfl rfl)
theorem dX5_number_89 : decode cX5_number 89 = .ok (.iconst 5, 1) := dk_8 (dk_at dksX5_number_3 18 rfl rfl)
theorem dX5_number_90 : decode cX5_number 90 = .ok (.if_icmp .gt 16, 3) := dk_163 0 16 (dk_at dksX5_number_3 19 rfl rfl)
theorem dX5_number_93 : decode cX5_number 93 = .ok (.iload 4, 2) := dk_21 4 (dk_at dksX5_number_3 22 rfl rfl)
theorem dX5_number_95 : decode cX5_number 95 = .ok (.i2l, 1) := dk_133 (dk_at dksX5_number_4 0 rfl rfl)
theorem dX5_number_96 : decode cX5_number 96 = .ok (.iload_n 1, 1) := dk_27 (dk_at dksX5_number_4 1 rfl rfl)
theorem dX5_number_97 : decode cX5_number 97 = .ok (.i2l, 1) := dk_133 (dk_at dksX5_number_4 2 rfl rfl)
theorem dX5_number_98 : decode cX5_number 98 = .ok (.iload_n 2, 1) := dk_28 (dk_at dksX5_number_4 3 rfl rfl)
theorem dX5_number_99 : decode cX5_number 99 = .ok (.i2l, 1) := dk_133 (dk_at dksX5_number_4 4 rfl rfl)
theorem dX5_number_100 : decode cX5_number 100 = .ok (.invokestatic 41, 3) := dk_184 0 41 (dk_at dksX5_number_4 5 rfl rfl)
theorem dX5_number_103 : decode cX5_number 103 = .ok (.ifCond .ne 13, 3) := dk_154 0 13 (dk_at dksX5_number_4 8 rfl rfl)
theorem dX5_number_106 : decode cX5_number 106 = .ok (.aload_n 0, 1) := dk_42 (dk_at dksX5_number_4 11 rfl rfl)
theorem dX5_number_107 : decode cX5_number 107 = .ok (.getfield 3, 3) := dk_180 0 3 (dk_at dksX5_number_4 12 rfl rfl)
theorem dX5_number_110 : decode cX5_number 110 = .ok (.iconst 1, 1) := dk_4 (dk_at dksX5_number_4 15 rfl rfl)
theorem dX5_number_111 : decode cX5_number 111 = .ok (.iload_n 3, 1) := dk_29 (dk_at dksX5_number_4 16 rfl rfl)
theorem dX5_number_112 : decode cX5_number 112 = .ok (.invokevirtual 69, 3) := dk_182 0 69 (dk_at dksX5_number_4 17 rfl rfl)
theorem dX5_number_115 : decode cX5_number 115 = .ok (.athrow, 1) := dk_191 (dk_at dksX5_number_4 20 rfl rfl)
theorem dX5_number_116 : decode cX5_number 116 = .ok (.iload 4, 2) := dk_21 4 (dk_at dksX5_number_4 21 rfl rfl)
theorem dX5_number_118 : decode cX5_number 118 = .ok (.ireturn, 1) := dk_172 (dk_at dksX5_number_4 23 rfl rfl)
abbrev cX5_isDigit : ByteArray := prog_12_method_4_code
def yX5_isDigit : MethodName := ⟨RX5, "isDigit", "()Z"⟩
def dkwX5_isDigit_0 : List UInt8 := [42, 182, 0, 33, 133, 20, 0, 37, 20, 0, 39, 184, 0, 41, 172]
abbrev dktX5_isDigit_0 : List UInt8 := dkwX5_isDigit_0 ++ []
theorem dksX5_isDigit_0 : cX5_isDigit.data.toList.drop 0 = dktX5_isDigit_0 := by decide +kernel
theorem dX5_isDigit_0 : decode cX5_isDigit 0 = .ok (.aload_n 0, 1) := dk_42 (dk_at dksX5_isDigit_0 0 rfl rfl)
theorem dX5_isDigit_1 : decode cX5_isDigit 1 = .ok (.invokevirtual 33, 3) := dk_182 0 33 (dk_at dksX5_isDigit_0 1 rfl rfl)
theorem dX5_isDigit_4 : decode cX5_isDigit 4 = .ok (.i2l, 1) := dk_133 (dk_at dksX5_isDigit_0 4 rfl rfl)
theorem dX5_isDigit_5 : decode cX5_isDigit 5 = .ok (.ldc2_w 37, 3) := dk_20 0 37 (dk_at dksX5_isDigit_0 5 rfl rfl)
theorem dX5_isDigit_8 : decode cX5_isDigit 8 = .ok (.ldc2_w 39, 3) := dk_20 0 39 (dk_at dksX5_isDigit_0 8 rfl rfl)
theorem dX5_isDigit_11 : decode cX5_isDigit 11 = .ok (.invokestatic 41, 3) := dk_184 0 41 (dk_at dksX5_isDigit_0 11 rfl rfl)
theorem dX5_isDigit_14 : decode cX5_isDigit 14 = .ok (.ireturn, 1) := dk_172 (dk_at dksX5_isDigit_0 14 rfl rfl)
abbrev cX5_half : ByteArray := prog_12_method_17_code
def yX5_half : MethodName := ⟨RX5, "half", "(LHalfFair$Fair;)V"⟩
def dkwX5_half_2 : List UInt8 := [183, 0, 161, 182, 0, 164, 87, 177]
abbrev dktX5_half_2 : List UInt8 := dkwX5_half_2 ++ []
def dkwX5_half_1 : List UInt8 := [182, 0, 82, 54, 4, 43, 180, 0, 155, 187, 0, 159, 89, 28, 29, 21, 4, 42, 4, 16, 99, 182, 0, 82]
abbrev dktX5_half_1 : List UInt8 := dkwX5_half_1 ++ dktX5_half_2
def dkwX5_half_0 : List UInt8 := [42, 3, 43, 180, 0, 150, 4, 100, 182, 0, 82, 61, 42, 3, 16, 99, 182, 0, 82, 62, 42, 3, 4]
abbrev dktX5_half_0 : List UInt8 := dkwX5_half_0 ++ dktX5_half_1
theorem dksX5_half_0 : cX5_half.data.toList.drop 0 = dktX5_half_0 := by decide +kernel
theorem dksX5_half_1 : cX5_half.data.toList.drop 23 = dktX5_half_1 := dk_seg dksX5_half_0 23 rfl rfl
theorem dksX5_half_2 : cX5_half.data.toList.drop 47 = dktX5_half_2 := dk_seg dksX5_half_1 24 rfl rfl
theorem dX5_half_0 : decode cX5_half 0 = .ok (.aload_n 0, 1) := dk_42 (dk_at dksX5_half_0 0 rfl rfl)
theorem dX5_half_1 : decode cX5_half 1 = .ok (.iconst 0, 1) := dk_3 (dk_at dksX5_half_0 1 rfl rfl)
theorem dX5_half_2 : decode cX5_half 2 = .ok (.aload_n 1, 1) := dk_43 (dk_at dksX5_half_0 2 rfl rfl)
theorem dX5_half_3 : decode cX5_half 3 = .ok (.getfield 150, 3) := dk_180 0 150 (dk_at dksX5_half_0 3 rfl rfl)
theorem dX5_half_6 : decode cX5_half 6 = .ok (.iconst 1, 1) := dk_4 (dk_at dksX5_half_0 6 rfl rfl)
theorem dX5_half_7 : decode cX5_half 7 = .ok (.isub, 1) := dk_100 (dk_at dksX5_half_0 7 rfl rfl)
theorem dX5_half_8 : decode cX5_half 8 = .ok (.invokevirtual 82, 3) := dk_182 0 82 (dk_at dksX5_half_0 8 rfl rfl)
theorem dX5_half_11 : decode cX5_half 11 = .ok (.istore_n 2, 1) := dk_61 (dk_at dksX5_half_0 11 rfl rfl)
theorem dX5_half_12 : decode cX5_half 12 = .ok (.aload_n 0, 1) := dk_42 (dk_at dksX5_half_0 12 rfl rfl)
theorem dX5_half_13 : decode cX5_half 13 = .ok (.iconst 0, 1) := dk_3 (dk_at dksX5_half_0 13 rfl rfl)
theorem dX5_half_14 : decode cX5_half 14 = .ok (.bipush 99, 2) := dk_16 99 (dk_at dksX5_half_0 14 rfl rfl)
theorem dX5_half_16 : decode cX5_half 16 = .ok (.invokevirtual 82, 3) := dk_182 0 82 (dk_at dksX5_half_0 16 rfl rfl)
theorem dX5_half_19 : decode cX5_half 19 = .ok (.istore_n 3, 1) := dk_62 (dk_at dksX5_half_0 19 rfl rfl)
theorem dX5_half_20 : decode cX5_half 20 = .ok (.aload_n 0, 1) := dk_42 (dk_at dksX5_half_0 20 rfl rfl)
theorem dX5_half_21 : decode cX5_half 21 = .ok (.iconst 0, 1) := dk_3 (dk_at dksX5_half_0 21 rfl rfl)
theorem dX5_half_22 : decode cX5_half 22 = .ok (.iconst 1, 1) := dk_4 (dk_at dksX5_half_0 22 rfl rfl)
theorem dX5_half_23 : decode cX5_half 23 = .ok (.invokevirtual 82, 3) := dk_182 0 82 (dk_at dksX5_half_1 0 rfl rfl)
theorem dX5_half_26 : decode cX5_half 26 = .ok (.istore 4, 2) := dk_54 4 (dk_at dksX5_half_1 3 rfl rfl)
theorem dX5_half_28 : decode cX5_half 28 = .ok (.aload_n 1, 1) := dk_43 (dk_at dksX5_half_1 5 rfl rfl)
theorem dX5_half_29 : decode cX5_half 29 = .ok (.getfield 155, 3) := dk_180 0 155 (dk_at dksX5_half_1 6 rfl rfl)
theorem dX5_half_32 : decode cX5_half 32 = .ok (.new 159, 3) := dk_187 0 159 (dk_at dksX5_half_1 9 rfl rfl)
theorem dX5_half_35 : decode cX5_half 35 = .ok (.dup, 1) := dk_89 (dk_at dksX5_half_1 12 rfl rfl)
theorem dX5_half_36 : decode cX5_half 36 = .ok (.iload_n 2, 1) := dk_28 (dk_at dksX5_half_1 13 rfl rfl)
theorem dX5_half_37 : decode cX5_half 37 = .ok (.iload_n 3, 1) := dk_29 (dk_at dksX5_half_1 14 rfl rfl)
theorem dX5_half_38 : decode cX5_half 38 = .ok (.iload 4, 2) := dk_21 4 (dk_at dksX5_half_1 15 rfl rfl)
theorem dX5_half_40 : decode cX5_half 40 = .ok (.aload_n 0, 1) := dk_42 (dk_at dksX5_half_1 17 rfl rfl)
theorem dX5_half_41 : decode cX5_half 41 = .ok (.iconst 1, 1) := dk_4 (dk_at dksX5_half_1 18 rfl rfl)
theorem dX5_half_42 : decode cX5_half 42 = .ok (.bipush 99, 2) := dk_16 99 (dk_at dksX5_half_1 19 rfl rfl)
theorem dX5_half_44 : decode cX5_half 44 = .ok (.invokevirtual 82, 3) := dk_182 0 82 (dk_at dksX5_half_1 21 rfl rfl)
theorem dX5_half_47 : decode cX5_half 47 = .ok (.invokespecial 161, 3) := dk_183 0 161 (dk_at dksX5_half_2 0 rfl rfl)
theorem dX5_half_50 : decode cX5_half 50 = .ok (.invokevirtual 164, 3) := dk_182 0 164 (dk_at dksX5_half_2 3 rfl rfl)
theorem dX5_half_53 : decode cX5_half 53 = .ok (.pop, 1) := dk_87 (dk_at dksX5_half_2 6 rfl rfl)
theorem dX5_half_54 : decode cX5_half 54 = .ok (.return_, 1) := dk_177 (dk_at dksX5_half_2 7 rfl rfl)
abbrev cX5_club : ByteArray := prog_12_method_18_code
def yX5_club : MethodName := ⟨RX5, "club", "(LHalfFair$Fair;)V"⟩
def dkwX5_club_2 : List UInt8 := [180, 0, 3, 4, 29, 182, 0, 69, 191, 43, 28, 21, 4, 182, 0, 176, 177]
abbrev dktX5_club_2 : List UInt8 := dkwX5_club_2 ++ []
def dkwX5_club_1 : List UInt8 := [62, 42, 3, 43, 180, 0, 170, 182, 0, 173, 4, 100, 182, 0, 82, 54, 4, 21, 4, 28, 160, 0, 13, 42]
abbrev dktX5_club_1 : List UInt8 := dkwX5_club_1 ++ dktX5_club_2
def dkwX5_club_0 : List UInt8 := [42, 3, 43, 180, 0, 170, 182, 0, 173, 4, 100, 182, 0, 82, 61, 42, 182, 0, 45, 87, 42, 180, 0, 23]
abbrev dktX5_club_0 : List UInt8 := dkwX5_club_0 ++ dktX5_club_1
theorem dksX5_club_0 : cX5_club.data.toList.drop 0 = dktX5_club_0 := by decide +kernel
theorem dksX5_club_1 : cX5_club.data.toList.drop 24 = dktX5_club_1 := dk_seg dksX5_club_0 24 rfl rfl
theorem dksX5_club_2 : cX5_club.data.toList.drop 48 = dktX5_club_2 := dk_seg dksX5_club_1 24 rfl rfl
theorem dX5_club_0 : decode cX5_club 0 = .ok (.aload_n 0, 1) := dk_42 (dk_at dksX5_club_0 0 rfl rfl)
theorem dX5_club_1 : decode cX5_club 1 = .ok (.iconst 0, 1) := dk_3 (dk_at dksX5_club_0 1 rfl rfl)
theorem dX5_club_2 : decode cX5_club 2 = .ok (.aload_n 1, 1) := dk_43 (dk_at dksX5_club_0 2 rfl rfl)
theorem dX5_club_3 : decode cX5_club 3 = .ok (.getfield 170, 3) := dk_180 0 170 (dk_at dksX5_club_0 3 rfl rfl)
theorem dX5_club_6 : decode cX5_club 6 = .ok (.invokevirtual 173, 3) := dk_182 0 173 (dk_at dksX5_club_0 6 rfl rfl)
theorem dX5_club_9 : decode cX5_club 9 = .ok (.iconst 1, 1) := dk_4 (dk_at dksX5_club_0 9 rfl rfl)
theorem dX5_club_10 : decode cX5_club 10 = .ok (.isub, 1) := dk_100 (dk_at dksX5_club_0 10 rfl rfl)
theorem dX5_club_11 : decode cX5_club 11 = .ok (.invokevirtual 82, 3) := dk_182 0 82 (dk_at dksX5_club_0 11 rfl rfl)
theorem dX5_club_14 : decode cX5_club 14 = .ok (.istore_n 2, 1) := dk_61 (dk_at dksX5_club_0 14 rfl rfl)
theorem dX5_club_15 : decode cX5_club 15 = .ok (.aload_n 0, 1) := dk_42 (dk_at dksX5_club_0 15 rfl rfl)
theorem dX5_club_16 : decode cX5_club 16 = .ok (.invokevirtual 45, 3) := dk_182 0 45 (dk_at dksX5_club_0 16 rfl rfl)
theorem dX5_club_19 : decode cX5_club 19 = .ok (.pop, 1) := dk_87 (dk_at dksX5_club_0 19 rfl rfl)
theorem dX5_club_20 : decode cX5_club 20 = .ok (.aload_n 0, 1) := dk_42 (dk_at dksX5_club_0 20 rfl rfl)
theorem dX5_club_21 : decode cX5_club 21 = .ok (.getfield 23, 3) := dk_180 0 23 (dk_at dksX5_club_0 21 rfl rfl)
theorem dX5_club_24 : decode cX5_club 24 = .ok (.istore_n 3, 1) := dk_62 (dk_at dksX5_club_1 0 rfl rfl)
theorem dX5_club_25 : decode cX5_club 25 = .ok (.aload_n 0, 1) := dk_42 (dk_at dksX5_club_1 1 rfl rfl)
theorem dX5_club_26 : decode cX5_club 26 = .ok (.iconst 0, 1) := dk_3 (dk_at dksX5_club_1 2 rfl rfl)
theorem dX5_club_27 : decode cX5_club 27 = .ok (.aload_n 1, 1) := dk_43 (dk_at dksX5_club_1 3 rfl rfl)
theorem dX5_club_28 : decode cX5_club 28 = .ok (.getfield 170, 3) := dk_180 0 170 (dk_at dksX5_club_1 4 rfl rfl)
theorem dX5_club_31 : decode cX5_club 31 = .ok (.invokevirtual 173, 3) := dk_182 0 173 (dk_at dksX5_club_1 7 rfl rfl)
theorem dX5_club_34 : decode cX5_club 34 = .ok (.iconst 1, 1) := dk_4 (dk_at dksX5_club_1 10 rfl rfl)
theorem dX5_club_35 : decode cX5_club 35 = .ok (.isub, 1) := dk_100 (dk_at dksX5_club_1 11 rfl rfl)
theorem dX5_club_36 : decode cX5_club 36 = .ok (.invokevirtual 82, 3) := dk_182 0 82 (dk_at dksX5_club_1 12 rfl rfl)
theorem dX5_club_39 : decode cX5_club 39 = .ok (.istore 4, 2) := dk_54 4 (dk_at dksX5_club_1 15 rfl rfl)
theorem dX5_club_41 : decode cX5_club 41 = .ok (.iload 4, 2) := dk_21 4 (dk_at dksX5_club_1 17 rfl rfl)
theorem dX5_club_43 : decode cX5_club 43 = .ok (.iload_n 2, 1) := dk_28 (dk_at dksX5_club_1 19 rfl rfl)
theorem dX5_club_44 : decode cX5_club 44 = .ok (.if_icmp .ne 13, 3) := dk_160 0 13 (dk_at dksX5_club_1 20 rfl rfl)
theorem dX5_club_47 : decode cX5_club 47 = .ok (.aload_n 0, 1) := dk_42 (dk_at dksX5_club_1 23 rfl rfl)
theorem dX5_club_48 : decode cX5_club 48 = .ok (.getfield 3, 3) := dk_180 0 3 (dk_at dksX5_club_2 0 rfl rfl)
theorem dX5_club_51 : decode cX5_club 51 = .ok (.iconst 1, 1) := dk_4 (dk_at dksX5_club_2 3 rfl rfl)
theorem dX5_club_52 : decode cX5_club 52 = .ok (.iload_n 3, 1) := dk_29 (dk_at dksX5_club_2 4 rfl rfl)
theorem dX5_club_53 : decode cX5_club 53 = .ok (.invokevirtual 69, 3) := dk_182 0 69 (dk_at dksX5_club_2 5 rfl rfl)
theorem dX5_club_56 : decode cX5_club 56 = .ok (.athrow, 1) := dk_191 (dk_at dksX5_club_2 8 rfl rfl)
theorem dX5_club_57 : decode cX5_club 57 = .ok (.aload_n 1, 1) := dk_43 (dk_at dksX5_club_2 9 rfl rfl)
theorem dX5_club_58 : decode cX5_club 58 = .ok (.iload_n 2, 1) := dk_28 (dk_at dksX5_club_2 10 rfl rfl)
theorem dX5_club_59 : decode cX5_club 59 = .ok (.iload 4, 2) := dk_21 4 (dk_at dksX5_club_2 11 rfl rfl)
theorem dX5_club_61 : decode cX5_club 61 = .ok (.invokevirtual 176, 3) := dk_182 0 176 (dk_at dksX5_club_2 13 rfl rfl)
theorem dX5_club_64 : decode cX5_club 64 = .ok (.return_, 1) := dk_177 (dk_at dksX5_club_2 16 rfl rfl)
abbrev cX5_once : ByteArray := prog_12_method_21_code
def yX5_once : MethodName := ⟨RX5, "once", "(LHalfFair$Fair;Z)V"⟩
def dkwX5_once_5 : List UInt8 := [181, 0, 210, 167, 0, 16, 42, 180, 0, 3, 3, 42, 180, 0, 23, 182, 0, 69, 191, 177]
abbrev dktX5_once_5 : List UInt8 := dkwX5_once_5 ++ []
def dkwX5_once_4 : List UInt8 := [167, 0, 4, 3, 182, 0, 198, 153, 0, 22, 43, 42, 3, 16, 7, 182, 0, 82, 181, 0, 213, 43, 4]
abbrev dktX5_once_4 : List UInt8 := dkwX5_once_4 ++ dktX5_once_5
def dkwX5_once_3 : List UInt8 := [42, 43, 182, 0, 205, 167, 0, 60, 42, 18, 208, 28, 153, 0, 14, 43, 180, 0, 210, 154, 0, 7, 4]
abbrev dktX5_once_3 : List UInt8 := dkwX5_once_3 ++ dktX5_once_4
def dkwX5_once_2 : List UInt8 := [18, 204, 28, 153, 0, 14, 43, 180, 0, 189, 154, 0, 7, 4, 167, 0, 4, 3, 182, 0, 198, 153, 0, 11]
abbrev dktX5_once_2 : List UInt8 := dkwX5_once_2 ++ dktX5_once_3
def dkwX5_once_1 : List UInt8 := [153, 0, 22, 43, 42, 3, 16, 9, 182, 0, 82, 181, 0, 202, 43, 4, 181, 0, 195, 167, 0, 93, 42]
abbrev dktX5_once_1 : List UInt8 := dkwX5_once_1 ++ dktX5_once_2
def dkwX5_once_0 : List UInt8 := [42, 18, 193, 28, 153, 0, 14, 43, 180, 0, 195, 154, 0, 7, 4, 167, 0, 4, 3, 182, 0, 198]
abbrev dktX5_once_0 : List UInt8 := dkwX5_once_0 ++ dktX5_once_1
theorem dksX5_once_0 : cX5_once.data.toList.drop 0 = dktX5_once_0 := by decide +kernel
theorem dksX5_once_1 : cX5_once.data.toList.drop 22 = dktX5_once_1 := dk_seg dksX5_once_0 22 rfl rfl
theorem dksX5_once_2 : cX5_once.data.toList.drop 45 = dktX5_once_2 := dk_seg dksX5_once_1 23 rfl rfl
theorem dksX5_once_3 : cX5_once.data.toList.drop 69 = dktX5_once_3 := dk_seg dksX5_once_2 24 rfl rfl
theorem dksX5_once_4 : cX5_once.data.toList.drop 92 = dktX5_once_4 := dk_seg dksX5_once_3 23 rfl rfl
theorem dksX5_once_5 : cX5_once.data.toList.drop 115 = dktX5_once_5 := dk_seg dksX5_once_4 23 rfl rfl
theorem dX5_once_0 : decode cX5_once 0 = .ok (.aload_n 0, 1) := dk_42 (dk_at dksX5_once_0 0 rfl rfl)
theorem dX5_once_1 : decode cX5_once 1 = .ok (.ldc 193, 2) := dk_18 193 (dk_at dksX5_once_0 1 rfl rfl)
theorem dX5_once_3 : decode cX5_once 3 = .ok (.iload_n 2, 1) := dk_28 (dk_at dksX5_once_0 3 rfl rfl)
theorem dX5_once_4 : decode cX5_once 4 = .ok (.ifCond .eq 14, 3) := dk_153 0 14 (dk_at dksX5_once_0 4 rfl rfl)
theorem dX5_once_7 : decode cX5_once 7 = .ok (.aload_n 1, 1) := dk_43 (dk_at dksX5_once_0 7 rfl rfl)
theorem dX5_once_8 : decode cX5_once 8 = .ok (.getfield 195, 3) := dk_180 0 195 (dk_at dksX5_once_0 8 rfl rfl)
theorem dX5_once_11 : decode cX5_once 11 = .ok (.ifCond .ne 7, 3) := dk_154 0 7 (dk_at dksX5_once_0 11 rfl rfl)
theorem dX5_once_14 : decode cX5_once 14 = .ok (.iconst 1, 1) := dk_4 (dk_at dksX5_once_0 14 rfl rfl)
theorem dX5_once_15 : decode cX5_once 15 = .ok (.goto 4, 3) := dk_167 0 4 (dk_at dksX5_once_0 15 rfl rfl)
theorem dX5_once_18 : decode cX5_once 18 = .ok (.iconst 0, 1) := dk_3 (dk_at dksX5_once_0 18 rfl rfl)
theorem dX5_once_19 : decode cX5_once 19 = .ok (.invokevirtual 198, 3) := dk_182 0 198 (dk_at dksX5_once_0 19 rfl rfl)
theorem dX5_once_22 : decode cX5_once 22 = .ok (.ifCond .eq 22, 3) := dk_153 0 22 (dk_at dksX5_once_1 0 rfl rfl)
theorem dX5_once_25 : decode cX5_once 25 = .ok (.aload_n 1, 1) := dk_43 (dk_at dksX5_once_1 3 rfl rfl)
theorem dX5_once_26 : decode cX5_once 26 = .ok (.aload_n 0, 1) := dk_42 (dk_at dksX5_once_1 4 rfl rfl)
theorem dX5_once_27 : decode cX5_once 27 = .ok (.iconst 0, 1) := dk_3 (dk_at dksX5_once_1 5 rfl rfl)
theorem dX5_once_28 : decode cX5_once 28 = .ok (.bipush 9, 2) := dk_16 9 (dk_at dksX5_once_1 6 rfl rfl)
theorem dX5_once_30 : decode cX5_once 30 = .ok (.invokevirtual 82, 3) := dk_182 0 82 (dk_at dksX5_once_1 8 rfl rfl)
theorem dX5_once_33 : decode cX5_once 33 = .ok (.putfield 202, 3) := dk_181 0 202 (dk_at dksX5_once_1 11 rfl rfl)
theorem dX5_once_36 : decode cX5_once 36 = .ok (.aload_n 1, 1) := dk_43 (dk_at dksX5_once_1 14 rfl rfl)
theorem dX5_once_37 : decode cX5_once 37 = .ok (.iconst 1, 1) := dk_4 (dk_at dksX5_once_1 15 rfl rfl)
theorem dX5_once_38 : decode cX5_once 38 = .ok (.putfield 195, 3) := dk_181 0 195 (dk_at dksX5_once_1 16 rfl rfl)
theorem dX5_once_41 : decode cX5_once 41 = .ok (.goto 93, 3) := dk_167 0 93 (dk_at dksX5_once_1 19 rfl rfl)
theorem dX5_once_44 : decode cX5_once 44 = .ok (.aload_n 0, 1) := dk_42 (dk_at dksX5_once_1 22 rfl rfl)
theorem dX5_once_45 : decode cX5_once 45 = .ok (.ldc 204, 2) := dk_18 204 (dk_at dksX5_once_2 0 rfl rfl)
theorem dX5_once_47 : decode cX5_once 47 = .ok (.iload_n 2, 1) := dk_28 (dk_at dksX5_once_2 2 rfl rfl)
theorem dX5_once_48 : decode cX5_once 48 = .ok (.ifCond .eq 14, 3) := dk_153 0 14 (dk_at dksX5_once_2 3 rfl rfl)
theorem dX5_once_51 : decode cX5_once 51 = .ok (.aload_n 1, 1) := dk_43 (dk_at dksX5_once_2 6 rfl rfl)
theorem dX5_once_52 : decode cX5_once 52 = .ok (.getfield 189, 3) := dk_180 0 189 (dk_at dksX5_once_2 7 rfl rfl)
theorem dX5_once_55 : decode cX5_once 55 = .ok (.ifCond .ne 7, 3) := dk_154 0 7 (dk_at dksX5_once_2 10 rfl rfl)
theorem dX5_once_58 : decode cX5_once 58 = .ok (.iconst 1, 1) := dk_4 (dk_at dksX5_once_2 13 rfl rfl)
theorem dX5_once_59 : decode cX5_once 59 = .ok (.goto 4, 3) := dk_167 0 4 (dk_at dksX5_once_2 14 rfl rfl)
theorem dX5_once_62 : decode cX5_once 62 = .ok (.iconst 0, 1) := dk_3 (dk_at dksX5_once_2 17 rfl rfl)
theorem dX5_once_63 : decode cX5_once 63 = .ok (.invokevirtual 198, 3) := dk_182 0 198 (dk_at dksX5_once_2 18 rfl rfl)
theorem dX5_once_66 : decode cX5_once 66 = .ok (.ifCond .eq 11, 3) := dk_153 0 11 (dk_at dksX5_once_2 21 rfl rfl)
theorem dX5_once_69 : decode cX5_once 69 = .ok (.aload_n 0, 1) := dk_42 (dk_at dksX5_once_3 0 rfl rfl)
theorem dX5_once_70 : decode cX5_once 70 = .ok (.aload_n 1, 1) := dk_43 (dk_at dksX5_once_3 1 rfl rfl)
theorem dX5_once_71 : decode cX5_once 71 = .ok (.invokevirtual 205, 3) := dk_182 0 205 (dk_at dksX5_once_3 2 rfl rfl)
theorem dX5_once_74 : decode cX5_once 74 = .ok (.goto 60, 3) := dk_167 0 60 (dk_at dksX5_once_3 5 rfl rfl)
theorem dX5_once_77 : decode cX5_once 77 = .ok (.aload_n 0, 1) := dk_42 (dk_at dksX5_once_3 8 rfl rfl)
theorem dX5_once_78 : decode cX5_once 78 = .ok (.ldc 208, 2) := dk_18 208 (dk_at dksX5_once_3 9 rfl rfl)
theorem dX5_once_80 : decode cX5_once 80 = .ok (.iload_n 2, 1) := dk_28 (dk_at dksX5_once_3 11 rfl rfl)
theorem dX5_once_81 : decode cX5_once 81 = .ok (.ifCond .eq 14, 3) := dk_153 0 14 (dk_at dksX5_once_3 12 rfl rfl)
theorem dX5_once_84 : decode cX5_once 84 = .ok (.aload_n 1, 1) := dk_43 (dk_at dksX5_once_3 15 rfl rfl)
theorem dX5_once_85 : decode cX5_once 85 = .ok (.getfield 210, 3) := dk_180 0 210 (dk_at dksX5_once_3 16 rfl rfl)
theorem dX5_once_88 : decode cX5_once 88 = .ok (.ifCond .ne 7, 3) := dk_154 0 7 (dk_at dksX5_once_3 19 rfl rfl)
theorem dX5_once_91 : decode cX5_once 91 = .ok (.iconst 1, 1) := dk_4 (dk_at dksX5_once_3 22 rfl rfl)
theorem dX5_once_92 : decode cX5_once 92 = .ok (.goto 4, 3) := dk_167 0 4 (dk_at dksX5_once_4 0 rfl rfl)
theorem dX5_once_95 : decode cX5_once 95 = .ok (.iconst 0, 1) := dk_3 (dk_at dksX5_once_4 3 rfl rfl)
theorem dX5_once_96 : decode cX5_once 96 = .ok (.invokevirtual 198, 3) := dk_182 0 198 (dk_at dksX5_once_4 4 rfl rfl)
theorem dX5_once_99 : decode cX5_once 99 = .ok (.ifCond .eq 22, 3) := dk_153 0 22 (dk_at dksX5_once_4 7 rfl rfl)
theorem dX5_once_102 : decode cX5_once 102 = .ok (.aload_n 1, 1) := dk_43 (dk_at dksX5_once_4 10 rfl rfl)
theorem dX5_once_103 : decode cX5_once 103 = .ok (.aload_n 0, 1) := dk_42 (dk_at dksX5_once_4 11 rfl rfl)
theorem dX5_once_104 : decode cX5_once 104 = .ok (.iconst 0, 1) := dk_3 (dk_at dksX5_once_4 12 rfl rfl)
theorem dX5_once_105 : decode cX5_once 105 = .ok (.bipush 7, 2) := dk_16 7 (dk_at dksX5_once_4 13 rfl rfl)
theorem dX5_once_107 : decode cX5_once 107 = .ok (.invokevirtual 82, 3) := dk_182 0 82 (dk_at dksX5_once_4 15 rfl rfl)
theorem dX5_once_110 : decode cX5_once 110 = .ok (.putfield 213, 3) := dk_181 0 213 (dk_at dksX5_once_4 18 rfl rfl)
theorem dX5_once_113 : decode cX5_once 113 = .ok (.aload_n 1, 1) := dk_43 (dk_at dksX5_once_4 21 rfl rfl)
theorem dX5_once_114 : decode cX5_once 114 = .ok (.iconst 1, 1) := dk_4 (dk_at dksX5_once_4 22 rfl rfl)
theorem dX5_once_115 : decode cX5_once 115 = .ok (.putfield 210, 3) := dk_181 0 210 (dk_at dksX5_once_5 0 rfl rfl)
theorem dX5_once_118 : decode cX5_once 118 = .ok (.goto 16, 3) := dk_167 0 16 (dk_at dksX5_once_5 3 rfl rfl)
theorem dX5_once_121 : decode cX5_once 121 = .ok (.aload_n 0, 1) := dk_42 (dk_at dksX5_once_5 6 rfl rfl)
theorem dX5_once_122 : decode cX5_once 122 = .ok (.getfield 3, 3) := dk_180 0 3 (dk_at dksX5_once_5 7 rfl rfl)
theorem dX5_once_125 : decode cX5_once 125 = .ok (.iconst 0, 1) := dk_3 (dk_at dksX5_once_5 10 rfl rfl)
theorem dX5_once_126 : decode cX5_once 126 = .ok (.aload_n 0, 1) := dk_42 (dk_at dksX5_once_5 11 rfl rfl)
theorem dX5_once_127 : decode cX5_once 127 = .ok (.getfield 23, 3) := dk_180 0 23 (dk_at dksX5_once_5 12 rfl rfl)
theorem dX5_once_130 : decode cX5_once 130 = .ok (.invokevirtual 69, 3) := dk_182 0 69 (dk_at dksX5_once_5 15 rfl rfl)
theorem dX5_once_133 : decode cX5_once 133 = .ok (.athrow, 1) := dk_191 (dk_at dksX5_once_5 18 rfl rfl)
theorem dX5_once_134 : decode cX5_once 134 = .ok (.return_, 1) := dk_177 (dk_at dksX5_once_5 19 rfl rfl)
abbrev cX5_dusk : ByteArray := prog_12_method_20_code
def yX5_dusk : MethodName := ⟨RX5, "dusk", "(LHalfFair$Fair;)V"⟩
def dkwX5_dusk_1 : List UInt8 := [181, 0, 189, 177]
abbrev dktX5_dusk_1 : List UInt8 := dkwX5_dusk_1 ++ []
def dkwX5_dusk_0 : List UInt8 := [43, 42, 4, 16, 24, 182, 0, 82, 181, 0, 183, 43, 42, 4, 16, 99, 182, 0, 82, 181, 0, 186, 43, 4]
abbrev dktX5_dusk_0 : List UInt8 := dkwX5_dusk_0 ++ dktX5_dusk_1
theorem dksX5_dusk_0 : cX5_dusk.data.toList.drop 0 = dktX5_dusk_0 := by decide +kernel
theorem dksX5_dusk_1 : cX5_dusk.data.toList.drop 24 = dktX5_dusk_1 := dk_seg dksX5_dusk_0 24 rfl rfl
theorem dX5_dusk_0 : decode cX5_dusk 0 = .ok (.aload_n 1, 1) := dk_43 (dk_at dksX5_dusk_0 0 rfl rfl)
theorem dX5_dusk_1 : decode cX5_dusk 1 = .ok (.aload_n 0, 1) := dk_42 (dk_at dksX5_dusk_0 1 rfl rfl)
theorem dX5_dusk_2 : decode cX5_dusk 2 = .ok (.iconst 1, 1) := dk_4 (dk_at dksX5_dusk_0 2 rfl rfl)
theorem dX5_dusk_3 : decode cX5_dusk 3 = .ok (.bipush 24, 2) := dk_16 24 (dk_at dksX5_dusk_0 3 rfl rfl)
theorem dX5_dusk_5 : decode cX5_dusk 5 = .ok (.invokevirtual 82, 3) := dk_182 0 82 (dk_at dksX5_dusk_0 5 rfl rfl)
theorem dX5_dusk_8 : decode cX5_dusk 8 = .ok (.putfield 183, 3) := dk_181 0 183 (dk_at dksX5_dusk_0 8 rfl rfl)
theorem dX5_dusk_11 : decode cX5_dusk 11 = .ok (.aload_n 1, 1) := dk_43 (dk_at dksX5_dusk_0 11 rfl rfl)
theorem dX5_dusk_12 : decode cX5_dusk 12 = .ok (.aload_n 0, 1) := dk_42 (dk_at dksX5_dusk_0 12 rfl rfl)
theorem dX5_dusk_13 : decode cX5_dusk 13 = .ok (.iconst 1, 1) := dk_4 (dk_at dksX5_dusk_0 13 rfl rfl)
theorem dX5_dusk_14 : decode cX5_dusk 14 = .ok (.bipush 99, 2) := dk_16 99 (dk_at dksX5_dusk_0 14 rfl rfl)
theorem dX5_dusk_16 : decode cX5_dusk 16 = .ok (.invokevirtual 82, 3) := dk_182 0 82 (dk_at dksX5_dusk_0 16 rfl rfl)
theorem dX5_dusk_19 : decode cX5_dusk 19 = .ok (.putfield 186, 3) := dk_181 0 186 (dk_at dksX5_dusk_0 19 rfl rfl)
theorem dX5_dusk_22 : decode cX5_dusk 22 = .ok (.aload_n 1, 1) := dk_43 (dk_at dksX5_dusk_0 22 rfl rfl)
theorem dX5_dusk_23 : decode cX5_dusk 23 = .ok (.iconst 1, 1) := dk_4 (dk_at dksX5_dusk_0 23 rfl rfl)
theorem dX5_dusk_24 : decode cX5_dusk 24 = .ok (.putfield 189, 3) := dk_181 0 189 (dk_at dksX5_dusk_1 0 rfl rfl)
theorem dX5_dusk_27 : decode cX5_dusk 27 = .ok (.return_, 1) := dk_177 (dk_at dksX5_dusk_1 3 rfl rfl)
abbrev cX5_goesOn : ByteArray := prog_12_method_24_code
def yX5_goesOn : MethodName := ⟨RX5, "goesOn", "()Z"⟩
def dkwX5_goesOn_1 : List UInt8 := [180, 0, 23, 182, 0, 69, 191, 42, 89, 180, 0, 23, 4, 96, 181, 0, 23, 4, 172]
abbrev dktX5_goesOn_1 : List UInt8 := dkwX5_goesOn_1 ++ []
def dkwX5_goesOn_0 : List UInt8 := [42, 182, 0, 45, 60, 27, 2, 160, 0, 5, 3, 172, 27, 16, 59, 159, 0, 16, 42, 180, 0, 3, 3, 42]
abbrev dktX5_goesOn_0 : List UInt8 := dkwX5_goesOn_0 ++ dktX5_goesOn_1
theorem dksX5_goesOn_0 : cX5_goesOn.data.toList.drop 0 = dktX5_goesOn_0 := by decide +kernel
theorem dksX5_goesOn_1 : cX5_goesOn.data.toList.drop 24 = dktX5_goesOn_1 := dk_seg dksX5_goesOn_0 24 rfl rfl
theorem dX5_goesOn_0 : decode cX5_goesOn 0 = .ok (.aload_n 0, 1) := dk_42 (dk_at dksX5_goesOn_0 0 rfl rfl)
theorem dX5_goesOn_1 : decode cX5_goesOn 1 = .ok (.invokevirtual 45, 3) := dk_182 0 45 (dk_at dksX5_goesOn_0 1 rfl rfl)
theorem dX5_goesOn_4 : decode cX5_goesOn 4 = .ok (.istore_n 1, 1) := dk_60 (dk_at dksX5_goesOn_0 4 rfl rfl)
theorem dX5_goesOn_5 : decode cX5_goesOn 5 = .ok (.iload_n 1, 1) := dk_27 (dk_at dksX5_goesOn_0 5 rfl rfl)
theorem dX5_goesOn_6 : decode cX5_goesOn 6 = .ok (.iconst (-1), 1) := dk_2 (dk_at dksX5_goesOn_0 6 rfl rfl)
theorem dX5_goesOn_7 : decode cX5_goesOn 7 = .ok (.if_icmp .ne 5, 3) := dk_160 0 5 (dk_at dksX5_goesOn_0 7 rfl rfl)
theorem dX5_goesOn_10 : decode cX5_goesOn 10 = .ok (.iconst 0, 1) := dk_3 (dk_at dksX5_goesOn_0 10 rfl rfl)
theorem dX5_goesOn_11 : decode cX5_goesOn 11 = .ok (.ireturn, 1) := dk_172 (dk_at dksX5_goesOn_0 11 rfl rfl)
theorem dX5_goesOn_12 : decode cX5_goesOn 12 = .ok (.iload_n 1, 1) := dk_27 (dk_at dksX5_goesOn_0 12 rfl rfl)
theorem dX5_goesOn_13 : decode cX5_goesOn 13 = .ok (.bipush 59, 2) := dk_16 59 (dk_at dksX5_goesOn_0 13 rfl rfl)
theorem dX5_goesOn_15 : decode cX5_goesOn 15 = .ok (.if_icmp .eq 16, 3) := dk_159 0 16 (dk_at dksX5_goesOn_0 15 rfl rfl)
theorem dX5_goesOn_18 : decode cX5_goesOn 18 = .ok (.aload_n 0, 1) := dk_42 (dk_at dksX5_goesOn_0 18 rfl rfl)
theorem dX5_goesOn_19 : decode cX5_goesOn 19 = .ok (.getfield 3, 3) := dk_180 0 3 (dk_at dksX5_goesOn_0 19 rfl rfl)
theorem dX5_goesOn_22 : decode cX5_goesOn 22 = .ok (.iconst 0, 1) := dk_3 (dk_at dksX5_goesOn_0 22 rfl rfl)
theorem dX5_goesOn_23 : decode cX5_goesOn 23 = .ok (.aload_n 0, 1) := dk_42 (dk_at dksX5_goesOn_0 23 rfl rfl)
theorem dX5_goesOn_24 : decode cX5_goesOn 24 = .ok (.getfield 23, 3) := dk_180 0 23 (dk_at dksX5_goesOn_1 0 rfl rfl)
theorem dX5_goesOn_27 : decode cX5_goesOn 27 = .ok (.invokevirtual 69, 3) := dk_182 0 69 (dk_at dksX5_goesOn_1 3 rfl rfl)
theorem dX5_goesOn_30 : decode cX5_goesOn 30 = .ok (.athrow, 1) := dk_191 (dk_at dksX5_goesOn_1 6 rfl rfl)
theorem dX5_goesOn_31 : decode cX5_goesOn 31 = .ok (.aload_n 0, 1) := dk_42 (dk_at dksX5_goesOn_1 7 rfl rfl)
theorem dX5_goesOn_32 : decode cX5_goesOn 32 = .ok (.dup, 1) := dk_89 (dk_at dksX5_goesOn_1 8 rfl rfl)
theorem dX5_goesOn_33 : decode cX5_goesOn 33 = .ok (.getfield 23, 3) := dk_180 0 23 (dk_at dksX5_goesOn_1 9 rfl rfl)
theorem dX5_goesOn_36 : decode cX5_goesOn 36 = .ok (.iconst 1, 1) := dk_4 (dk_at dksX5_goesOn_1 12 rfl rfl)
theorem dX5_goesOn_37 : decode cX5_goesOn 37 = .ok (.iadd, 1) := dk_96 (dk_at dksX5_goesOn_1 13 rfl rfl)
theorem dX5_goesOn_38 : decode cX5_goesOn 38 = .ok (.putfield 23, 3) := dk_181 0 23 (dk_at dksX5_goesOn_1 14 rfl rfl)
theorem dX5_goesOn_41 : decode cX5_goesOn 41 = .ok (.iconst 1, 1) := dk_4 (dk_at dksX5_goesOn_1 17 rfl rfl)
theorem dX5_goesOn_42 : decode cX5_goesOn 42 = .ok (.ireturn, 1) := dk_172 (dk_at dksX5_goesOn_1 18 rfl rfl)
abbrev cX5_rule : ByteArray := prog_12_method_26_code
def yX5_rule : MethodName := ⟨RX5, "rule", "()I"⟩
def dkwX5_rule_2 : List UInt8 := [180, 1, 11, 182, 0, 173, 4, 100, 172]
abbrev dktX5_rule_2 : List UInt8 := dkwX5_rule_2 ++ []
def dkwX5_rule_1 : List UInt8 := [182, 1, 8, 167, 255, 244, 42, 180, 0, 3, 180, 1, 11, 43, 182, 0, 164, 87, 42, 180, 0, 3]
abbrev dktX5_rule_1 : List UInt8 := dkwX5_rule_1 ++ dktX5_rule_2
def dkwX5_rule_0 : List UInt8 := [187, 0, 245, 89, 183, 1, 7, 76, 42, 43, 182, 1, 8, 42, 182, 1, 4, 153, 0, 11, 42, 43]
abbrev dktX5_rule_0 : List UInt8 := dkwX5_rule_0 ++ dktX5_rule_1
theorem dksX5_rule_0 : cX5_rule.data.toList.drop 0 = dktX5_rule_0 := by decide +kernel
theorem dksX5_rule_1 : cX5_rule.data.toList.drop 22 = dktX5_rule_1 := dk_seg dksX5_rule_0 22 rfl rfl
theorem dksX5_rule_2 : cX5_rule.data.toList.drop 44 = dktX5_rule_2 := dk_seg dksX5_rule_1 22 rfl rfl
theorem dX5_rule_0 : decode cX5_rule 0 = .ok (.new 245, 3) := dk_187 0 245 (dk_at dksX5_rule_0 0 rfl rfl)
theorem dX5_rule_3 : decode cX5_rule 3 = .ok (.dup, 1) := dk_89 (dk_at dksX5_rule_0 3 rfl rfl)
theorem dX5_rule_4 : decode cX5_rule 4 = .ok (.invokespecial 263, 3) := dk_183 1 7 (dk_at dksX5_rule_0 4 rfl rfl)
theorem dX5_rule_7 : decode cX5_rule 7 = .ok (.astore_n 1, 1) := dk_76 (dk_at dksX5_rule_0 7 rfl rfl)
theorem dX5_rule_8 : decode cX5_rule 8 = .ok (.aload_n 0, 1) := dk_42 (dk_at dksX5_rule_0 8 rfl rfl)
theorem dX5_rule_9 : decode cX5_rule 9 = .ok (.aload_n 1, 1) := dk_43 (dk_at dksX5_rule_0 9 rfl rfl)
theorem dX5_rule_10 : decode cX5_rule 10 = .ok (.invokevirtual 264, 3) := dk_182 1 8 (dk_at dksX5_rule_0 10 rfl rfl)
theorem dX5_rule_13 : decode cX5_rule 13 = .ok (.aload_n 0, 1) := dk_42 (dk_at dksX5_rule_0 13 rfl rfl)
theorem dX5_rule_14 : decode cX5_rule 14 = .ok (.invokevirtual 260, 3) := dk_182 1 4 (dk_at dksX5_rule_0 14 rfl rfl)
theorem dX5_rule_17 : decode cX5_rule 17 = .ok (.ifCond .eq 11, 3) := dk_153 0 11 (dk_at dksX5_rule_0 17 rfl rfl)
theorem dX5_rule_20 : decode cX5_rule 20 = .ok (.aload_n 0, 1) := dk_42 (dk_at dksX5_rule_0 20 rfl rfl)
theorem dX5_rule_21 : decode cX5_rule 21 = .ok (.aload_n 1, 1) := dk_43 (dk_at dksX5_rule_0 21 rfl rfl)
theorem dX5_rule_22 : decode cX5_rule 22 = .ok (.invokevirtual 264, 3) := dk_182 1 8 (dk_at dksX5_rule_1 0 rfl rfl)
theorem dX5_rule_25 : decode cX5_rule 25 = .ok (.goto (-12), 3) := dk_167 255 244 (dk_at dksX5_rule_1 3 rfl rfl)
theorem dX5_rule_28 : decode cX5_rule 28 = .ok (.aload_n 0, 1) := dk_42 (dk_at dksX5_rule_1 6 rfl rfl)
theorem dX5_rule_29 : decode cX5_rule 29 = .ok (.getfield 3, 3) := dk_180 0 3 (dk_at dksX5_rule_1 7 rfl rfl)
theorem dX5_rule_32 : decode cX5_rule 32 = .ok (.getfield 267, 3) := dk_180 1 11 (dk_at dksX5_rule_1 10 rfl rfl)
theorem dX5_rule_35 : decode cX5_rule 35 = .ok (.aload_n 1, 1) := dk_43 (dk_at dksX5_rule_1 13 rfl rfl)
theorem dX5_rule_36 : decode cX5_rule 36 = .ok (.invokevirtual 164, 3) := dk_182 0 164 (dk_at dksX5_rule_1 14 rfl rfl)
theorem dX5_rule_39 : decode cX5_rule 39 = .ok (.pop, 1) := dk_87 (dk_at dksX5_rule_1 17 rfl rfl)
theorem dX5_rule_40 : decode cX5_rule 40 = .ok (.aload_n 0, 1) := dk_42 (dk_at dksX5_rule_1 18 rfl rfl)
theorem dX5_rule_41 : decode cX5_rule 41 = .ok (.getfield 3, 3) := dk_180 0 3 (dk_at dksX5_rule_1 19 rfl rfl)
theorem dX5_rule_44 : decode cX5_rule 44 = .ok (.getfield 267, 3) := dk_180 1 11 (dk_at dksX5_rule_2 0 rfl rfl)
theorem dX5_rule_47 : decode cX5_rule 47 = .ok (.invokevirtual 173, 3) := dk_182 0 173 (dk_at dksX5_rule_2 3 rfl rfl)
theorem dX5_rule_50 : decode cX5_rule 50 = .ok (.iconst 1, 1) := dk_4 (dk_at dksX5_rule_2 6 rfl rfl)
theorem dX5_rule_51 : decode cX5_rule 51 = .ok (.isub, 1) := dk_100 (dk_at dksX5_rule_2 7 rfl rfl)
theorem dX5_rule_52 : decode cX5_rule 52 = .ok (.ireturn, 1) := dk_172 (dk_at dksX5_rule_2 8 rfl rfl)
abbrev cX5_clause_2 : ByteArray := prog_12_method_23_code
def yX5_clause_2 : MethodName := ⟨RX5, "clause", "(LHalfFair$Rule;)V"⟩
def dkwX5_clause_2_3 : List UInt8 := [182, 0, 164, 87, 177]
abbrev dktX5_clause_2_3 : List UInt8 := dkwX5_clause_2_3 ++ []
def dkwX5_clause_2_2 : List UInt8 := [89, 28, 45, 42, 18, 251, 182, 0, 134, 153, 0, 10, 42, 182, 0, 121, 167, 0, 4, 1, 183, 0, 253]
abbrev dktX5_clause_2_2 : List UInt8 := dkwX5_clause_2_2 ++ dktX5_clause_2_3
def dkwX5_clause_2_1 : List UInt8 := [180, 0, 3, 3, 42, 180, 0, 23, 182, 0, 69, 191, 42, 182, 0, 124, 78, 43, 180, 0, 244, 187, 0, 249]
abbrev dktX5_clause_2_1 : List UInt8 := dkwX5_clause_2_1 ++ dktX5_clause_2_2
def dkwX5_clause_2_0 : List UInt8 := [42, 18, 240, 4, 182, 0, 198, 61, 28, 154, 0, 26, 42, 18, 242, 4, 182, 0, 198, 154, 0, 16, 42]
abbrev dktX5_clause_2_0 : List UInt8 := dkwX5_clause_2_0 ++ dktX5_clause_2_1
theorem dksX5_clause_2_0 : cX5_clause_2.data.toList.drop 0 = dktX5_clause_2_0 := by decide +kernel
theorem dksX5_clause_2_1 : cX5_clause_2.data.toList.drop 23 = dktX5_clause_2_1 := dk_seg dksX5_clause_2_0 23 rfl rfl
theorem dksX5_clause_2_2 : cX5_clause_2.data.toList.drop 47 = dktX5_clause_2_2 := dk_seg dksX5_clause_2_1 24 rfl rfl
theorem dksX5_clause_2_3 : cX5_clause_2.data.toList.drop 70 = dktX5_clause_2_3 := dk_seg dksX5_clause_2_2 23 rfl rfl
theorem dX5_clause_2_0 : decode cX5_clause_2 0 = .ok (.aload_n 0, 1) := dk_42 (dk_at dksX5_clause_2_0 0 rfl rfl)
theorem dX5_clause_2_1 : decode cX5_clause_2 1 = .ok (.ldc 240, 2) := dk_18 240 (dk_at dksX5_clause_2_0 1 rfl rfl)
theorem dX5_clause_2_3 : decode cX5_clause_2 3 = .ok (.iconst 1, 1) := dk_4 (dk_at dksX5_clause_2_0 3 rfl rfl)
theorem dX5_clause_2_4 : decode cX5_clause_2 4 = .ok (.invokevirtual 198, 3) := dk_182 0 198 (dk_at dksX5_clause_2_0 4 rfl rfl)
theorem dX5_clause_2_7 : decode cX5_clause_2 7 = .ok (.istore_n 2, 1) := dk_61 (dk_at dksX5_clause_2_0 7 rfl rfl)
theorem dX5_clause_2_8 : decode cX5_clause_2 8 = .ok (.iload_n 2, 1) := dk_28 (dk_at dksX5_clause_2_0 8 rfl rfl)
theorem dX5_clause_2_9 : decode cX5_clause_2 9 = .ok (.ifCond .ne 26, 3) := dk_154 0 26 (dk_at dksX5_clause_2_0 9 rfl rfl)
theorem dX5_clause_2_12 : decode cX5_clause_2 12 = .ok (.aload_n 0, 1) := dk_42 (dk_at dksX5_clause_2_0 12 rfl rfl)
theorem dX5_clause_2_13 : decode cX5_clause_2 13 = .ok (.ldc 242, 2) := dk_18 242 (dk_at dksX5_clause_2_0 13 rfl rfl)
theorem dX5_clause_2_15 : decode cX5_clause_2 15 = .ok (.iconst 1, 1) := dk_4 (dk_at dksX5_clause_2_0 15 rfl rfl)
theorem dX5_clause_2_16 : decode cX5_clause_2 16 = .ok (.invokevirtual 198, 3) := dk_182 0 198 (dk_at dksX5_clause_2_0 16 rfl rfl)
theorem dX5_clause_2_19 : decode cX5_clause_2 19 = .ok (.ifCond .ne 16, 3) := dk_154 0 16 (dk_at dksX5_clause_2_0 19 rfl rfl)
theorem dX5_clause_2_22 : decode cX5_clause_2 22 = .ok (.aload_n 0, 1) := dk_42 (dk_at dksX5_clause_2_0 22 rfl rfl)
theorem dX5_clause_2_23 : decode cX5_clause_2 23 = .ok (.getfield 3, 3) := dk_180 0 3 (dk_at dksX5_clause_2_1 0 rfl rfl)
theorem dX5_clause_2_26 : decode cX5_clause_2 26 = .ok (.iconst 0, 1) := dk_3 (dk_at dksX5_clause_2_1 3 rfl rfl)
theorem dX5_clause_2_27 : decode cX5_clause_2 27 = .ok (.aload_n 0, 1) := dk_42 (dk_at dksX5_clause_2_1 4 rfl rfl)
theorem dX5_clause_2_28 : decode cX5_clause_2 28 = .ok (.getfield 23, 3) := dk_180 0 23 (dk_at dksX5_clause_2_1 5 rfl rfl)
theorem dX5_clause_2_31 : decode cX5_clause_2 31 = .ok (.invokevirtual 69, 3) := dk_182 0 69 (dk_at dksX5_clause_2_1 8 rfl rfl)
theorem dX5_clause_2_34 : decode cX5_clause_2 34 = .ok (.athrow, 1) := dk_191 (dk_at dksX5_clause_2_1 11 rfl rfl)
theorem dX5_clause_2_35 : decode cX5_clause_2 35 = .ok (.aload_n 0, 1) := dk_42 (dk_at dksX5_clause_2_1 12 rfl rfl)
theorem dX5_clause_2_36 : decode cX5_clause_2 36 = .ok (.invokevirtual 124, 3) := dk_182 0 124 (dk_at dksX5_clause_2_1 13 rfl rfl)
theorem dX5_clause_2_39 : decode cX5_clause_2 39 = .ok (.astore_n 3, 1) := dk_78 (dk_at dksX5_clause_2_1 16 rfl rfl)
theorem dX5_clause_2_40 : decode cX5_clause_2 40 = .ok (.aload_n 1, 1) := dk_43 (dk_at dksX5_clause_2_1 17 rfl rfl)
theorem dX5_clause_2_41 : decode cX5_clause_2 41 = .ok (.getfield 244, 3) := dk_180 0 244 (dk_at dksX5_clause_2_1 18 rfl rfl)
theorem dX5_clause_2_44 : decode cX5_clause_2 44 = .ok (.new 249, 3) := dk_187 0 249 (dk_at dksX5_clause_2_1 21 rfl rfl)
theorem dX5_clause_2_47 : decode cX5_clause_2 47 = .ok (.dup, 1) := dk_89 (dk_at dksX5_clause_2_2 0 rfl rfl)
theorem dX5_clause_2_48 : decode cX5_clause_2 48 = .ok (.iload_n 2, 1) := dk_28 (dk_at dksX5_clause_2_2 1 rfl rfl)
theorem dX5_clause_2_49 : decode cX5_clause_2 49 = .ok (.aload_n 3, 1) := dk_45 (dk_at dksX5_clause_2_2 2 rfl rfl)
theorem dX5_clause_2_50 : decode cX5_clause_2 50 = .ok (.aload_n 0, 1) := dk_42 (dk_at dksX5_clause_2_2 3 rfl rfl)
theorem dX5_clause_2_51 : decode cX5_clause_2 51 = .ok (.ldc 251, 2) := dk_18 251 (dk_at dksX5_clause_2_2 4 rfl rfl)
theorem dX5_clause_2_53 : decode cX5_clause_2 53 = .ok (.invokevirtual 134, 3) := dk_182 0 134 (dk_at dksX5_clause_2_2 6 rfl rfl)
theorem dX5_clause_2_56 : decode cX5_clause_2 56 = .ok (.ifCond .eq 10, 3) := dk_153 0 10 (dk_at dksX5_clause_2_2 9 rfl rfl)
theorem dX5_clause_2_59 : decode cX5_clause_2 59 = .ok (.aload_n 0, 1) := dk_42 (dk_at dksX5_clause_2_2 12 rfl rfl)
theorem dX5_clause_2_60 : decode cX5_clause_2 60 = .ok (.invokevirtual 121, 3) := dk_182 0 121 (dk_at dksX5_clause_2_2 13 rfl rfl)
theorem dX5_clause_2_63 : decode cX5_clause_2 63 = .ok (.goto 4, 3) := dk_167 0 4 (dk_at dksX5_clause_2_2 16 rfl rfl)
theorem dX5_clause_2_66 : decode cX5_clause_2 66 = .ok (.aconst_null, 1) := dk_1 (dk_at dksX5_clause_2_2 19 rfl rfl)
theorem dX5_clause_2_67 : decode cX5_clause_2 67 = .ok (.invokespecial 253, 3) := dk_183 0 253 (dk_at dksX5_clause_2_2 20 rfl rfl)
theorem dX5_clause_2_70 : decode cX5_clause_2 70 = .ok (.invokevirtual 164, 3) := dk_182 0 164 (dk_at dksX5_clause_2_3 0 rfl rfl)
theorem dX5_clause_2_73 : decode cX5_clause_2 73 = .ok (.pop, 1) := dk_87 (dk_at dksX5_clause_2_3 3 rfl rfl)
theorem dX5_clause_2_74 : decode cX5_clause_2 74 = .ok (.return_, 1) := dk_177 (dk_at dksX5_clause_2_3 4 rfl rfl)
abbrev cX5_sum : ByteArray := prog_12_method_12_code
def yX5_sum : MethodName := ⟨RX5, "sum", "()LHalfFair$Value;"⟩
def dkwX5_sum_2 : List UInt8 := [183, 0, 101, 76, 167, 255, 209, 43, 176]
abbrev dktX5_sum_2 : List UInt8 := dkwX5_sum_2 ++ []
def dkwX5_sum_1 : List UInt8 := [182, 0, 33, 61, 42, 89, 180, 0, 23, 4, 96, 181, 0, 23, 187, 0, 99, 89, 43, 42, 182, 0, 104, 28]
abbrev dktX5_sum_1 : List UInt8 := dkwX5_sum_1 ++ dktX5_sum_2
def dkwX5_sum_0 : List UInt8 := [42, 182, 0, 104, 76, 42, 182, 0, 45, 16, 43, 159, 0, 12, 42, 182, 0, 33, 16, 45, 160, 0, 35, 42]
abbrev dktX5_sum_0 : List UInt8 := dkwX5_sum_0 ++ dktX5_sum_1
theorem dksX5_sum_0 : cX5_sum.data.toList.drop 0 = dktX5_sum_0 := by decide +kernel
theorem dksX5_sum_1 : cX5_sum.data.toList.drop 24 = dktX5_sum_1 := dk_seg dksX5_sum_0 24 rfl rfl
theorem dksX5_sum_2 : cX5_sum.data.toList.drop 48 = dktX5_sum_2 := dk_seg dksX5_sum_1 24 rfl rfl
theorem dX5_sum_0 : decode cX5_sum 0 = .ok (.aload_n 0, 1) := dk_42 (dk_at dksX5_sum_0 0 rfl rfl)
theorem dX5_sum_1 : decode cX5_sum 1 = .ok (.invokevirtual 104, 3) := dk_182 0 104 (dk_at dksX5_sum_0 1 rfl rfl)
theorem dX5_sum_4 : decode cX5_sum 4 = .ok (.astore_n 1, 1) := dk_76 (dk_at dksX5_sum_0 4 rfl rfl)
theorem dX5_sum_5 : decode cX5_sum 5 = .ok (.aload_n 0, 1) := dk_42 (dk_at dksX5_sum_0 5 rfl rfl)
theorem dX5_sum_6 : decode cX5_sum 6 = .ok (.invokevirtual 45, 3) := dk_182 0 45 (dk_at dksX5_sum_0 6 rfl rfl)
theorem dX5_sum_9 : decode cX5_sum 9 = .ok (.bipush 43, 2) := dk_16 43 (dk_at dksX5_sum_0 9 rfl rfl)
theorem dX5_sum_11 : decode cX5_sum 11 = .ok (.if_icmp .eq 12, 3) := dk_159 0 12 (dk_at dksX5_sum_0 11 rfl rfl)
theorem dX5_sum_14 : decode cX5_sum 14 = .ok (.aload_n 0, 1) := dk_42 (dk_at dksX5_sum_0 14 rfl rfl)
theorem dX5_sum_15 : decode cX5_sum 15 = .ok (.invokevirtual 33, 3) := dk_182 0 33 (dk_at dksX5_sum_0 15 rfl rfl)
theorem dX5_sum_18 : decode cX5_sum 18 = .ok (.bipush 45, 2) := dk_16 45 (dk_at dksX5_sum_0 18 rfl rfl)
theorem dX5_sum_20 : decode cX5_sum 20 = .ok (.if_icmp .ne 35, 3) := dk_160 0 35 (dk_at dksX5_sum_0 20 rfl rfl)
theorem dX5_sum_23 : decode cX5_sum 23 = .ok (.aload_n 0, 1) := dk_42 (dk_at dksX5_sum_0 23 rfl rfl)
theorem dX5_sum_24 : decode cX5_sum 24 = .ok (.invokevirtual 33, 3) := dk_182 0 33 (dk_at dksX5_sum_1 0 rfl rfl)
theorem dX5_sum_27 : decode cX5_sum 27 = .ok (.istore_n 2, 1) := dk_61 (dk_at dksX5_sum_1 3 rfl rfl)
theorem dX5_sum_28 : decode cX5_sum 28 = .ok (.aload_n 0, 1) := dk_42 (dk_at dksX5_sum_1 4 rfl rfl)
theorem dX5_sum_29 : decode cX5_sum 29 = .ok (.dup, 1) := dk_89 (dk_at dksX5_sum_1 5 rfl rfl)
theorem dX5_sum_30 : decode cX5_sum 30 = .ok (.getfield 23, 3) := dk_180 0 23 (dk_at dksX5_sum_1 6 rfl rfl)
theorem dX5_sum_33 : decode cX5_sum 33 = .ok (.iconst 1, 1) := dk_4 (dk_at dksX5_sum_1 9 rfl rfl)
theorem dX5_sum_34 : decode cX5_sum 34 = .ok (.iadd, 1) := dk_96 (dk_at dksX5_sum_1 10 rfl rfl)
theorem dX5_sum_35 : decode cX5_sum 35 = .ok (.putfield 23, 3) := dk_181 0 23 (dk_at dksX5_sum_1 11 rfl rfl)
theorem dX5_sum_38 : decode cX5_sum 38 = .ok (.new 99, 3) := dk_187 0 99 (dk_at dksX5_sum_1 14 rfl rfl)
theorem dX5_sum_41 : decode cX5_sum 41 = .ok (.dup, 1) := dk_89 (dk_at dksX5_sum_1 17 rfl rfl)
theorem dX5_sum_42 : decode cX5_sum 42 = .ok (.aload_n 1, 1) := dk_43 (dk_at dksX5_sum_1 18 rfl rfl)
theorem dX5_sum_43 : decode cX5_sum 43 = .ok (.aload_n 0, 1) := dk_42 (dk_at dksX5_sum_1 19 rfl rfl)
theorem dX5_sum_44 : decode cX5_sum 44 = .ok (.invokevirtual 104, 3) := dk_182 0 104 (dk_at dksX5_sum_1 20 rfl rfl)
theorem dX5_sum_47 : decode cX5_sum 47 = .ok (.iload_n 2, 1) := dk_28 (dk_at dksX5_sum_1 23 rfl rfl)
theorem dX5_sum_48 : decode cX5_sum 48 = .ok (.invokespecial 101, 3) := dk_183 0 101 (dk_at dksX5_sum_2 0 rfl rfl)
theorem dX5_sum_51 : decode cX5_sum 51 = .ok (.astore_n 1, 1) := dk_76 (dk_at dksX5_sum_2 3 rfl rfl)
theorem dX5_sum_52 : decode cX5_sum 52 = .ok (.goto (-47), 3) := dk_167 255 209 (dk_at dksX5_sum_2 4 rfl rfl)
theorem dX5_sum_55 : decode cX5_sum 55 = .ok (.aload_n 1, 1) := dk_43 (dk_at dksX5_sum_2 7 rfl rfl)
theorem dX5_sum_56 : decode cX5_sum 56 = .ok (.areturn, 1) := dk_176 (dk_at dksX5_sum_2 8 rfl rfl)
abbrev cX5_term : ByteArray := prog_12_method_11_code
def yX5_term : MethodName := ⟨RX5, "term", "()LHalfFair$Value;"⟩
def dkwX5_term_2 : List UInt8 := [187, 0, 99, 89, 43, 42, 182, 0, 95, 28, 183, 0, 101, 76, 167, 255, 200, 43, 176]
abbrev dktX5_term_2 : List UInt8 := dkwX5_term_2 ++ []
def dkwX5_term_1 : List UInt8 := [182, 0, 33, 16, 37, 160, 0, 35, 42, 182, 0, 33, 61, 42, 89, 180, 0, 23, 4, 96, 181, 0, 23]
abbrev dktX5_term_1 : List UInt8 := dkwX5_term_1 ++ dktX5_term_2
def dkwX5_term_0 : List UInt8 := [42, 182, 0, 95, 76, 42, 182, 0, 45, 16, 42, 159, 0, 21, 42, 182, 0, 33, 16, 47, 159, 0, 12, 42]
abbrev dktX5_term_0 : List UInt8 := dkwX5_term_0 ++ dktX5_term_1
theorem dksX5_term_0 : cX5_term.data.toList.drop 0 = dktX5_term_0 := by decide +kernel
theorem dksX5_term_1 : cX5_term.data.toList.drop 24 = dktX5_term_1 := dk_seg dksX5_term_0 24 rfl rfl
theorem dksX5_term_2 : cX5_term.data.toList.drop 47 = dktX5_term_2 := dk_seg dksX5_term_1 23 rfl rfl
theorem dX5_term_0 : decode cX5_term 0 = .ok (.aload_n 0, 1) := dk_42 (dk_at dksX5_term_0 0 rfl rfl)
theorem dX5_term_1 : decode cX5_term 1 = .ok (.invokevirtual 95, 3) := dk_182 0 95 (dk_at dksX5_term_0 1 rfl rfl)
theorem dX5_term_4 : decode cX5_term 4 = .ok (.astore_n 1, 1) := dk_76 (dk_at dksX5_term_0 4 rfl rfl)
theorem dX5_term_5 : decode cX5_term 5 = .ok (.aload_n 0, 1) := dk_42 (dk_at dksX5_term_0 5 rfl rfl)
theorem dX5_term_6 : decode cX5_term 6 = .ok (.invokevirtual 45, 3) := dk_182 0 45 (dk_at dksX5_term_0 6 rfl rfl)
theorem dX5_term_9 : decode cX5_term 9 = .ok (.bipush 42, 2) := dk_16 42 (dk_at dksX5_term_0 9 rfl rfl)
theorem dX5_term_11 : decode cX5_term 11 = .ok (.if_icmp .eq 21, 3) := dk_159 0 21 (dk_at dksX5_term_0 11 rfl rfl)
theorem dX5_term_14 : decode cX5_term 14 = .ok (.aload_n 0, 1) := dk_42 (dk_at dksX5_term_0 14 rfl rfl)
theorem dX5_term_15 : decode cX5_term 15 = .ok (.invokevirtual 33, 3) := dk_182 0 33 (dk_at dksX5_term_0 15 rfl rfl)
theorem dX5_term_18 : decode cX5_term 18 = .ok (.bipush 47, 2) := dk_16 47 (dk_at dksX5_term_0 18 rfl rfl)
theorem dX5_term_20 : decode cX5_term 20 = .ok (.if_icmp .eq 12, 3) := dk_159 0 12 (dk_at dksX5_term_0 20 rfl rfl)
theorem dX5_term_23 : decode cX5_term 23 = .ok (.aload_n 0, 1) := dk_42 (dk_at dksX5_term_0 23 rfl rfl)
theorem dX5_term_24 : decode cX5_term 24 = .ok (.invokevirtual 33, 3) := dk_182 0 33 (dk_at dksX5_term_1 0 rfl rfl)
theorem dX5_term_27 : decode cX5_term 27 = .ok (.bipush 37, 2) := dk_16 37 (dk_at dksX5_term_1 3 rfl rfl)
theorem dX5_term_29 : decode cX5_term 29 = .ok (.if_icmp .ne 35, 3) := dk_160 0 35 (dk_at dksX5_term_1 5 rfl rfl)
theorem dX5_term_32 : decode cX5_term 32 = .ok (.aload_n 0, 1) := dk_42 (dk_at dksX5_term_1 8 rfl rfl)
theorem dX5_term_33 : decode cX5_term 33 = .ok (.invokevirtual 33, 3) := dk_182 0 33 (dk_at dksX5_term_1 9 rfl rfl)
theorem dX5_term_36 : decode cX5_term 36 = .ok (.istore_n 2, 1) := dk_61 (dk_at dksX5_term_1 12 rfl rfl)
theorem dX5_term_37 : decode cX5_term 37 = .ok (.aload_n 0, 1) := dk_42 (dk_at dksX5_term_1 13 rfl rfl)
theorem dX5_term_38 : decode cX5_term 38 = .ok (.dup, 1) := dk_89 (dk_at dksX5_term_1 14 rfl rfl)
theorem dX5_term_39 : decode cX5_term 39 = .ok (.getfield 23, 3) := dk_180 0 23 (dk_at dksX5_term_1 15 rfl rfl)
theorem dX5_term_42 : decode cX5_term 42 = .ok (.iconst 1, 1) := dk_4 (dk_at dksX5_term_1 18 rfl rfl)
theorem dX5_term_43 : decode cX5_term 43 = .ok (.iadd, 1) := dk_96 (dk_at dksX5_term_1 19 rfl rfl)
theorem dX5_term_44 : decode cX5_term 44 = .ok (.putfield 23, 3) := dk_181 0 23 (dk_at dksX5_term_1 20 rfl rfl)
theorem dX5_term_47 : decode cX5_term 47 = .ok (.new 99, 3) := dk_187 0 99 (dk_at dksX5_term_2 0 rfl rfl)
theorem dX5_term_50 : decode cX5_term 50 = .ok (.dup, 1) := dk_89 (dk_at dksX5_term_2 3 rfl rfl)
theorem dX5_term_51 : decode cX5_term 51 = .ok (.aload_n 1, 1) := dk_43 (dk_at dksX5_term_2 4 rfl rfl)
theorem dX5_term_52 : decode cX5_term 52 = .ok (.aload_n 0, 1) := dk_42 (dk_at dksX5_term_2 5 rfl rfl)
theorem dX5_term_53 : decode cX5_term 53 = .ok (.invokevirtual 95, 3) := dk_182 0 95 (dk_at dksX5_term_2 6 rfl rfl)
theorem dX5_term_56 : decode cX5_term 56 = .ok (.iload_n 2, 1) := dk_28 (dk_at dksX5_term_2 9 rfl rfl)
theorem dX5_term_57 : decode cX5_term 57 = .ok (.invokespecial 101, 3) := dk_183 0 101 (dk_at dksX5_term_2 10 rfl rfl)
theorem dX5_term_60 : decode cX5_term 60 = .ok (.astore_n 1, 1) := dk_76 (dk_at dksX5_term_2 13 rfl rfl)
theorem dX5_term_61 : decode cX5_term 61 = .ok (.goto (-56), 3) := dk_167 255 200 (dk_at dksX5_term_2 14 rfl rfl)
theorem dX5_term_64 : decode cX5_term 64 = .ok (.aload_n 1, 1) := dk_43 (dk_at dksX5_term_2 17 rfl rfl)
theorem dX5_term_65 : decode cX5_term 65 = .ok (.areturn, 1) := dk_176 (dk_at dksX5_term_2 18 rfl rfl)
abbrev cX5_value : ByteArray := prog_12_method_10_code
def yX5_value : MethodName := ⟨RX5, "value", "()LHalfFair$Value;"⟩
def dkwX5_value_4 : List UInt8 := [183, 0, 94, 176, 132, 2, 1, 167, 255, 196, 42, 180, 0, 3, 3, 27, 182, 0, 69, 191]
abbrev dktX5_value_4 : List UInt8 := dkwX5_value_4 ++ []
def dkwX5_value_3 : List UInt8 := [42, 89, 180, 0, 23, 42, 180, 0, 15, 28, 50, 182, 0, 52, 96, 181, 0, 23, 187, 0, 92, 89, 28]
abbrev dktX5_value_3 : List UInt8 := dkwX5_value_3 ++ dktX5_value_4
def dkwX5_value_2 : List UInt8 := [162, 0, 57, 42, 42, 180, 0, 15, 28, 50, 182, 0, 61, 154, 0, 6, 167, 0, 35, 42, 27, 182, 0, 89]
abbrev dktX5_value_2 : List UInt8 := dkwX5_value_2 ++ dktX5_value_3
def dkwX5_value_1 : List UInt8 := [18, 81, 182, 0, 82, 183, 0, 86, 77, 42, 27, 182, 0, 89, 44, 176, 3, 61, 28, 42, 180, 0, 15, 190]
abbrev dktX5_value_1 : List UInt8 := dkwX5_value_1 ++ dktX5_value_2
def dkwX5_value_0 : List UInt8 := [42, 182, 0, 45, 87, 42, 180, 0, 23, 60, 42, 182, 0, 65, 153, 0, 25, 187, 0, 79, 89, 42, 3]
abbrev dktX5_value_0 : List UInt8 := dkwX5_value_0 ++ dktX5_value_1
theorem dksX5_value_0 : cX5_value.data.toList.drop 0 = dktX5_value_0 := by decide +kernel
theorem dksX5_value_1 : cX5_value.data.toList.drop 23 = dktX5_value_1 := dk_seg dksX5_value_0 23 rfl rfl
theorem dksX5_value_2 : cX5_value.data.toList.drop 47 = dktX5_value_2 := dk_seg dksX5_value_1 24 rfl rfl
theorem dksX5_value_3 : cX5_value.data.toList.drop 71 = dktX5_value_3 := dk_seg dksX5_value_2 24 rfl rfl
theorem dksX5_value_4 : cX5_value.data.toList.drop 94 = dktX5_value_4 := dk_seg dksX5_value_3 23 rfl rfl
theorem dX5_value_0 : decode cX5_value 0 = .ok (.aload_n 0, 1) := dk_42 (dk_at dksX5_value_0 0 rfl rfl)
theorem dX5_value_1 : decode cX5_value 1 = .ok (.invokevirtual 45, 3) := dk_182 0 45 (dk_at dksX5_value_0 1 rfl rfl)
theorem dX5_value_4 : decode cX5_value 4 = .ok (.pop, 1) := dk_87 (dk_at dksX5_value_0 4 rfl rfl)
theorem dX5_value_5 : decode cX5_value 5 = .ok (.aload_n 0, 1) := dk_42 (dk_at dksX5_value_0 5 rfl rfl)
theorem dX5_value_6 : decode cX5_value 6 = .ok (.getfield 23, 3) := dk_180 0 23 (dk_at dksX5_value_0 6 rfl rfl)
theorem dX5_value_9 : decode cX5_value 9 = .ok (.istore_n 1, 1) := dk_60 (dk_at dksX5_value_0 9 rfl rfl)
theorem dX5_value_10 : decode cX5_value 10 = .ok (.aload_n 0, 1) := dk_42 (dk_at dksX5_value_0 10 rfl rfl)
theorem dX5_value_11 : decode cX5_value 11 = .ok (.invokevirtual 65, 3) := dk_182 0 65 (dk_at dksX5_value_0 11 rfl rfl)
theorem dX5_value_14 : decode cX5_value 14 = .ok (.ifCond .eq 25, 3) := dk_153 0 25 (dk_at dksX5_value_0 14 rfl rfl)
theorem dX5_value_17 : decode cX5_value 17 = .ok (.new 79, 3) := dk_187 0 79 (dk_at dksX5_value_0 17 rfl rfl)
theorem dX5_value_20 : decode cX5_value 20 = .ok (.dup, 1) := dk_89 (dk_at dksX5_value_0 20 rfl rfl)
theorem dX5_value_21 : decode cX5_value 21 = .ok (.aload_n 0, 1) := dk_42 (dk_at dksX5_value_0 21 rfl rfl)
theorem dX5_value_22 : decode cX5_value 22 = .ok (.iconst 0, 1) := dk_3 (dk_at dksX5_value_0 22 rfl rfl)
theorem dX5_value_23 : decode cX5_value 23 = .ok (.ldc 81, 2) := dk_18 81 (dk_at dksX5_value_1 0 rfl rfl)
theorem dX5_value_25 : decode cX5_value 25 = .ok (.invokevirtual 82, 3) := dk_182 0 82 (dk_at dksX5_value_1 2 rfl rfl)
theorem dX5_value_28 : decode cX5_value 28 = .ok (.invokespecial 86, 3) := dk_183 0 86 (dk_at dksX5_value_1 5 rfl rfl)
theorem dX5_value_31 : decode cX5_value 31 = .ok (.astore_n 2, 1) := dk_77 (dk_at dksX5_value_1 8 rfl rfl)
theorem dX5_value_32 : decode cX5_value 32 = .ok (.aload_n 0, 1) := dk_42 (dk_at dksX5_value_1 9 rfl rfl)
theorem dX5_value_33 : decode cX5_value 33 = .ok (.iload_n 1, 1) := dk_27 (dk_at dksX5_value_1 10 rfl rfl)
theorem dX5_value_34 : decode cX5_value 34 = .ok (.invokevirtual 89, 3) := dk_182 0 89 (dk_at dksX5_value_1 11 rfl rfl)
theorem dX5_value_37 : decode cX5_value 37 = .ok (.aload_n 2, 1) := dk_44 (dk_at dksX5_value_1 14 rfl rfl)
theorem dX5_value_38 : decode cX5_value 38 = .ok (.areturn, 1) := dk_176 (dk_at dksX5_value_1 15 rfl rfl)
theorem dX5_value_39 : decode cX5_value 39 = .ok (.iconst 0, 1) := dk_3 (dk_at dksX5_value_1 16 rfl rfl)
theorem dX5_value_40 : decode cX5_value 40 = .ok (.istore_n 2, 1) := dk_61 (dk_at dksX5_value_1 17 rfl rfl)
theorem dX5_value_41 : decode cX5_value 41 = .ok (.iload_n 2, 1) := dk_28 (dk_at dksX5_value_1 18 rfl rfl)
theorem dX5_value_42 : decode cX5_value 42 = .ok (.aload_n 0, 1) := dk_42 (dk_at dksX5_value_1 19 rfl rfl)
theorem dX5_value_43 : decode cX5_value 43 = .ok (.getfield 15, 3) := dk_180 0 15 (dk_at dksX5_value_1 20 rfl rfl)
theorem dX5_value_46 : decode cX5_value 46 = .ok (.arraylength, 1) := dk_190 (dk_at dksX5_value_1 23 rfl rfl)
theorem dX5_value_47 : decode cX5_value 47 = .ok (.if_icmp .ge 57, 3) := dk_162 0 57 (dk_at dksX5_value_2 0 rfl rfl)
theorem dX5_value_50 : decode cX5_value 50 = .ok (.aload_n 0, 1) := dk_42 (dk_at dksX5_value_2 3 rfl rfl)
theorem dX5_value_51 : decode cX5_value 51 = .ok (.aload_n 0, 1) := dk_42 (dk_at dksX5_value_2 4 rfl rfl)
theorem dX5_value_52 : decode cX5_value 52 = .ok (.getfield 15, 3) := dk_180 0 15 (dk_at dksX5_value_2 5 rfl rfl)
theorem dX5_value_55 : decode cX5_value 55 = .ok (.iload_n 2, 1) := dk_28 (dk_at dksX5_value_2 8 rfl rfl)
theorem dX5_value_56 : decode cX5_value 56 = .ok (.aaload, 1) := dk_50 (dk_at dksX5_value_2 9 rfl rfl)
theorem dX5_value_57 : decode cX5_value 57 = .ok (.invokevirtual 61, 3) := dk_182 0 61 (dk_at dksX5_value_2 10 rfl rfl)
theorem dX5_value_60 : decode cX5_value 60 = .ok (.ifCond .ne 6, 3) := dk_154 0 6 (dk_at dksX5_value_2 13 rfl rfl)
theorem dX5_value_63 : decode cX5_value 63 = .ok (.goto 35, 3) := dk_167 0 35 (dk_at dksX5_value_2 16 rfl rfl)
theorem dX5_value_66 : decode cX5_value 66 = .ok (.aload_n 0, 1) := dk_42 (dk_at dksX5_value_2 19 rfl rfl)
theorem dX5_value_67 : decode cX5_value 67 = .ok (.iload_n 1, 1) := dk_27 (dk_at dksX5_value_2 20 rfl rfl)
theorem dX5_value_68 : decode cX5_value 68 = .ok (.invokevirtual 89, 3) := dk_182 0 89 (dk_at dksX5_value_2 21 rfl rfl)
theorem dX5_value_71 : decode cX5_value 71 = .ok (.aload_n 0, 1) := dk_42 (dk_at dksX5_value_3 0 rfl rfl)
theorem dX5_value_72 : decode cX5_value 72 = .ok (.dup, 1) := dk_89 (dk_at dksX5_value_3 1 rfl rfl)
theorem dX5_value_73 : decode cX5_value 73 = .ok (.getfield 23, 3) := dk_180 0 23 (dk_at dksX5_value_3 2 rfl rfl)
theorem dX5_value_76 : decode cX5_value 76 = .ok (.aload_n 0, 1) := dk_42 (dk_at dksX5_value_3 5 rfl rfl)
theorem dX5_value_77 : decode cX5_value 77 = .ok (.getfield 15, 3) := dk_180 0 15 (dk_at dksX5_value_3 6 rfl rfl)
theorem dX5_value_80 : decode cX5_value 80 = .ok (.iload_n 2, 1) := dk_28 (dk_at dksX5_value_3 9 rfl rfl)
theorem dX5_value_81 : decode cX5_value 81 = .ok (.aaload, 1) := dk_50 (dk_at dksX5_value_3 10 rfl rfl)
theorem dX5_value_82 : decode cX5_value 82 = .ok (.invokevirtual 52, 3) := dk_182 0 52 (dk_at dksX5_value_3 11 rfl rfl)
theorem dX5_value_85 : decode cX5_value 85 = .ok (.iadd, 1) := dk_96 (dk_at dksX5_value_3 14 rfl rfl)
theorem dX5_value_86 : decode cX5_value 86 = .ok (.putfield 23, 3) := dk_181 0 23 (dk_at dksX5_value_3 15 rfl rfl)
theorem dX5_value_89 : decode cX5_value 89 = .ok (.new 92, 3) := dk_187 0 92 (dk_at dksX5_value_3 18 rfl rfl)
theorem dX5_value_92 : decode cX5_value 92 = .ok (.dup, 1) := dk_89 (dk_at dksX5_value_3 21 rfl rfl)
theorem dX5_value_93 : decode cX5_value 93 = .ok (.iload_n 2, 1) := dk_28 (dk_at dksX5_value_3 22 rfl rfl)
theorem dX5_value_94 : decode cX5_value 94 = .ok (.invokespecial 94, 3) := dk_183 0 94 (dk_at dksX5_value_4 0 rfl rfl)
theorem dX5_value_97 : decode cX5_value 97 = .ok (.areturn, 1) := dk_176 (dk_at dksX5_value_4 3 rfl rfl)
theorem dX5_value_98 : decode cX5_value 98 = .ok (.iinc 2 1, 3) := dk_132 2 1 (dk_at dksX5_value_4 4 rfl rfl)
theorem dX5_value_101 : decode cX5_value 101 = .ok (.goto (-60), 3) := dk_167 255 196 (dk_at dksX5_value_4 7 rfl rfl)
theorem dX5_value_104 : decode cX5_value 104 = .ok (.aload_n 0, 1) := dk_42 (dk_at dksX5_value_4 10 rfl rfl)
theorem dX5_value_105 : decode cX5_value 105 = .ok (.getfield 3, 3) := dk_180 0 3 (dk_at dksX5_value_4 11 rfl rfl)
theorem dX5_value_108 : decode cX5_value 108 = .ok (.iconst 0, 1) := dk_3 (dk_at dksX5_value_4 14 rfl rfl)
theorem dX5_value_109 : decode cX5_value 109 = .ok (.iload_n 1, 1) := dk_27 (dk_at dksX5_value_4 15 rfl rfl)
theorem dX5_value_110 : decode cX5_value 110 = .ok (.invokevirtual 69, 3) := dk_182 0 69 (dk_at dksX5_value_4 16 rfl rfl)
theorem dX5_value_113 : decode cX5_value 113 = .ok (.athrow, 1) := dk_191 (dk_at dksX5_value_4 19 rfl rfl)
abbrev cX5_counts : ByteArray := prog_12_method_8_code
def yX5_counts : MethodName := ⟨RX5, "counts", "(I)V"⟩
def dkwX5_counts_1 : List UInt8 := [4, 96, 181, 0, 73, 177]
abbrev dktX5_counts_1 : List UInt8 := dkwX5_counts_1 ++ []
def dkwX5_counts_0 : List UInt8 := [42, 180, 0, 73, 16, 60, 160, 0, 13, 42, 180, 0, 3, 6, 27, 182, 0, 69, 191, 42, 89, 180, 0, 73]
abbrev dktX5_counts_0 : List UInt8 := dkwX5_counts_0 ++ dktX5_counts_1
theorem dksX5_counts_0 : cX5_counts.data.toList.drop 0 = dktX5_counts_0 := by decide +kernel
theorem dksX5_counts_1 : cX5_counts.data.toList.drop 24 = dktX5_counts_1 := dk_seg dksX5_counts_0 24 rfl rfl
theorem dX5_counts_0 : decode cX5_counts 0 = .ok (.aload_n 0, 1) := dk_42 (dk_at dksX5_counts_0 0 rfl rfl)
theorem dX5_counts_1 : decode cX5_counts 1 = .ok (.getfield 73, 3) := dk_180 0 73 (dk_at dksX5_counts_0 1 rfl rfl)
theorem dX5_counts_4 : decode cX5_counts 4 = .ok (.bipush 60, 2) := dk_16 60 (dk_at dksX5_counts_0 4 rfl rfl)
theorem dX5_counts_6 : decode cX5_counts 6 = .ok (.if_icmp .ne 13, 3) := dk_160 0 13 (dk_at dksX5_counts_0 6 rfl rfl)
theorem dX5_counts_9 : decode cX5_counts 9 = .ok (.aload_n 0, 1) := dk_42 (dk_at dksX5_counts_0 9 rfl rfl)
theorem dX5_counts_10 : decode cX5_counts 10 = .ok (.getfield 3, 3) := dk_180 0 3 (dk_at dksX5_counts_0 10 rfl rfl)
theorem dX5_counts_13 : decode cX5_counts 13 = .ok (.iconst 3, 1) := dk_6 (dk_at dksX5_counts_0 13 rfl rfl)
theorem dX5_counts_14 : decode cX5_counts 14 = .ok (.iload_n 1, 1) := dk_27 (dk_at dksX5_counts_0 14 rfl rfl)
theorem dX5_counts_15 : decode cX5_counts 15 = .ok (.invokevirtual 69, 3) := dk_182 0 69 (dk_at dksX5_counts_0 15 rfl rfl)
theorem dX5_counts_18 : decode cX5_counts 18 = .ok (.athrow, 1) := dk_191 (dk_at dksX5_counts_0 18 rfl rfl)
theorem dX5_counts_19 : decode cX5_counts 19 = .ok (.aload_n 0, 1) := dk_42 (dk_at dksX5_counts_0 19 rfl rfl)
theorem dX5_counts_20 : decode cX5_counts 20 = .ok (.dup, 1) := dk_89 (dk_at dksX5_counts_0 20 rfl rfl)
theorem dX5_counts_21 : decode cX5_counts 21 = .ok (.getfield 73, 3) := dk_180 0 73 (dk_at dksX5_counts_0 21 rfl rfl)
theorem dX5_counts_24 : decode cX5_counts 24 = .ok (.iconst 1, 1) := dk_4 (dk_at dksX5_counts_1 0 rfl rfl)
theorem dX5_counts_25 : decode cX5_counts 25 = .ok (.iadd, 1) := dk_96 (dk_at dksX5_counts_1 1 rfl rfl)
theorem dX5_counts_26 : decode cX5_counts 26 = .ok (.putfield 73, 3) := dk_181 0 73 (dk_at dksX5_counts_1 2 rfl rfl)
theorem dX5_counts_29 : decode cX5_counts 29 = .ok (.return_, 1) := dk_177 (dk_at dksX5_counts_1 5 rfl rfl)
abbrev cX5_takes : ByteArray := prog_12_method_6_code
def yX5_takes : MethodName := ⟨RX5, "takes", "(Ljava/lang/String;)Z"⟩
def dkwX5_takes_1 : List UInt8 := [181, 0, 23, 28, 172]
abbrev dktX5_takes_1 : List UInt8 := dkwX5_takes_1 ++ []
def dkwX5_takes_0 : List UInt8 := [42, 43, 182, 0, 61, 61, 42, 89, 180, 0, 23, 28, 153, 0, 10, 43, 182, 0, 52, 167, 0, 4, 3, 96]
abbrev dktX5_takes_0 : List UInt8 := dkwX5_takes_0 ++ dktX5_takes_1
theorem dksX5_takes_0 : cX5_takes.data.toList.drop 0 = dktX5_takes_0 := by decide +kernel
theorem dksX5_takes_1 : cX5_takes.data.toList.drop 24 = dktX5_takes_1 := dk_seg dksX5_takes_0 24 rfl rfl
theorem dX5_takes_0 : decode cX5_takes 0 = .ok (.aload_n 0, 1) := dk_42 (dk_at dksX5_takes_0 0 rfl rfl)
theorem dX5_takes_1 : decode cX5_takes 1 = .ok (.aload_n 1, 1) := dk_43 (dk_at dksX5_takes_0 1 rfl rfl)
theorem dX5_takes_2 : decode cX5_takes 2 = .ok (.invokevirtual 61, 3) := dk_182 0 61 (dk_at dksX5_takes_0 2 rfl rfl)
theorem dX5_takes_5 : decode cX5_takes 5 = .ok (.istore_n 2, 1) := dk_61 (dk_at dksX5_takes_0 5 rfl rfl)
theorem dX5_takes_6 : decode cX5_takes 6 = .ok (.aload_n 0, 1) := dk_42 (dk_at dksX5_takes_0 6 rfl rfl)
theorem dX5_takes_7 : decode cX5_takes 7 = .ok (.dup, 1) := dk_89 (dk_at dksX5_takes_0 7 rfl rfl)
theorem dX5_takes_8 : decode cX5_takes 8 = .ok (.getfield 23, 3) := dk_180 0 23 (dk_at dksX5_takes_0 8 rfl rfl)
theorem dX5_takes_11 : decode cX5_takes 11 = .ok (.iload_n 2, 1) := dk_28 (dk_at dksX5_takes_0 11 rfl rfl)
theorem dX5_takes_12 : decode cX5_takes 12 = .ok (.ifCond .eq 10, 3) := dk_153 0 10 (dk_at dksX5_takes_0 12 rfl rfl)
theorem dX5_takes_15 : decode cX5_takes 15 = .ok (.aload_n 1, 1) := dk_43 (dk_at dksX5_takes_0 15 rfl rfl)
theorem dX5_takes_16 : decode cX5_takes 16 = .ok (.invokevirtual 52, 3) := dk_182 0 52 (dk_at dksX5_takes_0 16 rfl rfl)
theorem dX5_takes_19 : decode cX5_takes 19 = .ok (.goto 4, 3) := dk_167 0 4 (dk_at dksX5_takes_0 19 rfl rfl)
theorem dX5_takes_22 : decode cX5_takes 22 = .ok (.iconst 0, 1) := dk_3 (dk_at dksX5_takes_0 22 rfl rfl)
theorem dX5_takes_23 : decode cX5_takes 23 = .ok (.iadd, 1) := dk_96 (dk_at dksX5_takes_0 23 rfl rfl)
theorem dX5_takes_24 : decode cX5_takes 24 = .ok (.putfield 23, 3) := dk_181 0 23 (dk_at dksX5_takes_1 0 rfl rfl)
theorem dX5_takes_27 : decode cX5_takes 27 = .ok (.iload_n 2, 1) := dk_28 (dk_at dksX5_takes_1 3 rfl rfl)
theorem dX5_takes_28 : decode cX5_takes 28 = .ok (.ireturn, 1) := dk_172 (dk_at dksX5_takes_1 4 rfl rfl)
abbrev cX5_test : ByteArray := prog_12_method_15_code
def yX5_test : MethodName := ⟨RX5, "test", "()LHalfFair$Condition;"⟩
def dkwX5_test_1 : List UInt8 := [183, 0, 139, 76, 167, 255, 233, 43, 176]
abbrev dktX5_test_1 : List UInt8 := dkwX5_test_1 ++ []
def dkwX5_test_0 : List UInt8 := [42, 182, 0, 142, 76, 42, 18, 145, 182, 0, 134, 153, 0, 20, 187, 0, 137, 89, 43, 42, 182, 0, 142, 4]
abbrev dktX5_test_0 : List UInt8 := dkwX5_test_0 ++ dktX5_test_1
theorem dksX5_test_0 : cX5_test.data.toList.drop 0 = dktX5_test_0 := by decide +kernel
theorem dksX5_test_1 : cX5_test.data.toList.drop 24 = dktX5_test_1 := dk_seg dksX5_test_0 24 rfl rfl
theorem dX5_test_0 : decode cX5_test 0 = .ok (.aload_n 0, 1) := dk_42 (dk_at dksX5_test_0 0 rfl rfl)
theorem dX5_test_1 : decode cX5_test 1 = .ok (.invokevirtual 142, 3) := dk_182 0 142 (dk_at dksX5_test_0 1 rfl rfl)
theorem dX5_test_4 : decode cX5_test 4 = .ok (.astore_n 1, 1) := dk_76 (dk_at dksX5_test_0 4 rfl rfl)
theorem dX5_test_5 : decode cX5_test 5 = .ok (.aload_n 0, 1) := dk_42 (dk_at dksX5_test_0 5 rfl rfl)
theorem dX5_test_6 : decode cX5_test 6 = .ok (.ldc 145, 2) := dk_18 145 (dk_at dksX5_test_0 6 rfl rfl)
theorem dX5_test_8 : decode cX5_test 8 = .ok (.invokevirtual 134, 3) := dk_182 0 134 (dk_at dksX5_test_0 8 rfl rfl)
theorem dX5_test_11 : decode cX5_test 11 = .ok (.ifCond .eq 20, 3) := dk_153 0 20 (dk_at dksX5_test_0 11 rfl rfl)
theorem dX5_test_14 : decode cX5_test 14 = .ok (.new 137, 3) := dk_187 0 137 (dk_at dksX5_test_0 14 rfl rfl)
theorem dX5_test_17 : decode cX5_test 17 = .ok (.dup, 1) := dk_89 (dk_at dksX5_test_0 17 rfl rfl)
theorem dX5_test_18 : decode cX5_test 18 = .ok (.aload_n 1, 1) := dk_43 (dk_at dksX5_test_0 18 rfl rfl)
theorem dX5_test_19 : decode cX5_test 19 = .ok (.aload_n 0, 1) := dk_42 (dk_at dksX5_test_0 19 rfl rfl)
theorem dX5_test_20 : decode cX5_test 20 = .ok (.invokevirtual 142, 3) := dk_182 0 142 (dk_at dksX5_test_0 20 rfl rfl)
theorem dX5_test_23 : decode cX5_test 23 = .ok (.iconst 1, 1) := dk_4 (dk_at dksX5_test_0 23 rfl rfl)
theorem dX5_test_24 : decode cX5_test 24 = .ok (.invokespecial 139, 3) := dk_183 0 139 (dk_at dksX5_test_1 0 rfl rfl)
theorem dX5_test_27 : decode cX5_test 27 = .ok (.astore_n 1, 1) := dk_76 (dk_at dksX5_test_1 3 rfl rfl)
theorem dX5_test_28 : decode cX5_test 28 = .ok (.goto (-23), 3) := dk_167 255 233 (dk_at dksX5_test_1 4 rfl rfl)
theorem dX5_test_31 : decode cX5_test 31 = .ok (.aload_n 1, 1) := dk_43 (dk_at dksX5_test_1 7 rfl rfl)
theorem dX5_test_32 : decode cX5_test 32 = .ok (.areturn, 1) := dk_176 (dk_at dksX5_test_1 8 rfl rfl)
abbrev cX5_part : ByteArray := prog_12_method_14_code
def yX5_part : MethodName := ⟨RX5, "part", "()LHalfFair$Condition;"⟩
def dkwX5_part_1 : List UInt8 := [183, 0, 139, 76, 167, 255, 233, 43, 176]
abbrev dktX5_part_1 : List UInt8 := dkwX5_part_1 ++ []
def dkwX5_part_0 : List UInt8 := [42, 182, 0, 114, 76, 42, 18, 132, 182, 0, 134, 153, 0, 20, 187, 0, 137, 89, 43, 42, 182, 0, 114, 3]
abbrev dktX5_part_0 : List UInt8 := dkwX5_part_0 ++ dktX5_part_1
theorem dksX5_part_0 : cX5_part.data.toList.drop 0 = dktX5_part_0 := by decide +kernel
theorem dksX5_part_1 : cX5_part.data.toList.drop 24 = dktX5_part_1 := dk_seg dksX5_part_0 24 rfl rfl
theorem dX5_part_0 : decode cX5_part 0 = .ok (.aload_n 0, 1) := dk_42 (dk_at dksX5_part_0 0 rfl rfl)
theorem dX5_part_1 : decode cX5_part 1 = .ok (.invokevirtual 114, 3) := dk_182 0 114 (dk_at dksX5_part_0 1 rfl rfl)
theorem dX5_part_4 : decode cX5_part 4 = .ok (.astore_n 1, 1) := dk_76 (dk_at dksX5_part_0 4 rfl rfl)
theorem dX5_part_5 : decode cX5_part 5 = .ok (.aload_n 0, 1) := dk_42 (dk_at dksX5_part_0 5 rfl rfl)
theorem dX5_part_6 : decode cX5_part 6 = .ok (.ldc 132, 2) := dk_18 132 (dk_at dksX5_part_0 6 rfl rfl)
theorem dX5_part_8 : decode cX5_part 8 = .ok (.invokevirtual 134, 3) := dk_182 0 134 (dk_at dksX5_part_0 8 rfl rfl)
theorem dX5_part_11 : decode cX5_part 11 = .ok (.ifCond .eq 20, 3) := dk_153 0 20 (dk_at dksX5_part_0 11 rfl rfl)
theorem dX5_part_14 : decode cX5_part 14 = .ok (.new 137, 3) := dk_187 0 137 (dk_at dksX5_part_0 14 rfl rfl)
theorem dX5_part_17 : decode cX5_part 17 = .ok (.dup, 1) := dk_89 (dk_at dksX5_part_0 17 rfl rfl)
theorem dX5_part_18 : decode cX5_part 18 = .ok (.aload_n 1, 1) := dk_43 (dk_at dksX5_part_0 18 rfl rfl)
theorem dX5_part_19 : decode cX5_part 19 = .ok (.aload_n 0, 1) := dk_42 (dk_at dksX5_part_0 19 rfl rfl)
theorem dX5_part_20 : decode cX5_part 20 = .ok (.invokevirtual 114, 3) := dk_182 0 114 (dk_at dksX5_part_0 20 rfl rfl)
theorem dX5_part_23 : decode cX5_part 23 = .ok (.iconst 0, 1) := dk_3 (dk_at dksX5_part_0 23 rfl rfl)
theorem dX5_part_24 : decode cX5_part 24 = .ok (.invokespecial 139, 3) := dk_183 0 139 (dk_at dksX5_part_1 0 rfl rfl)
theorem dX5_part_27 : decode cX5_part 27 = .ok (.astore_n 1, 1) := dk_76 (dk_at dksX5_part_1 3 rfl rfl)
theorem dX5_part_28 : decode cX5_part 28 = .ok (.goto (-23), 3) := dk_167 255 233 (dk_at dksX5_part_1 4 rfl rfl)
theorem dX5_part_31 : decode cX5_part 31 = .ok (.aload_n 1, 1) := dk_43 (dk_at dksX5_part_1 7 rfl rfl)
theorem dX5_part_32 : decode cX5_part 32 = .ok (.areturn, 1) := dk_176 (dk_at dksX5_part_1 8 rfl rfl)
abbrev cX5_fact : ByteArray := prog_12_method_13_code
def yX5_fact : MethodName := ⟨RX5, "fact", "()LHalfFair$Condition;"⟩
def dkwX5_fact_10 : List UInt8 := [182, 0, 124, 29, 21, 4, 183, 0, 129, 176]
abbrev dktX5_fact_10 : List UInt8 := dkwX5_fact_10 ++ []
def dkwX5_fact_9 : List UInt8 := [180, 0, 23, 21, 4, 153, 0, 7, 4, 167, 0, 4, 3, 96, 181, 0, 23, 187, 0, 127, 89, 44, 42]
abbrev dktX5_fact_9 : List UInt8 := dkwX5_fact_9 ++ dktX5_fact_10
def dkwX5_fact_8 : List UInt8 := [16, 61, 159, 0, 16, 42, 182, 0, 33, 16, 61, 160, 0, 7, 4, 167, 0, 4, 3, 54, 4, 42, 89]
abbrev dktX5_fact_8 : List UInt8 := dkwX5_fact_8 ++ dktX5_fact_9
def dkwX5_fact_7 : List UInt8 := [182, 0, 69, 191, 42, 42, 180, 0, 23, 182, 0, 89, 42, 89, 180, 0, 23, 4, 96, 181, 0, 23, 29]
abbrev dktX5_fact_7 : List UInt8 := dkwX5_fact_7 ++ dktX5_fact_8
def dkwX5_fact_6 : List UInt8 := [159, 0, 28, 29, 16, 61, 159, 0, 22, 29, 16, 62, 159, 0, 16, 42, 180, 0, 3, 3, 42, 180, 0, 23]
abbrev dktX5_fact_6 : List UInt8 := dkwX5_fact_6 ++ dktX5_fact_7
def dkwX5_fact_5 : List UInt8 := [89, 180, 0, 76, 4, 100, 181, 0, 76, 44, 176, 42, 182, 0, 124, 77, 42, 182, 0, 45, 62, 29, 16, 60]
abbrev dktX5_fact_5 : List UInt8 := dkwX5_fact_5 ++ dktX5_fact_6
def dkwX5_fact_4 : List UInt8 := [42, 180, 0, 3, 3, 42, 180, 0, 23, 182, 0, 69, 191, 42, 89, 180, 0, 23, 4, 96, 181, 0, 23, 42]
abbrev dktX5_fact_4 : List UInt8 := dkwX5_fact_4 ++ dktX5_fact_5
def dkwX5_fact_3 : List UInt8 := [42, 89, 180, 0, 23, 4, 96, 181, 0, 23, 42, 182, 0, 121, 77, 42, 182, 0, 45, 16, 93, 159, 0, 16]
abbrev dktX5_fact_3 : List UInt8 := dkwX5_fact_3 ++ dktX5_fact_4
def dkwX5_fact_2 : List UInt8 := [180, 0, 76, 4, 100, 181, 0, 76, 44, 176, 42, 182, 0, 33, 16, 91, 160, 0, 67, 42, 27, 182, 0, 109]
abbrev dktX5_fact_2 : List UInt8 := dkwX5_fact_2 ++ dktX5_fact_3
def dkwX5_fact_1 : List UInt8 := [42, 89, 180, 0, 23, 6, 96, 181, 0, 23, 187, 0, 112, 89, 42, 182, 0, 114, 183, 0, 118, 77, 42, 89]
abbrev dktX5_fact_1 : List UInt8 := dkwX5_fact_1 ++ dktX5_fact_2
def dkwX5_fact_0 : List UInt8 := [42, 182, 0, 45, 87, 42, 180, 0, 23, 60, 42, 18, 107, 182, 0, 61, 153, 0, 42, 42, 27, 182, 0, 109]
abbrev dktX5_fact_0 : List UInt8 := dkwX5_fact_0 ++ dktX5_fact_1
theorem dksX5_fact_0 : cX5_fact.data.toList.drop 0 = dktX5_fact_0 := by decide +kernel
theorem dksX5_fact_1 : cX5_fact.data.toList.drop 24 = dktX5_fact_1 := dk_seg dksX5_fact_0 24 rfl rfl
theorem dksX5_fact_2 : cX5_fact.data.toList.drop 48 = dktX5_fact_2 := dk_seg dksX5_fact_1 24 rfl rfl
theorem dksX5_fact_3 : cX5_fact.data.toList.drop 72 = dktX5_fact_3 := dk_seg dksX5_fact_2 24 rfl rfl
theorem dksX5_fact_4 : cX5_fact.data.toList.drop 96 = dktX5_fact_4 := dk_seg dksX5_fact_3 24 rfl rfl
theorem dksX5_fact_5 : cX5_fact.data.toList.drop 120 = dktX5_fact_5 := dk_seg dksX5_fact_4 24 rfl rfl
theorem dksX5_fact_6 : cX5_fact.data.toList.drop 144 = dktX5_fact_6 := dk_seg dksX5_fact_5 24 rfl rfl
theorem dksX5_fact_7 : cX5_fact.data.toList.drop 168 = dktX5_fact_7 := dk_seg dksX5_fact_6 24 rfl rfl
theorem dksX5_fact_8 : cX5_fact.data.toList.drop 191 = dktX5_fact_8 := dk_seg dksX5_fact_7 23 rfl rfl
theorem dksX5_fact_9 : cX5_fact.data.toList.drop 214 = dktX5_fact_9 := dk_seg dksX5_fact_8 23 rfl rfl
theorem dksX5_fact_10 : cX5_fact.data.toList.drop 237 = dktX5_fact_10 := dk_seg dksX5_fact_9 23 rfl rfl
theorem dX5_fact_0 : decode cX5_fact 0 = .ok (.aload_n 0, 1) := dk_42 (dk_at dksX5_fact_0 0 rfl rfl)
theorem dX5_fact_1 : decode cX5_fact 1 = .ok (.invokevirtual 45, 3) := dk_182 0 45 (dk_at dksX5_fact_0 1 rfl rfl)
theorem dX5_fact_4 : decode cX5_fact 4 = .ok (.pop, 1) := dk_87 (dk_at dksX5_fact_0 4 rfl rfl)
theorem dX5_fact_5 : decode cX5_fact 5 = .ok (.aload_n 0, 1) := dk_42 (dk_at dksX5_fact_0 5 rfl rfl)
theorem dX5_fact_6 : decode cX5_fact 6 = .ok (.getfield 23, 3) := dk_180 0 23 (dk_at dksX5_fact_0 6 rfl rfl)
theorem dX5_fact_9 : decode cX5_fact 9 = .ok (.istore_n 1, 1) := dk_60 (dk_at dksX5_fact_0 9 rfl rfl)
theorem dX5_fact_10 : decode cX5_fact 10 = .ok (.aload_n 0, 1) := dk_42 (dk_at dksX5_fact_0 10 rfl rfl)
theorem dX5_fact_11 : decode cX5_fact 11 = .ok (.ldc 107, 2) := dk_18 107 (dk_at dksX5_fact_0 11 rfl rfl)
theorem dX5_fact_13 : decode cX5_fact 13 = .ok (.invokevirtual 61, 3) := dk_182 0 61 (dk_at dksX5_fact_0 13 rfl rfl)
theorem dX5_fact_16 : decode cX5_fact 16 = .ok (.ifCond .eq 42, 3) := dk_153 0 42 (dk_at dksX5_fact_0 16 rfl rfl)
theorem dX5_fact_19 : decode cX5_fact 19 = .ok (.aload_n 0, 1) := dk_42 (dk_at dksX5_fact_0 19 rfl rfl)
theorem dX5_fact_20 : decode cX5_fact 20 = .ok (.iload_n 1, 1) := dk_27 (dk_at dksX5_fact_0 20 rfl rfl)
theorem dX5_fact_21 : decode cX5_fact 21 = .ok (.invokevirtual 109, 3) := dk_182 0 109 (dk_at dksX5_fact_0 21 rfl rfl)
theorem dX5_fact_24 : decode cX5_fact 24 = .ok (.aload_n 0, 1) := dk_42 (dk_at dksX5_fact_1 0 rfl rfl)
theorem dX5_fact_25 : decode cX5_fact 25 = .ok (.dup, 1) := dk_89 (dk_at dksX5_fact_1 1 rfl rfl)
theorem dX5_fact_26 : decode cX5_fact 26 = .ok (.getfield 23, 3) := dk_180 0 23 (dk_at dksX5_fact_1 2 rfl rfl)
theorem dX5_fact_29 : decode cX5_fact 29 = .ok (.iconst 3, 1) := dk_6 (dk_at dksX5_fact_1 5 rfl rfl)
theorem dX5_fact_30 : decode cX5_fact 30 = .ok (.iadd, 1) := dk_96 (dk_at dksX5_fact_1 6 rfl rfl)
theorem dX5_fact_31 : decode cX5_fact 31 = .ok (.putfield 23, 3) := dk_181 0 23 (dk_at dksX5_fact_1 7 rfl rfl)
theorem dX5_fact_34 : decode cX5_fact 34 = .ok (.new 112, 3) := dk_187 0 112 (dk_at dksX5_fact_1 10 rfl rfl)
theorem dX5_fact_37 : decode cX5_fact 37 = .ok (.dup, 1) := dk_89 (dk_at dksX5_fact_1 13 rfl rfl)
theorem dX5_fact_38 : decode cX5_fact 38 = .ok (.aload_n 0, 1) := dk_42 (dk_at dksX5_fact_1 14 rfl rfl)
theorem dX5_fact_39 : decode cX5_fact 39 = .ok (.invokevirtual 114, 3) := dk_182 0 114 (dk_at dksX5_fact_1 15 rfl rfl)
theorem dX5_fact_42 : decode cX5_fact 42 = .ok (.invokespecial 118, 3) := dk_183 0 118 (dk_at dksX5_fact_1 18 rfl rfl)
theorem dX5_fact_45 : decode cX5_fact 45 = .ok (.astore_n 2, 1) := dk_77 (dk_at dksX5_fact_1 21 rfl rfl)
theorem dX5_fact_46 : decode cX5_fact 46 = .ok (.aload_n 0, 1) := dk_42 (dk_at dksX5_fact_1 22 rfl rfl)
theorem dX5_fact_47 : decode cX5_fact 47 = .ok (.dup, 1) := dk_89 (dk_at dksX5_fact_1 23 rfl rfl)
theorem dX5_fact_48 : decode cX5_fact 48 = .ok (.getfield 76, 3) := dk_180 0 76 (dk_at dksX5_fact_2 0 rfl rfl)
theorem dX5_fact_51 : decode cX5_fact 51 = .ok (.iconst 1, 1) := dk_4 (dk_at dksX5_fact_2 3 rfl rfl)
theorem dX5_fact_52 : decode cX5_fact 52 = .ok (.isub, 1) := dk_100 (dk_at dksX5_fact_2 4 rfl rfl)
theorem dX5_fact_53 : decode cX5_fact 53 = .ok (.putfield 76, 3) := dk_181 0 76 (dk_at dksX5_fact_2 5 rfl rfl)
theorem dX5_fact_56 : decode cX5_fact 56 = .ok (.aload_n 2, 1) := dk_44 (dk_at dksX5_fact_2 8 rfl rfl)
theorem dX5_fact_57 : decode cX5_fact 57 = .ok (.areturn, 1) := dk_176 (dk_at dksX5_fact_2 9 rfl rfl)
theorem dX5_fact_58 : decode cX5_fact 58 = .ok (.aload_n 0, 1) := dk_42 (dk_at dksX5_fact_2 10 rfl rfl)
theorem dX5_fact_59 : decode cX5_fact 59 = .ok (.invokevirtual 33, 3) := dk_182 0 33 (dk_at dksX5_fact_2 11 rfl rfl)
theorem dX5_fact_62 : decode cX5_fact 62 = .ok (.bipush 91, 2) := dk_16 91 (dk_at dksX5_fact_2 14 rfl rfl)
theorem dX5_fact_64 : decode cX5_fact 64 = .ok (.if_icmp .ne 67, 3) := dk_160 0 67 (dk_at dksX5_fact_2 16 rfl rfl)
theorem dX5_fact_67 : decode cX5_fact 67 = .ok (.aload_n 0, 1) := dk_42 (dk_at dksX5_fact_2 19 rfl rfl)
theorem dX5_fact_68 : decode cX5_fact 68 = .ok (.iload_n 1, 1) := dk_27 (dk_at dksX5_fact_2 20 rfl rfl)
theorem dX5_fact_69 : decode cX5_fact 69 = .ok (.invokevirtual 109, 3) := dk_182 0 109 (dk_at dksX5_fact_2 21 rfl rfl)
theorem dX5_fact_72 : decode cX5_fact 72 = .ok (.aload_n 0, 1) := dk_42 (dk_at dksX5_fact_3 0 rfl rfl)
theorem dX5_fact_73 : decode cX5_fact 73 = .ok (.dup, 1) := dk_89 (dk_at dksX5_fact_3 1 rfl rfl)
theorem dX5_fact_74 : decode cX5_fact 74 = .ok (.getfield 23, 3) := dk_180 0 23 (dk_at dksX5_fact_3 2 rfl rfl)
theorem dX5_fact_77 : decode cX5_fact 77 = .ok (.iconst 1, 1) := dk_4 (dk_at dksX5_fact_3 5 rfl rfl)
theorem dX5_fact_78 : decode cX5_fact 78 = .ok (.iadd, 1) := dk_96 (dk_at dksX5_fact_3 6 rfl rfl)
theorem dX5_fact_79 : decode cX5_fact 79 = .ok (.putfield 23, 3) := dk_181 0 23 (dk_at dksX5_fact_3 7 rfl rfl)
theorem dX5_fact_82 : decode cX5_fact 82 = .ok (.aload_n 0, 1) := dk_42 (dk_at dksX5_fact_3 10 rfl rfl)
theorem dX5_fact_83 : decode cX5_fact 83 = .ok (.invokevirtual 121, 3) := dk_182 0 121 (dk_at dksX5_fact_3 11 rfl rfl)
theorem dX5_fact_86 : decode cX5_fact 86 = .ok (.astore_n 2, 1) := dk_77 (dk_at dksX5_fact_3 14 rfl rfl)
theorem dX5_fact_87 : decode cX5_fact 87 = .ok (.aload_n 0, 1) := dk_42 (dk_at dksX5_fact_3 15 rfl rfl)
theorem dX5_fact_88 : decode cX5_fact 88 = .ok (.invokevirtual 45, 3) := dk_182 0 45 (dk_at dksX5_fact_3 16 rfl rfl)
theorem dX5_fact_91 : decode cX5_fact 91 = .ok (.bipush 93, 2) := dk_16 93 (dk_at dksX5_fact_3 19 rfl rfl)
theorem dX5_fact_93 : decode cX5_fact 93 = .ok (.if_icmp .eq 16, 3) := dk_159 0 16 (dk_at dksX5_fact_3 21 rfl rfl)
theorem dX5_fact_96 : decode cX5_fact 96 = .ok (.aload_n 0, 1) := dk_42 (dk_at dksX5_fact_4 0 rfl rfl)
theorem dX5_fact_97 : decode cX5_fact 97 = .ok (.getfield 3, 3) := dk_180 0 3 (dk_at dksX5_fact_4 1 rfl rfl)
theorem dX5_fact_100 : decode cX5_fact 100 = .ok (.iconst 0, 1) := dk_3 (dk_at dksX5_fact_4 4 rfl rfl)
theorem dX5_fact_101 : decode cX5_fact 101 = .ok (.aload_n 0, 1) := dk_42 (dk_at dksX5_fact_4 5 rfl rfl)
theorem dX5_fact_102 : decode cX5_fact 102 = .ok (.getfield 23, 3) := dk_180 0 23 (dk_at dksX5_fact_4 6 rfl rfl)
theorem dX5_fact_105 : decode cX5_fact 105 = .ok (.invokevirtual 69, 3) := dk_182 0 69 (dk_at dksX5_fact_4 9 rfl rfl)
theorem dX5_fact_108 : decode cX5_fact 108 = .ok (.athrow, 1) := dk_191 (dk_at dksX5_fact_4 12 rfl rfl)
theorem dX5_fact_109 : decode cX5_fact 109 = .ok (.aload_n 0, 1) := dk_42 (dk_at dksX5_fact_4 13 rfl rfl)
theorem dX5_fact_110 : decode cX5_fact 110 = .ok (.dup, 1) := dk_89 (dk_at dksX5_fact_4 14 rfl rfl)
theorem dX5_fact_111 : decode cX5_fact 111 = .ok (.getfield 23, 3) := dk_180 0 23 (dk_at dksX5_fact_4 15 rfl rfl)
theorem dX5_fact_114 : decode cX5_fact 114 = .ok (.iconst 1, 1) := dk_4 (dk_at dksX5_fact_4 18 rfl rfl)
theorem dX5_fact_115 : decode cX5_fact 115 = .ok (.iadd, 1) := dk_96 (dk_at dksX5_fact_4 19 rfl rfl)
theorem dX5_fact_116 : decode cX5_fact 116 = .ok (.putfield 23, 3) := dk_181 0 23 (dk_at dksX5_fact_4 20 rfl rfl)
theorem dX5_fact_119 : decode cX5_fact 119 = .ok (.aload_n 0, 1) := dk_42 (dk_at dksX5_fact_4 23 rfl rfl)
theorem dX5_fact_120 : decode cX5_fact 120 = .ok (.dup, 1) := dk_89 (dk_at dksX5_fact_5 0 rfl rfl)
theorem dX5_fact_121 : decode cX5_fact 121 = .ok (.getfield 76, 3) := dk_180 0 76 (dk_at dksX5_fact_5 1 rfl rfl)
theorem dX5_fact_124 : decode cX5_fact 124 = .ok (.iconst 1, 1) := dk_4 (dk_at dksX5_fact_5 4 rfl rfl)
theorem dX5_fact_125 : decode cX5_fact 125 = .ok (.isub, 1) := dk_100 (dk_at dksX5_fact_5 5 rfl rfl)
theorem dX5_fact_126 : decode cX5_fact 126 = .ok (.putfield 76, 3) := dk_181 0 76 (dk_at dksX5_fact_5 6 rfl rfl)
theorem dX5_fact_129 : decode cX5_fact 129 = .ok (.aload_n 2, 1) := dk_44 (dk_at dksX5_fact_5 9 rfl rfl)
theorem dX5_fact_130 : decode cX5_fact 130 = .ok (.areturn, 1) := dk_176 (dk_at dksX5_fact_5 10 rfl rfl)
theorem dX5_fact_131 : decode cX5_fact 131 = .ok (.aload_n 0, 1) := dk_42 (dk_at dksX5_fact_5 11 rfl rfl)
theorem dX5_fact_132 : decode cX5_fact 132 = .ok (.invokevirtual 124, 3) := dk_182 0 124 (dk_at dksX5_fact_5 12 rfl rfl)
theorem dX5_fact_135 : decode cX5_fact 135 = .ok (.astore_n 2, 1) := dk_77 (dk_at dksX5_fact_5 15 rfl rfl)
theorem dX5_fact_136 : decode cX5_fact 136 = .ok (.aload_n 0, 1) := dk_42 (dk_at dksX5_fact_5 16 rfl rfl)
theorem dX5_fact_137 : decode cX5_fact 137 = .ok (.invokevirtual 45, 3) := dk_182 0 45 (dk_at dksX5_fact_5 17 rfl rfl)
theorem dX5_fact_140 : decode cX5_fact 140 = .ok (.istore_n 3, 1) := dk_62 (dk_at dksX5_fact_5 20 rfl rfl)
theorem dX5_fact_141 : decode cX5_fact 141 = .ok (.iload_n 3, 1) := dk_29 (dk_at dksX5_fact_5 21 rfl rfl)
theorem dX5_fact_142 : decode cX5_fact 142 = .ok (.bipush 60, 2) := dk_16 60 (dk_at dksX5_fact_5 22 rfl rfl)
theorem dX5_fact_144 : decode cX5_fact 144 = .ok (.if_icmp .eq 28, 3) := dk_159 0 28 (dk_at dksX5_fact_6 0 rfl rfl)
theorem dX5_fact_147 : decode cX5_fact 147 = .ok (.iload_n 3, 1) := dk_29 (dk_at dksX5_fact_6 3 rfl rfl)
theorem dX5_fact_148 : decode cX5_fact 148 = .ok (.bipush 61, 2) := dk_16 61 (dk_at dksX5_fact_6 4 rfl rfl)
theorem dX5_fact_150 : decode cX5_fact 150 = .ok (.if_icmp .eq 22, 3) := dk_159 0 22 (dk_at dksX5_fact_6 6 rfl rfl)
theorem dX5_fact_153 : decode cX5_fact 153 = .ok (.iload_n 3, 1) := dk_29 (dk_at dksX5_fact_6 9 rfl rfl)
theorem dX5_fact_154 : decode cX5_fact 154 = .ok (.bipush 62, 2) := dk_16 62 (dk_at dksX5_fact_6 10 rfl rfl)
theorem dX5_fact_156 : decode cX5_fact 156 = .ok (.if_icmp .eq 16, 3) := dk_159 0 16 (dk_at dksX5_fact_6 12 rfl rfl)
theorem dX5_fact_159 : decode cX5_fact 159 = .ok (.aload_n 0, 1) := dk_42 (dk_at dksX5_fact_6 15 rfl rfl)
theorem dX5_fact_160 : decode cX5_fact 160 = .ok (.getfield 3, 3) := dk_180 0 3 (dk_at dksX5_fact_6 16 rfl rfl)
theorem dX5_fact_163 : decode cX5_fact 163 = .ok (.iconst 0, 1) := dk_3 (dk_at dksX5_fact_6 19 rfl rfl)
theorem dX5_fact_164 : decode cX5_fact 164 = .ok (.aload_n 0, 1) := dk_42 (dk_at dksX5_fact_6 20 rfl rfl)
theorem dX5_fact_165 : decode cX5_fact 165 = .ok (.getfield 23, 3) := dk_180 0 23 (dk_at dksX5_fact_6 21 rfl rfl)
theorem dX5_fact_168 : decode cX5_fact 168 = .ok (.invokevirtual 69, 3) := dk_182 0 69 (dk_at dksX5_fact_7 0 rfl rfl)
theorem dX5_fact_171 : decode cX5_fact 171 = .ok (.athrow, 1) := dk_191 (dk_at dksX5_fact_7 3 rfl rfl)
theorem dX5_fact_172 : decode cX5_fact 172 = .ok (.aload_n 0, 1) := dk_42 (dk_at dksX5_fact_7 4 rfl rfl)
theorem dX5_fact_173 : decode cX5_fact 173 = .ok (.aload_n 0, 1) := dk_42 (dk_at dksX5_fact_7 5 rfl rfl)
theorem dX5_fact_174 : decode cX5_fact 174 = .ok (.getfield 23, 3) := dk_180 0 23 (dk_at dksX5_fact_7 6 rfl rfl)
theorem dX5_fact_177 : decode cX5_fact 177 = .ok (.invokevirtual 89, 3) := dk_182 0 89 (dk_at dksX5_fact_7 9 rfl rfl)
theorem dX5_fact_180 : decode cX5_fact 180 = .ok (.aload_n 0, 1) := dk_42 (dk_at dksX5_fact_7 12 rfl rfl)
theorem dX5_fact_181 : decode cX5_fact 181 = .ok (.dup, 1) := dk_89 (dk_at dksX5_fact_7 13 rfl rfl)
theorem dX5_fact_182 : decode cX5_fact 182 = .ok (.getfield 23, 3) := dk_180 0 23 (dk_at dksX5_fact_7 14 rfl rfl)
theorem dX5_fact_185 : decode cX5_fact 185 = .ok (.iconst 1, 1) := dk_4 (dk_at dksX5_fact_7 17 rfl rfl)
theorem dX5_fact_186 : decode cX5_fact 186 = .ok (.iadd, 1) := dk_96 (dk_at dksX5_fact_7 18 rfl rfl)
theorem dX5_fact_187 : decode cX5_fact 187 = .ok (.putfield 23, 3) := dk_181 0 23 (dk_at dksX5_fact_7 19 rfl rfl)
theorem dX5_fact_190 : decode cX5_fact 190 = .ok (.iload_n 3, 1) := dk_29 (dk_at dksX5_fact_7 22 rfl rfl)
theorem dX5_fact_191 : decode cX5_fact 191 = .ok (.bipush 61, 2) := dk_16 61 (dk_at dksX5_fact_8 0 rfl rfl)
theorem dX5_fact_193 : decode cX5_fact 193 = .ok (.if_icmp .eq 16, 3) := dk_159 0 16 (dk_at dksX5_fact_8 2 rfl rfl)
theorem dX5_fact_196 : decode cX5_fact 196 = .ok (.aload_n 0, 1) := dk_42 (dk_at dksX5_fact_8 5 rfl rfl)
theorem dX5_fact_197 : decode cX5_fact 197 = .ok (.invokevirtual 33, 3) := dk_182 0 33 (dk_at dksX5_fact_8 6 rfl rfl)
theorem dX5_fact_200 : decode cX5_fact 200 = .ok (.bipush 61, 2) := dk_16 61 (dk_at dksX5_fact_8 9 rfl rfl)
theorem dX5_fact_202 : decode cX5_fact 202 = .ok (.if_icmp .ne 7, 3) := dk_160 0 7 (dk_at dksX5_fact_8 11 rfl rfl)
theorem dX5_fact_205 : decode cX5_fact 205 = .ok (.iconst 1, 1) := dk_4 (dk_at dksX5_fact_8 14 rfl rfl)
theorem dX5_fact_206 : decode cX5_fact 206 = .ok (.goto 4, 3) := dk_167 0 4 (dk_at dksX5_fact_8 15 rfl rfl)
theorem dX5_fact_209 : decode cX5_fact 209 = .ok (.iconst 0, 1) := dk_3 (dk_at dksX5_fact_8 18 rfl rfl)
theorem dX5_fact_210 : decode cX5_fact 210 = .ok (.istore 4, 2) := dk_54 4 (dk_at dksX5_fact_8 19 rfl rfl)
theorem dX5_fact_212 : decode cX5_fact 212 = .ok (.aload_n 0, 1) := dk_42 (dk_at dksX5_fact_8 21 rfl rfl)
theorem dX5_fact_213 : decode cX5_fact 213 = .ok (.dup, 1) := dk_89 (dk_at dksX5_fact_8 22 rfl rfl)
theorem dX5_fact_214 : decode cX5_fact 214 = .ok (.getfield 23, 3) := dk_180 0 23 (dk_at dksX5_fact_9 0 rfl rfl)
theorem dX5_fact_217 : decode cX5_fact 217 = .ok (.iload 4, 2) := dk_21 4 (dk_at dksX5_fact_9 3 rfl rfl)
theorem dX5_fact_219 : decode cX5_fact 219 = .ok (.ifCond .eq 7, 3) := dk_153 0 7 (dk_at dksX5_fact_9 5 rfl rfl)
theorem dX5_fact_222 : decode cX5_fact 222 = .ok (.iconst 1, 1) := dk_4 (dk_at dksX5_fact_9 8 rfl rfl)
theorem dX5_fact_223 : decode cX5_fact 223 = .ok (.goto 4, 3) := dk_167 0 4 (dk_at dksX5_fact_9 9 rfl rfl)
theorem dX5_fact_226 : decode cX5_fact 226 = .ok (.iconst 0, 1) := dk_3 (dk_at dksX5_fact_9 12 rfl rfl)
theorem dX5_fact_227 : decode cX5_fact 227 = .ok (.iadd, 1) := dk_96 (dk_at dksX5_fact_9 13 rfl rfl)
theorem dX5_fact_228 : decode cX5_fact 228 = .ok (.putfield 23, 3) := dk_181 0 23 (dk_at dksX5_fact_9 14 rfl rfl)
theorem dX5_fact_231 : decode cX5_fact 231 = .ok (.new 127, 3) := dk_187 0 127 (dk_at dksX5_fact_9 17 rfl rfl)
theorem dX5_fact_234 : decode cX5_fact 234 = .ok (.dup, 1) := dk_89 (dk_at dksX5_fact_9 20 rfl rfl)
theorem dX5_fact_235 : decode cX5_fact 235 = .ok (.aload_n 2, 1) := dk_44 (dk_at dksX5_fact_9 21 rfl rfl)
theorem dX5_fact_236 : decode cX5_fact 236 = .ok (.aload_n 0, 1) := dk_42 (dk_at dksX5_fact_9 22 rfl rfl)
theorem dX5_fact_237 : decode cX5_fact 237 = .ok (.invokevirtual 124, 3) := dk_182 0 124 (dk_at dksX5_fact_10 0 rfl rfl)
theorem dX5_fact_240 : decode cX5_fact 240 = .ok (.iload_n 3, 1) := dk_29 (dk_at dksX5_fact_10 3 rfl rfl)
theorem dX5_fact_241 : decode cX5_fact 241 = .ok (.iload 4, 2) := dk_21 4 (dk_at dksX5_fact_10 4 rfl rfl)
theorem dX5_fact_243 : decode cX5_fact 243 = .ok (.invokespecial 129, 3) := dk_183 0 129 (dk_at dksX5_fact_10 6 rfl rfl)
theorem dX5_fact_246 : decode cX5_fact 246 = .ok (.areturn, 1) := dk_176 (dk_at dksX5_fact_10 9 rfl rfl)
