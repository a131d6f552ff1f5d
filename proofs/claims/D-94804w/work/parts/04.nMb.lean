set_option maxRecDepth 100000
abbrev cX4_closes : ByteArray := prog_20_method_28_code
def yX4_closes : MethodName := ⟨RX4, "closes", "()V"⟩
def dkwX4_closes_2 : List UInt8 := [89, 180, 0, 81, 4, 96, 181, 0, 81, 42, 6, 182, 0, 187, 167, 255, 200, 177]
abbrev dktX4_closes_2 : List UInt8 := dkwX4_closes_2 ++ []
def dkwX4_closes_1 : List UInt8 := [182, 0, 187, 42, 89, 180, 0, 148, 4, 100, 181, 0, 148, 42, 89, 180, 0, 145, 4, 100, 181, 0, 145, 42]
abbrev dktX4_closes_1 : List UInt8 := dkwX4_closes_1 ++ dktX4_closes_2
def dkwX4_closes_0 : List UInt8 := [42, 6, 182, 0, 187, 42, 182, 0, 84, 16, 93, 160, 0, 53, 42, 182, 0, 190, 153, 0, 46, 42, 4]
abbrev dktX4_closes_0 : List UInt8 := dkwX4_closes_0 ++ dktX4_closes_1
theorem dksX4_closes_0 : cX4_closes.data.toList.drop 0 = dktX4_closes_0 := by decide +kernel
theorem dksX4_closes_1 : cX4_closes.data.toList.drop 23 = dktX4_closes_1 := dk_seg dksX4_closes_0 23 rfl rfl
theorem dksX4_closes_2 : cX4_closes.data.toList.drop 47 = dktX4_closes_2 := dk_seg dksX4_closes_1 24 rfl rfl
theorem dX4_closes_0 : decode cX4_closes 0 = .ok (.aload_n 0, 1) := dk_42 (dk_at dksX4_closes_0 0 rfl rfl)
theorem dX4_closes_1 : decode cX4_closes 1 = .ok (.iconst 3, 1) := dk_6 (dk_at dksX4_closes_0 1 rfl rfl)
theorem dX4_closes_2 : decode cX4_closes 2 = .ok (.invokevirtual 187, 3) := dk_182 0 187 (dk_at dksX4_closes_0 2 rfl rfl)
theorem dX4_closes_5 : decode cX4_closes 5 = .ok (.aload_n 0, 1) := dk_42 (dk_at dksX4_closes_0 5 rfl rfl)
theorem dX4_closes_6 : decode cX4_closes 6 = .ok (.invokevirtual 84, 3) := dk_182 0 84 (dk_at dksX4_closes_0 6 rfl rfl)
theorem dX4_closes_9 : decode cX4_closes 9 = .ok (.bipush 93, 2) := dk_16 93 (dk_at dksX4_closes_0 9 rfl rfl)
theorem dX4_closes_11 : decode cX4_closes 11 = .ok (.if_icmp .ne 53, 3) := dk_160 0 53 (dk_at dksX4_closes_0 11 rfl rfl)
theorem dX4_closes_14 : decode cX4_closes 14 = .ok (.aload_n 0, 1) := dk_42 (dk_at dksX4_closes_0 14 rfl rfl)
theorem dX4_closes_15 : decode cX4_closes 15 = .ok (.invokevirtual 190, 3) := dk_182 0 190 (dk_at dksX4_closes_0 15 rfl rfl)
theorem dX4_closes_18 : decode cX4_closes 18 = .ok (.ifCond .eq 46, 3) := dk_153 0 46 (dk_at dksX4_closes_0 18 rfl rfl)
theorem dX4_closes_21 : decode cX4_closes 21 = .ok (.aload_n 0, 1) := dk_42 (dk_at dksX4_closes_0 21 rfl rfl)
theorem dX4_closes_22 : decode cX4_closes 22 = .ok (.iconst 1, 1) := dk_4 (dk_at dksX4_closes_0 22 rfl rfl)
theorem dX4_closes_23 : decode cX4_closes 23 = .ok (.invokevirtual 187, 3) := dk_182 0 187 (dk_at dksX4_closes_1 0 rfl rfl)
theorem dX4_closes_26 : decode cX4_closes 26 = .ok (.aload_n 0, 1) := dk_42 (dk_at dksX4_closes_1 3 rfl rfl)
theorem dX4_closes_27 : decode cX4_closes 27 = .ok (.dup, 1) := dk_89 (dk_at dksX4_closes_1 4 rfl rfl)
theorem dX4_closes_28 : decode cX4_closes 28 = .ok (.getfield 148, 3) := dk_180 0 148 (dk_at dksX4_closes_1 5 rfl rfl)
theorem dX4_closes_31 : decode cX4_closes 31 = .ok (.iconst 1, 1) := dk_4 (dk_at dksX4_closes_1 8 rfl rfl)
theorem dX4_closes_32 : decode cX4_closes 32 = .ok (.isub, 1) := dk_100 (dk_at dksX4_closes_1 9 rfl rfl)
theorem dX4_closes_33 : decode cX4_closes 33 = .ok (.putfield 148, 3) := dk_181 0 148 (dk_at dksX4_closes_1 10 rfl rfl)
theorem dX4_closes_36 : decode cX4_closes 36 = .ok (.aload_n 0, 1) := dk_42 (dk_at dksX4_closes_1 13 rfl rfl)
theorem dX4_closes_37 : decode cX4_closes 37 = .ok (.dup, 1) := dk_89 (dk_at dksX4_closes_1 14 rfl rfl)
theorem dX4_closes_38 : decode cX4_closes 38 = .ok (.getfield 145, 3) := dk_180 0 145 (dk_at dksX4_closes_1 15 rfl rfl)
theorem dX4_closes_41 : decode cX4_closes 41 = .ok (.iconst 1, 1) := dk_4 (dk_at dksX4_closes_1 18 rfl rfl)
theorem dX4_closes_42 : decode cX4_closes 42 = .ok (.isub, 1) := dk_100 (dk_at dksX4_closes_1 19 rfl rfl)
theorem dX4_closes_43 : decode cX4_closes 43 = .ok (.putfield 145, 3) := dk_181 0 145 (dk_at dksX4_closes_1 20 rfl rfl)
theorem dX4_closes_46 : decode cX4_closes 46 = .ok (.aload_n 0, 1) := dk_42 (dk_at dksX4_closes_1 23 rfl rfl)
theorem dX4_closes_47 : decode cX4_closes 47 = .ok (.dup, 1) := dk_89 (dk_at dksX4_closes_2 0 rfl rfl)
theorem dX4_closes_48 : decode cX4_closes 48 = .ok (.getfield 81, 3) := dk_180 0 81 (dk_at dksX4_closes_2 1 rfl rfl)
theorem dX4_closes_51 : decode cX4_closes 51 = .ok (.iconst 1, 1) := dk_4 (dk_at dksX4_closes_2 4 rfl rfl)
theorem dX4_closes_52 : decode cX4_closes 52 = .ok (.iadd, 1) := dk_96 (dk_at dksX4_closes_2 5 rfl rfl)
theorem dX4_closes_53 : decode cX4_closes 53 = .ok (.putfield 81, 3) := dk_181 0 81 (dk_at dksX4_closes_2 6 rfl rfl)
theorem dX4_closes_56 : decode cX4_closes 56 = .ok (.aload_n 0, 1) := dk_42 (dk_at dksX4_closes_2 9 rfl rfl)
theorem dX4_closes_57 : decode cX4_closes 57 = .ok (.iconst 3, 1) := dk_6 (dk_at dksX4_closes_2 10 rfl rfl)
theorem dX4_closes_58 : decode cX4_closes 58 = .ok (.invokevirtual 187, 3) := dk_182 0 187 (dk_at dksX4_closes_2 11 rfl rfl)
theorem dX4_closes_61 : decode cX4_closes 61 = .ok (.goto (-56), 3) := dk_167 255 200 (dk_at dksX4_closes_2 14 rfl rfl)
theorem dX4_closes_64 : decode cX4_closes 64 = .ok (.return_, 1) := dk_177 (dk_at dksX4_closes_2 17 rfl rfl)
abbrev cX4_settles : ByteArray := prog_20_method_21_code
def yX4_settles : MethodName := ⟨RX4, "settles", "(I)V"⟩
def dkwX4_settles_3 : List UInt8 := [181, 0, 145, 167, 255, 183, 177]
abbrev dktX4_settles_3 : List UInt8 := dkwX4_settles_3 ++ []
def dkwX4_settles_2 : List UInt8 := [182, 0, 155, 42, 180, 0, 29, 42, 180, 0, 148, 46, 16, 11, 160, 255, 196, 42, 89, 180, 0, 145, 4, 100]
abbrev dktX4_settles_2 : List UInt8 := dkwX4_settles_2 ++ dktX4_settles_3
def dkwX4_settles_1 : List UInt8 := [161, 0, 54, 42, 89, 180, 0, 148, 4, 100, 181, 0, 148, 42, 42, 180, 0, 29, 42, 180, 0, 148, 46, 3]
abbrev dktX4_settles_1 : List UInt8 := dkwX4_settles_1 ++ dktX4_settles_2
def dkwX4_settles_0 : List UInt8 := [42, 180, 0, 148, 158, 0, 72, 42, 180, 0, 29, 42, 180, 0, 148, 4, 100, 46, 184, 0, 151, 27]
abbrev dktX4_settles_0 : List UInt8 := dkwX4_settles_0 ++ dktX4_settles_1
theorem dksX4_settles_0 : cX4_settles.data.toList.drop 0 = dktX4_settles_0 := by decide +kernel
theorem dksX4_settles_1 : cX4_settles.data.toList.drop 22 = dktX4_settles_1 := dk_seg dksX4_settles_0 22 rfl rfl
theorem dksX4_settles_2 : cX4_settles.data.toList.drop 46 = dktX4_settles_2 := dk_seg dksX4_settles_1 24 rfl rfl
theorem dksX4_settles_3 : cX4_settles.data.toList.drop 70 = dktX4_settles_3 := dk_seg dksX4_settles_2 24 rfl rfl
theorem dX4_settles_0 : decode cX4_settles 0 = .ok (.aload_n 0, 1) := dk_42 (dk_at dksX4_settles_0 0 rfl rfl)
theorem dX4_settles_1 : decode cX4_settles 1 = .ok (.getfield 148, 3) := dk_180 0 148 (dk_at dksX4_settles_0 1 rfl rfl)
theorem dX4_settles_4 : decode cX4_settles 4 = .ok (.ifCond .le 72, 3) := dk_158 0 72 (dk_at dksX4_settles_0 4 rfl rfl)
theorem dX4_settles_7 : decode cX4_settles 7 = .ok (.aload_n 0, 1) := dk_42 (dk_at dksX4_settles_0 7 rfl rfl)
theorem dX4_settles_8 : decode cX4_settles 8 = .ok (.getfield 29, 3) := dk_180 0 29 (dk_at dksX4_settles_0 8 rfl rfl)
theorem dX4_settles_11 : decode cX4_settles 11 = .ok (.aload_n 0, 1) := dk_42 (dk_at dksX4_settles_0 11 rfl rfl)
theorem dX4_settles_12 : decode cX4_settles 12 = .ok (.getfield 148, 3) := dk_180 0 148 (dk_at dksX4_settles_0 12 rfl rfl)
theorem dX4_settles_15 : decode cX4_settles 15 = .ok (.iconst 1, 1) := dk_4 (dk_at dksX4_settles_0 15 rfl rfl)
theorem dX4_settles_16 : decode cX4_settles 16 = .ok (.isub, 1) := dk_100 (dk_at dksX4_settles_0 16 rfl rfl)
theorem dX4_settles_17 : decode cX4_settles 17 = .ok (.iaload, 1) := dk_46 (dk_at dksX4_settles_0 17 rfl rfl)
theorem dX4_settles_18 : decode cX4_settles 18 = .ok (.invokestatic 151, 3) := dk_184 0 151 (dk_at dksX4_settles_0 18 rfl rfl)
theorem dX4_settles_21 : decode cX4_settles 21 = .ok (.iload_n 1, 1) := dk_27 (dk_at dksX4_settles_0 21 rfl rfl)
theorem dX4_settles_22 : decode cX4_settles 22 = .ok (.if_icmp .lt 54, 3) := dk_161 0 54 (dk_at dksX4_settles_1 0 rfl rfl)
theorem dX4_settles_25 : decode cX4_settles 25 = .ok (.aload_n 0, 1) := dk_42 (dk_at dksX4_settles_1 3 rfl rfl)
theorem dX4_settles_26 : decode cX4_settles 26 = .ok (.dup, 1) := dk_89 (dk_at dksX4_settles_1 4 rfl rfl)
theorem dX4_settles_27 : decode cX4_settles 27 = .ok (.getfield 148, 3) := dk_180 0 148 (dk_at dksX4_settles_1 5 rfl rfl)
theorem dX4_settles_30 : decode cX4_settles 30 = .ok (.iconst 1, 1) := dk_4 (dk_at dksX4_settles_1 8 rfl rfl)
theorem dX4_settles_31 : decode cX4_settles 31 = .ok (.isub, 1) := dk_100 (dk_at dksX4_settles_1 9 rfl rfl)
theorem dX4_settles_32 : decode cX4_settles 32 = .ok (.putfield 148, 3) := dk_181 0 148 (dk_at dksX4_settles_1 10 rfl rfl)
theorem dX4_settles_35 : decode cX4_settles 35 = .ok (.aload_n 0, 1) := dk_42 (dk_at dksX4_settles_1 13 rfl rfl)
theorem dX4_settles_36 : decode cX4_settles 36 = .ok (.aload_n 0, 1) := dk_42 (dk_at dksX4_settles_1 14 rfl rfl)
theorem dX4_settles_37 : decode cX4_settles 37 = .ok (.getfield 29, 3) := dk_180 0 29 (dk_at dksX4_settles_1 15 rfl rfl)
theorem dX4_settles_40 : decode cX4_settles 40 = .ok (.aload_n 0, 1) := dk_42 (dk_at dksX4_settles_1 18 rfl rfl)
theorem dX4_settles_41 : decode cX4_settles 41 = .ok (.getfield 148, 3) := dk_180 0 148 (dk_at dksX4_settles_1 19 rfl rfl)
theorem dX4_settles_44 : decode cX4_settles 44 = .ok (.iaload, 1) := dk_46 (dk_at dksX4_settles_1 22 rfl rfl)
theorem dX4_settles_45 : decode cX4_settles 45 = .ok (.iconst 0, 1) := dk_3 (dk_at dksX4_settles_1 23 rfl rfl)
theorem dX4_settles_46 : decode cX4_settles 46 = .ok (.invokevirtual 155, 3) := dk_182 0 155 (dk_at dksX4_settles_2 0 rfl rfl)
theorem dX4_settles_49 : decode cX4_settles 49 = .ok (.aload_n 0, 1) := dk_42 (dk_at dksX4_settles_2 3 rfl rfl)
theorem dX4_settles_50 : decode cX4_settles 50 = .ok (.getfield 29, 3) := dk_180 0 29 (dk_at dksX4_settles_2 4 rfl rfl)
theorem dX4_settles_53 : decode cX4_settles 53 = .ok (.aload_n 0, 1) := dk_42 (dk_at dksX4_settles_2 7 rfl rfl)
theorem dX4_settles_54 : decode cX4_settles 54 = .ok (.getfield 148, 3) := dk_180 0 148 (dk_at dksX4_settles_2 8 rfl rfl)
theorem dX4_settles_57 : decode cX4_settles 57 = .ok (.iaload, 1) := dk_46 (dk_at dksX4_settles_2 11 rfl rfl)
theorem dX4_settles_58 : decode cX4_settles 58 = .ok (.bipush 11, 2) := dk_16 11 (dk_at dksX4_settles_2 12 rfl rfl)
theorem dX4_settles_60 : decode cX4_settles 60 = .ok (.if_icmp .ne (-60), 3) := dk_160 255 196 (dk_at dksX4_settles_2 14 rfl rfl)
theorem dX4_settles_63 : decode cX4_settles 63 = .ok (.aload_n 0, 1) := dk_42 (dk_at dksX4_settles_2 17 rfl rfl)
theorem dX4_settles_64 : decode cX4_settles 64 = .ok (.dup, 1) := dk_89 (dk_at dksX4_settles_2 18 rfl rfl)
theorem dX4_settles_65 : decode cX4_settles 65 = .ok (.getfield 145, 3) := dk_180 0 145 (dk_at dksX4_settles_2 19 rfl rfl)
theorem dX4_settles_68 : decode cX4_settles 68 = .ok (.iconst 1, 1) := dk_4 (dk_at dksX4_settles_2 22 rfl rfl)
theorem dX4_settles_69 : decode cX4_settles 69 = .ok (.isub, 1) := dk_100 (dk_at dksX4_settles_2 23 rfl rfl)
theorem dX4_settles_70 : decode cX4_settles 70 = .ok (.putfield 145, 3) := dk_181 0 145 (dk_at dksX4_settles_3 0 rfl rfl)
theorem dX4_settles_73 : decode cX4_settles 73 = .ok (.goto (-73), 3) := dk_167 255 183 (dk_at dksX4_settles_3 3 rfl rfl)
theorem dX4_settles_76 : decode cX4_settles 76 = .ok (.return_, 1) := dk_177 (dk_at dksX4_settles_3 6 rfl rfl)
abbrev cX4_strength : ByteArray := prog_20_method_20_code
def yX4_strength : MethodName := ⟨RX4, "strength", "(I)I"⟩
def dkwX4_strength_1 : List UInt8 := [160, 0, 7, 6, 167, 0, 4, 3, 172]
abbrev dktX4_strength_1 : List UInt8 := dkwX4_strength_1 ++ []
def dkwX4_strength_0 : List UInt8 := [26, 16, 13, 160, 0, 7, 4, 167, 0, 24, 26, 16, 12, 160, 0, 7, 5, 167, 0, 14, 26, 16, 11]
abbrev dktX4_strength_0 : List UInt8 := dkwX4_strength_0 ++ dktX4_strength_1
theorem dksX4_strength_0 : cX4_strength.data.toList.drop 0 = dktX4_strength_0 := by decide +kernel
theorem dksX4_strength_1 : cX4_strength.data.toList.drop 23 = dktX4_strength_1 := dk_seg dksX4_strength_0 23 rfl rfl
theorem dX4_strength_0 : decode cX4_strength 0 = .ok (.iload_n 0, 1) := dk_26 (dk_at dksX4_strength_0 0 rfl rfl)
theorem dX4_strength_1 : decode cX4_strength 1 = .ok (.bipush 13, 2) := dk_16 13 (dk_at dksX4_strength_0 1 rfl rfl)
theorem dX4_strength_3 : decode cX4_strength 3 = .ok (.if_icmp .ne 7, 3) := dk_160 0 7 (dk_at dksX4_strength_0 3 rfl rfl)
theorem dX4_strength_6 : decode cX4_strength 6 = .ok (.iconst 1, 1) := dk_4 (dk_at dksX4_strength_0 6 rfl rfl)
theorem dX4_strength_7 : decode cX4_strength 7 = .ok (.goto 24, 3) := dk_167 0 24 (dk_at dksX4_strength_0 7 rfl rfl)
theorem dX4_strength_10 : decode cX4_strength 10 = .ok (.iload_n 0, 1) := dk_26 (dk_at dksX4_strength_0 10 rfl rfl)
theorem dX4_strength_11 : decode cX4_strength 11 = .ok (.bipush 12, 2) := dk_16 12 (dk_at dksX4_strength_0 11 rfl rfl)
theorem dX4_strength_13 : decode cX4_strength 13 = .ok (.if_icmp .ne 7, 3) := dk_160 0 7 (dk_at dksX4_strength_0 13 rfl rfl)
theorem dX4_strength_16 : decode cX4_strength 16 = .ok (.iconst 2, 1) := dk_5 (dk_at dksX4_strength_0 16 rfl rfl)
theorem dX4_strength_17 : decode cX4_strength 17 = .ok (.goto 14, 3) := dk_167 0 14 (dk_at dksX4_strength_0 17 rfl rfl)
theorem dX4_strength_20 : decode cX4_strength 20 = .ok (.iload_n 0, 1) := dk_26 (dk_at dksX4_strength_0 20 rfl rfl)
theorem dX4_strength_21 : decode cX4_strength 21 = .ok (.bipush 11, 2) := dk_16 11 (dk_at dksX4_strength_0 21 rfl rfl)
theorem dX4_strength_23 : decode cX4_strength 23 = .ok (.if_icmp .ne 7, 3) := dk_160 0 7 (dk_at dksX4_strength_1 0 rfl rfl)
theorem dX4_strength_26 : decode cX4_strength 26 = .ok (.iconst 3, 1) := dk_6 (dk_at dksX4_strength_1 3 rfl rfl)
theorem dX4_strength_27 : decode cX4_strength 27 = .ok (.goto 4, 3) := dk_167 0 4 (dk_at dksX4_strength_1 4 rfl rfl)
theorem dX4_strength_30 : decode cX4_strength 30 = .ok (.iconst 0, 1) := dk_3 (dk_at dksX4_strength_1 7 rfl rfl)
theorem dX4_strength_31 : decode cX4_strength 31 = .ok (.ireturn, 1) := dk_172 (dk_at dksX4_strength_1 8 rfl rfl)
abbrev cX4_isInside : ByteArray := prog_20_method_27_code
def yX4_isInside : MethodName := ⟨RX4, "isInside", "()Z"⟩
def dkwX4_isInside_1 : List UInt8 := [132, 1, 1, 167, 255, 232, 3, 172]
abbrev dktX4_isInside_1 : List UInt8 := dkwX4_isInside_1 ++ []
def dkwX4_isInside_0 : List UInt8 := [3, 60, 27, 42, 180, 0, 148, 162, 0, 22, 42, 180, 0, 29, 27, 46, 16, 91, 160, 0, 5, 4, 172]
abbrev dktX4_isInside_0 : List UInt8 := dkwX4_isInside_0 ++ dktX4_isInside_1
theorem dksX4_isInside_0 : cX4_isInside.data.toList.drop 0 = dktX4_isInside_0 := by decide +kernel
theorem dksX4_isInside_1 : cX4_isInside.data.toList.drop 23 = dktX4_isInside_1 := dk_seg dksX4_isInside_0 23 rfl rfl
theorem dX4_isInside_0 : decode cX4_isInside 0 = .ok (.iconst 0, 1) := dk_3 (dk_at dksX4_isInside_0 0 rfl rfl)
theorem dX4_isInside_1 : decode cX4_isInside 1 = .ok (.istore_n 1, 1) := dk_60 (dk_at dksX4_isInside_0 1 rfl rfl)
theorem dX4_isInside_2 : decode cX4_isInside 2 = .ok (.iload_n 1, 1) := dk_27 (dk_at dksX4_isInside_0 2 rfl rfl)
theorem dX4_isInside_3 : decode cX4_isInside 3 = .ok (.aload_n 0, 1) := dk_42 (dk_at dksX4_isInside_0 3 rfl rfl)
theorem dX4_isInside_4 : decode cX4_isInside 4 = .ok (.getfield 148, 3) := dk_180 0 148 (dk_at dksX4_isInside_0 4 rfl rfl)
theorem dX4_isInside_7 : decode cX4_isInside 7 = .ok (.if_icmp .ge 22, 3) := dk_162 0 22 (dk_at dksX4_isInside_0 7 rfl rfl)
theorem dX4_isInside_10 : decode cX4_isInside 10 = .ok (.aload_n 0, 1) := dk_42 (dk_at dksX4_isInside_0 10 rfl rfl)
theorem dX4_isInside_11 : decode cX4_isInside 11 = .ok (.getfield 29, 3) := dk_180 0 29 (dk_at dksX4_isInside_0 11 rfl rfl)
theorem dX4_isInside_14 : decode cX4_isInside 14 = .ok (.iload_n 1, 1) := dk_27 (dk_at dksX4_isInside_0 14 rfl rfl)
theorem dX4_isInside_15 : decode cX4_isInside 15 = .ok (.iaload, 1) := dk_46 (dk_at dksX4_isInside_0 15 rfl rfl)
theorem dX4_isInside_16 : decode cX4_isInside 16 = .ok (.bipush 91, 2) := dk_16 91 (dk_at dksX4_isInside_0 16 rfl rfl)
theorem dX4_isInside_18 : decode cX4_isInside 18 = .ok (.if_icmp .ne 5, 3) := dk_160 0 5 (dk_at dksX4_isInside_0 18 rfl rfl)
theorem dX4_isInside_21 : decode cX4_isInside 21 = .ok (.iconst 1, 1) := dk_4 (dk_at dksX4_isInside_0 21 rfl rfl)
theorem dX4_isInside_22 : decode cX4_isInside 22 = .ok (.ireturn, 1) := dk_172 (dk_at dksX4_isInside_0 22 rfl rfl)
theorem dX4_isInside_23 : decode cX4_isInside 23 = .ok (.iinc 1 1, 3) := dk_132 1 1 (dk_at dksX4_isInside_1 0 rfl rfl)
theorem dX4_isInside_26 : decode cX4_isInside 26 = .ok (.goto (-24), 3) := dk_167 255 232 (dk_at dksX4_isInside_1 3 rfl rfl)
theorem dX4_isInside_29 : decode cX4_isInside 29 = .ok (.iconst 0, 1) := dk_3 (dk_at dksX4_isInside_1 6 rfl rfl)
theorem dX4_isInside_30 : decode cX4_isInside 30 = .ok (.ireturn, 1) := dk_172 (dk_at dksX4_isInside_1 7 rfl rfl)
abbrev cX4_fair : ByteArray := prog_20_method_43_code
def yX4_fair : MethodName := ⟨RX4, "fair", "()I"⟩
def dkwX4_fair_7 : List UInt8 := [182, 1, 21, 42, 182, 1, 24, 42, 180, 0, 39, 4, 46, 172]
abbrev dktX4_fair_7 : List UInt8 := dkwX4_fair_7 ++ []
def dkwX4_fair_6 : List UInt8 := [180, 0, 39, 16, 8, 46, 156, 0, 11, 42, 180, 0, 39, 16, 8, 4, 79, 42, 3, 181, 1, 18, 42]
abbrev dktX4_fair_6 : List UInt8 := dkwX4_fair_6 ++ dktX4_fair_7
def dkwX4_fair_5 : List UInt8 := [16, 6, 46, 156, 0, 20, 42, 180, 0, 39, 16, 6, 16, 12, 79, 42, 180, 0, 39, 16, 7, 8, 79, 42]
abbrev dktX4_fair_5 : List UInt8 := dkwX4_fair_5 ++ dktX4_fair_6
def dkwX4_fair_4 : List UInt8 := [167, 255, 225, 42, 180, 0, 39, 8, 46, 156, 0, 10, 42, 180, 0, 39, 8, 3, 79, 42, 180, 0, 39]
abbrev dktX4_fair_4 : List UInt8 := dkwX4_fair_4 ++ dktX4_fair_5
def dkwX4_fair_3 : List UInt8 := [180, 0, 39, 27, 27, 16, 86, 162, 0, 12, 42, 180, 0, 26, 27, 46, 167, 0, 4, 3, 79, 132, 1, 1]
abbrev dktX4_fair_3 : List UInt8 := dkwX4_fair_3 ++ dktX4_fair_4
def dkwX4_fair_2 : List UInt8 := [42, 182, 1, 15, 154, 0, 11, 16, 254, 42, 180, 0, 78, 100, 172, 3, 60, 27, 16, 123, 162, 0, 31, 42]
abbrev dktX4_fair_2 : List UInt8 := dkwX4_fair_2 ++ dktX4_fair_3
def dkwX4_fair_1 : List UInt8 := [167, 255, 241, 8, 60, 27, 16, 9, 162, 0, 16, 42, 180, 0, 26, 27, 2, 79, 132, 1, 1, 167, 255, 240]
abbrev dktX4_fair_1 : List UInt8 := dkwX4_fair_1 ++ dktX4_fair_2
def dkwX4_fair_0 : List UInt8 := [42, 16, 6, 181, 0, 139, 3, 60, 27, 8, 162, 0, 16, 42, 180, 0, 26, 27, 3, 79, 132, 1, 1]
abbrev dktX4_fair_0 : List UInt8 := dkwX4_fair_0 ++ dktX4_fair_1
theorem dksX4_fair_0 : cX4_fair.data.toList.drop 0 = dktX4_fair_0 := by decide +kernel
theorem dksX4_fair_1 : cX4_fair.data.toList.drop 23 = dktX4_fair_1 := dk_seg dksX4_fair_0 23 rfl rfl
theorem dksX4_fair_2 : cX4_fair.data.toList.drop 47 = dktX4_fair_2 := dk_seg dksX4_fair_1 24 rfl rfl
theorem dksX4_fair_3 : cX4_fair.data.toList.drop 71 = dktX4_fair_3 := dk_seg dksX4_fair_2 24 rfl rfl
theorem dksX4_fair_4 : cX4_fair.data.toList.drop 95 = dktX4_fair_4 := dk_seg dksX4_fair_3 24 rfl rfl
theorem dksX4_fair_5 : cX4_fair.data.toList.drop 118 = dktX4_fair_5 := dk_seg dksX4_fair_4 23 rfl rfl
theorem dksX4_fair_6 : cX4_fair.data.toList.drop 142 = dktX4_fair_6 := dk_seg dksX4_fair_5 24 rfl rfl
theorem dksX4_fair_7 : cX4_fair.data.toList.drop 165 = dktX4_fair_7 := dk_seg dksX4_fair_6 23 rfl rfl
theorem dX4_fair_0 : decode cX4_fair 0 = .ok (.aload_n 0, 1) := dk_42 (dk_at dksX4_fair_0 0 rfl rfl)
theorem dX4_fair_1 : decode cX4_fair 1 = .ok (.bipush 6, 2) := dk_16 6 (dk_at dksX4_fair_0 1 rfl rfl)
theorem dX4_fair_3 : decode cX4_fair 3 = .ok (.putfield 139, 3) := dk_181 0 139 (dk_at dksX4_fair_0 3 rfl rfl)
theorem dX4_fair_6 : decode cX4_fair 6 = .ok (.iconst 0, 1) := dk_3 (dk_at dksX4_fair_0 6 rfl rfl)
theorem dX4_fair_7 : decode cX4_fair 7 = .ok (.istore_n 1, 1) := dk_60 (dk_at dksX4_fair_0 7 rfl rfl)
theorem dX4_fair_8 : decode cX4_fair 8 = .ok (.iload_n 1, 1) := dk_27 (dk_at dksX4_fair_0 8 rfl rfl)
theorem dX4_fair_9 : decode cX4_fair 9 = .ok (.iconst 5, 1) := dk_8 (dk_at dksX4_fair_0 9 rfl rfl)
theorem dX4_fair_10 : decode cX4_fair 10 = .ok (.if_icmp .ge 16, 3) := dk_162 0 16 (dk_at dksX4_fair_0 10 rfl rfl)
theorem dX4_fair_13 : decode cX4_fair 13 = .ok (.aload_n 0, 1) := dk_42 (dk_at dksX4_fair_0 13 rfl rfl)
theorem dX4_fair_14 : decode cX4_fair 14 = .ok (.getfield 26, 3) := dk_180 0 26 (dk_at dksX4_fair_0 14 rfl rfl)
theorem dX4_fair_17 : decode cX4_fair 17 = .ok (.iload_n 1, 1) := dk_27 (dk_at dksX4_fair_0 17 rfl rfl)
theorem dX4_fair_18 : decode cX4_fair 18 = .ok (.iconst 0, 1) := dk_3 (dk_at dksX4_fair_0 18 rfl rfl)
theorem dX4_fair_19 : decode cX4_fair 19 = .ok (.iastore, 1) := dk_79 (dk_at dksX4_fair_0 19 rfl rfl)
theorem dX4_fair_20 : decode cX4_fair 20 = .ok (.iinc 1 1, 3) := dk_132 1 1 (dk_at dksX4_fair_0 20 rfl rfl)
theorem dX4_fair_23 : decode cX4_fair 23 = .ok (.goto (-15), 3) := dk_167 255 241 (dk_at dksX4_fair_1 0 rfl rfl)
theorem dX4_fair_26 : decode cX4_fair 26 = .ok (.iconst 5, 1) := dk_8 (dk_at dksX4_fair_1 3 rfl rfl)
theorem dX4_fair_27 : decode cX4_fair 27 = .ok (.istore_n 1, 1) := dk_60 (dk_at dksX4_fair_1 4 rfl rfl)
theorem dX4_fair_28 : decode cX4_fair 28 = .ok (.iload_n 1, 1) := dk_27 (dk_at dksX4_fair_1 5 rfl rfl)
theorem dX4_fair_29 : decode cX4_fair 29 = .ok (.bipush 9, 2) := dk_16 9 (dk_at dksX4_fair_1 6 rfl rfl)
theorem dX4_fair_31 : decode cX4_fair 31 = .ok (.if_icmp .ge 16, 3) := dk_162 0 16 (dk_at dksX4_fair_1 8 rfl rfl)
theorem dX4_fair_34 : decode cX4_fair 34 = .ok (.aload_n 0, 1) := dk_42 (dk_at dksX4_fair_1 11 rfl rfl)
theorem dX4_fair_35 : decode cX4_fair 35 = .ok (.getfield 26, 3) := dk_180 0 26 (dk_at dksX4_fair_1 12 rfl rfl)
theorem dX4_fair_38 : decode cX4_fair 38 = .ok (.iload_n 1, 1) := dk_27 (dk_at dksX4_fair_1 15 rfl rfl)
theorem dX4_fair_39 : decode cX4_fair 39 = .ok (.iconst (-1), 1) := dk_2 (dk_at dksX4_fair_1 16 rfl rfl)
theorem dX4_fair_40 : decode cX4_fair 40 = .ok (.iastore, 1) := dk_79 (dk_at dksX4_fair_1 17 rfl rfl)
theorem dX4_fair_41 : decode cX4_fair 41 = .ok (.iinc 1 1, 3) := dk_132 1 1 (dk_at dksX4_fair_1 18 rfl rfl)
theorem dX4_fair_44 : decode cX4_fair 44 = .ok (.goto (-16), 3) := dk_167 255 240 (dk_at dksX4_fair_1 21 rfl rfl)
theorem dX4_fair_47 : decode cX4_fair 47 = .ok (.aload_n 0, 1) := dk_42 (dk_at dksX4_fair_2 0 rfl rfl)
theorem dX4_fair_48 : decode cX4_fair 48 = .ok (.invokevirtual 271, 3) := dk_182 1 15 (dk_at dksX4_fair_2 1 rfl rfl)
theorem dX4_fair_51 : decode cX4_fair 51 = .ok (.ifCond .ne 11, 3) := dk_154 0 11 (dk_at dksX4_fair_2 4 rfl rfl)
theorem dX4_fair_54 : decode cX4_fair 54 = .ok (.bipush (-2), 2) := dk_16 254 (dk_at dksX4_fair_2 7 rfl rfl)
theorem dX4_fair_56 : decode cX4_fair 56 = .ok (.aload_n 0, 1) := dk_42 (dk_at dksX4_fair_2 9 rfl rfl)
theorem dX4_fair_57 : decode cX4_fair 57 = .ok (.getfield 78, 3) := dk_180 0 78 (dk_at dksX4_fair_2 10 rfl rfl)
theorem dX4_fair_60 : decode cX4_fair 60 = .ok (.isub, 1) := dk_100 (dk_at dksX4_fair_2 13 rfl rfl)
theorem dX4_fair_61 : decode cX4_fair 61 = .ok (.ireturn, 1) := dk_172 (dk_at dksX4_fair_2 14 rfl rfl)
theorem dX4_fair_62 : decode cX4_fair 62 = .ok (.iconst 0, 1) := dk_3 (dk_at dksX4_fair_2 15 rfl rfl)
theorem dX4_fair_63 : decode cX4_fair 63 = .ok (.istore_n 1, 1) := dk_60 (dk_at dksX4_fair_2 16 rfl rfl)
theorem dX4_fair_64 : decode cX4_fair 64 = .ok (.iload_n 1, 1) := dk_27 (dk_at dksX4_fair_2 17 rfl rfl)
theorem dX4_fair_65 : decode cX4_fair 65 = .ok (.bipush 123, 2) := dk_16 123 (dk_at dksX4_fair_2 18 rfl rfl)
theorem dX4_fair_67 : decode cX4_fair 67 = .ok (.if_icmp .ge 31, 3) := dk_162 0 31 (dk_at dksX4_fair_2 20 rfl rfl)
theorem dX4_fair_70 : decode cX4_fair 70 = .ok (.aload_n 0, 1) := dk_42 (dk_at dksX4_fair_2 23 rfl rfl)
theorem dX4_fair_71 : decode cX4_fair 71 = .ok (.getfield 39, 3) := dk_180 0 39 (dk_at dksX4_fair_3 0 rfl rfl)
theorem dX4_fair_74 : decode cX4_fair 74 = .ok (.iload_n 1, 1) := dk_27 (dk_at dksX4_fair_3 3 rfl rfl)
theorem dX4_fair_75 : decode cX4_fair 75 = .ok (.iload_n 1, 1) := dk_27 (dk_at dksX4_fair_3 4 rfl rfl)
theorem dX4_fair_76 : decode cX4_fair 76 = .ok (.bipush 86, 2) := dk_16 86 (dk_at dksX4_fair_3 5 rfl rfl)
theorem dX4_fair_78 : decode cX4_fair 78 = .ok (.if_icmp .ge 12, 3) := dk_162 0 12 (dk_at dksX4_fair_3 7 rfl rfl)
theorem dX4_fair_81 : decode cX4_fair 81 = .ok (.aload_n 0, 1) := dk_42 (dk_at dksX4_fair_3 10 rfl rfl)
theorem dX4_fair_82 : decode cX4_fair 82 = .ok (.getfield 26, 3) := dk_180 0 26 (dk_at dksX4_fair_3 11 rfl rfl)
theorem dX4_fair_85 : decode cX4_fair 85 = .ok (.iload_n 1, 1) := dk_27 (dk_at dksX4_fair_3 14 rfl rfl)
theorem dX4_fair_86 : decode cX4_fair 86 = .ok (.iaload, 1) := dk_46 (dk_at dksX4_fair_3 15 rfl rfl)
theorem dX4_fair_87 : decode cX4_fair 87 = .ok (.goto 4, 3) := dk_167 0 4 (dk_at dksX4_fair_3 16 rfl rfl)
theorem dX4_fair_90 : decode cX4_fair 90 = .ok (.iconst 0, 1) := dk_3 (dk_at dksX4_fair_3 19 rfl rfl)
theorem dX4_fair_91 : decode cX4_fair 91 = .ok (.iastore, 1) := dk_79 (dk_at dksX4_fair_3 20 rfl rfl)
theorem dX4_fair_92 : decode cX4_fair 92 = .ok (.iinc 1 1, 3) := dk_132 1 1 (dk_at dksX4_fair_3 21 rfl rfl)
theorem dX4_fair_95 : decode cX4_fair 95 = .ok (.goto (-31), 3) := dk_167 255 225 (dk_at dksX4_fair_4 0 rfl rfl)
theorem dX4_fair_98 : decode cX4_fair 98 = .ok (.aload_n 0, 1) := dk_42 (dk_at dksX4_fair_4 3 rfl rfl)
theorem dX4_fair_99 : decode cX4_fair 99 = .ok (.getfield 39, 3) := dk_180 0 39 (dk_at dksX4_fair_4 4 rfl rfl)
theorem dX4_fair_102 : decode cX4_fair 102 = .ok (.iconst 5, 1) := dk_8 (dk_at dksX4_fair_4 7 rfl rfl)
theorem dX4_fair_103 : decode cX4_fair 103 = .ok (.iaload, 1) := dk_46 (dk_at dksX4_fair_4 8 rfl rfl)
theorem dX4_fair_104 : decode cX4_fair 104 = .ok (.ifCond .ge 10, 3) := dk_156 0 10 (dk_at dksX4_fair_4 9 rfl rfl)
theorem dX4_fair_107 : decode cX4_fair 107 = .ok (.aload_n 0, 1) := dk_42 (dk_at dksX4_fair_4 12 rfl rfl)
theorem dX4_fair_108 : decode cX4_fair 108 = .ok (.getfield 39, 3) := dk_180 0 39 (dk_at dksX4_fair_4 13 rfl rfl)
theorem dX4_fair_111 : decode cX4_fair 111 = .ok (.iconst 5, 1) := dk_8 (dk_at dksX4_fair_4 16 rfl rfl)
theorem dX4_fair_112 : decode cX4_fair 112 = .ok (.iconst 0, 1) := dk_3 (dk_at dksX4_fair_4 17 rfl rfl)
theorem dX4_fair_113 : decode cX4_fair 113 = .ok (.iastore, 1) := dk_79 (dk_at dksX4_fair_4 18 rfl rfl)
theorem dX4_fair_114 : decode cX4_fair 114 = .ok (.aload_n 0, 1) := dk_42 (dk_at dksX4_fair_4 19 rfl rfl)
theorem dX4_fair_115 : decode cX4_fair 115 = .ok (.getfield 39, 3) := dk_180 0 39 (dk_at dksX4_fair_4 20 rfl rfl)
theorem dX4_fair_118 : decode cX4_fair 118 = .ok (.bipush 6, 2) := dk_16 6 (dk_at dksX4_fair_5 0 rfl rfl)
theorem dX4_fair_120 : decode cX4_fair 120 = .ok (.iaload, 1) := dk_46 (dk_at dksX4_fair_5 2 rfl rfl)
theorem dX4_fair_121 : decode cX4_fair 121 = .ok (.ifCond .ge 20, 3) := dk_156 0 20 (dk_at dksX4_fair_5 3 rfl rfl)
theorem dX4_fair_124 : decode cX4_fair 124 = .ok (.aload_n 0, 1) := dk_42 (dk_at dksX4_fair_5 6 rfl rfl)
theorem dX4_fair_125 : decode cX4_fair 125 = .ok (.getfield 39, 3) := dk_180 0 39 (dk_at dksX4_fair_5 7 rfl rfl)
theorem dX4_fair_128 : decode cX4_fair 128 = .ok (.bipush 6, 2) := dk_16 6 (dk_at dksX4_fair_5 10 rfl rfl)
theorem dX4_fair_130 : decode cX4_fair 130 = .ok (.bipush 12, 2) := dk_16 12 (dk_at dksX4_fair_5 12 rfl rfl)
theorem dX4_fair_132 : decode cX4_fair 132 = .ok (.iastore, 1) := dk_79 (dk_at dksX4_fair_5 14 rfl rfl)
theorem dX4_fair_133 : decode cX4_fair 133 = .ok (.aload_n 0, 1) := dk_42 (dk_at dksX4_fair_5 15 rfl rfl)
theorem dX4_fair_134 : decode cX4_fair 134 = .ok (.getfield 39, 3) := dk_180 0 39 (dk_at dksX4_fair_5 16 rfl rfl)
theorem dX4_fair_137 : decode cX4_fair 137 = .ok (.bipush 7, 2) := dk_16 7 (dk_at dksX4_fair_5 19 rfl rfl)
theorem dX4_fair_139 : decode cX4_fair 139 = .ok (.iconst 5, 1) := dk_8 (dk_at dksX4_fair_5 21 rfl rfl)
theorem dX4_fair_140 : decode cX4_fair 140 = .ok (.iastore, 1) := dk_79 (dk_at dksX4_fair_5 22 rfl rfl)
theorem dX4_fair_141 : decode cX4_fair 141 = .ok (.aload_n 0, 1) := dk_42 (dk_at dksX4_fair_5 23 rfl rfl)
theorem dX4_fair_142 : decode cX4_fair 142 = .ok (.getfield 39, 3) := dk_180 0 39 (dk_at dksX4_fair_6 0 rfl rfl)
theorem dX4_fair_145 : decode cX4_fair 145 = .ok (.bipush 8, 2) := dk_16 8 (dk_at dksX4_fair_6 3 rfl rfl)
theorem dX4_fair_147 : decode cX4_fair 147 = .ok (.iaload, 1) := dk_46 (dk_at dksX4_fair_6 5 rfl rfl)
theorem dX4_fair_148 : decode cX4_fair 148 = .ok (.ifCond .ge 11, 3) := dk_156 0 11 (dk_at dksX4_fair_6 6 rfl rfl)
theorem dX4_fair_151 : decode cX4_fair 151 = .ok (.aload_n 0, 1) := dk_42 (dk_at dksX4_fair_6 9 rfl rfl)
theorem dX4_fair_152 : decode cX4_fair 152 = .ok (.getfield 39, 3) := dk_180 0 39 (dk_at dksX4_fair_6 10 rfl rfl)
theorem dX4_fair_155 : decode cX4_fair 155 = .ok (.bipush 8, 2) := dk_16 8 (dk_at dksX4_fair_6 13 rfl rfl)
theorem dX4_fair_157 : decode cX4_fair 157 = .ok (.iconst 1, 1) := dk_4 (dk_at dksX4_fair_6 15 rfl rfl)
theorem dX4_fair_158 : decode cX4_fair 158 = .ok (.iastore, 1) := dk_79 (dk_at dksX4_fair_6 16 rfl rfl)
theorem dX4_fair_159 : decode cX4_fair 159 = .ok (.aload_n 0, 1) := dk_42 (dk_at dksX4_fair_6 17 rfl rfl)
theorem dX4_fair_160 : decode cX4_fair 160 = .ok (.iconst 0, 1) := dk_3 (dk_at dksX4_fair_6 18 rfl rfl)
theorem dX4_fair_161 : decode cX4_fair 161 = .ok (.putfield 274, 3) := dk_181 1 18 (dk_at dksX4_fair_6 19 rfl rfl)
theorem dX4_fair_164 : decode cX4_fair 164 = .ok (.aload_n 0, 1) := dk_42 (dk_at dksX4_fair_6 22 rfl rfl)
theorem dX4_fair_165 : decode cX4_fair 165 = .ok (.invokevirtual 277, 3) := dk_182 1 21 (dk_at dksX4_fair_7 0 rfl rfl)
theorem dX4_fair_168 : decode cX4_fair 168 = .ok (.aload_n 0, 1) := dk_42 (dk_at dksX4_fair_7 3 rfl rfl)
theorem dX4_fair_169 : decode cX4_fair 169 = .ok (.invokevirtual 280, 3) := dk_182 1 24 (dk_at dksX4_fair_7 4 rfl rfl)
theorem dX4_fair_172 : decode cX4_fair 172 = .ok (.aload_n 0, 1) := dk_42 (dk_at dksX4_fair_7 7 rfl rfl)
theorem dX4_fair_173 : decode cX4_fair 173 = .ok (.getfield 39, 3) := dk_180 0 39 (dk_at dksX4_fair_7 8 rfl rfl)
theorem dX4_fair_176 : decode cX4_fair 176 = .ok (.iconst 1, 1) := dk_4 (dk_at dksX4_fair_7 11 rfl rfl)
theorem dX4_fair_177 : decode cX4_fair 177 = .ok (.iaload, 1) := dk_46 (dk_at dksX4_fair_7 12 rfl rfl)
theorem dX4_fair_178 : decode cX4_fair 178 = .ok (.ireturn, 1) := dk_172 (dk_at dksX4_fair_7 13 rfl rfl)
abbrev cX4_allSee : ByteArray := prog_20_method_66_code
def yX4_allSee : MethodName := ⟨RX4, "allSee", "()V"⟩
def dkwX4_allSee_2 : List UInt8 := [132, 1, 1, 167, 255, 207, 177]
abbrev dktX4_allSee_2 : List UInt8 := dkwX4_allSee_2 ++ []
def dkwX4_allSee_1 : List UInt8 := [92, 46, 42, 42, 42, 27, 4, 182, 1, 58, 42, 180, 0, 39, 6, 46, 182, 1, 61, 182, 1, 64, 128, 79]
abbrev dktX4_allSee_1 : List UInt8 := dkwX4_allSee_1 ++ dktX4_allSee_2
def dkwX4_allSee_0 : List UInt8 := [3, 60, 27, 42, 180, 0, 39, 5, 46, 162, 0, 45, 42, 180, 0, 39, 16, 70, 7, 27, 104, 96, 5, 96]
abbrev dktX4_allSee_0 : List UInt8 := dkwX4_allSee_0 ++ dktX4_allSee_1
theorem dksX4_allSee_0 : cX4_allSee.data.toList.drop 0 = dktX4_allSee_0 := by decide +kernel
theorem dksX4_allSee_1 : cX4_allSee.data.toList.drop 24 = dktX4_allSee_1 := dk_seg dksX4_allSee_0 24 rfl rfl
theorem dksX4_allSee_2 : cX4_allSee.data.toList.drop 48 = dktX4_allSee_2 := dk_seg dksX4_allSee_1 24 rfl rfl
theorem dX4_allSee_0 : decode cX4_allSee 0 = .ok (.iconst 0, 1) := dk_3 (dk_at dksX4_allSee_0 0 rfl rfl)
theorem dX4_allSee_1 : decode cX4_allSee 1 = .ok (.istore_n 1, 1) := dk_60 (dk_at dksX4_allSee_0 1 rfl rfl)
theorem dX4_allSee_2 : decode cX4_allSee 2 = .ok (.iload_n 1, 1) := dk_27 (dk_at dksX4_allSee_0 2 rfl rfl)
theorem dX4_allSee_3 : decode cX4_allSee 3 = .ok (.aload_n 0, 1) := dk_42 (dk_at dksX4_allSee_0 3 rfl rfl)
theorem dX4_allSee_4 : decode cX4_allSee 4 = .ok (.getfield 39, 3) := dk_180 0 39 (dk_at dksX4_allSee_0 4 rfl rfl)
theorem dX4_allSee_7 : decode cX4_allSee 7 = .ok (.iconst 2, 1) := dk_5 (dk_at dksX4_allSee_0 7 rfl rfl)
theorem dX4_allSee_8 : decode cX4_allSee 8 = .ok (.iaload, 1) := dk_46 (dk_at dksX4_allSee_0 8 rfl rfl)
theorem dX4_allSee_9 : decode cX4_allSee 9 = .ok (.if_icmp .ge 45, 3) := dk_162 0 45 (dk_at dksX4_allSee_0 9 rfl rfl)
theorem dX4_allSee_12 : decode cX4_allSee 12 = .ok (.aload_n 0, 1) := dk_42 (dk_at dksX4_allSee_0 12 rfl rfl)
theorem dX4_allSee_13 : decode cX4_allSee 13 = .ok (.getfield 39, 3) := dk_180 0 39 (dk_at dksX4_allSee_0 13 rfl rfl)
theorem dX4_allSee_16 : decode cX4_allSee 16 = .ok (.bipush 70, 2) := dk_16 70 (dk_at dksX4_allSee_0 16 rfl rfl)
theorem dX4_allSee_18 : decode cX4_allSee 18 = .ok (.iconst 4, 1) := dk_7 (dk_at dksX4_allSee_0 18 rfl rfl)
theorem dX4_allSee_19 : decode cX4_allSee 19 = .ok (.iload_n 1, 1) := dk_27 (dk_at dksX4_allSee_0 19 rfl rfl)
theorem dX4_allSee_20 : decode cX4_allSee 20 = .ok (.imul, 1) := dk_104 (dk_at dksX4_allSee_0 20 rfl rfl)
theorem dX4_allSee_21 : decode cX4_allSee 21 = .ok (.iadd, 1) := dk_96 (dk_at dksX4_allSee_0 21 rfl rfl)
theorem dX4_allSee_22 : decode cX4_allSee 22 = .ok (.iconst 2, 1) := dk_5 (dk_at dksX4_allSee_0 22 rfl rfl)
theorem dX4_allSee_23 : decode cX4_allSee 23 = .ok (.iadd, 1) := dk_96 (dk_at dksX4_allSee_0 23 rfl rfl)
theorem dX4_allSee_24 : decode cX4_allSee 24 = .ok (.dup2, 1) := dk_92 (dk_at dksX4_allSee_1 0 rfl rfl)
theorem dX4_allSee_25 : decode cX4_allSee 25 = .ok (.iaload, 1) := dk_46 (dk_at dksX4_allSee_1 1 rfl rfl)
theorem dX4_allSee_26 : decode cX4_allSee 26 = .ok (.aload_n 0, 1) := dk_42 (dk_at dksX4_allSee_1 2 rfl rfl)
theorem dX4_allSee_27 : decode cX4_allSee 27 = .ok (.aload_n 0, 1) := dk_42 (dk_at dksX4_allSee_1 3 rfl rfl)
theorem dX4_allSee_28 : decode cX4_allSee 28 = .ok (.aload_n 0, 1) := dk_42 (dk_at dksX4_allSee_1 4 rfl rfl)
theorem dX4_allSee_29 : decode cX4_allSee 29 = .ok (.iload_n 1, 1) := dk_27 (dk_at dksX4_allSee_1 5 rfl rfl)
theorem dX4_allSee_30 : decode cX4_allSee 30 = .ok (.iconst 1, 1) := dk_4 (dk_at dksX4_allSee_1 6 rfl rfl)
theorem dX4_allSee_31 : decode cX4_allSee 31 = .ok (.invokevirtual 314, 3) := dk_182 1 58 (dk_at dksX4_allSee_1 7 rfl rfl)
theorem dX4_allSee_34 : decode cX4_allSee 34 = .ok (.aload_n 0, 1) := dk_42 (dk_at dksX4_allSee_1 10 rfl rfl)
theorem dX4_allSee_35 : decode cX4_allSee 35 = .ok (.getfield 39, 3) := dk_180 0 39 (dk_at dksX4_allSee_1 11 rfl rfl)
theorem dX4_allSee_38 : decode cX4_allSee 38 = .ok (.iconst 3, 1) := dk_6 (dk_at dksX4_allSee_1 14 rfl rfl)
theorem dX4_allSee_39 : decode cX4_allSee 39 = .ok (.iaload, 1) := dk_46 (dk_at dksX4_allSee_1 15 rfl rfl)
theorem dX4_allSee_40 : decode cX4_allSee 40 = .ok (.invokevirtual 317, 3) := dk_182 1 61 (dk_at dksX4_allSee_1 16 rfl rfl)
theorem dX4_allSee_43 : decode cX4_allSee 43 = .ok (.invokevirtual 320, 3) := dk_182 1 64 (dk_at dksX4_allSee_1 19 rfl rfl)
theorem dX4_allSee_46 : decode cX4_allSee 46 = .ok (.ior, 1) := dk_128 (dk_at dksX4_allSee_1 22 rfl rfl)
theorem dX4_allSee_47 : decode cX4_allSee 47 = .ok (.iastore, 1) := dk_79 (dk_at dksX4_allSee_1 23 rfl rfl)
theorem dX4_allSee_48 : decode cX4_allSee 48 = .ok (.iinc 1 1, 3) := dk_132 1 1 (dk_at dksX4_allSee_2 0 rfl rfl)
theorem dX4_allSee_51 : decode cX4_allSee 51 = .ok (.goto (-49), 3) := dk_167 255 207 (dk_at dksX4_allSee_2 3 rfl rfl)
theorem dX4_allSee_54 : decode cX4_allSee 54 = .ok (.return_, 1) := dk_177 (dk_at dksX4_allSee_2 6 rfl rfl)
abbrev cX4_buyerOf : ByteArray := prog_20_method_53_code
def yX4_buyerOf : MethodName := ⟨RX4, "buyerOf", "(II)I"⟩
def dkwX4_buyerOf_0 : List UInt8 := [42, 180, 0, 39, 16, 70, 7, 27, 104, 96, 28, 96, 46, 172]
abbrev dktX4_buyerOf_0 : List UInt8 := dkwX4_buyerOf_0 ++ []
theorem dksX4_buyerOf_0 : cX4_buyerOf.data.toList.drop 0 = dktX4_buyerOf_0 := by decide +kernel
theorem dX4_buyerOf_0 : decode cX4_buyerOf 0 = .ok (.aload_n 0, 1) := dk_42 (dk_at dksX4_buyerOf_0 0 rfl rfl)
theorem dX4_buyerOf_1 : decode cX4_buyerOf 1 = .ok (.getfield 39, 3) := dk_180 0 39 (dk_at dksX4_buyerOf_0 1 rfl rfl)
theorem dX4_buyerOf_4 : decode cX4_buyerOf 4 = .ok (.bipush 70, 2) := dk_16 70 (dk_at dksX4_buyerOf_0 4 rfl rfl)
theorem dX4_buyerOf_6 : decode cX4_buyerOf 6 = .ok (.iconst 4, 1) := dk_7 (dk_at dksX4_buyerOf_0 6 rfl rfl)
theorem dX4_buyerOf_7 : decode cX4_buyerOf 7 = .ok (.iload_n 1, 1) := dk_27 (dk_at dksX4_buyerOf_0 7 rfl rfl)
theorem dX4_buyerOf_8 : decode cX4_buyerOf 8 = .ok (.imul, 1) := dk_104 (dk_at dksX4_buyerOf_0 8 rfl rfl)
theorem dX4_buyerOf_9 : decode cX4_buyerOf 9 = .ok (.iadd, 1) := dk_96 (dk_at dksX4_buyerOf_0 9 rfl rfl)
theorem dX4_buyerOf_10 : decode cX4_buyerOf 10 = .ok (.iload_n 2, 1) := dk_28 (dk_at dksX4_buyerOf_0 10 rfl rfl)
theorem dX4_buyerOf_11 : decode cX4_buyerOf 11 = .ok (.iadd, 1) := dk_96 (dk_at dksX4_buyerOf_0 11 rfl rfl)
theorem dX4_buyerOf_12 : decode cX4_buyerOf 12 = .ok (.iaload, 1) := dk_46 (dk_at dksX4_buyerOf_0 12 rfl rfl)
theorem dX4_buyerOf_13 : decode cX4_buyerOf 13 = .ok (.ireturn, 1) := dk_172 (dk_at dksX4_buyerOf_0 13 rfl rfl)
abbrev cX4_stallAt : ByteArray := prog_20_method_57_code
def yX4_stallAt : MethodName := ⟨RX4, "stallAt", "(II)I"⟩
def dkwX4_stallAt_0 : List UInt8 := [3, 62, 42, 29, 28, 182, 1, 49, 27, 159, 0, 9, 132, 3, 1, 167, 255, 243, 29, 172]
abbrev dktX4_stallAt_0 : List UInt8 := dkwX4_stallAt_0 ++ []
theorem dksX4_stallAt_0 : cX4_stallAt.data.toList.drop 0 = dktX4_stallAt_0 := by decide +kernel
theorem dX4_stallAt_0 : decode cX4_stallAt 0 = .ok (.iconst 0, 1) := dk_3 (dk_at dksX4_stallAt_0 0 rfl rfl)
theorem dX4_stallAt_1 : decode cX4_stallAt 1 = .ok (.istore_n 3, 1) := dk_62 (dk_at dksX4_stallAt_0 1 rfl rfl)
theorem dX4_stallAt_2 : decode cX4_stallAt 2 = .ok (.aload_n 0, 1) := dk_42 (dk_at dksX4_stallAt_0 2 rfl rfl)
theorem dX4_stallAt_3 : decode cX4_stallAt 3 = .ok (.iload_n 3, 1) := dk_29 (dk_at dksX4_stallAt_0 3 rfl rfl)
theorem dX4_stallAt_4 : decode cX4_stallAt 4 = .ok (.iload_n 2, 1) := dk_28 (dk_at dksX4_stallAt_0 4 rfl rfl)
theorem dX4_stallAt_5 : decode cX4_stallAt 5 = .ok (.invokevirtual 305, 3) := dk_182 1 49 (dk_at dksX4_stallAt_0 5 rfl rfl)
theorem dX4_stallAt_8 : decode cX4_stallAt 8 = .ok (.iload_n 1, 1) := dk_27 (dk_at dksX4_stallAt_0 8 rfl rfl)
theorem dX4_stallAt_9 : decode cX4_stallAt 9 = .ok (.if_icmp .eq 9, 3) := dk_159 0 9 (dk_at dksX4_stallAt_0 9 rfl rfl)
theorem dX4_stallAt_12 : decode cX4_stallAt 12 = .ok (.iinc 3 1, 3) := dk_132 3 1 (dk_at dksX4_stallAt_0 12 rfl rfl)
theorem dX4_stallAt_15 : decode cX4_stallAt 15 = .ok (.goto (-13), 3) := dk_167 255 243 (dk_at dksX4_stallAt_0 15 rfl rfl)
theorem dX4_stallAt_18 : decode cX4_stallAt 18 = .ok (.iload_n 3, 1) := dk_29 (dk_at dksX4_stallAt_0 18 rfl rfl)
theorem dX4_stallAt_19 : decode cX4_stallAt 19 = .ok (.ireturn, 1) := dk_172 (dk_at dksX4_stallAt_0 19 rfl rfl)
abbrev cX4_spotAt : ByteArray := prog_20_method_56_code
def yX4_spotAt : MethodName := ⟨RX4, "spotAt", "(II)I"⟩
def dkwX4_spotAt_0 : List UInt8 := [27, 28, 42, 180, 0, 39, 7, 46, 104, 96, 42, 180, 0, 39, 3, 46, 112, 172]
abbrev dktX4_spotAt_0 : List UInt8 := dkwX4_spotAt_0 ++ []
theorem dksX4_spotAt_0 : cX4_spotAt.data.toList.drop 0 = dktX4_spotAt_0 := by decide +kernel
theorem dX4_spotAt_0 : decode cX4_spotAt 0 = .ok (.iload_n 1, 1) := dk_27 (dk_at dksX4_spotAt_0 0 rfl rfl)
theorem dX4_spotAt_1 : decode cX4_spotAt 1 = .ok (.iload_n 2, 1) := dk_28 (dk_at dksX4_spotAt_0 1 rfl rfl)
theorem dX4_spotAt_2 : decode cX4_spotAt 2 = .ok (.aload_n 0, 1) := dk_42 (dk_at dksX4_spotAt_0 2 rfl rfl)
theorem dX4_spotAt_3 : decode cX4_spotAt 3 = .ok (.getfield 39, 3) := dk_180 0 39 (dk_at dksX4_spotAt_0 3 rfl rfl)
theorem dX4_spotAt_6 : decode cX4_spotAt 6 = .ok (.iconst 4, 1) := dk_7 (dk_at dksX4_spotAt_0 6 rfl rfl)
theorem dX4_spotAt_7 : decode cX4_spotAt 7 = .ok (.iaload, 1) := dk_46 (dk_at dksX4_spotAt_0 7 rfl rfl)
theorem dX4_spotAt_8 : decode cX4_spotAt 8 = .ok (.imul, 1) := dk_104 (dk_at dksX4_spotAt_0 8 rfl rfl)
theorem dX4_spotAt_9 : decode cX4_spotAt 9 = .ok (.iadd, 1) := dk_96 (dk_at dksX4_spotAt_0 9 rfl rfl)
theorem dX4_spotAt_10 : decode cX4_spotAt 10 = .ok (.aload_n 0, 1) := dk_42 (dk_at dksX4_spotAt_0 10 rfl rfl)
theorem dX4_spotAt_11 : decode cX4_spotAt 11 = .ok (.getfield 39, 3) := dk_180 0 39 (dk_at dksX4_spotAt_0 11 rfl rfl)
theorem dX4_spotAt_14 : decode cX4_spotAt 14 = .ok (.iconst 0, 1) := dk_3 (dk_at dksX4_spotAt_0 14 rfl rfl)
theorem dX4_spotAt_15 : decode cX4_spotAt 15 = .ok (.iaload, 1) := dk_46 (dk_at dksX4_spotAt_0 15 rfl rfl)
theorem dX4_spotAt_16 : decode cX4_spotAt 16 = .ok (.irem, 1) := dk_112 (dk_at dksX4_spotAt_0 16 rfl rfl)
theorem dX4_spotAt_17 : decode cX4_spotAt 17 = .ok (.ireturn, 1) := dk_172 (dk_at dksX4_spotAt_0 17 rfl rfl)
abbrev cX4_atStall : ByteArray := prog_20_method_63_code
def yX4_atStall : MethodName := ⟨RX4, "atStall", "(I)I"⟩
def dkwX4_atStall_1 : List UInt8 := [160, 0, 9, 4, 29, 120, 167, 0, 4, 3, 128, 61, 132, 3, 1, 167, 255, 223, 28, 172]
abbrev dktX4_atStall_1 : List UInt8 := dkwX4_atStall_1 ++ []
def dkwX4_atStall_0 : List UInt8 := [3, 61, 3, 62, 29, 42, 180, 0, 39, 4, 46, 162, 0, 29, 28, 42, 29, 6, 182, 1, 45, 27]
abbrev dktX4_atStall_0 : List UInt8 := dkwX4_atStall_0 ++ dktX4_atStall_1
theorem dksX4_atStall_0 : cX4_atStall.data.toList.drop 0 = dktX4_atStall_0 := by decide +kernel
theorem dksX4_atStall_1 : cX4_atStall.data.toList.drop 22 = dktX4_atStall_1 := dk_seg dksX4_atStall_0 22 rfl rfl
theorem dX4_atStall_0 : decode cX4_atStall 0 = .ok (.iconst 0, 1) := dk_3 (dk_at dksX4_atStall_0 0 rfl rfl)
theorem dX4_atStall_1 : decode cX4_atStall 1 = .ok (.istore_n 2, 1) := dk_61 (dk_at dksX4_atStall_0 1 rfl rfl)
theorem dX4_atStall_2 : decode cX4_atStall 2 = .ok (.iconst 0, 1) := dk_3 (dk_at dksX4_atStall_0 2 rfl rfl)
theorem dX4_atStall_3 : decode cX4_atStall 3 = .ok (.istore_n 3, 1) := dk_62 (dk_at dksX4_atStall_0 3 rfl rfl)
theorem dX4_atStall_4 : decode cX4_atStall 4 = .ok (.iload_n 3, 1) := dk_29 (dk_at dksX4_atStall_0 4 rfl rfl)
theorem dX4_atStall_5 : decode cX4_atStall 5 = .ok (.aload_n 0, 1) := dk_42 (dk_at dksX4_atStall_0 5 rfl rfl)
theorem dX4_atStall_6 : decode cX4_atStall 6 = .ok (.getfield 39, 3) := dk_180 0 39 (dk_at dksX4_atStall_0 6 rfl rfl)
theorem dX4_atStall_9 : decode cX4_atStall 9 = .ok (.iconst 1, 1) := dk_4 (dk_at dksX4_atStall_0 9 rfl rfl)
theorem dX4_atStall_10 : decode cX4_atStall 10 = .ok (.iaload, 1) := dk_46 (dk_at dksX4_atStall_0 10 rfl rfl)
theorem dX4_atStall_11 : decode cX4_atStall 11 = .ok (.if_icmp .ge 29, 3) := dk_162 0 29 (dk_at dksX4_atStall_0 11 rfl rfl)
theorem dX4_atStall_14 : decode cX4_atStall 14 = .ok (.iload_n 2, 1) := dk_28 (dk_at dksX4_atStall_0 14 rfl rfl)
theorem dX4_atStall_15 : decode cX4_atStall 15 = .ok (.aload_n 0, 1) := dk_42 (dk_at dksX4_atStall_0 15 rfl rfl)
theorem dX4_atStall_16 : decode cX4_atStall 16 = .ok (.iload_n 3, 1) := dk_29 (dk_at dksX4_atStall_0 16 rfl rfl)
theorem dX4_atStall_17 : decode cX4_atStall 17 = .ok (.iconst 3, 1) := dk_6 (dk_at dksX4_atStall_0 17 rfl rfl)
theorem dX4_atStall_18 : decode cX4_atStall 18 = .ok (.invokevirtual 301, 3) := dk_182 1 45 (dk_at dksX4_atStall_0 18 rfl rfl)
theorem dX4_atStall_21 : decode cX4_atStall 21 = .ok (.iload_n 1, 1) := dk_27 (dk_at dksX4_atStall_0 21 rfl rfl)
theorem dX4_atStall_22 : decode cX4_atStall 22 = .ok (.if_icmp .ne 9, 3) := dk_160 0 9 (dk_at dksX4_atStall_1 0 rfl rfl)
theorem dX4_atStall_25 : decode cX4_atStall 25 = .ok (.iconst 1, 1) := dk_4 (dk_at dksX4_atStall_1 3 rfl rfl)
theorem dX4_atStall_26 : decode cX4_atStall 26 = .ok (.iload_n 3, 1) := dk_29 (dk_at dksX4_atStall_1 4 rfl rfl)
theorem dX4_atStall_27 : decode cX4_atStall 27 = .ok (.ishl, 1) := dk_120 (dk_at dksX4_atStall_1 5 rfl rfl)
theorem dX4_atStall_28 : decode cX4_atStall 28 = .ok (.goto 4, 3) := dk_167 0 4 (dk_at dksX4_atStall_1 6 rfl rfl)
theorem dX4_atStall_31 : decode cX4_atStall 31 = .ok (.iconst 0, 1) := dk_3 (dk_at dksX4_atStall_1 9 rfl rfl)
theorem dX4_atStall_32 : decode cX4_atStall 32 = .ok (.ior, 1) := dk_128 (dk_at dksX4_atStall_1 10 rfl rfl)
theorem dX4_atStall_33 : decode cX4_atStall 33 = .ok (.istore_n 2, 1) := dk_61 (dk_at dksX4_atStall_1 11 rfl rfl)
theorem dX4_atStall_34 : decode cX4_atStall 34 = .ok (.iinc 3 1, 3) := dk_132 3 1 (dk_at dksX4_atStall_1 12 rfl rfl)
theorem dX4_atStall_37 : decode cX4_atStall 37 = .ok (.goto (-33), 3) := dk_167 255 223 (dk_at dksX4_atStall_1 15 rfl rfl)
theorem dX4_atStall_40 : decode cX4_atStall 40 = .ok (.iload_n 2, 1) := dk_28 (dk_at dksX4_atStall_1 18 rfl rfl)
theorem dX4_atStall_41 : decode cX4_atStall 41 = .ok (.ireturn, 1) := dk_172 (dk_at dksX4_atStall_1 19 rfl rfl)
abbrev cX4_halfOf : ByteArray := prog_20_method_52_code
def yX4_halfOf : MethodName := ⟨RX4, "halfOf", "(II)I"⟩
def dkwX4_halfOf_0 : List UInt8 := [42, 180, 0, 39, 16, 10, 8, 27, 104, 96, 28, 96, 46, 172]
abbrev dktX4_halfOf_0 : List UInt8 := dkwX4_halfOf_0 ++ []
theorem dksX4_halfOf_0 : cX4_halfOf.data.toList.drop 0 = dktX4_halfOf_0 := by decide +kernel
theorem dX4_halfOf_0 : decode cX4_halfOf 0 = .ok (.aload_n 0, 1) := dk_42 (dk_at dksX4_halfOf_0 0 rfl rfl)
theorem dX4_halfOf_1 : decode cX4_halfOf 1 = .ok (.getfield 39, 3) := dk_180 0 39 (dk_at dksX4_halfOf_0 1 rfl rfl)
theorem dX4_halfOf_4 : decode cX4_halfOf 4 = .ok (.bipush 10, 2) := dk_16 10 (dk_at dksX4_halfOf_0 4 rfl rfl)
theorem dX4_halfOf_6 : decode cX4_halfOf 6 = .ok (.iconst 5, 1) := dk_8 (dk_at dksX4_halfOf_0 6 rfl rfl)
theorem dX4_halfOf_7 : decode cX4_halfOf 7 = .ok (.iload_n 1, 1) := dk_27 (dk_at dksX4_halfOf_0 7 rfl rfl)
theorem dX4_halfOf_8 : decode cX4_halfOf 8 = .ok (.imul, 1) := dk_104 (dk_at dksX4_halfOf_0 8 rfl rfl)
theorem dX4_halfOf_9 : decode cX4_halfOf 9 = .ok (.iadd, 1) := dk_96 (dk_at dksX4_halfOf_0 9 rfl rfl)
theorem dX4_halfOf_10 : decode cX4_halfOf 10 = .ok (.iload_n 2, 1) := dk_28 (dk_at dksX4_halfOf_0 10 rfl rfl)
theorem dX4_halfOf_11 : decode cX4_halfOf 11 = .ok (.iadd, 1) := dk_96 (dk_at dksX4_halfOf_0 11 rfl rfl)
theorem dX4_halfOf_12 : decode cX4_halfOf 12 = .ok (.iaload, 1) := dk_46 (dk_at dksX4_halfOf_0 12 rfl rfl)
theorem dX4_halfOf_13 : decode cX4_halfOf 13 = .ok (.ireturn, 1) := dk_172 (dk_at dksX4_halfOf_0 13 rfl rfl)
abbrev cX4_fillsWorth : ByteArray := prog_20_method_68_code
def yX4_fillsWorth : MethodName := ⟨RX4, "fillsWorth", "()V"⟩
def dkwX4_fillsWorth_7 : List UInt8 := [132, 4, 1, 167, 255, 153, 132, 1, 1, 167, 255, 94, 177]
abbrev dktX4_fillsWorth_7 : List UInt8 := dkwX4_fillsWorth_7 ++ []
def dkwX4_fillsWorth_6 : List UInt8 := [163, 0, 6, 167, 0, 19, 42, 180, 0, 42, 27, 21, 6, 79, 42, 180, 0, 45, 27, 21, 4, 79]
abbrev dktX4_fillsWorth_6 : List UInt8 := dkwX4_fillsWorth_6 ++ dktX4_fillsWorth_7
def dkwX4_fillsWorth_5 : List UInt8 := [180, 0, 42, 29, 4, 21, 4, 120, 2, 130, 126, 46, 96, 54, 6, 21, 6, 42, 180, 0, 42, 27, 46]
abbrev dktX4_fillsWorth_5 : List UInt8 := dkwX4_fillsWorth_5 ++ dktX4_fillsWorth_6
def dkwX4_fillsWorth_4 : List UInt8 := [54, 5, 21, 5, 154, 0, 6, 167, 0, 62, 21, 5, 5, 160, 0, 8, 16, 40, 167, 0, 5, 16, 20, 42]
abbrev dktX4_fillsWorth_4 : List UInt8 := dkwX4_fillsWorth_4 ++ dktX4_fillsWorth_5
def dkwX4_fillsWorth_3 : List UInt8 := [162, 0, 98, 29, 21, 4, 184, 0, 215, 153, 0, 13, 42, 28, 21, 4, 182, 1, 70, 167, 0, 4, 3]
abbrev dktX4_fillsWorth_3 : List UInt8 := dkwX4_fillsWorth_3 ++ dktX4_fillsWorth_4
def dkwX4_fillsWorth_2 : List UInt8 := [46, 96, 79, 42, 180, 0, 45, 27, 2, 79, 28, 4, 96, 54, 4, 21, 4, 42, 180, 0, 39, 4, 46]
abbrev dktX4_fillsWorth_2 : List UInt8 := dkwX4_fillsWorth_2 ++ dktX4_fillsWorth_3
def dkwX4_fillsWorth_1 : List UInt8 := [182, 1, 67, 61, 27, 4, 28, 120, 2, 130, 126, 62, 42, 180, 0, 42, 27, 16, 9, 42, 180, 0, 42, 29]
abbrev dktX4_fillsWorth_1 : List UInt8 := dkwX4_fillsWorth_1 ++ dktX4_fillsWorth_2
def dkwX4_fillsWorth_0 : List UInt8 := [42, 180, 0, 42, 3, 3, 79, 4, 60, 27, 4, 42, 180, 0, 39, 4, 46, 120, 162, 0, 156, 42, 27]
abbrev dktX4_fillsWorth_0 : List UInt8 := dkwX4_fillsWorth_0 ++ dktX4_fillsWorth_1
theorem dksX4_fillsWorth_0 : cX4_fillsWorth.data.toList.drop 0 = dktX4_fillsWorth_0 := by decide +kernel
theorem dksX4_fillsWorth_1 : cX4_fillsWorth.data.toList.drop 23 = dktX4_fillsWorth_1 := dk_seg dksX4_fillsWorth_0 23 rfl rfl
theorem dksX4_fillsWorth_2 : cX4_fillsWorth.data.toList.drop 47 = dktX4_fillsWorth_2 := dk_seg dksX4_fillsWorth_1 24 rfl rfl
theorem dksX4_fillsWorth_3 : cX4_fillsWorth.data.toList.drop 70 = dktX4_fillsWorth_3 := dk_seg dksX4_fillsWorth_2 23 rfl rfl
theorem dksX4_fillsWorth_4 : cX4_fillsWorth.data.toList.drop 93 = dktX4_fillsWorth_4 := dk_seg dksX4_fillsWorth_3 23 rfl rfl
theorem dksX4_fillsWorth_5 : cX4_fillsWorth.data.toList.drop 117 = dktX4_fillsWorth_5 := dk_seg dksX4_fillsWorth_4 24 rfl rfl
theorem dksX4_fillsWorth_6 : cX4_fillsWorth.data.toList.drop 140 = dktX4_fillsWorth_6 := dk_seg dksX4_fillsWorth_5 23 rfl rfl
theorem dksX4_fillsWorth_7 : cX4_fillsWorth.data.toList.drop 162 = dktX4_fillsWorth_7 := dk_seg dksX4_fillsWorth_6 22 rfl rfl
theorem dX4_fillsWorth_0 : decode cX4_fillsWorth 0 = .ok (.aload_n 0, 1) := dk_42 (dk_at dksX4_fillsWorth_0 0 rfl rfl)
theorem dX4_fillsWorth_1 : decode cX4_fillsWorth 1 = .ok (.getfield 42, 3) := dk_180 0 42 (dk_at dksX4_fillsWorth_0 1 rfl rfl)
theorem dX4_fillsWorth_4 : decode cX4_fillsWorth 4 = .ok (.iconst 0, 1) := dk_3 (dk_at dksX4_fillsWorth_0 4 rfl rfl)
theorem dX4_fillsWorth_5 : decode cX4_fillsWorth 5 = .ok (.iconst 0, 1) := dk_3 (dk_at dksX4_fillsWorth_0 5 rfl rfl)
theorem dX4_fillsWorth_6 : decode cX4_fillsWorth 6 = .ok (.iastore, 1) := dk_79 (dk_at dksX4_fillsWorth_0 6 rfl rfl)
theorem dX4_fillsWorth_7 : decode cX4_fillsWorth 7 = .ok (.iconst 1, 1) := dk_4 (dk_at dksX4_fillsWorth_0 7 rfl rfl)
theorem dX4_fillsWorth_8 : decode cX4_fillsWorth 8 = .ok (.istore_n 1, 1) := dk_60 (dk_at dksX4_fillsWorth_0 8 rfl rfl)
theorem dX4_fillsWorth_9 : decode cX4_fillsWorth 9 = .ok (.iload_n 1, 1) := dk_27 (dk_at dksX4_fillsWorth_0 9 rfl rfl)
theorem dX4_fillsWorth_10 : decode cX4_fillsWorth 10 = .ok (.iconst 1, 1) := dk_4 (dk_at dksX4_fillsWorth_0 10 rfl rfl)
theorem dX4_fillsWorth_11 : decode cX4_fillsWorth 11 = .ok (.aload_n 0, 1) := dk_42 (dk_at dksX4_fillsWorth_0 11 rfl rfl)
theorem dX4_fillsWorth_12 : decode cX4_fillsWorth 12 = .ok (.getfield 39, 3) := dk_180 0 39 (dk_at dksX4_fillsWorth_0 12 rfl rfl)
theorem dX4_fillsWorth_15 : decode cX4_fillsWorth 15 = .ok (.iconst 1, 1) := dk_4 (dk_at dksX4_fillsWorth_0 15 rfl rfl)
theorem dX4_fillsWorth_16 : decode cX4_fillsWorth 16 = .ok (.iaload, 1) := dk_46 (dk_at dksX4_fillsWorth_0 16 rfl rfl)
theorem dX4_fillsWorth_17 : decode cX4_fillsWorth 17 = .ok (.ishl, 1) := dk_120 (dk_at dksX4_fillsWorth_0 17 rfl rfl)
theorem dX4_fillsWorth_18 : decode cX4_fillsWorth 18 = .ok (.if_icmp .ge 156, 3) := dk_162 0 156 (dk_at dksX4_fillsWorth_0 18 rfl rfl)
theorem dX4_fillsWorth_21 : decode cX4_fillsWorth 21 = .ok (.aload_n 0, 1) := dk_42 (dk_at dksX4_fillsWorth_0 21 rfl rfl)
theorem dX4_fillsWorth_22 : decode cX4_fillsWorth 22 = .ok (.iload_n 1, 1) := dk_27 (dk_at dksX4_fillsWorth_0 22 rfl rfl)
theorem dX4_fillsWorth_23 : decode cX4_fillsWorth 23 = .ok (.invokevirtual 323, 3) := dk_182 1 67 (dk_at dksX4_fillsWorth_1 0 rfl rfl)
theorem dX4_fillsWorth_26 : decode cX4_fillsWorth 26 = .ok (.istore_n 2, 1) := dk_61 (dk_at dksX4_fillsWorth_1 3 rfl rfl)
theorem dX4_fillsWorth_27 : decode cX4_fillsWorth 27 = .ok (.iload_n 1, 1) := dk_27 (dk_at dksX4_fillsWorth_1 4 rfl rfl)
theorem dX4_fillsWorth_28 : decode cX4_fillsWorth 28 = .ok (.iconst 1, 1) := dk_4 (dk_at dksX4_fillsWorth_1 5 rfl rfl)
theorem dX4_fillsWorth_29 : decode cX4_fillsWorth 29 = .ok (.iload_n 2, 1) := dk_28 (dk_at dksX4_fillsWorth_1 6 rfl rfl)
theorem dX4_fillsWorth_30 : decode cX4_fillsWorth 30 = .ok (.ishl, 1) := dk_120 (dk_at dksX4_fillsWorth_1 7 rfl rfl)
theorem dX4_fillsWorth_31 : decode cX4_fillsWorth 31 = .ok (.iconst (-1), 1) := dk_2 (dk_at dksX4_fillsWorth_1 8 rfl rfl)
theorem dX4_fillsWorth_32 : decode cX4_fillsWorth 32 = .ok (.ixor, 1) := dk_130 (dk_at dksX4_fillsWorth_1 9 rfl rfl)
theorem dX4_fillsWorth_33 : decode cX4_fillsWorth 33 = .ok (.iand, 1) := dk_126 (dk_at dksX4_fillsWorth_1 10 rfl rfl)
theorem dX4_fillsWorth_34 : decode cX4_fillsWorth 34 = .ok (.istore_n 3, 1) := dk_62 (dk_at dksX4_fillsWorth_1 11 rfl rfl)
theorem dX4_fillsWorth_35 : decode cX4_fillsWorth 35 = .ok (.aload_n 0, 1) := dk_42 (dk_at dksX4_fillsWorth_1 12 rfl rfl)
theorem dX4_fillsWorth_36 : decode cX4_fillsWorth 36 = .ok (.getfield 42, 3) := dk_180 0 42 (dk_at dksX4_fillsWorth_1 13 rfl rfl)
theorem dX4_fillsWorth_39 : decode cX4_fillsWorth 39 = .ok (.iload_n 1, 1) := dk_27 (dk_at dksX4_fillsWorth_1 16 rfl rfl)
theorem dX4_fillsWorth_40 : decode cX4_fillsWorth 40 = .ok (.bipush 9, 2) := dk_16 9 (dk_at dksX4_fillsWorth_1 17 rfl rfl)
theorem dX4_fillsWorth_42 : decode cX4_fillsWorth 42 = .ok (.aload_n 0, 1) := dk_42 (dk_at dksX4_fillsWorth_1 19 rfl rfl)
theorem dX4_fillsWorth_43 : decode cX4_fillsWorth 43 = .ok (.getfield 42, 3) := dk_180 0 42 (dk_at dksX4_fillsWorth_1 20 rfl rfl)
theorem dX4_fillsWorth_46 : decode cX4_fillsWorth 46 = .ok (.iload_n 3, 1) := dk_29 (dk_at dksX4_fillsWorth_1 23 rfl rfl)
theorem dX4_fillsWorth_47 : decode cX4_fillsWorth 47 = .ok (.iaload, 1) := dk_46 (dk_at dksX4_fillsWorth_2 0 rfl rfl)
theorem dX4_fillsWorth_48 : decode cX4_fillsWorth 48 = .ok (.iadd, 1) := dk_96 (dk_at dksX4_fillsWorth_2 1 rfl rfl)
theorem dX4_fillsWorth_49 : decode cX4_fillsWorth 49 = .ok (.iastore, 1) := dk_79 (dk_at dksX4_fillsWorth_2 2 rfl rfl)
theorem dX4_fillsWorth_50 : decode cX4_fillsWorth 50 = .ok (.aload_n 0, 1) := dk_42 (dk_at dksX4_fillsWorth_2 3 rfl rfl)
theorem dX4_fillsWorth_51 : decode cX4_fillsWorth 51 = .ok (.getfield 45, 3) := dk_180 0 45 (dk_at dksX4_fillsWorth_2 4 rfl rfl)
theorem dX4_fillsWorth_54 : decode cX4_fillsWorth 54 = .ok (.iload_n 1, 1) := dk_27 (dk_at dksX4_fillsWorth_2 7 rfl rfl)
theorem dX4_fillsWorth_55 : decode cX4_fillsWorth 55 = .ok (.iconst (-1), 1) := dk_2 (dk_at dksX4_fillsWorth_2 8 rfl rfl)
theorem dX4_fillsWorth_56 : decode cX4_fillsWorth 56 = .ok (.iastore, 1) := dk_79 (dk_at dksX4_fillsWorth_2 9 rfl rfl)
theorem dX4_fillsWorth_57 : decode cX4_fillsWorth 57 = .ok (.iload_n 2, 1) := dk_28 (dk_at dksX4_fillsWorth_2 10 rfl rfl)
theorem dX4_fillsWorth_58 : decode cX4_fillsWorth 58 = .ok (.iconst 1, 1) := dk_4 (dk_at dksX4_fillsWorth_2 11 rfl rfl)
theorem dX4_fillsWorth_59 : decode cX4_fillsWorth 59 = .ok (.iadd, 1) := dk_96 (dk_at dksX4_fillsWorth_2 12 rfl rfl)
theorem dX4_fillsWorth_60 : decode cX4_fillsWorth 60 = .ok (.istore 4, 2) := dk_54 4 (dk_at dksX4_fillsWorth_2 13 rfl rfl)
theorem dX4_fillsWorth_62 : decode cX4_fillsWorth 62 = .ok (.iload 4, 2) := dk_21 4 (dk_at dksX4_fillsWorth_2 15 rfl rfl)
theorem dX4_fillsWorth_64 : decode cX4_fillsWorth 64 = .ok (.aload_n 0, 1) := dk_42 (dk_at dksX4_fillsWorth_2 17 rfl rfl)
theorem dX4_fillsWorth_65 : decode cX4_fillsWorth 65 = .ok (.getfield 39, 3) := dk_180 0 39 (dk_at dksX4_fillsWorth_2 18 rfl rfl)
theorem dX4_fillsWorth_68 : decode cX4_fillsWorth 68 = .ok (.iconst 1, 1) := dk_4 (dk_at dksX4_fillsWorth_2 21 rfl rfl)
theorem dX4_fillsWorth_69 : decode cX4_fillsWorth 69 = .ok (.iaload, 1) := dk_46 (dk_at dksX4_fillsWorth_2 22 rfl rfl)
theorem dX4_fillsWorth_70 : decode cX4_fillsWorth 70 = .ok (.if_icmp .ge 98, 3) := dk_162 0 98 (dk_at dksX4_fillsWorth_3 0 rfl rfl)
theorem dX4_fillsWorth_73 : decode cX4_fillsWorth 73 = .ok (.iload_n 3, 1) := dk_29 (dk_at dksX4_fillsWorth_3 3 rfl rfl)
theorem dX4_fillsWorth_74 : decode cX4_fillsWorth 74 = .ok (.iload 4, 2) := dk_21 4 (dk_at dksX4_fillsWorth_3 4 rfl rfl)
theorem dX4_fillsWorth_76 : decode cX4_fillsWorth 76 = .ok (.invokestatic 215, 3) := dk_184 0 215 (dk_at dksX4_fillsWorth_3 6 rfl rfl)
theorem dX4_fillsWorth_79 : decode cX4_fillsWorth 79 = .ok (.ifCond .eq 13, 3) := dk_153 0 13 (dk_at dksX4_fillsWorth_3 9 rfl rfl)
theorem dX4_fillsWorth_82 : decode cX4_fillsWorth 82 = .ok (.aload_n 0, 1) := dk_42 (dk_at dksX4_fillsWorth_3 12 rfl rfl)
theorem dX4_fillsWorth_83 : decode cX4_fillsWorth 83 = .ok (.iload_n 2, 1) := dk_28 (dk_at dksX4_fillsWorth_3 13 rfl rfl)
theorem dX4_fillsWorth_84 : decode cX4_fillsWorth 84 = .ok (.iload 4, 2) := dk_21 4 (dk_at dksX4_fillsWorth_3 14 rfl rfl)
theorem dX4_fillsWorth_86 : decode cX4_fillsWorth 86 = .ok (.invokevirtual 326, 3) := dk_182 1 70 (dk_at dksX4_fillsWorth_3 16 rfl rfl)
theorem dX4_fillsWorth_89 : decode cX4_fillsWorth 89 = .ok (.goto 4, 3) := dk_167 0 4 (dk_at dksX4_fillsWorth_3 19 rfl rfl)
theorem dX4_fillsWorth_92 : decode cX4_fillsWorth 92 = .ok (.iconst 0, 1) := dk_3 (dk_at dksX4_fillsWorth_3 22 rfl rfl)
theorem dX4_fillsWorth_93 : decode cX4_fillsWorth 93 = .ok (.istore 5, 2) := dk_54 5 (dk_at dksX4_fillsWorth_4 0 rfl rfl)
theorem dX4_fillsWorth_95 : decode cX4_fillsWorth 95 = .ok (.iload 5, 2) := dk_21 5 (dk_at dksX4_fillsWorth_4 2 rfl rfl)
theorem dX4_fillsWorth_97 : decode cX4_fillsWorth 97 = .ok (.ifCond .ne 6, 3) := dk_154 0 6 (dk_at dksX4_fillsWorth_4 4 rfl rfl)
theorem dX4_fillsWorth_100 : decode cX4_fillsWorth 100 = .ok (.goto 62, 3) := dk_167 0 62 (dk_at dksX4_fillsWorth_4 7 rfl rfl)
theorem dX4_fillsWorth_103 : decode cX4_fillsWorth 103 = .ok (.iload 5, 2) := dk_21 5 (dk_at dksX4_fillsWorth_4 10 rfl rfl)
theorem dX4_fillsWorth_105 : decode cX4_fillsWorth 105 = .ok (.iconst 2, 1) := dk_5 (dk_at dksX4_fillsWorth_4 12 rfl rfl)
theorem dX4_fillsWorth_106 : decode cX4_fillsWorth 106 = .ok (.if_icmp .ne 8, 3) := dk_160 0 8 (dk_at dksX4_fillsWorth_4 13 rfl rfl)
theorem dX4_fillsWorth_109 : decode cX4_fillsWorth 109 = .ok (.bipush 40, 2) := dk_16 40 (dk_at dksX4_fillsWorth_4 16 rfl rfl)
theorem dX4_fillsWorth_111 : decode cX4_fillsWorth 111 = .ok (.goto 5, 3) := dk_167 0 5 (dk_at dksX4_fillsWorth_4 18 rfl rfl)
theorem dX4_fillsWorth_114 : decode cX4_fillsWorth 114 = .ok (.bipush 20, 2) := dk_16 20 (dk_at dksX4_fillsWorth_4 21 rfl rfl)
theorem dX4_fillsWorth_116 : decode cX4_fillsWorth 116 = .ok (.aload_n 0, 1) := dk_42 (dk_at dksX4_fillsWorth_4 23 rfl rfl)
theorem dX4_fillsWorth_117 : decode cX4_fillsWorth 117 = .ok (.getfield 42, 3) := dk_180 0 42 (dk_at dksX4_fillsWorth_5 0 rfl rfl)
theorem dX4_fillsWorth_120 : decode cX4_fillsWorth 120 = .ok (.iload_n 3, 1) := dk_29 (dk_at dksX4_fillsWorth_5 3 rfl rfl)
theorem dX4_fillsWorth_121 : decode cX4_fillsWorth 121 = .ok (.iconst 1, 1) := dk_4 (dk_at dksX4_fillsWorth_5 4 rfl rfl)
theorem dX4_fillsWorth_122 : decode cX4_fillsWorth 122 = .ok (.iload 4, 2) := dk_21 4 (dk_at dksX4_fillsWorth_5 5 rfl rfl)
theorem dX4_fillsWorth_124 : decode cX4_fillsWorth 124 = .ok (.ishl, 1) := dk_120 (dk_at dksX4_fillsWorth_5 7 rfl rfl)
theorem dX4_fillsWorth_125 : decode cX4_fillsWorth 125 = .ok (.iconst (-1), 1) := dk_2 (dk_at dksX4_fillsWorth_5 8 rfl rfl)
theorem dX4_fillsWorth_126 : decode cX4_fillsWorth 126 = .ok (.ixor, 1) := dk_130 (dk_at dksX4_fillsWorth_5 9 rfl rfl)
theorem dX4_fillsWorth_127 : decode cX4_fillsWorth 127 = .ok (.iand, 1) := dk_126 (dk_at dksX4_fillsWorth_5 10 rfl rfl)
theorem dX4_fillsWorth_128 : decode cX4_fillsWorth 128 = .ok (.iaload, 1) := dk_46 (dk_at dksX4_fillsWorth_5 11 rfl rfl)
theorem dX4_fillsWorth_129 : decode cX4_fillsWorth 129 = .ok (.iadd, 1) := dk_96 (dk_at dksX4_fillsWorth_5 12 rfl rfl)
theorem dX4_fillsWorth_130 : decode cX4_fillsWorth 130 = .ok (.istore 6, 2) := dk_54 6 (dk_at dksX4_fillsWorth_5 13 rfl rfl)
theorem dX4_fillsWorth_132 : decode cX4_fillsWorth 132 = .ok (.iload 6, 2) := dk_21 6 (dk_at dksX4_fillsWorth_5 15 rfl rfl)
theorem dX4_fillsWorth_134 : decode cX4_fillsWorth 134 = .ok (.aload_n 0, 1) := dk_42 (dk_at dksX4_fillsWorth_5 17 rfl rfl)
theorem dX4_fillsWorth_135 : decode cX4_fillsWorth 135 = .ok (.getfield 42, 3) := dk_180 0 42 (dk_at dksX4_fillsWorth_5 18 rfl rfl)
theorem dX4_fillsWorth_138 : decode cX4_fillsWorth 138 = .ok (.iload_n 1, 1) := dk_27 (dk_at dksX4_fillsWorth_5 21 rfl rfl)
theorem dX4_fillsWorth_139 : decode cX4_fillsWorth 139 = .ok (.iaload, 1) := dk_46 (dk_at dksX4_fillsWorth_5 22 rfl rfl)
theorem dX4_fillsWorth_140 : decode cX4_fillsWorth 140 = .ok (.if_icmp .gt 6, 3) := dk_163 0 6 (dk_at dksX4_fillsWorth_6 0 rfl rfl)
theorem dX4_fillsWorth_143 : decode cX4_fillsWorth 143 = .ok (.goto 19, 3) := dk_167 0 19 (dk_at dksX4_fillsWorth_6 3 rfl rfl)
theorem dX4_fillsWorth_146 : decode cX4_fillsWorth 146 = .ok (.aload_n 0, 1) := dk_42 (dk_at dksX4_fillsWorth_6 6 rfl rfl)
theorem dX4_fillsWorth_147 : decode cX4_fillsWorth 147 = .ok (.getfield 42, 3) := dk_180 0 42 (dk_at dksX4_fillsWorth_6 7 rfl rfl)
theorem dX4_fillsWorth_150 : decode cX4_fillsWorth 150 = .ok (.iload_n 1, 1) := dk_27 (dk_at dksX4_fillsWorth_6 10 rfl rfl)
theorem dX4_fillsWorth_151 : decode cX4_fillsWorth 151 = .ok (.iload 6, 2) := dk_21 6 (dk_at dksX4_fillsWorth_6 11 rfl rfl)
theorem dX4_fillsWorth_153 : decode cX4_fillsWorth 153 = .ok (.iastore, 1) := dk_79 (dk_at dksX4_fillsWorth_6 13 rfl rfl)
theorem dX4_fillsWorth_154 : decode cX4_fillsWorth 154 = .ok (.aload_n 0, 1) := dk_42 (dk_at dksX4_fillsWorth_6 14 rfl rfl)
theorem dX4_fillsWorth_155 : decode cX4_fillsWorth 155 = .ok (.getfield 45, 3) := dk_180 0 45 (dk_at dksX4_fillsWorth_6 15 rfl rfl)
theorem dX4_fillsWorth_158 : decode cX4_fillsWorth 158 = .ok (.iload_n 1, 1) := dk_27 (dk_at dksX4_fillsWorth_6 18 rfl rfl)
theorem dX4_fillsWorth_159 : decode cX4_fillsWorth 159 = .ok (.iload 4, 2) := dk_21 4 (dk_at dksX4_fillsWorth_6 19 rfl rfl)
theorem dX4_fillsWorth_161 : decode cX4_fillsWorth 161 = .ok (.iastore, 1) := dk_79 (dk_at dksX4_fillsWorth_6 21 rfl rfl)
theorem dX4_fillsWorth_162 : decode cX4_fillsWorth 162 = .ok (.iinc 4 1, 3) := dk_132 4 1 (dk_at dksX4_fillsWorth_7 0 rfl rfl)
theorem dX4_fillsWorth_165 : decode cX4_fillsWorth 165 = .ok (.goto (-103), 3) := dk_167 255 153 (dk_at dksX4_fillsWorth_7 3 rfl rfl)
theorem dX4_fillsWorth_168 : decode cX4_fillsWorth 168 = .ok (.iinc 1 1, 3) := dk_132 1 1 (dk_at dksX4_fillsWorth_7 6 rfl rfl)
theorem dX4_fillsWorth_171 : decode cX4_fillsWorth 171 = .ok (.goto (-162), 3) := dk_167 255 94 (dk_at dksX4_fillsWorth_7 9 rfl rfl)
theorem dX4_fillsWorth_174 : decode cX4_fillsWorth 174 = .ok (.return_, 1) := dk_177 (dk_at dksX4_fillsWorth_7 12 rfl rfl)
abbrev cX4_leastOf : ByteArray := prog_20_method_67_code
def yX4_leastOf : MethodName := ⟨RX4, "leastOf", "(I)I"⟩
def dkwX4_leastOf_0 : List UInt8 := [3, 61, 27, 28, 184, 0, 215, 154, 0, 9, 132, 2, 1, 167, 255, 245, 28, 172]
abbrev dktX4_leastOf_0 : List UInt8 := dkwX4_leastOf_0 ++ []
theorem dksX4_leastOf_0 : cX4_leastOf.data.toList.drop 0 = dktX4_leastOf_0 := by decide +kernel
theorem dX4_leastOf_0 : decode cX4_leastOf 0 = .ok (.iconst 0, 1) := dk_3 (dk_at dksX4_leastOf_0 0 rfl rfl)
theorem dX4_leastOf_1 : decode cX4_leastOf 1 = .ok (.istore_n 2, 1) := dk_61 (dk_at dksX4_leastOf_0 1 rfl rfl)
theorem dX4_leastOf_2 : decode cX4_leastOf 2 = .ok (.iload_n 1, 1) := dk_27 (dk_at dksX4_leastOf_0 2 rfl rfl)
theorem dX4_leastOf_3 : decode cX4_leastOf 3 = .ok (.iload_n 2, 1) := dk_28 (dk_at dksX4_leastOf_0 3 rfl rfl)
theorem dX4_leastOf_4 : decode cX4_leastOf 4 = .ok (.invokestatic 215, 3) := dk_184 0 215 (dk_at dksX4_leastOf_0 4 rfl rfl)
theorem dX4_leastOf_7 : decode cX4_leastOf 7 = .ok (.ifCond .ne 9, 3) := dk_154 0 9 (dk_at dksX4_leastOf_0 7 rfl rfl)
theorem dX4_leastOf_10 : decode cX4_leastOf 10 = .ok (.iinc 2 1, 3) := dk_132 2 1 (dk_at dksX4_leastOf_0 10 rfl rfl)
theorem dX4_leastOf_13 : decode cX4_leastOf 13 = .ok (.goto (-11), 3) := dk_167 255 245 (dk_at dksX4_leastOf_0 13 rfl rfl)
theorem dX4_leastOf_16 : decode cX4_leastOf 16 = .ok (.iload_n 2, 1) := dk_28 (dk_at dksX4_leastOf_0 16 rfl rfl)
theorem dX4_leastOf_17 : decode cX4_leastOf 17 = .ok (.ireturn, 1) := dk_172 (dk_at dksX4_leastOf_0 17 rfl rfl)
abbrev cX4_fitOf : ByteArray := prog_20_method_61_code
def yX4_fitOf : MethodName := ⟨RX4, "fitOf", "(II)I"⟩
def dkwX4_fitOf_1 : List UInt8 := [42, 27, 28, 182, 1, 55, 172]
abbrev dktX4_fitOf_1 : List UInt8 := dkwX4_fitOf_1 ++ []
def dkwX4_fitOf_0 : List UInt8 := [42, 27, 7, 182, 1, 45, 4, 159, 0, 13, 42, 28, 7, 182, 1, 45, 4, 160, 0, 7, 5, 167, 0, 9]
abbrev dktX4_fitOf_0 : List UInt8 := dkwX4_fitOf_0 ++ dktX4_fitOf_1
theorem dksX4_fitOf_0 : cX4_fitOf.data.toList.drop 0 = dktX4_fitOf_0 := by decide +kernel
theorem dksX4_fitOf_1 : cX4_fitOf.data.toList.drop 24 = dktX4_fitOf_1 := dk_seg dksX4_fitOf_0 24 rfl rfl
theorem dX4_fitOf_0 : decode cX4_fitOf 0 = .ok (.aload_n 0, 1) := dk_42 (dk_at dksX4_fitOf_0 0 rfl rfl)
theorem dX4_fitOf_1 : decode cX4_fitOf 1 = .ok (.iload_n 1, 1) := dk_27 (dk_at dksX4_fitOf_0 1 rfl rfl)
theorem dX4_fitOf_2 : decode cX4_fitOf 2 = .ok (.iconst 4, 1) := dk_7 (dk_at dksX4_fitOf_0 2 rfl rfl)
theorem dX4_fitOf_3 : decode cX4_fitOf 3 = .ok (.invokevirtual 301, 3) := dk_182 1 45 (dk_at dksX4_fitOf_0 3 rfl rfl)
theorem dX4_fitOf_6 : decode cX4_fitOf 6 = .ok (.iconst 1, 1) := dk_4 (dk_at dksX4_fitOf_0 6 rfl rfl)
theorem dX4_fitOf_7 : decode cX4_fitOf 7 = .ok (.if_icmp .eq 13, 3) := dk_159 0 13 (dk_at dksX4_fitOf_0 7 rfl rfl)
theorem dX4_fitOf_10 : decode cX4_fitOf 10 = .ok (.aload_n 0, 1) := dk_42 (dk_at dksX4_fitOf_0 10 rfl rfl)
theorem dX4_fitOf_11 : decode cX4_fitOf 11 = .ok (.iload_n 2, 1) := dk_28 (dk_at dksX4_fitOf_0 11 rfl rfl)
theorem dX4_fitOf_12 : decode cX4_fitOf 12 = .ok (.iconst 4, 1) := dk_7 (dk_at dksX4_fitOf_0 12 rfl rfl)
theorem dX4_fitOf_13 : decode cX4_fitOf 13 = .ok (.invokevirtual 301, 3) := dk_182 1 45 (dk_at dksX4_fitOf_0 13 rfl rfl)
theorem dX4_fitOf_16 : decode cX4_fitOf 16 = .ok (.iconst 1, 1) := dk_4 (dk_at dksX4_fitOf_0 16 rfl rfl)
theorem dX4_fitOf_17 : decode cX4_fitOf 17 = .ok (.if_icmp .ne 7, 3) := dk_160 0 7 (dk_at dksX4_fitOf_0 17 rfl rfl)
theorem dX4_fitOf_20 : decode cX4_fitOf 20 = .ok (.iconst 2, 1) := dk_5 (dk_at dksX4_fitOf_0 20 rfl rfl)
theorem dX4_fitOf_21 : decode cX4_fitOf 21 = .ok (.goto 9, 3) := dk_167 0 9 (dk_at dksX4_fitOf_0 21 rfl rfl)
theorem dX4_fitOf_24 : decode cX4_fitOf 24 = .ok (.aload_n 0, 1) := dk_42 (dk_at dksX4_fitOf_1 0 rfl rfl)
theorem dX4_fitOf_25 : decode cX4_fitOf 25 = .ok (.iload_n 1, 1) := dk_27 (dk_at dksX4_fitOf_1 1 rfl rfl)
theorem dX4_fitOf_26 : decode cX4_fitOf 26 = .ok (.iload_n 2, 1) := dk_28 (dk_at dksX4_fitOf_1 2 rfl rfl)
theorem dX4_fitOf_27 : decode cX4_fitOf 27 = .ok (.invokevirtual 311, 3) := dk_182 1 55 (dk_at dksX4_fitOf_1 3 rfl rfl)
theorem dX4_fitOf_30 : decode cX4_fitOf 30 = .ok (.ireturn, 1) := dk_172 (dk_at dksX4_fitOf_1 6 rfl rfl)
abbrev cX4_fitTold : ByteArray := prog_20_method_60_code
def yX4_fitTold : MethodName := ⟨RX4, "fitTold", "(II)I"⟩
def dkwX4_fitTold_2 : List UInt8 := [46, 163, 0, 7, 4, 167, 0, 4, 3, 172]
abbrev dktX4_fitTold_2 : List UInt8 := dkwX4_fitTold_2 ++ []
def dkwX4_fitTold_1 : List UInt8 := [42, 28, 3, 182, 1, 45, 182, 1, 52, 62, 29, 154, 0, 7, 5, 167, 0, 18, 29, 42, 180, 0, 39, 8]
abbrev dktX4_fitTold_1 : List UInt8 := dkwX4_fitTold_1 ++ dktX4_fitTold_2
def dkwX4_fitTold_0 : List UInt8 := [42, 27, 4, 182, 1, 45, 42, 28, 4, 182, 1, 45, 160, 0, 5, 3, 172, 42, 42, 27, 3, 182, 1, 45]
abbrev dktX4_fitTold_0 : List UInt8 := dkwX4_fitTold_0 ++ dktX4_fitTold_1
theorem dksX4_fitTold_0 : cX4_fitTold.data.toList.drop 0 = dktX4_fitTold_0 := by decide +kernel
theorem dksX4_fitTold_1 : cX4_fitTold.data.toList.drop 24 = dktX4_fitTold_1 := dk_seg dksX4_fitTold_0 24 rfl rfl
theorem dksX4_fitTold_2 : cX4_fitTold.data.toList.drop 48 = dktX4_fitTold_2 := dk_seg dksX4_fitTold_1 24 rfl rfl
theorem dX4_fitTold_0 : decode cX4_fitTold 0 = .ok (.aload_n 0, 1) := dk_42 (dk_at dksX4_fitTold_0 0 rfl rfl)
theorem dX4_fitTold_1 : decode cX4_fitTold 1 = .ok (.iload_n 1, 1) := dk_27 (dk_at dksX4_fitTold_0 1 rfl rfl)
theorem dX4_fitTold_2 : decode cX4_fitTold 2 = .ok (.iconst 1, 1) := dk_4 (dk_at dksX4_fitTold_0 2 rfl rfl)
theorem dX4_fitTold_3 : decode cX4_fitTold 3 = .ok (.invokevirtual 301, 3) := dk_182 1 45 (dk_at dksX4_fitTold_0 3 rfl rfl)
theorem dX4_fitTold_6 : decode cX4_fitTold 6 = .ok (.aload_n 0, 1) := dk_42 (dk_at dksX4_fitTold_0 6 rfl rfl)
theorem dX4_fitTold_7 : decode cX4_fitTold 7 = .ok (.iload_n 2, 1) := dk_28 (dk_at dksX4_fitTold_0 7 rfl rfl)
theorem dX4_fitTold_8 : decode cX4_fitTold 8 = .ok (.iconst 1, 1) := dk_4 (dk_at dksX4_fitTold_0 8 rfl rfl)
theorem dX4_fitTold_9 : decode cX4_fitTold 9 = .ok (.invokevirtual 301, 3) := dk_182 1 45 (dk_at dksX4_fitTold_0 9 rfl rfl)
theorem dX4_fitTold_12 : decode cX4_fitTold 12 = .ok (.if_icmp .ne 5, 3) := dk_160 0 5 (dk_at dksX4_fitTold_0 12 rfl rfl)
theorem dX4_fitTold_15 : decode cX4_fitTold 15 = .ok (.iconst 0, 1) := dk_3 (dk_at dksX4_fitTold_0 15 rfl rfl)
theorem dX4_fitTold_16 : decode cX4_fitTold 16 = .ok (.ireturn, 1) := dk_172 (dk_at dksX4_fitTold_0 16 rfl rfl)
theorem dX4_fitTold_17 : decode cX4_fitTold 17 = .ok (.aload_n 0, 1) := dk_42 (dk_at dksX4_fitTold_0 17 rfl rfl)
theorem dX4_fitTold_18 : decode cX4_fitTold 18 = .ok (.aload_n 0, 1) := dk_42 (dk_at dksX4_fitTold_0 18 rfl rfl)
theorem dX4_fitTold_19 : decode cX4_fitTold 19 = .ok (.iload_n 1, 1) := dk_27 (dk_at dksX4_fitTold_0 19 rfl rfl)
theorem dX4_fitTold_20 : decode cX4_fitTold 20 = .ok (.iconst 0, 1) := dk_3 (dk_at dksX4_fitTold_0 20 rfl rfl)
theorem dX4_fitTold_21 : decode cX4_fitTold 21 = .ok (.invokevirtual 301, 3) := dk_182 1 45 (dk_at dksX4_fitTold_0 21 rfl rfl)
theorem dX4_fitTold_24 : decode cX4_fitTold 24 = .ok (.aload_n 0, 1) := dk_42 (dk_at dksX4_fitTold_1 0 rfl rfl)
theorem dX4_fitTold_25 : decode cX4_fitTold 25 = .ok (.iload_n 2, 1) := dk_28 (dk_at dksX4_fitTold_1 1 rfl rfl)
theorem dX4_fitTold_26 : decode cX4_fitTold 26 = .ok (.iconst 0, 1) := dk_3 (dk_at dksX4_fitTold_1 2 rfl rfl)
theorem dX4_fitTold_27 : decode cX4_fitTold 27 = .ok (.invokevirtual 301, 3) := dk_182 1 45 (dk_at dksX4_fitTold_1 3 rfl rfl)
theorem dX4_fitTold_30 : decode cX4_fitTold 30 = .ok (.invokevirtual 308, 3) := dk_182 1 52 (dk_at dksX4_fitTold_1 6 rfl rfl)
theorem dX4_fitTold_33 : decode cX4_fitTold 33 = .ok (.istore_n 3, 1) := dk_62 (dk_at dksX4_fitTold_1 9 rfl rfl)
theorem dX4_fitTold_34 : decode cX4_fitTold 34 = .ok (.iload_n 3, 1) := dk_29 (dk_at dksX4_fitTold_1 10 rfl rfl)
theorem dX4_fitTold_35 : decode cX4_fitTold 35 = .ok (.ifCond .ne 7, 3) := dk_154 0 7 (dk_at dksX4_fitTold_1 11 rfl rfl)
theorem dX4_fitTold_38 : decode cX4_fitTold 38 = .ok (.iconst 2, 1) := dk_5 (dk_at dksX4_fitTold_1 14 rfl rfl)
theorem dX4_fitTold_39 : decode cX4_fitTold 39 = .ok (.goto 18, 3) := dk_167 0 18 (dk_at dksX4_fitTold_1 15 rfl rfl)
theorem dX4_fitTold_42 : decode cX4_fitTold 42 = .ok (.iload_n 3, 1) := dk_29 (dk_at dksX4_fitTold_1 18 rfl rfl)
theorem dX4_fitTold_43 : decode cX4_fitTold 43 = .ok (.aload_n 0, 1) := dk_42 (dk_at dksX4_fitTold_1 19 rfl rfl)
theorem dX4_fitTold_44 : decode cX4_fitTold 44 = .ok (.getfield 39, 3) := dk_180 0 39 (dk_at dksX4_fitTold_1 20 rfl rfl)
theorem dX4_fitTold_47 : decode cX4_fitTold 47 = .ok (.iconst 5, 1) := dk_8 (dk_at dksX4_fitTold_1 23 rfl rfl)
theorem dX4_fitTold_48 : decode cX4_fitTold 48 = .ok (.iaload, 1) := dk_46 (dk_at dksX4_fitTold_2 0 rfl rfl)
theorem dX4_fitTold_49 : decode cX4_fitTold 49 = .ok (.if_icmp .gt 7, 3) := dk_163 0 7 (dk_at dksX4_fitTold_2 1 rfl rfl)
theorem dX4_fitTold_52 : decode cX4_fitTold 52 = .ok (.iconst 1, 1) := dk_4 (dk_at dksX4_fitTold_2 4 rfl rfl)
theorem dX4_fitTold_53 : decode cX4_fitTold 53 = .ok (.goto 4, 3) := dk_167 0 4 (dk_at dksX4_fitTold_2 5 rfl rfl)
theorem dX4_fitTold_56 : decode cX4_fitTold 56 = .ok (.iconst 0, 1) := dk_3 (dk_at dksX4_fitTold_2 8 rfl rfl)
theorem dX4_fitTold_57 : decode cX4_fitTold 57 = .ok (.ireturn, 1) := dk_172 (dk_at dksX4_fitTold_2 9 rfl rfl)
abbrev cX4_apart : ByteArray := prog_20_method_59_code
def yX4_apart : MethodName := ⟨RX4, "apart", "(II)I"⟩
def dkwX4_apart_0 : List UInt8 := [27, 28, 164, 0, 9, 27, 28, 100, 167, 0, 6, 28, 27, 100, 172]
abbrev dktX4_apart_0 : List UInt8 := dkwX4_apart_0 ++ []
theorem dksX4_apart_0 : cX4_apart.data.toList.drop 0 = dktX4_apart_0 := by decide +kernel
theorem dX4_apart_0 : decode cX4_apart 0 = .ok (.iload_n 1, 1) := dk_27 (dk_at dksX4_apart_0 0 rfl rfl)
theorem dX4_apart_1 : decode cX4_apart 1 = .ok (.iload_n 2, 1) := dk_28 (dk_at dksX4_apart_0 1 rfl rfl)
theorem dX4_apart_2 : decode cX4_apart 2 = .ok (.if_icmp .le 9, 3) := dk_164 0 9 (dk_at dksX4_apart_0 2 rfl rfl)
theorem dX4_apart_5 : decode cX4_apart 5 = .ok (.iload_n 1, 1) := dk_27 (dk_at dksX4_apart_0 5 rfl rfl)
theorem dX4_apart_6 : decode cX4_apart 6 = .ok (.iload_n 2, 1) := dk_28 (dk_at dksX4_apart_0 6 rfl rfl)
theorem dX4_apart_7 : decode cX4_apart 7 = .ok (.isub, 1) := dk_100 (dk_at dksX4_apart_0 7 rfl rfl)
theorem dX4_apart_8 : decode cX4_apart 8 = .ok (.goto 6, 3) := dk_167 0 6 (dk_at dksX4_apart_0 8 rfl rfl)
theorem dX4_apart_11 : decode cX4_apart 11 = .ok (.iload_n 2, 1) := dk_28 (dk_at dksX4_apart_0 11 rfl rfl)
theorem dX4_apart_12 : decode cX4_apart 12 = .ok (.iload_n 1, 1) := dk_27 (dk_at dksX4_apart_0 12 rfl rfl)
theorem dX4_apart_13 : decode cX4_apart 13 = .ok (.isub, 1) := dk_100 (dk_at dksX4_apart_0 13 rfl rfl)
theorem dX4_apart_14 : decode cX4_apart 14 = .ok (.ireturn, 1) := dk_172 (dk_at dksX4_apart_0 14 rfl rfl)
abbrev cX4_worth : ByteArray := prog_20_method_70_code
def yX4_worth : MethodName := ⟨RX4, "worth", "(I)I"⟩
def dkwX4_worth_0 : List UInt8 := [42, 27, 182, 1, 76, 153, 0, 12, 42, 180, 0, 42, 27, 46, 167, 0, 4, 2, 172]
abbrev dktX4_worth_0 : List UInt8 := dkwX4_worth_0 ++ []
theorem dksX4_worth_0 : cX4_worth.data.toList.drop 0 = dktX4_worth_0 := by decide +kernel
theorem dX4_worth_0 : decode cX4_worth 0 = .ok (.aload_n 0, 1) := dk_42 (dk_at dksX4_worth_0 0 rfl rfl)
theorem dX4_worth_1 : decode cX4_worth 1 = .ok (.iload_n 1, 1) := dk_27 (dk_at dksX4_worth_0 1 rfl rfl)
theorem dX4_worth_2 : decode cX4_worth 2 = .ok (.invokevirtual 332, 3) := dk_182 1 76 (dk_at dksX4_worth_0 2 rfl rfl)
theorem dX4_worth_5 : decode cX4_worth 5 = .ok (.ifCond .eq 12, 3) := dk_153 0 12 (dk_at dksX4_worth_0 5 rfl rfl)
theorem dX4_worth_8 : decode cX4_worth 8 = .ok (.aload_n 0, 1) := dk_42 (dk_at dksX4_worth_0 8 rfl rfl)
theorem dX4_worth_9 : decode cX4_worth 9 = .ok (.getfield 42, 3) := dk_180 0 42 (dk_at dksX4_worth_0 9 rfl rfl)
theorem dX4_worth_12 : decode cX4_worth 12 = .ok (.iload_n 1, 1) := dk_27 (dk_at dksX4_worth_0 12 rfl rfl)
theorem dX4_worth_13 : decode cX4_worth 13 = .ok (.iaload, 1) := dk_46 (dk_at dksX4_worth_0 13 rfl rfl)
theorem dX4_worth_14 : decode cX4_worth 14 = .ok (.goto 4, 3) := dk_167 0 4 (dk_at dksX4_worth_0 14 rfl rfl)
theorem dX4_worth_17 : decode cX4_worth 17 = .ok (.iconst (-1), 1) := dk_2 (dk_at dksX4_worth_0 17 rfl rfl)
theorem dX4_worth_18 : decode cX4_worth 18 = .ok (.ireturn, 1) := dk_172 (dk_at dksX4_worth_0 18 rfl rfl)
abbrev cX4_isSet : ByteArray := prog_20_method_69_code
def yX4_isSet : MethodName := ⟨RX4, "isSet", "(I)Z"⟩
def dkwX4_isSet_1 : List UInt8 := [167, 0, 4, 3, 172]
abbrev dktX4_isSet_1 : List UInt8 := dkwX4_isSet_1 ++ []
def dkwX4_isSet_0 : List UInt8 := [42, 182, 1, 73, 153, 0, 23, 27, 155, 0, 19, 27, 4, 42, 180, 0, 39, 4, 46, 120, 162, 0, 7, 4]
abbrev dktX4_isSet_0 : List UInt8 := dkwX4_isSet_0 ++ dktX4_isSet_1
theorem dksX4_isSet_0 : cX4_isSet.data.toList.drop 0 = dktX4_isSet_0 := by decide +kernel
theorem dksX4_isSet_1 : cX4_isSet.data.toList.drop 24 = dktX4_isSet_1 := dk_seg dksX4_isSet_0 24 rfl rfl
theorem dX4_isSet_0 : decode cX4_isSet 0 = .ok (.aload_n 0, 1) := dk_42 (dk_at dksX4_isSet_0 0 rfl rfl)
theorem dX4_isSet_1 : decode cX4_isSet 1 = .ok (.invokevirtual 329, 3) := dk_182 1 73 (dk_at dksX4_isSet_0 1 rfl rfl)
theorem dX4_isSet_4 : decode cX4_isSet 4 = .ok (.ifCond .eq 23, 3) := dk_153 0 23 (dk_at dksX4_isSet_0 4 rfl rfl)
theorem dX4_isSet_7 : decode cX4_isSet 7 = .ok (.iload_n 1, 1) := dk_27 (dk_at dksX4_isSet_0 7 rfl rfl)
theorem dX4_isSet_8 : decode cX4_isSet 8 = .ok (.ifCond .lt 19, 3) := dk_155 0 19 (dk_at dksX4_isSet_0 8 rfl rfl)
theorem dX4_isSet_11 : decode cX4_isSet 11 = .ok (.iload_n 1, 1) := dk_27 (dk_at dksX4_isSet_0 11 rfl rfl)
theorem dX4_isSet_12 : decode cX4_isSet 12 = .ok (.iconst 1, 1) := dk_4 (dk_at dksX4_isSet_0 12 rfl rfl)
theorem dX4_isSet_13 : decode cX4_isSet 13 = .ok (.aload_n 0, 1) := dk_42 (dk_at dksX4_isSet_0 13 rfl rfl)
theorem dX4_isSet_14 : decode cX4_isSet 14 = .ok (.getfield 39, 3) := dk_180 0 39 (dk_at dksX4_isSet_0 14 rfl rfl)
theorem dX4_isSet_17 : decode cX4_isSet 17 = .ok (.iconst 1, 1) := dk_4 (dk_at dksX4_isSet_0 17 rfl rfl)
theorem dX4_isSet_18 : decode cX4_isSet 18 = .ok (.iaload, 1) := dk_46 (dk_at dksX4_isSet_0 18 rfl rfl)
theorem dX4_isSet_19 : decode cX4_isSet 19 = .ok (.ishl, 1) := dk_120 (dk_at dksX4_isSet_0 19 rfl rfl)
theorem dX4_isSet_20 : decode cX4_isSet 20 = .ok (.if_icmp .ge 7, 3) := dk_162 0 7 (dk_at dksX4_isSet_0 20 rfl rfl)
theorem dX4_isSet_23 : decode cX4_isSet 23 = .ok (.iconst 1, 1) := dk_4 (dk_at dksX4_isSet_0 23 rfl rfl)
theorem dX4_isSet_24 : decode cX4_isSet 24 = .ok (.goto 4, 3) := dk_167 0 4 (dk_at dksX4_isSet_1 0 rfl rfl)
theorem dX4_isSet_27 : decode cX4_isSet 27 = .ok (.iconst 0, 1) := dk_3 (dk_at dksX4_isSet_1 3 rfl rfl)
theorem dX4_isSet_28 : decode cX4_isSet 28 = .ok (.ireturn, 1) := dk_172 (dk_at dksX4_isSet_1 4 rfl rfl)
abbrev cX4_isFair : ByteArray := prog_20_method_49_code
def yX4_isFair : MethodName := ⟨RX4, "isFair", "()Z"⟩
def dkwX4_isFair_0 : List UInt8 := [42, 180, 0, 39, 3, 46, 158, 0, 7, 4, 167, 0, 4, 3, 172]
abbrev dktX4_isFair_0 : List UInt8 := dkwX4_isFair_0 ++ []
theorem dksX4_isFair_0 : cX4_isFair.data.toList.drop 0 = dktX4_isFair_0 := by decide +kernel
theorem dX4_isFair_0 : decode cX4_isFair 0 = .ok (.aload_n 0, 1) := dk_42 (dk_at dksX4_isFair_0 0 rfl rfl)
theorem dX4_isFair_1 : decode cX4_isFair 1 = .ok (.getfield 39, 3) := dk_180 0 39 (dk_at dksX4_isFair_0 1 rfl rfl)
theorem dX4_isFair_4 : decode cX4_isFair 4 = .ok (.iconst 0, 1) := dk_3 (dk_at dksX4_isFair_0 4 rfl rfl)
theorem dX4_isFair_5 : decode cX4_isFair 5 = .ok (.iaload, 1) := dk_46 (dk_at dksX4_isFair_0 5 rfl rfl)
theorem dX4_isFair_6 : decode cX4_isFair 6 = .ok (.ifCond .le 7, 3) := dk_158 0 7 (dk_at dksX4_isFair_0 6 rfl rfl)
theorem dX4_isFair_9 : decode cX4_isFair 9 = .ok (.iconst 1, 1) := dk_4 (dk_at dksX4_isFair_0 9 rfl rfl)
theorem dX4_isFair_10 : decode cX4_isFair 10 = .ok (.goto 4, 3) := dk_167 0 4 (dk_at dksX4_isFair_0 10 rfl rfl)
theorem dX4_isFair_13 : decode cX4_isFair 13 = .ok (.iconst 0, 1) := dk_3 (dk_at dksX4_isFair_0 13 rfl rfl)
theorem dX4_isFair_14 : decode cX4_isFair 14 = .ok (.ireturn, 1) := dk_172 (dk_at dksX4_isFair_0 14 rfl rfl)
abbrev cX4_with : ByteArray := prog_20_method_71_code
def yX4_with : MethodName := ⟨RX4, "with", "(II)I"⟩
def dkwX4_with_3 : List UInt8 := [156, 0, 7, 3, 167, 0, 7, 4, 21, 5, 120, 128, 2, 130, 126, 62, 167, 255, 200]
abbrev dktX4_with_3 : List UInt8 := dkwX4_with_3 ++ []
def dkwX4_with_2 : List UInt8 := [160, 0, 6, 21, 5, 172, 21, 5, 28, 160, 0, 6, 21, 4, 172, 29, 4, 21, 4, 120, 21, 5]
abbrev dktX4_with_2 : List UInt8 := dkwX4_with_2 ++ dktX4_with_3
def dkwX4_with_1 : List UInt8 := [16, 254, 172, 27, 62, 42, 29, 182, 1, 67, 54, 4, 42, 180, 0, 45, 29, 46, 54, 5, 21, 4, 28]
abbrev dktX4_with_1 : List UInt8 := dkwX4_with_1 ++ dktX4_with_2
def dkwX4_with_0 : List UInt8 := [42, 27, 182, 1, 76, 153, 0, 19, 42, 28, 182, 1, 79, 153, 0, 11, 27, 28, 184, 0, 215, 154, 0, 6]
abbrev dktX4_with_0 : List UInt8 := dkwX4_with_0 ++ dktX4_with_1
theorem dksX4_with_0 : cX4_with.data.toList.drop 0 = dktX4_with_0 := by decide +kernel
theorem dksX4_with_1 : cX4_with.data.toList.drop 24 = dktX4_with_1 := dk_seg dksX4_with_0 24 rfl rfl
theorem dksX4_with_2 : cX4_with.data.toList.drop 47 = dktX4_with_2 := dk_seg dksX4_with_1 23 rfl rfl
theorem dksX4_with_3 : cX4_with.data.toList.drop 69 = dktX4_with_3 := dk_seg dksX4_with_2 22 rfl rfl
theorem dX4_with_0 : decode cX4_with 0 = .ok (.aload_n 0, 1) := dk_42 (dk_at dksX4_with_0 0 rfl rfl)
theorem dX4_with_1 : decode cX4_with 1 = .ok (.iload_n 1, 1) := dk_27 (dk_at dksX4_with_0 1 rfl rfl)
theorem dX4_with_2 : decode cX4_with 2 = .ok (.invokevirtual 332, 3) := dk_182 1 76 (dk_at dksX4_with_0 2 rfl rfl)
theorem dX4_with_5 : decode cX4_with 5 = .ok (.ifCond .eq 19, 3) := dk_153 0 19 (dk_at dksX4_with_0 5 rfl rfl)
theorem dX4_with_8 : decode cX4_with 8 = .ok (.aload_n 0, 1) := dk_42 (dk_at dksX4_with_0 8 rfl rfl)
theorem dX4_with_9 : decode cX4_with 9 = .ok (.iload_n 2, 1) := dk_28 (dk_at dksX4_with_0 9 rfl rfl)
theorem dX4_with_10 : decode cX4_with 10 = .ok (.invokevirtual 335, 3) := dk_182 1 79 (dk_at dksX4_with_0 10 rfl rfl)
theorem dX4_with_13 : decode cX4_with 13 = .ok (.ifCond .eq 11, 3) := dk_153 0 11 (dk_at dksX4_with_0 13 rfl rfl)
theorem dX4_with_16 : decode cX4_with 16 = .ok (.iload_n 1, 1) := dk_27 (dk_at dksX4_with_0 16 rfl rfl)
theorem dX4_with_17 : decode cX4_with 17 = .ok (.iload_n 2, 1) := dk_28 (dk_at dksX4_with_0 17 rfl rfl)
theorem dX4_with_18 : decode cX4_with 18 = .ok (.invokestatic 215, 3) := dk_184 0 215 (dk_at dksX4_with_0 18 rfl rfl)
theorem dX4_with_21 : decode cX4_with 21 = .ok (.ifCond .ne 6, 3) := dk_154 0 6 (dk_at dksX4_with_0 21 rfl rfl)
theorem dX4_with_24 : decode cX4_with 24 = .ok (.bipush (-2), 2) := dk_16 254 (dk_at dksX4_with_1 0 rfl rfl)
theorem dX4_with_26 : decode cX4_with 26 = .ok (.ireturn, 1) := dk_172 (dk_at dksX4_with_1 2 rfl rfl)
theorem dX4_with_27 : decode cX4_with 27 = .ok (.iload_n 1, 1) := dk_27 (dk_at dksX4_with_1 3 rfl rfl)
theorem dX4_with_28 : decode cX4_with 28 = .ok (.istore_n 3, 1) := dk_62 (dk_at dksX4_with_1 4 rfl rfl)
theorem dX4_with_29 : decode cX4_with 29 = .ok (.aload_n 0, 1) := dk_42 (dk_at dksX4_with_1 5 rfl rfl)
theorem dX4_with_30 : decode cX4_with 30 = .ok (.iload_n 3, 1) := dk_29 (dk_at dksX4_with_1 6 rfl rfl)
theorem dX4_with_31 : decode cX4_with 31 = .ok (.invokevirtual 323, 3) := dk_182 1 67 (dk_at dksX4_with_1 7 rfl rfl)
theorem dX4_with_34 : decode cX4_with 34 = .ok (.istore 4, 2) := dk_54 4 (dk_at dksX4_with_1 10 rfl rfl)
theorem dX4_with_36 : decode cX4_with 36 = .ok (.aload_n 0, 1) := dk_42 (dk_at dksX4_with_1 12 rfl rfl)
theorem dX4_with_37 : decode cX4_with 37 = .ok (.getfield 45, 3) := dk_180 0 45 (dk_at dksX4_with_1 13 rfl rfl)
theorem dX4_with_40 : decode cX4_with 40 = .ok (.iload_n 3, 1) := dk_29 (dk_at dksX4_with_1 16 rfl rfl)
theorem dX4_with_41 : decode cX4_with 41 = .ok (.iaload, 1) := dk_46 (dk_at dksX4_with_1 17 rfl rfl)
theorem dX4_with_42 : decode cX4_with 42 = .ok (.istore 5, 2) := dk_54 5 (dk_at dksX4_with_1 18 rfl rfl)
theorem dX4_with_44 : decode cX4_with 44 = .ok (.iload 4, 2) := dk_21 4 (dk_at dksX4_with_1 20 rfl rfl)
theorem dX4_with_46 : decode cX4_with 46 = .ok (.iload_n 2, 1) := dk_28 (dk_at dksX4_with_1 22 rfl rfl)
theorem dX4_with_47 : decode cX4_with 47 = .ok (.if_icmp .ne 6, 3) := dk_160 0 6 (dk_at dksX4_with_2 0 rfl rfl)
theorem dX4_with_50 : decode cX4_with 50 = .ok (.iload 5, 2) := dk_21 5 (dk_at dksX4_with_2 3 rfl rfl)
theorem dX4_with_52 : decode cX4_with 52 = .ok (.ireturn, 1) := dk_172 (dk_at dksX4_with_2 5 rfl rfl)
theorem dX4_with_53 : decode cX4_with 53 = .ok (.iload 5, 2) := dk_21 5 (dk_at dksX4_with_2 6 rfl rfl)
theorem dX4_with_55 : decode cX4_with 55 = .ok (.iload_n 2, 1) := dk_28 (dk_at dksX4_with_2 8 rfl rfl)
theorem dX4_with_56 : decode cX4_with 56 = .ok (.if_icmp .ne 6, 3) := dk_160 0 6 (dk_at dksX4_with_2 9 rfl rfl)
theorem dX4_with_59 : decode cX4_with 59 = .ok (.iload 4, 2) := dk_21 4 (dk_at dksX4_with_2 12 rfl rfl)
theorem dX4_with_61 : decode cX4_with 61 = .ok (.ireturn, 1) := dk_172 (dk_at dksX4_with_2 14 rfl rfl)
theorem dX4_with_62 : decode cX4_with 62 = .ok (.iload_n 3, 1) := dk_29 (dk_at dksX4_with_2 15 rfl rfl)
theorem dX4_with_63 : decode cX4_with 63 = .ok (.iconst 1, 1) := dk_4 (dk_at dksX4_with_2 16 rfl rfl)
theorem dX4_with_64 : decode cX4_with 64 = .ok (.iload 4, 2) := dk_21 4 (dk_at dksX4_with_2 17 rfl rfl)
theorem dX4_with_66 : decode cX4_with 66 = .ok (.ishl, 1) := dk_120 (dk_at dksX4_with_2 19 rfl rfl)
theorem dX4_with_67 : decode cX4_with 67 = .ok (.iload 5, 2) := dk_21 5 (dk_at dksX4_with_2 20 rfl rfl)
theorem dX4_with_69 : decode cX4_with 69 = .ok (.ifCond .ge 7, 3) := dk_156 0 7 (dk_at dksX4_with_3 0 rfl rfl)
theorem dX4_with_72 : decode cX4_with 72 = .ok (.iconst 0, 1) := dk_3 (dk_at dksX4_with_3 3 rfl rfl)
theorem dX4_with_73 : decode cX4_with 73 = .ok (.goto 7, 3) := dk_167 0 7 (dk_at dksX4_with_3 4 rfl rfl)
theorem dX4_with_76 : decode cX4_with 76 = .ok (.iconst 1, 1) := dk_4 (dk_at dksX4_with_3 7 rfl rfl)
theorem dX4_with_77 : decode cX4_with 77 = .ok (.iload 5, 2) := dk_21 5 (dk_at dksX4_with_3 8 rfl rfl)
theorem dX4_with_79 : decode cX4_with 79 = .ok (.ishl, 1) := dk_120 (dk_at dksX4_with_3 10 rfl rfl)
theorem dX4_with_80 : decode cX4_with 80 = .ok (.ior, 1) := dk_128 (dk_at dksX4_with_3 11 rfl rfl)
theorem dX4_with_81 : decode cX4_with 81 = .ok (.iconst (-1), 1) := dk_2 (dk_at dksX4_with_3 12 rfl rfl)
theorem dX4_with_82 : decode cX4_with 82 = .ok (.ixor, 1) := dk_130 (dk_at dksX4_with_3 13 rfl rfl)
theorem dX4_with_83 : decode cX4_with 83 = .ok (.iand, 1) := dk_126 (dk_at dksX4_with_3 14 rfl rfl)
theorem dX4_with_84 : decode cX4_with 84 = .ok (.istore_n 3, 1) := dk_62 (dk_at dksX4_with_3 15 rfl rfl)
theorem dX4_with_85 : decode cX4_with 85 = .ok (.goto (-56), 3) := dk_167 255 200 (dk_at dksX4_with_3 16 rfl rfl)
abbrev cX4_isHalf : ByteArray := prog_20_method_50_code
def yX4_isHalf : MethodName := ⟨RX4, "isHalf", "(I)Z"⟩
def dkwX4_isHalf_0 : List UInt8 := [27, 155, 0, 17, 27, 42, 180, 0, 39, 4, 46, 162, 0, 7, 4, 167, 0, 4, 3, 172]
abbrev dktX4_isHalf_0 : List UInt8 := dkwX4_isHalf_0 ++ []
theorem dksX4_isHalf_0 : cX4_isHalf.data.toList.drop 0 = dktX4_isHalf_0 := by decide +kernel
theorem dX4_isHalf_0 : decode cX4_isHalf 0 = .ok (.iload_n 1, 1) := dk_27 (dk_at dksX4_isHalf_0 0 rfl rfl)
theorem dX4_isHalf_1 : decode cX4_isHalf 1 = .ok (.ifCond .lt 17, 3) := dk_155 0 17 (dk_at dksX4_isHalf_0 1 rfl rfl)
theorem dX4_isHalf_4 : decode cX4_isHalf 4 = .ok (.iload_n 1, 1) := dk_27 (dk_at dksX4_isHalf_0 4 rfl rfl)
theorem dX4_isHalf_5 : decode cX4_isHalf 5 = .ok (.aload_n 0, 1) := dk_42 (dk_at dksX4_isHalf_0 5 rfl rfl)
theorem dX4_isHalf_6 : decode cX4_isHalf 6 = .ok (.getfield 39, 3) := dk_180 0 39 (dk_at dksX4_isHalf_0 6 rfl rfl)
theorem dX4_isHalf_9 : decode cX4_isHalf 9 = .ok (.iconst 1, 1) := dk_4 (dk_at dksX4_isHalf_0 9 rfl rfl)
theorem dX4_isHalf_10 : decode cX4_isHalf 10 = .ok (.iaload, 1) := dk_46 (dk_at dksX4_isHalf_0 10 rfl rfl)
theorem dX4_isHalf_11 : decode cX4_isHalf 11 = .ok (.if_icmp .ge 7, 3) := dk_162 0 7 (dk_at dksX4_isHalf_0 11 rfl rfl)
theorem dX4_isHalf_14 : decode cX4_isHalf 14 = .ok (.iconst 1, 1) := dk_4 (dk_at dksX4_isHalf_0 14 rfl rfl)
theorem dX4_isHalf_15 : decode cX4_isHalf 15 = .ok (.goto 4, 3) := dk_167 0 4 (dk_at dksX4_isHalf_0 15 rfl rfl)
theorem dX4_isHalf_18 : decode cX4_isHalf 18 = .ok (.iconst 0, 1) := dk_3 (dk_at dksX4_isHalf_0 18 rfl rfl)
theorem dX4_isHalf_19 : decode cX4_isHalf 19 = .ok (.ireturn, 1) := dk_172 (dk_at dksX4_isHalf_0 19 rfl rfl)
abbrev cX4_half : ByteArray := prog_20_method_72_code
def yX4_half : MethodName := ⟨RX4, "half", "(II)I"⟩
def dkwX4_half_1 : List UInt8 := [160, 0, 11, 42, 27, 182, 1, 84, 167, 0, 9, 42, 27, 28, 182, 1, 45, 172]
abbrev dktX4_half_1 : List UInt8 := dkwX4_half_1 ++ []
def dkwX4_half_0 : List UInt8 := [42, 27, 182, 1, 79, 153, 0, 15, 28, 133, 9, 20, 1, 82, 184, 0, 109, 154, 0, 5, 2, 172, 28, 5]
abbrev dktX4_half_0 : List UInt8 := dkwX4_half_0 ++ dktX4_half_1
theorem dksX4_half_0 : cX4_half.data.toList.drop 0 = dktX4_half_0 := by decide +kernel
theorem dksX4_half_1 : cX4_half.data.toList.drop 24 = dktX4_half_1 := dk_seg dksX4_half_0 24 rfl rfl
theorem dX4_half_0 : decode cX4_half 0 = .ok (.aload_n 0, 1) := dk_42 (dk_at dksX4_half_0 0 rfl rfl)
theorem dX4_half_1 : decode cX4_half 1 = .ok (.iload_n 1, 1) := dk_27 (dk_at dksX4_half_0 1 rfl rfl)
theorem dX4_half_2 : decode cX4_half 2 = .ok (.invokevirtual 335, 3) := dk_182 1 79 (dk_at dksX4_half_0 2 rfl rfl)
theorem dX4_half_5 : decode cX4_half 5 = .ok (.ifCond .eq 15, 3) := dk_153 0 15 (dk_at dksX4_half_0 5 rfl rfl)
theorem dX4_half_8 : decode cX4_half 8 = .ok (.iload_n 2, 1) := dk_28 (dk_at dksX4_half_0 8 rfl rfl)
theorem dX4_half_9 : decode cX4_half 9 = .ok (.i2l, 1) := dk_133 (dk_at dksX4_half_0 9 rfl rfl)
theorem dX4_half_10 : decode cX4_half 10 = .ok (.lconst 0, 1) := dk_9 (dk_at dksX4_half_0 10 rfl rfl)
theorem dX4_half_11 : decode cX4_half 11 = .ok (.ldc2_w 338, 3) := dk_20 1 82 (dk_at dksX4_half_0 11 rfl rfl)
theorem dX4_half_14 : decode cX4_half 14 = .ok (.invokestatic 109, 3) := dk_184 0 109 (dk_at dksX4_half_0 14 rfl rfl)
theorem dX4_half_17 : decode cX4_half 17 = .ok (.ifCond .ne 5, 3) := dk_154 0 5 (dk_at dksX4_half_0 17 rfl rfl)
theorem dX4_half_20 : decode cX4_half 20 = .ok (.iconst (-1), 1) := dk_2 (dk_at dksX4_half_0 20 rfl rfl)
theorem dX4_half_21 : decode cX4_half 21 = .ok (.ireturn, 1) := dk_172 (dk_at dksX4_half_0 21 rfl rfl)
theorem dX4_half_22 : decode cX4_half 22 = .ok (.iload_n 2, 1) := dk_28 (dk_at dksX4_half_0 22 rfl rfl)
theorem dX4_half_23 : decode cX4_half 23 = .ok (.iconst 2, 1) := dk_5 (dk_at dksX4_half_0 23 rfl rfl)
theorem dX4_half_24 : decode cX4_half 24 = .ok (.if_icmp .ne 11, 3) := dk_160 0 11 (dk_at dksX4_half_1 0 rfl rfl)
theorem dX4_half_27 : decode cX4_half 27 = .ok (.aload_n 0, 1) := dk_42 (dk_at dksX4_half_1 3 rfl rfl)
theorem dX4_half_28 : decode cX4_half 28 = .ok (.iload_n 1, 1) := dk_27 (dk_at dksX4_half_1 4 rfl rfl)
theorem dX4_half_29 : decode cX4_half 29 = .ok (.invokevirtual 340, 3) := dk_182 1 84 (dk_at dksX4_half_1 5 rfl rfl)
theorem dX4_half_32 : decode cX4_half 32 = .ok (.goto 9, 3) := dk_167 0 9 (dk_at dksX4_half_1 8 rfl rfl)
theorem dX4_half_35 : decode cX4_half 35 = .ok (.aload_n 0, 1) := dk_42 (dk_at dksX4_half_1 11 rfl rfl)
theorem dX4_half_36 : decode cX4_half 36 = .ok (.iload_n 1, 1) := dk_27 (dk_at dksX4_half_1 12 rfl rfl)
theorem dX4_half_37 : decode cX4_half 37 = .ok (.iload_n 2, 1) := dk_28 (dk_at dksX4_half_1 13 rfl rfl)
theorem dX4_half_38 : decode cX4_half 38 = .ok (.invokevirtual 301, 3) := dk_182 1 45 (dk_at dksX4_half_1 14 rfl rfl)
theorem dX4_half_41 : decode cX4_half 41 = .ok (.ireturn, 1) := dk_172 (dk_at dksX4_half_1 17 rfl rfl)
abbrev cX4_priceOf : ByteArray := prog_20_method_55_code
def yX4_priceOf : MethodName := ⟨RX4, "priceOf", "(I)I"⟩
def dkwX4_priceOf_0 : List UInt8 := [42, 182, 1, 42, 153, 0, 13, 42, 180, 0, 39, 16, 7, 46, 167, 0, 9, 42, 27, 5, 182, 1, 45, 172]
abbrev dktX4_priceOf_0 : List UInt8 := dkwX4_priceOf_0 ++ []
theorem dksX4_priceOf_0 : cX4_priceOf.data.toList.drop 0 = dktX4_priceOf_0 := by decide +kernel
theorem dX4_priceOf_0 : decode cX4_priceOf 0 = .ok (.aload_n 0, 1) := dk_42 (dk_at dksX4_priceOf_0 0 rfl rfl)
theorem dX4_priceOf_1 : decode cX4_priceOf 1 = .ok (.invokevirtual 298, 3) := dk_182 1 42 (dk_at dksX4_priceOf_0 1 rfl rfl)
theorem dX4_priceOf_4 : decode cX4_priceOf 4 = .ok (.ifCond .eq 13, 3) := dk_153 0 13 (dk_at dksX4_priceOf_0 4 rfl rfl)
theorem dX4_priceOf_7 : decode cX4_priceOf 7 = .ok (.aload_n 0, 1) := dk_42 (dk_at dksX4_priceOf_0 7 rfl rfl)
theorem dX4_priceOf_8 : decode cX4_priceOf 8 = .ok (.getfield 39, 3) := dk_180 0 39 (dk_at dksX4_priceOf_0 8 rfl rfl)
theorem dX4_priceOf_11 : decode cX4_priceOf 11 = .ok (.bipush 7, 2) := dk_16 7 (dk_at dksX4_priceOf_0 11 rfl rfl)
theorem dX4_priceOf_13 : decode cX4_priceOf 13 = .ok (.iaload, 1) := dk_46 (dk_at dksX4_priceOf_0 13 rfl rfl)
theorem dX4_priceOf_14 : decode cX4_priceOf 14 = .ok (.goto 9, 3) := dk_167 0 9 (dk_at dksX4_priceOf_0 14 rfl rfl)
theorem dX4_priceOf_17 : decode cX4_priceOf 17 = .ok (.aload_n 0, 1) := dk_42 (dk_at dksX4_priceOf_0 17 rfl rfl)
theorem dX4_priceOf_18 : decode cX4_priceOf 18 = .ok (.iload_n 1, 1) := dk_27 (dk_at dksX4_priceOf_0 18 rfl rfl)
theorem dX4_priceOf_19 : decode cX4_priceOf 19 = .ok (.iconst 2, 1) := dk_5 (dk_at dksX4_priceOf_0 19 rfl rfl)
theorem dX4_priceOf_20 : decode cX4_priceOf 20 = .ok (.invokevirtual 301, 3) := dk_182 1 45 (dk_at dksX4_priceOf_0 20 rfl rfl)
theorem dX4_priceOf_23 : decode cX4_priceOf 23 = .ok (.ireturn, 1) := dk_172 (dk_at dksX4_priceOf_0 23 rfl rfl)
abbrev cX4_isDusk : ByteArray := prog_20_method_54_code
def yX4_isDusk : MethodName := ⟨RX4, "isDusk", "()Z"⟩
def dkwX4_isDusk_0 : List UInt8 := [42, 180, 0, 39, 6, 46, 42, 180, 0, 39, 16, 6, 46, 161, 0, 7, 4, 167, 0, 4, 3, 172]
abbrev dktX4_isDusk_0 : List UInt8 := dkwX4_isDusk_0 ++ []
theorem dksX4_isDusk_0 : cX4_isDusk.data.toList.drop 0 = dktX4_isDusk_0 := by decide +kernel
theorem dX4_isDusk_0 : decode cX4_isDusk 0 = .ok (.aload_n 0, 1) := dk_42 (dk_at dksX4_isDusk_0 0 rfl rfl)
theorem dX4_isDusk_1 : decode cX4_isDusk 1 = .ok (.getfield 39, 3) := dk_180 0 39 (dk_at dksX4_isDusk_0 1 rfl rfl)
theorem dX4_isDusk_4 : decode cX4_isDusk 4 = .ok (.iconst 3, 1) := dk_6 (dk_at dksX4_isDusk_0 4 rfl rfl)
theorem dX4_isDusk_5 : decode cX4_isDusk 5 = .ok (.iaload, 1) := dk_46 (dk_at dksX4_isDusk_0 5 rfl rfl)
theorem dX4_isDusk_6 : decode cX4_isDusk 6 = .ok (.aload_n 0, 1) := dk_42 (dk_at dksX4_isDusk_0 6 rfl rfl)
theorem dX4_isDusk_7 : decode cX4_isDusk 7 = .ok (.getfield 39, 3) := dk_180 0 39 (dk_at dksX4_isDusk_0 7 rfl rfl)
theorem dX4_isDusk_10 : decode cX4_isDusk 10 = .ok (.bipush 6, 2) := dk_16 6 (dk_at dksX4_isDusk_0 10 rfl rfl)
theorem dX4_isDusk_12 : decode cX4_isDusk 12 = .ok (.iaload, 1) := dk_46 (dk_at dksX4_isDusk_0 12 rfl rfl)
theorem dX4_isDusk_13 : decode cX4_isDusk 13 = .ok (.if_icmp .lt 7, 3) := dk_161 0 7 (dk_at dksX4_isDusk_0 13 rfl rfl)
theorem dX4_isDusk_16 : decode cX4_isDusk 16 = .ok (.iconst 1, 1) := dk_4 (dk_at dksX4_isDusk_0 16 rfl rfl)
theorem dX4_isDusk_17 : decode cX4_isDusk 17 = .ok (.goto 4, 3) := dk_167 0 4 (dk_at dksX4_isDusk_0 17 rfl rfl)
theorem dX4_isDusk_20 : decode cX4_isDusk 20 = .ok (.iconst 0, 1) := dk_3 (dk_at dksX4_isDusk_0 20 rfl rfl)
theorem dX4_isDusk_21 : decode cX4_isDusk 21 = .ok (.ireturn, 1) := dk_172 (dk_at dksX4_isDusk_0 21 rfl rfl)
abbrev cX4_fit : ByteArray := prog_20_method_73_code
def yX4_fit : MethodName := ⟨RX4, "fit", "(II)I"⟩
def dkwX4_fit_1 : List UInt8 := [182, 1, 70, 167, 0, 4, 2, 172]
abbrev dktX4_fit_1 : List UInt8 := dkwX4_fit_1 ++ []
def dkwX4_fit_0 : List UInt8 := [42, 27, 182, 1, 79, 153, 0, 25, 42, 28, 182, 1, 79, 153, 0, 17, 27, 28, 159, 0, 12, 42, 27, 28]
abbrev dktX4_fit_0 : List UInt8 := dkwX4_fit_0 ++ dktX4_fit_1
theorem dksX4_fit_0 : cX4_fit.data.toList.drop 0 = dktX4_fit_0 := by decide +kernel
theorem dksX4_fit_1 : cX4_fit.data.toList.drop 24 = dktX4_fit_1 := dk_seg dksX4_fit_0 24 rfl rfl
theorem dX4_fit_0 : decode cX4_fit 0 = .ok (.aload_n 0, 1) := dk_42 (dk_at dksX4_fit_0 0 rfl rfl)
theorem dX4_fit_1 : decode cX4_fit 1 = .ok (.iload_n 1, 1) := dk_27 (dk_at dksX4_fit_0 1 rfl rfl)
theorem dX4_fit_2 : decode cX4_fit 2 = .ok (.invokevirtual 335, 3) := dk_182 1 79 (dk_at dksX4_fit_0 2 rfl rfl)
theorem dX4_fit_5 : decode cX4_fit 5 = .ok (.ifCond .eq 25, 3) := dk_153 0 25 (dk_at dksX4_fit_0 5 rfl rfl)
theorem dX4_fit_8 : decode cX4_fit 8 = .ok (.aload_n 0, 1) := dk_42 (dk_at dksX4_fit_0 8 rfl rfl)
theorem dX4_fit_9 : decode cX4_fit 9 = .ok (.iload_n 2, 1) := dk_28 (dk_at dksX4_fit_0 9 rfl rfl)
theorem dX4_fit_10 : decode cX4_fit 10 = .ok (.invokevirtual 335, 3) := dk_182 1 79 (dk_at dksX4_fit_0 10 rfl rfl)
theorem dX4_fit_13 : decode cX4_fit 13 = .ok (.ifCond .eq 17, 3) := dk_153 0 17 (dk_at dksX4_fit_0 13 rfl rfl)
theorem dX4_fit_16 : decode cX4_fit 16 = .ok (.iload_n 1, 1) := dk_27 (dk_at dksX4_fit_0 16 rfl rfl)
theorem dX4_fit_17 : decode cX4_fit 17 = .ok (.iload_n 2, 1) := dk_28 (dk_at dksX4_fit_0 17 rfl rfl)
theorem dX4_fit_18 : decode cX4_fit 18 = .ok (.if_icmp .eq 12, 3) := dk_159 0 12 (dk_at dksX4_fit_0 18 rfl rfl)
theorem dX4_fit_21 : decode cX4_fit 21 = .ok (.aload_n 0, 1) := dk_42 (dk_at dksX4_fit_0 21 rfl rfl)
theorem dX4_fit_22 : decode cX4_fit 22 = .ok (.iload_n 1, 1) := dk_27 (dk_at dksX4_fit_0 22 rfl rfl)
theorem dX4_fit_23 : decode cX4_fit 23 = .ok (.iload_n 2, 1) := dk_28 (dk_at dksX4_fit_0 23 rfl rfl)
theorem dX4_fit_24 : decode cX4_fit 24 = .ok (.invokevirtual 326, 3) := dk_182 1 70 (dk_at dksX4_fit_1 0 rfl rfl)
theorem dX4_fit_27 : decode cX4_fit 27 = .ok (.goto 4, 3) := dk_167 0 4 (dk_at dksX4_fit_1 3 rfl rfl)
theorem dX4_fit_30 : decode cX4_fit 30 = .ok (.iconst (-1), 1) := dk_2 (dk_at dksX4_fit_1 6 rfl rfl)
theorem dX4_fit_31 : decode cX4_fit 31 = .ok (.ireturn, 1) := dk_172 (dk_at dksX4_fit_1 7 rfl rfl)
abbrev cX4_buyer : ByteArray := prog_20_method_74_code
def yX4_buyer : MethodName := ⟨RX4, "buyer", "(II)I"⟩
def dkwX4_buyer_3 : List UInt8 := [182, 1, 58, 172, 42, 180, 0, 42, 42, 27, 182, 1, 90, 46, 172, 2, 172]
abbrev dktX4_buyer_3 : List UInt8 := dkwX4_buyer_3 ++ []
def dkwX4_buyer_2 : List UInt8 := [42, 27, 28, 182, 1, 58, 172, 42, 27, 182, 1, 90, 172, 42, 27, 182, 1, 93, 172, 42, 27, 6]
abbrev dktX4_buyer_2 : List UInt8 := dkwX4_buyer_2 ++ dktX4_buyer_3
def dkwX4_buyer_1 : List UInt8 := [170, 0, 0, 0, 74, 0, 0, 0, 0, 0, 0, 0, 5, 0, 0, 0, 37, 0, 0, 0, 37, 0, 0, 0, 44, 0, 0, 0, 50, 0, 0, 0, 56, 0, 0, 0, 63]
abbrev dktX4_buyer_1 : List UInt8 := dkwX4_buyer_1 ++ dktX4_buyer_2
def dkwX4_buyer_0 : List UInt8 := [42, 27, 182, 1, 87, 154, 0, 5, 2, 172, 28]
abbrev dktX4_buyer_0 : List UInt8 := dkwX4_buyer_0 ++ dktX4_buyer_1
theorem dksX4_buyer_0 : cX4_buyer.data.toList.drop 0 = dktX4_buyer_0 := by decide +kernel
theorem dksX4_buyer_1 : cX4_buyer.data.toList.drop 11 = dktX4_buyer_1 := dk_seg dksX4_buyer_0 11 rfl rfl
theorem dksX4_buyer_2 : cX4_buyer.data.toList.drop 48 = dktX4_buyer_2 := dk_seg dksX4_buyer_1 37 rfl rfl
theorem dksX4_buyer_3 : cX4_buyer.data.toList.drop 70 = dktX4_buyer_3 := dk_seg dksX4_buyer_2 22 rfl rfl
theorem dX4_buyer_0 : decode cX4_buyer 0 = .ok (.aload_n 0, 1) := dk_42 (dk_at dksX4_buyer_0 0 rfl rfl)
theorem dX4_buyer_1 : decode cX4_buyer 1 = .ok (.iload_n 1, 1) := dk_27 (dk_at dksX4_buyer_0 1 rfl rfl)
theorem dX4_buyer_2 : decode cX4_buyer 2 = .ok (.invokevirtual 343, 3) := dk_182 1 87 (dk_at dksX4_buyer_0 2 rfl rfl)
theorem dX4_buyer_5 : decode cX4_buyer 5 = .ok (.ifCond .ne 5, 3) := dk_154 0 5 (dk_at dksX4_buyer_0 5 rfl rfl)
theorem dX4_buyer_8 : decode cX4_buyer 8 = .ok (.iconst (-1), 1) := dk_2 (dk_at dksX4_buyer_0 8 rfl rfl)
theorem dX4_buyer_9 : decode cX4_buyer 9 = .ok (.ireturn, 1) := dk_172 (dk_at dksX4_buyer_0 9 rfl rfl)
theorem dX4_buyer_10 : decode cX4_buyer 10 = .ok (.iload_n 2, 1) := dk_28 (dk_at dksX4_buyer_0 10 rfl rfl)
theorem dX4_buyer_11 : decode cX4_buyer 11 = .ok (.tableswitch 74 0 5 #[37, 37, 44, 50, 56, 63], 37) := by decide +kernel
theorem dX4_buyer_48 : decode cX4_buyer 48 = .ok (.aload_n 0, 1) := dk_42 (dk_at dksX4_buyer_2 0 rfl rfl)
theorem dX4_buyer_49 : decode cX4_buyer 49 = .ok (.iload_n 1, 1) := dk_27 (dk_at dksX4_buyer_2 1 rfl rfl)
theorem dX4_buyer_50 : decode cX4_buyer 50 = .ok (.iload_n 2, 1) := dk_28 (dk_at dksX4_buyer_2 2 rfl rfl)
theorem dX4_buyer_51 : decode cX4_buyer 51 = .ok (.invokevirtual 314, 3) := dk_182 1 58 (dk_at dksX4_buyer_2 3 rfl rfl)
theorem dX4_buyer_54 : decode cX4_buyer 54 = .ok (.ireturn, 1) := dk_172 (dk_at dksX4_buyer_2 6 rfl rfl)
theorem dX4_buyer_55 : decode cX4_buyer 55 = .ok (.aload_n 0, 1) := dk_42 (dk_at dksX4_buyer_2 7 rfl rfl)
theorem dX4_buyer_56 : decode cX4_buyer 56 = .ok (.iload_n 1, 1) := dk_27 (dk_at dksX4_buyer_2 8 rfl rfl)
theorem dX4_buyer_57 : decode cX4_buyer 57 = .ok (.invokevirtual 346, 3) := dk_182 1 90 (dk_at dksX4_buyer_2 9 rfl rfl)
theorem dX4_buyer_60 : decode cX4_buyer 60 = .ok (.ireturn, 1) := dk_172 (dk_at dksX4_buyer_2 12 rfl rfl)
theorem dX4_buyer_61 : decode cX4_buyer 61 = .ok (.aload_n 0, 1) := dk_42 (dk_at dksX4_buyer_2 13 rfl rfl)
theorem dX4_buyer_62 : decode cX4_buyer 62 = .ok (.iload_n 1, 1) := dk_27 (dk_at dksX4_buyer_2 14 rfl rfl)
theorem dX4_buyer_63 : decode cX4_buyer 63 = .ok (.invokevirtual 349, 3) := dk_182 1 93 (dk_at dksX4_buyer_2 15 rfl rfl)
theorem dX4_buyer_66 : decode cX4_buyer 66 = .ok (.ireturn, 1) := dk_172 (dk_at dksX4_buyer_2 18 rfl rfl)
theorem dX4_buyer_67 : decode cX4_buyer 67 = .ok (.aload_n 0, 1) := dk_42 (dk_at dksX4_buyer_2 19 rfl rfl)
theorem dX4_buyer_68 : decode cX4_buyer 68 = .ok (.iload_n 1, 1) := dk_27 (dk_at dksX4_buyer_2 20 rfl rfl)
theorem dX4_buyer_69 : decode cX4_buyer 69 = .ok (.iconst 3, 1) := dk_6 (dk_at dksX4_buyer_2 21 rfl rfl)
theorem dX4_buyer_70 : decode cX4_buyer 70 = .ok (.invokevirtual 314, 3) := dk_182 1 58 (dk_at dksX4_buyer_3 0 rfl rfl)
theorem dX4_buyer_73 : decode cX4_buyer 73 = .ok (.ireturn, 1) := dk_172 (dk_at dksX4_buyer_3 3 rfl rfl)
theorem dX4_buyer_74 : decode cX4_buyer 74 = .ok (.aload_n 0, 1) := dk_42 (dk_at dksX4_buyer_3 4 rfl rfl)
theorem dX4_buyer_75 : decode cX4_buyer 75 = .ok (.getfield 42, 3) := dk_180 0 42 (dk_at dksX4_buyer_3 5 rfl rfl)
theorem dX4_buyer_78 : decode cX4_buyer 78 = .ok (.aload_n 0, 1) := dk_42 (dk_at dksX4_buyer_3 8 rfl rfl)
theorem dX4_buyer_79 : decode cX4_buyer 79 = .ok (.iload_n 1, 1) := dk_27 (dk_at dksX4_buyer_3 9 rfl rfl)
theorem dX4_buyer_80 : decode cX4_buyer 80 = .ok (.invokevirtual 346, 3) := dk_182 1 90 (dk_at dksX4_buyer_3 10 rfl rfl)
theorem dX4_buyer_83 : decode cX4_buyer 83 = .ok (.iaload, 1) := dk_46 (dk_at dksX4_buyer_3 13 rfl rfl)
theorem dX4_buyer_84 : decode cX4_buyer 84 = .ok (.ireturn, 1) := dk_172 (dk_at dksX4_buyer_3 14 rfl rfl)
theorem dX4_buyer_85 : decode cX4_buyer 85 = .ok (.iconst (-1), 1) := dk_2 (dk_at dksX4_buyer_3 15 rfl rfl)
theorem dX4_buyer_86 : decode cX4_buyer 86 = .ok (.ireturn, 1) := dk_172 (dk_at dksX4_buyer_3 16 rfl rfl)
abbrev cX4_isBuyer : ByteArray := prog_20_method_51_code
def yX4_isBuyer : MethodName := ⟨RX4, "isBuyer", "(I)Z"⟩
def dkwX4_isBuyer_0 : List UInt8 := [27, 155, 0, 17, 27, 42, 180, 0, 39, 5, 46, 162, 0, 7, 4, 167, 0, 4, 3, 172]
abbrev dktX4_isBuyer_0 : List UInt8 := dkwX4_isBuyer_0 ++ []
theorem dksX4_isBuyer_0 : cX4_isBuyer.data.toList.drop 0 = dktX4_isBuyer_0 := by decide +kernel
theorem dX4_isBuyer_0 : decode cX4_isBuyer 0 = .ok (.iload_n 1, 1) := dk_27 (dk_at dksX4_isBuyer_0 0 rfl rfl)
theorem dX4_isBuyer_1 : decode cX4_isBuyer 1 = .ok (.ifCond .lt 17, 3) := dk_155 0 17 (dk_at dksX4_isBuyer_0 1 rfl rfl)
theorem dX4_isBuyer_4 : decode cX4_isBuyer 4 = .ok (.iload_n 1, 1) := dk_27 (dk_at dksX4_isBuyer_0 4 rfl rfl)
theorem dX4_isBuyer_5 : decode cX4_isBuyer 5 = .ok (.aload_n 0, 1) := dk_42 (dk_at dksX4_isBuyer_0 5 rfl rfl)
theorem dX4_isBuyer_6 : decode cX4_isBuyer 6 = .ok (.getfield 39, 3) := dk_180 0 39 (dk_at dksX4_isBuyer_0 6 rfl rfl)
theorem dX4_isBuyer_9 : decode cX4_isBuyer 9 = .ok (.iconst 2, 1) := dk_5 (dk_at dksX4_isBuyer_0 9 rfl rfl)
theorem dX4_isBuyer_10 : decode cX4_isBuyer 10 = .ok (.iaload, 1) := dk_46 (dk_at dksX4_isBuyer_0 10 rfl rfl)
theorem dX4_isBuyer_11 : decode cX4_isBuyer 11 = .ok (.if_icmp .ge 7, 3) := dk_162 0 7 (dk_at dksX4_isBuyer_0 11 rfl rfl)
theorem dX4_isBuyer_14 : decode cX4_isBuyer 14 = .ok (.iconst 1, 1) := dk_4 (dk_at dksX4_isBuyer_0 14 rfl rfl)
theorem dX4_isBuyer_15 : decode cX4_isBuyer 15 = .ok (.goto 4, 3) := dk_167 0 4 (dk_at dksX4_isBuyer_0 15 rfl rfl)
theorem dX4_isBuyer_18 : decode cX4_isBuyer 18 = .ok (.iconst 0, 1) := dk_3 (dk_at dksX4_isBuyer_0 18 rfl rfl)
theorem dX4_isBuyer_19 : decode cX4_isBuyer 19 = .ok (.ireturn, 1) := dk_172 (dk_at dksX4_isBuyer_0 19 rfl rfl)
abbrev cX4_hasOf : ByteArray := prog_20_method_62_code
def yX4_hasOf : MethodName := ⟨RX4, "hasOf", "(I)I"⟩
def dkwX4_hasOf_1 : List UInt8 := [96, 160, 0, 9, 4, 29, 120, 167, 0, 4, 3, 128, 61, 132, 3, 1, 167, 255, 220, 28, 172]
abbrev dktX4_hasOf_1 : List UInt8 := dkwX4_hasOf_1 ++ []
def dkwX4_hasOf_0 : List UInt8 := [3, 61, 3, 62, 29, 42, 180, 0, 39, 4, 46, 162, 0, 32, 28, 42, 29, 6, 182, 1, 45, 16, 100, 27]
abbrev dktX4_hasOf_0 : List UInt8 := dkwX4_hasOf_0 ++ dktX4_hasOf_1
theorem dksX4_hasOf_0 : cX4_hasOf.data.toList.drop 0 = dktX4_hasOf_0 := by decide +kernel
theorem dksX4_hasOf_1 : cX4_hasOf.data.toList.drop 24 = dktX4_hasOf_1 := dk_seg dksX4_hasOf_0 24 rfl rfl
theorem dX4_hasOf_0 : decode cX4_hasOf 0 = .ok (.iconst 0, 1) := dk_3 (dk_at dksX4_hasOf_0 0 rfl rfl)
theorem dX4_hasOf_1 : decode cX4_hasOf 1 = .ok (.istore_n 2, 1) := dk_61 (dk_at dksX4_hasOf_0 1 rfl rfl)
theorem dX4_hasOf_2 : decode cX4_hasOf 2 = .ok (.iconst 0, 1) := dk_3 (dk_at dksX4_hasOf_0 2 rfl rfl)
theorem dX4_hasOf_3 : decode cX4_hasOf 3 = .ok (.istore_n 3, 1) := dk_62 (dk_at dksX4_hasOf_0 3 rfl rfl)
theorem dX4_hasOf_4 : decode cX4_hasOf 4 = .ok (.iload_n 3, 1) := dk_29 (dk_at dksX4_hasOf_0 4 rfl rfl)
theorem dX4_hasOf_5 : decode cX4_hasOf 5 = .ok (.aload_n 0, 1) := dk_42 (dk_at dksX4_hasOf_0 5 rfl rfl)
theorem dX4_hasOf_6 : decode cX4_hasOf 6 = .ok (.getfield 39, 3) := dk_180 0 39 (dk_at dksX4_hasOf_0 6 rfl rfl)
theorem dX4_hasOf_9 : decode cX4_hasOf 9 = .ok (.iconst 1, 1) := dk_4 (dk_at dksX4_hasOf_0 9 rfl rfl)
theorem dX4_hasOf_10 : decode cX4_hasOf 10 = .ok (.iaload, 1) := dk_46 (dk_at dksX4_hasOf_0 10 rfl rfl)
theorem dX4_hasOf_11 : decode cX4_hasOf 11 = .ok (.if_icmp .ge 32, 3) := dk_162 0 32 (dk_at dksX4_hasOf_0 11 rfl rfl)
theorem dX4_hasOf_14 : decode cX4_hasOf 14 = .ok (.iload_n 2, 1) := dk_28 (dk_at dksX4_hasOf_0 14 rfl rfl)
theorem dX4_hasOf_15 : decode cX4_hasOf 15 = .ok (.aload_n 0, 1) := dk_42 (dk_at dksX4_hasOf_0 15 rfl rfl)
theorem dX4_hasOf_16 : decode cX4_hasOf 16 = .ok (.iload_n 3, 1) := dk_29 (dk_at dksX4_hasOf_0 16 rfl rfl)
theorem dX4_hasOf_17 : decode cX4_hasOf 17 = .ok (.iconst 3, 1) := dk_6 (dk_at dksX4_hasOf_0 17 rfl rfl)
theorem dX4_hasOf_18 : decode cX4_hasOf 18 = .ok (.invokevirtual 301, 3) := dk_182 1 45 (dk_at dksX4_hasOf_0 18 rfl rfl)
theorem dX4_hasOf_21 : decode cX4_hasOf 21 = .ok (.bipush 100, 2) := dk_16 100 (dk_at dksX4_hasOf_0 21 rfl rfl)
theorem dX4_hasOf_23 : decode cX4_hasOf 23 = .ok (.iload_n 1, 1) := dk_27 (dk_at dksX4_hasOf_0 23 rfl rfl)
theorem dX4_hasOf_24 : decode cX4_hasOf 24 = .ok (.iadd, 1) := dk_96 (dk_at dksX4_hasOf_1 0 rfl rfl)
theorem dX4_hasOf_25 : decode cX4_hasOf 25 = .ok (.if_icmp .ne 9, 3) := dk_160 0 9 (dk_at dksX4_hasOf_1 1 rfl rfl)
theorem dX4_hasOf_28 : decode cX4_hasOf 28 = .ok (.iconst 1, 1) := dk_4 (dk_at dksX4_hasOf_1 4 rfl rfl)
theorem dX4_hasOf_29 : decode cX4_hasOf 29 = .ok (.iload_n 3, 1) := dk_29 (dk_at dksX4_hasOf_1 5 rfl rfl)
theorem dX4_hasOf_30 : decode cX4_hasOf 30 = .ok (.ishl, 1) := dk_120 (dk_at dksX4_hasOf_1 6 rfl rfl)
theorem dX4_hasOf_31 : decode cX4_hasOf 31 = .ok (.goto 4, 3) := dk_167 0 4 (dk_at dksX4_hasOf_1 7 rfl rfl)
theorem dX4_hasOf_34 : decode cX4_hasOf 34 = .ok (.iconst 0, 1) := dk_3 (dk_at dksX4_hasOf_1 10 rfl rfl)
theorem dX4_hasOf_35 : decode cX4_hasOf 35 = .ok (.ior, 1) := dk_128 (dk_at dksX4_hasOf_1 11 rfl rfl)
theorem dX4_hasOf_36 : decode cX4_hasOf 36 = .ok (.istore_n 2, 1) := dk_61 (dk_at dksX4_hasOf_1 12 rfl rfl)
theorem dX4_hasOf_37 : decode cX4_hasOf 37 = .ok (.iinc 3 1, 3) := dk_132 3 1 (dk_at dksX4_hasOf_1 13 rfl rfl)
theorem dX4_hasOf_40 : decode cX4_hasOf 40 = .ok (.goto (-36), 3) := dk_167 255 220 (dk_at dksX4_hasOf_1 16 rfl rfl)
theorem dX4_hasOf_43 : decode cX4_hasOf 43 = .ok (.iload_n 2, 1) := dk_28 (dk_at dksX4_hasOf_1 19 rfl rfl)
theorem dX4_hasOf_44 : decode cX4_hasOf 44 = .ok (.ireturn, 1) := dk_172 (dk_at dksX4_hasOf_1 20 rfl rfl)
abbrev cX4_sawOf : ByteArray := prog_20_method_65_code
def yX4_sawOf : MethodName := ⟨RX4, "sawOf", "(I)I"⟩
def dkwX4_sawOf_2 : List UInt8 := [28, 172]
abbrev dktX4_sawOf_2 : List UInt8 := dkwX4_sawOf_2 ++ []
def dkwX4_sawOf_1 : List UInt8 := [184, 0, 215, 153, 0, 12, 42, 29, 5, 182, 1, 58, 167, 0, 4, 3, 128, 61, 132, 3, 1, 167, 255, 217]
abbrev dktX4_sawOf_1 : List UInt8 := dkwX4_sawOf_1 ++ dktX4_sawOf_2
def dkwX4_sawOf_0 : List UInt8 := [3, 61, 3, 62, 29, 42, 180, 0, 39, 5, 46, 162, 0, 35, 28, 42, 27, 6, 182, 1, 58, 29]
abbrev dktX4_sawOf_0 : List UInt8 := dkwX4_sawOf_0 ++ dktX4_sawOf_1
theorem dksX4_sawOf_0 : cX4_sawOf.data.toList.drop 0 = dktX4_sawOf_0 := by decide +kernel
theorem dksX4_sawOf_1 : cX4_sawOf.data.toList.drop 22 = dktX4_sawOf_1 := dk_seg dksX4_sawOf_0 22 rfl rfl
theorem dksX4_sawOf_2 : cX4_sawOf.data.toList.drop 46 = dktX4_sawOf_2 := dk_seg dksX4_sawOf_1 24 rfl rfl
theorem dX4_sawOf_0 : decode cX4_sawOf 0 = .ok (.iconst 0, 1) := dk_3 (dk_at dksX4_sawOf_0 0 rfl rfl)
theorem dX4_sawOf_1 : decode cX4_sawOf 1 = .ok (.istore_n 2, 1) := dk_61 (dk_at dksX4_sawOf_0 1 rfl rfl)
theorem dX4_sawOf_2 : decode cX4_sawOf 2 = .ok (.iconst 0, 1) := dk_3 (dk_at dksX4_sawOf_0 2 rfl rfl)
theorem dX4_sawOf_3 : decode cX4_sawOf 3 = .ok (.istore_n 3, 1) := dk_62 (dk_at dksX4_sawOf_0 3 rfl rfl)
theorem dX4_sawOf_4 : decode cX4_sawOf 4 = .ok (.iload_n 3, 1) := dk_29 (dk_at dksX4_sawOf_0 4 rfl rfl)
theorem dX4_sawOf_5 : decode cX4_sawOf 5 = .ok (.aload_n 0, 1) := dk_42 (dk_at dksX4_sawOf_0 5 rfl rfl)
theorem dX4_sawOf_6 : decode cX4_sawOf 6 = .ok (.getfield 39, 3) := dk_180 0 39 (dk_at dksX4_sawOf_0 6 rfl rfl)
theorem dX4_sawOf_9 : decode cX4_sawOf 9 = .ok (.iconst 2, 1) := dk_5 (dk_at dksX4_sawOf_0 9 rfl rfl)
theorem dX4_sawOf_10 : decode cX4_sawOf 10 = .ok (.iaload, 1) := dk_46 (dk_at dksX4_sawOf_0 10 rfl rfl)
theorem dX4_sawOf_11 : decode cX4_sawOf 11 = .ok (.if_icmp .ge 35, 3) := dk_162 0 35 (dk_at dksX4_sawOf_0 11 rfl rfl)
theorem dX4_sawOf_14 : decode cX4_sawOf 14 = .ok (.iload_n 2, 1) := dk_28 (dk_at dksX4_sawOf_0 14 rfl rfl)
theorem dX4_sawOf_15 : decode cX4_sawOf 15 = .ok (.aload_n 0, 1) := dk_42 (dk_at dksX4_sawOf_0 15 rfl rfl)
theorem dX4_sawOf_16 : decode cX4_sawOf 16 = .ok (.iload_n 1, 1) := dk_27 (dk_at dksX4_sawOf_0 16 rfl rfl)
theorem dX4_sawOf_17 : decode cX4_sawOf 17 = .ok (.iconst 3, 1) := dk_6 (dk_at dksX4_sawOf_0 17 rfl rfl)
theorem dX4_sawOf_18 : decode cX4_sawOf 18 = .ok (.invokevirtual 314, 3) := dk_182 1 58 (dk_at dksX4_sawOf_0 18 rfl rfl)
theorem dX4_sawOf_21 : decode cX4_sawOf 21 = .ok (.iload_n 3, 1) := dk_29 (dk_at dksX4_sawOf_0 21 rfl rfl)
theorem dX4_sawOf_22 : decode cX4_sawOf 22 = .ok (.invokestatic 215, 3) := dk_184 0 215 (dk_at dksX4_sawOf_1 0 rfl rfl)
theorem dX4_sawOf_25 : decode cX4_sawOf 25 = .ok (.ifCond .eq 12, 3) := dk_153 0 12 (dk_at dksX4_sawOf_1 3 rfl rfl)
theorem dX4_sawOf_28 : decode cX4_sawOf 28 = .ok (.aload_n 0, 1) := dk_42 (dk_at dksX4_sawOf_1 6 rfl rfl)
theorem dX4_sawOf_29 : decode cX4_sawOf 29 = .ok (.iload_n 3, 1) := dk_29 (dk_at dksX4_sawOf_1 7 rfl rfl)
theorem dX4_sawOf_30 : decode cX4_sawOf 30 = .ok (.iconst 2, 1) := dk_5 (dk_at dksX4_sawOf_1 8 rfl rfl)
theorem dX4_sawOf_31 : decode cX4_sawOf 31 = .ok (.invokevirtual 314, 3) := dk_182 1 58 (dk_at dksX4_sawOf_1 9 rfl rfl)
theorem dX4_sawOf_34 : decode cX4_sawOf 34 = .ok (.goto 4, 3) := dk_167 0 4 (dk_at dksX4_sawOf_1 12 rfl rfl)
theorem dX4_sawOf_37 : decode cX4_sawOf 37 = .ok (.iconst 0, 1) := dk_3 (dk_at dksX4_sawOf_1 15 rfl rfl)
theorem dX4_sawOf_38 : decode cX4_sawOf 38 = .ok (.ior, 1) := dk_128 (dk_at dksX4_sawOf_1 16 rfl rfl)
theorem dX4_sawOf_39 : decode cX4_sawOf 39 = .ok (.istore_n 2, 1) := dk_61 (dk_at dksX4_sawOf_1 17 rfl rfl)
theorem dX4_sawOf_40 : decode cX4_sawOf 40 = .ok (.iinc 3 1, 3) := dk_132 3 1 (dk_at dksX4_sawOf_1 18 rfl rfl)
theorem dX4_sawOf_43 : decode cX4_sawOf 43 = .ok (.goto (-39), 3) := dk_167 255 217 (dk_at dksX4_sawOf_1 21 rfl rfl)
theorem dX4_sawOf_46 : decode cX4_sawOf 46 = .ok (.iload_n 2, 1) := dk_28 (dk_at dksX4_sawOf_2 0 rfl rfl)
theorem dX4_sawOf_47 : decode cX4_sawOf 47 = .ok (.ireturn, 1) := dk_172 (dk_at dksX4_sawOf_2 1 rfl rfl)
abbrev cX4_spot : ByteArray := prog_20_method_75_code
def yX4_spot : MethodName := ⟨RX4, "spot", "(II)I"⟩
def dkwX4_spot_1 : List UInt8 := [153, 0, 19, 42, 27, 42, 180, 0, 39, 6, 46, 28, 96, 182, 1, 49, 167, 0, 4, 2, 172]
abbrev dktX4_spot_1 : List UInt8 := dkwX4_spot_1 ++ []
def dkwX4_spot_0 : List UInt8 := [27, 155, 0, 41, 27, 42, 180, 0, 39, 3, 46, 162, 0, 31, 28, 133, 9, 20, 1, 96, 184, 0, 109]
abbrev dktX4_spot_0 : List UInt8 := dkwX4_spot_0 ++ dktX4_spot_1
theorem dksX4_spot_0 : cX4_spot.data.toList.drop 0 = dktX4_spot_0 := by decide +kernel
theorem dksX4_spot_1 : cX4_spot.data.toList.drop 23 = dktX4_spot_1 := dk_seg dksX4_spot_0 23 rfl rfl
theorem dX4_spot_0 : decode cX4_spot 0 = .ok (.iload_n 1, 1) := dk_27 (dk_at dksX4_spot_0 0 rfl rfl)
theorem dX4_spot_1 : decode cX4_spot 1 = .ok (.ifCond .lt 41, 3) := dk_155 0 41 (dk_at dksX4_spot_0 1 rfl rfl)
theorem dX4_spot_4 : decode cX4_spot 4 = .ok (.iload_n 1, 1) := dk_27 (dk_at dksX4_spot_0 4 rfl rfl)
theorem dX4_spot_5 : decode cX4_spot 5 = .ok (.aload_n 0, 1) := dk_42 (dk_at dksX4_spot_0 5 rfl rfl)
theorem dX4_spot_6 : decode cX4_spot 6 = .ok (.getfield 39, 3) := dk_180 0 39 (dk_at dksX4_spot_0 6 rfl rfl)
theorem dX4_spot_9 : decode cX4_spot 9 = .ok (.iconst 0, 1) := dk_3 (dk_at dksX4_spot_0 9 rfl rfl)
theorem dX4_spot_10 : decode cX4_spot 10 = .ok (.iaload, 1) := dk_46 (dk_at dksX4_spot_0 10 rfl rfl)
theorem dX4_spot_11 : decode cX4_spot 11 = .ok (.if_icmp .ge 31, 3) := dk_162 0 31 (dk_at dksX4_spot_0 11 rfl rfl)
theorem dX4_spot_14 : decode cX4_spot 14 = .ok (.iload_n 2, 1) := dk_28 (dk_at dksX4_spot_0 14 rfl rfl)
theorem dX4_spot_15 : decode cX4_spot 15 = .ok (.i2l, 1) := dk_133 (dk_at dksX4_spot_0 15 rfl rfl)
theorem dX4_spot_16 : decode cX4_spot 16 = .ok (.lconst 0, 1) := dk_9 (dk_at dksX4_spot_0 16 rfl rfl)
theorem dX4_spot_17 : decode cX4_spot 17 = .ok (.ldc2_w 352, 3) := dk_20 1 96 (dk_at dksX4_spot_0 17 rfl rfl)
theorem dX4_spot_20 : decode cX4_spot 20 = .ok (.invokestatic 109, 3) := dk_184 0 109 (dk_at dksX4_spot_0 20 rfl rfl)
theorem dX4_spot_23 : decode cX4_spot 23 = .ok (.ifCond .eq 19, 3) := dk_153 0 19 (dk_at dksX4_spot_1 0 rfl rfl)
theorem dX4_spot_26 : decode cX4_spot 26 = .ok (.aload_n 0, 1) := dk_42 (dk_at dksX4_spot_1 3 rfl rfl)
theorem dX4_spot_27 : decode cX4_spot 27 = .ok (.iload_n 1, 1) := dk_27 (dk_at dksX4_spot_1 4 rfl rfl)
theorem dX4_spot_28 : decode cX4_spot 28 = .ok (.aload_n 0, 1) := dk_42 (dk_at dksX4_spot_1 5 rfl rfl)
theorem dX4_spot_29 : decode cX4_spot 29 = .ok (.getfield 39, 3) := dk_180 0 39 (dk_at dksX4_spot_1 6 rfl rfl)
theorem dX4_spot_32 : decode cX4_spot 32 = .ok (.iconst 3, 1) := dk_6 (dk_at dksX4_spot_1 9 rfl rfl)
theorem dX4_spot_33 : decode cX4_spot 33 = .ok (.iaload, 1) := dk_46 (dk_at dksX4_spot_1 10 rfl rfl)
theorem dX4_spot_34 : decode cX4_spot 34 = .ok (.iload_n 2, 1) := dk_28 (dk_at dksX4_spot_1 11 rfl rfl)
theorem dX4_spot_35 : decode cX4_spot 35 = .ok (.iadd, 1) := dk_96 (dk_at dksX4_spot_1 12 rfl rfl)
theorem dX4_spot_36 : decode cX4_spot 36 = .ok (.invokevirtual 305, 3) := dk_182 1 49 (dk_at dksX4_spot_1 13 rfl rfl)
theorem dX4_spot_39 : decode cX4_spot 39 = .ok (.goto 4, 3) := dk_167 0 4 (dk_at dksX4_spot_1 16 rfl rfl)
theorem dX4_spot_42 : decode cX4_spot 42 = .ok (.iconst (-1), 1) := dk_2 (dk_at dksX4_spot_1 19 rfl rfl)
theorem dX4_spot_43 : decode cX4_spot 43 = .ok (.ireturn, 1) := dk_172 (dk_at dksX4_spot_1 20 rfl rfl)
abbrev cX4_undo : ByteArray := prog_20_method_77_code
def yX4_undo : MethodName := ⟨RX4, "undo", "()I"⟩
def dkwX4_undo_2 : List UInt8 := [132, 1, 1, 167, 255, 227, 42, 180, 1, 18, 172]
abbrev dktX4_undo_2 : List UInt8 := dkwX4_undo_2 ++ []
def dkwX4_undo_1 : List UInt8 := [162, 0, 29, 42, 180, 0, 39, 27, 42, 180, 0, 48, 16, 86, 42, 180, 1, 18, 104, 27, 96, 46, 79]
abbrev dktX4_undo_1 : List UInt8 := dkwX4_undo_1 ++ dktX4_undo_2
def dkwX4_undo_0 : List UInt8 := [42, 180, 1, 18, 154, 0, 5, 2, 172, 42, 89, 180, 1, 18, 4, 100, 181, 1, 18, 3, 60, 27, 16, 86]
abbrev dktX4_undo_0 : List UInt8 := dkwX4_undo_0 ++ dktX4_undo_1
theorem dksX4_undo_0 : cX4_undo.data.toList.drop 0 = dktX4_undo_0 := by decide +kernel
theorem dksX4_undo_1 : cX4_undo.data.toList.drop 24 = dktX4_undo_1 := dk_seg dksX4_undo_0 24 rfl rfl
theorem dksX4_undo_2 : cX4_undo.data.toList.drop 47 = dktX4_undo_2 := dk_seg dksX4_undo_1 23 rfl rfl
theorem dX4_undo_0 : decode cX4_undo 0 = .ok (.aload_n 0, 1) := dk_42 (dk_at dksX4_undo_0 0 rfl rfl)
theorem dX4_undo_1 : decode cX4_undo 1 = .ok (.getfield 274, 3) := dk_180 1 18 (dk_at dksX4_undo_0 1 rfl rfl)
theorem dX4_undo_4 : decode cX4_undo 4 = .ok (.ifCond .ne 5, 3) := dk_154 0 5 (dk_at dksX4_undo_0 4 rfl rfl)
theorem dX4_undo_7 : decode cX4_undo 7 = .ok (.iconst (-1), 1) := dk_2 (dk_at dksX4_undo_0 7 rfl rfl)
theorem dX4_undo_8 : decode cX4_undo 8 = .ok (.ireturn, 1) := dk_172 (dk_at dksX4_undo_0 8 rfl rfl)
theorem dX4_undo_9 : decode cX4_undo 9 = .ok (.aload_n 0, 1) := dk_42 (dk_at dksX4_undo_0 9 rfl rfl)
theorem dX4_undo_10 : decode cX4_undo 10 = .ok (.dup, 1) := dk_89 (dk_at dksX4_undo_0 10 rfl rfl)
theorem dX4_undo_11 : decode cX4_undo 11 = .ok (.getfield 274, 3) := dk_180 1 18 (dk_at dksX4_undo_0 11 rfl rfl)
theorem dX4_undo_14 : decode cX4_undo 14 = .ok (.iconst 1, 1) := dk_4 (dk_at dksX4_undo_0 14 rfl rfl)
theorem dX4_undo_15 : decode cX4_undo 15 = .ok (.isub, 1) := dk_100 (dk_at dksX4_undo_0 15 rfl rfl)
theorem dX4_undo_16 : decode cX4_undo 16 = .ok (.putfield 274, 3) := dk_181 1 18 (dk_at dksX4_undo_0 16 rfl rfl)
theorem dX4_undo_19 : decode cX4_undo 19 = .ok (.iconst 0, 1) := dk_3 (dk_at dksX4_undo_0 19 rfl rfl)
theorem dX4_undo_20 : decode cX4_undo 20 = .ok (.istore_n 1, 1) := dk_60 (dk_at dksX4_undo_0 20 rfl rfl)
theorem dX4_undo_21 : decode cX4_undo 21 = .ok (.iload_n 1, 1) := dk_27 (dk_at dksX4_undo_0 21 rfl rfl)
theorem dX4_undo_22 : decode cX4_undo 22 = .ok (.bipush 86, 2) := dk_16 86 (dk_at dksX4_undo_0 22 rfl rfl)
theorem dX4_undo_24 : decode cX4_undo 24 = .ok (.if_icmp .ge 29, 3) := dk_162 0 29 (dk_at dksX4_undo_1 0 rfl rfl)
theorem dX4_undo_27 : decode cX4_undo 27 = .ok (.aload_n 0, 1) := dk_42 (dk_at dksX4_undo_1 3 rfl rfl)
theorem dX4_undo_28 : decode cX4_undo 28 = .ok (.getfield 39, 3) := dk_180 0 39 (dk_at dksX4_undo_1 4 rfl rfl)
theorem dX4_undo_31 : decode cX4_undo 31 = .ok (.iload_n 1, 1) := dk_27 (dk_at dksX4_undo_1 7 rfl rfl)
theorem dX4_undo_32 : decode cX4_undo 32 = .ok (.aload_n 0, 1) := dk_42 (dk_at dksX4_undo_1 8 rfl rfl)
theorem dX4_undo_33 : decode cX4_undo 33 = .ok (.getfield 48, 3) := dk_180 0 48 (dk_at dksX4_undo_1 9 rfl rfl)
theorem dX4_undo_36 : decode cX4_undo 36 = .ok (.bipush 86, 2) := dk_16 86 (dk_at dksX4_undo_1 12 rfl rfl)
theorem dX4_undo_38 : decode cX4_undo 38 = .ok (.aload_n 0, 1) := dk_42 (dk_at dksX4_undo_1 14 rfl rfl)
theorem dX4_undo_39 : decode cX4_undo 39 = .ok (.getfield 274, 3) := dk_180 1 18 (dk_at dksX4_undo_1 15 rfl rfl)
theorem dX4_undo_42 : decode cX4_undo 42 = .ok (.imul, 1) := dk_104 (dk_at dksX4_undo_1 18 rfl rfl)
theorem dX4_undo_43 : decode cX4_undo 43 = .ok (.iload_n 1, 1) := dk_27 (dk_at dksX4_undo_1 19 rfl rfl)
theorem dX4_undo_44 : decode cX4_undo 44 = .ok (.iadd, 1) := dk_96 (dk_at dksX4_undo_1 20 rfl rfl)
theorem dX4_undo_45 : decode cX4_undo 45 = .ok (.iaload, 1) := dk_46 (dk_at dksX4_undo_1 21 rfl rfl)
theorem dX4_undo_46 : decode cX4_undo 46 = .ok (.iastore, 1) := dk_79 (dk_at dksX4_undo_1 22 rfl rfl)
theorem dX4_undo_47 : decode cX4_undo 47 = .ok (.iinc 1 1, 3) := dk_132 1 1 (dk_at dksX4_undo_2 0 rfl rfl)
theorem dX4_undo_50 : decode cX4_undo 50 = .ok (.goto (-29), 3) := dk_167 255 227 (dk_at dksX4_undo_2 3 rfl rfl)
theorem dX4_undo_53 : decode cX4_undo 53 = .ok (.aload_n 0, 1) := dk_42 (dk_at dksX4_undo_2 6 rfl rfl)
theorem dX4_undo_54 : decode cX4_undo 54 = .ok (.getfield 274, 3) := dk_180 1 18 (dk_at dksX4_undo_2 7 rfl rfl)
theorem dX4_undo_57 : decode cX4_undo 57 = .ok (.ireturn, 1) := dk_172 (dk_at dksX4_undo_2 10 rfl rfl)
abbrev cX4_go : ByteArray := prog_20_method_80_code
def yX4_go : MethodName := ⟨RX4, "go", "(II)I"⟩
def dkwX4_go_2 : List UInt8 := [180, 0, 39, 6, 46, 172]
abbrev dktX4_go_2 : List UInt8 := dkwX4_go_2 ++ []
def dkwX4_go_1 : List UInt8 := [6, 46, 16, 99, 160, 0, 5, 2, 172, 42, 182, 1, 100, 42, 27, 28, 182, 1, 103, 42, 182, 1, 106, 42]
abbrev dktX4_go_1 : List UInt8 := dkwX4_go_1 ++ dktX4_go_2
def dkwX4_go_0 : List UInt8 := [42, 27, 182, 1, 87, 153, 0, 26, 28, 133, 20, 1, 98, 10, 184, 0, 109, 153, 0, 14, 42, 180, 0, 39]
abbrev dktX4_go_0 : List UInt8 := dkwX4_go_0 ++ dktX4_go_1
theorem dksX4_go_0 : cX4_go.data.toList.drop 0 = dktX4_go_0 := by decide +kernel
theorem dksX4_go_1 : cX4_go.data.toList.drop 24 = dktX4_go_1 := dk_seg dksX4_go_0 24 rfl rfl
theorem dksX4_go_2 : cX4_go.data.toList.drop 48 = dktX4_go_2 := dk_seg dksX4_go_1 24 rfl rfl
theorem dX4_go_0 : decode cX4_go 0 = .ok (.aload_n 0, 1) := dk_42 (dk_at dksX4_go_0 0 rfl rfl)
theorem dX4_go_1 : decode cX4_go 1 = .ok (.iload_n 1, 1) := dk_27 (dk_at dksX4_go_0 1 rfl rfl)
theorem dX4_go_2 : decode cX4_go 2 = .ok (.invokevirtual 343, 3) := dk_182 1 87 (dk_at dksX4_go_0 2 rfl rfl)
theorem dX4_go_5 : decode cX4_go 5 = .ok (.ifCond .eq 26, 3) := dk_153 0 26 (dk_at dksX4_go_0 5 rfl rfl)
theorem dX4_go_8 : decode cX4_go 8 = .ok (.iload_n 2, 1) := dk_28 (dk_at dksX4_go_0 8 rfl rfl)
theorem dX4_go_9 : decode cX4_go 9 = .ok (.i2l, 1) := dk_133 (dk_at dksX4_go_0 9 rfl rfl)
theorem dX4_go_10 : decode cX4_go 10 = .ok (.ldc2_w 354, 3) := dk_20 1 98 (dk_at dksX4_go_0 10 rfl rfl)
theorem dX4_go_13 : decode cX4_go 13 = .ok (.lconst 1, 1) := dk_10 (dk_at dksX4_go_0 13 rfl rfl)
theorem dX4_go_14 : decode cX4_go 14 = .ok (.invokestatic 109, 3) := dk_184 0 109 (dk_at dksX4_go_0 14 rfl rfl)
theorem dX4_go_17 : decode cX4_go 17 = .ok (.ifCond .eq 14, 3) := dk_153 0 14 (dk_at dksX4_go_0 17 rfl rfl)
theorem dX4_go_20 : decode cX4_go 20 = .ok (.aload_n 0, 1) := dk_42 (dk_at dksX4_go_0 20 rfl rfl)
theorem dX4_go_21 : decode cX4_go 21 = .ok (.getfield 39, 3) := dk_180 0 39 (dk_at dksX4_go_0 21 rfl rfl)
theorem dX4_go_24 : decode cX4_go 24 = .ok (.iconst 3, 1) := dk_6 (dk_at dksX4_go_1 0 rfl rfl)
theorem dX4_go_25 : decode cX4_go 25 = .ok (.iaload, 1) := dk_46 (dk_at dksX4_go_1 1 rfl rfl)
theorem dX4_go_26 : decode cX4_go 26 = .ok (.bipush 99, 2) := dk_16 99 (dk_at dksX4_go_1 2 rfl rfl)
theorem dX4_go_28 : decode cX4_go 28 = .ok (.if_icmp .ne 5, 3) := dk_160 0 5 (dk_at dksX4_go_1 4 rfl rfl)
theorem dX4_go_31 : decode cX4_go 31 = .ok (.iconst (-1), 1) := dk_2 (dk_at dksX4_go_1 7 rfl rfl)
theorem dX4_go_32 : decode cX4_go 32 = .ok (.ireturn, 1) := dk_172 (dk_at dksX4_go_1 8 rfl rfl)
theorem dX4_go_33 : decode cX4_go 33 = .ok (.aload_n 0, 1) := dk_42 (dk_at dksX4_go_1 9 rfl rfl)
theorem dX4_go_34 : decode cX4_go 34 = .ok (.invokevirtual 356, 3) := dk_182 1 100 (dk_at dksX4_go_1 10 rfl rfl)
theorem dX4_go_37 : decode cX4_go 37 = .ok (.aload_n 0, 1) := dk_42 (dk_at dksX4_go_1 13 rfl rfl)
theorem dX4_go_38 : decode cX4_go 38 = .ok (.iload_n 1, 1) := dk_27 (dk_at dksX4_go_1 14 rfl rfl)
theorem dX4_go_39 : decode cX4_go 39 = .ok (.iload_n 2, 1) := dk_28 (dk_at dksX4_go_1 15 rfl rfl)
theorem dX4_go_40 : decode cX4_go 40 = .ok (.invokevirtual 359, 3) := dk_182 1 103 (dk_at dksX4_go_1 16 rfl rfl)
theorem dX4_go_43 : decode cX4_go 43 = .ok (.aload_n 0, 1) := dk_42 (dk_at dksX4_go_1 19 rfl rfl)
theorem dX4_go_44 : decode cX4_go 44 = .ok (.invokevirtual 362, 3) := dk_182 1 106 (dk_at dksX4_go_1 20 rfl rfl)
theorem dX4_go_47 : decode cX4_go 47 = .ok (.aload_n 0, 1) := dk_42 (dk_at dksX4_go_1 23 rfl rfl)
theorem dX4_go_48 : decode cX4_go 48 = .ok (.getfield 39, 3) := dk_180 0 39 (dk_at dksX4_go_2 0 rfl rfl)
theorem dX4_go_51 : decode cX4_go 51 = .ok (.iconst 3, 1) := dk_6 (dk_at dksX4_go_2 3 rfl rfl)
theorem dX4_go_52 : decode cX4_go 52 = .ok (.iaload, 1) := dk_46 (dk_at dksX4_go_2 4 rfl rfl)
theorem dX4_go_53 : decode cX4_go 53 = .ok (.ireturn, 1) := dk_172 (dk_at dksX4_go_2 5 rfl rfl)
abbrev cX4_keepsAct : ByteArray := prog_20_method_76_code
def yX4_keepsAct : MethodName := ⟨RX4, "keepsAct", "()V"⟩
def dkwX4_keepsAct_3 : List UInt8 := [42, 180, 0, 39, 27, 46, 79, 132, 1, 1, 167, 255, 227, 42, 89, 180, 1, 18, 4, 96, 181, 1, 18, 177]
abbrev dktX4_keepsAct_3 : List UInt8 := dkwX4_keepsAct_3 ++ []
def dkwX4_keepsAct_2 : List UInt8 := [181, 1, 18, 3, 60, 27, 16, 86, 162, 0, 29, 42, 180, 0, 48, 16, 86, 42, 180, 1, 18, 104, 27, 96]
abbrev dktX4_keepsAct_2 : List UInt8 := dkwX4_keepsAct_2 ++ dktX4_keepsAct_3
def dkwX4_keepsAct_1 : List UInt8 := [16, 86, 100, 42, 180, 0, 48, 27, 46, 79, 132, 1, 1, 167, 255, 231, 42, 89, 180, 1, 18, 4, 100]
abbrev dktX4_keepsAct_1 : List UInt8 := dkwX4_keepsAct_1 ++ dktX4_keepsAct_2
def dkwX4_keepsAct_0 : List UInt8 := [42, 180, 1, 18, 16, 20, 160, 0, 44, 16, 86, 60, 27, 17, 6, 184, 162, 0, 24, 42, 180, 0, 48, 27]
abbrev dktX4_keepsAct_0 : List UInt8 := dkwX4_keepsAct_0 ++ dktX4_keepsAct_1
theorem dksX4_keepsAct_0 : cX4_keepsAct.data.toList.drop 0 = dktX4_keepsAct_0 := by decide +kernel
theorem dksX4_keepsAct_1 : cX4_keepsAct.data.toList.drop 24 = dktX4_keepsAct_1 := dk_seg dksX4_keepsAct_0 24 rfl rfl
theorem dksX4_keepsAct_2 : cX4_keepsAct.data.toList.drop 47 = dktX4_keepsAct_2 := dk_seg dksX4_keepsAct_1 23 rfl rfl
theorem dksX4_keepsAct_3 : cX4_keepsAct.data.toList.drop 71 = dktX4_keepsAct_3 := dk_seg dksX4_keepsAct_2 24 rfl rfl
theorem dX4_keepsAct_0 : decode cX4_keepsAct 0 = .ok (.aload_n 0, 1) := dk_42 (dk_at dksX4_keepsAct_0 0 rfl rfl)
theorem dX4_keepsAct_1 : decode cX4_keepsAct 1 = .ok (.getfield 274, 3) := dk_180 1 18 (dk_at dksX4_keepsAct_0 1 rfl rfl)
theorem dX4_keepsAct_4 : decode cX4_keepsAct 4 = .ok (.bipush 20, 2) := dk_16 20 (dk_at dksX4_keepsAct_0 4 rfl rfl)
theorem dX4_keepsAct_6 : decode cX4_keepsAct 6 = .ok (.if_icmp .ne 44, 3) := dk_160 0 44 (dk_at dksX4_keepsAct_0 6 rfl rfl)
theorem dX4_keepsAct_9 : decode cX4_keepsAct 9 = .ok (.bipush 86, 2) := dk_16 86 (dk_at dksX4_keepsAct_0 9 rfl rfl)
theorem dX4_keepsAct_11 : decode cX4_keepsAct 11 = .ok (.istore_n 1, 1) := dk_60 (dk_at dksX4_keepsAct_0 11 rfl rfl)
theorem dX4_keepsAct_12 : decode cX4_keepsAct 12 = .ok (.iload_n 1, 1) := dk_27 (dk_at dksX4_keepsAct_0 12 rfl rfl)
theorem dX4_keepsAct_13 : decode cX4_keepsAct 13 = .ok (.sipush 1720, 3) := dk_17 6 184 (dk_at dksX4_keepsAct_0 13 rfl rfl)
theorem dX4_keepsAct_16 : decode cX4_keepsAct 16 = .ok (.if_icmp .ge 24, 3) := dk_162 0 24 (dk_at dksX4_keepsAct_0 16 rfl rfl)
theorem dX4_keepsAct_19 : decode cX4_keepsAct 19 = .ok (.aload_n 0, 1) := dk_42 (dk_at dksX4_keepsAct_0 19 rfl rfl)
theorem dX4_keepsAct_20 : decode cX4_keepsAct 20 = .ok (.getfield 48, 3) := dk_180 0 48 (dk_at dksX4_keepsAct_0 20 rfl rfl)
theorem dX4_keepsAct_23 : decode cX4_keepsAct 23 = .ok (.iload_n 1, 1) := dk_27 (dk_at dksX4_keepsAct_0 23 rfl rfl)
theorem dX4_keepsAct_24 : decode cX4_keepsAct 24 = .ok (.bipush 86, 2) := dk_16 86 (dk_at dksX4_keepsAct_1 0 rfl rfl)
theorem dX4_keepsAct_26 : decode cX4_keepsAct 26 = .ok (.isub, 1) := dk_100 (dk_at dksX4_keepsAct_1 2 rfl rfl)
theorem dX4_keepsAct_27 : decode cX4_keepsAct 27 = .ok (.aload_n 0, 1) := dk_42 (dk_at dksX4_keepsAct_1 3 rfl rfl)
theorem dX4_keepsAct_28 : decode cX4_keepsAct 28 = .ok (.getfield 48, 3) := dk_180 0 48 (dk_at dksX4_keepsAct_1 4 rfl rfl)
theorem dX4_keepsAct_31 : decode cX4_keepsAct 31 = .ok (.iload_n 1, 1) := dk_27 (dk_at dksX4_keepsAct_1 7 rfl rfl)
theorem dX4_keepsAct_32 : decode cX4_keepsAct 32 = .ok (.iaload, 1) := dk_46 (dk_at dksX4_keepsAct_1 8 rfl rfl)
theorem dX4_keepsAct_33 : decode cX4_keepsAct 33 = .ok (.iastore, 1) := dk_79 (dk_at dksX4_keepsAct_1 9 rfl rfl)
theorem dX4_keepsAct_34 : decode cX4_keepsAct 34 = .ok (.iinc 1 1, 3) := dk_132 1 1 (dk_at dksX4_keepsAct_1 10 rfl rfl)
theorem dX4_keepsAct_37 : decode cX4_keepsAct 37 = .ok (.goto (-25), 3) := dk_167 255 231 (dk_at dksX4_keepsAct_1 13 rfl rfl)
theorem dX4_keepsAct_40 : decode cX4_keepsAct 40 = .ok (.aload_n 0, 1) := dk_42 (dk_at dksX4_keepsAct_1 16 rfl rfl)
theorem dX4_keepsAct_41 : decode cX4_keepsAct 41 = .ok (.dup, 1) := dk_89 (dk_at dksX4_keepsAct_1 17 rfl rfl)
theorem dX4_keepsAct_42 : decode cX4_keepsAct 42 = .ok (.getfield 274, 3) := dk_180 1 18 (dk_at dksX4_keepsAct_1 18 rfl rfl)
theorem dX4_keepsAct_45 : decode cX4_keepsAct 45 = .ok (.iconst 1, 1) := dk_4 (dk_at dksX4_keepsAct_1 21 rfl rfl)
theorem dX4_keepsAct_46 : decode cX4_keepsAct 46 = .ok (.isub, 1) := dk_100 (dk_at dksX4_keepsAct_1 22 rfl rfl)
theorem dX4_keepsAct_47 : decode cX4_keepsAct 47 = .ok (.putfield 274, 3) := dk_181 1 18 (dk_at dksX4_keepsAct_2 0 rfl rfl)
theorem dX4_keepsAct_50 : decode cX4_keepsAct 50 = .ok (.iconst 0, 1) := dk_3 (dk_at dksX4_keepsAct_2 3 rfl rfl)
theorem dX4_keepsAct_51 : decode cX4_keepsAct 51 = .ok (.istore_n 1, 1) := dk_60 (dk_at dksX4_keepsAct_2 4 rfl rfl)
theorem dX4_keepsAct_52 : decode cX4_keepsAct 52 = .ok (.iload_n 1, 1) := dk_27 (dk_at dksX4_keepsAct_2 5 rfl rfl)
theorem dX4_keepsAct_53 : decode cX4_keepsAct 53 = .ok (.bipush 86, 2) := dk_16 86 (dk_at dksX4_keepsAct_2 6 rfl rfl)
theorem dX4_keepsAct_55 : decode cX4_keepsAct 55 = .ok (.if_icmp .ge 29, 3) := dk_162 0 29 (dk_at dksX4_keepsAct_2 8 rfl rfl)
theorem dX4_keepsAct_58 : decode cX4_keepsAct 58 = .ok (.aload_n 0, 1) := dk_42 (dk_at dksX4_keepsAct_2 11 rfl rfl)
theorem dX4_keepsAct_59 : decode cX4_keepsAct 59 = .ok (.getfield 48, 3) := dk_180 0 48 (dk_at dksX4_keepsAct_2 12 rfl rfl)
theorem dX4_keepsAct_62 : decode cX4_keepsAct 62 = .ok (.bipush 86, 2) := dk_16 86 (dk_at dksX4_keepsAct_2 15 rfl rfl)
theorem dX4_keepsAct_64 : decode cX4_keepsAct 64 = .ok (.aload_n 0, 1) := dk_42 (dk_at dksX4_keepsAct_2 17 rfl rfl)
theorem dX4_keepsAct_65 : decode cX4_keepsAct 65 = .ok (.getfield 274, 3) := dk_180 1 18 (dk_at dksX4_keepsAct_2 18 rfl rfl)
theorem dX4_keepsAct_68 : decode cX4_keepsAct 68 = .ok (.imul, 1) := dk_104 (dk_at dksX4_keepsAct_2 21 rfl rfl)
theorem dX4_keepsAct_69 : decode cX4_keepsAct 69 = .ok (.iload_n 1, 1) := dk_27 (dk_at dksX4_keepsAct_2 22 rfl rfl)
theorem dX4_keepsAct_70 : decode cX4_keepsAct 70 = .ok (.iadd, 1) := dk_96 (dk_at dksX4_keepsAct_2 23 rfl rfl)
theorem dX4_keepsAct_71 : decode cX4_keepsAct 71 = .ok (.aload_n 0, 1) := dk_42 (dk_at dksX4_keepsAct_3 0 rfl rfl)
theorem dX4_keepsAct_72 : decode cX4_keepsAct 72 = .ok (.getfield 39, 3) := dk_180 0 39 (dk_at dksX4_keepsAct_3 1 rfl rfl)
theorem dX4_keepsAct_75 : decode cX4_keepsAct 75 = .ok (.iload_n 1, 1) := dk_27 (dk_at dksX4_keepsAct_3 4 rfl rfl)
theorem dX4_keepsAct_76 : decode cX4_keepsAct 76 = .ok (.iaload, 1) := dk_46 (dk_at dksX4_keepsAct_3 5 rfl rfl)
theorem dX4_keepsAct_77 : decode cX4_keepsAct 77 = .ok (.iastore, 1) := dk_79 (dk_at dksX4_keepsAct_3 6 rfl rfl)
theorem dX4_keepsAct_78 : decode cX4_keepsAct 78 = .ok (.iinc 1 1, 3) := dk_132 1 1 (dk_at dksX4_keepsAct_3 7 rfl rfl)
theorem dX4_keepsAct_81 : decode cX4_keepsAct 81 = .ok (.goto (-29), 3) := dk_167 255 227 (dk_at dksX4_keepsAct_3 10 rfl rfl)
theorem dX4_keepsAct_84 : decode cX4_keepsAct 84 = .ok (.aload_n 0, 1) := dk_42 (dk_at dksX4_keepsAct_3 13 rfl rfl)
theorem dX4_keepsAct_85 : decode cX4_keepsAct 85 = .ok (.dup, 1) := dk_89 (dk_at dksX4_keepsAct_3 14 rfl rfl)
theorem dX4_keepsAct_86 : decode cX4_keepsAct 86 = .ok (.getfield 274, 3) := dk_180 1 18 (dk_at dksX4_keepsAct_3 15 rfl rfl)
theorem dX4_keepsAct_89 : decode cX4_keepsAct 89 = .ok (.iconst 1, 1) := dk_4 (dk_at dksX4_keepsAct_3 18 rfl rfl)
theorem dX4_keepsAct_90 : decode cX4_keepsAct 90 = .ok (.iadd, 1) := dk_96 (dk_at dksX4_keepsAct_3 19 rfl rfl)
theorem dX4_keepsAct_91 : decode cX4_keepsAct 91 = .ok (.putfield 274, 3) := dk_181 1 18 (dk_at dksX4_keepsAct_3 20 rfl rfl)
theorem dX4_keepsAct_94 : decode cX4_keepsAct 94 = .ok (.return_, 1) := dk_177 (dk_at dksX4_keepsAct_3 23 rfl rfl)
abbrev cX4_goes : ByteArray := prog_20_method_78_code
def yX4_goes : MethodName := ⟨RX4, "goes", "(II)V"⟩
def dkwX4_goes_1 : List UInt8 := [180, 0, 39, 3, 46, 96, 42, 180, 0, 39, 3, 46, 112, 79, 177]
abbrev dktX4_goes_1 : List UInt8 := dkwX4_goes_1 ++ []
def dkwX4_goes_0 : List UInt8 := [16, 70, 7, 27, 104, 96, 4, 96, 62, 42, 180, 0, 39, 29, 42, 180, 0, 39, 29, 46, 28, 96, 42]
abbrev dktX4_goes_0 : List UInt8 := dkwX4_goes_0 ++ dktX4_goes_1
theorem dksX4_goes_0 : cX4_goes.data.toList.drop 0 = dktX4_goes_0 := by decide +kernel
theorem dksX4_goes_1 : cX4_goes.data.toList.drop 23 = dktX4_goes_1 := dk_seg dksX4_goes_0 23 rfl rfl
theorem dX4_goes_0 : decode cX4_goes 0 = .ok (.bipush 70, 2) := dk_16 70 (dk_at dksX4_goes_0 0 rfl rfl)
theorem dX4_goes_2 : decode cX4_goes 2 = .ok (.iconst 4, 1) := dk_7 (dk_at dksX4_goes_0 2 rfl rfl)
theorem dX4_goes_3 : decode cX4_goes 3 = .ok (.iload_n 1, 1) := dk_27 (dk_at dksX4_goes_0 3 rfl rfl)
theorem dX4_goes_4 : decode cX4_goes 4 = .ok (.imul, 1) := dk_104 (dk_at dksX4_goes_0 4 rfl rfl)
theorem dX4_goes_5 : decode cX4_goes 5 = .ok (.iadd, 1) := dk_96 (dk_at dksX4_goes_0 5 rfl rfl)
theorem dX4_goes_6 : decode cX4_goes 6 = .ok (.iconst 1, 1) := dk_4 (dk_at dksX4_goes_0 6 rfl rfl)
theorem dX4_goes_7 : decode cX4_goes 7 = .ok (.iadd, 1) := dk_96 (dk_at dksX4_goes_0 7 rfl rfl)
theorem dX4_goes_8 : decode cX4_goes 8 = .ok (.istore_n 3, 1) := dk_62 (dk_at dksX4_goes_0 8 rfl rfl)
theorem dX4_goes_9 : decode cX4_goes 9 = .ok (.aload_n 0, 1) := dk_42 (dk_at dksX4_goes_0 9 rfl rfl)
theorem dX4_goes_10 : decode cX4_goes 10 = .ok (.getfield 39, 3) := dk_180 0 39 (dk_at dksX4_goes_0 10 rfl rfl)
theorem dX4_goes_13 : decode cX4_goes 13 = .ok (.iload_n 3, 1) := dk_29 (dk_at dksX4_goes_0 13 rfl rfl)
theorem dX4_goes_14 : decode cX4_goes 14 = .ok (.aload_n 0, 1) := dk_42 (dk_at dksX4_goes_0 14 rfl rfl)
theorem dX4_goes_15 : decode cX4_goes 15 = .ok (.getfield 39, 3) := dk_180 0 39 (dk_at dksX4_goes_0 15 rfl rfl)
theorem dX4_goes_18 : decode cX4_goes 18 = .ok (.iload_n 3, 1) := dk_29 (dk_at dksX4_goes_0 18 rfl rfl)
theorem dX4_goes_19 : decode cX4_goes 19 = .ok (.iaload, 1) := dk_46 (dk_at dksX4_goes_0 19 rfl rfl)
theorem dX4_goes_20 : decode cX4_goes 20 = .ok (.iload_n 2, 1) := dk_28 (dk_at dksX4_goes_0 20 rfl rfl)
theorem dX4_goes_21 : decode cX4_goes 21 = .ok (.iadd, 1) := dk_96 (dk_at dksX4_goes_0 21 rfl rfl)
theorem dX4_goes_22 : decode cX4_goes 22 = .ok (.aload_n 0, 1) := dk_42 (dk_at dksX4_goes_0 22 rfl rfl)
theorem dX4_goes_23 : decode cX4_goes 23 = .ok (.getfield 39, 3) := dk_180 0 39 (dk_at dksX4_goes_1 0 rfl rfl)
theorem dX4_goes_26 : decode cX4_goes 26 = .ok (.iconst 0, 1) := dk_3 (dk_at dksX4_goes_1 3 rfl rfl)
theorem dX4_goes_27 : decode cX4_goes 27 = .ok (.iaload, 1) := dk_46 (dk_at dksX4_goes_1 4 rfl rfl)
theorem dX4_goes_28 : decode cX4_goes 28 = .ok (.iadd, 1) := dk_96 (dk_at dksX4_goes_1 5 rfl rfl)
theorem dX4_goes_29 : decode cX4_goes 29 = .ok (.aload_n 0, 1) := dk_42 (dk_at dksX4_goes_1 6 rfl rfl)
theorem dX4_goes_30 : decode cX4_goes 30 = .ok (.getfield 39, 3) := dk_180 0 39 (dk_at dksX4_goes_1 7 rfl rfl)
theorem dX4_goes_33 : decode cX4_goes 33 = .ok (.iconst 0, 1) := dk_3 (dk_at dksX4_goes_1 10 rfl rfl)
theorem dX4_goes_34 : decode cX4_goes 34 = .ok (.iaload, 1) := dk_46 (dk_at dksX4_goes_1 11 rfl rfl)
theorem dX4_goes_35 : decode cX4_goes 35 = .ok (.irem, 1) := dk_112 (dk_at dksX4_goes_1 12 rfl rfl)
theorem dX4_goes_36 : decode cX4_goes 36 = .ok (.iastore, 1) := dk_79 (dk_at dksX4_goes_1 13 rfl rfl)
theorem dX4_goes_37 : decode cX4_goes 37 = .ok (.return_, 1) := dk_177 (dk_at dksX4_goes_1 14 rfl rfl)
abbrev cX4_hourComes : ByteArray := prog_20_method_79_code
def yX4_hourComes : MethodName := ⟨RX4, "hourComes", "()V"⟩
def dkwX4_hourComes_0 : List UInt8 := [42, 180, 0, 39, 6, 92, 46, 4, 96, 79, 42, 182, 1, 21, 177]
abbrev dktX4_hourComes_0 : List UInt8 := dkwX4_hourComes_0 ++ []
theorem dksX4_hourComes_0 : cX4_hourComes.data.toList.drop 0 = dktX4_hourComes_0 := by decide +kernel
theorem dX4_hourComes_0 : decode cX4_hourComes 0 = .ok (.aload_n 0, 1) := dk_42 (dk_at dksX4_hourComes_0 0 rfl rfl)
theorem dX4_hourComes_1 : decode cX4_hourComes 1 = .ok (.getfield 39, 3) := dk_180 0 39 (dk_at dksX4_hourComes_0 1 rfl rfl)
theorem dX4_hourComes_4 : decode cX4_hourComes 4 = .ok (.iconst 3, 1) := dk_6 (dk_at dksX4_hourComes_0 4 rfl rfl)
theorem dX4_hourComes_5 : decode cX4_hourComes 5 = .ok (.dup2, 1) := dk_92 (dk_at dksX4_hourComes_0 5 rfl rfl)
theorem dX4_hourComes_6 : decode cX4_hourComes 6 = .ok (.iaload, 1) := dk_46 (dk_at dksX4_hourComes_0 6 rfl rfl)
theorem dX4_hourComes_7 : decode cX4_hourComes 7 = .ok (.iconst 1, 1) := dk_4 (dk_at dksX4_hourComes_0 7 rfl rfl)
theorem dX4_hourComes_8 : decode cX4_hourComes 8 = .ok (.iadd, 1) := dk_96 (dk_at dksX4_hourComes_0 8 rfl rfl)
theorem dX4_hourComes_9 : decode cX4_hourComes 9 = .ok (.iastore, 1) := dk_79 (dk_at dksX4_hourComes_0 9 rfl rfl)
theorem dX4_hourComes_10 : decode cX4_hourComes 10 = .ok (.aload_n 0, 1) := dk_42 (dk_at dksX4_hourComes_0 10 rfl rfl)
theorem dX4_hourComes_11 : decode cX4_hourComes 11 = .ok (.invokevirtual 277, 3) := dk_182 1 21 (dk_at dksX4_hourComes_0 11 rfl rfl)
theorem dX4_hourComes_14 : decode cX4_hourComes 14 = .ok (.return_, 1) := dk_177 (dk_at dksX4_hourComes_0 14 rfl rfl)
abbrev cX4_buy : ByteArray := prog_20_method_83_code
def yX4_buy : MethodName := ⟨RX4, "buy", "(II)I"⟩
def dkwX4_buy_1 : List UInt8 := [154, 0, 5, 2, 172, 42, 182, 1, 100, 42, 27, 28, 182, 1, 112, 42, 27, 3, 182, 1, 58, 172]
abbrev dktX4_buy_1 : List UInt8 := dkwX4_buy_1 ++ []
def dkwX4_buy_0 : List UInt8 := [42, 27, 182, 1, 87, 153, 0, 20, 42, 28, 182, 1, 79, 153, 0, 12, 42, 27, 28, 182, 1, 109]
abbrev dktX4_buy_0 : List UInt8 := dkwX4_buy_0 ++ dktX4_buy_1
theorem dksX4_buy_0 : cX4_buy.data.toList.drop 0 = dktX4_buy_0 := by decide +kernel
theorem dksX4_buy_1 : cX4_buy.data.toList.drop 22 = dktX4_buy_1 := dk_seg dksX4_buy_0 22 rfl rfl
theorem dX4_buy_0 : decode cX4_buy 0 = .ok (.aload_n 0, 1) := dk_42 (dk_at dksX4_buy_0 0 rfl rfl)
theorem dX4_buy_1 : decode cX4_buy 1 = .ok (.iload_n 1, 1) := dk_27 (dk_at dksX4_buy_0 1 rfl rfl)
theorem dX4_buy_2 : decode cX4_buy 2 = .ok (.invokevirtual 343, 3) := dk_182 1 87 (dk_at dksX4_buy_0 2 rfl rfl)
theorem dX4_buy_5 : decode cX4_buy 5 = .ok (.ifCond .eq 20, 3) := dk_153 0 20 (dk_at dksX4_buy_0 5 rfl rfl)
theorem dX4_buy_8 : decode cX4_buy 8 = .ok (.aload_n 0, 1) := dk_42 (dk_at dksX4_buy_0 8 rfl rfl)
theorem dX4_buy_9 : decode cX4_buy 9 = .ok (.iload_n 2, 1) := dk_28 (dk_at dksX4_buy_0 9 rfl rfl)
theorem dX4_buy_10 : decode cX4_buy 10 = .ok (.invokevirtual 335, 3) := dk_182 1 79 (dk_at dksX4_buy_0 10 rfl rfl)
theorem dX4_buy_13 : decode cX4_buy 13 = .ok (.ifCond .eq 12, 3) := dk_153 0 12 (dk_at dksX4_buy_0 13 rfl rfl)
theorem dX4_buy_16 : decode cX4_buy 16 = .ok (.aload_n 0, 1) := dk_42 (dk_at dksX4_buy_0 16 rfl rfl)
theorem dX4_buy_17 : decode cX4_buy 17 = .ok (.iload_n 1, 1) := dk_27 (dk_at dksX4_buy_0 17 rfl rfl)
theorem dX4_buy_18 : decode cX4_buy 18 = .ok (.iload_n 2, 1) := dk_28 (dk_at dksX4_buy_0 18 rfl rfl)
theorem dX4_buy_19 : decode cX4_buy 19 = .ok (.invokevirtual 365, 3) := dk_182 1 109 (dk_at dksX4_buy_0 19 rfl rfl)
theorem dX4_buy_22 : decode cX4_buy 22 = .ok (.ifCond .ne 5, 3) := dk_154 0 5 (dk_at dksX4_buy_1 0 rfl rfl)
theorem dX4_buy_25 : decode cX4_buy 25 = .ok (.iconst (-1), 1) := dk_2 (dk_at dksX4_buy_1 3 rfl rfl)
theorem dX4_buy_26 : decode cX4_buy 26 = .ok (.ireturn, 1) := dk_172 (dk_at dksX4_buy_1 4 rfl rfl)
theorem dX4_buy_27 : decode cX4_buy 27 = .ok (.aload_n 0, 1) := dk_42 (dk_at dksX4_buy_1 5 rfl rfl)
theorem dX4_buy_28 : decode cX4_buy 28 = .ok (.invokevirtual 356, 3) := dk_182 1 100 (dk_at dksX4_buy_1 6 rfl rfl)
theorem dX4_buy_31 : decode cX4_buy 31 = .ok (.aload_n 0, 1) := dk_42 (dk_at dksX4_buy_1 9 rfl rfl)
theorem dX4_buy_32 : decode cX4_buy 32 = .ok (.iload_n 1, 1) := dk_27 (dk_at dksX4_buy_1 10 rfl rfl)
theorem dX4_buy_33 : decode cX4_buy 33 = .ok (.iload_n 2, 1) := dk_28 (dk_at dksX4_buy_1 11 rfl rfl)
theorem dX4_buy_34 : decode cX4_buy 34 = .ok (.invokevirtual 368, 3) := dk_182 1 112 (dk_at dksX4_buy_1 12 rfl rfl)
theorem dX4_buy_37 : decode cX4_buy 37 = .ok (.aload_n 0, 1) := dk_42 (dk_at dksX4_buy_1 15 rfl rfl)
theorem dX4_buy_38 : decode cX4_buy 38 = .ok (.iload_n 1, 1) := dk_27 (dk_at dksX4_buy_1 16 rfl rfl)
theorem dX4_buy_39 : decode cX4_buy 39 = .ok (.iconst 0, 1) := dk_3 (dk_at dksX4_buy_1 17 rfl rfl)
theorem dX4_buy_40 : decode cX4_buy 40 = .ok (.invokevirtual 314, 3) := dk_182 1 58 (dk_at dksX4_buy_1 18 rfl rfl)
theorem dX4_buy_43 : decode cX4_buy 43 = .ok (.ireturn, 1) := dk_172 (dk_at dksX4_buy_1 21 rfl rfl)
abbrev cX4_canBuy : ByteArray := prog_20_method_81_code
def yX4_canBuy : MethodName := ⟨RX4, "canBuy", "(II)Z"⟩
def dkwX4_canBuy_1 : List UInt8 := [160, 0, 21, 42, 28, 182, 1, 84, 42, 27, 3, 182, 1, 58, 163, 0, 7, 4, 167, 0, 4, 3, 172]
abbrev dktX4_canBuy_1 : List UInt8 := dkwX4_canBuy_1 ++ []
def dkwX4_canBuy_0 : List UInt8 := [42, 28, 6, 182, 1, 45, 42, 42, 27, 4, 182, 1, 58, 42, 180, 0, 39, 6, 46, 182, 1, 61]
abbrev dktX4_canBuy_0 : List UInt8 := dkwX4_canBuy_0 ++ dktX4_canBuy_1
theorem dksX4_canBuy_0 : cX4_canBuy.data.toList.drop 0 = dktX4_canBuy_0 := by decide +kernel
theorem dksX4_canBuy_1 : cX4_canBuy.data.toList.drop 22 = dktX4_canBuy_1 := dk_seg dksX4_canBuy_0 22 rfl rfl
theorem dX4_canBuy_0 : decode cX4_canBuy 0 = .ok (.aload_n 0, 1) := dk_42 (dk_at dksX4_canBuy_0 0 rfl rfl)
theorem dX4_canBuy_1 : decode cX4_canBuy 1 = .ok (.iload_n 2, 1) := dk_28 (dk_at dksX4_canBuy_0 1 rfl rfl)
theorem dX4_canBuy_2 : decode cX4_canBuy 2 = .ok (.iconst 3, 1) := dk_6 (dk_at dksX4_canBuy_0 2 rfl rfl)
theorem dX4_canBuy_3 : decode cX4_canBuy 3 = .ok (.invokevirtual 301, 3) := dk_182 1 45 (dk_at dksX4_canBuy_0 3 rfl rfl)
theorem dX4_canBuy_6 : decode cX4_canBuy 6 = .ok (.aload_n 0, 1) := dk_42 (dk_at dksX4_canBuy_0 6 rfl rfl)
theorem dX4_canBuy_7 : decode cX4_canBuy 7 = .ok (.aload_n 0, 1) := dk_42 (dk_at dksX4_canBuy_0 7 rfl rfl)
theorem dX4_canBuy_8 : decode cX4_canBuy 8 = .ok (.iload_n 1, 1) := dk_27 (dk_at dksX4_canBuy_0 8 rfl rfl)
theorem dX4_canBuy_9 : decode cX4_canBuy 9 = .ok (.iconst 1, 1) := dk_4 (dk_at dksX4_canBuy_0 9 rfl rfl)
theorem dX4_canBuy_10 : decode cX4_canBuy 10 = .ok (.invokevirtual 314, 3) := dk_182 1 58 (dk_at dksX4_canBuy_0 10 rfl rfl)
theorem dX4_canBuy_13 : decode cX4_canBuy 13 = .ok (.aload_n 0, 1) := dk_42 (dk_at dksX4_canBuy_0 13 rfl rfl)
theorem dX4_canBuy_14 : decode cX4_canBuy 14 = .ok (.getfield 39, 3) := dk_180 0 39 (dk_at dksX4_canBuy_0 14 rfl rfl)
theorem dX4_canBuy_17 : decode cX4_canBuy 17 = .ok (.iconst 3, 1) := dk_6 (dk_at dksX4_canBuy_0 17 rfl rfl)
theorem dX4_canBuy_18 : decode cX4_canBuy 18 = .ok (.iaload, 1) := dk_46 (dk_at dksX4_canBuy_0 18 rfl rfl)
theorem dX4_canBuy_19 : decode cX4_canBuy 19 = .ok (.invokevirtual 317, 3) := dk_182 1 61 (dk_at dksX4_canBuy_0 19 rfl rfl)
theorem dX4_canBuy_22 : decode cX4_canBuy 22 = .ok (.if_icmp .ne 21, 3) := dk_160 0 21 (dk_at dksX4_canBuy_1 0 rfl rfl)
theorem dX4_canBuy_25 : decode cX4_canBuy 25 = .ok (.aload_n 0, 1) := dk_42 (dk_at dksX4_canBuy_1 3 rfl rfl)
theorem dX4_canBuy_26 : decode cX4_canBuy 26 = .ok (.iload_n 2, 1) := dk_28 (dk_at dksX4_canBuy_1 4 rfl rfl)
theorem dX4_canBuy_27 : decode cX4_canBuy 27 = .ok (.invokevirtual 340, 3) := dk_182 1 84 (dk_at dksX4_canBuy_1 5 rfl rfl)
theorem dX4_canBuy_30 : decode cX4_canBuy 30 = .ok (.aload_n 0, 1) := dk_42 (dk_at dksX4_canBuy_1 8 rfl rfl)
theorem dX4_canBuy_31 : decode cX4_canBuy 31 = .ok (.iload_n 1, 1) := dk_27 (dk_at dksX4_canBuy_1 9 rfl rfl)
theorem dX4_canBuy_32 : decode cX4_canBuy 32 = .ok (.iconst 0, 1) := dk_3 (dk_at dksX4_canBuy_1 10 rfl rfl)
theorem dX4_canBuy_33 : decode cX4_canBuy 33 = .ok (.invokevirtual 314, 3) := dk_182 1 58 (dk_at dksX4_canBuy_1 11 rfl rfl)
theorem dX4_canBuy_36 : decode cX4_canBuy 36 = .ok (.if_icmp .gt 7, 3) := dk_163 0 7 (dk_at dksX4_canBuy_1 14 rfl rfl)
theorem dX4_canBuy_39 : decode cX4_canBuy 39 = .ok (.iconst 1, 1) := dk_4 (dk_at dksX4_canBuy_1 17 rfl rfl)
theorem dX4_canBuy_40 : decode cX4_canBuy 40 = .ok (.goto 4, 3) := dk_167 0 4 (dk_at dksX4_canBuy_1 18 rfl rfl)
theorem dX4_canBuy_43 : decode cX4_canBuy 43 = .ok (.iconst 0, 1) := dk_3 (dk_at dksX4_canBuy_1 21 rfl rfl)
theorem dX4_canBuy_44 : decode cX4_canBuy 44 = .ok (.ireturn, 1) := dk_172 (dk_at dksX4_canBuy_1 22 rfl rfl)
abbrev cX4_buys : ByteArray := prog_20_method_82_code
def yX4_buys : MethodName := ⟨RX4, "buys", "(II)V"⟩
def dkwX4_buys_1 : List UInt8 := [16, 10, 8, 28, 104, 96, 6, 96, 16, 100, 27, 96, 79, 177]
abbrev dktX4_buys_1 : List UInt8 := dkwX4_buys_1 ++ []
def dkwX4_buys_0 : List UInt8 := [42, 180, 0, 39, 16, 70, 7, 27, 104, 96, 92, 46, 42, 28, 182, 1, 84, 100, 79, 42, 180, 0, 39]
abbrev dktX4_buys_0 : List UInt8 := dkwX4_buys_0 ++ dktX4_buys_1
theorem dksX4_buys_0 : cX4_buys.data.toList.drop 0 = dktX4_buys_0 := by decide +kernel
theorem dksX4_buys_1 : cX4_buys.data.toList.drop 23 = dktX4_buys_1 := dk_seg dksX4_buys_0 23 rfl rfl
theorem dX4_buys_0 : decode cX4_buys 0 = .ok (.aload_n 0, 1) := dk_42 (dk_at dksX4_buys_0 0 rfl rfl)
theorem dX4_buys_1 : decode cX4_buys 1 = .ok (.getfield 39, 3) := dk_180 0 39 (dk_at dksX4_buys_0 1 rfl rfl)
theorem dX4_buys_4 : decode cX4_buys 4 = .ok (.bipush 70, 2) := dk_16 70 (dk_at dksX4_buys_0 4 rfl rfl)
theorem dX4_buys_6 : decode cX4_buys 6 = .ok (.iconst 4, 1) := dk_7 (dk_at dksX4_buys_0 6 rfl rfl)
theorem dX4_buys_7 : decode cX4_buys 7 = .ok (.iload_n 1, 1) := dk_27 (dk_at dksX4_buys_0 7 rfl rfl)
theorem dX4_buys_8 : decode cX4_buys 8 = .ok (.imul, 1) := dk_104 (dk_at dksX4_buys_0 8 rfl rfl)
theorem dX4_buys_9 : decode cX4_buys 9 = .ok (.iadd, 1) := dk_96 (dk_at dksX4_buys_0 9 rfl rfl)
theorem dX4_buys_10 : decode cX4_buys 10 = .ok (.dup2, 1) := dk_92 (dk_at dksX4_buys_0 10 rfl rfl)
theorem dX4_buys_11 : decode cX4_buys 11 = .ok (.iaload, 1) := dk_46 (dk_at dksX4_buys_0 11 rfl rfl)
theorem dX4_buys_12 : decode cX4_buys 12 = .ok (.aload_n 0, 1) := dk_42 (dk_at dksX4_buys_0 12 rfl rfl)
theorem dX4_buys_13 : decode cX4_buys 13 = .ok (.iload_n 2, 1) := dk_28 (dk_at dksX4_buys_0 13 rfl rfl)
theorem dX4_buys_14 : decode cX4_buys 14 = .ok (.invokevirtual 340, 3) := dk_182 1 84 (dk_at dksX4_buys_0 14 rfl rfl)
theorem dX4_buys_17 : decode cX4_buys 17 = .ok (.isub, 1) := dk_100 (dk_at dksX4_buys_0 17 rfl rfl)
theorem dX4_buys_18 : decode cX4_buys 18 = .ok (.iastore, 1) := dk_79 (dk_at dksX4_buys_0 18 rfl rfl)
theorem dX4_buys_19 : decode cX4_buys 19 = .ok (.aload_n 0, 1) := dk_42 (dk_at dksX4_buys_0 19 rfl rfl)
theorem dX4_buys_20 : decode cX4_buys 20 = .ok (.getfield 39, 3) := dk_180 0 39 (dk_at dksX4_buys_0 20 rfl rfl)
theorem dX4_buys_23 : decode cX4_buys 23 = .ok (.bipush 10, 2) := dk_16 10 (dk_at dksX4_buys_1 0 rfl rfl)
theorem dX4_buys_25 : decode cX4_buys 25 = .ok (.iconst 5, 1) := dk_8 (dk_at dksX4_buys_1 2 rfl rfl)
theorem dX4_buys_26 : decode cX4_buys 26 = .ok (.iload_n 2, 1) := dk_28 (dk_at dksX4_buys_1 3 rfl rfl)
theorem dX4_buys_27 : decode cX4_buys 27 = .ok (.imul, 1) := dk_104 (dk_at dksX4_buys_1 4 rfl rfl)
theorem dX4_buys_28 : decode cX4_buys 28 = .ok (.iadd, 1) := dk_96 (dk_at dksX4_buys_1 5 rfl rfl)
theorem dX4_buys_29 : decode cX4_buys 29 = .ok (.iconst 3, 1) := dk_6 (dk_at dksX4_buys_1 6 rfl rfl)
theorem dX4_buys_30 : decode cX4_buys 30 = .ok (.iadd, 1) := dk_96 (dk_at dksX4_buys_1 7 rfl rfl)
theorem dX4_buys_31 : decode cX4_buys 31 = .ok (.bipush 100, 2) := dk_16 100 (dk_at dksX4_buys_1 8 rfl rfl)
theorem dX4_buys_33 : decode cX4_buys 33 = .ok (.iload_n 1, 1) := dk_27 (dk_at dksX4_buys_1 10 rfl rfl)
theorem dX4_buys_34 : decode cX4_buys 34 = .ok (.iadd, 1) := dk_96 (dk_at dksX4_buys_1 11 rfl rfl)
theorem dX4_buys_35 : decode cX4_buys 35 = .ok (.iastore, 1) := dk_79 (dk_at dksX4_buys_1 12 rfl rfl)
theorem dX4_buys_36 : decode cX4_buys 36 = .ok (.return_, 1) := dk_177 (dk_at dksX4_buys_1 13 rfl rfl)
abbrev cX4_shout : ByteArray := prog_20_method_84_code
def yX4_shout : MethodName := ⟨RX4, "shout", "(II)I"⟩
def dkwX4_shout_7 : List UInt8 := [132, 4, 1, 167, 255, 150, 42, 27, 5, 182, 1, 58, 184, 1, 118, 29, 184, 1, 118, 100, 172]
abbrev dktX4_shout_7 : List UInt8 := dkwX4_shout_7 ++ []
def dkwX4_shout_6 : List UInt8 := [167, 0, 23, 42, 180, 0, 39, 16, 70, 7, 27, 104, 96, 5, 96, 92, 46, 4, 21, 4, 120, 128, 79]
abbrev dktX4_shout_6 : List UInt8 := dkwX4_shout_6 ++ dktX4_shout_7
def dkwX4_shout_5 : List UInt8 := [163, 0, 47, 42, 42, 21, 4, 3, 182, 1, 45, 28, 182, 1, 52, 42, 180, 0, 39, 8, 46, 164, 0, 6]
abbrev dktX4_shout_5 : List UInt8 := dkwX4_shout_5 ++ dktX4_shout_6
def dkwX4_shout_4 : List UInt8 := [180, 0, 39, 6, 46, 182, 1, 49, 42, 27, 4, 182, 1, 58, 182, 1, 115, 42, 180, 0, 39, 16, 8, 46]
abbrev dktX4_shout_4 : List UInt8 := dkwX4_shout_4 ++ dktX4_shout_5
def dkwX4_shout_3 : List UInt8 := [162, 0, 101, 42, 21, 4, 6, 182, 1, 45, 54, 5, 21, 5, 16, 100, 162, 0, 79, 42, 42, 21, 5, 42]
abbrev dktX4_shout_3 : List UInt8 := dkwX4_shout_3 ++ dktX4_shout_4
def dkwX4_shout_2 : List UInt8 := [16, 70, 7, 27, 104, 96, 92, 46, 4, 100, 79, 3, 54, 4, 21, 4, 42, 180, 0, 39, 4, 46]
abbrev dktX4_shout_2 : List UInt8 := dkwX4_shout_2 ++ dktX4_shout_3
def dkwX4_shout_1 : List UInt8 := [182, 1, 58, 154, 0, 5, 2, 172, 42, 182, 1, 100, 42, 27, 5, 182, 1, 58, 62, 42, 180, 0, 39]
abbrev dktX4_shout_1 : List UInt8 := dkwX4_shout_1 ++ dktX4_shout_2
def dkwX4_shout_0 : List UInt8 := [42, 27, 182, 1, 87, 153, 0, 24, 28, 133, 9, 20, 1, 96, 184, 0, 109, 153, 0, 12, 42, 27, 3]
abbrev dktX4_shout_0 : List UInt8 := dkwX4_shout_0 ++ dktX4_shout_1
theorem dksX4_shout_0 : cX4_shout.data.toList.drop 0 = dktX4_shout_0 := by decide +kernel
theorem dksX4_shout_1 : cX4_shout.data.toList.drop 23 = dktX4_shout_1 := dk_seg dksX4_shout_0 23 rfl rfl
theorem dksX4_shout_2 : cX4_shout.data.toList.drop 46 = dktX4_shout_2 := dk_seg dksX4_shout_1 23 rfl rfl
theorem dksX4_shout_3 : cX4_shout.data.toList.drop 68 = dktX4_shout_3 := dk_seg dksX4_shout_2 22 rfl rfl
theorem dksX4_shout_4 : cX4_shout.data.toList.drop 92 = dktX4_shout_4 := dk_seg dksX4_shout_3 24 rfl rfl
theorem dksX4_shout_5 : cX4_shout.data.toList.drop 116 = dktX4_shout_5 := dk_seg dksX4_shout_4 24 rfl rfl
theorem dksX4_shout_6 : cX4_shout.data.toList.drop 140 = dktX4_shout_6 := dk_seg dksX4_shout_5 24 rfl rfl
theorem dksX4_shout_7 : cX4_shout.data.toList.drop 163 = dktX4_shout_7 := dk_seg dksX4_shout_6 23 rfl rfl
theorem dX4_shout_0 : decode cX4_shout 0 = .ok (.aload_n 0, 1) := dk_42 (dk_at dksX4_shout_0 0 rfl rfl)
theorem dX4_shout_1 : decode cX4_shout 1 = .ok (.iload_n 1, 1) := dk_27 (dk_at dksX4_shout_0 1 rfl rfl)
theorem dX4_shout_2 : decode cX4_shout 2 = .ok (.invokevirtual 343, 3) := dk_182 1 87 (dk_at dksX4_shout_0 2 rfl rfl)
theorem dX4_shout_5 : decode cX4_shout 5 = .ok (.ifCond .eq 24, 3) := dk_153 0 24 (dk_at dksX4_shout_0 5 rfl rfl)
theorem dX4_shout_8 : decode cX4_shout 8 = .ok (.iload_n 2, 1) := dk_28 (dk_at dksX4_shout_0 8 rfl rfl)
theorem dX4_shout_9 : decode cX4_shout 9 = .ok (.i2l, 1) := dk_133 (dk_at dksX4_shout_0 9 rfl rfl)
theorem dX4_shout_10 : decode cX4_shout 10 = .ok (.lconst 0, 1) := dk_9 (dk_at dksX4_shout_0 10 rfl rfl)
theorem dX4_shout_11 : decode cX4_shout 11 = .ok (.ldc2_w 352, 3) := dk_20 1 96 (dk_at dksX4_shout_0 11 rfl rfl)
theorem dX4_shout_14 : decode cX4_shout 14 = .ok (.invokestatic 109, 3) := dk_184 0 109 (dk_at dksX4_shout_0 14 rfl rfl)
theorem dX4_shout_17 : decode cX4_shout 17 = .ok (.ifCond .eq 12, 3) := dk_153 0 12 (dk_at dksX4_shout_0 17 rfl rfl)
theorem dX4_shout_20 : decode cX4_shout 20 = .ok (.aload_n 0, 1) := dk_42 (dk_at dksX4_shout_0 20 rfl rfl)
theorem dX4_shout_21 : decode cX4_shout 21 = .ok (.iload_n 1, 1) := dk_27 (dk_at dksX4_shout_0 21 rfl rfl)
theorem dX4_shout_22 : decode cX4_shout 22 = .ok (.iconst 0, 1) := dk_3 (dk_at dksX4_shout_0 22 rfl rfl)
theorem dX4_shout_23 : decode cX4_shout 23 = .ok (.invokevirtual 314, 3) := dk_182 1 58 (dk_at dksX4_shout_1 0 rfl rfl)
theorem dX4_shout_26 : decode cX4_shout 26 = .ok (.ifCond .ne 5, 3) := dk_154 0 5 (dk_at dksX4_shout_1 3 rfl rfl)
theorem dX4_shout_29 : decode cX4_shout 29 = .ok (.iconst (-1), 1) := dk_2 (dk_at dksX4_shout_1 6 rfl rfl)
theorem dX4_shout_30 : decode cX4_shout 30 = .ok (.ireturn, 1) := dk_172 (dk_at dksX4_shout_1 7 rfl rfl)
theorem dX4_shout_31 : decode cX4_shout 31 = .ok (.aload_n 0, 1) := dk_42 (dk_at dksX4_shout_1 8 rfl rfl)
theorem dX4_shout_32 : decode cX4_shout 32 = .ok (.invokevirtual 356, 3) := dk_182 1 100 (dk_at dksX4_shout_1 9 rfl rfl)
theorem dX4_shout_35 : decode cX4_shout 35 = .ok (.aload_n 0, 1) := dk_42 (dk_at dksX4_shout_1 12 rfl rfl)
theorem dX4_shout_36 : decode cX4_shout 36 = .ok (.iload_n 1, 1) := dk_27 (dk_at dksX4_shout_1 13 rfl rfl)
theorem dX4_shout_37 : decode cX4_shout 37 = .ok (.iconst 2, 1) := dk_5 (dk_at dksX4_shout_1 14 rfl rfl)
theorem dX4_shout_38 : decode cX4_shout 38 = .ok (.invokevirtual 314, 3) := dk_182 1 58 (dk_at dksX4_shout_1 15 rfl rfl)
theorem dX4_shout_41 : decode cX4_shout 41 = .ok (.istore_n 3, 1) := dk_62 (dk_at dksX4_shout_1 18 rfl rfl)
theorem dX4_shout_42 : decode cX4_shout 42 = .ok (.aload_n 0, 1) := dk_42 (dk_at dksX4_shout_1 19 rfl rfl)
theorem dX4_shout_43 : decode cX4_shout 43 = .ok (.getfield 39, 3) := dk_180 0 39 (dk_at dksX4_shout_1 20 rfl rfl)
theorem dX4_shout_46 : decode cX4_shout 46 = .ok (.bipush 70, 2) := dk_16 70 (dk_at dksX4_shout_2 0 rfl rfl)
theorem dX4_shout_48 : decode cX4_shout 48 = .ok (.iconst 4, 1) := dk_7 (dk_at dksX4_shout_2 2 rfl rfl)
theorem dX4_shout_49 : decode cX4_shout 49 = .ok (.iload_n 1, 1) := dk_27 (dk_at dksX4_shout_2 3 rfl rfl)
theorem dX4_shout_50 : decode cX4_shout 50 = .ok (.imul, 1) := dk_104 (dk_at dksX4_shout_2 4 rfl rfl)
theorem dX4_shout_51 : decode cX4_shout 51 = .ok (.iadd, 1) := dk_96 (dk_at dksX4_shout_2 5 rfl rfl)
theorem dX4_shout_52 : decode cX4_shout 52 = .ok (.dup2, 1) := dk_92 (dk_at dksX4_shout_2 6 rfl rfl)
theorem dX4_shout_53 : decode cX4_shout 53 = .ok (.iaload, 1) := dk_46 (dk_at dksX4_shout_2 7 rfl rfl)
theorem dX4_shout_54 : decode cX4_shout 54 = .ok (.iconst 1, 1) := dk_4 (dk_at dksX4_shout_2 8 rfl rfl)
theorem dX4_shout_55 : decode cX4_shout 55 = .ok (.isub, 1) := dk_100 (dk_at dksX4_shout_2 9 rfl rfl)
theorem dX4_shout_56 : decode cX4_shout 56 = .ok (.iastore, 1) := dk_79 (dk_at dksX4_shout_2 10 rfl rfl)
theorem dX4_shout_57 : decode cX4_shout 57 = .ok (.iconst 0, 1) := dk_3 (dk_at dksX4_shout_2 11 rfl rfl)
theorem dX4_shout_58 : decode cX4_shout 58 = .ok (.istore 4, 2) := dk_54 4 (dk_at dksX4_shout_2 12 rfl rfl)
theorem dX4_shout_60 : decode cX4_shout 60 = .ok (.iload 4, 2) := dk_21 4 (dk_at dksX4_shout_2 14 rfl rfl)
theorem dX4_shout_62 : decode cX4_shout 62 = .ok (.aload_n 0, 1) := dk_42 (dk_at dksX4_shout_2 16 rfl rfl)
theorem dX4_shout_63 : decode cX4_shout 63 = .ok (.getfield 39, 3) := dk_180 0 39 (dk_at dksX4_shout_2 17 rfl rfl)
theorem dX4_shout_66 : decode cX4_shout 66 = .ok (.iconst 1, 1) := dk_4 (dk_at dksX4_shout_2 20 rfl rfl)
theorem dX4_shout_67 : decode cX4_shout 67 = .ok (.iaload, 1) := dk_46 (dk_at dksX4_shout_2 21 rfl rfl)
theorem dX4_shout_68 : decode cX4_shout 68 = .ok (.if_icmp .ge 101, 3) := dk_162 0 101 (dk_at dksX4_shout_3 0 rfl rfl)
theorem dX4_shout_71 : decode cX4_shout 71 = .ok (.aload_n 0, 1) := dk_42 (dk_at dksX4_shout_3 3 rfl rfl)
theorem dX4_shout_72 : decode cX4_shout 72 = .ok (.iload 4, 2) := dk_21 4 (dk_at dksX4_shout_3 4 rfl rfl)
theorem dX4_shout_74 : decode cX4_shout 74 = .ok (.iconst 3, 1) := dk_6 (dk_at dksX4_shout_3 6 rfl rfl)
theorem dX4_shout_75 : decode cX4_shout 75 = .ok (.invokevirtual 301, 3) := dk_182 1 45 (dk_at dksX4_shout_3 7 rfl rfl)
theorem dX4_shout_78 : decode cX4_shout 78 = .ok (.istore 5, 2) := dk_54 5 (dk_at dksX4_shout_3 10 rfl rfl)
theorem dX4_shout_80 : decode cX4_shout 80 = .ok (.iload 5, 2) := dk_21 5 (dk_at dksX4_shout_3 12 rfl rfl)
theorem dX4_shout_82 : decode cX4_shout 82 = .ok (.bipush 100, 2) := dk_16 100 (dk_at dksX4_shout_3 14 rfl rfl)
theorem dX4_shout_84 : decode cX4_shout 84 = .ok (.if_icmp .ge 79, 3) := dk_162 0 79 (dk_at dksX4_shout_3 16 rfl rfl)
theorem dX4_shout_87 : decode cX4_shout 87 = .ok (.aload_n 0, 1) := dk_42 (dk_at dksX4_shout_3 19 rfl rfl)
theorem dX4_shout_88 : decode cX4_shout 88 = .ok (.aload_n 0, 1) := dk_42 (dk_at dksX4_shout_3 20 rfl rfl)
theorem dX4_shout_89 : decode cX4_shout 89 = .ok (.iload 5, 2) := dk_21 5 (dk_at dksX4_shout_3 21 rfl rfl)
theorem dX4_shout_91 : decode cX4_shout 91 = .ok (.aload_n 0, 1) := dk_42 (dk_at dksX4_shout_3 23 rfl rfl)
theorem dX4_shout_92 : decode cX4_shout 92 = .ok (.getfield 39, 3) := dk_180 0 39 (dk_at dksX4_shout_4 0 rfl rfl)
theorem dX4_shout_95 : decode cX4_shout 95 = .ok (.iconst 3, 1) := dk_6 (dk_at dksX4_shout_4 3 rfl rfl)
theorem dX4_shout_96 : decode cX4_shout 96 = .ok (.iaload, 1) := dk_46 (dk_at dksX4_shout_4 4 rfl rfl)
theorem dX4_shout_97 : decode cX4_shout 97 = .ok (.invokevirtual 305, 3) := dk_182 1 49 (dk_at dksX4_shout_4 5 rfl rfl)
theorem dX4_shout_100 : decode cX4_shout 100 = .ok (.aload_n 0, 1) := dk_42 (dk_at dksX4_shout_4 8 rfl rfl)
theorem dX4_shout_101 : decode cX4_shout 101 = .ok (.iload_n 1, 1) := dk_27 (dk_at dksX4_shout_4 9 rfl rfl)
theorem dX4_shout_102 : decode cX4_shout 102 = .ok (.iconst 1, 1) := dk_4 (dk_at dksX4_shout_4 10 rfl rfl)
theorem dX4_shout_103 : decode cX4_shout 103 = .ok (.invokevirtual 314, 3) := dk_182 1 58 (dk_at dksX4_shout_4 11 rfl rfl)
theorem dX4_shout_106 : decode cX4_shout 106 = .ok (.invokevirtual 371, 3) := dk_182 1 115 (dk_at dksX4_shout_4 14 rfl rfl)
theorem dX4_shout_109 : decode cX4_shout 109 = .ok (.aload_n 0, 1) := dk_42 (dk_at dksX4_shout_4 17 rfl rfl)
theorem dX4_shout_110 : decode cX4_shout 110 = .ok (.getfield 39, 3) := dk_180 0 39 (dk_at dksX4_shout_4 18 rfl rfl)
theorem dX4_shout_113 : decode cX4_shout 113 = .ok (.bipush 8, 2) := dk_16 8 (dk_at dksX4_shout_4 21 rfl rfl)
theorem dX4_shout_115 : decode cX4_shout 115 = .ok (.iaload, 1) := dk_46 (dk_at dksX4_shout_4 23 rfl rfl)
theorem dX4_shout_116 : decode cX4_shout 116 = .ok (.if_icmp .gt 47, 3) := dk_163 0 47 (dk_at dksX4_shout_5 0 rfl rfl)
theorem dX4_shout_119 : decode cX4_shout 119 = .ok (.aload_n 0, 1) := dk_42 (dk_at dksX4_shout_5 3 rfl rfl)
theorem dX4_shout_120 : decode cX4_shout 120 = .ok (.aload_n 0, 1) := dk_42 (dk_at dksX4_shout_5 4 rfl rfl)
theorem dX4_shout_121 : decode cX4_shout 121 = .ok (.iload 4, 2) := dk_21 4 (dk_at dksX4_shout_5 5 rfl rfl)
theorem dX4_shout_123 : decode cX4_shout 123 = .ok (.iconst 0, 1) := dk_3 (dk_at dksX4_shout_5 7 rfl rfl)
theorem dX4_shout_124 : decode cX4_shout 124 = .ok (.invokevirtual 301, 3) := dk_182 1 45 (dk_at dksX4_shout_5 8 rfl rfl)
theorem dX4_shout_127 : decode cX4_shout 127 = .ok (.iload_n 2, 1) := dk_28 (dk_at dksX4_shout_5 11 rfl rfl)
theorem dX4_shout_128 : decode cX4_shout 128 = .ok (.invokevirtual 308, 3) := dk_182 1 52 (dk_at dksX4_shout_5 12 rfl rfl)
theorem dX4_shout_131 : decode cX4_shout 131 = .ok (.aload_n 0, 1) := dk_42 (dk_at dksX4_shout_5 15 rfl rfl)
theorem dX4_shout_132 : decode cX4_shout 132 = .ok (.getfield 39, 3) := dk_180 0 39 (dk_at dksX4_shout_5 16 rfl rfl)
theorem dX4_shout_135 : decode cX4_shout 135 = .ok (.iconst 5, 1) := dk_8 (dk_at dksX4_shout_5 19 rfl rfl)
theorem dX4_shout_136 : decode cX4_shout 136 = .ok (.iaload, 1) := dk_46 (dk_at dksX4_shout_5 20 rfl rfl)
theorem dX4_shout_137 : decode cX4_shout 137 = .ok (.if_icmp .le 6, 3) := dk_164 0 6 (dk_at dksX4_shout_5 21 rfl rfl)
theorem dX4_shout_140 : decode cX4_shout 140 = .ok (.goto 23, 3) := dk_167 0 23 (dk_at dksX4_shout_6 0 rfl rfl)
theorem dX4_shout_143 : decode cX4_shout 143 = .ok (.aload_n 0, 1) := dk_42 (dk_at dksX4_shout_6 3 rfl rfl)
theorem dX4_shout_144 : decode cX4_shout 144 = .ok (.getfield 39, 3) := dk_180 0 39 (dk_at dksX4_shout_6 4 rfl rfl)
theorem dX4_shout_147 : decode cX4_shout 147 = .ok (.bipush 70, 2) := dk_16 70 (dk_at dksX4_shout_6 7 rfl rfl)
theorem dX4_shout_149 : decode cX4_shout 149 = .ok (.iconst 4, 1) := dk_7 (dk_at dksX4_shout_6 9 rfl rfl)
theorem dX4_shout_150 : decode cX4_shout 150 = .ok (.iload_n 1, 1) := dk_27 (dk_at dksX4_shout_6 10 rfl rfl)
theorem dX4_shout_151 : decode cX4_shout 151 = .ok (.imul, 1) := dk_104 (dk_at dksX4_shout_6 11 rfl rfl)
theorem dX4_shout_152 : decode cX4_shout 152 = .ok (.iadd, 1) := dk_96 (dk_at dksX4_shout_6 12 rfl rfl)
theorem dX4_shout_153 : decode cX4_shout 153 = .ok (.iconst 2, 1) := dk_5 (dk_at dksX4_shout_6 13 rfl rfl)
theorem dX4_shout_154 : decode cX4_shout 154 = .ok (.iadd, 1) := dk_96 (dk_at dksX4_shout_6 14 rfl rfl)
theorem dX4_shout_155 : decode cX4_shout 155 = .ok (.dup2, 1) := dk_92 (dk_at dksX4_shout_6 15 rfl rfl)
theorem dX4_shout_156 : decode cX4_shout 156 = .ok (.iaload, 1) := dk_46 (dk_at dksX4_shout_6 16 rfl rfl)
theorem dX4_shout_157 : decode cX4_shout 157 = .ok (.iconst 1, 1) := dk_4 (dk_at dksX4_shout_6 17 rfl rfl)
theorem dX4_shout_158 : decode cX4_shout 158 = .ok (.iload 4, 2) := dk_21 4 (dk_at dksX4_shout_6 18 rfl rfl)
theorem dX4_shout_160 : decode cX4_shout 160 = .ok (.ishl, 1) := dk_120 (dk_at dksX4_shout_6 20 rfl rfl)
theorem dX4_shout_161 : decode cX4_shout 161 = .ok (.ior, 1) := dk_128 (dk_at dksX4_shout_6 21 rfl rfl)
theorem dX4_shout_162 : decode cX4_shout 162 = .ok (.iastore, 1) := dk_79 (dk_at dksX4_shout_6 22 rfl rfl)
theorem dX4_shout_163 : decode cX4_shout 163 = .ok (.iinc 4 1, 3) := dk_132 4 1 (dk_at dksX4_shout_7 0 rfl rfl)
theorem dX4_shout_166 : decode cX4_shout 166 = .ok (.goto (-106), 3) := dk_167 255 150 (dk_at dksX4_shout_7 3 rfl rfl)
theorem dX4_shout_169 : decode cX4_shout 169 = .ok (.aload_n 0, 1) := dk_42 (dk_at dksX4_shout_7 6 rfl rfl)
theorem dX4_shout_170 : decode cX4_shout 170 = .ok (.iload_n 1, 1) := dk_27 (dk_at dksX4_shout_7 7 rfl rfl)
theorem dX4_shout_171 : decode cX4_shout 171 = .ok (.iconst 2, 1) := dk_5 (dk_at dksX4_shout_7 8 rfl rfl)
theorem dX4_shout_172 : decode cX4_shout 172 = .ok (.invokevirtual 314, 3) := dk_182 1 58 (dk_at dksX4_shout_7 9 rfl rfl)
theorem dX4_shout_175 : decode cX4_shout 175 = .ok (.invokestatic 374, 3) := dk_184 1 118 (dk_at dksX4_shout_7 12 rfl rfl)
theorem dX4_shout_178 : decode cX4_shout 178 = .ok (.iload_n 3, 1) := dk_29 (dk_at dksX4_shout_7 15 rfl rfl)
theorem dX4_shout_179 : decode cX4_shout 179 = .ok (.invokestatic 374, 3) := dk_184 1 118 (dk_at dksX4_shout_7 16 rfl rfl)
theorem dX4_shout_182 : decode cX4_shout 182 = .ok (.isub, 1) := dk_100 (dk_at dksX4_shout_7 19 rfl rfl)
theorem dX4_shout_183 : decode cX4_shout 183 = .ok (.ireturn, 1) := dk_172 (dk_at dksX4_shout_7 20 rfl rfl)
abbrev cX4_far : ByteArray := prog_20_method_58_code
def yX4_far : MethodName := ⟨RX4, "far", "(II)I"⟩
def dkwX4_far_1 : List UInt8 := [164, 0, 14, 42, 180, 0, 39, 3, 46, 29, 100, 167, 0, 4, 29, 172]
abbrev dktX4_far_1 : List UInt8 := dkwX4_far_1 ++ []
def dkwX4_far_0 : List UInt8 := [27, 28, 164, 0, 9, 27, 28, 100, 167, 0, 6, 28, 27, 100, 62, 5, 29, 104, 42, 180, 0, 39, 3, 46]
abbrev dktX4_far_0 : List UInt8 := dkwX4_far_0 ++ dktX4_far_1
theorem dksX4_far_0 : cX4_far.data.toList.drop 0 = dktX4_far_0 := by decide +kernel
theorem dksX4_far_1 : cX4_far.data.toList.drop 24 = dktX4_far_1 := dk_seg dksX4_far_0 24 rfl rfl
theorem dX4_far_0 : decode cX4_far 0 = .ok (.iload_n 1, 1) := dk_27 (dk_at dksX4_far_0 0 rfl rfl)
theorem dX4_far_1 : decode cX4_far 1 = .ok (.iload_n 2, 1) := dk_28 (dk_at dksX4_far_0 1 rfl rfl)
theorem dX4_far_2 : decode cX4_far 2 = .ok (.if_icmp .le 9, 3) := dk_164 0 9 (dk_at dksX4_far_0 2 rfl rfl)
theorem dX4_far_5 : decode cX4_far 5 = .ok (.iload_n 1, 1) := dk_27 (dk_at dksX4_far_0 5 rfl rfl)
theorem dX4_far_6 : decode cX4_far 6 = .ok (.iload_n 2, 1) := dk_28 (dk_at dksX4_far_0 6 rfl rfl)
theorem dX4_far_7 : decode cX4_far 7 = .ok (.isub, 1) := dk_100 (dk_at dksX4_far_0 7 rfl rfl)
theorem dX4_far_8 : decode cX4_far 8 = .ok (.goto 6, 3) := dk_167 0 6 (dk_at dksX4_far_0 8 rfl rfl)
theorem dX4_far_11 : decode cX4_far 11 = .ok (.iload_n 2, 1) := dk_28 (dk_at dksX4_far_0 11 rfl rfl)
theorem dX4_far_12 : decode cX4_far 12 = .ok (.iload_n 1, 1) := dk_27 (dk_at dksX4_far_0 12 rfl rfl)
theorem dX4_far_13 : decode cX4_far 13 = .ok (.isub, 1) := dk_100 (dk_at dksX4_far_0 13 rfl rfl)
theorem dX4_far_14 : decode cX4_far 14 = .ok (.istore_n 3, 1) := dk_62 (dk_at dksX4_far_0 14 rfl rfl)
theorem dX4_far_15 : decode cX4_far 15 = .ok (.iconst 2, 1) := dk_5 (dk_at dksX4_far_0 15 rfl rfl)
theorem dX4_far_16 : decode cX4_far 16 = .ok (.iload_n 3, 1) := dk_29 (dk_at dksX4_far_0 16 rfl rfl)
theorem dX4_far_17 : decode cX4_far 17 = .ok (.imul, 1) := dk_104 (dk_at dksX4_far_0 17 rfl rfl)
theorem dX4_far_18 : decode cX4_far 18 = .ok (.aload_n 0, 1) := dk_42 (dk_at dksX4_far_0 18 rfl rfl)
theorem dX4_far_19 : decode cX4_far 19 = .ok (.getfield 39, 3) := dk_180 0 39 (dk_at dksX4_far_0 19 rfl rfl)
theorem dX4_far_22 : decode cX4_far 22 = .ok (.iconst 0, 1) := dk_3 (dk_at dksX4_far_0 22 rfl rfl)
theorem dX4_far_23 : decode cX4_far 23 = .ok (.iaload, 1) := dk_46 (dk_at dksX4_far_0 23 rfl rfl)
theorem dX4_far_24 : decode cX4_far 24 = .ok (.if_icmp .le 14, 3) := dk_164 0 14 (dk_at dksX4_far_1 0 rfl rfl)
theorem dX4_far_27 : decode cX4_far 27 = .ok (.aload_n 0, 1) := dk_42 (dk_at dksX4_far_1 3 rfl rfl)
theorem dX4_far_28 : decode cX4_far 28 = .ok (.getfield 39, 3) := dk_180 0 39 (dk_at dksX4_far_1 4 rfl rfl)
theorem dX4_far_31 : decode cX4_far 31 = .ok (.iconst 0, 1) := dk_3 (dk_at dksX4_far_1 7 rfl rfl)
theorem dX4_far_32 : decode cX4_far 32 = .ok (.iaload, 1) := dk_46 (dk_at dksX4_far_1 8 rfl rfl)
theorem dX4_far_33 : decode cX4_far 33 = .ok (.iload_n 3, 1) := dk_29 (dk_at dksX4_far_1 9 rfl rfl)
theorem dX4_far_34 : decode cX4_far 34 = .ok (.isub, 1) := dk_100 (dk_at dksX4_far_1 10 rfl rfl)
theorem dX4_far_35 : decode cX4_far 35 = .ok (.goto 4, 3) := dk_167 0 4 (dk_at dksX4_far_1 11 rfl rfl)
theorem dX4_far_38 : decode cX4_far 38 = .ok (.iload_n 3, 1) := dk_29 (dk_at dksX4_far_1 14 rfl rfl)
theorem dX4_far_39 : decode cX4_far 39 = .ok (.ireturn, 1) := dk_172 (dk_at dksX4_far_1 15 rfl rfl)
abbrev cX4_bits : ByteArray := prog_20_method_4_code
def yX4_bits : MethodName := ⟨RX4, "bits", "(I)I"⟩
def dkwX4_bits_0 : List UInt8 := [3, 60, 26, 61, 28, 153, 0, 15, 132, 1, 1, 28, 28, 4, 100, 126, 61, 167, 255, 243, 27, 172]
abbrev dktX4_bits_0 : List UInt8 := dkwX4_bits_0 ++ []
theorem dksX4_bits_0 : cX4_bits.data.toList.drop 0 = dktX4_bits_0 := by decide +kernel
theorem dX4_bits_0 : decode cX4_bits 0 = .ok (.iconst 0, 1) := dk_3 (dk_at dksX4_bits_0 0 rfl rfl)
theorem dX4_bits_1 : decode cX4_bits 1 = .ok (.istore_n 1, 1) := dk_60 (dk_at dksX4_bits_0 1 rfl rfl)
theorem dX4_bits_2 : decode cX4_bits 2 = .ok (.iload_n 0, 1) := dk_26 (dk_at dksX4_bits_0 2 rfl rfl)
theorem dX4_bits_3 : decode cX4_bits 3 = .ok (.istore_n 2, 1) := dk_61 (dk_at dksX4_bits_0 3 rfl rfl)
theorem dX4_bits_4 : decode cX4_bits 4 = .ok (.iload_n 2, 1) := dk_28 (dk_at dksX4_bits_0 4 rfl rfl)
theorem dX4_bits_5 : decode cX4_bits 5 = .ok (.ifCond .eq 15, 3) := dk_153 0 15 (dk_at dksX4_bits_0 5 rfl rfl)
theorem dX4_bits_8 : decode cX4_bits 8 = .ok (.iinc 1 1, 3) := dk_132 1 1 (dk_at dksX4_bits_0 8 rfl rfl)
theorem dX4_bits_11 : decode cX4_bits 11 = .ok (.iload_n 2, 1) := dk_28 (dk_at dksX4_bits_0 11 rfl rfl)
theorem dX4_bits_12 : decode cX4_bits 12 = .ok (.iload_n 2, 1) := dk_28 (dk_at dksX4_bits_0 12 rfl rfl)
theorem dX4_bits_13 : decode cX4_bits 13 = .ok (.iconst 1, 1) := dk_4 (dk_at dksX4_bits_0 13 rfl rfl)
theorem dX4_bits_14 : decode cX4_bits 14 = .ok (.isub, 1) := dk_100 (dk_at dksX4_bits_0 14 rfl rfl)
theorem dX4_bits_15 : decode cX4_bits 15 = .ok (.iand, 1) := dk_126 (dk_at dksX4_bits_0 15 rfl rfl)
theorem dX4_bits_16 : decode cX4_bits 16 = .ok (.istore_n 2, 1) := dk_61 (dk_at dksX4_bits_0 16 rfl rfl)
theorem dX4_bits_17 : decode cX4_bits 17 = .ok (.goto (-13), 3) := dk_167 255 243 (dk_at dksX4_bits_0 17 rfl rfl)
theorem dX4_bits_20 : decode cX4_bits 20 = .ok (.iload_n 1, 1) := dk_27 (dk_at dksX4_bits_0 20 rfl rfl)
theorem dX4_bits_21 : decode cX4_bits 21 = .ok (.ireturn, 1) := dk_172 (dk_at dksX4_bits_0 21 rfl rfl)
abbrev cX4_swap : ByteArray := prog_20_method_86_code
def yX4_swap : MethodName := ⟨RX4, "swap", "(IIII)Z"⟩
def dkwX4_swap_4 : List UInt8 := [104, 96, 5, 96, 92, 46, 4, 28, 120, 128, 79, 4, 172]
abbrev dktX4_swap_4 : List UInt8 := dkwX4_swap_4 ++ []
def dkwX4_swap_3 : List UInt8 := [16, 70, 7, 27, 104, 96, 5, 96, 92, 46, 4, 21, 4, 120, 128, 79, 42, 180, 0, 39, 16, 70, 7, 29]
abbrev dktX4_swap_3 : List UInt8 := dkwX4_swap_3 ++ dktX4_swap_4
def dkwX4_swap_2 : List UInt8 := [96, 79, 42, 180, 0, 39, 16, 10, 8, 21, 4, 104, 96, 6, 96, 16, 100, 27, 96, 79, 42, 180, 0, 39]
abbrev dktX4_swap_2 : List UInt8 := dkwX4_swap_2 ++ dktX4_swap_3
def dkwX4_swap_1 : List UInt8 := [159, 0, 5, 3, 172, 42, 182, 1, 100, 42, 180, 0, 39, 16, 10, 8, 28, 104, 96, 6, 96, 16, 100, 29]
abbrev dktX4_swap_1 : List UInt8 := dkwX4_swap_1 ++ dktX4_swap_2
def dkwX4_swap_0 : List UInt8 := [42, 27, 28, 29, 21, 4, 182, 1, 121, 153, 0, 18, 42, 27, 4, 182, 1, 58, 42, 29, 4, 182, 1, 58]
abbrev dktX4_swap_0 : List UInt8 := dkwX4_swap_0 ++ dktX4_swap_1
theorem dksX4_swap_0 : cX4_swap.data.toList.drop 0 = dktX4_swap_0 := by decide +kernel
theorem dksX4_swap_1 : cX4_swap.data.toList.drop 24 = dktX4_swap_1 := dk_seg dksX4_swap_0 24 rfl rfl
theorem dksX4_swap_2 : cX4_swap.data.toList.drop 48 = dktX4_swap_2 := dk_seg dksX4_swap_1 24 rfl rfl
theorem dksX4_swap_3 : cX4_swap.data.toList.drop 72 = dktX4_swap_3 := dk_seg dksX4_swap_2 24 rfl rfl
theorem dksX4_swap_4 : cX4_swap.data.toList.drop 96 = dktX4_swap_4 := dk_seg dksX4_swap_3 24 rfl rfl
theorem dX4_swap_0 : decode cX4_swap 0 = .ok (.aload_n 0, 1) := dk_42 (dk_at dksX4_swap_0 0 rfl rfl)
theorem dX4_swap_1 : decode cX4_swap 1 = .ok (.iload_n 1, 1) := dk_27 (dk_at dksX4_swap_0 1 rfl rfl)
theorem dX4_swap_2 : decode cX4_swap 2 = .ok (.iload_n 2, 1) := dk_28 (dk_at dksX4_swap_0 2 rfl rfl)
theorem dX4_swap_3 : decode cX4_swap 3 = .ok (.iload_n 3, 1) := dk_29 (dk_at dksX4_swap_0 3 rfl rfl)
theorem dX4_swap_4 : decode cX4_swap 4 = .ok (.iload 4, 2) := dk_21 4 (dk_at dksX4_swap_0 4 rfl rfl)
theorem dX4_swap_6 : decode cX4_swap 6 = .ok (.invokevirtual 377, 3) := dk_182 1 121 (dk_at dksX4_swap_0 6 rfl rfl)
theorem dX4_swap_9 : decode cX4_swap 9 = .ok (.ifCond .eq 18, 3) := dk_153 0 18 (dk_at dksX4_swap_0 9 rfl rfl)
theorem dX4_swap_12 : decode cX4_swap 12 = .ok (.aload_n 0, 1) := dk_42 (dk_at dksX4_swap_0 12 rfl rfl)
theorem dX4_swap_13 : decode cX4_swap 13 = .ok (.iload_n 1, 1) := dk_27 (dk_at dksX4_swap_0 13 rfl rfl)
theorem dX4_swap_14 : decode cX4_swap 14 = .ok (.iconst 1, 1) := dk_4 (dk_at dksX4_swap_0 14 rfl rfl)
theorem dX4_swap_15 : decode cX4_swap 15 = .ok (.invokevirtual 314, 3) := dk_182 1 58 (dk_at dksX4_swap_0 15 rfl rfl)
theorem dX4_swap_18 : decode cX4_swap 18 = .ok (.aload_n 0, 1) := dk_42 (dk_at dksX4_swap_0 18 rfl rfl)
theorem dX4_swap_19 : decode cX4_swap 19 = .ok (.iload_n 3, 1) := dk_29 (dk_at dksX4_swap_0 19 rfl rfl)
theorem dX4_swap_20 : decode cX4_swap 20 = .ok (.iconst 1, 1) := dk_4 (dk_at dksX4_swap_0 20 rfl rfl)
theorem dX4_swap_21 : decode cX4_swap 21 = .ok (.invokevirtual 314, 3) := dk_182 1 58 (dk_at dksX4_swap_0 21 rfl rfl)
theorem dX4_swap_24 : decode cX4_swap 24 = .ok (.if_icmp .eq 5, 3) := dk_159 0 5 (dk_at dksX4_swap_1 0 rfl rfl)
theorem dX4_swap_27 : decode cX4_swap 27 = .ok (.iconst 0, 1) := dk_3 (dk_at dksX4_swap_1 3 rfl rfl)
theorem dX4_swap_28 : decode cX4_swap 28 = .ok (.ireturn, 1) := dk_172 (dk_at dksX4_swap_1 4 rfl rfl)
theorem dX4_swap_29 : decode cX4_swap 29 = .ok (.aload_n 0, 1) := dk_42 (dk_at dksX4_swap_1 5 rfl rfl)
theorem dX4_swap_30 : decode cX4_swap 30 = .ok (.invokevirtual 356, 3) := dk_182 1 100 (dk_at dksX4_swap_1 6 rfl rfl)
theorem dX4_swap_33 : decode cX4_swap 33 = .ok (.aload_n 0, 1) := dk_42 (dk_at dksX4_swap_1 9 rfl rfl)
theorem dX4_swap_34 : decode cX4_swap 34 = .ok (.getfield 39, 3) := dk_180 0 39 (dk_at dksX4_swap_1 10 rfl rfl)
theorem dX4_swap_37 : decode cX4_swap 37 = .ok (.bipush 10, 2) := dk_16 10 (dk_at dksX4_swap_1 13 rfl rfl)
theorem dX4_swap_39 : decode cX4_swap 39 = .ok (.iconst 5, 1) := dk_8 (dk_at dksX4_swap_1 15 rfl rfl)
theorem dX4_swap_40 : decode cX4_swap 40 = .ok (.iload_n 2, 1) := dk_28 (dk_at dksX4_swap_1 16 rfl rfl)
theorem dX4_swap_41 : decode cX4_swap 41 = .ok (.imul, 1) := dk_104 (dk_at dksX4_swap_1 17 rfl rfl)
theorem dX4_swap_42 : decode cX4_swap 42 = .ok (.iadd, 1) := dk_96 (dk_at dksX4_swap_1 18 rfl rfl)
theorem dX4_swap_43 : decode cX4_swap 43 = .ok (.iconst 3, 1) := dk_6 (dk_at dksX4_swap_1 19 rfl rfl)
theorem dX4_swap_44 : decode cX4_swap 44 = .ok (.iadd, 1) := dk_96 (dk_at dksX4_swap_1 20 rfl rfl)
theorem dX4_swap_45 : decode cX4_swap 45 = .ok (.bipush 100, 2) := dk_16 100 (dk_at dksX4_swap_1 21 rfl rfl)
theorem dX4_swap_47 : decode cX4_swap 47 = .ok (.iload_n 3, 1) := dk_29 (dk_at dksX4_swap_1 23 rfl rfl)
theorem dX4_swap_48 : decode cX4_swap 48 = .ok (.iadd, 1) := dk_96 (dk_at dksX4_swap_2 0 rfl rfl)
theorem dX4_swap_49 : decode cX4_swap 49 = .ok (.iastore, 1) := dk_79 (dk_at dksX4_swap_2 1 rfl rfl)
theorem dX4_swap_50 : decode cX4_swap 50 = .ok (.aload_n 0, 1) := dk_42 (dk_at dksX4_swap_2 2 rfl rfl)
theorem dX4_swap_51 : decode cX4_swap 51 = .ok (.getfield 39, 3) := dk_180 0 39 (dk_at dksX4_swap_2 3 rfl rfl)
theorem dX4_swap_54 : decode cX4_swap 54 = .ok (.bipush 10, 2) := dk_16 10 (dk_at dksX4_swap_2 6 rfl rfl)
theorem dX4_swap_56 : decode cX4_swap 56 = .ok (.iconst 5, 1) := dk_8 (dk_at dksX4_swap_2 8 rfl rfl)
theorem dX4_swap_57 : decode cX4_swap 57 = .ok (.iload 4, 2) := dk_21 4 (dk_at dksX4_swap_2 9 rfl rfl)
theorem dX4_swap_59 : decode cX4_swap 59 = .ok (.imul, 1) := dk_104 (dk_at dksX4_swap_2 11 rfl rfl)
theorem dX4_swap_60 : decode cX4_swap 60 = .ok (.iadd, 1) := dk_96 (dk_at dksX4_swap_2 12 rfl rfl)
theorem dX4_swap_61 : decode cX4_swap 61 = .ok (.iconst 3, 1) := dk_6 (dk_at dksX4_swap_2 13 rfl rfl)
theorem dX4_swap_62 : decode cX4_swap 62 = .ok (.iadd, 1) := dk_96 (dk_at dksX4_swap_2 14 rfl rfl)
theorem dX4_swap_63 : decode cX4_swap 63 = .ok (.bipush 100, 2) := dk_16 100 (dk_at dksX4_swap_2 15 rfl rfl)
theorem dX4_swap_65 : decode cX4_swap 65 = .ok (.iload_n 1, 1) := dk_27 (dk_at dksX4_swap_2 17 rfl rfl)
theorem dX4_swap_66 : decode cX4_swap 66 = .ok (.iadd, 1) := dk_96 (dk_at dksX4_swap_2 18 rfl rfl)
theorem dX4_swap_67 : decode cX4_swap 67 = .ok (.iastore, 1) := dk_79 (dk_at dksX4_swap_2 19 rfl rfl)
theorem dX4_swap_68 : decode cX4_swap 68 = .ok (.aload_n 0, 1) := dk_42 (dk_at dksX4_swap_2 20 rfl rfl)
theorem dX4_swap_69 : decode cX4_swap 69 = .ok (.getfield 39, 3) := dk_180 0 39 (dk_at dksX4_swap_2 21 rfl rfl)
theorem dX4_swap_72 : decode cX4_swap 72 = .ok (.bipush 70, 2) := dk_16 70 (dk_at dksX4_swap_3 0 rfl rfl)
theorem dX4_swap_74 : decode cX4_swap 74 = .ok (.iconst 4, 1) := dk_7 (dk_at dksX4_swap_3 2 rfl rfl)
theorem dX4_swap_75 : decode cX4_swap 75 = .ok (.iload_n 1, 1) := dk_27 (dk_at dksX4_swap_3 3 rfl rfl)
theorem dX4_swap_76 : decode cX4_swap 76 = .ok (.imul, 1) := dk_104 (dk_at dksX4_swap_3 4 rfl rfl)
theorem dX4_swap_77 : decode cX4_swap 77 = .ok (.iadd, 1) := dk_96 (dk_at dksX4_swap_3 5 rfl rfl)
theorem dX4_swap_78 : decode cX4_swap 78 = .ok (.iconst 2, 1) := dk_5 (dk_at dksX4_swap_3 6 rfl rfl)
theorem dX4_swap_79 : decode cX4_swap 79 = .ok (.iadd, 1) := dk_96 (dk_at dksX4_swap_3 7 rfl rfl)
theorem dX4_swap_80 : decode cX4_swap 80 = .ok (.dup2, 1) := dk_92 (dk_at dksX4_swap_3 8 rfl rfl)
theorem dX4_swap_81 : decode cX4_swap 81 = .ok (.iaload, 1) := dk_46 (dk_at dksX4_swap_3 9 rfl rfl)
theorem dX4_swap_82 : decode cX4_swap 82 = .ok (.iconst 1, 1) := dk_4 (dk_at dksX4_swap_3 10 rfl rfl)
theorem dX4_swap_83 : decode cX4_swap 83 = .ok (.iload 4, 2) := dk_21 4 (dk_at dksX4_swap_3 11 rfl rfl)
theorem dX4_swap_85 : decode cX4_swap 85 = .ok (.ishl, 1) := dk_120 (dk_at dksX4_swap_3 13 rfl rfl)
theorem dX4_swap_86 : decode cX4_swap 86 = .ok (.ior, 1) := dk_128 (dk_at dksX4_swap_3 14 rfl rfl)
theorem dX4_swap_87 : decode cX4_swap 87 = .ok (.iastore, 1) := dk_79 (dk_at dksX4_swap_3 15 rfl rfl)
theorem dX4_swap_88 : decode cX4_swap 88 = .ok (.aload_n 0, 1) := dk_42 (dk_at dksX4_swap_3 16 rfl rfl)
theorem dX4_swap_89 : decode cX4_swap 89 = .ok (.getfield 39, 3) := dk_180 0 39 (dk_at dksX4_swap_3 17 rfl rfl)
theorem dX4_swap_92 : decode cX4_swap 92 = .ok (.bipush 70, 2) := dk_16 70 (dk_at dksX4_swap_3 20 rfl rfl)
theorem dX4_swap_94 : decode cX4_swap 94 = .ok (.iconst 4, 1) := dk_7 (dk_at dksX4_swap_3 22 rfl rfl)
theorem dX4_swap_95 : decode cX4_swap 95 = .ok (.iload_n 3, 1) := dk_29 (dk_at dksX4_swap_3 23 rfl rfl)
theorem dX4_swap_96 : decode cX4_swap 96 = .ok (.imul, 1) := dk_104 (dk_at dksX4_swap_4 0 rfl rfl)
theorem dX4_swap_97 : decode cX4_swap 97 = .ok (.iadd, 1) := dk_96 (dk_at dksX4_swap_4 1 rfl rfl)
theorem dX4_swap_98 : decode cX4_swap 98 = .ok (.iconst 2, 1) := dk_5 (dk_at dksX4_swap_4 2 rfl rfl)
theorem dX4_swap_99 : decode cX4_swap 99 = .ok (.iadd, 1) := dk_96 (dk_at dksX4_swap_4 3 rfl rfl)
theorem dX4_swap_100 : decode cX4_swap 100 = .ok (.dup2, 1) := dk_92 (dk_at dksX4_swap_4 4 rfl rfl)
theorem dX4_swap_101 : decode cX4_swap 101 = .ok (.iaload, 1) := dk_46 (dk_at dksX4_swap_4 5 rfl rfl)
theorem dX4_swap_102 : decode cX4_swap 102 = .ok (.iconst 1, 1) := dk_4 (dk_at dksX4_swap_4 6 rfl rfl)
theorem dX4_swap_103 : decode cX4_swap 103 = .ok (.iload_n 2, 1) := dk_28 (dk_at dksX4_swap_4 7 rfl rfl)
theorem dX4_swap_104 : decode cX4_swap 104 = .ok (.ishl, 1) := dk_120 (dk_at dksX4_swap_4 8 rfl rfl)
theorem dX4_swap_105 : decode cX4_swap 105 = .ok (.ior, 1) := dk_128 (dk_at dksX4_swap_4 9 rfl rfl)
theorem dX4_swap_106 : decode cX4_swap 106 = .ok (.iastore, 1) := dk_79 (dk_at dksX4_swap_4 10 rfl rfl)
theorem dX4_swap_107 : decode cX4_swap 107 = .ok (.iconst 1, 1) := dk_4 (dk_at dksX4_swap_4 11 rfl rfl)
theorem dX4_swap_108 : decode cX4_swap 108 = .ok (.ireturn, 1) := dk_172 (dk_at dksX4_swap_4 12 rfl rfl)
abbrev cX4_areTheirs : ByteArray := prog_20_method_85_code
def yX4_areTheirs : MethodName := ⟨RX4, "areTheirs", "(IIII)Z"⟩
def dkwX4_areTheirs_2 : List UInt8 := [96, 160, 0, 21, 42, 21, 4, 6, 182, 1, 45, 16, 100, 29, 96, 160, 0, 7, 4, 167, 0, 4, 3, 172]
abbrev dktX4_areTheirs_2 : List UInt8 := dkwX4_areTheirs_2 ++ []
def dkwX4_areTheirs_1 : List UInt8 := [182, 1, 79, 153, 0, 43, 42, 21, 4, 182, 1, 79, 153, 0, 34, 42, 28, 6, 182, 1, 45, 16, 100, 27]
abbrev dktX4_areTheirs_1 : List UInt8 := dkwX4_areTheirs_1 ++ dktX4_areTheirs_2
def dkwX4_areTheirs_0 : List UInt8 := [42, 27, 182, 1, 87, 153, 0, 64, 42, 29, 182, 1, 87, 153, 0, 56, 27, 29, 159, 0, 51, 42, 28]
abbrev dktX4_areTheirs_0 : List UInt8 := dkwX4_areTheirs_0 ++ dktX4_areTheirs_1
theorem dksX4_areTheirs_0 : cX4_areTheirs.data.toList.drop 0 = dktX4_areTheirs_0 := by decide +kernel
theorem dksX4_areTheirs_1 : cX4_areTheirs.data.toList.drop 23 = dktX4_areTheirs_1 := dk_seg dksX4_areTheirs_0 23 rfl rfl
theorem dksX4_areTheirs_2 : cX4_areTheirs.data.toList.drop 47 = dktX4_areTheirs_2 := dk_seg dksX4_areTheirs_1 24 rfl rfl
theorem dX4_areTheirs_0 : decode cX4_areTheirs 0 = .ok (.aload_n 0, 1) := dk_42 (dk_at dksX4_areTheirs_0 0 rfl rfl)
theorem dX4_areTheirs_1 : decode cX4_areTheirs 1 = .ok (.iload_n 1, 1) := dk_27 (dk_at dksX4_areTheirs_0 1 rfl rfl)
theorem dX4_areTheirs_2 : decode cX4_areTheirs 2 = .ok (.invokevirtual 343, 3) := dk_182 1 87 (dk_at dksX4_areTheirs_0 2 rfl rfl)
theorem dX4_areTheirs_5 : decode cX4_areTheirs 5 = .ok (.ifCond .eq 64, 3) := dk_153 0 64 (dk_at dksX4_areTheirs_0 5 rfl rfl)
theorem dX4_areTheirs_8 : decode cX4_areTheirs 8 = .ok (.aload_n 0, 1) := dk_42 (dk_at dksX4_areTheirs_0 8 rfl rfl)
theorem dX4_areTheirs_9 : decode cX4_areTheirs 9 = .ok (.iload_n 3, 1) := dk_29 (dk_at dksX4_areTheirs_0 9 rfl rfl)
theorem dX4_areTheirs_10 : decode cX4_areTheirs 10 = .ok (.invokevirtual 343, 3) := dk_182 1 87 (dk_at dksX4_areTheirs_0 10 rfl rfl)
theorem dX4_areTheirs_13 : decode cX4_areTheirs 13 = .ok (.ifCond .eq 56, 3) := dk_153 0 56 (dk_at dksX4_areTheirs_0 13 rfl rfl)
theorem dX4_areTheirs_16 : decode cX4_areTheirs 16 = .ok (.iload_n 1, 1) := dk_27 (dk_at dksX4_areTheirs_0 16 rfl rfl)
theorem dX4_areTheirs_17 : decode cX4_areTheirs 17 = .ok (.iload_n 3, 1) := dk_29 (dk_at dksX4_areTheirs_0 17 rfl rfl)
theorem dX4_areTheirs_18 : decode cX4_areTheirs 18 = .ok (.if_icmp .eq 51, 3) := dk_159 0 51 (dk_at dksX4_areTheirs_0 18 rfl rfl)
theorem dX4_areTheirs_21 : decode cX4_areTheirs 21 = .ok (.aload_n 0, 1) := dk_42 (dk_at dksX4_areTheirs_0 21 rfl rfl)
theorem dX4_areTheirs_22 : decode cX4_areTheirs 22 = .ok (.iload_n 2, 1) := dk_28 (dk_at dksX4_areTheirs_0 22 rfl rfl)
theorem dX4_areTheirs_23 : decode cX4_areTheirs 23 = .ok (.invokevirtual 335, 3) := dk_182 1 79 (dk_at dksX4_areTheirs_1 0 rfl rfl)
theorem dX4_areTheirs_26 : decode cX4_areTheirs 26 = .ok (.ifCond .eq 43, 3) := dk_153 0 43 (dk_at dksX4_areTheirs_1 3 rfl rfl)
theorem dX4_areTheirs_29 : decode cX4_areTheirs 29 = .ok (.aload_n 0, 1) := dk_42 (dk_at dksX4_areTheirs_1 6 rfl rfl)
theorem dX4_areTheirs_30 : decode cX4_areTheirs 30 = .ok (.iload 4, 2) := dk_21 4 (dk_at dksX4_areTheirs_1 7 rfl rfl)
theorem dX4_areTheirs_32 : decode cX4_areTheirs 32 = .ok (.invokevirtual 335, 3) := dk_182 1 79 (dk_at dksX4_areTheirs_1 9 rfl rfl)
theorem dX4_areTheirs_35 : decode cX4_areTheirs 35 = .ok (.ifCond .eq 34, 3) := dk_153 0 34 (dk_at dksX4_areTheirs_1 12 rfl rfl)
theorem dX4_areTheirs_38 : decode cX4_areTheirs 38 = .ok (.aload_n 0, 1) := dk_42 (dk_at dksX4_areTheirs_1 15 rfl rfl)
theorem dX4_areTheirs_39 : decode cX4_areTheirs 39 = .ok (.iload_n 2, 1) := dk_28 (dk_at dksX4_areTheirs_1 16 rfl rfl)
theorem dX4_areTheirs_40 : decode cX4_areTheirs 40 = .ok (.iconst 3, 1) := dk_6 (dk_at dksX4_areTheirs_1 17 rfl rfl)
theorem dX4_areTheirs_41 : decode cX4_areTheirs 41 = .ok (.invokevirtual 301, 3) := dk_182 1 45 (dk_at dksX4_areTheirs_1 18 rfl rfl)
theorem dX4_areTheirs_44 : decode cX4_areTheirs 44 = .ok (.bipush 100, 2) := dk_16 100 (dk_at dksX4_areTheirs_1 21 rfl rfl)
theorem dX4_areTheirs_46 : decode cX4_areTheirs 46 = .ok (.iload_n 1, 1) := dk_27 (dk_at dksX4_areTheirs_1 23 rfl rfl)
theorem dX4_areTheirs_47 : decode cX4_areTheirs 47 = .ok (.iadd, 1) := dk_96 (dk_at dksX4_areTheirs_2 0 rfl rfl)
theorem dX4_areTheirs_48 : decode cX4_areTheirs 48 = .ok (.if_icmp .ne 21, 3) := dk_160 0 21 (dk_at dksX4_areTheirs_2 1 rfl rfl)
theorem dX4_areTheirs_51 : decode cX4_areTheirs 51 = .ok (.aload_n 0, 1) := dk_42 (dk_at dksX4_areTheirs_2 4 rfl rfl)
theorem dX4_areTheirs_52 : decode cX4_areTheirs 52 = .ok (.iload 4, 2) := dk_21 4 (dk_at dksX4_areTheirs_2 5 rfl rfl)
theorem dX4_areTheirs_54 : decode cX4_areTheirs 54 = .ok (.iconst 3, 1) := dk_6 (dk_at dksX4_areTheirs_2 7 rfl rfl)
theorem dX4_areTheirs_55 : decode cX4_areTheirs 55 = .ok (.invokevirtual 301, 3) := dk_182 1 45 (dk_at dksX4_areTheirs_2 8 rfl rfl)
theorem dX4_areTheirs_58 : decode cX4_areTheirs 58 = .ok (.bipush 100, 2) := dk_16 100 (dk_at dksX4_areTheirs_2 11 rfl rfl)
theorem dX4_areTheirs_60 : decode cX4_areTheirs 60 = .ok (.iload_n 3, 1) := dk_29 (dk_at dksX4_areTheirs_2 13 rfl rfl)
theorem dX4_areTheirs_61 : decode cX4_areTheirs 61 = .ok (.iadd, 1) := dk_96 (dk_at dksX4_areTheirs_2 14 rfl rfl)
theorem dX4_areTheirs_62 : decode cX4_areTheirs 62 = .ok (.if_icmp .ne 7, 3) := dk_160 0 7 (dk_at dksX4_areTheirs_2 15 rfl rfl)
theorem dX4_areTheirs_65 : decode cX4_areTheirs 65 = .ok (.iconst 1, 1) := dk_4 (dk_at dksX4_areTheirs_2 18 rfl rfl)
theorem dX4_areTheirs_66 : decode cX4_areTheirs 66 = .ok (.goto 4, 3) := dk_167 0 4 (dk_at dksX4_areTheirs_2 19 rfl rfl)
theorem dX4_areTheirs_69 : decode cX4_areTheirs 69 = .ok (.iconst 0, 1) := dk_3 (dk_at dksX4_areTheirs_2 22 rfl rfl)
theorem dX4_areTheirs_70 : decode cX4_areTheirs 70 = .ok (.ireturn, 1) := dk_172 (dk_at dksX4_areTheirs_2 23 rfl rfl)
abbrev cX4_giveUp : ByteArray := prog_20_method_87_code
def yX4_giveUp : MethodName := ⟨RX4, "giveUp", "(II)I"⟩
def dkwX4_giveUp_3 : List UInt8 := [104, 96, 92, 46, 42, 28, 182, 1, 84, 5, 108, 96, 79, 42, 27, 3, 182, 1, 58, 172]
abbrev dktX4_giveUp_3 : List UInt8 := dkwX4_giveUp_3 ++ []
def dkwX4_giveUp_2 : List UInt8 := [42, 27, 4, 182, 1, 58, 42, 180, 0, 39, 6, 46, 182, 1, 61, 79, 42, 180, 0, 39, 16, 70, 7, 27]
abbrev dktX4_giveUp_2 : List UInt8 := dkwX4_giveUp_2 ++ dktX4_giveUp_3
def dkwX4_giveUp_1 : List UInt8 := [27, 96, 159, 0, 5, 2, 172, 42, 182, 1, 100, 42, 180, 0, 39, 16, 10, 8, 28, 104, 96, 6, 96, 42]
abbrev dktX4_giveUp_1 : List UInt8 := dkwX4_giveUp_1 ++ dktX4_giveUp_2
def dkwX4_giveUp_0 : List UInt8 := [42, 27, 182, 1, 87, 153, 0, 24, 42, 28, 182, 1, 79, 153, 0, 16, 42, 28, 6, 182, 1, 45, 16, 100]
abbrev dktX4_giveUp_0 : List UInt8 := dkwX4_giveUp_0 ++ dktX4_giveUp_1
theorem dksX4_giveUp_0 : cX4_giveUp.data.toList.drop 0 = dktX4_giveUp_0 := by decide +kernel
theorem dksX4_giveUp_1 : cX4_giveUp.data.toList.drop 24 = dktX4_giveUp_1 := dk_seg dksX4_giveUp_0 24 rfl rfl
theorem dksX4_giveUp_2 : cX4_giveUp.data.toList.drop 48 = dktX4_giveUp_2 := dk_seg dksX4_giveUp_1 24 rfl rfl
theorem dksX4_giveUp_3 : cX4_giveUp.data.toList.drop 72 = dktX4_giveUp_3 := dk_seg dksX4_giveUp_2 24 rfl rfl
theorem dX4_giveUp_0 : decode cX4_giveUp 0 = .ok (.aload_n 0, 1) := dk_42 (dk_at dksX4_giveUp_0 0 rfl rfl)
theorem dX4_giveUp_1 : decode cX4_giveUp 1 = .ok (.iload_n 1, 1) := dk_27 (dk_at dksX4_giveUp_0 1 rfl rfl)
theorem dX4_giveUp_2 : decode cX4_giveUp 2 = .ok (.invokevirtual 343, 3) := dk_182 1 87 (dk_at dksX4_giveUp_0 2 rfl rfl)
theorem dX4_giveUp_5 : decode cX4_giveUp 5 = .ok (.ifCond .eq 24, 3) := dk_153 0 24 (dk_at dksX4_giveUp_0 5 rfl rfl)
theorem dX4_giveUp_8 : decode cX4_giveUp 8 = .ok (.aload_n 0, 1) := dk_42 (dk_at dksX4_giveUp_0 8 rfl rfl)
theorem dX4_giveUp_9 : decode cX4_giveUp 9 = .ok (.iload_n 2, 1) := dk_28 (dk_at dksX4_giveUp_0 9 rfl rfl)
theorem dX4_giveUp_10 : decode cX4_giveUp 10 = .ok (.invokevirtual 335, 3) := dk_182 1 79 (dk_at dksX4_giveUp_0 10 rfl rfl)
theorem dX4_giveUp_13 : decode cX4_giveUp 13 = .ok (.ifCond .eq 16, 3) := dk_153 0 16 (dk_at dksX4_giveUp_0 13 rfl rfl)
theorem dX4_giveUp_16 : decode cX4_giveUp 16 = .ok (.aload_n 0, 1) := dk_42 (dk_at dksX4_giveUp_0 16 rfl rfl)
theorem dX4_giveUp_17 : decode cX4_giveUp 17 = .ok (.iload_n 2, 1) := dk_28 (dk_at dksX4_giveUp_0 17 rfl rfl)
theorem dX4_giveUp_18 : decode cX4_giveUp 18 = .ok (.iconst 3, 1) := dk_6 (dk_at dksX4_giveUp_0 18 rfl rfl)
theorem dX4_giveUp_19 : decode cX4_giveUp 19 = .ok (.invokevirtual 301, 3) := dk_182 1 45 (dk_at dksX4_giveUp_0 19 rfl rfl)
theorem dX4_giveUp_22 : decode cX4_giveUp 22 = .ok (.bipush 100, 2) := dk_16 100 (dk_at dksX4_giveUp_0 22 rfl rfl)
theorem dX4_giveUp_24 : decode cX4_giveUp 24 = .ok (.iload_n 1, 1) := dk_27 (dk_at dksX4_giveUp_1 0 rfl rfl)
theorem dX4_giveUp_25 : decode cX4_giveUp 25 = .ok (.iadd, 1) := dk_96 (dk_at dksX4_giveUp_1 1 rfl rfl)
theorem dX4_giveUp_26 : decode cX4_giveUp 26 = .ok (.if_icmp .eq 5, 3) := dk_159 0 5 (dk_at dksX4_giveUp_1 2 rfl rfl)
theorem dX4_giveUp_29 : decode cX4_giveUp 29 = .ok (.iconst (-1), 1) := dk_2 (dk_at dksX4_giveUp_1 5 rfl rfl)
theorem dX4_giveUp_30 : decode cX4_giveUp 30 = .ok (.ireturn, 1) := dk_172 (dk_at dksX4_giveUp_1 6 rfl rfl)
theorem dX4_giveUp_31 : decode cX4_giveUp 31 = .ok (.aload_n 0, 1) := dk_42 (dk_at dksX4_giveUp_1 7 rfl rfl)
theorem dX4_giveUp_32 : decode cX4_giveUp 32 = .ok (.invokevirtual 356, 3) := dk_182 1 100 (dk_at dksX4_giveUp_1 8 rfl rfl)
theorem dX4_giveUp_35 : decode cX4_giveUp 35 = .ok (.aload_n 0, 1) := dk_42 (dk_at dksX4_giveUp_1 11 rfl rfl)
theorem dX4_giveUp_36 : decode cX4_giveUp 36 = .ok (.getfield 39, 3) := dk_180 0 39 (dk_at dksX4_giveUp_1 12 rfl rfl)
theorem dX4_giveUp_39 : decode cX4_giveUp 39 = .ok (.bipush 10, 2) := dk_16 10 (dk_at dksX4_giveUp_1 15 rfl rfl)
theorem dX4_giveUp_41 : decode cX4_giveUp 41 = .ok (.iconst 5, 1) := dk_8 (dk_at dksX4_giveUp_1 17 rfl rfl)
theorem dX4_giveUp_42 : decode cX4_giveUp 42 = .ok (.iload_n 2, 1) := dk_28 (dk_at dksX4_giveUp_1 18 rfl rfl)
theorem dX4_giveUp_43 : decode cX4_giveUp 43 = .ok (.imul, 1) := dk_104 (dk_at dksX4_giveUp_1 19 rfl rfl)
theorem dX4_giveUp_44 : decode cX4_giveUp 44 = .ok (.iadd, 1) := dk_96 (dk_at dksX4_giveUp_1 20 rfl rfl)
theorem dX4_giveUp_45 : decode cX4_giveUp 45 = .ok (.iconst 3, 1) := dk_6 (dk_at dksX4_giveUp_1 21 rfl rfl)
theorem dX4_giveUp_46 : decode cX4_giveUp 46 = .ok (.iadd, 1) := dk_96 (dk_at dksX4_giveUp_1 22 rfl rfl)
theorem dX4_giveUp_47 : decode cX4_giveUp 47 = .ok (.aload_n 0, 1) := dk_42 (dk_at dksX4_giveUp_1 23 rfl rfl)
theorem dX4_giveUp_48 : decode cX4_giveUp 48 = .ok (.aload_n 0, 1) := dk_42 (dk_at dksX4_giveUp_2 0 rfl rfl)
theorem dX4_giveUp_49 : decode cX4_giveUp 49 = .ok (.iload_n 1, 1) := dk_27 (dk_at dksX4_giveUp_2 1 rfl rfl)
theorem dX4_giveUp_50 : decode cX4_giveUp 50 = .ok (.iconst 1, 1) := dk_4 (dk_at dksX4_giveUp_2 2 rfl rfl)
theorem dX4_giveUp_51 : decode cX4_giveUp 51 = .ok (.invokevirtual 314, 3) := dk_182 1 58 (dk_at dksX4_giveUp_2 3 rfl rfl)
theorem dX4_giveUp_54 : decode cX4_giveUp 54 = .ok (.aload_n 0, 1) := dk_42 (dk_at dksX4_giveUp_2 6 rfl rfl)
theorem dX4_giveUp_55 : decode cX4_giveUp 55 = .ok (.getfield 39, 3) := dk_180 0 39 (dk_at dksX4_giveUp_2 7 rfl rfl)
theorem dX4_giveUp_58 : decode cX4_giveUp 58 = .ok (.iconst 3, 1) := dk_6 (dk_at dksX4_giveUp_2 10 rfl rfl)
theorem dX4_giveUp_59 : decode cX4_giveUp 59 = .ok (.iaload, 1) := dk_46 (dk_at dksX4_giveUp_2 11 rfl rfl)
theorem dX4_giveUp_60 : decode cX4_giveUp 60 = .ok (.invokevirtual 317, 3) := dk_182 1 61 (dk_at dksX4_giveUp_2 12 rfl rfl)
theorem dX4_giveUp_63 : decode cX4_giveUp 63 = .ok (.iastore, 1) := dk_79 (dk_at dksX4_giveUp_2 15 rfl rfl)
theorem dX4_giveUp_64 : decode cX4_giveUp 64 = .ok (.aload_n 0, 1) := dk_42 (dk_at dksX4_giveUp_2 16 rfl rfl)
theorem dX4_giveUp_65 : decode cX4_giveUp 65 = .ok (.getfield 39, 3) := dk_180 0 39 (dk_at dksX4_giveUp_2 17 rfl rfl)
theorem dX4_giveUp_68 : decode cX4_giveUp 68 = .ok (.bipush 70, 2) := dk_16 70 (dk_at dksX4_giveUp_2 20 rfl rfl)
theorem dX4_giveUp_70 : decode cX4_giveUp 70 = .ok (.iconst 4, 1) := dk_7 (dk_at dksX4_giveUp_2 22 rfl rfl)
theorem dX4_giveUp_71 : decode cX4_giveUp 71 = .ok (.iload_n 1, 1) := dk_27 (dk_at dksX4_giveUp_2 23 rfl rfl)
theorem dX4_giveUp_72 : decode cX4_giveUp 72 = .ok (.imul, 1) := dk_104 (dk_at dksX4_giveUp_3 0 rfl rfl)
theorem dX4_giveUp_73 : decode cX4_giveUp 73 = .ok (.iadd, 1) := dk_96 (dk_at dksX4_giveUp_3 1 rfl rfl)
theorem dX4_giveUp_74 : decode cX4_giveUp 74 = .ok (.dup2, 1) := dk_92 (dk_at dksX4_giveUp_3 2 rfl rfl)
theorem dX4_giveUp_75 : decode cX4_giveUp 75 = .ok (.iaload, 1) := dk_46 (dk_at dksX4_giveUp_3 3 rfl rfl)
theorem dX4_giveUp_76 : decode cX4_giveUp 76 = .ok (.aload_n 0, 1) := dk_42 (dk_at dksX4_giveUp_3 4 rfl rfl)
theorem dX4_giveUp_77 : decode cX4_giveUp 77 = .ok (.iload_n 2, 1) := dk_28 (dk_at dksX4_giveUp_3 5 rfl rfl)
theorem dX4_giveUp_78 : decode cX4_giveUp 78 = .ok (.invokevirtual 340, 3) := dk_182 1 84 (dk_at dksX4_giveUp_3 6 rfl rfl)
theorem dX4_giveUp_81 : decode cX4_giveUp 81 = .ok (.iconst 2, 1) := dk_5 (dk_at dksX4_giveUp_3 9 rfl rfl)
theorem dX4_giveUp_82 : decode cX4_giveUp 82 = .ok (.idiv, 1) := dk_108 (dk_at dksX4_giveUp_3 10 rfl rfl)
theorem dX4_giveUp_83 : decode cX4_giveUp 83 = .ok (.iadd, 1) := dk_96 (dk_at dksX4_giveUp_3 11 rfl rfl)
theorem dX4_giveUp_84 : decode cX4_giveUp 84 = .ok (.iastore, 1) := dk_79 (dk_at dksX4_giveUp_3 12 rfl rfl)
theorem dX4_giveUp_85 : decode cX4_giveUp 85 = .ok (.aload_n 0, 1) := dk_42 (dk_at dksX4_giveUp_3 13 rfl rfl)
theorem dX4_giveUp_86 : decode cX4_giveUp 86 = .ok (.iload_n 1, 1) := dk_27 (dk_at dksX4_giveUp_3 14 rfl rfl)
theorem dX4_giveUp_87 : decode cX4_giveUp 87 = .ok (.iconst 0, 1) := dk_3 (dk_at dksX4_giveUp_3 15 rfl rfl)
theorem dX4_giveUp_88 : decode cX4_giveUp 88 = .ok (.invokevirtual 314, 3) := dk_182 1 58 (dk_at dksX4_giveUp_3 16 rfl rfl)
theorem dX4_giveUp_91 : decode cX4_giveUp 91 = .ok (.ireturn, 1) := dk_172 (dk_at dksX4_giveUp_3 19 rfl rfl)
abbrev cX4_run : ByteArray := prog_20_method_96_code
def yX4_run : MethodName := ⟨RX4, "run", "(II)I"⟩
def dkwX4_run_2 : List UInt8 := [62, 29, 28, 162, 0, 14, 42, 27, 182, 1, 162, 132, 3, 1, 167, 255, 243, 42, 180, 0, 39, 6, 46, 172]
abbrev dktX4_run_2 : List UInt8 := dkwX4_run_2 ++ []
def dkwX4_run_1 : List UInt8 := [153, 0, 16, 42, 180, 0, 39, 6, 46, 28, 96, 16, 99, 164, 0, 5, 2, 172, 42, 3, 181, 1, 18, 3]
abbrev dktX4_run_1 : List UInt8 := dkwX4_run_1 ++ dktX4_run_2
def dkwX4_run_0 : List UInt8 := [42, 182, 1, 73, 153, 0, 36, 42, 27, 182, 1, 157, 153, 0, 28, 28, 133, 10, 20, 1, 160, 184, 0, 109]
abbrev dktX4_run_0 : List UInt8 := dkwX4_run_0 ++ dktX4_run_1
theorem dksX4_run_0 : cX4_run.data.toList.drop 0 = dktX4_run_0 := by decide +kernel
theorem dksX4_run_1 : cX4_run.data.toList.drop 24 = dktX4_run_1 := dk_seg dksX4_run_0 24 rfl rfl
theorem dksX4_run_2 : cX4_run.data.toList.drop 48 = dktX4_run_2 := dk_seg dksX4_run_1 24 rfl rfl
theorem dX4_run_0 : decode cX4_run 0 = .ok (.aload_n 0, 1) := dk_42 (dk_at dksX4_run_0 0 rfl rfl)
theorem dX4_run_1 : decode cX4_run 1 = .ok (.invokevirtual 329, 3) := dk_182 1 73 (dk_at dksX4_run_0 1 rfl rfl)
theorem dX4_run_4 : decode cX4_run 4 = .ok (.ifCond .eq 36, 3) := dk_153 0 36 (dk_at dksX4_run_0 4 rfl rfl)
theorem dX4_run_7 : decode cX4_run 7 = .ok (.aload_n 0, 1) := dk_42 (dk_at dksX4_run_0 7 rfl rfl)
theorem dX4_run_8 : decode cX4_run 8 = .ok (.iload_n 1, 1) := dk_27 (dk_at dksX4_run_0 8 rfl rfl)
theorem dX4_run_9 : decode cX4_run 9 = .ok (.invokevirtual 413, 3) := dk_182 1 157 (dk_at dksX4_run_0 9 rfl rfl)
theorem dX4_run_12 : decode cX4_run 12 = .ok (.ifCond .eq 28, 3) := dk_153 0 28 (dk_at dksX4_run_0 12 rfl rfl)
theorem dX4_run_15 : decode cX4_run 15 = .ok (.iload_n 2, 1) := dk_28 (dk_at dksX4_run_0 15 rfl rfl)
theorem dX4_run_16 : decode cX4_run 16 = .ok (.i2l, 1) := dk_133 (dk_at dksX4_run_0 16 rfl rfl)
theorem dX4_run_17 : decode cX4_run 17 = .ok (.lconst 1, 1) := dk_10 (dk_at dksX4_run_0 17 rfl rfl)
theorem dX4_run_18 : decode cX4_run 18 = .ok (.ldc2_w 416, 3) := dk_20 1 160 (dk_at dksX4_run_0 18 rfl rfl)
theorem dX4_run_21 : decode cX4_run 21 = .ok (.invokestatic 109, 3) := dk_184 0 109 (dk_at dksX4_run_0 21 rfl rfl)
theorem dX4_run_24 : decode cX4_run 24 = .ok (.ifCond .eq 16, 3) := dk_153 0 16 (dk_at dksX4_run_1 0 rfl rfl)
theorem dX4_run_27 : decode cX4_run 27 = .ok (.aload_n 0, 1) := dk_42 (dk_at dksX4_run_1 3 rfl rfl)
theorem dX4_run_28 : decode cX4_run 28 = .ok (.getfield 39, 3) := dk_180 0 39 (dk_at dksX4_run_1 4 rfl rfl)
theorem dX4_run_31 : decode cX4_run 31 = .ok (.iconst 3, 1) := dk_6 (dk_at dksX4_run_1 7 rfl rfl)
theorem dX4_run_32 : decode cX4_run 32 = .ok (.iaload, 1) := dk_46 (dk_at dksX4_run_1 8 rfl rfl)
theorem dX4_run_33 : decode cX4_run 33 = .ok (.iload_n 2, 1) := dk_28 (dk_at dksX4_run_1 9 rfl rfl)
theorem dX4_run_34 : decode cX4_run 34 = .ok (.iadd, 1) := dk_96 (dk_at dksX4_run_1 10 rfl rfl)
theorem dX4_run_35 : decode cX4_run 35 = .ok (.bipush 99, 2) := dk_16 99 (dk_at dksX4_run_1 11 rfl rfl)
theorem dX4_run_37 : decode cX4_run 37 = .ok (.if_icmp .le 5, 3) := dk_164 0 5 (dk_at dksX4_run_1 13 rfl rfl)
theorem dX4_run_40 : decode cX4_run 40 = .ok (.iconst (-1), 1) := dk_2 (dk_at dksX4_run_1 16 rfl rfl)
theorem dX4_run_41 : decode cX4_run 41 = .ok (.ireturn, 1) := dk_172 (dk_at dksX4_run_1 17 rfl rfl)
theorem dX4_run_42 : decode cX4_run 42 = .ok (.aload_n 0, 1) := dk_42 (dk_at dksX4_run_1 18 rfl rfl)
theorem dX4_run_43 : decode cX4_run 43 = .ok (.iconst 0, 1) := dk_3 (dk_at dksX4_run_1 19 rfl rfl)
theorem dX4_run_44 : decode cX4_run 44 = .ok (.putfield 274, 3) := dk_181 1 18 (dk_at dksX4_run_1 20 rfl rfl)
theorem dX4_run_47 : decode cX4_run 47 = .ok (.iconst 0, 1) := dk_3 (dk_at dksX4_run_1 23 rfl rfl)
theorem dX4_run_48 : decode cX4_run 48 = .ok (.istore_n 3, 1) := dk_62 (dk_at dksX4_run_2 0 rfl rfl)
theorem dX4_run_49 : decode cX4_run 49 = .ok (.iload_n 3, 1) := dk_29 (dk_at dksX4_run_2 1 rfl rfl)
theorem dX4_run_50 : decode cX4_run 50 = .ok (.iload_n 2, 1) := dk_28 (dk_at dksX4_run_2 2 rfl rfl)
theorem dX4_run_51 : decode cX4_run 51 = .ok (.if_icmp .ge 14, 3) := dk_162 0 14 (dk_at dksX4_run_2 3 rfl rfl)
theorem dX4_run_54 : decode cX4_run 54 = .ok (.aload_n 0, 1) := dk_42 (dk_at dksX4_run_2 6 rfl rfl)
theorem dX4_run_55 : decode cX4_run 55 = .ok (.iload_n 1, 1) := dk_27 (dk_at dksX4_run_2 7 rfl rfl)
theorem dX4_run_56 : decode cX4_run 56 = .ok (.invokevirtual 418, 3) := dk_182 1 162 (dk_at dksX4_run_2 8 rfl rfl)
theorem dX4_run_59 : decode cX4_run 59 = .ok (.iinc 3 1, 3) := dk_132 3 1 (dk_at dksX4_run_2 11 rfl rfl)
theorem dX4_run_62 : decode cX4_run 62 = .ok (.goto (-13), 3) := dk_167 255 243 (dk_at dksX4_run_2 14 rfl rfl)
theorem dX4_run_65 : decode cX4_run 65 = .ok (.aload_n 0, 1) := dk_42 (dk_at dksX4_run_2 17 rfl rfl)
theorem dX4_run_66 : decode cX4_run 66 = .ok (.getfield 39, 3) := dk_180 0 39 (dk_at dksX4_run_2 18 rfl rfl)
theorem dX4_run_69 : decode cX4_run 69 = .ok (.iconst 3, 1) := dk_6 (dk_at dksX4_run_2 21 rfl rfl)
theorem dX4_run_70 : decode cX4_run 70 = .ok (.iaload, 1) := dk_46 (dk_at dksX4_run_2 22 rfl rfl)
theorem dX4_run_71 : decode cX4_run 71 = .ok (.ireturn, 1) := dk_172 (dk_at dksX4_run_2 23 rfl rfl)
abbrev cX4_isRule : ByteArray := prog_20_method_44_code
def yX4_isRule : MethodName := ⟨RX4, "isRule", "(I)Z"⟩
def dkwX4_isRule_0 : List UInt8 := [27, 155, 0, 15, 27, 42, 180, 1, 12, 162, 0, 7, 4, 167, 0, 4, 3, 172]
abbrev dktX4_isRule_0 : List UInt8 := dkwX4_isRule_0 ++ []
theorem dksX4_isRule_0 : cX4_isRule.data.toList.drop 0 = dktX4_isRule_0 := by decide +kernel
theorem dX4_isRule_0 : decode cX4_isRule 0 = .ok (.iload_n 1, 1) := dk_27 (dk_at dksX4_isRule_0 0 rfl rfl)
theorem dX4_isRule_1 : decode cX4_isRule 1 = .ok (.ifCond .lt 15, 3) := dk_155 0 15 (dk_at dksX4_isRule_0 1 rfl rfl)
theorem dX4_isRule_4 : decode cX4_isRule 4 = .ok (.iload_n 1, 1) := dk_27 (dk_at dksX4_isRule_0 4 rfl rfl)
theorem dX4_isRule_5 : decode cX4_isRule 5 = .ok (.aload_n 0, 1) := dk_42 (dk_at dksX4_isRule_0 5 rfl rfl)
theorem dX4_isRule_6 : decode cX4_isRule 6 = .ok (.getfield 268, 3) := dk_180 1 12 (dk_at dksX4_isRule_0 6 rfl rfl)
theorem dX4_isRule_9 : decode cX4_isRule 9 = .ok (.if_icmp .ge 7, 3) := dk_162 0 7 (dk_at dksX4_isRule_0 9 rfl rfl)
theorem dX4_isRule_12 : decode cX4_isRule 12 = .ok (.iconst 1, 1) := dk_4 (dk_at dksX4_isRule_0 12 rfl rfl)
theorem dX4_isRule_13 : decode cX4_isRule 13 = .ok (.goto 4, 3) := dk_167 0 4 (dk_at dksX4_isRule_0 13 rfl rfl)
theorem dX4_isRule_16 : decode cX4_isRule 16 = .ok (.iconst 0, 1) := dk_3 (dk_at dksX4_isRule_0 16 rfl rfl)
theorem dX4_isRule_17 : decode cX4_isRule 17 = .ok (.ireturn, 1) := dk_172 (dk_at dksX4_isRule_0 17 rfl rfl)
abbrev cX4_passes : ByteArray := prog_20_method_95_code
def yX4_passes : MethodName := ⟨RX4, "passes", "(I)V"⟩
def dkwX4_passes_1 : List UInt8 := [182, 1, 154, 182, 1, 103, 132, 2, 1, 167, 255, 226, 42, 182, 1, 106, 177]
abbrev dktX4_passes_1 : List UInt8 := dkwX4_passes_1 ++ []
def dkwX4_passes_0 : List UInt8 := [3, 61, 28, 42, 180, 0, 39, 5, 46, 162, 0, 26, 42, 27, 28, 182, 1, 151, 42, 28, 42, 27, 28]
abbrev dktX4_passes_0 : List UInt8 := dkwX4_passes_0 ++ dktX4_passes_1
theorem dksX4_passes_0 : cX4_passes.data.toList.drop 0 = dktX4_passes_0 := by decide +kernel
theorem dksX4_passes_1 : cX4_passes.data.toList.drop 23 = dktX4_passes_1 := dk_seg dksX4_passes_0 23 rfl rfl
theorem dX4_passes_0 : decode cX4_passes 0 = .ok (.iconst 0, 1) := dk_3 (dk_at dksX4_passes_0 0 rfl rfl)
theorem dX4_passes_1 : decode cX4_passes 1 = .ok (.istore_n 2, 1) := dk_61 (dk_at dksX4_passes_0 1 rfl rfl)
theorem dX4_passes_2 : decode cX4_passes 2 = .ok (.iload_n 2, 1) := dk_28 (dk_at dksX4_passes_0 2 rfl rfl)
theorem dX4_passes_3 : decode cX4_passes 3 = .ok (.aload_n 0, 1) := dk_42 (dk_at dksX4_passes_0 3 rfl rfl)
theorem dX4_passes_4 : decode cX4_passes 4 = .ok (.getfield 39, 3) := dk_180 0 39 (dk_at dksX4_passes_0 4 rfl rfl)
theorem dX4_passes_7 : decode cX4_passes 7 = .ok (.iconst 2, 1) := dk_5 (dk_at dksX4_passes_0 7 rfl rfl)
theorem dX4_passes_8 : decode cX4_passes 8 = .ok (.iaload, 1) := dk_46 (dk_at dksX4_passes_0 8 rfl rfl)
theorem dX4_passes_9 : decode cX4_passes 9 = .ok (.if_icmp .ge 26, 3) := dk_162 0 26 (dk_at dksX4_passes_0 9 rfl rfl)
theorem dX4_passes_12 : decode cX4_passes 12 = .ok (.aload_n 0, 1) := dk_42 (dk_at dksX4_passes_0 12 rfl rfl)
theorem dX4_passes_13 : decode cX4_passes 13 = .ok (.iload_n 1, 1) := dk_27 (dk_at dksX4_passes_0 13 rfl rfl)
theorem dX4_passes_14 : decode cX4_passes 14 = .ok (.iload_n 2, 1) := dk_28 (dk_at dksX4_passes_0 14 rfl rfl)
theorem dX4_passes_15 : decode cX4_passes 15 = .ok (.invokevirtual 407, 3) := dk_182 1 151 (dk_at dksX4_passes_0 15 rfl rfl)
theorem dX4_passes_18 : decode cX4_passes 18 = .ok (.aload_n 0, 1) := dk_42 (dk_at dksX4_passes_0 18 rfl rfl)
theorem dX4_passes_19 : decode cX4_passes 19 = .ok (.iload_n 2, 1) := dk_28 (dk_at dksX4_passes_0 19 rfl rfl)
theorem dX4_passes_20 : decode cX4_passes 20 = .ok (.aload_n 0, 1) := dk_42 (dk_at dksX4_passes_0 20 rfl rfl)
theorem dX4_passes_21 : decode cX4_passes 21 = .ok (.iload_n 1, 1) := dk_27 (dk_at dksX4_passes_0 21 rfl rfl)
theorem dX4_passes_22 : decode cX4_passes 22 = .ok (.iload_n 2, 1) := dk_28 (dk_at dksX4_passes_0 22 rfl rfl)
theorem dX4_passes_23 : decode cX4_passes 23 = .ok (.invokevirtual 410, 3) := dk_182 1 154 (dk_at dksX4_passes_1 0 rfl rfl)
theorem dX4_passes_26 : decode cX4_passes 26 = .ok (.invokevirtual 359, 3) := dk_182 1 103 (dk_at dksX4_passes_1 3 rfl rfl)
theorem dX4_passes_29 : decode cX4_passes 29 = .ok (.iinc 2 1, 3) := dk_132 2 1 (dk_at dksX4_passes_1 6 rfl rfl)
theorem dX4_passes_32 : decode cX4_passes 32 = .ok (.goto (-30), 3) := dk_167 255 226 (dk_at dksX4_passes_1 9 rfl rfl)
theorem dX4_passes_35 : decode cX4_passes 35 = .ok (.aload_n 0, 1) := dk_42 (dk_at dksX4_passes_1 12 rfl rfl)
theorem dX4_passes_36 : decode cX4_passes 36 = .ok (.invokevirtual 362, 3) := dk_182 1 106 (dk_at dksX4_passes_1 13 rfl rfl)
theorem dX4_passes_39 : decode cX4_passes 39 = .ok (.return_, 1) := dk_177 (dk_at dksX4_passes_1 16 rfl rfl)
abbrev cX4_buysAll : ByteArray := prog_20_method_93_code
def yX4_buysAll : MethodName := ⟨RX4, "buysAll", "(II)V"⟩
def dkwX4_buysAll_1 : List UInt8 := [181, 1, 148, 42, 27, 28, 182, 1, 145, 62, 167, 255, 229, 177]
abbrev dktX4_buysAll_1 : List UInt8 := dkwX4_buysAll_1 ++ []
def dkwX4_buysAll_0 : List UInt8 := [42, 27, 28, 182, 1, 145, 62, 29, 155, 0, 29, 42, 28, 29, 182, 1, 112, 42, 89, 180, 1, 148, 4, 96]
abbrev dktX4_buysAll_0 : List UInt8 := dkwX4_buysAll_0 ++ dktX4_buysAll_1
theorem dksX4_buysAll_0 : cX4_buysAll.data.toList.drop 0 = dktX4_buysAll_0 := by decide +kernel
theorem dksX4_buysAll_1 : cX4_buysAll.data.toList.drop 24 = dktX4_buysAll_1 := dk_seg dksX4_buysAll_0 24 rfl rfl
theorem dX4_buysAll_0 : decode cX4_buysAll 0 = .ok (.aload_n 0, 1) := dk_42 (dk_at dksX4_buysAll_0 0 rfl rfl)
theorem dX4_buysAll_1 : decode cX4_buysAll 1 = .ok (.iload_n 1, 1) := dk_27 (dk_at dksX4_buysAll_0 1 rfl rfl)
theorem dX4_buysAll_2 : decode cX4_buysAll 2 = .ok (.iload_n 2, 1) := dk_28 (dk_at dksX4_buysAll_0 2 rfl rfl)
theorem dX4_buysAll_3 : decode cX4_buysAll 3 = .ok (.invokevirtual 401, 3) := dk_182 1 145 (dk_at dksX4_buysAll_0 3 rfl rfl)
theorem dX4_buysAll_6 : decode cX4_buysAll 6 = .ok (.istore_n 3, 1) := dk_62 (dk_at dksX4_buysAll_0 6 rfl rfl)
theorem dX4_buysAll_7 : decode cX4_buysAll 7 = .ok (.iload_n 3, 1) := dk_29 (dk_at dksX4_buysAll_0 7 rfl rfl)
theorem dX4_buysAll_8 : decode cX4_buysAll 8 = .ok (.ifCond .lt 29, 3) := dk_155 0 29 (dk_at dksX4_buysAll_0 8 rfl rfl)
theorem dX4_buysAll_11 : decode cX4_buysAll 11 = .ok (.aload_n 0, 1) := dk_42 (dk_at dksX4_buysAll_0 11 rfl rfl)
theorem dX4_buysAll_12 : decode cX4_buysAll 12 = .ok (.iload_n 2, 1) := dk_28 (dk_at dksX4_buysAll_0 12 rfl rfl)
theorem dX4_buysAll_13 : decode cX4_buysAll 13 = .ok (.iload_n 3, 1) := dk_29 (dk_at dksX4_buysAll_0 13 rfl rfl)
theorem dX4_buysAll_14 : decode cX4_buysAll 14 = .ok (.invokevirtual 368, 3) := dk_182 1 112 (dk_at dksX4_buysAll_0 14 rfl rfl)
theorem dX4_buysAll_17 : decode cX4_buysAll 17 = .ok (.aload_n 0, 1) := dk_42 (dk_at dksX4_buysAll_0 17 rfl rfl)
theorem dX4_buysAll_18 : decode cX4_buysAll 18 = .ok (.dup, 1) := dk_89 (dk_at dksX4_buysAll_0 18 rfl rfl)
theorem dX4_buysAll_19 : decode cX4_buysAll 19 = .ok (.getfield 404, 3) := dk_180 1 148 (dk_at dksX4_buysAll_0 19 rfl rfl)
theorem dX4_buysAll_22 : decode cX4_buysAll 22 = .ok (.iconst 1, 1) := dk_4 (dk_at dksX4_buysAll_0 22 rfl rfl)
theorem dX4_buysAll_23 : decode cX4_buysAll 23 = .ok (.iadd, 1) := dk_96 (dk_at dksX4_buysAll_0 23 rfl rfl)
theorem dX4_buysAll_24 : decode cX4_buysAll 24 = .ok (.putfield 404, 3) := dk_181 1 148 (dk_at dksX4_buysAll_1 0 rfl rfl)
theorem dX4_buysAll_27 : decode cX4_buysAll 27 = .ok (.aload_n 0, 1) := dk_42 (dk_at dksX4_buysAll_1 3 rfl rfl)
theorem dX4_buysAll_28 : decode cX4_buysAll 28 = .ok (.iload_n 1, 1) := dk_27 (dk_at dksX4_buysAll_1 4 rfl rfl)
theorem dX4_buysAll_29 : decode cX4_buysAll 29 = .ok (.iload_n 2, 1) := dk_28 (dk_at dksX4_buysAll_1 5 rfl rfl)
theorem dX4_buysAll_30 : decode cX4_buysAll 30 = .ok (.invokevirtual 401, 3) := dk_182 1 145 (dk_at dksX4_buysAll_1 6 rfl rfl)
theorem dX4_buysAll_33 : decode cX4_buysAll 33 = .ok (.istore_n 3, 1) := dk_62 (dk_at dksX4_buysAll_1 9 rfl rfl)
theorem dX4_buysAll_34 : decode cX4_buysAll 34 = .ok (.goto (-27), 3) := dk_167 255 229 (dk_at dksX4_buysAll_1 10 rfl rfl)
theorem dX4_buysAll_37 : decode cX4_buysAll 37 = .ok (.return_, 1) := dk_177 (dk_at dksX4_buysAll_1 13 rfl rfl)
abbrev cX4_nextFor : ByteArray := prog_20_method_92_code
def yX4_nextFor : MethodName := ⟨RX4, "nextFor", "(II)I"⟩
def dkwX4_nextFor_3 : List UInt8 := [29, 172]
abbrev dktX4_nextFor_3 : List UInt8 := dkwX4_nextFor_3 ++ []
def dkwX4_nextFor_2 : List UInt8 := [22, 7, 22, 4, 148, 157, 0, 6, 167, 0, 10, 21, 6, 62, 22, 7, 55, 4, 132, 6, 1, 167, 255, 196]
abbrev dktX4_nextFor_2 : List UInt8 := dkwX4_nextFor_2 ++ dktX4_nextFor_3
def dkwX4_nextFor_1 : List UInt8 := [182, 1, 109, 154, 0, 6, 167, 0, 36, 42, 28, 21, 6, 182, 1, 138, 42, 27, 3, 182, 1, 141, 55, 7]
abbrev dktX4_nextFor_1 : List UInt8 := dkwX4_nextFor_1 ++ dktX4_nextFor_2
def dkwX4_nextFor_0 : List UInt8 := [2, 62, 9, 55, 4, 3, 54, 6, 21, 6, 42, 180, 0, 39, 4, 46, 162, 0, 55, 42, 28, 21, 6]
abbrev dktX4_nextFor_0 : List UInt8 := dkwX4_nextFor_0 ++ dktX4_nextFor_1
theorem dksX4_nextFor_0 : cX4_nextFor.data.toList.drop 0 = dktX4_nextFor_0 := by decide +kernel
theorem dksX4_nextFor_1 : cX4_nextFor.data.toList.drop 23 = dktX4_nextFor_1 := dk_seg dksX4_nextFor_0 23 rfl rfl
theorem dksX4_nextFor_2 : cX4_nextFor.data.toList.drop 47 = dktX4_nextFor_2 := dk_seg dksX4_nextFor_1 24 rfl rfl
theorem dksX4_nextFor_3 : cX4_nextFor.data.toList.drop 71 = dktX4_nextFor_3 := dk_seg dksX4_nextFor_2 24 rfl rfl
theorem dX4_nextFor_0 : decode cX4_nextFor 0 = .ok (.iconst (-1), 1) := dk_2 (dk_at dksX4_nextFor_0 0 rfl rfl)
theorem dX4_nextFor_1 : decode cX4_nextFor 1 = .ok (.istore_n 3, 1) := dk_62 (dk_at dksX4_nextFor_0 1 rfl rfl)
theorem dX4_nextFor_2 : decode cX4_nextFor 2 = .ok (.lconst 0, 1) := dk_9 (dk_at dksX4_nextFor_0 2 rfl rfl)
theorem dX4_nextFor_3 : decode cX4_nextFor 3 = .ok (.lstore 4, 2) := dk_55 4 (dk_at dksX4_nextFor_0 3 rfl rfl)
theorem dX4_nextFor_5 : decode cX4_nextFor 5 = .ok (.iconst 0, 1) := dk_3 (dk_at dksX4_nextFor_0 5 rfl rfl)
theorem dX4_nextFor_6 : decode cX4_nextFor 6 = .ok (.istore 6, 2) := dk_54 6 (dk_at dksX4_nextFor_0 6 rfl rfl)
theorem dX4_nextFor_8 : decode cX4_nextFor 8 = .ok (.iload 6, 2) := dk_21 6 (dk_at dksX4_nextFor_0 8 rfl rfl)
theorem dX4_nextFor_10 : decode cX4_nextFor 10 = .ok (.aload_n 0, 1) := dk_42 (dk_at dksX4_nextFor_0 10 rfl rfl)
theorem dX4_nextFor_11 : decode cX4_nextFor 11 = .ok (.getfield 39, 3) := dk_180 0 39 (dk_at dksX4_nextFor_0 11 rfl rfl)
theorem dX4_nextFor_14 : decode cX4_nextFor 14 = .ok (.iconst 1, 1) := dk_4 (dk_at dksX4_nextFor_0 14 rfl rfl)
theorem dX4_nextFor_15 : decode cX4_nextFor 15 = .ok (.iaload, 1) := dk_46 (dk_at dksX4_nextFor_0 15 rfl rfl)
theorem dX4_nextFor_16 : decode cX4_nextFor 16 = .ok (.if_icmp .ge 55, 3) := dk_162 0 55 (dk_at dksX4_nextFor_0 16 rfl rfl)
theorem dX4_nextFor_19 : decode cX4_nextFor 19 = .ok (.aload_n 0, 1) := dk_42 (dk_at dksX4_nextFor_0 19 rfl rfl)
theorem dX4_nextFor_20 : decode cX4_nextFor 20 = .ok (.iload_n 2, 1) := dk_28 (dk_at dksX4_nextFor_0 20 rfl rfl)
theorem dX4_nextFor_21 : decode cX4_nextFor 21 = .ok (.iload 6, 2) := dk_21 6 (dk_at dksX4_nextFor_0 21 rfl rfl)
theorem dX4_nextFor_23 : decode cX4_nextFor 23 = .ok (.invokevirtual 365, 3) := dk_182 1 109 (dk_at dksX4_nextFor_1 0 rfl rfl)
theorem dX4_nextFor_26 : decode cX4_nextFor 26 = .ok (.ifCond .ne 6, 3) := dk_154 0 6 (dk_at dksX4_nextFor_1 3 rfl rfl)
theorem dX4_nextFor_29 : decode cX4_nextFor 29 = .ok (.goto 36, 3) := dk_167 0 36 (dk_at dksX4_nextFor_1 6 rfl rfl)
theorem dX4_nextFor_32 : decode cX4_nextFor 32 = .ok (.aload_n 0, 1) := dk_42 (dk_at dksX4_nextFor_1 9 rfl rfl)
theorem dX4_nextFor_33 : decode cX4_nextFor 33 = .ok (.iload_n 2, 1) := dk_28 (dk_at dksX4_nextFor_1 10 rfl rfl)
theorem dX4_nextFor_34 : decode cX4_nextFor 34 = .ok (.iload 6, 2) := dk_21 6 (dk_at dksX4_nextFor_1 11 rfl rfl)
theorem dX4_nextFor_36 : decode cX4_nextFor 36 = .ok (.invokevirtual 394, 3) := dk_182 1 138 (dk_at dksX4_nextFor_1 13 rfl rfl)
theorem dX4_nextFor_39 : decode cX4_nextFor 39 = .ok (.aload_n 0, 1) := dk_42 (dk_at dksX4_nextFor_1 16 rfl rfl)
theorem dX4_nextFor_40 : decode cX4_nextFor 40 = .ok (.iload_n 1, 1) := dk_27 (dk_at dksX4_nextFor_1 17 rfl rfl)
theorem dX4_nextFor_41 : decode cX4_nextFor 41 = .ok (.iconst 0, 1) := dk_3 (dk_at dksX4_nextFor_1 18 rfl rfl)
theorem dX4_nextFor_42 : decode cX4_nextFor 42 = .ok (.invokevirtual 397, 3) := dk_182 1 141 (dk_at dksX4_nextFor_1 19 rfl rfl)
theorem dX4_nextFor_45 : decode cX4_nextFor 45 = .ok (.lstore 7, 2) := dk_55 7 (dk_at dksX4_nextFor_1 22 rfl rfl)
theorem dX4_nextFor_47 : decode cX4_nextFor 47 = .ok (.lload 7, 2) := dk_22 7 (dk_at dksX4_nextFor_2 0 rfl rfl)
theorem dX4_nextFor_49 : decode cX4_nextFor 49 = .ok (.lload 4, 2) := dk_22 4 (dk_at dksX4_nextFor_2 2 rfl rfl)
theorem dX4_nextFor_51 : decode cX4_nextFor 51 = .ok (.lcmp, 1) := dk_148 (dk_at dksX4_nextFor_2 4 rfl rfl)
theorem dX4_nextFor_52 : decode cX4_nextFor 52 = .ok (.ifCond .gt 6, 3) := dk_157 0 6 (dk_at dksX4_nextFor_2 5 rfl rfl)
theorem dX4_nextFor_55 : decode cX4_nextFor 55 = .ok (.goto 10, 3) := dk_167 0 10 (dk_at dksX4_nextFor_2 8 rfl rfl)
theorem dX4_nextFor_58 : decode cX4_nextFor 58 = .ok (.iload 6, 2) := dk_21 6 (dk_at dksX4_nextFor_2 11 rfl rfl)
theorem dX4_nextFor_60 : decode cX4_nextFor 60 = .ok (.istore_n 3, 1) := dk_62 (dk_at dksX4_nextFor_2 13 rfl rfl)
theorem dX4_nextFor_61 : decode cX4_nextFor 61 = .ok (.lload 7, 2) := dk_22 7 (dk_at dksX4_nextFor_2 14 rfl rfl)
theorem dX4_nextFor_63 : decode cX4_nextFor 63 = .ok (.lstore 4, 2) := dk_55 4 (dk_at dksX4_nextFor_2 16 rfl rfl)
theorem dX4_nextFor_65 : decode cX4_nextFor 65 = .ok (.iinc 6 1, 3) := dk_132 6 1 (dk_at dksX4_nextFor_2 18 rfl rfl)
theorem dX4_nextFor_68 : decode cX4_nextFor 68 = .ok (.goto (-60), 3) := dk_167 255 196 (dk_at dksX4_nextFor_2 21 rfl rfl)
theorem dX4_nextFor_71 : decode cX4_nextFor 71 = .ok (.iload_n 3, 1) := dk_29 (dk_at dksX4_nextFor_3 0 rfl rfl)
theorem dX4_nextFor_72 : decode cX4_nextFor 72 = .ok (.ireturn, 1) := dk_172 (dk_at dksX4_nextFor_3 1 rfl rfl)
abbrev cX4_wordsFor : ByteArray := prog_20_method_90_code
def yX4_wordsFor : MethodName := ⟨RX4, "wordsFor", "(II)V"⟩
def dkwX4_wordsFor_5 : List UInt8 := [177]
abbrev dktX4_wordsFor_5 : List UInt8 := dkwX4_wordsFor_5 ++ []
def dkwX4_wordsFor_4 : List UInt8 := [42, 180, 0, 36, 16, 12, 42, 42, 27, 182, 1, 93, 42, 182, 1, 131, 126, 28, 5, 182, 1, 127, 133, 80]
abbrev dktX4_wordsFor_4 : List UInt8 := dkwX4_wordsFor_4 ++ dktX4_wordsFor_5
def dkwX4_wordsFor_3 : List UInt8 := [182, 1, 127, 133, 80, 42, 180, 0, 36, 16, 11, 42, 42, 27, 182, 1, 90, 28, 4, 182, 1, 127, 133, 80]
abbrev dktX4_wordsFor_3 : List UInt8 := dkwX4_wordsFor_3 ++ dktX4_wordsFor_4
def dkwX4_wordsFor_2 : List UInt8 := [16, 9, 42, 28, 182, 1, 84, 133, 80, 42, 180, 0, 36, 16, 10, 42, 42, 27, 182, 1, 90, 28, 5]
abbrev dktX4_wordsFor_2 : List UInt8 := dkwX4_wordsFor_2 ++ dktX4_wordsFor_3
def dkwX4_wordsFor_1 : List UInt8 := [182, 1, 45, 133, 80, 42, 180, 0, 36, 16, 8, 42, 28, 4, 182, 1, 45, 133, 80, 42, 180, 0, 36]
abbrev dktX4_wordsFor_1 : List UInt8 := dkwX4_wordsFor_1 ++ dktX4_wordsFor_2
def dkwX4_wordsFor_0 : List UInt8 := [42, 27, 182, 1, 124, 42, 180, 0, 36, 16, 6, 28, 133, 80, 42, 180, 0, 36, 16, 7, 42, 28, 3]
abbrev dktX4_wordsFor_0 : List UInt8 := dkwX4_wordsFor_0 ++ dktX4_wordsFor_1
theorem dksX4_wordsFor_0 : cX4_wordsFor.data.toList.drop 0 = dktX4_wordsFor_0 := by decide +kernel
theorem dksX4_wordsFor_1 : cX4_wordsFor.data.toList.drop 23 = dktX4_wordsFor_1 := dk_seg dksX4_wordsFor_0 23 rfl rfl
theorem dksX4_wordsFor_2 : cX4_wordsFor.data.toList.drop 46 = dktX4_wordsFor_2 := dk_seg dksX4_wordsFor_1 23 rfl rfl
theorem dksX4_wordsFor_3 : cX4_wordsFor.data.toList.drop 69 = dktX4_wordsFor_3 := dk_seg dksX4_wordsFor_2 23 rfl rfl
theorem dksX4_wordsFor_4 : cX4_wordsFor.data.toList.drop 93 = dktX4_wordsFor_4 := dk_seg dksX4_wordsFor_3 24 rfl rfl
theorem dksX4_wordsFor_5 : cX4_wordsFor.data.toList.drop 117 = dktX4_wordsFor_5 := dk_seg dksX4_wordsFor_4 24 rfl rfl
theorem dX4_wordsFor_0 : decode cX4_wordsFor 0 = .ok (.aload_n 0, 1) := dk_42 (dk_at dksX4_wordsFor_0 0 rfl rfl)
theorem dX4_wordsFor_1 : decode cX4_wordsFor 1 = .ok (.iload_n 1, 1) := dk_27 (dk_at dksX4_wordsFor_0 1 rfl rfl)
theorem dX4_wordsFor_2 : decode cX4_wordsFor 2 = .ok (.invokevirtual 380, 3) := dk_182 1 124 (dk_at dksX4_wordsFor_0 2 rfl rfl)
theorem dX4_wordsFor_5 : decode cX4_wordsFor 5 = .ok (.aload_n 0, 1) := dk_42 (dk_at dksX4_wordsFor_0 5 rfl rfl)
theorem dX4_wordsFor_6 : decode cX4_wordsFor 6 = .ok (.getfield 36, 3) := dk_180 0 36 (dk_at dksX4_wordsFor_0 6 rfl rfl)
theorem dX4_wordsFor_9 : decode cX4_wordsFor 9 = .ok (.bipush 6, 2) := dk_16 6 (dk_at dksX4_wordsFor_0 9 rfl rfl)
theorem dX4_wordsFor_11 : decode cX4_wordsFor 11 = .ok (.iload_n 2, 1) := dk_28 (dk_at dksX4_wordsFor_0 11 rfl rfl)
theorem dX4_wordsFor_12 : decode cX4_wordsFor 12 = .ok (.i2l, 1) := dk_133 (dk_at dksX4_wordsFor_0 12 rfl rfl)
theorem dX4_wordsFor_13 : decode cX4_wordsFor 13 = .ok (.lastore, 1) := dk_80 (dk_at dksX4_wordsFor_0 13 rfl rfl)
theorem dX4_wordsFor_14 : decode cX4_wordsFor 14 = .ok (.aload_n 0, 1) := dk_42 (dk_at dksX4_wordsFor_0 14 rfl rfl)
theorem dX4_wordsFor_15 : decode cX4_wordsFor 15 = .ok (.getfield 36, 3) := dk_180 0 36 (dk_at dksX4_wordsFor_0 15 rfl rfl)
theorem dX4_wordsFor_18 : decode cX4_wordsFor 18 = .ok (.bipush 7, 2) := dk_16 7 (dk_at dksX4_wordsFor_0 18 rfl rfl)
theorem dX4_wordsFor_20 : decode cX4_wordsFor 20 = .ok (.aload_n 0, 1) := dk_42 (dk_at dksX4_wordsFor_0 20 rfl rfl)
theorem dX4_wordsFor_21 : decode cX4_wordsFor 21 = .ok (.iload_n 2, 1) := dk_28 (dk_at dksX4_wordsFor_0 21 rfl rfl)
theorem dX4_wordsFor_22 : decode cX4_wordsFor 22 = .ok (.iconst 0, 1) := dk_3 (dk_at dksX4_wordsFor_0 22 rfl rfl)
theorem dX4_wordsFor_23 : decode cX4_wordsFor 23 = .ok (.invokevirtual 301, 3) := dk_182 1 45 (dk_at dksX4_wordsFor_1 0 rfl rfl)
theorem dX4_wordsFor_26 : decode cX4_wordsFor 26 = .ok (.i2l, 1) := dk_133 (dk_at dksX4_wordsFor_1 3 rfl rfl)
theorem dX4_wordsFor_27 : decode cX4_wordsFor 27 = .ok (.lastore, 1) := dk_80 (dk_at dksX4_wordsFor_1 4 rfl rfl)
theorem dX4_wordsFor_28 : decode cX4_wordsFor 28 = .ok (.aload_n 0, 1) := dk_42 (dk_at dksX4_wordsFor_1 5 rfl rfl)
theorem dX4_wordsFor_29 : decode cX4_wordsFor 29 = .ok (.getfield 36, 3) := dk_180 0 36 (dk_at dksX4_wordsFor_1 6 rfl rfl)
theorem dX4_wordsFor_32 : decode cX4_wordsFor 32 = .ok (.bipush 8, 2) := dk_16 8 (dk_at dksX4_wordsFor_1 9 rfl rfl)
theorem dX4_wordsFor_34 : decode cX4_wordsFor 34 = .ok (.aload_n 0, 1) := dk_42 (dk_at dksX4_wordsFor_1 11 rfl rfl)
theorem dX4_wordsFor_35 : decode cX4_wordsFor 35 = .ok (.iload_n 2, 1) := dk_28 (dk_at dksX4_wordsFor_1 12 rfl rfl)
theorem dX4_wordsFor_36 : decode cX4_wordsFor 36 = .ok (.iconst 1, 1) := dk_4 (dk_at dksX4_wordsFor_1 13 rfl rfl)
theorem dX4_wordsFor_37 : decode cX4_wordsFor 37 = .ok (.invokevirtual 301, 3) := dk_182 1 45 (dk_at dksX4_wordsFor_1 14 rfl rfl)
theorem dX4_wordsFor_40 : decode cX4_wordsFor 40 = .ok (.i2l, 1) := dk_133 (dk_at dksX4_wordsFor_1 17 rfl rfl)
theorem dX4_wordsFor_41 : decode cX4_wordsFor 41 = .ok (.lastore, 1) := dk_80 (dk_at dksX4_wordsFor_1 18 rfl rfl)
theorem dX4_wordsFor_42 : decode cX4_wordsFor 42 = .ok (.aload_n 0, 1) := dk_42 (dk_at dksX4_wordsFor_1 19 rfl rfl)
theorem dX4_wordsFor_43 : decode cX4_wordsFor 43 = .ok (.getfield 36, 3) := dk_180 0 36 (dk_at dksX4_wordsFor_1 20 rfl rfl)
theorem dX4_wordsFor_46 : decode cX4_wordsFor 46 = .ok (.bipush 9, 2) := dk_16 9 (dk_at dksX4_wordsFor_2 0 rfl rfl)
theorem dX4_wordsFor_48 : decode cX4_wordsFor 48 = .ok (.aload_n 0, 1) := dk_42 (dk_at dksX4_wordsFor_2 2 rfl rfl)
theorem dX4_wordsFor_49 : decode cX4_wordsFor 49 = .ok (.iload_n 2, 1) := dk_28 (dk_at dksX4_wordsFor_2 3 rfl rfl)
theorem dX4_wordsFor_50 : decode cX4_wordsFor 50 = .ok (.invokevirtual 340, 3) := dk_182 1 84 (dk_at dksX4_wordsFor_2 4 rfl rfl)
theorem dX4_wordsFor_53 : decode cX4_wordsFor 53 = .ok (.i2l, 1) := dk_133 (dk_at dksX4_wordsFor_2 7 rfl rfl)
theorem dX4_wordsFor_54 : decode cX4_wordsFor 54 = .ok (.lastore, 1) := dk_80 (dk_at dksX4_wordsFor_2 8 rfl rfl)
theorem dX4_wordsFor_55 : decode cX4_wordsFor 55 = .ok (.aload_n 0, 1) := dk_42 (dk_at dksX4_wordsFor_2 9 rfl rfl)
theorem dX4_wordsFor_56 : decode cX4_wordsFor 56 = .ok (.getfield 36, 3) := dk_180 0 36 (dk_at dksX4_wordsFor_2 10 rfl rfl)
theorem dX4_wordsFor_59 : decode cX4_wordsFor 59 = .ok (.bipush 10, 2) := dk_16 10 (dk_at dksX4_wordsFor_2 13 rfl rfl)
theorem dX4_wordsFor_61 : decode cX4_wordsFor 61 = .ok (.aload_n 0, 1) := dk_42 (dk_at dksX4_wordsFor_2 15 rfl rfl)
theorem dX4_wordsFor_62 : decode cX4_wordsFor 62 = .ok (.aload_n 0, 1) := dk_42 (dk_at dksX4_wordsFor_2 16 rfl rfl)
theorem dX4_wordsFor_63 : decode cX4_wordsFor 63 = .ok (.iload_n 1, 1) := dk_27 (dk_at dksX4_wordsFor_2 17 rfl rfl)
theorem dX4_wordsFor_64 : decode cX4_wordsFor 64 = .ok (.invokevirtual 346, 3) := dk_182 1 90 (dk_at dksX4_wordsFor_2 18 rfl rfl)
theorem dX4_wordsFor_67 : decode cX4_wordsFor 67 = .ok (.iload_n 2, 1) := dk_28 (dk_at dksX4_wordsFor_2 21 rfl rfl)
theorem dX4_wordsFor_68 : decode cX4_wordsFor 68 = .ok (.iconst 2, 1) := dk_5 (dk_at dksX4_wordsFor_2 22 rfl rfl)
theorem dX4_wordsFor_69 : decode cX4_wordsFor 69 = .ok (.invokevirtual 383, 3) := dk_182 1 127 (dk_at dksX4_wordsFor_3 0 rfl rfl)
theorem dX4_wordsFor_72 : decode cX4_wordsFor 72 = .ok (.i2l, 1) := dk_133 (dk_at dksX4_wordsFor_3 3 rfl rfl)
theorem dX4_wordsFor_73 : decode cX4_wordsFor 73 = .ok (.lastore, 1) := dk_80 (dk_at dksX4_wordsFor_3 4 rfl rfl)
theorem dX4_wordsFor_74 : decode cX4_wordsFor 74 = .ok (.aload_n 0, 1) := dk_42 (dk_at dksX4_wordsFor_3 5 rfl rfl)
theorem dX4_wordsFor_75 : decode cX4_wordsFor 75 = .ok (.getfield 36, 3) := dk_180 0 36 (dk_at dksX4_wordsFor_3 6 rfl rfl)
theorem dX4_wordsFor_78 : decode cX4_wordsFor 78 = .ok (.bipush 11, 2) := dk_16 11 (dk_at dksX4_wordsFor_3 9 rfl rfl)
theorem dX4_wordsFor_80 : decode cX4_wordsFor 80 = .ok (.aload_n 0, 1) := dk_42 (dk_at dksX4_wordsFor_3 11 rfl rfl)
theorem dX4_wordsFor_81 : decode cX4_wordsFor 81 = .ok (.aload_n 0, 1) := dk_42 (dk_at dksX4_wordsFor_3 12 rfl rfl)
theorem dX4_wordsFor_82 : decode cX4_wordsFor 82 = .ok (.iload_n 1, 1) := dk_27 (dk_at dksX4_wordsFor_3 13 rfl rfl)
theorem dX4_wordsFor_83 : decode cX4_wordsFor 83 = .ok (.invokevirtual 346, 3) := dk_182 1 90 (dk_at dksX4_wordsFor_3 14 rfl rfl)
theorem dX4_wordsFor_86 : decode cX4_wordsFor 86 = .ok (.iload_n 2, 1) := dk_28 (dk_at dksX4_wordsFor_3 17 rfl rfl)
theorem dX4_wordsFor_87 : decode cX4_wordsFor 87 = .ok (.iconst 1, 1) := dk_4 (dk_at dksX4_wordsFor_3 18 rfl rfl)
theorem dX4_wordsFor_88 : decode cX4_wordsFor 88 = .ok (.invokevirtual 383, 3) := dk_182 1 127 (dk_at dksX4_wordsFor_3 19 rfl rfl)
theorem dX4_wordsFor_91 : decode cX4_wordsFor 91 = .ok (.i2l, 1) := dk_133 (dk_at dksX4_wordsFor_3 22 rfl rfl)
theorem dX4_wordsFor_92 : decode cX4_wordsFor 92 = .ok (.lastore, 1) := dk_80 (dk_at dksX4_wordsFor_3 23 rfl rfl)
theorem dX4_wordsFor_93 : decode cX4_wordsFor 93 = .ok (.aload_n 0, 1) := dk_42 (dk_at dksX4_wordsFor_4 0 rfl rfl)
theorem dX4_wordsFor_94 : decode cX4_wordsFor 94 = .ok (.getfield 36, 3) := dk_180 0 36 (dk_at dksX4_wordsFor_4 1 rfl rfl)
theorem dX4_wordsFor_97 : decode cX4_wordsFor 97 = .ok (.bipush 12, 2) := dk_16 12 (dk_at dksX4_wordsFor_4 4 rfl rfl)
theorem dX4_wordsFor_99 : decode cX4_wordsFor 99 = .ok (.aload_n 0, 1) := dk_42 (dk_at dksX4_wordsFor_4 6 rfl rfl)
theorem dX4_wordsFor_100 : decode cX4_wordsFor 100 = .ok (.aload_n 0, 1) := dk_42 (dk_at dksX4_wordsFor_4 7 rfl rfl)
theorem dX4_wordsFor_101 : decode cX4_wordsFor 101 = .ok (.iload_n 1, 1) := dk_27 (dk_at dksX4_wordsFor_4 8 rfl rfl)
theorem dX4_wordsFor_102 : decode cX4_wordsFor 102 = .ok (.invokevirtual 349, 3) := dk_182 1 93 (dk_at dksX4_wordsFor_4 9 rfl rfl)
theorem dX4_wordsFor_105 : decode cX4_wordsFor 105 = .ok (.aload_n 0, 1) := dk_42 (dk_at dksX4_wordsFor_4 12 rfl rfl)
theorem dX4_wordsFor_106 : decode cX4_wordsFor 106 = .ok (.invokevirtual 387, 3) := dk_182 1 131 (dk_at dksX4_wordsFor_4 13 rfl rfl)
theorem dX4_wordsFor_109 : decode cX4_wordsFor 109 = .ok (.iand, 1) := dk_126 (dk_at dksX4_wordsFor_4 16 rfl rfl)
theorem dX4_wordsFor_110 : decode cX4_wordsFor 110 = .ok (.iload_n 2, 1) := dk_28 (dk_at dksX4_wordsFor_4 17 rfl rfl)
theorem dX4_wordsFor_111 : decode cX4_wordsFor 111 = .ok (.iconst 2, 1) := dk_5 (dk_at dksX4_wordsFor_4 18 rfl rfl)
theorem dX4_wordsFor_112 : decode cX4_wordsFor 112 = .ok (.invokevirtual 383, 3) := dk_182 1 127 (dk_at dksX4_wordsFor_4 19 rfl rfl)
theorem dX4_wordsFor_115 : decode cX4_wordsFor 115 = .ok (.i2l, 1) := dk_133 (dk_at dksX4_wordsFor_4 22 rfl rfl)
theorem dX4_wordsFor_116 : decode cX4_wordsFor 116 = .ok (.lastore, 1) := dk_80 (dk_at dksX4_wordsFor_4 23 rfl rfl)
theorem dX4_wordsFor_117 : decode cX4_wordsFor 117 = .ok (.return_, 1) := dk_177 (dk_at dksX4_wordsFor_5 0 rfl rfl)
abbrev cX4_wordsOf : ByteArray := prog_20_method_88_code
def yX4_wordsOf : MethodName := ⟨RX4, "wordsOf", "(I)V"⟩
def dkwX4_wordsOf_4 : List UInt8 := [16, 6, 61, 28, 16, 13, 162, 0, 16, 42, 180, 0, 36, 28, 9, 80, 132, 2, 1, 167, 255, 240, 177]
abbrev dktX4_wordsOf_4 : List UInt8 := dkwX4_wordsOf_4 ++ []
def dkwX4_wordsOf_3 : List UInt8 := [42, 180, 0, 39, 6, 46, 100, 133, 80, 42, 180, 0, 36, 8, 42, 27, 182, 1, 90, 184, 1, 118, 133, 80]
abbrev dktX4_wordsOf_3 : List UInt8 := dkwX4_wordsOf_3 ++ dktX4_wordsOf_4
def dkwX4_wordsOf_2 : List UInt8 := [80, 42, 180, 0, 36, 7, 42, 182, 1, 42, 153, 0, 7, 9, 167, 0, 18, 42, 180, 0, 39, 16, 6, 46]
abbrev dktX4_wordsOf_2 : List UInt8 := dkwX4_wordsOf_2 ++ dktX4_wordsOf_3
def dkwX4_wordsOf_1 : List UInt8 := [180, 0, 36, 5, 42, 27, 4, 182, 1, 58, 133, 80, 42, 180, 0, 36, 6, 42, 180, 0, 39, 6, 46, 133]
abbrev dktX4_wordsOf_1 : List UInt8 := dkwX4_wordsOf_1 ++ dktX4_wordsOf_2
def dkwX4_wordsOf_0 : List UInt8 := [42, 180, 0, 36, 3, 27, 133, 80, 42, 180, 0, 36, 4, 42, 27, 3, 182, 1, 58, 133, 80, 42]
abbrev dktX4_wordsOf_0 : List UInt8 := dkwX4_wordsOf_0 ++ dktX4_wordsOf_1
theorem dksX4_wordsOf_0 : cX4_wordsOf.data.toList.drop 0 = dktX4_wordsOf_0 := by decide +kernel
theorem dksX4_wordsOf_1 : cX4_wordsOf.data.toList.drop 22 = dktX4_wordsOf_1 := dk_seg dksX4_wordsOf_0 22 rfl rfl
theorem dksX4_wordsOf_2 : cX4_wordsOf.data.toList.drop 46 = dktX4_wordsOf_2 := dk_seg dksX4_wordsOf_1 24 rfl rfl
theorem dksX4_wordsOf_3 : cX4_wordsOf.data.toList.drop 70 = dktX4_wordsOf_3 := dk_seg dksX4_wordsOf_2 24 rfl rfl
theorem dksX4_wordsOf_4 : cX4_wordsOf.data.toList.drop 94 = dktX4_wordsOf_4 := dk_seg dksX4_wordsOf_3 24 rfl rfl
theorem dX4_wordsOf_0 : decode cX4_wordsOf 0 = .ok (.aload_n 0, 1) := dk_42 (dk_at dksX4_wordsOf_0 0 rfl rfl)
theorem dX4_wordsOf_1 : decode cX4_wordsOf 1 = .ok (.getfield 36, 3) := dk_180 0 36 (dk_at dksX4_wordsOf_0 1 rfl rfl)
theorem dX4_wordsOf_4 : decode cX4_wordsOf 4 = .ok (.iconst 0, 1) := dk_3 (dk_at dksX4_wordsOf_0 4 rfl rfl)
theorem dX4_wordsOf_5 : decode cX4_wordsOf 5 = .ok (.iload_n 1, 1) := dk_27 (dk_at dksX4_wordsOf_0 5 rfl rfl)
theorem dX4_wordsOf_6 : decode cX4_wordsOf 6 = .ok (.i2l, 1) := dk_133 (dk_at dksX4_wordsOf_0 6 rfl rfl)
theorem dX4_wordsOf_7 : decode cX4_wordsOf 7 = .ok (.lastore, 1) := dk_80 (dk_at dksX4_wordsOf_0 7 rfl rfl)
theorem dX4_wordsOf_8 : decode cX4_wordsOf 8 = .ok (.aload_n 0, 1) := dk_42 (dk_at dksX4_wordsOf_0 8 rfl rfl)
theorem dX4_wordsOf_9 : decode cX4_wordsOf 9 = .ok (.getfield 36, 3) := dk_180 0 36 (dk_at dksX4_wordsOf_0 9 rfl rfl)
theorem dX4_wordsOf_12 : decode cX4_wordsOf 12 = .ok (.iconst 1, 1) := dk_4 (dk_at dksX4_wordsOf_0 12 rfl rfl)
theorem dX4_wordsOf_13 : decode cX4_wordsOf 13 = .ok (.aload_n 0, 1) := dk_42 (dk_at dksX4_wordsOf_0 13 rfl rfl)
theorem dX4_wordsOf_14 : decode cX4_wordsOf 14 = .ok (.iload_n 1, 1) := dk_27 (dk_at dksX4_wordsOf_0 14 rfl rfl)
theorem dX4_wordsOf_15 : decode cX4_wordsOf 15 = .ok (.iconst 0, 1) := dk_3 (dk_at dksX4_wordsOf_0 15 rfl rfl)
theorem dX4_wordsOf_16 : decode cX4_wordsOf 16 = .ok (.invokevirtual 314, 3) := dk_182 1 58 (dk_at dksX4_wordsOf_0 16 rfl rfl)
theorem dX4_wordsOf_19 : decode cX4_wordsOf 19 = .ok (.i2l, 1) := dk_133 (dk_at dksX4_wordsOf_0 19 rfl rfl)
theorem dX4_wordsOf_20 : decode cX4_wordsOf 20 = .ok (.lastore, 1) := dk_80 (dk_at dksX4_wordsOf_0 20 rfl rfl)
theorem dX4_wordsOf_21 : decode cX4_wordsOf 21 = .ok (.aload_n 0, 1) := dk_42 (dk_at dksX4_wordsOf_0 21 rfl rfl)
theorem dX4_wordsOf_22 : decode cX4_wordsOf 22 = .ok (.getfield 36, 3) := dk_180 0 36 (dk_at dksX4_wordsOf_1 0 rfl rfl)
theorem dX4_wordsOf_25 : decode cX4_wordsOf 25 = .ok (.iconst 2, 1) := dk_5 (dk_at dksX4_wordsOf_1 3 rfl rfl)
theorem dX4_wordsOf_26 : decode cX4_wordsOf 26 = .ok (.aload_n 0, 1) := dk_42 (dk_at dksX4_wordsOf_1 4 rfl rfl)
theorem dX4_wordsOf_27 : decode cX4_wordsOf 27 = .ok (.iload_n 1, 1) := dk_27 (dk_at dksX4_wordsOf_1 5 rfl rfl)
theorem dX4_wordsOf_28 : decode cX4_wordsOf 28 = .ok (.iconst 1, 1) := dk_4 (dk_at dksX4_wordsOf_1 6 rfl rfl)
theorem dX4_wordsOf_29 : decode cX4_wordsOf 29 = .ok (.invokevirtual 314, 3) := dk_182 1 58 (dk_at dksX4_wordsOf_1 7 rfl rfl)
theorem dX4_wordsOf_32 : decode cX4_wordsOf 32 = .ok (.i2l, 1) := dk_133 (dk_at dksX4_wordsOf_1 10 rfl rfl)
theorem dX4_wordsOf_33 : decode cX4_wordsOf 33 = .ok (.lastore, 1) := dk_80 (dk_at dksX4_wordsOf_1 11 rfl rfl)
theorem dX4_wordsOf_34 : decode cX4_wordsOf 34 = .ok (.aload_n 0, 1) := dk_42 (dk_at dksX4_wordsOf_1 12 rfl rfl)
theorem dX4_wordsOf_35 : decode cX4_wordsOf 35 = .ok (.getfield 36, 3) := dk_180 0 36 (dk_at dksX4_wordsOf_1 13 rfl rfl)
theorem dX4_wordsOf_38 : decode cX4_wordsOf 38 = .ok (.iconst 3, 1) := dk_6 (dk_at dksX4_wordsOf_1 16 rfl rfl)
theorem dX4_wordsOf_39 : decode cX4_wordsOf 39 = .ok (.aload_n 0, 1) := dk_42 (dk_at dksX4_wordsOf_1 17 rfl rfl)
theorem dX4_wordsOf_40 : decode cX4_wordsOf 40 = .ok (.getfield 39, 3) := dk_180 0 39 (dk_at dksX4_wordsOf_1 18 rfl rfl)
theorem dX4_wordsOf_43 : decode cX4_wordsOf 43 = .ok (.iconst 3, 1) := dk_6 (dk_at dksX4_wordsOf_1 21 rfl rfl)
theorem dX4_wordsOf_44 : decode cX4_wordsOf 44 = .ok (.iaload, 1) := dk_46 (dk_at dksX4_wordsOf_1 22 rfl rfl)
theorem dX4_wordsOf_45 : decode cX4_wordsOf 45 = .ok (.i2l, 1) := dk_133 (dk_at dksX4_wordsOf_1 23 rfl rfl)
theorem dX4_wordsOf_46 : decode cX4_wordsOf 46 = .ok (.lastore, 1) := dk_80 (dk_at dksX4_wordsOf_2 0 rfl rfl)
theorem dX4_wordsOf_47 : decode cX4_wordsOf 47 = .ok (.aload_n 0, 1) := dk_42 (dk_at dksX4_wordsOf_2 1 rfl rfl)
theorem dX4_wordsOf_48 : decode cX4_wordsOf 48 = .ok (.getfield 36, 3) := dk_180 0 36 (dk_at dksX4_wordsOf_2 2 rfl rfl)
theorem dX4_wordsOf_51 : decode cX4_wordsOf 51 = .ok (.iconst 4, 1) := dk_7 (dk_at dksX4_wordsOf_2 5 rfl rfl)
theorem dX4_wordsOf_52 : decode cX4_wordsOf 52 = .ok (.aload_n 0, 1) := dk_42 (dk_at dksX4_wordsOf_2 6 rfl rfl)
theorem dX4_wordsOf_53 : decode cX4_wordsOf 53 = .ok (.invokevirtual 298, 3) := dk_182 1 42 (dk_at dksX4_wordsOf_2 7 rfl rfl)
theorem dX4_wordsOf_56 : decode cX4_wordsOf 56 = .ok (.ifCond .eq 7, 3) := dk_153 0 7 (dk_at dksX4_wordsOf_2 10 rfl rfl)
theorem dX4_wordsOf_59 : decode cX4_wordsOf 59 = .ok (.lconst 0, 1) := dk_9 (dk_at dksX4_wordsOf_2 13 rfl rfl)
theorem dX4_wordsOf_60 : decode cX4_wordsOf 60 = .ok (.goto 18, 3) := dk_167 0 18 (dk_at dksX4_wordsOf_2 14 rfl rfl)
theorem dX4_wordsOf_63 : decode cX4_wordsOf 63 = .ok (.aload_n 0, 1) := dk_42 (dk_at dksX4_wordsOf_2 17 rfl rfl)
theorem dX4_wordsOf_64 : decode cX4_wordsOf 64 = .ok (.getfield 39, 3) := dk_180 0 39 (dk_at dksX4_wordsOf_2 18 rfl rfl)
theorem dX4_wordsOf_67 : decode cX4_wordsOf 67 = .ok (.bipush 6, 2) := dk_16 6 (dk_at dksX4_wordsOf_2 21 rfl rfl)
theorem dX4_wordsOf_69 : decode cX4_wordsOf 69 = .ok (.iaload, 1) := dk_46 (dk_at dksX4_wordsOf_2 23 rfl rfl)
theorem dX4_wordsOf_70 : decode cX4_wordsOf 70 = .ok (.aload_n 0, 1) := dk_42 (dk_at dksX4_wordsOf_3 0 rfl rfl)
theorem dX4_wordsOf_71 : decode cX4_wordsOf 71 = .ok (.getfield 39, 3) := dk_180 0 39 (dk_at dksX4_wordsOf_3 1 rfl rfl)
theorem dX4_wordsOf_74 : decode cX4_wordsOf 74 = .ok (.iconst 3, 1) := dk_6 (dk_at dksX4_wordsOf_3 4 rfl rfl)
theorem dX4_wordsOf_75 : decode cX4_wordsOf 75 = .ok (.iaload, 1) := dk_46 (dk_at dksX4_wordsOf_3 5 rfl rfl)
theorem dX4_wordsOf_76 : decode cX4_wordsOf 76 = .ok (.isub, 1) := dk_100 (dk_at dksX4_wordsOf_3 6 rfl rfl)
theorem dX4_wordsOf_77 : decode cX4_wordsOf 77 = .ok (.i2l, 1) := dk_133 (dk_at dksX4_wordsOf_3 7 rfl rfl)
theorem dX4_wordsOf_78 : decode cX4_wordsOf 78 = .ok (.lastore, 1) := dk_80 (dk_at dksX4_wordsOf_3 8 rfl rfl)
theorem dX4_wordsOf_79 : decode cX4_wordsOf 79 = .ok (.aload_n 0, 1) := dk_42 (dk_at dksX4_wordsOf_3 9 rfl rfl)
theorem dX4_wordsOf_80 : decode cX4_wordsOf 80 = .ok (.getfield 36, 3) := dk_180 0 36 (dk_at dksX4_wordsOf_3 10 rfl rfl)
theorem dX4_wordsOf_83 : decode cX4_wordsOf 83 = .ok (.iconst 5, 1) := dk_8 (dk_at dksX4_wordsOf_3 13 rfl rfl)
theorem dX4_wordsOf_84 : decode cX4_wordsOf 84 = .ok (.aload_n 0, 1) := dk_42 (dk_at dksX4_wordsOf_3 14 rfl rfl)
theorem dX4_wordsOf_85 : decode cX4_wordsOf 85 = .ok (.iload_n 1, 1) := dk_27 (dk_at dksX4_wordsOf_3 15 rfl rfl)
theorem dX4_wordsOf_86 : decode cX4_wordsOf 86 = .ok (.invokevirtual 346, 3) := dk_182 1 90 (dk_at dksX4_wordsOf_3 16 rfl rfl)
theorem dX4_wordsOf_89 : decode cX4_wordsOf 89 = .ok (.invokestatic 374, 3) := dk_184 1 118 (dk_at dksX4_wordsOf_3 19 rfl rfl)
theorem dX4_wordsOf_92 : decode cX4_wordsOf 92 = .ok (.i2l, 1) := dk_133 (dk_at dksX4_wordsOf_3 22 rfl rfl)
theorem dX4_wordsOf_93 : decode cX4_wordsOf 93 = .ok (.lastore, 1) := dk_80 (dk_at dksX4_wordsOf_3 23 rfl rfl)
theorem dX4_wordsOf_94 : decode cX4_wordsOf 94 = .ok (.bipush 6, 2) := dk_16 6 (dk_at dksX4_wordsOf_4 0 rfl rfl)
theorem dX4_wordsOf_96 : decode cX4_wordsOf 96 = .ok (.istore_n 2, 1) := dk_61 (dk_at dksX4_wordsOf_4 2 rfl rfl)
theorem dX4_wordsOf_97 : decode cX4_wordsOf 97 = .ok (.iload_n 2, 1) := dk_28 (dk_at dksX4_wordsOf_4 3 rfl rfl)
theorem dX4_wordsOf_98 : decode cX4_wordsOf 98 = .ok (.bipush 13, 2) := dk_16 13 (dk_at dksX4_wordsOf_4 4 rfl rfl)
theorem dX4_wordsOf_100 : decode cX4_wordsOf 100 = .ok (.if_icmp .ge 16, 3) := dk_162 0 16 (dk_at dksX4_wordsOf_4 6 rfl rfl)
theorem dX4_wordsOf_103 : decode cX4_wordsOf 103 = .ok (.aload_n 0, 1) := dk_42 (dk_at dksX4_wordsOf_4 9 rfl rfl)
theorem dX4_wordsOf_104 : decode cX4_wordsOf 104 = .ok (.getfield 36, 3) := dk_180 0 36 (dk_at dksX4_wordsOf_4 10 rfl rfl)
theorem dX4_wordsOf_107 : decode cX4_wordsOf 107 = .ok (.iload_n 2, 1) := dk_28 (dk_at dksX4_wordsOf_4 13 rfl rfl)
theorem dX4_wordsOf_108 : decode cX4_wordsOf 108 = .ok (.lconst 0, 1) := dk_9 (dk_at dksX4_wordsOf_4 14 rfl rfl)
theorem dX4_wordsOf_109 : decode cX4_wordsOf 109 = .ok (.lastore, 1) := dk_80 (dk_at dksX4_wordsOf_4 15 rfl rfl)
theorem dX4_wordsOf_110 : decode cX4_wordsOf 110 = .ok (.iinc 2 1, 3) := dk_132 2 1 (dk_at dksX4_wordsOf_4 16 rfl rfl)
theorem dX4_wordsOf_113 : decode cX4_wordsOf 113 = .ok (.goto (-16), 3) := dk_167 255 240 (dk_at dksX4_wordsOf_4 19 rfl rfl)
theorem dX4_wordsOf_116 : decode cX4_wordsOf 116 = .ok (.return_, 1) := dk_177 (dk_at dksX4_wordsOf_4 22 rfl rfl)
abbrev cX4_fitting : ByteArray := prog_20_method_89_code
def yX4_fitting : MethodName := ⟨RX4, "fitting", "(III)I"⟩
def dkwX4_fitting_2 : List UInt8 := [167, 0, 4, 3, 96, 54, 4, 132, 5, 1, 167, 255, 206, 21, 4, 172]
abbrev dktX4_fitting_2 : List UInt8 := dkwX4_fitting_2 ++ []
def dkwX4_fitting_1 : List UInt8 := [159, 0, 27, 27, 21, 5, 184, 0, 215, 153, 0, 18, 42, 21, 5, 28, 182, 1, 70, 29, 160, 0, 7, 4]
abbrev dktX4_fitting_1 : List UInt8 := dkwX4_fitting_1 ++ dktX4_fitting_2
def dkwX4_fitting_0 : List UInt8 := [3, 54, 4, 3, 54, 5, 21, 5, 42, 180, 0, 39, 4, 46, 162, 0, 45, 21, 4, 21, 5, 28]
abbrev dktX4_fitting_0 : List UInt8 := dkwX4_fitting_0 ++ dktX4_fitting_1
theorem dksX4_fitting_0 : cX4_fitting.data.toList.drop 0 = dktX4_fitting_0 := by decide +kernel
theorem dksX4_fitting_1 : cX4_fitting.data.toList.drop 22 = dktX4_fitting_1 := dk_seg dksX4_fitting_0 22 rfl rfl
theorem dksX4_fitting_2 : cX4_fitting.data.toList.drop 46 = dktX4_fitting_2 := dk_seg dksX4_fitting_1 24 rfl rfl
theorem dX4_fitting_0 : decode cX4_fitting 0 = .ok (.iconst 0, 1) := dk_3 (dk_at dksX4_fitting_0 0 rfl rfl)
theorem dX4_fitting_1 : decode cX4_fitting 1 = .ok (.istore 4, 2) := dk_54 4 (dk_at dksX4_fitting_0 1 rfl rfl)
theorem dX4_fitting_3 : decode cX4_fitting 3 = .ok (.iconst 0, 1) := dk_3 (dk_at dksX4_fitting_0 3 rfl rfl)
theorem dX4_fitting_4 : decode cX4_fitting 4 = .ok (.istore 5, 2) := dk_54 5 (dk_at dksX4_fitting_0 4 rfl rfl)
theorem dX4_fitting_6 : decode cX4_fitting 6 = .ok (.iload 5, 2) := dk_21 5 (dk_at dksX4_fitting_0 6 rfl rfl)
theorem dX4_fitting_8 : decode cX4_fitting 8 = .ok (.aload_n 0, 1) := dk_42 (dk_at dksX4_fitting_0 8 rfl rfl)
theorem dX4_fitting_9 : decode cX4_fitting 9 = .ok (.getfield 39, 3) := dk_180 0 39 (dk_at dksX4_fitting_0 9 rfl rfl)
theorem dX4_fitting_12 : decode cX4_fitting 12 = .ok (.iconst 1, 1) := dk_4 (dk_at dksX4_fitting_0 12 rfl rfl)
theorem dX4_fitting_13 : decode cX4_fitting 13 = .ok (.iaload, 1) := dk_46 (dk_at dksX4_fitting_0 13 rfl rfl)
theorem dX4_fitting_14 : decode cX4_fitting 14 = .ok (.if_icmp .ge 45, 3) := dk_162 0 45 (dk_at dksX4_fitting_0 14 rfl rfl)
theorem dX4_fitting_17 : decode cX4_fitting 17 = .ok (.iload 4, 2) := dk_21 4 (dk_at dksX4_fitting_0 17 rfl rfl)
theorem dX4_fitting_19 : decode cX4_fitting 19 = .ok (.iload 5, 2) := dk_21 5 (dk_at dksX4_fitting_0 19 rfl rfl)
theorem dX4_fitting_21 : decode cX4_fitting 21 = .ok (.iload_n 2, 1) := dk_28 (dk_at dksX4_fitting_0 21 rfl rfl)
theorem dX4_fitting_22 : decode cX4_fitting 22 = .ok (.if_icmp .eq 27, 3) := dk_159 0 27 (dk_at dksX4_fitting_1 0 rfl rfl)
theorem dX4_fitting_25 : decode cX4_fitting 25 = .ok (.iload_n 1, 1) := dk_27 (dk_at dksX4_fitting_1 3 rfl rfl)
theorem dX4_fitting_26 : decode cX4_fitting 26 = .ok (.iload 5, 2) := dk_21 5 (dk_at dksX4_fitting_1 4 rfl rfl)
theorem dX4_fitting_28 : decode cX4_fitting 28 = .ok (.invokestatic 215, 3) := dk_184 0 215 (dk_at dksX4_fitting_1 6 rfl rfl)
theorem dX4_fitting_31 : decode cX4_fitting 31 = .ok (.ifCond .eq 18, 3) := dk_153 0 18 (dk_at dksX4_fitting_1 9 rfl rfl)
theorem dX4_fitting_34 : decode cX4_fitting 34 = .ok (.aload_n 0, 1) := dk_42 (dk_at dksX4_fitting_1 12 rfl rfl)
theorem dX4_fitting_35 : decode cX4_fitting 35 = .ok (.iload 5, 2) := dk_21 5 (dk_at dksX4_fitting_1 13 rfl rfl)
theorem dX4_fitting_37 : decode cX4_fitting 37 = .ok (.iload_n 2, 1) := dk_28 (dk_at dksX4_fitting_1 15 rfl rfl)
theorem dX4_fitting_38 : decode cX4_fitting 38 = .ok (.invokevirtual 326, 3) := dk_182 1 70 (dk_at dksX4_fitting_1 16 rfl rfl)
theorem dX4_fitting_41 : decode cX4_fitting 41 = .ok (.iload_n 3, 1) := dk_29 (dk_at dksX4_fitting_1 19 rfl rfl)
theorem dX4_fitting_42 : decode cX4_fitting 42 = .ok (.if_icmp .ne 7, 3) := dk_160 0 7 (dk_at dksX4_fitting_1 20 rfl rfl)
theorem dX4_fitting_45 : decode cX4_fitting 45 = .ok (.iconst 1, 1) := dk_4 (dk_at dksX4_fitting_1 23 rfl rfl)
theorem dX4_fitting_46 : decode cX4_fitting 46 = .ok (.goto 4, 3) := dk_167 0 4 (dk_at dksX4_fitting_2 0 rfl rfl)
theorem dX4_fitting_49 : decode cX4_fitting 49 = .ok (.iconst 0, 1) := dk_3 (dk_at dksX4_fitting_2 3 rfl rfl)
theorem dX4_fitting_50 : decode cX4_fitting 50 = .ok (.iadd, 1) := dk_96 (dk_at dksX4_fitting_2 4 rfl rfl)
theorem dX4_fitting_51 : decode cX4_fitting 51 = .ok (.istore 4, 2) := dk_54 4 (dk_at dksX4_fitting_2 5 rfl rfl)
theorem dX4_fitting_53 : decode cX4_fitting 53 = .ok (.iinc 5 1, 3) := dk_132 5 1 (dk_at dksX4_fitting_2 7 rfl rfl)
theorem dX4_fitting_56 : decode cX4_fitting 56 = .ok (.goto (-50), 3) := dk_167 255 206 (dk_at dksX4_fitting_2 10 rfl rfl)
theorem dX4_fitting_59 : decode cX4_fitting 59 = .ok (.iload 4, 2) := dk_21 4 (dk_at dksX4_fitting_2 13 rfl rfl)
theorem dX4_fitting_61 : decode cX4_fitting 61 = .ok (.ireturn, 1) := dk_172 (dk_at dksX4_fitting_2 15 rfl rfl)
