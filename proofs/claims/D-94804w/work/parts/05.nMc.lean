set_option maxRecDepth 100000
abbrev cX4_atStalls : ByteArray := prog_20_method_64_code
def yX4_atStalls : MethodName := ⟨RX4, "atStalls", "()I"⟩
def dkwX4_atStalls_1 : List UInt8 := [162, 0, 9, 4, 28, 120, 167, 0, 4, 3, 128, 60, 132, 2, 1, 167, 255, 222, 27, 172]
abbrev dktX4_atStalls_1 : List UInt8 := dkwX4_atStalls_1 ++ []
def dkwX4_atStalls_0 : List UInt8 := [3, 60, 3, 61, 28, 42, 180, 0, 39, 4, 46, 162, 0, 30, 27, 42, 28, 6, 182, 1, 45, 16, 100]
abbrev dktX4_atStalls_0 : List UInt8 := dkwX4_atStalls_0 ++ dktX4_atStalls_1
theorem dksX4_atStalls_0 : cX4_atStalls.data.toList.drop 0 = dktX4_atStalls_0 := by decide +kernel
theorem dksX4_atStalls_1 : cX4_atStalls.data.toList.drop 23 = dktX4_atStalls_1 := dk_seg dksX4_atStalls_0 23 rfl rfl
theorem dX4_atStalls_0 : decode cX4_atStalls 0 = .ok (.iconst 0, 1) := dk_3 (dk_at dksX4_atStalls_0 0 rfl rfl)
theorem dX4_atStalls_1 : decode cX4_atStalls 1 = .ok (.istore_n 1, 1) := dk_60 (dk_at dksX4_atStalls_0 1 rfl rfl)
theorem dX4_atStalls_2 : decode cX4_atStalls 2 = .ok (.iconst 0, 1) := dk_3 (dk_at dksX4_atStalls_0 2 rfl rfl)
theorem dX4_atStalls_3 : decode cX4_atStalls 3 = .ok (.istore_n 2, 1) := dk_61 (dk_at dksX4_atStalls_0 3 rfl rfl)
theorem dX4_atStalls_4 : decode cX4_atStalls 4 = .ok (.iload_n 2, 1) := dk_28 (dk_at dksX4_atStalls_0 4 rfl rfl)
theorem dX4_atStalls_5 : decode cX4_atStalls 5 = .ok (.aload_n 0, 1) := dk_42 (dk_at dksX4_atStalls_0 5 rfl rfl)
theorem dX4_atStalls_6 : decode cX4_atStalls 6 = .ok (.getfield 39, 3) := dk_180 0 39 (dk_at dksX4_atStalls_0 6 rfl rfl)
theorem dX4_atStalls_9 : decode cX4_atStalls 9 = .ok (.iconst 1, 1) := dk_4 (dk_at dksX4_atStalls_0 9 rfl rfl)
theorem dX4_atStalls_10 : decode cX4_atStalls 10 = .ok (.iaload, 1) := dk_46 (dk_at dksX4_atStalls_0 10 rfl rfl)
theorem dX4_atStalls_11 : decode cX4_atStalls 11 = .ok (.if_icmp .ge 30, 3) := dk_162 0 30 (dk_at dksX4_atStalls_0 11 rfl rfl)
theorem dX4_atStalls_14 : decode cX4_atStalls 14 = .ok (.iload_n 1, 1) := dk_27 (dk_at dksX4_atStalls_0 14 rfl rfl)
theorem dX4_atStalls_15 : decode cX4_atStalls 15 = .ok (.aload_n 0, 1) := dk_42 (dk_at dksX4_atStalls_0 15 rfl rfl)
theorem dX4_atStalls_16 : decode cX4_atStalls 16 = .ok (.iload_n 2, 1) := dk_28 (dk_at dksX4_atStalls_0 16 rfl rfl)
theorem dX4_atStalls_17 : decode cX4_atStalls 17 = .ok (.iconst 3, 1) := dk_6 (dk_at dksX4_atStalls_0 17 rfl rfl)
theorem dX4_atStalls_18 : decode cX4_atStalls 18 = .ok (.invokevirtual 301, 3) := dk_182 1 45 (dk_at dksX4_atStalls_0 18 rfl rfl)
theorem dX4_atStalls_21 : decode cX4_atStalls 21 = .ok (.bipush 100, 2) := dk_16 100 (dk_at dksX4_atStalls_0 21 rfl rfl)
theorem dX4_atStalls_23 : decode cX4_atStalls 23 = .ok (.if_icmp .ge 9, 3) := dk_162 0 9 (dk_at dksX4_atStalls_1 0 rfl rfl)
theorem dX4_atStalls_26 : decode cX4_atStalls 26 = .ok (.iconst 1, 1) := dk_4 (dk_at dksX4_atStalls_1 3 rfl rfl)
theorem dX4_atStalls_27 : decode cX4_atStalls 27 = .ok (.iload_n 2, 1) := dk_28 (dk_at dksX4_atStalls_1 4 rfl rfl)
theorem dX4_atStalls_28 : decode cX4_atStalls 28 = .ok (.ishl, 1) := dk_120 (dk_at dksX4_atStalls_1 5 rfl rfl)
theorem dX4_atStalls_29 : decode cX4_atStalls 29 = .ok (.goto 4, 3) := dk_167 0 4 (dk_at dksX4_atStalls_1 6 rfl rfl)
theorem dX4_atStalls_32 : decode cX4_atStalls 32 = .ok (.iconst 0, 1) := dk_3 (dk_at dksX4_atStalls_1 9 rfl rfl)
theorem dX4_atStalls_33 : decode cX4_atStalls 33 = .ok (.ior, 1) := dk_128 (dk_at dksX4_atStalls_1 10 rfl rfl)
theorem dX4_atStalls_34 : decode cX4_atStalls 34 = .ok (.istore_n 1, 1) := dk_60 (dk_at dksX4_atStalls_1 11 rfl rfl)
theorem dX4_atStalls_35 : decode cX4_atStalls 35 = .ok (.iinc 2 1, 3) := dk_132 2 1 (dk_at dksX4_atStalls_1 12 rfl rfl)
theorem dX4_atStalls_38 : decode cX4_atStalls 38 = .ok (.goto (-34), 3) := dk_167 255 222 (dk_at dksX4_atStalls_1 15 rfl rfl)
theorem dX4_atStalls_41 : decode cX4_atStalls 41 = .ok (.iload_n 1, 1) := dk_27 (dk_at dksX4_atStalls_1 18 rfl rfl)
theorem dX4_atStalls_42 : decode cX4_atStalls 42 = .ok (.ireturn, 1) := dk_172 (dk_at dksX4_atStalls_1 19 rfl rfl)
abbrev cX4_summedBy : ByteArray := prog_20_method_91_code
def yX4_summedBy : MethodName := ⟨RX4, "summedBy", "(II)J"⟩
def dkwX4_summedBy_4 : List UInt8 := [182, 1, 134, 173, 132, 3, 1, 167, 255, 158, 9, 173]
abbrev dktX4_summedBy_4 : List UInt8 := dkwX4_summedBy_4 ++ []
def dkwX4_summedBy_3 : List UInt8 := [154, 0, 27, 42, 27, 42, 180, 0, 20, 21, 4, 4, 96, 46, 42, 180, 0, 20, 21, 4, 5, 96, 46]
abbrev dktX4_summedBy_3 : List UInt8 := dkwX4_summedBy_3 ++ dktX4_summedBy_4
def dkwX4_summedBy_2 : List UInt8 := [42, 180, 0, 20, 21, 4, 6, 96, 46, 42, 180, 0, 20, 21, 4, 7, 96, 46, 182, 1, 134, 10, 148]
abbrev dktX4_summedBy_2 : List UInt8 := dkwX4_summedBy_2 ++ dktX4_summedBy_3
def dkwX4_summedBy_1 : List UInt8 := [180, 0, 20, 21, 4, 46, 28, 160, 0, 67, 42, 180, 0, 20, 21, 4, 6, 96, 46, 155, 0, 31, 42, 27]
abbrev dktX4_summedBy_1 : List UInt8 := dkwX4_summedBy_1 ++ dktX4_summedBy_2
def dkwX4_summedBy_0 : List UInt8 := [3, 62, 29, 42, 180, 0, 23, 27, 46, 162, 0, 94, 16, 60, 27, 104, 8, 29, 104, 96, 54, 4, 42]
abbrev dktX4_summedBy_0 : List UInt8 := dkwX4_summedBy_0 ++ dktX4_summedBy_1
theorem dksX4_summedBy_0 : cX4_summedBy.data.toList.drop 0 = dktX4_summedBy_0 := by decide +kernel
theorem dksX4_summedBy_1 : cX4_summedBy.data.toList.drop 23 = dktX4_summedBy_1 := dk_seg dksX4_summedBy_0 23 rfl rfl
theorem dksX4_summedBy_2 : cX4_summedBy.data.toList.drop 47 = dktX4_summedBy_2 := dk_seg dksX4_summedBy_1 24 rfl rfl
theorem dksX4_summedBy_3 : cX4_summedBy.data.toList.drop 70 = dktX4_summedBy_3 := dk_seg dksX4_summedBy_2 23 rfl rfl
theorem dksX4_summedBy_4 : cX4_summedBy.data.toList.drop 93 = dktX4_summedBy_4 := dk_seg dksX4_summedBy_3 23 rfl rfl
theorem dX4_summedBy_0 : decode cX4_summedBy 0 = .ok (.iconst 0, 1) := dk_3 (dk_at dksX4_summedBy_0 0 rfl rfl)
theorem dX4_summedBy_1 : decode cX4_summedBy 1 = .ok (.istore_n 3, 1) := dk_62 (dk_at dksX4_summedBy_0 1 rfl rfl)
theorem dX4_summedBy_2 : decode cX4_summedBy 2 = .ok (.iload_n 3, 1) := dk_29 (dk_at dksX4_summedBy_0 2 rfl rfl)
theorem dX4_summedBy_3 : decode cX4_summedBy 3 = .ok (.aload_n 0, 1) := dk_42 (dk_at dksX4_summedBy_0 3 rfl rfl)
theorem dX4_summedBy_4 : decode cX4_summedBy 4 = .ok (.getfield 23, 3) := dk_180 0 23 (dk_at dksX4_summedBy_0 4 rfl rfl)
theorem dX4_summedBy_7 : decode cX4_summedBy 7 = .ok (.iload_n 1, 1) := dk_27 (dk_at dksX4_summedBy_0 7 rfl rfl)
theorem dX4_summedBy_8 : decode cX4_summedBy 8 = .ok (.iaload, 1) := dk_46 (dk_at dksX4_summedBy_0 8 rfl rfl)
theorem dX4_summedBy_9 : decode cX4_summedBy 9 = .ok (.if_icmp .ge 94, 3) := dk_162 0 94 (dk_at dksX4_summedBy_0 9 rfl rfl)
theorem dX4_summedBy_12 : decode cX4_summedBy 12 = .ok (.bipush 60, 2) := dk_16 60 (dk_at dksX4_summedBy_0 12 rfl rfl)
theorem dX4_summedBy_14 : decode cX4_summedBy 14 = .ok (.iload_n 1, 1) := dk_27 (dk_at dksX4_summedBy_0 14 rfl rfl)
theorem dX4_summedBy_15 : decode cX4_summedBy 15 = .ok (.imul, 1) := dk_104 (dk_at dksX4_summedBy_0 15 rfl rfl)
theorem dX4_summedBy_16 : decode cX4_summedBy 16 = .ok (.iconst 5, 1) := dk_8 (dk_at dksX4_summedBy_0 16 rfl rfl)
theorem dX4_summedBy_17 : decode cX4_summedBy 17 = .ok (.iload_n 3, 1) := dk_29 (dk_at dksX4_summedBy_0 17 rfl rfl)
theorem dX4_summedBy_18 : decode cX4_summedBy 18 = .ok (.imul, 1) := dk_104 (dk_at dksX4_summedBy_0 18 rfl rfl)
theorem dX4_summedBy_19 : decode cX4_summedBy 19 = .ok (.iadd, 1) := dk_96 (dk_at dksX4_summedBy_0 19 rfl rfl)
theorem dX4_summedBy_20 : decode cX4_summedBy 20 = .ok (.istore 4, 2) := dk_54 4 (dk_at dksX4_summedBy_0 20 rfl rfl)
theorem dX4_summedBy_22 : decode cX4_summedBy 22 = .ok (.aload_n 0, 1) := dk_42 (dk_at dksX4_summedBy_0 22 rfl rfl)
theorem dX4_summedBy_23 : decode cX4_summedBy 23 = .ok (.getfield 20, 3) := dk_180 0 20 (dk_at dksX4_summedBy_1 0 rfl rfl)
theorem dX4_summedBy_26 : decode cX4_summedBy 26 = .ok (.iload 4, 2) := dk_21 4 (dk_at dksX4_summedBy_1 3 rfl rfl)
theorem dX4_summedBy_28 : decode cX4_summedBy 28 = .ok (.iaload, 1) := dk_46 (dk_at dksX4_summedBy_1 5 rfl rfl)
theorem dX4_summedBy_29 : decode cX4_summedBy 29 = .ok (.iload_n 2, 1) := dk_28 (dk_at dksX4_summedBy_1 6 rfl rfl)
theorem dX4_summedBy_30 : decode cX4_summedBy 30 = .ok (.if_icmp .ne 67, 3) := dk_160 0 67 (dk_at dksX4_summedBy_1 7 rfl rfl)
theorem dX4_summedBy_33 : decode cX4_summedBy 33 = .ok (.aload_n 0, 1) := dk_42 (dk_at dksX4_summedBy_1 10 rfl rfl)
theorem dX4_summedBy_34 : decode cX4_summedBy 34 = .ok (.getfield 20, 3) := dk_180 0 20 (dk_at dksX4_summedBy_1 11 rfl rfl)
theorem dX4_summedBy_37 : decode cX4_summedBy 37 = .ok (.iload 4, 2) := dk_21 4 (dk_at dksX4_summedBy_1 14 rfl rfl)
theorem dX4_summedBy_39 : decode cX4_summedBy 39 = .ok (.iconst 3, 1) := dk_6 (dk_at dksX4_summedBy_1 16 rfl rfl)
theorem dX4_summedBy_40 : decode cX4_summedBy 40 = .ok (.iadd, 1) := dk_96 (dk_at dksX4_summedBy_1 17 rfl rfl)
theorem dX4_summedBy_41 : decode cX4_summedBy 41 = .ok (.iaload, 1) := dk_46 (dk_at dksX4_summedBy_1 18 rfl rfl)
theorem dX4_summedBy_42 : decode cX4_summedBy 42 = .ok (.ifCond .lt 31, 3) := dk_155 0 31 (dk_at dksX4_summedBy_1 19 rfl rfl)
theorem dX4_summedBy_45 : decode cX4_summedBy 45 = .ok (.aload_n 0, 1) := dk_42 (dk_at dksX4_summedBy_1 22 rfl rfl)
theorem dX4_summedBy_46 : decode cX4_summedBy 46 = .ok (.iload_n 1, 1) := dk_27 (dk_at dksX4_summedBy_1 23 rfl rfl)
theorem dX4_summedBy_47 : decode cX4_summedBy 47 = .ok (.aload_n 0, 1) := dk_42 (dk_at dksX4_summedBy_2 0 rfl rfl)
theorem dX4_summedBy_48 : decode cX4_summedBy 48 = .ok (.getfield 20, 3) := dk_180 0 20 (dk_at dksX4_summedBy_2 1 rfl rfl)
theorem dX4_summedBy_51 : decode cX4_summedBy 51 = .ok (.iload 4, 2) := dk_21 4 (dk_at dksX4_summedBy_2 4 rfl rfl)
theorem dX4_summedBy_53 : decode cX4_summedBy 53 = .ok (.iconst 3, 1) := dk_6 (dk_at dksX4_summedBy_2 6 rfl rfl)
theorem dX4_summedBy_54 : decode cX4_summedBy 54 = .ok (.iadd, 1) := dk_96 (dk_at dksX4_summedBy_2 7 rfl rfl)
theorem dX4_summedBy_55 : decode cX4_summedBy 55 = .ok (.iaload, 1) := dk_46 (dk_at dksX4_summedBy_2 8 rfl rfl)
theorem dX4_summedBy_56 : decode cX4_summedBy 56 = .ok (.aload_n 0, 1) := dk_42 (dk_at dksX4_summedBy_2 9 rfl rfl)
theorem dX4_summedBy_57 : decode cX4_summedBy 57 = .ok (.getfield 20, 3) := dk_180 0 20 (dk_at dksX4_summedBy_2 10 rfl rfl)
theorem dX4_summedBy_60 : decode cX4_summedBy 60 = .ok (.iload 4, 2) := dk_21 4 (dk_at dksX4_summedBy_2 13 rfl rfl)
theorem dX4_summedBy_62 : decode cX4_summedBy 62 = .ok (.iconst 4, 1) := dk_7 (dk_at dksX4_summedBy_2 15 rfl rfl)
theorem dX4_summedBy_63 : decode cX4_summedBy 63 = .ok (.iadd, 1) := dk_96 (dk_at dksX4_summedBy_2 16 rfl rfl)
theorem dX4_summedBy_64 : decode cX4_summedBy 64 = .ok (.iaload, 1) := dk_46 (dk_at dksX4_summedBy_2 17 rfl rfl)
theorem dX4_summedBy_65 : decode cX4_summedBy 65 = .ok (.invokevirtual 390, 3) := dk_182 1 134 (dk_at dksX4_summedBy_2 18 rfl rfl)
theorem dX4_summedBy_68 : decode cX4_summedBy 68 = .ok (.lconst 1, 1) := dk_10 (dk_at dksX4_summedBy_2 21 rfl rfl)
theorem dX4_summedBy_69 : decode cX4_summedBy 69 = .ok (.lcmp, 1) := dk_148 (dk_at dksX4_summedBy_2 22 rfl rfl)
theorem dX4_summedBy_70 : decode cX4_summedBy 70 = .ok (.ifCond .ne 27, 3) := dk_154 0 27 (dk_at dksX4_summedBy_3 0 rfl rfl)
theorem dX4_summedBy_73 : decode cX4_summedBy 73 = .ok (.aload_n 0, 1) := dk_42 (dk_at dksX4_summedBy_3 3 rfl rfl)
theorem dX4_summedBy_74 : decode cX4_summedBy 74 = .ok (.iload_n 1, 1) := dk_27 (dk_at dksX4_summedBy_3 4 rfl rfl)
theorem dX4_summedBy_75 : decode cX4_summedBy 75 = .ok (.aload_n 0, 1) := dk_42 (dk_at dksX4_summedBy_3 5 rfl rfl)
theorem dX4_summedBy_76 : decode cX4_summedBy 76 = .ok (.getfield 20, 3) := dk_180 0 20 (dk_at dksX4_summedBy_3 6 rfl rfl)
theorem dX4_summedBy_79 : decode cX4_summedBy 79 = .ok (.iload 4, 2) := dk_21 4 (dk_at dksX4_summedBy_3 9 rfl rfl)
theorem dX4_summedBy_81 : decode cX4_summedBy 81 = .ok (.iconst 1, 1) := dk_4 (dk_at dksX4_summedBy_3 11 rfl rfl)
theorem dX4_summedBy_82 : decode cX4_summedBy 82 = .ok (.iadd, 1) := dk_96 (dk_at dksX4_summedBy_3 12 rfl rfl)
theorem dX4_summedBy_83 : decode cX4_summedBy 83 = .ok (.iaload, 1) := dk_46 (dk_at dksX4_summedBy_3 13 rfl rfl)
theorem dX4_summedBy_84 : decode cX4_summedBy 84 = .ok (.aload_n 0, 1) := dk_42 (dk_at dksX4_summedBy_3 14 rfl rfl)
theorem dX4_summedBy_85 : decode cX4_summedBy 85 = .ok (.getfield 20, 3) := dk_180 0 20 (dk_at dksX4_summedBy_3 15 rfl rfl)
theorem dX4_summedBy_88 : decode cX4_summedBy 88 = .ok (.iload 4, 2) := dk_21 4 (dk_at dksX4_summedBy_3 18 rfl rfl)
theorem dX4_summedBy_90 : decode cX4_summedBy 90 = .ok (.iconst 2, 1) := dk_5 (dk_at dksX4_summedBy_3 20 rfl rfl)
theorem dX4_summedBy_91 : decode cX4_summedBy 91 = .ok (.iadd, 1) := dk_96 (dk_at dksX4_summedBy_3 21 rfl rfl)
theorem dX4_summedBy_92 : decode cX4_summedBy 92 = .ok (.iaload, 1) := dk_46 (dk_at dksX4_summedBy_3 22 rfl rfl)
theorem dX4_summedBy_93 : decode cX4_summedBy 93 = .ok (.invokevirtual 390, 3) := dk_182 1 134 (dk_at dksX4_summedBy_4 0 rfl rfl)
theorem dX4_summedBy_96 : decode cX4_summedBy 96 = .ok (.lreturn, 1) := dk_173 (dk_at dksX4_summedBy_4 3 rfl rfl)
theorem dX4_summedBy_97 : decode cX4_summedBy 97 = .ok (.iinc 3 1, 3) := dk_132 3 1 (dk_at dksX4_summedBy_4 4 rfl rfl)
theorem dX4_summedBy_100 : decode cX4_summedBy 100 = .ok (.goto (-98), 3) := dk_167 255 158 (dk_at dksX4_summedBy_4 7 rfl rfl)
theorem dX4_summedBy_103 : decode cX4_summedBy 103 = .ok (.lconst 0, 1) := dk_9 (dk_at dksX4_summedBy_4 10 rfl rfl)
theorem dX4_summedBy_104 : decode cX4_summedBy 104 = .ok (.lreturn, 1) := dk_173 (dk_at dksX4_summedBy_4 11 rfl rfl)
abbrev cX4_reckons : ByteArray := prog_20_method_48_code
def yX4_reckons : MethodName := ⟨RX4, "reckons", "(III)J"⟩
def dkwX4_reckons_5 : List UInt8 := [21, 5, 22, 9, 22, 7, 184, 1, 38, 182, 1, 30, 132, 4, 1, 167, 255, 132, 42, 182, 1, 34, 173]
abbrev dktX4_reckons_5 : List UInt8 := dkwX4_reckons_5 ++ []
def dkwX4_reckons_4 : List UInt8 := [182, 1, 34, 101, 182, 1, 30, 167, 0, 28, 42, 182, 1, 34, 55, 7, 42, 182, 1, 34, 55, 9, 42]
abbrev dktX4_reckons_4 : List UInt8 := dkwX4_reckons_4 ++ dktX4_reckons_5
def dkwX4_reckons_3 : List UInt8 := [42, 180, 0, 36, 21, 6, 47, 182, 1, 30, 167, 0, 48, 21, 5, 16, 11, 160, 0, 16, 42, 10, 42]
abbrev dktX4_reckons_3 : List UInt8 := dkwX4_reckons_3 ++ dktX4_reckons_4
def dkwX4_reckons_2 : List UInt8 := [54, 6, 21, 5, 154, 0, 13, 42, 21, 6, 133, 182, 1, 30, 167, 0, 68, 21, 5, 4, 160, 0, 17, 42]
abbrev dktX4_reckons_2 : List UInt8 := dkwX4_reckons_2 ++ dktX4_reckons_3
def dkwX4_reckons_1 : List UInt8 := [21, 4, 96, 46, 16, 15, 126, 54, 5, 42, 180, 0, 13, 17, 1, 144, 27, 104, 21, 4, 96, 46, 7, 122]
abbrev dktX4_reckons_1 : List UInt8 := dkwX4_reckons_1 ++ dktX4_reckons_2
def dkwX4_reckons_0 : List UInt8 := [42, 3, 181, 1, 27, 28, 54, 4, 21, 4, 29, 162, 0, 124, 42, 180, 0, 13, 17, 1, 144, 27, 104]
abbrev dktX4_reckons_0 : List UInt8 := dkwX4_reckons_0 ++ dktX4_reckons_1
theorem dksX4_reckons_0 : cX4_reckons.data.toList.drop 0 = dktX4_reckons_0 := by decide +kernel
theorem dksX4_reckons_1 : cX4_reckons.data.toList.drop 23 = dktX4_reckons_1 := dk_seg dksX4_reckons_0 23 rfl rfl
theorem dksX4_reckons_2 : cX4_reckons.data.toList.drop 47 = dktX4_reckons_2 := dk_seg dksX4_reckons_1 24 rfl rfl
theorem dksX4_reckons_3 : cX4_reckons.data.toList.drop 71 = dktX4_reckons_3 := dk_seg dksX4_reckons_2 24 rfl rfl
theorem dksX4_reckons_4 : cX4_reckons.data.toList.drop 94 = dktX4_reckons_4 := dk_seg dksX4_reckons_3 23 rfl rfl
theorem dksX4_reckons_5 : cX4_reckons.data.toList.drop 117 = dktX4_reckons_5 := dk_seg dksX4_reckons_4 23 rfl rfl
theorem dX4_reckons_0 : decode cX4_reckons 0 = .ok (.aload_n 0, 1) := dk_42 (dk_at dksX4_reckons_0 0 rfl rfl)
theorem dX4_reckons_1 : decode cX4_reckons 1 = .ok (.iconst 0, 1) := dk_3 (dk_at dksX4_reckons_0 1 rfl rfl)
theorem dX4_reckons_2 : decode cX4_reckons 2 = .ok (.putfield 283, 3) := dk_181 1 27 (dk_at dksX4_reckons_0 2 rfl rfl)
theorem dX4_reckons_5 : decode cX4_reckons 5 = .ok (.iload_n 2, 1) := dk_28 (dk_at dksX4_reckons_0 5 rfl rfl)
theorem dX4_reckons_6 : decode cX4_reckons 6 = .ok (.istore 4, 2) := dk_54 4 (dk_at dksX4_reckons_0 6 rfl rfl)
theorem dX4_reckons_8 : decode cX4_reckons 8 = .ok (.iload 4, 2) := dk_21 4 (dk_at dksX4_reckons_0 8 rfl rfl)
theorem dX4_reckons_10 : decode cX4_reckons 10 = .ok (.iload_n 3, 1) := dk_29 (dk_at dksX4_reckons_0 10 rfl rfl)
theorem dX4_reckons_11 : decode cX4_reckons 11 = .ok (.if_icmp .ge 124, 3) := dk_162 0 124 (dk_at dksX4_reckons_0 11 rfl rfl)
theorem dX4_reckons_14 : decode cX4_reckons 14 = .ok (.aload_n 0, 1) := dk_42 (dk_at dksX4_reckons_0 14 rfl rfl)
theorem dX4_reckons_15 : decode cX4_reckons 15 = .ok (.getfield 13, 3) := dk_180 0 13 (dk_at dksX4_reckons_0 15 rfl rfl)
theorem dX4_reckons_18 : decode cX4_reckons 18 = .ok (.sipush 400, 3) := dk_17 1 144 (dk_at dksX4_reckons_0 18 rfl rfl)
theorem dX4_reckons_21 : decode cX4_reckons 21 = .ok (.iload_n 1, 1) := dk_27 (dk_at dksX4_reckons_0 21 rfl rfl)
theorem dX4_reckons_22 : decode cX4_reckons 22 = .ok (.imul, 1) := dk_104 (dk_at dksX4_reckons_0 22 rfl rfl)
theorem dX4_reckons_23 : decode cX4_reckons 23 = .ok (.iload 4, 2) := dk_21 4 (dk_at dksX4_reckons_1 0 rfl rfl)
theorem dX4_reckons_25 : decode cX4_reckons 25 = .ok (.iadd, 1) := dk_96 (dk_at dksX4_reckons_1 2 rfl rfl)
theorem dX4_reckons_26 : decode cX4_reckons 26 = .ok (.iaload, 1) := dk_46 (dk_at dksX4_reckons_1 3 rfl rfl)
theorem dX4_reckons_27 : decode cX4_reckons 27 = .ok (.bipush 15, 2) := dk_16 15 (dk_at dksX4_reckons_1 4 rfl rfl)
theorem dX4_reckons_29 : decode cX4_reckons 29 = .ok (.iand, 1) := dk_126 (dk_at dksX4_reckons_1 6 rfl rfl)
theorem dX4_reckons_30 : decode cX4_reckons 30 = .ok (.istore 5, 2) := dk_54 5 (dk_at dksX4_reckons_1 7 rfl rfl)
theorem dX4_reckons_32 : decode cX4_reckons 32 = .ok (.aload_n 0, 1) := dk_42 (dk_at dksX4_reckons_1 9 rfl rfl)
theorem dX4_reckons_33 : decode cX4_reckons 33 = .ok (.getfield 13, 3) := dk_180 0 13 (dk_at dksX4_reckons_1 10 rfl rfl)
theorem dX4_reckons_36 : decode cX4_reckons 36 = .ok (.sipush 400, 3) := dk_17 1 144 (dk_at dksX4_reckons_1 13 rfl rfl)
theorem dX4_reckons_39 : decode cX4_reckons 39 = .ok (.iload_n 1, 1) := dk_27 (dk_at dksX4_reckons_1 16 rfl rfl)
theorem dX4_reckons_40 : decode cX4_reckons 40 = .ok (.imul, 1) := dk_104 (dk_at dksX4_reckons_1 17 rfl rfl)
theorem dX4_reckons_41 : decode cX4_reckons 41 = .ok (.iload 4, 2) := dk_21 4 (dk_at dksX4_reckons_1 18 rfl rfl)
theorem dX4_reckons_43 : decode cX4_reckons 43 = .ok (.iadd, 1) := dk_96 (dk_at dksX4_reckons_1 20 rfl rfl)
theorem dX4_reckons_44 : decode cX4_reckons 44 = .ok (.iaload, 1) := dk_46 (dk_at dksX4_reckons_1 21 rfl rfl)
theorem dX4_reckons_45 : decode cX4_reckons 45 = .ok (.iconst 4, 1) := dk_7 (dk_at dksX4_reckons_1 22 rfl rfl)
theorem dX4_reckons_46 : decode cX4_reckons 46 = .ok (.ishr, 1) := dk_122 (dk_at dksX4_reckons_1 23 rfl rfl)
theorem dX4_reckons_47 : decode cX4_reckons 47 = .ok (.istore 6, 2) := dk_54 6 (dk_at dksX4_reckons_2 0 rfl rfl)
theorem dX4_reckons_49 : decode cX4_reckons 49 = .ok (.iload 5, 2) := dk_21 5 (dk_at dksX4_reckons_2 2 rfl rfl)
theorem dX4_reckons_51 : decode cX4_reckons 51 = .ok (.ifCond .ne 13, 3) := dk_154 0 13 (dk_at dksX4_reckons_2 4 rfl rfl)
theorem dX4_reckons_54 : decode cX4_reckons 54 = .ok (.aload_n 0, 1) := dk_42 (dk_at dksX4_reckons_2 7 rfl rfl)
theorem dX4_reckons_55 : decode cX4_reckons 55 = .ok (.iload 6, 2) := dk_21 6 (dk_at dksX4_reckons_2 8 rfl rfl)
theorem dX4_reckons_57 : decode cX4_reckons 57 = .ok (.i2l, 1) := dk_133 (dk_at dksX4_reckons_2 10 rfl rfl)
theorem dX4_reckons_58 : decode cX4_reckons 58 = .ok (.invokevirtual 286, 3) := dk_182 1 30 (dk_at dksX4_reckons_2 11 rfl rfl)
theorem dX4_reckons_61 : decode cX4_reckons 61 = .ok (.goto 68, 3) := dk_167 0 68 (dk_at dksX4_reckons_2 14 rfl rfl)
theorem dX4_reckons_64 : decode cX4_reckons 64 = .ok (.iload 5, 2) := dk_21 5 (dk_at dksX4_reckons_2 17 rfl rfl)
theorem dX4_reckons_66 : decode cX4_reckons 66 = .ok (.iconst 1, 1) := dk_4 (dk_at dksX4_reckons_2 19 rfl rfl)
theorem dX4_reckons_67 : decode cX4_reckons 67 = .ok (.if_icmp .ne 17, 3) := dk_160 0 17 (dk_at dksX4_reckons_2 20 rfl rfl)
theorem dX4_reckons_70 : decode cX4_reckons 70 = .ok (.aload_n 0, 1) := dk_42 (dk_at dksX4_reckons_2 23 rfl rfl)
theorem dX4_reckons_71 : decode cX4_reckons 71 = .ok (.aload_n 0, 1) := dk_42 (dk_at dksX4_reckons_3 0 rfl rfl)
theorem dX4_reckons_72 : decode cX4_reckons 72 = .ok (.getfield 36, 3) := dk_180 0 36 (dk_at dksX4_reckons_3 1 rfl rfl)
theorem dX4_reckons_75 : decode cX4_reckons 75 = .ok (.iload 6, 2) := dk_21 6 (dk_at dksX4_reckons_3 4 rfl rfl)
theorem dX4_reckons_77 : decode cX4_reckons 77 = .ok (.laload, 1) := dk_47 (dk_at dksX4_reckons_3 6 rfl rfl)
theorem dX4_reckons_78 : decode cX4_reckons 78 = .ok (.invokevirtual 286, 3) := dk_182 1 30 (dk_at dksX4_reckons_3 7 rfl rfl)
theorem dX4_reckons_81 : decode cX4_reckons 81 = .ok (.goto 48, 3) := dk_167 0 48 (dk_at dksX4_reckons_3 10 rfl rfl)
theorem dX4_reckons_84 : decode cX4_reckons 84 = .ok (.iload 5, 2) := dk_21 5 (dk_at dksX4_reckons_3 13 rfl rfl)
theorem dX4_reckons_86 : decode cX4_reckons 86 = .ok (.bipush 11, 2) := dk_16 11 (dk_at dksX4_reckons_3 15 rfl rfl)
theorem dX4_reckons_88 : decode cX4_reckons 88 = .ok (.if_icmp .ne 16, 3) := dk_160 0 16 (dk_at dksX4_reckons_3 17 rfl rfl)
theorem dX4_reckons_91 : decode cX4_reckons 91 = .ok (.aload_n 0, 1) := dk_42 (dk_at dksX4_reckons_3 20 rfl rfl)
theorem dX4_reckons_92 : decode cX4_reckons 92 = .ok (.lconst 1, 1) := dk_10 (dk_at dksX4_reckons_3 21 rfl rfl)
theorem dX4_reckons_93 : decode cX4_reckons 93 = .ok (.aload_n 0, 1) := dk_42 (dk_at dksX4_reckons_3 22 rfl rfl)
theorem dX4_reckons_94 : decode cX4_reckons 94 = .ok (.invokevirtual 290, 3) := dk_182 1 34 (dk_at dksX4_reckons_4 0 rfl rfl)
theorem dX4_reckons_97 : decode cX4_reckons 97 = .ok (.lsub, 1) := dk_101 (dk_at dksX4_reckons_4 3 rfl rfl)
theorem dX4_reckons_98 : decode cX4_reckons 98 = .ok (.invokevirtual 286, 3) := dk_182 1 30 (dk_at dksX4_reckons_4 4 rfl rfl)
theorem dX4_reckons_101 : decode cX4_reckons 101 = .ok (.goto 28, 3) := dk_167 0 28 (dk_at dksX4_reckons_4 7 rfl rfl)
theorem dX4_reckons_104 : decode cX4_reckons 104 = .ok (.aload_n 0, 1) := dk_42 (dk_at dksX4_reckons_4 10 rfl rfl)
theorem dX4_reckons_105 : decode cX4_reckons 105 = .ok (.invokevirtual 290, 3) := dk_182 1 34 (dk_at dksX4_reckons_4 11 rfl rfl)
theorem dX4_reckons_108 : decode cX4_reckons 108 = .ok (.lstore 7, 2) := dk_55 7 (dk_at dksX4_reckons_4 14 rfl rfl)
theorem dX4_reckons_110 : decode cX4_reckons 110 = .ok (.aload_n 0, 1) := dk_42 (dk_at dksX4_reckons_4 16 rfl rfl)
theorem dX4_reckons_111 : decode cX4_reckons 111 = .ok (.invokevirtual 290, 3) := dk_182 1 34 (dk_at dksX4_reckons_4 17 rfl rfl)
theorem dX4_reckons_114 : decode cX4_reckons 114 = .ok (.lstore 9, 2) := dk_55 9 (dk_at dksX4_reckons_4 20 rfl rfl)
theorem dX4_reckons_116 : decode cX4_reckons 116 = .ok (.aload_n 0, 1) := dk_42 (dk_at dksX4_reckons_4 22 rfl rfl)
theorem dX4_reckons_117 : decode cX4_reckons 117 = .ok (.iload 5, 2) := dk_21 5 (dk_at dksX4_reckons_5 0 rfl rfl)
theorem dX4_reckons_119 : decode cX4_reckons 119 = .ok (.lload 9, 2) := dk_22 9 (dk_at dksX4_reckons_5 2 rfl rfl)
theorem dX4_reckons_121 : decode cX4_reckons 121 = .ok (.lload 7, 2) := dk_22 7 (dk_at dksX4_reckons_5 4 rfl rfl)
theorem dX4_reckons_123 : decode cX4_reckons 123 = .ok (.invokestatic 294, 3) := dk_184 1 38 (dk_at dksX4_reckons_5 6 rfl rfl)
theorem dX4_reckons_126 : decode cX4_reckons 126 = .ok (.invokevirtual 286, 3) := dk_182 1 30 (dk_at dksX4_reckons_5 9 rfl rfl)
theorem dX4_reckons_129 : decode cX4_reckons 129 = .ok (.iinc 4 1, 3) := dk_132 4 1 (dk_at dksX4_reckons_5 12 rfl rfl)
theorem dX4_reckons_132 : decode cX4_reckons 132 = .ok (.goto (-124), 3) := dk_167 255 132 (dk_at dksX4_reckons_5 15 rfl rfl)
theorem dX4_reckons_135 : decode cX4_reckons 135 = .ok (.aload_n 0, 1) := dk_42 (dk_at dksX4_reckons_5 18 rfl rfl)
theorem dX4_reckons_136 : decode cX4_reckons 136 = .ok (.invokevirtual 290, 3) := dk_182 1 34 (dk_at dksX4_reckons_5 19 rfl rfl)
theorem dX4_reckons_139 : decode cX4_reckons 139 = .ok (.lreturn, 1) := dk_173 (dk_at dksX4_reckons_5 22 rfl rfl)
abbrev cX4_push : ByteArray := prog_20_method_45_code
def yX4_push : MethodName := ⟨RX4, "push", "(J)V"⟩
def dkwX4_push_0 : List UInt8 := [42, 180, 0, 32, 42, 180, 1, 27, 31, 80, 42, 89, 180, 1, 27, 4, 96, 181, 1, 27, 177]
abbrev dktX4_push_0 : List UInt8 := dkwX4_push_0 ++ []
theorem dksX4_push_0 : cX4_push.data.toList.drop 0 = dktX4_push_0 := by decide +kernel
theorem dX4_push_0 : decode cX4_push 0 = .ok (.aload_n 0, 1) := dk_42 (dk_at dksX4_push_0 0 rfl rfl)
theorem dX4_push_1 : decode cX4_push 1 = .ok (.getfield 32, 3) := dk_180 0 32 (dk_at dksX4_push_0 1 rfl rfl)
theorem dX4_push_4 : decode cX4_push 4 = .ok (.aload_n 0, 1) := dk_42 (dk_at dksX4_push_0 4 rfl rfl)
theorem dX4_push_5 : decode cX4_push 5 = .ok (.getfield 283, 3) := dk_180 1 27 (dk_at dksX4_push_0 5 rfl rfl)
theorem dX4_push_8 : decode cX4_push 8 = .ok (.lload_n 1, 1) := dk_31 (dk_at dksX4_push_0 8 rfl rfl)
theorem dX4_push_9 : decode cX4_push 9 = .ok (.lastore, 1) := dk_80 (dk_at dksX4_push_0 9 rfl rfl)
theorem dX4_push_10 : decode cX4_push 10 = .ok (.aload_n 0, 1) := dk_42 (dk_at dksX4_push_0 10 rfl rfl)
theorem dX4_push_11 : decode cX4_push 11 = .ok (.dup, 1) := dk_89 (dk_at dksX4_push_0 11 rfl rfl)
theorem dX4_push_12 : decode cX4_push 12 = .ok (.getfield 283, 3) := dk_180 1 27 (dk_at dksX4_push_0 12 rfl rfl)
theorem dX4_push_15 : decode cX4_push 15 = .ok (.iconst 1, 1) := dk_4 (dk_at dksX4_push_0 15 rfl rfl)
theorem dX4_push_16 : decode cX4_push 16 = .ok (.iadd, 1) := dk_96 (dk_at dksX4_push_0 16 rfl rfl)
theorem dX4_push_17 : decode cX4_push 17 = .ok (.putfield 283, 3) := dk_181 1 27 (dk_at dksX4_push_0 17 rfl rfl)
theorem dX4_push_20 : decode cX4_push 20 = .ok (.return_, 1) := dk_177 (dk_at dksX4_push_0 20 rfl rfl)
abbrev cX4_pop : ByteArray := prog_20_method_46_code
def yX4_pop : MethodName := ⟨RX4, "pop", "()J"⟩
def dkwX4_pop_0 : List UInt8 := [42, 89, 180, 1, 27, 4, 100, 181, 1, 27, 42, 180, 0, 32, 42, 180, 1, 27, 47, 173]
abbrev dktX4_pop_0 : List UInt8 := dkwX4_pop_0 ++ []
theorem dksX4_pop_0 : cX4_pop.data.toList.drop 0 = dktX4_pop_0 := by decide +kernel
theorem dX4_pop_0 : decode cX4_pop 0 = .ok (.aload_n 0, 1) := dk_42 (dk_at dksX4_pop_0 0 rfl rfl)
theorem dX4_pop_1 : decode cX4_pop 1 = .ok (.dup, 1) := dk_89 (dk_at dksX4_pop_0 1 rfl rfl)
theorem dX4_pop_2 : decode cX4_pop 2 = .ok (.getfield 283, 3) := dk_180 1 27 (dk_at dksX4_pop_0 2 rfl rfl)
theorem dX4_pop_5 : decode cX4_pop 5 = .ok (.iconst 1, 1) := dk_4 (dk_at dksX4_pop_0 5 rfl rfl)
theorem dX4_pop_6 : decode cX4_pop 6 = .ok (.isub, 1) := dk_100 (dk_at dksX4_pop_0 6 rfl rfl)
theorem dX4_pop_7 : decode cX4_pop 7 = .ok (.putfield 283, 3) := dk_181 1 27 (dk_at dksX4_pop_0 7 rfl rfl)
theorem dX4_pop_10 : decode cX4_pop 10 = .ok (.aload_n 0, 1) := dk_42 (dk_at dksX4_pop_0 10 rfl rfl)
theorem dX4_pop_11 : decode cX4_pop 11 = .ok (.getfield 32, 3) := dk_180 0 32 (dk_at dksX4_pop_0 11 rfl rfl)
theorem dX4_pop_14 : decode cX4_pop 14 = .ok (.aload_n 0, 1) := dk_42 (dk_at dksX4_pop_0 14 rfl rfl)
theorem dX4_pop_15 : decode cX4_pop 15 = .ok (.getfield 283, 3) := dk_180 1 27 (dk_at dksX4_pop_0 15 rfl rfl)
theorem dX4_pop_18 : decode cX4_pop 18 = .ok (.laload, 1) := dk_47 (dk_at dksX4_pop_0 18 rfl rfl)
theorem dX4_pop_19 : decode cX4_pop 19 = .ok (.lreturn, 1) := dk_173 (dk_at dksX4_pop_0 19 rfl rfl)
abbrev cX4_one : ByteArray := prog_20_method_47_code
def yX4_one : MethodName := ⟨RX4, "one", "(IJJ)J"⟩
def dkwX4_one_6 : List UInt8 := [167, 0, 4, 9, 173, 31, 33, 127, 173, 31, 33, 129, 173]
abbrev dktX4_one_6 : List UInt8 := dkwX4_one_6 ++ []
def dkwX4_one_5 : List UInt8 := [167, 0, 4, 9, 173, 31, 33, 148, 155, 0, 7, 10, 167, 0, 4, 9, 173, 31, 33, 148, 158, 0, 7, 10]
abbrev dktX4_one_5 : List UInt8 := dkwX4_one_5 ++ dktX4_one_6
def dkwX4_one_4 : List UInt8 := [167, 0, 4, 9, 173, 31, 33, 148, 157, 0, 7, 10, 167, 0, 4, 9, 173, 31, 33, 148, 154, 0, 7, 10]
abbrev dktX4_one_4 : List UInt8 := dkwX4_one_4 ++ dktX4_one_5
def dkwX4_one_3 : List UInt8 := [109, 173, 33, 9, 148, 154, 0, 7, 9, 167, 0, 6, 31, 33, 113, 173, 31, 33, 148, 156, 0, 7, 10]
abbrev dktX4_one_3 : List UInt8 := dkwX4_one_3 ++ dktX4_one_4
def dkwX4_one_2 : List UInt8 := [31, 33, 97, 173, 31, 33, 101, 173, 31, 33, 105, 173, 33, 9, 148, 154, 0, 7, 9, 167, 0, 6, 31, 33]
abbrev dktX4_one_2 : List UInt8 := dkwX4_one_2 ++ dktX4_one_3
def dkwX4_one_1 : List UInt8 := [170, 0, 0, 0, 0, 0, 171, 0, 0, 0, 2, 0, 0, 0, 14, 0, 0, 0, 67, 0, 0, 0, 71, 0, 0, 0, 75, 0, 0, 0, 79, 0, 0, 0, 107, 0, 0, 0, 119, 0, 0, 0, 131, 0, 0, 0, 143, 0, 0, 0, 155, 0, 0, 0, 171, 0, 0, 0, 167, 0, 0, 0, 171, 0, 0, 0, 93]
abbrev dktX4_one_1 : List UInt8 := dkwX4_one_1 ++ dktX4_one_2
def dkwX4_one_0 : List UInt8 := [26]
abbrev dktX4_one_0 : List UInt8 := dkwX4_one_0 ++ dktX4_one_1
theorem dksX4_one_0 : cX4_one.data.toList.drop 0 = dktX4_one_0 := by decide +kernel
theorem dksX4_one_1 : cX4_one.data.toList.drop 1 = dktX4_one_1 := dk_seg dksX4_one_0 1 rfl rfl
theorem dksX4_one_2 : cX4_one.data.toList.drop 68 = dktX4_one_2 := dk_seg dksX4_one_1 67 rfl rfl
theorem dksX4_one_3 : cX4_one.data.toList.drop 92 = dktX4_one_3 := dk_seg dksX4_one_2 24 rfl rfl
theorem dksX4_one_4 : cX4_one.data.toList.drop 115 = dktX4_one_4 := dk_seg dksX4_one_3 23 rfl rfl
theorem dksX4_one_5 : cX4_one.data.toList.drop 139 = dktX4_one_5 := dk_seg dksX4_one_4 24 rfl rfl
theorem dksX4_one_6 : cX4_one.data.toList.drop 163 = dktX4_one_6 := dk_seg dksX4_one_5 24 rfl rfl
theorem dX4_one_0 : decode cX4_one 0 = .ok (.iload_n 0, 1) := dk_26 (dk_at dksX4_one_0 0 rfl rfl)
theorem dX4_one_1 : decode cX4_one 1 = .ok (.tableswitch 171 2 14 #[67, 71, 75, 79, 107, 119, 131, 143, 155, 171, 167, 171, 93], 67) := by decide +kernel
theorem dX4_one_68 : decode cX4_one 68 = .ok (.lload_n 1, 1) := dk_31 (dk_at dksX4_one_2 0 rfl rfl)
theorem dX4_one_69 : decode cX4_one 69 = .ok (.lload_n 3, 1) := dk_33 (dk_at dksX4_one_2 1 rfl rfl)
theorem dX4_one_70 : decode cX4_one 70 = .ok (.ladd, 1) := dk_97 (dk_at dksX4_one_2 2 rfl rfl)
theorem dX4_one_71 : decode cX4_one 71 = .ok (.lreturn, 1) := dk_173 (dk_at dksX4_one_2 3 rfl rfl)
theorem dX4_one_72 : decode cX4_one 72 = .ok (.lload_n 1, 1) := dk_31 (dk_at dksX4_one_2 4 rfl rfl)
theorem dX4_one_73 : decode cX4_one 73 = .ok (.lload_n 3, 1) := dk_33 (dk_at dksX4_one_2 5 rfl rfl)
theorem dX4_one_74 : decode cX4_one 74 = .ok (.lsub, 1) := dk_101 (dk_at dksX4_one_2 6 rfl rfl)
theorem dX4_one_75 : decode cX4_one 75 = .ok (.lreturn, 1) := dk_173 (dk_at dksX4_one_2 7 rfl rfl)
theorem dX4_one_76 : decode cX4_one 76 = .ok (.lload_n 1, 1) := dk_31 (dk_at dksX4_one_2 8 rfl rfl)
theorem dX4_one_77 : decode cX4_one 77 = .ok (.lload_n 3, 1) := dk_33 (dk_at dksX4_one_2 9 rfl rfl)
theorem dX4_one_78 : decode cX4_one 78 = .ok (.lmul, 1) := dk_105 (dk_at dksX4_one_2 10 rfl rfl)
theorem dX4_one_79 : decode cX4_one 79 = .ok (.lreturn, 1) := dk_173 (dk_at dksX4_one_2 11 rfl rfl)
theorem dX4_one_80 : decode cX4_one 80 = .ok (.lload_n 3, 1) := dk_33 (dk_at dksX4_one_2 12 rfl rfl)
theorem dX4_one_81 : decode cX4_one 81 = .ok (.lconst 0, 1) := dk_9 (dk_at dksX4_one_2 13 rfl rfl)
theorem dX4_one_82 : decode cX4_one 82 = .ok (.lcmp, 1) := dk_148 (dk_at dksX4_one_2 14 rfl rfl)
theorem dX4_one_83 : decode cX4_one 83 = .ok (.ifCond .ne 7, 3) := dk_154 0 7 (dk_at dksX4_one_2 15 rfl rfl)
theorem dX4_one_86 : decode cX4_one 86 = .ok (.lconst 0, 1) := dk_9 (dk_at dksX4_one_2 18 rfl rfl)
theorem dX4_one_87 : decode cX4_one 87 = .ok (.goto 6, 3) := dk_167 0 6 (dk_at dksX4_one_2 19 rfl rfl)
theorem dX4_one_90 : decode cX4_one 90 = .ok (.lload_n 1, 1) := dk_31 (dk_at dksX4_one_2 22 rfl rfl)
theorem dX4_one_91 : decode cX4_one 91 = .ok (.lload_n 3, 1) := dk_33 (dk_at dksX4_one_2 23 rfl rfl)
theorem dX4_one_92 : decode cX4_one 92 = .ok (.ldiv, 1) := dk_109 (dk_at dksX4_one_3 0 rfl rfl)
theorem dX4_one_93 : decode cX4_one 93 = .ok (.lreturn, 1) := dk_173 (dk_at dksX4_one_3 1 rfl rfl)
theorem dX4_one_94 : decode cX4_one 94 = .ok (.lload_n 3, 1) := dk_33 (dk_at dksX4_one_3 2 rfl rfl)
theorem dX4_one_95 : decode cX4_one 95 = .ok (.lconst 0, 1) := dk_9 (dk_at dksX4_one_3 3 rfl rfl)
theorem dX4_one_96 : decode cX4_one 96 = .ok (.lcmp, 1) := dk_148 (dk_at dksX4_one_3 4 rfl rfl)
theorem dX4_one_97 : decode cX4_one 97 = .ok (.ifCond .ne 7, 3) := dk_154 0 7 (dk_at dksX4_one_3 5 rfl rfl)
theorem dX4_one_100 : decode cX4_one 100 = .ok (.lconst 0, 1) := dk_9 (dk_at dksX4_one_3 8 rfl rfl)
theorem dX4_one_101 : decode cX4_one 101 = .ok (.goto 6, 3) := dk_167 0 6 (dk_at dksX4_one_3 9 rfl rfl)
theorem dX4_one_104 : decode cX4_one 104 = .ok (.lload_n 1, 1) := dk_31 (dk_at dksX4_one_3 12 rfl rfl)
theorem dX4_one_105 : decode cX4_one 105 = .ok (.lload_n 3, 1) := dk_33 (dk_at dksX4_one_3 13 rfl rfl)
theorem dX4_one_106 : decode cX4_one 106 = .ok (.lrem, 1) := dk_113 (dk_at dksX4_one_3 14 rfl rfl)
theorem dX4_one_107 : decode cX4_one 107 = .ok (.lreturn, 1) := dk_173 (dk_at dksX4_one_3 15 rfl rfl)
theorem dX4_one_108 : decode cX4_one 108 = .ok (.lload_n 1, 1) := dk_31 (dk_at dksX4_one_3 16 rfl rfl)
theorem dX4_one_109 : decode cX4_one 109 = .ok (.lload_n 3, 1) := dk_33 (dk_at dksX4_one_3 17 rfl rfl)
theorem dX4_one_110 : decode cX4_one 110 = .ok (.lcmp, 1) := dk_148 (dk_at dksX4_one_3 18 rfl rfl)
theorem dX4_one_111 : decode cX4_one 111 = .ok (.ifCond .ge 7, 3) := dk_156 0 7 (dk_at dksX4_one_3 19 rfl rfl)
theorem dX4_one_114 : decode cX4_one 114 = .ok (.lconst 1, 1) := dk_10 (dk_at dksX4_one_3 22 rfl rfl)
theorem dX4_one_115 : decode cX4_one 115 = .ok (.goto 4, 3) := dk_167 0 4 (dk_at dksX4_one_4 0 rfl rfl)
theorem dX4_one_118 : decode cX4_one 118 = .ok (.lconst 0, 1) := dk_9 (dk_at dksX4_one_4 3 rfl rfl)
theorem dX4_one_119 : decode cX4_one 119 = .ok (.lreturn, 1) := dk_173 (dk_at dksX4_one_4 4 rfl rfl)
theorem dX4_one_120 : decode cX4_one 120 = .ok (.lload_n 1, 1) := dk_31 (dk_at dksX4_one_4 5 rfl rfl)
theorem dX4_one_121 : decode cX4_one 121 = .ok (.lload_n 3, 1) := dk_33 (dk_at dksX4_one_4 6 rfl rfl)
theorem dX4_one_122 : decode cX4_one 122 = .ok (.lcmp, 1) := dk_148 (dk_at dksX4_one_4 7 rfl rfl)
theorem dX4_one_123 : decode cX4_one 123 = .ok (.ifCond .gt 7, 3) := dk_157 0 7 (dk_at dksX4_one_4 8 rfl rfl)
theorem dX4_one_126 : decode cX4_one 126 = .ok (.lconst 1, 1) := dk_10 (dk_at dksX4_one_4 11 rfl rfl)
theorem dX4_one_127 : decode cX4_one 127 = .ok (.goto 4, 3) := dk_167 0 4 (dk_at dksX4_one_4 12 rfl rfl)
theorem dX4_one_130 : decode cX4_one 130 = .ok (.lconst 0, 1) := dk_9 (dk_at dksX4_one_4 15 rfl rfl)
theorem dX4_one_131 : decode cX4_one 131 = .ok (.lreturn, 1) := dk_173 (dk_at dksX4_one_4 16 rfl rfl)
theorem dX4_one_132 : decode cX4_one 132 = .ok (.lload_n 1, 1) := dk_31 (dk_at dksX4_one_4 17 rfl rfl)
theorem dX4_one_133 : decode cX4_one 133 = .ok (.lload_n 3, 1) := dk_33 (dk_at dksX4_one_4 18 rfl rfl)
theorem dX4_one_134 : decode cX4_one 134 = .ok (.lcmp, 1) := dk_148 (dk_at dksX4_one_4 19 rfl rfl)
theorem dX4_one_135 : decode cX4_one 135 = .ok (.ifCond .ne 7, 3) := dk_154 0 7 (dk_at dksX4_one_4 20 rfl rfl)
theorem dX4_one_138 : decode cX4_one 138 = .ok (.lconst 1, 1) := dk_10 (dk_at dksX4_one_4 23 rfl rfl)
theorem dX4_one_139 : decode cX4_one 139 = .ok (.goto 4, 3) := dk_167 0 4 (dk_at dksX4_one_5 0 rfl rfl)
theorem dX4_one_142 : decode cX4_one 142 = .ok (.lconst 0, 1) := dk_9 (dk_at dksX4_one_5 3 rfl rfl)
theorem dX4_one_143 : decode cX4_one 143 = .ok (.lreturn, 1) := dk_173 (dk_at dksX4_one_5 4 rfl rfl)
theorem dX4_one_144 : decode cX4_one 144 = .ok (.lload_n 1, 1) := dk_31 (dk_at dksX4_one_5 5 rfl rfl)
theorem dX4_one_145 : decode cX4_one 145 = .ok (.lload_n 3, 1) := dk_33 (dk_at dksX4_one_5 6 rfl rfl)
theorem dX4_one_146 : decode cX4_one 146 = .ok (.lcmp, 1) := dk_148 (dk_at dksX4_one_5 7 rfl rfl)
theorem dX4_one_147 : decode cX4_one 147 = .ok (.ifCond .lt 7, 3) := dk_155 0 7 (dk_at dksX4_one_5 8 rfl rfl)
theorem dX4_one_150 : decode cX4_one 150 = .ok (.lconst 1, 1) := dk_10 (dk_at dksX4_one_5 11 rfl rfl)
theorem dX4_one_151 : decode cX4_one 151 = .ok (.goto 4, 3) := dk_167 0 4 (dk_at dksX4_one_5 12 rfl rfl)
theorem dX4_one_154 : decode cX4_one 154 = .ok (.lconst 0, 1) := dk_9 (dk_at dksX4_one_5 15 rfl rfl)
theorem dX4_one_155 : decode cX4_one 155 = .ok (.lreturn, 1) := dk_173 (dk_at dksX4_one_5 16 rfl rfl)
theorem dX4_one_156 : decode cX4_one 156 = .ok (.lload_n 1, 1) := dk_31 (dk_at dksX4_one_5 17 rfl rfl)
theorem dX4_one_157 : decode cX4_one 157 = .ok (.lload_n 3, 1) := dk_33 (dk_at dksX4_one_5 18 rfl rfl)
theorem dX4_one_158 : decode cX4_one 158 = .ok (.lcmp, 1) := dk_148 (dk_at dksX4_one_5 19 rfl rfl)
theorem dX4_one_159 : decode cX4_one 159 = .ok (.ifCond .le 7, 3) := dk_158 0 7 (dk_at dksX4_one_5 20 rfl rfl)
theorem dX4_one_162 : decode cX4_one 162 = .ok (.lconst 1, 1) := dk_10 (dk_at dksX4_one_5 23 rfl rfl)
theorem dX4_one_163 : decode cX4_one 163 = .ok (.goto 4, 3) := dk_167 0 4 (dk_at dksX4_one_6 0 rfl rfl)
theorem dX4_one_166 : decode cX4_one 166 = .ok (.lconst 0, 1) := dk_9 (dk_at dksX4_one_6 3 rfl rfl)
theorem dX4_one_167 : decode cX4_one 167 = .ok (.lreturn, 1) := dk_173 (dk_at dksX4_one_6 4 rfl rfl)
theorem dX4_one_168 : decode cX4_one 168 = .ok (.lload_n 1, 1) := dk_31 (dk_at dksX4_one_6 5 rfl rfl)
theorem dX4_one_169 : decode cX4_one 169 = .ok (.lload_n 3, 1) := dk_33 (dk_at dksX4_one_6 6 rfl rfl)
theorem dX4_one_170 : decode cX4_one 170 = .ok (.land, 1) := dk_127 (dk_at dksX4_one_6 7 rfl rfl)
theorem dX4_one_171 : decode cX4_one 171 = .ok (.lreturn, 1) := dk_173 (dk_at dksX4_one_6 8 rfl rfl)
theorem dX4_one_172 : decode cX4_one 172 = .ok (.lload_n 1, 1) := dk_31 (dk_at dksX4_one_6 9 rfl rfl)
theorem dX4_one_173 : decode cX4_one 173 = .ok (.lload_n 3, 1) := dk_33 (dk_at dksX4_one_6 10 rfl rfl)
theorem dX4_one_174 : decode cX4_one 174 = .ok (.lor, 1) := dk_129 (dk_at dksX4_one_6 11 rfl rfl)
theorem dX4_one_175 : decode cX4_one 175 = .ok (.lreturn, 1) := dk_173 (dk_at dksX4_one_6 12 rfl rfl)
abbrev cX4_goingBy : ByteArray := prog_20_method_94_code
def yX4_goingBy : MethodName := ⟨RX4, "goingBy", "(II)I"⟩
def dkwX4_goingBy_1 : List UInt8 := [20, 1, 98, 148, 154, 0, 7, 2, 167, 0, 4, 3, 172]
abbrev dktX4_goingBy_1 : List UInt8 := dkwX4_goingBy_1 ++ []
def dkwX4_goingBy_0 : List UInt8 := [42, 28, 182, 1, 124, 42, 27, 4, 182, 1, 141, 66, 33, 10, 148, 154, 0, 7, 4, 167, 0, 16, 33]
abbrev dktX4_goingBy_0 : List UInt8 := dkwX4_goingBy_0 ++ dktX4_goingBy_1
theorem dksX4_goingBy_0 : cX4_goingBy.data.toList.drop 0 = dktX4_goingBy_0 := by decide +kernel
theorem dksX4_goingBy_1 : cX4_goingBy.data.toList.drop 23 = dktX4_goingBy_1 := dk_seg dksX4_goingBy_0 23 rfl rfl
theorem dX4_goingBy_0 : decode cX4_goingBy 0 = .ok (.aload_n 0, 1) := dk_42 (dk_at dksX4_goingBy_0 0 rfl rfl)
theorem dX4_goingBy_1 : decode cX4_goingBy 1 = .ok (.iload_n 2, 1) := dk_28 (dk_at dksX4_goingBy_0 1 rfl rfl)
theorem dX4_goingBy_2 : decode cX4_goingBy 2 = .ok (.invokevirtual 380, 3) := dk_182 1 124 (dk_at dksX4_goingBy_0 2 rfl rfl)
theorem dX4_goingBy_5 : decode cX4_goingBy 5 = .ok (.aload_n 0, 1) := dk_42 (dk_at dksX4_goingBy_0 5 rfl rfl)
theorem dX4_goingBy_6 : decode cX4_goingBy 6 = .ok (.iload_n 1, 1) := dk_27 (dk_at dksX4_goingBy_0 6 rfl rfl)
theorem dX4_goingBy_7 : decode cX4_goingBy 7 = .ok (.iconst 1, 1) := dk_4 (dk_at dksX4_goingBy_0 7 rfl rfl)
theorem dX4_goingBy_8 : decode cX4_goingBy 8 = .ok (.invokevirtual 397, 3) := dk_182 1 141 (dk_at dksX4_goingBy_0 8 rfl rfl)
theorem dX4_goingBy_11 : decode cX4_goingBy 11 = .ok (.lstore_n 3, 1) := dk_66 (dk_at dksX4_goingBy_0 11 rfl rfl)
theorem dX4_goingBy_12 : decode cX4_goingBy 12 = .ok (.lload_n 3, 1) := dk_33 (dk_at dksX4_goingBy_0 12 rfl rfl)
theorem dX4_goingBy_13 : decode cX4_goingBy 13 = .ok (.lconst 1, 1) := dk_10 (dk_at dksX4_goingBy_0 13 rfl rfl)
theorem dX4_goingBy_14 : decode cX4_goingBy 14 = .ok (.lcmp, 1) := dk_148 (dk_at dksX4_goingBy_0 14 rfl rfl)
theorem dX4_goingBy_15 : decode cX4_goingBy 15 = .ok (.ifCond .ne 7, 3) := dk_154 0 7 (dk_at dksX4_goingBy_0 15 rfl rfl)
theorem dX4_goingBy_18 : decode cX4_goingBy 18 = .ok (.iconst 1, 1) := dk_4 (dk_at dksX4_goingBy_0 18 rfl rfl)
theorem dX4_goingBy_19 : decode cX4_goingBy 19 = .ok (.goto 16, 3) := dk_167 0 16 (dk_at dksX4_goingBy_0 19 rfl rfl)
theorem dX4_goingBy_22 : decode cX4_goingBy 22 = .ok (.lload_n 3, 1) := dk_33 (dk_at dksX4_goingBy_0 22 rfl rfl)
theorem dX4_goingBy_23 : decode cX4_goingBy 23 = .ok (.ldc2_w 354, 3) := dk_20 1 98 (dk_at dksX4_goingBy_1 0 rfl rfl)
theorem dX4_goingBy_26 : decode cX4_goingBy 26 = .ok (.lcmp, 1) := dk_148 (dk_at dksX4_goingBy_1 3 rfl rfl)
theorem dX4_goingBy_27 : decode cX4_goingBy 27 = .ok (.ifCond .ne 7, 3) := dk_154 0 7 (dk_at dksX4_goingBy_1 4 rfl rfl)
theorem dX4_goingBy_30 : decode cX4_goingBy 30 = .ok (.iconst (-1), 1) := dk_2 (dk_at dksX4_goingBy_1 7 rfl rfl)
theorem dX4_goingBy_31 : decode cX4_goingBy 31 = .ok (.goto 4, 3) := dk_167 0 4 (dk_at dksX4_goingBy_1 8 rfl rfl)
theorem dX4_goingBy_34 : decode cX4_goingBy 34 = .ok (.iconst 0, 1) := dk_3 (dk_at dksX4_goingBy_1 11 rfl rfl)
theorem dX4_goingBy_35 : decode cX4_goingBy 35 = .ok (.ireturn, 1) := dk_172 (dk_at dksX4_goingBy_1 12 rfl rfl)
abbrev cX4_walk : ByteArray := prog_20_method_102_code
def yX4_walk : MethodName := ⟨RX4, "walk", "(II)I"⟩
def dkwX4_walk_7 : List UInt8 := [160, 0, 10, 42, 180, 1, 178, 167, 0, 7, 42, 180, 1, 181, 172]
abbrev dktX4_walk_7 : List UInt8 := dkwX4_walk_7 ++ []
def dkwX4_walk_6 : List UInt8 := [21, 5, 182, 1, 189, 132, 5, 1, 167, 255, 223, 28, 154, 0, 10, 42, 180, 1, 172, 167, 0, 19, 28, 4]
abbrev dktX4_walk_6 : List UInt8 := dkwX4_walk_6 ++ dktX4_walk_7
def dkwX4_walk_5 : List UInt8 := [4, 42, 180, 0, 39, 4, 46, 120, 162, 0, 26, 21, 5, 21, 4, 2, 130, 126, 154, 0, 10, 42, 27]
abbrev dktX4_walk_5 : List UInt8 := dkwX4_walk_5 ++ dktX4_walk_6
def dkwX4_walk_4 : List UInt8 := [3, 172, 42, 27, 29, 182, 1, 186, 42, 2, 181, 1, 172, 42, 182, 1, 131, 54, 4, 3, 54, 5, 21, 5]
abbrev dktX4_walk_4 : List UInt8 := dkwX4_walk_4 ++ dktX4_walk_5
def dkwX4_walk_3 : List UInt8 := [182, 1, 90, 46, 42, 27, 3, 182, 1, 58, 96, 167, 0, 14, 28, 4, 160, 0, 8, 16, 254, 167, 0, 4]
abbrev dktX4_walk_3 : List UInt8 := dkwX4_walk_3 ++ dktX4_walk_4
def dkwX4_walk_2 : List UInt8 := [62, 29, 16, 12, 164, 0, 6, 16, 252, 172, 29, 154, 0, 39, 28, 154, 0, 23, 42, 180, 0, 42, 42, 27]
abbrev dktX4_walk_2 : List UInt8 := dkwX4_walk_2 ++ dktX4_walk_3
def dkwX4_walk_1 : List UInt8 := [182, 1, 42, 153, 0, 7, 3, 167, 0, 17, 42, 180, 0, 39, 16, 6, 46, 42, 180, 0, 39, 6, 46, 100]
abbrev dktX4_walk_1 : List UInt8 := dkwX4_walk_1 ++ dktX4_walk_2
def dkwX4_walk_0 : List UInt8 := [42, 27, 182, 1, 87, 153, 0, 15, 28, 133, 9, 20, 1, 184, 184, 0, 109, 154, 0, 6, 16, 253, 172, 42]
abbrev dktX4_walk_0 : List UInt8 := dkwX4_walk_0 ++ dktX4_walk_1
theorem dksX4_walk_0 : cX4_walk.data.toList.drop 0 = dktX4_walk_0 := by decide +kernel
theorem dksX4_walk_1 : cX4_walk.data.toList.drop 24 = dktX4_walk_1 := dk_seg dksX4_walk_0 24 rfl rfl
theorem dksX4_walk_2 : cX4_walk.data.toList.drop 48 = dktX4_walk_2 := dk_seg dksX4_walk_1 24 rfl rfl
theorem dksX4_walk_3 : cX4_walk.data.toList.drop 72 = dktX4_walk_3 := dk_seg dksX4_walk_2 24 rfl rfl
theorem dksX4_walk_4 : cX4_walk.data.toList.drop 96 = dktX4_walk_4 := dk_seg dksX4_walk_3 24 rfl rfl
theorem dksX4_walk_5 : cX4_walk.data.toList.drop 120 = dktX4_walk_5 := dk_seg dksX4_walk_4 24 rfl rfl
theorem dksX4_walk_6 : cX4_walk.data.toList.drop 143 = dktX4_walk_6 := dk_seg dksX4_walk_5 23 rfl rfl
theorem dksX4_walk_7 : cX4_walk.data.toList.drop 167 = dktX4_walk_7 := dk_seg dksX4_walk_6 24 rfl rfl
theorem dX4_walk_0 : decode cX4_walk 0 = .ok (.aload_n 0, 1) := dk_42 (dk_at dksX4_walk_0 0 rfl rfl)
theorem dX4_walk_1 : decode cX4_walk 1 = .ok (.iload_n 1, 1) := dk_27 (dk_at dksX4_walk_0 1 rfl rfl)
theorem dX4_walk_2 : decode cX4_walk 2 = .ok (.invokevirtual 343, 3) := dk_182 1 87 (dk_at dksX4_walk_0 2 rfl rfl)
theorem dX4_walk_5 : decode cX4_walk 5 = .ok (.ifCond .eq 15, 3) := dk_153 0 15 (dk_at dksX4_walk_0 5 rfl rfl)
theorem dX4_walk_8 : decode cX4_walk 8 = .ok (.iload_n 2, 1) := dk_28 (dk_at dksX4_walk_0 8 rfl rfl)
theorem dX4_walk_9 : decode cX4_walk 9 = .ok (.i2l, 1) := dk_133 (dk_at dksX4_walk_0 9 rfl rfl)
theorem dX4_walk_10 : decode cX4_walk 10 = .ok (.lconst 0, 1) := dk_9 (dk_at dksX4_walk_0 10 rfl rfl)
theorem dX4_walk_11 : decode cX4_walk 11 = .ok (.ldc2_w 440, 3) := dk_20 1 184 (dk_at dksX4_walk_0 11 rfl rfl)
theorem dX4_walk_14 : decode cX4_walk 14 = .ok (.invokestatic 109, 3) := dk_184 0 109 (dk_at dksX4_walk_0 14 rfl rfl)
theorem dX4_walk_17 : decode cX4_walk 17 = .ok (.ifCond .ne 6, 3) := dk_154 0 6 (dk_at dksX4_walk_0 17 rfl rfl)
theorem dX4_walk_20 : decode cX4_walk 20 = .ok (.bipush (-3), 2) := dk_16 253 (dk_at dksX4_walk_0 20 rfl rfl)
theorem dX4_walk_22 : decode cX4_walk 22 = .ok (.ireturn, 1) := dk_172 (dk_at dksX4_walk_0 22 rfl rfl)
theorem dX4_walk_23 : decode cX4_walk 23 = .ok (.aload_n 0, 1) := dk_42 (dk_at dksX4_walk_0 23 rfl rfl)
theorem dX4_walk_24 : decode cX4_walk 24 = .ok (.invokevirtual 298, 3) := dk_182 1 42 (dk_at dksX4_walk_1 0 rfl rfl)
theorem dX4_walk_27 : decode cX4_walk 27 = .ok (.ifCond .eq 7, 3) := dk_153 0 7 (dk_at dksX4_walk_1 3 rfl rfl)
theorem dX4_walk_30 : decode cX4_walk 30 = .ok (.iconst 0, 1) := dk_3 (dk_at dksX4_walk_1 6 rfl rfl)
theorem dX4_walk_31 : decode cX4_walk 31 = .ok (.goto 17, 3) := dk_167 0 17 (dk_at dksX4_walk_1 7 rfl rfl)
theorem dX4_walk_34 : decode cX4_walk 34 = .ok (.aload_n 0, 1) := dk_42 (dk_at dksX4_walk_1 10 rfl rfl)
theorem dX4_walk_35 : decode cX4_walk 35 = .ok (.getfield 39, 3) := dk_180 0 39 (dk_at dksX4_walk_1 11 rfl rfl)
theorem dX4_walk_38 : decode cX4_walk 38 = .ok (.bipush 6, 2) := dk_16 6 (dk_at dksX4_walk_1 14 rfl rfl)
theorem dX4_walk_40 : decode cX4_walk 40 = .ok (.iaload, 1) := dk_46 (dk_at dksX4_walk_1 16 rfl rfl)
theorem dX4_walk_41 : decode cX4_walk 41 = .ok (.aload_n 0, 1) := dk_42 (dk_at dksX4_walk_1 17 rfl rfl)
theorem dX4_walk_42 : decode cX4_walk 42 = .ok (.getfield 39, 3) := dk_180 0 39 (dk_at dksX4_walk_1 18 rfl rfl)
theorem dX4_walk_45 : decode cX4_walk 45 = .ok (.iconst 3, 1) := dk_6 (dk_at dksX4_walk_1 21 rfl rfl)
theorem dX4_walk_46 : decode cX4_walk 46 = .ok (.iaload, 1) := dk_46 (dk_at dksX4_walk_1 22 rfl rfl)
theorem dX4_walk_47 : decode cX4_walk 47 = .ok (.isub, 1) := dk_100 (dk_at dksX4_walk_1 23 rfl rfl)
theorem dX4_walk_48 : decode cX4_walk 48 = .ok (.istore_n 3, 1) := dk_62 (dk_at dksX4_walk_2 0 rfl rfl)
theorem dX4_walk_49 : decode cX4_walk 49 = .ok (.iload_n 3, 1) := dk_29 (dk_at dksX4_walk_2 1 rfl rfl)
theorem dX4_walk_50 : decode cX4_walk 50 = .ok (.bipush 12, 2) := dk_16 12 (dk_at dksX4_walk_2 2 rfl rfl)
theorem dX4_walk_52 : decode cX4_walk 52 = .ok (.if_icmp .le 6, 3) := dk_164 0 6 (dk_at dksX4_walk_2 4 rfl rfl)
theorem dX4_walk_55 : decode cX4_walk 55 = .ok (.bipush (-4), 2) := dk_16 252 (dk_at dksX4_walk_2 7 rfl rfl)
theorem dX4_walk_57 : decode cX4_walk 57 = .ok (.ireturn, 1) := dk_172 (dk_at dksX4_walk_2 9 rfl rfl)
theorem dX4_walk_58 : decode cX4_walk 58 = .ok (.iload_n 3, 1) := dk_29 (dk_at dksX4_walk_2 10 rfl rfl)
theorem dX4_walk_59 : decode cX4_walk 59 = .ok (.ifCond .ne 39, 3) := dk_154 0 39 (dk_at dksX4_walk_2 11 rfl rfl)
theorem dX4_walk_62 : decode cX4_walk 62 = .ok (.iload_n 2, 1) := dk_28 (dk_at dksX4_walk_2 14 rfl rfl)
theorem dX4_walk_63 : decode cX4_walk 63 = .ok (.ifCond .ne 23, 3) := dk_154 0 23 (dk_at dksX4_walk_2 15 rfl rfl)
theorem dX4_walk_66 : decode cX4_walk 66 = .ok (.aload_n 0, 1) := dk_42 (dk_at dksX4_walk_2 18 rfl rfl)
theorem dX4_walk_67 : decode cX4_walk 67 = .ok (.getfield 42, 3) := dk_180 0 42 (dk_at dksX4_walk_2 19 rfl rfl)
theorem dX4_walk_70 : decode cX4_walk 70 = .ok (.aload_n 0, 1) := dk_42 (dk_at dksX4_walk_2 22 rfl rfl)
theorem dX4_walk_71 : decode cX4_walk 71 = .ok (.iload_n 1, 1) := dk_27 (dk_at dksX4_walk_2 23 rfl rfl)
theorem dX4_walk_72 : decode cX4_walk 72 = .ok (.invokevirtual 346, 3) := dk_182 1 90 (dk_at dksX4_walk_3 0 rfl rfl)
theorem dX4_walk_75 : decode cX4_walk 75 = .ok (.iaload, 1) := dk_46 (dk_at dksX4_walk_3 3 rfl rfl)
theorem dX4_walk_76 : decode cX4_walk 76 = .ok (.aload_n 0, 1) := dk_42 (dk_at dksX4_walk_3 4 rfl rfl)
theorem dX4_walk_77 : decode cX4_walk 77 = .ok (.iload_n 1, 1) := dk_27 (dk_at dksX4_walk_3 5 rfl rfl)
theorem dX4_walk_78 : decode cX4_walk 78 = .ok (.iconst 0, 1) := dk_3 (dk_at dksX4_walk_3 6 rfl rfl)
theorem dX4_walk_79 : decode cX4_walk 79 = .ok (.invokevirtual 314, 3) := dk_182 1 58 (dk_at dksX4_walk_3 7 rfl rfl)
theorem dX4_walk_82 : decode cX4_walk 82 = .ok (.iadd, 1) := dk_96 (dk_at dksX4_walk_3 10 rfl rfl)
theorem dX4_walk_83 : decode cX4_walk 83 = .ok (.goto 14, 3) := dk_167 0 14 (dk_at dksX4_walk_3 11 rfl rfl)
theorem dX4_walk_86 : decode cX4_walk 86 = .ok (.iload_n 2, 1) := dk_28 (dk_at dksX4_walk_3 14 rfl rfl)
theorem dX4_walk_87 : decode cX4_walk 87 = .ok (.iconst 1, 1) := dk_4 (dk_at dksX4_walk_3 15 rfl rfl)
theorem dX4_walk_88 : decode cX4_walk 88 = .ok (.if_icmp .ne 8, 3) := dk_160 0 8 (dk_at dksX4_walk_3 16 rfl rfl)
theorem dX4_walk_91 : decode cX4_walk 91 = .ok (.bipush (-2), 2) := dk_16 254 (dk_at dksX4_walk_3 19 rfl rfl)
theorem dX4_walk_93 : decode cX4_walk 93 = .ok (.goto 4, 3) := dk_167 0 4 (dk_at dksX4_walk_3 21 rfl rfl)
theorem dX4_walk_96 : decode cX4_walk 96 = .ok (.iconst 0, 1) := dk_3 (dk_at dksX4_walk_4 0 rfl rfl)
theorem dX4_walk_97 : decode cX4_walk 97 = .ok (.ireturn, 1) := dk_172 (dk_at dksX4_walk_4 1 rfl rfl)
theorem dX4_walk_98 : decode cX4_walk 98 = .ok (.aload_n 0, 1) := dk_42 (dk_at dksX4_walk_4 2 rfl rfl)
theorem dX4_walk_99 : decode cX4_walk 99 = .ok (.iload_n 1, 1) := dk_27 (dk_at dksX4_walk_4 3 rfl rfl)
theorem dX4_walk_100 : decode cX4_walk 100 = .ok (.iload_n 3, 1) := dk_29 (dk_at dksX4_walk_4 4 rfl rfl)
theorem dX4_walk_101 : decode cX4_walk 101 = .ok (.invokevirtual 442, 3) := dk_182 1 186 (dk_at dksX4_walk_4 5 rfl rfl)
theorem dX4_walk_104 : decode cX4_walk 104 = .ok (.aload_n 0, 1) := dk_42 (dk_at dksX4_walk_4 8 rfl rfl)
theorem dX4_walk_105 : decode cX4_walk 105 = .ok (.iconst (-1), 1) := dk_2 (dk_at dksX4_walk_4 9 rfl rfl)
theorem dX4_walk_106 : decode cX4_walk 106 = .ok (.putfield 428, 3) := dk_181 1 172 (dk_at dksX4_walk_4 10 rfl rfl)
theorem dX4_walk_109 : decode cX4_walk 109 = .ok (.aload_n 0, 1) := dk_42 (dk_at dksX4_walk_4 13 rfl rfl)
theorem dX4_walk_110 : decode cX4_walk 110 = .ok (.invokevirtual 387, 3) := dk_182 1 131 (dk_at dksX4_walk_4 14 rfl rfl)
theorem dX4_walk_113 : decode cX4_walk 113 = .ok (.istore 4, 2) := dk_54 4 (dk_at dksX4_walk_4 17 rfl rfl)
theorem dX4_walk_115 : decode cX4_walk 115 = .ok (.iconst 0, 1) := dk_3 (dk_at dksX4_walk_4 19 rfl rfl)
theorem dX4_walk_116 : decode cX4_walk 116 = .ok (.istore 5, 2) := dk_54 5 (dk_at dksX4_walk_4 20 rfl rfl)
theorem dX4_walk_118 : decode cX4_walk 118 = .ok (.iload 5, 2) := dk_21 5 (dk_at dksX4_walk_4 22 rfl rfl)
theorem dX4_walk_120 : decode cX4_walk 120 = .ok (.iconst 1, 1) := dk_4 (dk_at dksX4_walk_5 0 rfl rfl)
theorem dX4_walk_121 : decode cX4_walk 121 = .ok (.aload_n 0, 1) := dk_42 (dk_at dksX4_walk_5 1 rfl rfl)
theorem dX4_walk_122 : decode cX4_walk 122 = .ok (.getfield 39, 3) := dk_180 0 39 (dk_at dksX4_walk_5 2 rfl rfl)
theorem dX4_walk_125 : decode cX4_walk 125 = .ok (.iconst 1, 1) := dk_4 (dk_at dksX4_walk_5 5 rfl rfl)
theorem dX4_walk_126 : decode cX4_walk 126 = .ok (.iaload, 1) := dk_46 (dk_at dksX4_walk_5 6 rfl rfl)
theorem dX4_walk_127 : decode cX4_walk 127 = .ok (.ishl, 1) := dk_120 (dk_at dksX4_walk_5 7 rfl rfl)
theorem dX4_walk_128 : decode cX4_walk 128 = .ok (.if_icmp .ge 26, 3) := dk_162 0 26 (dk_at dksX4_walk_5 8 rfl rfl)
theorem dX4_walk_131 : decode cX4_walk 131 = .ok (.iload 5, 2) := dk_21 5 (dk_at dksX4_walk_5 11 rfl rfl)
theorem dX4_walk_133 : decode cX4_walk 133 = .ok (.iload 4, 2) := dk_21 4 (dk_at dksX4_walk_5 13 rfl rfl)
theorem dX4_walk_135 : decode cX4_walk 135 = .ok (.iconst (-1), 1) := dk_2 (dk_at dksX4_walk_5 15 rfl rfl)
theorem dX4_walk_136 : decode cX4_walk 136 = .ok (.ixor, 1) := dk_130 (dk_at dksX4_walk_5 16 rfl rfl)
theorem dX4_walk_137 : decode cX4_walk 137 = .ok (.iand, 1) := dk_126 (dk_at dksX4_walk_5 17 rfl rfl)
theorem dX4_walk_138 : decode cX4_walk 138 = .ok (.ifCond .ne 10, 3) := dk_154 0 10 (dk_at dksX4_walk_5 18 rfl rfl)
theorem dX4_walk_141 : decode cX4_walk 141 = .ok (.aload_n 0, 1) := dk_42 (dk_at dksX4_walk_5 21 rfl rfl)
theorem dX4_walk_142 : decode cX4_walk 142 = .ok (.iload_n 1, 1) := dk_27 (dk_at dksX4_walk_5 22 rfl rfl)
theorem dX4_walk_143 : decode cX4_walk 143 = .ok (.iload 5, 2) := dk_21 5 (dk_at dksX4_walk_6 0 rfl rfl)
theorem dX4_walk_145 : decode cX4_walk 145 = .ok (.invokevirtual 445, 3) := dk_182 1 189 (dk_at dksX4_walk_6 2 rfl rfl)
theorem dX4_walk_148 : decode cX4_walk 148 = .ok (.iinc 5 1, 3) := dk_132 5 1 (dk_at dksX4_walk_6 5 rfl rfl)
theorem dX4_walk_151 : decode cX4_walk 151 = .ok (.goto (-33), 3) := dk_167 255 223 (dk_at dksX4_walk_6 8 rfl rfl)
theorem dX4_walk_154 : decode cX4_walk 154 = .ok (.iload_n 2, 1) := dk_28 (dk_at dksX4_walk_6 11 rfl rfl)
theorem dX4_walk_155 : decode cX4_walk 155 = .ok (.ifCond .ne 10, 3) := dk_154 0 10 (dk_at dksX4_walk_6 12 rfl rfl)
theorem dX4_walk_158 : decode cX4_walk 158 = .ok (.aload_n 0, 1) := dk_42 (dk_at dksX4_walk_6 15 rfl rfl)
theorem dX4_walk_159 : decode cX4_walk 159 = .ok (.getfield 428, 3) := dk_180 1 172 (dk_at dksX4_walk_6 16 rfl rfl)
theorem dX4_walk_162 : decode cX4_walk 162 = .ok (.goto 19, 3) := dk_167 0 19 (dk_at dksX4_walk_6 19 rfl rfl)
theorem dX4_walk_165 : decode cX4_walk 165 = .ok (.iload_n 2, 1) := dk_28 (dk_at dksX4_walk_6 22 rfl rfl)
theorem dX4_walk_166 : decode cX4_walk 166 = .ok (.iconst 1, 1) := dk_4 (dk_at dksX4_walk_6 23 rfl rfl)
theorem dX4_walk_167 : decode cX4_walk 167 = .ok (.if_icmp .ne 10, 3) := dk_160 0 10 (dk_at dksX4_walk_7 0 rfl rfl)
theorem dX4_walk_170 : decode cX4_walk 170 = .ok (.aload_n 0, 1) := dk_42 (dk_at dksX4_walk_7 3 rfl rfl)
theorem dX4_walk_171 : decode cX4_walk 171 = .ok (.getfield 434, 3) := dk_180 1 178 (dk_at dksX4_walk_7 4 rfl rfl)
theorem dX4_walk_174 : decode cX4_walk 174 = .ok (.goto 7, 3) := dk_167 0 7 (dk_at dksX4_walk_7 7 rfl rfl)
theorem dX4_walk_177 : decode cX4_walk 177 = .ok (.aload_n 0, 1) := dk_42 (dk_at dksX4_walk_7 10 rfl rfl)
theorem dX4_walk_178 : decode cX4_walk 178 = .ok (.getfield 437, 3) := dk_180 1 181 (dk_at dksX4_walk_7 11 rfl rfl)
theorem dX4_walk_181 : decode cX4_walk 181 = .ok (.ireturn, 1) := dk_172 (dk_at dksX4_walk_7 14 rfl rfl)
abbrev cX4_walksTill : ByteArray := prog_20_method_99_code
def yX4_walksTill : MethodName := ⟨RX4, "walksTill", "(II)V"⟩
def dkwX4_walksTill_3 : List UInt8 := [96, 21, 4, 4, 160, 0, 7, 4, 167, 0, 4, 3, 182, 1, 168, 132, 4, 1, 167, 255, 223, 177]
abbrev dktX4_walksTill_3 : List UInt8 := dkwX4_walksTill_3 ++ []
def dkwX4_walksTill_2 : List UInt8 := [184, 1, 165, 16, 7, 79, 4, 54, 4, 21, 4, 28, 162, 0, 33, 42, 42, 180, 0, 39, 6, 46, 21, 4]
abbrev dktX4_walksTill_2 : List UInt8 := dkwX4_walksTill_2 ++ dktX4_walksTill_3
def dkwX4_walksTill_1 : List UInt8 := [4, 182, 1, 58, 62, 42, 180, 0, 51, 29, 4, 42, 29, 42, 180, 0, 39, 6, 46, 182, 1, 61, 120]
abbrev dktX4_walksTill_1 : List UInt8 := dkwX4_walksTill_1 ++ dktX4_walksTill_2
def dkwX4_walksTill_0 : List UInt8 := [3, 62, 29, 17, 8, 0, 162, 0, 16, 42, 180, 0, 51, 29, 3, 79, 132, 3, 1, 167, 255, 239, 42, 27]
abbrev dktX4_walksTill_0 : List UInt8 := dkwX4_walksTill_0 ++ dktX4_walksTill_1
theorem dksX4_walksTill_0 : cX4_walksTill.data.toList.drop 0 = dktX4_walksTill_0 := by decide +kernel
theorem dksX4_walksTill_1 : cX4_walksTill.data.toList.drop 24 = dktX4_walksTill_1 := dk_seg dksX4_walksTill_0 24 rfl rfl
theorem dksX4_walksTill_2 : cX4_walksTill.data.toList.drop 47 = dktX4_walksTill_2 := dk_seg dksX4_walksTill_1 23 rfl rfl
theorem dksX4_walksTill_3 : cX4_walksTill.data.toList.drop 71 = dktX4_walksTill_3 := dk_seg dksX4_walksTill_2 24 rfl rfl
theorem dX4_walksTill_0 : decode cX4_walksTill 0 = .ok (.iconst 0, 1) := dk_3 (dk_at dksX4_walksTill_0 0 rfl rfl)
theorem dX4_walksTill_1 : decode cX4_walksTill 1 = .ok (.istore_n 3, 1) := dk_62 (dk_at dksX4_walksTill_0 1 rfl rfl)
theorem dX4_walksTill_2 : decode cX4_walksTill 2 = .ok (.iload_n 3, 1) := dk_29 (dk_at dksX4_walksTill_0 2 rfl rfl)
theorem dX4_walksTill_3 : decode cX4_walksTill 3 = .ok (.sipush 2048, 3) := dk_17 8 0 (dk_at dksX4_walksTill_0 3 rfl rfl)
theorem dX4_walksTill_6 : decode cX4_walksTill 6 = .ok (.if_icmp .ge 16, 3) := dk_162 0 16 (dk_at dksX4_walksTill_0 6 rfl rfl)
theorem dX4_walksTill_9 : decode cX4_walksTill 9 = .ok (.aload_n 0, 1) := dk_42 (dk_at dksX4_walksTill_0 9 rfl rfl)
theorem dX4_walksTill_10 : decode cX4_walksTill 10 = .ok (.getfield 51, 3) := dk_180 0 51 (dk_at dksX4_walksTill_0 10 rfl rfl)
theorem dX4_walksTill_13 : decode cX4_walksTill 13 = .ok (.iload_n 3, 1) := dk_29 (dk_at dksX4_walksTill_0 13 rfl rfl)
theorem dX4_walksTill_14 : decode cX4_walksTill 14 = .ok (.iconst 0, 1) := dk_3 (dk_at dksX4_walksTill_0 14 rfl rfl)
theorem dX4_walksTill_15 : decode cX4_walksTill 15 = .ok (.iastore, 1) := dk_79 (dk_at dksX4_walksTill_0 15 rfl rfl)
theorem dX4_walksTill_16 : decode cX4_walksTill 16 = .ok (.iinc 3 1, 3) := dk_132 3 1 (dk_at dksX4_walksTill_0 16 rfl rfl)
theorem dX4_walksTill_19 : decode cX4_walksTill 19 = .ok (.goto (-17), 3) := dk_167 255 239 (dk_at dksX4_walksTill_0 19 rfl rfl)
theorem dX4_walksTill_22 : decode cX4_walksTill 22 = .ok (.aload_n 0, 1) := dk_42 (dk_at dksX4_walksTill_0 22 rfl rfl)
theorem dX4_walksTill_23 : decode cX4_walksTill 23 = .ok (.iload_n 1, 1) := dk_27 (dk_at dksX4_walksTill_0 23 rfl rfl)
theorem dX4_walksTill_24 : decode cX4_walksTill 24 = .ok (.iconst 1, 1) := dk_4 (dk_at dksX4_walksTill_1 0 rfl rfl)
theorem dX4_walksTill_25 : decode cX4_walksTill 25 = .ok (.invokevirtual 314, 3) := dk_182 1 58 (dk_at dksX4_walksTill_1 1 rfl rfl)
theorem dX4_walksTill_28 : decode cX4_walksTill 28 = .ok (.istore_n 3, 1) := dk_62 (dk_at dksX4_walksTill_1 4 rfl rfl)
theorem dX4_walksTill_29 : decode cX4_walksTill 29 = .ok (.aload_n 0, 1) := dk_42 (dk_at dksX4_walksTill_1 5 rfl rfl)
theorem dX4_walksTill_30 : decode cX4_walksTill 30 = .ok (.getfield 51, 3) := dk_180 0 51 (dk_at dksX4_walksTill_1 6 rfl rfl)
theorem dX4_walksTill_33 : decode cX4_walksTill 33 = .ok (.iload_n 3, 1) := dk_29 (dk_at dksX4_walksTill_1 9 rfl rfl)
theorem dX4_walksTill_34 : decode cX4_walksTill 34 = .ok (.iconst 1, 1) := dk_4 (dk_at dksX4_walksTill_1 10 rfl rfl)
theorem dX4_walksTill_35 : decode cX4_walksTill 35 = .ok (.aload_n 0, 1) := dk_42 (dk_at dksX4_walksTill_1 11 rfl rfl)
theorem dX4_walksTill_36 : decode cX4_walksTill 36 = .ok (.iload_n 3, 1) := dk_29 (dk_at dksX4_walksTill_1 12 rfl rfl)
theorem dX4_walksTill_37 : decode cX4_walksTill 37 = .ok (.aload_n 0, 1) := dk_42 (dk_at dksX4_walksTill_1 13 rfl rfl)
theorem dX4_walksTill_38 : decode cX4_walksTill 38 = .ok (.getfield 39, 3) := dk_180 0 39 (dk_at dksX4_walksTill_1 14 rfl rfl)
theorem dX4_walksTill_41 : decode cX4_walksTill 41 = .ok (.iconst 3, 1) := dk_6 (dk_at dksX4_walksTill_1 17 rfl rfl)
theorem dX4_walksTill_42 : decode cX4_walksTill 42 = .ok (.iaload, 1) := dk_46 (dk_at dksX4_walksTill_1 18 rfl rfl)
theorem dX4_walksTill_43 : decode cX4_walksTill 43 = .ok (.invokevirtual 317, 3) := dk_182 1 61 (dk_at dksX4_walksTill_1 19 rfl rfl)
theorem dX4_walksTill_46 : decode cX4_walksTill 46 = .ok (.ishl, 1) := dk_120 (dk_at dksX4_walksTill_1 22 rfl rfl)
theorem dX4_walksTill_47 : decode cX4_walksTill 47 = .ok (.invokestatic 421, 3) := dk_184 1 165 (dk_at dksX4_walksTill_2 0 rfl rfl)
theorem dX4_walksTill_50 : decode cX4_walksTill 50 = .ok (.bipush 7, 2) := dk_16 7 (dk_at dksX4_walksTill_2 3 rfl rfl)
theorem dX4_walksTill_52 : decode cX4_walksTill 52 = .ok (.iastore, 1) := dk_79 (dk_at dksX4_walksTill_2 5 rfl rfl)
theorem dX4_walksTill_53 : decode cX4_walksTill 53 = .ok (.iconst 1, 1) := dk_4 (dk_at dksX4_walksTill_2 6 rfl rfl)
theorem dX4_walksTill_54 : decode cX4_walksTill 54 = .ok (.istore 4, 2) := dk_54 4 (dk_at dksX4_walksTill_2 7 rfl rfl)
theorem dX4_walksTill_56 : decode cX4_walksTill 56 = .ok (.iload 4, 2) := dk_21 4 (dk_at dksX4_walksTill_2 9 rfl rfl)
theorem dX4_walksTill_58 : decode cX4_walksTill 58 = .ok (.iload_n 2, 1) := dk_28 (dk_at dksX4_walksTill_2 11 rfl rfl)
theorem dX4_walksTill_59 : decode cX4_walksTill 59 = .ok (.if_icmp .ge 33, 3) := dk_162 0 33 (dk_at dksX4_walksTill_2 12 rfl rfl)
theorem dX4_walksTill_62 : decode cX4_walksTill 62 = .ok (.aload_n 0, 1) := dk_42 (dk_at dksX4_walksTill_2 15 rfl rfl)
theorem dX4_walksTill_63 : decode cX4_walksTill 63 = .ok (.aload_n 0, 1) := dk_42 (dk_at dksX4_walksTill_2 16 rfl rfl)
theorem dX4_walksTill_64 : decode cX4_walksTill 64 = .ok (.getfield 39, 3) := dk_180 0 39 (dk_at dksX4_walksTill_2 17 rfl rfl)
theorem dX4_walksTill_67 : decode cX4_walksTill 67 = .ok (.iconst 3, 1) := dk_6 (dk_at dksX4_walksTill_2 20 rfl rfl)
theorem dX4_walksTill_68 : decode cX4_walksTill 68 = .ok (.iaload, 1) := dk_46 (dk_at dksX4_walksTill_2 21 rfl rfl)
theorem dX4_walksTill_69 : decode cX4_walksTill 69 = .ok (.iload 4, 2) := dk_21 4 (dk_at dksX4_walksTill_2 22 rfl rfl)
theorem dX4_walksTill_71 : decode cX4_walksTill 71 = .ok (.iadd, 1) := dk_96 (dk_at dksX4_walksTill_3 0 rfl rfl)
theorem dX4_walksTill_72 : decode cX4_walksTill 72 = .ok (.iload 4, 2) := dk_21 4 (dk_at dksX4_walksTill_3 1 rfl rfl)
theorem dX4_walksTill_74 : decode cX4_walksTill 74 = .ok (.iconst 1, 1) := dk_4 (dk_at dksX4_walksTill_3 3 rfl rfl)
theorem dX4_walksTill_75 : decode cX4_walksTill 75 = .ok (.if_icmp .ne 7, 3) := dk_160 0 7 (dk_at dksX4_walksTill_3 4 rfl rfl)
theorem dX4_walksTill_78 : decode cX4_walksTill 78 = .ok (.iconst 1, 1) := dk_4 (dk_at dksX4_walksTill_3 7 rfl rfl)
theorem dX4_walksTill_79 : decode cX4_walksTill 79 = .ok (.goto 4, 3) := dk_167 0 4 (dk_at dksX4_walksTill_3 8 rfl rfl)
theorem dX4_walksTill_82 : decode cX4_walksTill 82 = .ok (.iconst 0, 1) := dk_3 (dk_at dksX4_walksTill_3 11 rfl rfl)
theorem dX4_walksTill_83 : decode cX4_walksTill 83 = .ok (.invokevirtual 424, 3) := dk_182 1 168 (dk_at dksX4_walksTill_3 12 rfl rfl)
theorem dX4_walksTill_86 : decode cX4_walksTill 86 = .ok (.iinc 4 1, 3) := dk_132 4 1 (dk_at dksX4_walksTill_3 15 rfl rfl)
theorem dX4_walksTill_89 : decode cX4_walksTill 89 = .ok (.goto (-33), 3) := dk_167 255 223 (dk_at dksX4_walksTill_3 18 rfl rfl)
theorem dX4_walksTill_92 : decode cX4_walksTill 92 = .ok (.return_, 1) := dk_177 (dk_at dksX4_walksTill_3 21 rfl rfl)
abbrev cX4_placeOf : ByteArray := prog_20_method_97_code
def yX4_placeOf : MethodName := ⟨RX4, "placeOf", "(II)I"⟩
def dkwX4_placeOf_0 : List UInt8 := [26, 17, 1, 0, 104, 27, 96, 172]
abbrev dktX4_placeOf_0 : List UInt8 := dkwX4_placeOf_0 ++ []
theorem dksX4_placeOf_0 : cX4_placeOf.data.toList.drop 0 = dktX4_placeOf_0 := by decide +kernel
theorem dX4_placeOf_0 : decode cX4_placeOf 0 = .ok (.iload_n 0, 1) := dk_26 (dk_at dksX4_placeOf_0 0 rfl rfl)
theorem dX4_placeOf_1 : decode cX4_placeOf 1 = .ok (.sipush 256, 3) := dk_17 1 0 (dk_at dksX4_placeOf_0 1 rfl rfl)
theorem dX4_placeOf_4 : decode cX4_placeOf 4 = .ok (.imul, 1) := dk_104 (dk_at dksX4_placeOf_0 4 rfl rfl)
theorem dX4_placeOf_5 : decode cX4_placeOf 5 = .ok (.iload_n 1, 1) := dk_27 (dk_at dksX4_placeOf_0 5 rfl rfl)
theorem dX4_placeOf_6 : decode cX4_placeOf 6 = .ok (.iadd, 1) := dk_96 (dk_at dksX4_placeOf_0 6 rfl rfl)
theorem dX4_placeOf_7 : decode cX4_placeOf 7 = .ok (.ireturn, 1) := dk_172 (dk_at dksX4_placeOf_0 7 rfl rfl)
abbrev cX4_walksOn : ByteArray := prog_20_method_98_code
def yX4_walksOn : MethodName := ⟨RX4, "walksOn", "(IZ)V"⟩
def dkwX4_walksOn_7 : List UInt8 := [180, 0, 51, 29, 42, 180, 0, 54, 29, 46, 79, 132, 3, 1, 167, 255, 234, 177]
abbrev dktX4_walksOn_7 : List UInt8 := dkwX4_walksOn_7 ++ []
def dkwX4_walksOn_6 : List UInt8 := [132, 4, 1, 167, 255, 149, 132, 3, 1, 167, 255, 130, 3, 62, 29, 17, 8, 0, 162, 0, 21, 42]
abbrev dktX4_walksOn_6 : List UInt8 := dkwX4_walksOn_6 ++ dktX4_walksOn_7
def dkwX4_walksOn_5 : List UInt8 := [46, 28, 153, 0, 12, 4, 21, 6, 4, 96, 120, 167, 0, 5, 21, 5, 128, 79, 132, 6, 1, 167, 255, 187]
abbrev dktX4_walksOn_5 : List UInt8 := dkwX4_walksOn_5 ++ dktX4_walksOn_6
def dkwX4_walksOn_4 : List UInt8 := [54, 7, 42, 180, 0, 54, 21, 7, 21, 4, 4, 42, 21, 7, 27, 182, 1, 61, 120, 128, 184, 1, 165, 92]
abbrev dktX4_walksOn_4 : List UInt8 := dkwX4_walksOn_4 ++ dktX4_walksOn_5
def dkwX4_walksOn_3 : List UInt8 := [21, 6, 5, 162, 0, 69, 29, 21, 6, 96, 42, 180, 0, 39, 3, 46, 96, 42, 180, 0, 39, 3, 46, 112]
abbrev dktX4_walksOn_3 : List UInt8 := dkwX4_walksOn_3 ++ dktX4_walksOn_4
def dkwX4_walksOn_2 : List UInt8 := [180, 0, 51, 29, 21, 4, 184, 1, 165, 46, 54, 5, 21, 5, 154, 0, 6, 167, 0, 78, 2, 54, 6]
abbrev dktX4_walksOn_2 : List UInt8 := dkwX4_walksOn_2 ++ dktX4_walksOn_3
def dkwX4_walksOn_1 : List UInt8 := [29, 42, 180, 0, 39, 3, 46, 162, 0, 122, 3, 54, 4, 21, 4, 17, 1, 0, 162, 0, 105, 42]
abbrev dktX4_walksOn_1 : List UInt8 := dkwX4_walksOn_1 ++ dktX4_walksOn_2
def dkwX4_walksOn_0 : List UInt8 := [3, 62, 29, 17, 8, 0, 162, 0, 16, 42, 180, 0, 54, 29, 3, 79, 132, 3, 1, 167, 255, 239, 3, 62]
abbrev dktX4_walksOn_0 : List UInt8 := dkwX4_walksOn_0 ++ dktX4_walksOn_1
theorem dksX4_walksOn_0 : cX4_walksOn.data.toList.drop 0 = dktX4_walksOn_0 := by decide +kernel
theorem dksX4_walksOn_1 : cX4_walksOn.data.toList.drop 24 = dktX4_walksOn_1 := dk_seg dksX4_walksOn_0 24 rfl rfl
theorem dksX4_walksOn_2 : cX4_walksOn.data.toList.drop 46 = dktX4_walksOn_2 := dk_seg dksX4_walksOn_1 22 rfl rfl
theorem dksX4_walksOn_3 : cX4_walksOn.data.toList.drop 69 = dktX4_walksOn_3 := dk_seg dksX4_walksOn_2 23 rfl rfl
theorem dksX4_walksOn_4 : cX4_walksOn.data.toList.drop 93 = dktX4_walksOn_4 := dk_seg dksX4_walksOn_3 24 rfl rfl
theorem dksX4_walksOn_5 : cX4_walksOn.data.toList.drop 117 = dktX4_walksOn_5 := dk_seg dksX4_walksOn_4 24 rfl rfl
theorem dksX4_walksOn_6 : cX4_walksOn.data.toList.drop 141 = dktX4_walksOn_6 := dk_seg dksX4_walksOn_5 24 rfl rfl
theorem dksX4_walksOn_7 : cX4_walksOn.data.toList.drop 163 = dktX4_walksOn_7 := dk_seg dksX4_walksOn_6 22 rfl rfl
theorem dX4_walksOn_0 : decode cX4_walksOn 0 = .ok (.iconst 0, 1) := dk_3 (dk_at dksX4_walksOn_0 0 rfl rfl)
theorem dX4_walksOn_1 : decode cX4_walksOn 1 = .ok (.istore_n 3, 1) := dk_62 (dk_at dksX4_walksOn_0 1 rfl rfl)
theorem dX4_walksOn_2 : decode cX4_walksOn 2 = .ok (.iload_n 3, 1) := dk_29 (dk_at dksX4_walksOn_0 2 rfl rfl)
theorem dX4_walksOn_3 : decode cX4_walksOn 3 = .ok (.sipush 2048, 3) := dk_17 8 0 (dk_at dksX4_walksOn_0 3 rfl rfl)
theorem dX4_walksOn_6 : decode cX4_walksOn 6 = .ok (.if_icmp .ge 16, 3) := dk_162 0 16 (dk_at dksX4_walksOn_0 6 rfl rfl)
theorem dX4_walksOn_9 : decode cX4_walksOn 9 = .ok (.aload_n 0, 1) := dk_42 (dk_at dksX4_walksOn_0 9 rfl rfl)
theorem dX4_walksOn_10 : decode cX4_walksOn 10 = .ok (.getfield 54, 3) := dk_180 0 54 (dk_at dksX4_walksOn_0 10 rfl rfl)
theorem dX4_walksOn_13 : decode cX4_walksOn 13 = .ok (.iload_n 3, 1) := dk_29 (dk_at dksX4_walksOn_0 13 rfl rfl)
theorem dX4_walksOn_14 : decode cX4_walksOn 14 = .ok (.iconst 0, 1) := dk_3 (dk_at dksX4_walksOn_0 14 rfl rfl)
theorem dX4_walksOn_15 : decode cX4_walksOn 15 = .ok (.iastore, 1) := dk_79 (dk_at dksX4_walksOn_0 15 rfl rfl)
theorem dX4_walksOn_16 : decode cX4_walksOn 16 = .ok (.iinc 3 1, 3) := dk_132 3 1 (dk_at dksX4_walksOn_0 16 rfl rfl)
theorem dX4_walksOn_19 : decode cX4_walksOn 19 = .ok (.goto (-17), 3) := dk_167 255 239 (dk_at dksX4_walksOn_0 19 rfl rfl)
theorem dX4_walksOn_22 : decode cX4_walksOn 22 = .ok (.iconst 0, 1) := dk_3 (dk_at dksX4_walksOn_0 22 rfl rfl)
theorem dX4_walksOn_23 : decode cX4_walksOn 23 = .ok (.istore_n 3, 1) := dk_62 (dk_at dksX4_walksOn_0 23 rfl rfl)
theorem dX4_walksOn_24 : decode cX4_walksOn 24 = .ok (.iload_n 3, 1) := dk_29 (dk_at dksX4_walksOn_1 0 rfl rfl)
theorem dX4_walksOn_25 : decode cX4_walksOn 25 = .ok (.aload_n 0, 1) := dk_42 (dk_at dksX4_walksOn_1 1 rfl rfl)
theorem dX4_walksOn_26 : decode cX4_walksOn 26 = .ok (.getfield 39, 3) := dk_180 0 39 (dk_at dksX4_walksOn_1 2 rfl rfl)
theorem dX4_walksOn_29 : decode cX4_walksOn 29 = .ok (.iconst 0, 1) := dk_3 (dk_at dksX4_walksOn_1 5 rfl rfl)
theorem dX4_walksOn_30 : decode cX4_walksOn 30 = .ok (.iaload, 1) := dk_46 (dk_at dksX4_walksOn_1 6 rfl rfl)
theorem dX4_walksOn_31 : decode cX4_walksOn 31 = .ok (.if_icmp .ge 122, 3) := dk_162 0 122 (dk_at dksX4_walksOn_1 7 rfl rfl)
theorem dX4_walksOn_34 : decode cX4_walksOn 34 = .ok (.iconst 0, 1) := dk_3 (dk_at dksX4_walksOn_1 10 rfl rfl)
theorem dX4_walksOn_35 : decode cX4_walksOn 35 = .ok (.istore 4, 2) := dk_54 4 (dk_at dksX4_walksOn_1 11 rfl rfl)
theorem dX4_walksOn_37 : decode cX4_walksOn 37 = .ok (.iload 4, 2) := dk_21 4 (dk_at dksX4_walksOn_1 13 rfl rfl)
theorem dX4_walksOn_39 : decode cX4_walksOn 39 = .ok (.sipush 256, 3) := dk_17 1 0 (dk_at dksX4_walksOn_1 15 rfl rfl)
theorem dX4_walksOn_42 : decode cX4_walksOn 42 = .ok (.if_icmp .ge 105, 3) := dk_162 0 105 (dk_at dksX4_walksOn_1 18 rfl rfl)
theorem dX4_walksOn_45 : decode cX4_walksOn 45 = .ok (.aload_n 0, 1) := dk_42 (dk_at dksX4_walksOn_1 21 rfl rfl)
theorem dX4_walksOn_46 : decode cX4_walksOn 46 = .ok (.getfield 51, 3) := dk_180 0 51 (dk_at dksX4_walksOn_2 0 rfl rfl)
theorem dX4_walksOn_49 : decode cX4_walksOn 49 = .ok (.iload_n 3, 1) := dk_29 (dk_at dksX4_walksOn_2 3 rfl rfl)
theorem dX4_walksOn_50 : decode cX4_walksOn 50 = .ok (.iload 4, 2) := dk_21 4 (dk_at dksX4_walksOn_2 4 rfl rfl)
theorem dX4_walksOn_52 : decode cX4_walksOn 52 = .ok (.invokestatic 421, 3) := dk_184 1 165 (dk_at dksX4_walksOn_2 6 rfl rfl)
theorem dX4_walksOn_55 : decode cX4_walksOn 55 = .ok (.iaload, 1) := dk_46 (dk_at dksX4_walksOn_2 9 rfl rfl)
theorem dX4_walksOn_56 : decode cX4_walksOn 56 = .ok (.istore 5, 2) := dk_54 5 (dk_at dksX4_walksOn_2 10 rfl rfl)
theorem dX4_walksOn_58 : decode cX4_walksOn 58 = .ok (.iload 5, 2) := dk_21 5 (dk_at dksX4_walksOn_2 12 rfl rfl)
theorem dX4_walksOn_60 : decode cX4_walksOn 60 = .ok (.ifCond .ne 6, 3) := dk_154 0 6 (dk_at dksX4_walksOn_2 14 rfl rfl)
theorem dX4_walksOn_63 : decode cX4_walksOn 63 = .ok (.goto 78, 3) := dk_167 0 78 (dk_at dksX4_walksOn_2 17 rfl rfl)
theorem dX4_walksOn_66 : decode cX4_walksOn 66 = .ok (.iconst (-1), 1) := dk_2 (dk_at dksX4_walksOn_2 20 rfl rfl)
theorem dX4_walksOn_67 : decode cX4_walksOn 67 = .ok (.istore 6, 2) := dk_54 6 (dk_at dksX4_walksOn_2 21 rfl rfl)
theorem dX4_walksOn_69 : decode cX4_walksOn 69 = .ok (.iload 6, 2) := dk_21 6 (dk_at dksX4_walksOn_3 0 rfl rfl)
theorem dX4_walksOn_71 : decode cX4_walksOn 71 = .ok (.iconst 2, 1) := dk_5 (dk_at dksX4_walksOn_3 2 rfl rfl)
theorem dX4_walksOn_72 : decode cX4_walksOn 72 = .ok (.if_icmp .ge 69, 3) := dk_162 0 69 (dk_at dksX4_walksOn_3 3 rfl rfl)
theorem dX4_walksOn_75 : decode cX4_walksOn 75 = .ok (.iload_n 3, 1) := dk_29 (dk_at dksX4_walksOn_3 6 rfl rfl)
theorem dX4_walksOn_76 : decode cX4_walksOn 76 = .ok (.iload 6, 2) := dk_21 6 (dk_at dksX4_walksOn_3 7 rfl rfl)
theorem dX4_walksOn_78 : decode cX4_walksOn 78 = .ok (.iadd, 1) := dk_96 (dk_at dksX4_walksOn_3 9 rfl rfl)
theorem dX4_walksOn_79 : decode cX4_walksOn 79 = .ok (.aload_n 0, 1) := dk_42 (dk_at dksX4_walksOn_3 10 rfl rfl)
theorem dX4_walksOn_80 : decode cX4_walksOn 80 = .ok (.getfield 39, 3) := dk_180 0 39 (dk_at dksX4_walksOn_3 11 rfl rfl)
theorem dX4_walksOn_83 : decode cX4_walksOn 83 = .ok (.iconst 0, 1) := dk_3 (dk_at dksX4_walksOn_3 14 rfl rfl)
theorem dX4_walksOn_84 : decode cX4_walksOn 84 = .ok (.iaload, 1) := dk_46 (dk_at dksX4_walksOn_3 15 rfl rfl)
theorem dX4_walksOn_85 : decode cX4_walksOn 85 = .ok (.iadd, 1) := dk_96 (dk_at dksX4_walksOn_3 16 rfl rfl)
theorem dX4_walksOn_86 : decode cX4_walksOn 86 = .ok (.aload_n 0, 1) := dk_42 (dk_at dksX4_walksOn_3 17 rfl rfl)
theorem dX4_walksOn_87 : decode cX4_walksOn 87 = .ok (.getfield 39, 3) := dk_180 0 39 (dk_at dksX4_walksOn_3 18 rfl rfl)
theorem dX4_walksOn_90 : decode cX4_walksOn 90 = .ok (.iconst 0, 1) := dk_3 (dk_at dksX4_walksOn_3 21 rfl rfl)
theorem dX4_walksOn_91 : decode cX4_walksOn 91 = .ok (.iaload, 1) := dk_46 (dk_at dksX4_walksOn_3 22 rfl rfl)
theorem dX4_walksOn_92 : decode cX4_walksOn 92 = .ok (.irem, 1) := dk_112 (dk_at dksX4_walksOn_3 23 rfl rfl)
theorem dX4_walksOn_93 : decode cX4_walksOn 93 = .ok (.istore 7, 2) := dk_54 7 (dk_at dksX4_walksOn_4 0 rfl rfl)
theorem dX4_walksOn_95 : decode cX4_walksOn 95 = .ok (.aload_n 0, 1) := dk_42 (dk_at dksX4_walksOn_4 2 rfl rfl)
theorem dX4_walksOn_96 : decode cX4_walksOn 96 = .ok (.getfield 54, 3) := dk_180 0 54 (dk_at dksX4_walksOn_4 3 rfl rfl)
theorem dX4_walksOn_99 : decode cX4_walksOn 99 = .ok (.iload 7, 2) := dk_21 7 (dk_at dksX4_walksOn_4 6 rfl rfl)
theorem dX4_walksOn_101 : decode cX4_walksOn 101 = .ok (.iload 4, 2) := dk_21 4 (dk_at dksX4_walksOn_4 8 rfl rfl)
theorem dX4_walksOn_103 : decode cX4_walksOn 103 = .ok (.iconst 1, 1) := dk_4 (dk_at dksX4_walksOn_4 10 rfl rfl)
theorem dX4_walksOn_104 : decode cX4_walksOn 104 = .ok (.aload_n 0, 1) := dk_42 (dk_at dksX4_walksOn_4 11 rfl rfl)
theorem dX4_walksOn_105 : decode cX4_walksOn 105 = .ok (.iload 7, 2) := dk_21 7 (dk_at dksX4_walksOn_4 12 rfl rfl)
theorem dX4_walksOn_107 : decode cX4_walksOn 107 = .ok (.iload_n 1, 1) := dk_27 (dk_at dksX4_walksOn_4 14 rfl rfl)
theorem dX4_walksOn_108 : decode cX4_walksOn 108 = .ok (.invokevirtual 317, 3) := dk_182 1 61 (dk_at dksX4_walksOn_4 15 rfl rfl)
theorem dX4_walksOn_111 : decode cX4_walksOn 111 = .ok (.ishl, 1) := dk_120 (dk_at dksX4_walksOn_4 18 rfl rfl)
theorem dX4_walksOn_112 : decode cX4_walksOn 112 = .ok (.ior, 1) := dk_128 (dk_at dksX4_walksOn_4 19 rfl rfl)
theorem dX4_walksOn_113 : decode cX4_walksOn 113 = .ok (.invokestatic 421, 3) := dk_184 1 165 (dk_at dksX4_walksOn_4 20 rfl rfl)
theorem dX4_walksOn_116 : decode cX4_walksOn 116 = .ok (.dup2, 1) := dk_92 (dk_at dksX4_walksOn_4 23 rfl rfl)
theorem dX4_walksOn_117 : decode cX4_walksOn 117 = .ok (.iaload, 1) := dk_46 (dk_at dksX4_walksOn_5 0 rfl rfl)
theorem dX4_walksOn_118 : decode cX4_walksOn 118 = .ok (.iload_n 2, 1) := dk_28 (dk_at dksX4_walksOn_5 1 rfl rfl)
theorem dX4_walksOn_119 : decode cX4_walksOn 119 = .ok (.ifCond .eq 12, 3) := dk_153 0 12 (dk_at dksX4_walksOn_5 2 rfl rfl)
theorem dX4_walksOn_122 : decode cX4_walksOn 122 = .ok (.iconst 1, 1) := dk_4 (dk_at dksX4_walksOn_5 5 rfl rfl)
theorem dX4_walksOn_123 : decode cX4_walksOn 123 = .ok (.iload 6, 2) := dk_21 6 (dk_at dksX4_walksOn_5 6 rfl rfl)
theorem dX4_walksOn_125 : decode cX4_walksOn 125 = .ok (.iconst 1, 1) := dk_4 (dk_at dksX4_walksOn_5 8 rfl rfl)
theorem dX4_walksOn_126 : decode cX4_walksOn 126 = .ok (.iadd, 1) := dk_96 (dk_at dksX4_walksOn_5 9 rfl rfl)
theorem dX4_walksOn_127 : decode cX4_walksOn 127 = .ok (.ishl, 1) := dk_120 (dk_at dksX4_walksOn_5 10 rfl rfl)
theorem dX4_walksOn_128 : decode cX4_walksOn 128 = .ok (.goto 5, 3) := dk_167 0 5 (dk_at dksX4_walksOn_5 11 rfl rfl)
theorem dX4_walksOn_131 : decode cX4_walksOn 131 = .ok (.iload 5, 2) := dk_21 5 (dk_at dksX4_walksOn_5 14 rfl rfl)
theorem dX4_walksOn_133 : decode cX4_walksOn 133 = .ok (.ior, 1) := dk_128 (dk_at dksX4_walksOn_5 16 rfl rfl)
theorem dX4_walksOn_134 : decode cX4_walksOn 134 = .ok (.iastore, 1) := dk_79 (dk_at dksX4_walksOn_5 17 rfl rfl)
theorem dX4_walksOn_135 : decode cX4_walksOn 135 = .ok (.iinc 6 1, 3) := dk_132 6 1 (dk_at dksX4_walksOn_5 18 rfl rfl)
theorem dX4_walksOn_138 : decode cX4_walksOn 138 = .ok (.goto (-69), 3) := dk_167 255 187 (dk_at dksX4_walksOn_5 21 rfl rfl)
theorem dX4_walksOn_141 : decode cX4_walksOn 141 = .ok (.iinc 4 1, 3) := dk_132 4 1 (dk_at dksX4_walksOn_6 0 rfl rfl)
theorem dX4_walksOn_144 : decode cX4_walksOn 144 = .ok (.goto (-107), 3) := dk_167 255 149 (dk_at dksX4_walksOn_6 3 rfl rfl)
theorem dX4_walksOn_147 : decode cX4_walksOn 147 = .ok (.iinc 3 1, 3) := dk_132 3 1 (dk_at dksX4_walksOn_6 6 rfl rfl)
theorem dX4_walksOn_150 : decode cX4_walksOn 150 = .ok (.goto (-126), 3) := dk_167 255 130 (dk_at dksX4_walksOn_6 9 rfl rfl)
theorem dX4_walksOn_153 : decode cX4_walksOn 153 = .ok (.iconst 0, 1) := dk_3 (dk_at dksX4_walksOn_6 12 rfl rfl)
theorem dX4_walksOn_154 : decode cX4_walksOn 154 = .ok (.istore_n 3, 1) := dk_62 (dk_at dksX4_walksOn_6 13 rfl rfl)
theorem dX4_walksOn_155 : decode cX4_walksOn 155 = .ok (.iload_n 3, 1) := dk_29 (dk_at dksX4_walksOn_6 14 rfl rfl)
theorem dX4_walksOn_156 : decode cX4_walksOn 156 = .ok (.sipush 2048, 3) := dk_17 8 0 (dk_at dksX4_walksOn_6 15 rfl rfl)
theorem dX4_walksOn_159 : decode cX4_walksOn 159 = .ok (.if_icmp .ge 21, 3) := dk_162 0 21 (dk_at dksX4_walksOn_6 18 rfl rfl)
theorem dX4_walksOn_162 : decode cX4_walksOn 162 = .ok (.aload_n 0, 1) := dk_42 (dk_at dksX4_walksOn_6 21 rfl rfl)
theorem dX4_walksOn_163 : decode cX4_walksOn 163 = .ok (.getfield 51, 3) := dk_180 0 51 (dk_at dksX4_walksOn_7 0 rfl rfl)
theorem dX4_walksOn_166 : decode cX4_walksOn 166 = .ok (.iload_n 3, 1) := dk_29 (dk_at dksX4_walksOn_7 3 rfl rfl)
theorem dX4_walksOn_167 : decode cX4_walksOn 167 = .ok (.aload_n 0, 1) := dk_42 (dk_at dksX4_walksOn_7 4 rfl rfl)
theorem dX4_walksOn_168 : decode cX4_walksOn 168 = .ok (.getfield 54, 3) := dk_180 0 54 (dk_at dksX4_walksOn_7 5 rfl rfl)
theorem dX4_walksOn_171 : decode cX4_walksOn 171 = .ok (.iload_n 3, 1) := dk_29 (dk_at dksX4_walksOn_7 8 rfl rfl)
theorem dX4_walksOn_172 : decode cX4_walksOn 172 = .ok (.iaload, 1) := dk_46 (dk_at dksX4_walksOn_7 9 rfl rfl)
theorem dX4_walksOn_173 : decode cX4_walksOn 173 = .ok (.iastore, 1) := dk_79 (dk_at dksX4_walksOn_7 10 rfl rfl)
theorem dX4_walksOn_174 : decode cX4_walksOn 174 = .ok (.iinc 3 1, 3) := dk_132 3 1 (dk_at dksX4_walksOn_7 11 rfl rfl)
theorem dX4_walksOn_177 : decode cX4_walksOn 177 = .ok (.goto (-22), 3) := dk_167 255 234 (dk_at dksX4_walksOn_7 14 rfl rfl)
theorem dX4_walksOn_180 : decode cX4_walksOn 180 = .ok (.return_, 1) := dk_177 (dk_at dksX4_walksOn_7 17 rfl rfl)
abbrev cX4_offers : ByteArray := prog_20_method_101_code
def yX4_offers : MethodName := ⟨RX4, "offers", "(II)V"⟩
def dkwX4_offers_8 : List UInt8 := [21, 7, 167, 0, 7, 42, 180, 1, 178, 181, 1, 178, 177]
abbrev dktX4_offers_8 : List UInt8 := dkwX4_offers_8 ++ []
def dkwX4_offers_7 : List UInt8 := [181, 1, 172, 42, 21, 7, 181, 1, 178, 42, 28, 181, 1, 181, 42, 21, 7, 42, 180, 1, 178, 162, 0, 8]
abbrev dktX4_offers_7 : List UInt8 := dkwX4_offers_7 ++ dktX4_offers_8
def dkwX4_offers_6 : List UInt8 := [153, 0, 7, 3, 167, 0, 4, 4, 54, 7, 21, 5, 42, 180, 1, 172, 164, 0, 20, 42, 21, 5]
abbrev dktX4_offers_6 : List UInt8 := dkwX4_offers_6 ++ dktX4_offers_7
def dkwX4_offers_5 : List UInt8 := [154, 0, 4, 177, 21, 6, 3, 184, 0, 215, 153, 0, 7, 2, 167, 0, 17, 21, 6, 4, 184, 0, 215]
abbrev dktX4_offers_5 : List UInt8 := dkwX4_offers_5 ++ dktX4_offers_6
def dkwX4_offers_4 : List UInt8 := [163, 0, 12, 21, 5, 42, 180, 1, 172, 162, 0, 4, 177, 42, 21, 4, 182, 1, 175, 54, 6, 21, 6]
abbrev dktX4_offers_4 : List UInt8 := dkwX4_offers_4 ++ dktX4_offers_5
def dkwX4_offers_3 : List UInt8 := [182, 1, 90, 28, 128, 46, 42, 27, 3, 182, 1, 58, 96, 29, 100, 54, 5, 29, 42, 27, 3, 182, 1, 58]
abbrev dktX4_offers_3 : List UInt8 := dkwX4_offers_3 ++ dktX4_offers_4
def dkwX4_offers_2 : List UInt8 := [21, 5, 6, 182, 1, 45, 120, 128, 54, 4, 132, 5, 1, 167, 255, 206, 42, 180, 0, 42, 42, 27]
abbrev dktX4_offers_2 : List UInt8 := dkwX4_offers_2 ++ dktX4_offers_3
def dkwX4_offers_1 : List UInt8 := [184, 0, 215, 154, 0, 6, 167, 0, 27, 29, 42, 21, 5, 5, 182, 1, 45, 96, 62, 21, 4, 4, 42]
abbrev dktX4_offers_1 : List UInt8 := dkwX4_offers_1 ++ dktX4_offers_2
def dkwX4_offers_0 : List UInt8 := [3, 62, 3, 54, 4, 3, 54, 5, 21, 5, 42, 180, 0, 39, 4, 46, 162, 0, 45, 28, 21, 5]
abbrev dktX4_offers_0 : List UInt8 := dkwX4_offers_0 ++ dktX4_offers_1
theorem dksX4_offers_0 : cX4_offers.data.toList.drop 0 = dktX4_offers_0 := by decide +kernel
theorem dksX4_offers_1 : cX4_offers.data.toList.drop 22 = dktX4_offers_1 := dk_seg dksX4_offers_0 22 rfl rfl
theorem dksX4_offers_2 : cX4_offers.data.toList.drop 45 = dktX4_offers_2 := dk_seg dksX4_offers_1 23 rfl rfl
theorem dksX4_offers_3 : cX4_offers.data.toList.drop 67 = dktX4_offers_3 := dk_seg dksX4_offers_2 22 rfl rfl
theorem dksX4_offers_4 : cX4_offers.data.toList.drop 91 = dktX4_offers_4 := dk_seg dksX4_offers_3 24 rfl rfl
theorem dksX4_offers_5 : cX4_offers.data.toList.drop 114 = dktX4_offers_5 := dk_seg dksX4_offers_4 23 rfl rfl
theorem dksX4_offers_6 : cX4_offers.data.toList.drop 137 = dktX4_offers_6 := dk_seg dksX4_offers_5 23 rfl rfl
theorem dksX4_offers_7 : cX4_offers.data.toList.drop 159 = dktX4_offers_7 := dk_seg dksX4_offers_6 22 rfl rfl
theorem dksX4_offers_8 : cX4_offers.data.toList.drop 183 = dktX4_offers_8 := dk_seg dksX4_offers_7 24 rfl rfl
theorem dX4_offers_0 : decode cX4_offers 0 = .ok (.iconst 0, 1) := dk_3 (dk_at dksX4_offers_0 0 rfl rfl)
theorem dX4_offers_1 : decode cX4_offers 1 = .ok (.istore_n 3, 1) := dk_62 (dk_at dksX4_offers_0 1 rfl rfl)
theorem dX4_offers_2 : decode cX4_offers 2 = .ok (.iconst 0, 1) := dk_3 (dk_at dksX4_offers_0 2 rfl rfl)
theorem dX4_offers_3 : decode cX4_offers 3 = .ok (.istore 4, 2) := dk_54 4 (dk_at dksX4_offers_0 3 rfl rfl)
theorem dX4_offers_5 : decode cX4_offers 5 = .ok (.iconst 0, 1) := dk_3 (dk_at dksX4_offers_0 5 rfl rfl)
theorem dX4_offers_6 : decode cX4_offers 6 = .ok (.istore 5, 2) := dk_54 5 (dk_at dksX4_offers_0 6 rfl rfl)
theorem dX4_offers_8 : decode cX4_offers 8 = .ok (.iload 5, 2) := dk_21 5 (dk_at dksX4_offers_0 8 rfl rfl)
theorem dX4_offers_10 : decode cX4_offers 10 = .ok (.aload_n 0, 1) := dk_42 (dk_at dksX4_offers_0 10 rfl rfl)
theorem dX4_offers_11 : decode cX4_offers 11 = .ok (.getfield 39, 3) := dk_180 0 39 (dk_at dksX4_offers_0 11 rfl rfl)
theorem dX4_offers_14 : decode cX4_offers 14 = .ok (.iconst 1, 1) := dk_4 (dk_at dksX4_offers_0 14 rfl rfl)
theorem dX4_offers_15 : decode cX4_offers 15 = .ok (.iaload, 1) := dk_46 (dk_at dksX4_offers_0 15 rfl rfl)
theorem dX4_offers_16 : decode cX4_offers 16 = .ok (.if_icmp .ge 45, 3) := dk_162 0 45 (dk_at dksX4_offers_0 16 rfl rfl)
theorem dX4_offers_19 : decode cX4_offers 19 = .ok (.iload_n 2, 1) := dk_28 (dk_at dksX4_offers_0 19 rfl rfl)
theorem dX4_offers_20 : decode cX4_offers 20 = .ok (.iload 5, 2) := dk_21 5 (dk_at dksX4_offers_0 20 rfl rfl)
theorem dX4_offers_22 : decode cX4_offers 22 = .ok (.invokestatic 215, 3) := dk_184 0 215 (dk_at dksX4_offers_1 0 rfl rfl)
theorem dX4_offers_25 : decode cX4_offers 25 = .ok (.ifCond .ne 6, 3) := dk_154 0 6 (dk_at dksX4_offers_1 3 rfl rfl)
theorem dX4_offers_28 : decode cX4_offers 28 = .ok (.goto 27, 3) := dk_167 0 27 (dk_at dksX4_offers_1 6 rfl rfl)
theorem dX4_offers_31 : decode cX4_offers 31 = .ok (.iload_n 3, 1) := dk_29 (dk_at dksX4_offers_1 9 rfl rfl)
theorem dX4_offers_32 : decode cX4_offers 32 = .ok (.aload_n 0, 1) := dk_42 (dk_at dksX4_offers_1 10 rfl rfl)
theorem dX4_offers_33 : decode cX4_offers 33 = .ok (.iload 5, 2) := dk_21 5 (dk_at dksX4_offers_1 11 rfl rfl)
theorem dX4_offers_35 : decode cX4_offers 35 = .ok (.iconst 2, 1) := dk_5 (dk_at dksX4_offers_1 13 rfl rfl)
theorem dX4_offers_36 : decode cX4_offers 36 = .ok (.invokevirtual 301, 3) := dk_182 1 45 (dk_at dksX4_offers_1 14 rfl rfl)
theorem dX4_offers_39 : decode cX4_offers 39 = .ok (.iadd, 1) := dk_96 (dk_at dksX4_offers_1 17 rfl rfl)
theorem dX4_offers_40 : decode cX4_offers 40 = .ok (.istore_n 3, 1) := dk_62 (dk_at dksX4_offers_1 18 rfl rfl)
theorem dX4_offers_41 : decode cX4_offers 41 = .ok (.iload 4, 2) := dk_21 4 (dk_at dksX4_offers_1 19 rfl rfl)
theorem dX4_offers_43 : decode cX4_offers 43 = .ok (.iconst 1, 1) := dk_4 (dk_at dksX4_offers_1 21 rfl rfl)
theorem dX4_offers_44 : decode cX4_offers 44 = .ok (.aload_n 0, 1) := dk_42 (dk_at dksX4_offers_1 22 rfl rfl)
theorem dX4_offers_45 : decode cX4_offers 45 = .ok (.iload 5, 2) := dk_21 5 (dk_at dksX4_offers_2 0 rfl rfl)
theorem dX4_offers_47 : decode cX4_offers 47 = .ok (.iconst 3, 1) := dk_6 (dk_at dksX4_offers_2 2 rfl rfl)
theorem dX4_offers_48 : decode cX4_offers 48 = .ok (.invokevirtual 301, 3) := dk_182 1 45 (dk_at dksX4_offers_2 3 rfl rfl)
theorem dX4_offers_51 : decode cX4_offers 51 = .ok (.ishl, 1) := dk_120 (dk_at dksX4_offers_2 6 rfl rfl)
theorem dX4_offers_52 : decode cX4_offers 52 = .ok (.ior, 1) := dk_128 (dk_at dksX4_offers_2 7 rfl rfl)
theorem dX4_offers_53 : decode cX4_offers 53 = .ok (.istore 4, 2) := dk_54 4 (dk_at dksX4_offers_2 8 rfl rfl)
theorem dX4_offers_55 : decode cX4_offers 55 = .ok (.iinc 5 1, 3) := dk_132 5 1 (dk_at dksX4_offers_2 10 rfl rfl)
theorem dX4_offers_58 : decode cX4_offers 58 = .ok (.goto (-50), 3) := dk_167 255 206 (dk_at dksX4_offers_2 13 rfl rfl)
theorem dX4_offers_61 : decode cX4_offers 61 = .ok (.aload_n 0, 1) := dk_42 (dk_at dksX4_offers_2 16 rfl rfl)
theorem dX4_offers_62 : decode cX4_offers 62 = .ok (.getfield 42, 3) := dk_180 0 42 (dk_at dksX4_offers_2 17 rfl rfl)
theorem dX4_offers_65 : decode cX4_offers 65 = .ok (.aload_n 0, 1) := dk_42 (dk_at dksX4_offers_2 20 rfl rfl)
theorem dX4_offers_66 : decode cX4_offers 66 = .ok (.iload_n 1, 1) := dk_27 (dk_at dksX4_offers_2 21 rfl rfl)
theorem dX4_offers_67 : decode cX4_offers 67 = .ok (.invokevirtual 346, 3) := dk_182 1 90 (dk_at dksX4_offers_3 0 rfl rfl)
theorem dX4_offers_70 : decode cX4_offers 70 = .ok (.iload_n 2, 1) := dk_28 (dk_at dksX4_offers_3 3 rfl rfl)
theorem dX4_offers_71 : decode cX4_offers 71 = .ok (.ior, 1) := dk_128 (dk_at dksX4_offers_3 4 rfl rfl)
theorem dX4_offers_72 : decode cX4_offers 72 = .ok (.iaload, 1) := dk_46 (dk_at dksX4_offers_3 5 rfl rfl)
theorem dX4_offers_73 : decode cX4_offers 73 = .ok (.aload_n 0, 1) := dk_42 (dk_at dksX4_offers_3 6 rfl rfl)
theorem dX4_offers_74 : decode cX4_offers 74 = .ok (.iload_n 1, 1) := dk_27 (dk_at dksX4_offers_3 7 rfl rfl)
theorem dX4_offers_75 : decode cX4_offers 75 = .ok (.iconst 0, 1) := dk_3 (dk_at dksX4_offers_3 8 rfl rfl)
theorem dX4_offers_76 : decode cX4_offers 76 = .ok (.invokevirtual 314, 3) := dk_182 1 58 (dk_at dksX4_offers_3 9 rfl rfl)
theorem dX4_offers_79 : decode cX4_offers 79 = .ok (.iadd, 1) := dk_96 (dk_at dksX4_offers_3 12 rfl rfl)
theorem dX4_offers_80 : decode cX4_offers 80 = .ok (.iload_n 3, 1) := dk_29 (dk_at dksX4_offers_3 13 rfl rfl)
theorem dX4_offers_81 : decode cX4_offers 81 = .ok (.isub, 1) := dk_100 (dk_at dksX4_offers_3 14 rfl rfl)
theorem dX4_offers_82 : decode cX4_offers 82 = .ok (.istore 5, 2) := dk_54 5 (dk_at dksX4_offers_3 15 rfl rfl)
theorem dX4_offers_84 : decode cX4_offers 84 = .ok (.iload_n 3, 1) := dk_29 (dk_at dksX4_offers_3 17 rfl rfl)
theorem dX4_offers_85 : decode cX4_offers 85 = .ok (.aload_n 0, 1) := dk_42 (dk_at dksX4_offers_3 18 rfl rfl)
theorem dX4_offers_86 : decode cX4_offers 86 = .ok (.iload_n 1, 1) := dk_27 (dk_at dksX4_offers_3 19 rfl rfl)
theorem dX4_offers_87 : decode cX4_offers 87 = .ok (.iconst 0, 1) := dk_3 (dk_at dksX4_offers_3 20 rfl rfl)
theorem dX4_offers_88 : decode cX4_offers 88 = .ok (.invokevirtual 314, 3) := dk_182 1 58 (dk_at dksX4_offers_3 21 rfl rfl)
theorem dX4_offers_91 : decode cX4_offers 91 = .ok (.if_icmp .gt 12, 3) := dk_163 0 12 (dk_at dksX4_offers_4 0 rfl rfl)
theorem dX4_offers_94 : decode cX4_offers 94 = .ok (.iload 5, 2) := dk_21 5 (dk_at dksX4_offers_4 3 rfl rfl)
theorem dX4_offers_96 : decode cX4_offers 96 = .ok (.aload_n 0, 1) := dk_42 (dk_at dksX4_offers_4 5 rfl rfl)
theorem dX4_offers_97 : decode cX4_offers 97 = .ok (.getfield 428, 3) := dk_180 1 172 (dk_at dksX4_offers_4 6 rfl rfl)
theorem dX4_offers_100 : decode cX4_offers 100 = .ok (.if_icmp .ge 4, 3) := dk_162 0 4 (dk_at dksX4_offers_4 9 rfl rfl)
theorem dX4_offers_103 : decode cX4_offers 103 = .ok (.return_, 1) := dk_177 (dk_at dksX4_offers_4 12 rfl rfl)
theorem dX4_offers_104 : decode cX4_offers 104 = .ok (.aload_n 0, 1) := dk_42 (dk_at dksX4_offers_4 13 rfl rfl)
theorem dX4_offers_105 : decode cX4_offers 105 = .ok (.iload 4, 2) := dk_21 4 (dk_at dksX4_offers_4 14 rfl rfl)
theorem dX4_offers_107 : decode cX4_offers 107 = .ok (.invokevirtual 431, 3) := dk_182 1 175 (dk_at dksX4_offers_4 16 rfl rfl)
theorem dX4_offers_110 : decode cX4_offers 110 = .ok (.istore 6, 2) := dk_54 6 (dk_at dksX4_offers_4 19 rfl rfl)
theorem dX4_offers_112 : decode cX4_offers 112 = .ok (.iload 6, 2) := dk_21 6 (dk_at dksX4_offers_4 21 rfl rfl)
theorem dX4_offers_114 : decode cX4_offers 114 = .ok (.ifCond .ne 4, 3) := dk_154 0 4 (dk_at dksX4_offers_5 0 rfl rfl)
theorem dX4_offers_117 : decode cX4_offers 117 = .ok (.return_, 1) := dk_177 (dk_at dksX4_offers_5 3 rfl rfl)
theorem dX4_offers_118 : decode cX4_offers 118 = .ok (.iload 6, 2) := dk_21 6 (dk_at dksX4_offers_5 4 rfl rfl)
theorem dX4_offers_120 : decode cX4_offers 120 = .ok (.iconst 0, 1) := dk_3 (dk_at dksX4_offers_5 6 rfl rfl)
theorem dX4_offers_121 : decode cX4_offers 121 = .ok (.invokestatic 215, 3) := dk_184 0 215 (dk_at dksX4_offers_5 7 rfl rfl)
theorem dX4_offers_124 : decode cX4_offers 124 = .ok (.ifCond .eq 7, 3) := dk_153 0 7 (dk_at dksX4_offers_5 10 rfl rfl)
theorem dX4_offers_127 : decode cX4_offers 127 = .ok (.iconst (-1), 1) := dk_2 (dk_at dksX4_offers_5 13 rfl rfl)
theorem dX4_offers_128 : decode cX4_offers 128 = .ok (.goto 17, 3) := dk_167 0 17 (dk_at dksX4_offers_5 14 rfl rfl)
theorem dX4_offers_131 : decode cX4_offers 131 = .ok (.iload 6, 2) := dk_21 6 (dk_at dksX4_offers_5 17 rfl rfl)
theorem dX4_offers_133 : decode cX4_offers 133 = .ok (.iconst 1, 1) := dk_4 (dk_at dksX4_offers_5 19 rfl rfl)
theorem dX4_offers_134 : decode cX4_offers 134 = .ok (.invokestatic 215, 3) := dk_184 0 215 (dk_at dksX4_offers_5 20 rfl rfl)
theorem dX4_offers_137 : decode cX4_offers 137 = .ok (.ifCond .eq 7, 3) := dk_153 0 7 (dk_at dksX4_offers_6 0 rfl rfl)
theorem dX4_offers_140 : decode cX4_offers 140 = .ok (.iconst 0, 1) := dk_3 (dk_at dksX4_offers_6 3 rfl rfl)
theorem dX4_offers_141 : decode cX4_offers 141 = .ok (.goto 4, 3) := dk_167 0 4 (dk_at dksX4_offers_6 4 rfl rfl)
theorem dX4_offers_144 : decode cX4_offers 144 = .ok (.iconst 1, 1) := dk_4 (dk_at dksX4_offers_6 7 rfl rfl)
theorem dX4_offers_145 : decode cX4_offers 145 = .ok (.istore 7, 2) := dk_54 7 (dk_at dksX4_offers_6 8 rfl rfl)
theorem dX4_offers_147 : decode cX4_offers 147 = .ok (.iload 5, 2) := dk_21 5 (dk_at dksX4_offers_6 10 rfl rfl)
theorem dX4_offers_149 : decode cX4_offers 149 = .ok (.aload_n 0, 1) := dk_42 (dk_at dksX4_offers_6 12 rfl rfl)
theorem dX4_offers_150 : decode cX4_offers 150 = .ok (.getfield 428, 3) := dk_180 1 172 (dk_at dksX4_offers_6 13 rfl rfl)
theorem dX4_offers_153 : decode cX4_offers 153 = .ok (.if_icmp .le 20, 3) := dk_164 0 20 (dk_at dksX4_offers_6 16 rfl rfl)
theorem dX4_offers_156 : decode cX4_offers 156 = .ok (.aload_n 0, 1) := dk_42 (dk_at dksX4_offers_6 19 rfl rfl)
theorem dX4_offers_157 : decode cX4_offers 157 = .ok (.iload 5, 2) := dk_21 5 (dk_at dksX4_offers_6 20 rfl rfl)
theorem dX4_offers_159 : decode cX4_offers 159 = .ok (.putfield 428, 3) := dk_181 1 172 (dk_at dksX4_offers_7 0 rfl rfl)
theorem dX4_offers_162 : decode cX4_offers 162 = .ok (.aload_n 0, 1) := dk_42 (dk_at dksX4_offers_7 3 rfl rfl)
theorem dX4_offers_163 : decode cX4_offers 163 = .ok (.iload 7, 2) := dk_21 7 (dk_at dksX4_offers_7 4 rfl rfl)
theorem dX4_offers_165 : decode cX4_offers 165 = .ok (.putfield 434, 3) := dk_181 1 178 (dk_at dksX4_offers_7 6 rfl rfl)
theorem dX4_offers_168 : decode cX4_offers 168 = .ok (.aload_n 0, 1) := dk_42 (dk_at dksX4_offers_7 9 rfl rfl)
theorem dX4_offers_169 : decode cX4_offers 169 = .ok (.iload_n 2, 1) := dk_28 (dk_at dksX4_offers_7 10 rfl rfl)
theorem dX4_offers_170 : decode cX4_offers 170 = .ok (.putfield 437, 3) := dk_181 1 181 (dk_at dksX4_offers_7 11 rfl rfl)
theorem dX4_offers_173 : decode cX4_offers 173 = .ok (.aload_n 0, 1) := dk_42 (dk_at dksX4_offers_7 14 rfl rfl)
theorem dX4_offers_174 : decode cX4_offers 174 = .ok (.iload 7, 2) := dk_21 7 (dk_at dksX4_offers_7 15 rfl rfl)
theorem dX4_offers_176 : decode cX4_offers 176 = .ok (.aload_n 0, 1) := dk_42 (dk_at dksX4_offers_7 17 rfl rfl)
theorem dX4_offers_177 : decode cX4_offers 177 = .ok (.getfield 434, 3) := dk_180 1 178 (dk_at dksX4_offers_7 18 rfl rfl)
theorem dX4_offers_180 : decode cX4_offers 180 = .ok (.if_icmp .ge 8, 3) := dk_162 0 8 (dk_at dksX4_offers_7 21 rfl rfl)
theorem dX4_offers_183 : decode cX4_offers 183 = .ok (.iload 7, 2) := dk_21 7 (dk_at dksX4_offers_8 0 rfl rfl)
theorem dX4_offers_185 : decode cX4_offers 185 = .ok (.goto 7, 3) := dk_167 0 7 (dk_at dksX4_offers_8 2 rfl rfl)
theorem dX4_offers_188 : decode cX4_offers 188 = .ok (.aload_n 0, 1) := dk_42 (dk_at dksX4_offers_8 5 rfl rfl)
theorem dX4_offers_189 : decode cX4_offers 189 = .ok (.getfield 434, 3) := dk_180 1 178 (dk_at dksX4_offers_8 6 rfl rfl)
theorem dX4_offers_192 : decode cX4_offers 192 = .ok (.putfield 434, 3) := dk_181 1 178 (dk_at dksX4_offers_8 9 rfl rfl)
theorem dX4_offers_195 : decode cX4_offers 195 = .ok (.return_, 1) := dk_177 (dk_at dksX4_offers_8 12 rfl rfl)
abbrev cX4_goingsFor : ByteArray := prog_20_method_100_code
def yX4_goingsFor : MethodName := ⟨RX4, "goingsFor", "(I)I"⟩
def dkwX4_goingsFor_1 : List UInt8 := [180, 0, 51, 29, 46, 128, 61, 132, 3, 1, 167, 255, 226, 28, 172]
abbrev dktX4_goingsFor_1 : List UInt8 := dkwX4_goingsFor_1 ++ []
def dkwX4_goingsFor_0 : List UInt8 := [3, 61, 3, 62, 29, 17, 8, 0, 162, 0, 29, 29, 17, 1, 0, 112, 27, 126, 27, 160, 0, 12, 28, 42]
abbrev dktX4_goingsFor_0 : List UInt8 := dkwX4_goingsFor_0 ++ dktX4_goingsFor_1
theorem dksX4_goingsFor_0 : cX4_goingsFor.data.toList.drop 0 = dktX4_goingsFor_0 := by decide +kernel
theorem dksX4_goingsFor_1 : cX4_goingsFor.data.toList.drop 24 = dktX4_goingsFor_1 := dk_seg dksX4_goingsFor_0 24 rfl rfl
theorem dX4_goingsFor_0 : decode cX4_goingsFor 0 = .ok (.iconst 0, 1) := dk_3 (dk_at dksX4_goingsFor_0 0 rfl rfl)
theorem dX4_goingsFor_1 : decode cX4_goingsFor 1 = .ok (.istore_n 2, 1) := dk_61 (dk_at dksX4_goingsFor_0 1 rfl rfl)
theorem dX4_goingsFor_2 : decode cX4_goingsFor 2 = .ok (.iconst 0, 1) := dk_3 (dk_at dksX4_goingsFor_0 2 rfl rfl)
theorem dX4_goingsFor_3 : decode cX4_goingsFor 3 = .ok (.istore_n 3, 1) := dk_62 (dk_at dksX4_goingsFor_0 3 rfl rfl)
theorem dX4_goingsFor_4 : decode cX4_goingsFor 4 = .ok (.iload_n 3, 1) := dk_29 (dk_at dksX4_goingsFor_0 4 rfl rfl)
theorem dX4_goingsFor_5 : decode cX4_goingsFor 5 = .ok (.sipush 2048, 3) := dk_17 8 0 (dk_at dksX4_goingsFor_0 5 rfl rfl)
theorem dX4_goingsFor_8 : decode cX4_goingsFor 8 = .ok (.if_icmp .ge 29, 3) := dk_162 0 29 (dk_at dksX4_goingsFor_0 8 rfl rfl)
theorem dX4_goingsFor_11 : decode cX4_goingsFor 11 = .ok (.iload_n 3, 1) := dk_29 (dk_at dksX4_goingsFor_0 11 rfl rfl)
theorem dX4_goingsFor_12 : decode cX4_goingsFor 12 = .ok (.sipush 256, 3) := dk_17 1 0 (dk_at dksX4_goingsFor_0 12 rfl rfl)
theorem dX4_goingsFor_15 : decode cX4_goingsFor 15 = .ok (.irem, 1) := dk_112 (dk_at dksX4_goingsFor_0 15 rfl rfl)
theorem dX4_goingsFor_16 : decode cX4_goingsFor 16 = .ok (.iload_n 1, 1) := dk_27 (dk_at dksX4_goingsFor_0 16 rfl rfl)
theorem dX4_goingsFor_17 : decode cX4_goingsFor 17 = .ok (.iand, 1) := dk_126 (dk_at dksX4_goingsFor_0 17 rfl rfl)
theorem dX4_goingsFor_18 : decode cX4_goingsFor 18 = .ok (.iload_n 1, 1) := dk_27 (dk_at dksX4_goingsFor_0 18 rfl rfl)
theorem dX4_goingsFor_19 : decode cX4_goingsFor 19 = .ok (.if_icmp .ne 12, 3) := dk_160 0 12 (dk_at dksX4_goingsFor_0 19 rfl rfl)
theorem dX4_goingsFor_22 : decode cX4_goingsFor 22 = .ok (.iload_n 2, 1) := dk_28 (dk_at dksX4_goingsFor_0 22 rfl rfl)
theorem dX4_goingsFor_23 : decode cX4_goingsFor 23 = .ok (.aload_n 0, 1) := dk_42 (dk_at dksX4_goingsFor_0 23 rfl rfl)
theorem dX4_goingsFor_24 : decode cX4_goingsFor 24 = .ok (.getfield 51, 3) := dk_180 0 51 (dk_at dksX4_goingsFor_1 0 rfl rfl)
theorem dX4_goingsFor_27 : decode cX4_goingsFor 27 = .ok (.iload_n 3, 1) := dk_29 (dk_at dksX4_goingsFor_1 3 rfl rfl)
theorem dX4_goingsFor_28 : decode cX4_goingsFor 28 = .ok (.iaload, 1) := dk_46 (dk_at dksX4_goingsFor_1 4 rfl rfl)
theorem dX4_goingsFor_29 : decode cX4_goingsFor 29 = .ok (.ior, 1) := dk_128 (dk_at dksX4_goingsFor_1 5 rfl rfl)
theorem dX4_goingsFor_30 : decode cX4_goingsFor 30 = .ok (.istore_n 2, 1) := dk_61 (dk_at dksX4_goingsFor_1 6 rfl rfl)
theorem dX4_goingsFor_31 : decode cX4_goingsFor 31 = .ok (.iinc 3 1, 3) := dk_132 3 1 (dk_at dksX4_goingsFor_1 7 rfl rfl)
theorem dX4_goingsFor_34 : decode cX4_goingsFor 34 = .ok (.goto (-30), 3) := dk_167 255 226 (dk_at dksX4_goingsFor_1 10 rfl rfl)
theorem dX4_goingsFor_37 : decode cX4_goingsFor 37 = .ok (.iload_n 2, 1) := dk_28 (dk_at dksX4_goingsFor_1 13 rfl rfl)
theorem dX4_goingsFor_38 : decode cX4_goingsFor 38 = .ok (.ireturn, 1) := dk_172 (dk_at dksX4_goingsFor_1 14 rfl rfl)
abbrev cX4_chance : ByteArray := prog_20_method_105_code
def yX4_chance : MethodName := ⟨RX4, "chance", "(III)I"⟩
def dkwX4_chance_3 : List UInt8 := [21, 4, 21, 5, 184, 1, 195, 108, 172]
abbrev dktX4_chance_3 : List UInt8 := dkwX4_chance_3 ++ []
def dkwX4_chance_2 : List UInt8 := [182, 1, 127, 54, 5, 21, 4, 154, 0, 5, 29, 172, 29, 154, 0, 8, 21, 5, 167, 0, 5, 21, 4]
abbrev dktX4_chance_2 : List UInt8 := dkwX4_chance_2 ++ dktX4_chance_3
def dkwX4_chance_1 : List UInt8 := [154, 0, 5, 2, 172, 42, 27, 182, 1, 192, 184, 1, 118, 54, 4, 42, 42, 27, 182, 1, 192, 28, 5]
abbrev dktX4_chance_1 : List UInt8 := dkwX4_chance_1 ++ dktX4_chance_2
def dkwX4_chance_0 : List UInt8 := [42, 27, 182, 1, 87, 153, 0, 21, 42, 28, 182, 1, 79, 153, 0, 13, 29, 133, 9, 10, 184, 0, 109]
abbrev dktX4_chance_0 : List UInt8 := dkwX4_chance_0 ++ dktX4_chance_1
theorem dksX4_chance_0 : cX4_chance.data.toList.drop 0 = dktX4_chance_0 := by decide +kernel
theorem dksX4_chance_1 : cX4_chance.data.toList.drop 23 = dktX4_chance_1 := dk_seg dksX4_chance_0 23 rfl rfl
theorem dksX4_chance_2 : cX4_chance.data.toList.drop 46 = dktX4_chance_2 := dk_seg dksX4_chance_1 23 rfl rfl
theorem dksX4_chance_3 : cX4_chance.data.toList.drop 69 = dktX4_chance_3 := dk_seg dksX4_chance_2 23 rfl rfl
theorem dX4_chance_0 : decode cX4_chance 0 = .ok (.aload_n 0, 1) := dk_42 (dk_at dksX4_chance_0 0 rfl rfl)
theorem dX4_chance_1 : decode cX4_chance 1 = .ok (.iload_n 1, 1) := dk_27 (dk_at dksX4_chance_0 1 rfl rfl)
theorem dX4_chance_2 : decode cX4_chance 2 = .ok (.invokevirtual 343, 3) := dk_182 1 87 (dk_at dksX4_chance_0 2 rfl rfl)
theorem dX4_chance_5 : decode cX4_chance 5 = .ok (.ifCond .eq 21, 3) := dk_153 0 21 (dk_at dksX4_chance_0 5 rfl rfl)
theorem dX4_chance_8 : decode cX4_chance 8 = .ok (.aload_n 0, 1) := dk_42 (dk_at dksX4_chance_0 8 rfl rfl)
theorem dX4_chance_9 : decode cX4_chance 9 = .ok (.iload_n 2, 1) := dk_28 (dk_at dksX4_chance_0 9 rfl rfl)
theorem dX4_chance_10 : decode cX4_chance 10 = .ok (.invokevirtual 335, 3) := dk_182 1 79 (dk_at dksX4_chance_0 10 rfl rfl)
theorem dX4_chance_13 : decode cX4_chance 13 = .ok (.ifCond .eq 13, 3) := dk_153 0 13 (dk_at dksX4_chance_0 13 rfl rfl)
theorem dX4_chance_16 : decode cX4_chance 16 = .ok (.iload_n 3, 1) := dk_29 (dk_at dksX4_chance_0 16 rfl rfl)
theorem dX4_chance_17 : decode cX4_chance 17 = .ok (.i2l, 1) := dk_133 (dk_at dksX4_chance_0 17 rfl rfl)
theorem dX4_chance_18 : decode cX4_chance 18 = .ok (.lconst 0, 1) := dk_9 (dk_at dksX4_chance_0 18 rfl rfl)
theorem dX4_chance_19 : decode cX4_chance 19 = .ok (.lconst 1, 1) := dk_10 (dk_at dksX4_chance_0 19 rfl rfl)
theorem dX4_chance_20 : decode cX4_chance 20 = .ok (.invokestatic 109, 3) := dk_184 0 109 (dk_at dksX4_chance_0 20 rfl rfl)
theorem dX4_chance_23 : decode cX4_chance 23 = .ok (.ifCond .ne 5, 3) := dk_154 0 5 (dk_at dksX4_chance_1 0 rfl rfl)
theorem dX4_chance_26 : decode cX4_chance 26 = .ok (.iconst (-1), 1) := dk_2 (dk_at dksX4_chance_1 3 rfl rfl)
theorem dX4_chance_27 : decode cX4_chance 27 = .ok (.ireturn, 1) := dk_172 (dk_at dksX4_chance_1 4 rfl rfl)
theorem dX4_chance_28 : decode cX4_chance 28 = .ok (.aload_n 0, 1) := dk_42 (dk_at dksX4_chance_1 5 rfl rfl)
theorem dX4_chance_29 : decode cX4_chance 29 = .ok (.iload_n 1, 1) := dk_27 (dk_at dksX4_chance_1 6 rfl rfl)
theorem dX4_chance_30 : decode cX4_chance 30 = .ok (.invokevirtual 448, 3) := dk_182 1 192 (dk_at dksX4_chance_1 7 rfl rfl)
theorem dX4_chance_33 : decode cX4_chance 33 = .ok (.invokestatic 374, 3) := dk_184 1 118 (dk_at dksX4_chance_1 10 rfl rfl)
theorem dX4_chance_36 : decode cX4_chance 36 = .ok (.istore 4, 2) := dk_54 4 (dk_at dksX4_chance_1 13 rfl rfl)
theorem dX4_chance_38 : decode cX4_chance 38 = .ok (.aload_n 0, 1) := dk_42 (dk_at dksX4_chance_1 15 rfl rfl)
theorem dX4_chance_39 : decode cX4_chance 39 = .ok (.aload_n 0, 1) := dk_42 (dk_at dksX4_chance_1 16 rfl rfl)
theorem dX4_chance_40 : decode cX4_chance 40 = .ok (.iload_n 1, 1) := dk_27 (dk_at dksX4_chance_1 17 rfl rfl)
theorem dX4_chance_41 : decode cX4_chance 41 = .ok (.invokevirtual 448, 3) := dk_182 1 192 (dk_at dksX4_chance_1 18 rfl rfl)
theorem dX4_chance_44 : decode cX4_chance 44 = .ok (.iload_n 2, 1) := dk_28 (dk_at dksX4_chance_1 21 rfl rfl)
theorem dX4_chance_45 : decode cX4_chance 45 = .ok (.iconst 2, 1) := dk_5 (dk_at dksX4_chance_1 22 rfl rfl)
theorem dX4_chance_46 : decode cX4_chance 46 = .ok (.invokevirtual 383, 3) := dk_182 1 127 (dk_at dksX4_chance_2 0 rfl rfl)
theorem dX4_chance_49 : decode cX4_chance 49 = .ok (.istore 5, 2) := dk_54 5 (dk_at dksX4_chance_2 3 rfl rfl)
theorem dX4_chance_51 : decode cX4_chance 51 = .ok (.iload 4, 2) := dk_21 4 (dk_at dksX4_chance_2 5 rfl rfl)
theorem dX4_chance_53 : decode cX4_chance 53 = .ok (.ifCond .ne 5, 3) := dk_154 0 5 (dk_at dksX4_chance_2 7 rfl rfl)
theorem dX4_chance_56 : decode cX4_chance 56 = .ok (.iload_n 3, 1) := dk_29 (dk_at dksX4_chance_2 10 rfl rfl)
theorem dX4_chance_57 : decode cX4_chance 57 = .ok (.ireturn, 1) := dk_172 (dk_at dksX4_chance_2 11 rfl rfl)
theorem dX4_chance_58 : decode cX4_chance 58 = .ok (.iload_n 3, 1) := dk_29 (dk_at dksX4_chance_2 12 rfl rfl)
theorem dX4_chance_59 : decode cX4_chance 59 = .ok (.ifCond .ne 8, 3) := dk_154 0 8 (dk_at dksX4_chance_2 13 rfl rfl)
theorem dX4_chance_62 : decode cX4_chance 62 = .ok (.iload 5, 2) := dk_21 5 (dk_at dksX4_chance_2 16 rfl rfl)
theorem dX4_chance_64 : decode cX4_chance 64 = .ok (.goto 5, 3) := dk_167 0 5 (dk_at dksX4_chance_2 18 rfl rfl)
theorem dX4_chance_67 : decode cX4_chance 67 = .ok (.iload 4, 2) := dk_21 4 (dk_at dksX4_chance_2 21 rfl rfl)
theorem dX4_chance_69 : decode cX4_chance 69 = .ok (.iload 4, 2) := dk_21 4 (dk_at dksX4_chance_3 0 rfl rfl)
theorem dX4_chance_71 : decode cX4_chance 71 = .ok (.iload 5, 2) := dk_21 5 (dk_at dksX4_chance_3 2 rfl rfl)
theorem dX4_chance_73 : decode cX4_chance 73 = .ok (.invokestatic 451, 3) := dk_184 1 195 (dk_at dksX4_chance_3 4 rfl rfl)
theorem dX4_chance_76 : decode cX4_chance 76 = .ok (.idiv, 1) := dk_108 (dk_at dksX4_chance_3 7 rfl rfl)
theorem dX4_chance_77 : decode cX4_chance 77 = .ok (.ireturn, 1) := dk_172 (dk_at dksX4_chance_3 8 rfl rfl)
abbrev cX4_unseen : ByteArray := prog_20_method_104_code
def yX4_unseen : MethodName := ⟨RX4, "unseen", "(I)I"⟩
def dkwX4_unseen_0 : List UInt8 := [42, 182, 1, 131, 42, 27, 182, 1, 93, 2, 130, 126, 172]
abbrev dktX4_unseen_0 : List UInt8 := dkwX4_unseen_0 ++ []
theorem dksX4_unseen_0 : cX4_unseen.data.toList.drop 0 = dktX4_unseen_0 := by decide +kernel
theorem dX4_unseen_0 : decode cX4_unseen 0 = .ok (.aload_n 0, 1) := dk_42 (dk_at dksX4_unseen_0 0 rfl rfl)
theorem dX4_unseen_1 : decode cX4_unseen 1 = .ok (.invokevirtual 387, 3) := dk_182 1 131 (dk_at dksX4_unseen_0 1 rfl rfl)
theorem dX4_unseen_4 : decode cX4_unseen 4 = .ok (.aload_n 0, 1) := dk_42 (dk_at dksX4_unseen_0 4 rfl rfl)
theorem dX4_unseen_5 : decode cX4_unseen 5 = .ok (.iload_n 1, 1) := dk_27 (dk_at dksX4_unseen_0 5 rfl rfl)
theorem dX4_unseen_6 : decode cX4_unseen 6 = .ok (.invokevirtual 349, 3) := dk_182 1 93 (dk_at dksX4_unseen_0 6 rfl rfl)
theorem dX4_unseen_9 : decode cX4_unseen 9 = .ok (.iconst (-1), 1) := dk_2 (dk_at dksX4_unseen_0 9 rfl rfl)
theorem dX4_unseen_10 : decode cX4_unseen 10 = .ok (.ixor, 1) := dk_130 (dk_at dksX4_unseen_0 10 rfl rfl)
theorem dX4_unseen_11 : decode cX4_unseen 11 = .ok (.iand, 1) := dk_126 (dk_at dksX4_unseen_0 11 rfl rfl)
theorem dX4_unseen_12 : decode cX4_unseen 12 = .ok (.ireturn, 1) := dk_172 (dk_at dksX4_unseen_0 12 rfl rfl)
abbrev cX4_divisor : ByteArray := prog_20_method_103_code
def yX4_divisor : MethodName := ⟨RX4, "divisor", "(II)I"⟩
def dkwX4_divisor_0 : List UInt8 := [26, 61, 27, 62, 29, 153, 0, 16, 28, 29, 112, 54, 4, 29, 61, 21, 4, 62, 167, 255, 242, 28, 172]
abbrev dktX4_divisor_0 : List UInt8 := dkwX4_divisor_0 ++ []
theorem dksX4_divisor_0 : cX4_divisor.data.toList.drop 0 = dktX4_divisor_0 := by decide +kernel
theorem dX4_divisor_0 : decode cX4_divisor 0 = .ok (.iload_n 0, 1) := dk_26 (dk_at dksX4_divisor_0 0 rfl rfl)
theorem dX4_divisor_1 : decode cX4_divisor 1 = .ok (.istore_n 2, 1) := dk_61 (dk_at dksX4_divisor_0 1 rfl rfl)
theorem dX4_divisor_2 : decode cX4_divisor 2 = .ok (.iload_n 1, 1) := dk_27 (dk_at dksX4_divisor_0 2 rfl rfl)
theorem dX4_divisor_3 : decode cX4_divisor 3 = .ok (.istore_n 3, 1) := dk_62 (dk_at dksX4_divisor_0 3 rfl rfl)
theorem dX4_divisor_4 : decode cX4_divisor 4 = .ok (.iload_n 3, 1) := dk_29 (dk_at dksX4_divisor_0 4 rfl rfl)
theorem dX4_divisor_5 : decode cX4_divisor 5 = .ok (.ifCond .eq 16, 3) := dk_153 0 16 (dk_at dksX4_divisor_0 5 rfl rfl)
theorem dX4_divisor_8 : decode cX4_divisor 8 = .ok (.iload_n 2, 1) := dk_28 (dk_at dksX4_divisor_0 8 rfl rfl)
theorem dX4_divisor_9 : decode cX4_divisor 9 = .ok (.iload_n 3, 1) := dk_29 (dk_at dksX4_divisor_0 9 rfl rfl)
theorem dX4_divisor_10 : decode cX4_divisor 10 = .ok (.irem, 1) := dk_112 (dk_at dksX4_divisor_0 10 rfl rfl)
theorem dX4_divisor_11 : decode cX4_divisor 11 = .ok (.istore 4, 2) := dk_54 4 (dk_at dksX4_divisor_0 11 rfl rfl)
theorem dX4_divisor_13 : decode cX4_divisor 13 = .ok (.iload_n 3, 1) := dk_29 (dk_at dksX4_divisor_0 13 rfl rfl)
theorem dX4_divisor_14 : decode cX4_divisor 14 = .ok (.istore_n 2, 1) := dk_61 (dk_at dksX4_divisor_0 14 rfl rfl)
theorem dX4_divisor_15 : decode cX4_divisor 15 = .ok (.iload 4, 2) := dk_21 4 (dk_at dksX4_divisor_0 15 rfl rfl)
theorem dX4_divisor_17 : decode cX4_divisor 17 = .ok (.istore_n 3, 1) := dk_62 (dk_at dksX4_divisor_0 17 rfl rfl)
theorem dX4_divisor_18 : decode cX4_divisor 18 = .ok (.goto (-14), 3) := dk_167 255 242 (dk_at dksX4_divisor_0 18 rfl rfl)
theorem dX4_divisor_21 : decode cX4_divisor 21 = .ok (.iload_n 2, 1) := dk_28 (dk_at dksX4_divisor_0 21 rfl rfl)
theorem dX4_divisor_22 : decode cX4_divisor 22 = .ok (.ireturn, 1) := dk_172 (dk_at dksX4_divisor_0 22 rfl rfl)
abbrev cX4_yields : ByteArray := prog_20_method_107_code
def yX4_yields : MethodName := ⟨RX4, "yields", "(IIIII)I"⟩
def dkwX4_yields_4 : List UInt8 := [167, 0, 4, 29, 172]
abbrev dktX4_yields_4 : List UInt8 := dkwX4_yields_4 ++ []
def dkwX4_yields_3 : List UInt8 := [162, 0, 7, 27, 167, 0, 24, 21, 7, 21, 6, 162, 0, 7, 29, 167, 0, 13, 27, 29, 162, 0, 7, 27]
abbrev dktX4_yields_3 : List UInt8 := dkwX4_yields_3 ++ dktX4_yields_4
def dkwX4_yields_2 : List UInt8 := [182, 1, 198, 54, 7, 21, 5, 4, 160, 0, 11, 21, 6, 21, 7, 96, 5, 108, 172, 21, 6, 21, 7]
abbrev dktX4_yields_2 : List UInt8 := dkwX4_yields_2 ++ dktX4_yields_3
def dkwX4_yields_1 : List UInt8 := [133, 9, 10, 184, 0, 109, 154, 0, 5, 2, 172, 42, 27, 21, 4, 182, 1, 198, 54, 6, 42, 29, 28]
abbrev dktX4_yields_1 : List UInt8 := dkwX4_yields_1 ++ dktX4_yields_2
def dkwX4_yields_0 : List UInt8 := [42, 27, 28, 29, 21, 4, 182, 1, 121, 153, 0, 24, 42, 28, 21, 4, 182, 1, 70, 153, 0, 14, 21, 5]
abbrev dktX4_yields_0 : List UInt8 := dkwX4_yields_0 ++ dktX4_yields_1
theorem dksX4_yields_0 : cX4_yields.data.toList.drop 0 = dktX4_yields_0 := by decide +kernel
theorem dksX4_yields_1 : cX4_yields.data.toList.drop 24 = dktX4_yields_1 := dk_seg dksX4_yields_0 24 rfl rfl
theorem dksX4_yields_2 : cX4_yields.data.toList.drop 47 = dktX4_yields_2 := dk_seg dksX4_yields_1 23 rfl rfl
theorem dksX4_yields_3 : cX4_yields.data.toList.drop 70 = dktX4_yields_3 := dk_seg dksX4_yields_2 23 rfl rfl
theorem dksX4_yields_4 : cX4_yields.data.toList.drop 94 = dktX4_yields_4 := dk_seg dksX4_yields_3 24 rfl rfl
theorem dX4_yields_0 : decode cX4_yields 0 = .ok (.aload_n 0, 1) := dk_42 (dk_at dksX4_yields_0 0 rfl rfl)
theorem dX4_yields_1 : decode cX4_yields 1 = .ok (.iload_n 1, 1) := dk_27 (dk_at dksX4_yields_0 1 rfl rfl)
theorem dX4_yields_2 : decode cX4_yields 2 = .ok (.iload_n 2, 1) := dk_28 (dk_at dksX4_yields_0 2 rfl rfl)
theorem dX4_yields_3 : decode cX4_yields 3 = .ok (.iload_n 3, 1) := dk_29 (dk_at dksX4_yields_0 3 rfl rfl)
theorem dX4_yields_4 : decode cX4_yields 4 = .ok (.iload 4, 2) := dk_21 4 (dk_at dksX4_yields_0 4 rfl rfl)
theorem dX4_yields_6 : decode cX4_yields 6 = .ok (.invokevirtual 377, 3) := dk_182 1 121 (dk_at dksX4_yields_0 6 rfl rfl)
theorem dX4_yields_9 : decode cX4_yields 9 = .ok (.ifCond .eq 24, 3) := dk_153 0 24 (dk_at dksX4_yields_0 9 rfl rfl)
theorem dX4_yields_12 : decode cX4_yields 12 = .ok (.aload_n 0, 1) := dk_42 (dk_at dksX4_yields_0 12 rfl rfl)
theorem dX4_yields_13 : decode cX4_yields 13 = .ok (.iload_n 2, 1) := dk_28 (dk_at dksX4_yields_0 13 rfl rfl)
theorem dX4_yields_14 : decode cX4_yields 14 = .ok (.iload 4, 2) := dk_21 4 (dk_at dksX4_yields_0 14 rfl rfl)
theorem dX4_yields_16 : decode cX4_yields 16 = .ok (.invokevirtual 326, 3) := dk_182 1 70 (dk_at dksX4_yields_0 16 rfl rfl)
theorem dX4_yields_19 : decode cX4_yields 19 = .ok (.ifCond .eq 14, 3) := dk_153 0 14 (dk_at dksX4_yields_0 19 rfl rfl)
theorem dX4_yields_22 : decode cX4_yields 22 = .ok (.iload 5, 2) := dk_21 5 (dk_at dksX4_yields_0 22 rfl rfl)
theorem dX4_yields_24 : decode cX4_yields 24 = .ok (.i2l, 1) := dk_133 (dk_at dksX4_yields_1 0 rfl rfl)
theorem dX4_yields_25 : decode cX4_yields 25 = .ok (.lconst 0, 1) := dk_9 (dk_at dksX4_yields_1 1 rfl rfl)
theorem dX4_yields_26 : decode cX4_yields 26 = .ok (.lconst 1, 1) := dk_10 (dk_at dksX4_yields_1 2 rfl rfl)
theorem dX4_yields_27 : decode cX4_yields 27 = .ok (.invokestatic 109, 3) := dk_184 0 109 (dk_at dksX4_yields_1 3 rfl rfl)
theorem dX4_yields_30 : decode cX4_yields 30 = .ok (.ifCond .ne 5, 3) := dk_154 0 5 (dk_at dksX4_yields_1 6 rfl rfl)
theorem dX4_yields_33 : decode cX4_yields 33 = .ok (.iconst (-1), 1) := dk_2 (dk_at dksX4_yields_1 9 rfl rfl)
theorem dX4_yields_34 : decode cX4_yields 34 = .ok (.ireturn, 1) := dk_172 (dk_at dksX4_yields_1 10 rfl rfl)
theorem dX4_yields_35 : decode cX4_yields 35 = .ok (.aload_n 0, 1) := dk_42 (dk_at dksX4_yields_1 11 rfl rfl)
theorem dX4_yields_36 : decode cX4_yields 36 = .ok (.iload_n 1, 1) := dk_27 (dk_at dksX4_yields_1 12 rfl rfl)
theorem dX4_yields_37 : decode cX4_yields 37 = .ok (.iload 4, 2) := dk_21 4 (dk_at dksX4_yields_1 13 rfl rfl)
theorem dX4_yields_39 : decode cX4_yields 39 = .ok (.invokevirtual 454, 3) := dk_182 1 198 (dk_at dksX4_yields_1 15 rfl rfl)
theorem dX4_yields_42 : decode cX4_yields 42 = .ok (.istore 6, 2) := dk_54 6 (dk_at dksX4_yields_1 18 rfl rfl)
theorem dX4_yields_44 : decode cX4_yields 44 = .ok (.aload_n 0, 1) := dk_42 (dk_at dksX4_yields_1 20 rfl rfl)
theorem dX4_yields_45 : decode cX4_yields 45 = .ok (.iload_n 3, 1) := dk_29 (dk_at dksX4_yields_1 21 rfl rfl)
theorem dX4_yields_46 : decode cX4_yields 46 = .ok (.iload_n 2, 1) := dk_28 (dk_at dksX4_yields_1 22 rfl rfl)
theorem dX4_yields_47 : decode cX4_yields 47 = .ok (.invokevirtual 454, 3) := dk_182 1 198 (dk_at dksX4_yields_2 0 rfl rfl)
theorem dX4_yields_50 : decode cX4_yields 50 = .ok (.istore 7, 2) := dk_54 7 (dk_at dksX4_yields_2 3 rfl rfl)
theorem dX4_yields_52 : decode cX4_yields 52 = .ok (.iload 5, 2) := dk_21 5 (dk_at dksX4_yields_2 5 rfl rfl)
theorem dX4_yields_54 : decode cX4_yields 54 = .ok (.iconst 1, 1) := dk_4 (dk_at dksX4_yields_2 7 rfl rfl)
theorem dX4_yields_55 : decode cX4_yields 55 = .ok (.if_icmp .ne 11, 3) := dk_160 0 11 (dk_at dksX4_yields_2 8 rfl rfl)
theorem dX4_yields_58 : decode cX4_yields 58 = .ok (.iload 6, 2) := dk_21 6 (dk_at dksX4_yields_2 11 rfl rfl)
theorem dX4_yields_60 : decode cX4_yields 60 = .ok (.iload 7, 2) := dk_21 7 (dk_at dksX4_yields_2 13 rfl rfl)
theorem dX4_yields_62 : decode cX4_yields 62 = .ok (.iadd, 1) := dk_96 (dk_at dksX4_yields_2 15 rfl rfl)
theorem dX4_yields_63 : decode cX4_yields 63 = .ok (.iconst 2, 1) := dk_5 (dk_at dksX4_yields_2 16 rfl rfl)
theorem dX4_yields_64 : decode cX4_yields 64 = .ok (.idiv, 1) := dk_108 (dk_at dksX4_yields_2 17 rfl rfl)
theorem dX4_yields_65 : decode cX4_yields 65 = .ok (.ireturn, 1) := dk_172 (dk_at dksX4_yields_2 18 rfl rfl)
theorem dX4_yields_66 : decode cX4_yields 66 = .ok (.iload 6, 2) := dk_21 6 (dk_at dksX4_yields_2 19 rfl rfl)
theorem dX4_yields_68 : decode cX4_yields 68 = .ok (.iload 7, 2) := dk_21 7 (dk_at dksX4_yields_2 21 rfl rfl)
theorem dX4_yields_70 : decode cX4_yields 70 = .ok (.if_icmp .ge 7, 3) := dk_162 0 7 (dk_at dksX4_yields_3 0 rfl rfl)
theorem dX4_yields_73 : decode cX4_yields 73 = .ok (.iload_n 1, 1) := dk_27 (dk_at dksX4_yields_3 3 rfl rfl)
theorem dX4_yields_74 : decode cX4_yields 74 = .ok (.goto 24, 3) := dk_167 0 24 (dk_at dksX4_yields_3 4 rfl rfl)
theorem dX4_yields_77 : decode cX4_yields 77 = .ok (.iload 7, 2) := dk_21 7 (dk_at dksX4_yields_3 7 rfl rfl)
theorem dX4_yields_79 : decode cX4_yields 79 = .ok (.iload 6, 2) := dk_21 6 (dk_at dksX4_yields_3 9 rfl rfl)
theorem dX4_yields_81 : decode cX4_yields 81 = .ok (.if_icmp .ge 7, 3) := dk_162 0 7 (dk_at dksX4_yields_3 11 rfl rfl)
theorem dX4_yields_84 : decode cX4_yields 84 = .ok (.iload_n 3, 1) := dk_29 (dk_at dksX4_yields_3 14 rfl rfl)
theorem dX4_yields_85 : decode cX4_yields 85 = .ok (.goto 13, 3) := dk_167 0 13 (dk_at dksX4_yields_3 15 rfl rfl)
theorem dX4_yields_88 : decode cX4_yields 88 = .ok (.iload_n 1, 1) := dk_27 (dk_at dksX4_yields_3 18 rfl rfl)
theorem dX4_yields_89 : decode cX4_yields 89 = .ok (.iload_n 3, 1) := dk_29 (dk_at dksX4_yields_3 19 rfl rfl)
theorem dX4_yields_90 : decode cX4_yields 90 = .ok (.if_icmp .ge 7, 3) := dk_162 0 7 (dk_at dksX4_yields_3 20 rfl rfl)
theorem dX4_yields_93 : decode cX4_yields 93 = .ok (.iload_n 1, 1) := dk_27 (dk_at dksX4_yields_3 23 rfl rfl)
theorem dX4_yields_94 : decode cX4_yields 94 = .ok (.goto 4, 3) := dk_167 0 4 (dk_at dksX4_yields_4 0 rfl rfl)
theorem dX4_yields_97 : decode cX4_yields 97 = .ok (.iload_n 3, 1) := dk_29 (dk_at dksX4_yields_4 3 rfl rfl)
theorem dX4_yields_98 : decode cX4_yields 98 = .ok (.ireturn, 1) := dk_172 (dk_at dksX4_yields_4 4 rfl rfl)
abbrev cX4_givesFor : ByteArray := prog_20_method_106_code
def yX4_givesFor : MethodName := ⟨RX4, "givesFor", "(II)I"⟩
def dkwX4_givesFor_1 : List UInt8 := [100, 172]
abbrev dktX4_givesFor_1 : List UInt8 := dkwX4_givesFor_1 ++ []
def dkwX4_givesFor_0 : List UInt8 := [42, 180, 0, 42, 42, 27, 182, 1, 90, 4, 28, 120, 128, 46, 42, 180, 0, 42, 42, 27, 182, 1, 90, 46]
abbrev dktX4_givesFor_0 : List UInt8 := dkwX4_givesFor_0 ++ dktX4_givesFor_1
theorem dksX4_givesFor_0 : cX4_givesFor.data.toList.drop 0 = dktX4_givesFor_0 := by decide +kernel
theorem dksX4_givesFor_1 : cX4_givesFor.data.toList.drop 24 = dktX4_givesFor_1 := dk_seg dksX4_givesFor_0 24 rfl rfl
theorem dX4_givesFor_0 : decode cX4_givesFor 0 = .ok (.aload_n 0, 1) := dk_42 (dk_at dksX4_givesFor_0 0 rfl rfl)
theorem dX4_givesFor_1 : decode cX4_givesFor 1 = .ok (.getfield 42, 3) := dk_180 0 42 (dk_at dksX4_givesFor_0 1 rfl rfl)
theorem dX4_givesFor_4 : decode cX4_givesFor 4 = .ok (.aload_n 0, 1) := dk_42 (dk_at dksX4_givesFor_0 4 rfl rfl)
theorem dX4_givesFor_5 : decode cX4_givesFor 5 = .ok (.iload_n 1, 1) := dk_27 (dk_at dksX4_givesFor_0 5 rfl rfl)
theorem dX4_givesFor_6 : decode cX4_givesFor 6 = .ok (.invokevirtual 346, 3) := dk_182 1 90 (dk_at dksX4_givesFor_0 6 rfl rfl)
theorem dX4_givesFor_9 : decode cX4_givesFor 9 = .ok (.iconst 1, 1) := dk_4 (dk_at dksX4_givesFor_0 9 rfl rfl)
theorem dX4_givesFor_10 : decode cX4_givesFor 10 = .ok (.iload_n 2, 1) := dk_28 (dk_at dksX4_givesFor_0 10 rfl rfl)
theorem dX4_givesFor_11 : decode cX4_givesFor 11 = .ok (.ishl, 1) := dk_120 (dk_at dksX4_givesFor_0 11 rfl rfl)
theorem dX4_givesFor_12 : decode cX4_givesFor 12 = .ok (.ior, 1) := dk_128 (dk_at dksX4_givesFor_0 12 rfl rfl)
theorem dX4_givesFor_13 : decode cX4_givesFor 13 = .ok (.iaload, 1) := dk_46 (dk_at dksX4_givesFor_0 13 rfl rfl)
theorem dX4_givesFor_14 : decode cX4_givesFor 14 = .ok (.aload_n 0, 1) := dk_42 (dk_at dksX4_givesFor_0 14 rfl rfl)
theorem dX4_givesFor_15 : decode cX4_givesFor 15 = .ok (.getfield 42, 3) := dk_180 0 42 (dk_at dksX4_givesFor_0 15 rfl rfl)
theorem dX4_givesFor_18 : decode cX4_givesFor 18 = .ok (.aload_n 0, 1) := dk_42 (dk_at dksX4_givesFor_0 18 rfl rfl)
theorem dX4_givesFor_19 : decode cX4_givesFor 19 = .ok (.iload_n 1, 1) := dk_27 (dk_at dksX4_givesFor_0 19 rfl rfl)
theorem dX4_givesFor_20 : decode cX4_givesFor 20 = .ok (.invokevirtual 346, 3) := dk_182 1 90 (dk_at dksX4_givesFor_0 20 rfl rfl)
theorem dX4_givesFor_23 : decode cX4_givesFor 23 = .ok (.iaload, 1) := dk_46 (dk_at dksX4_givesFor_0 23 rfl rfl)
theorem dX4_givesFor_24 : decode cX4_givesFor 24 = .ok (.isub, 1) := dk_100 (dk_at dksX4_givesFor_1 0 rfl rfl)
theorem dX4_givesFor_25 : decode cX4_givesFor 25 = .ok (.ireturn, 1) := dk_172 (dk_at dksX4_givesFor_1 1 rfl rfl)
abbrev cX4_cry : ByteArray := prog_20_method_110_code
def yX4_cry : MethodName := ⟨RX4, "cry", "(II)I"⟩
def dkwX4_cry_3 : List UInt8 := [154, 0, 7, 29, 167, 0, 14, 21, 4, 156, 0, 7, 3, 167, 0, 5, 21, 4, 172]
abbrev dktX4_cry_3 : List UInt8 := dkwX4_cry_3 ++ []
def dkwX4_cry_2 : List UInt8 := [21, 4, 163, 0, 6, 167, 0, 10, 21, 5, 62, 21, 6, 54, 4, 132, 5, 1, 167, 255, 220, 28]
abbrev dktX4_cry_2 : List UInt8 := dkwX4_cry_2 ++ dktX4_cry_3
def dkwX4_cry_1 : List UInt8 := [54, 4, 3, 54, 5, 21, 5, 16, 100, 162, 0, 35, 42, 27, 21, 5, 182, 1, 204, 54, 6, 21, 6]
abbrev dktX4_cry_1 : List UInt8 := dkwX4_cry_1 ++ dktX4_cry_2
def dkwX4_cry_0 : List UInt8 := [42, 27, 182, 1, 87, 153, 0, 13, 28, 133, 9, 10, 184, 0, 109, 154, 0, 5, 2, 172, 16, 254, 62, 2]
abbrev dktX4_cry_0 : List UInt8 := dkwX4_cry_0 ++ dktX4_cry_1
theorem dksX4_cry_0 : cX4_cry.data.toList.drop 0 = dktX4_cry_0 := by decide +kernel
theorem dksX4_cry_1 : cX4_cry.data.toList.drop 24 = dktX4_cry_1 := dk_seg dksX4_cry_0 24 rfl rfl
theorem dksX4_cry_2 : cX4_cry.data.toList.drop 47 = dktX4_cry_2 := dk_seg dksX4_cry_1 23 rfl rfl
theorem dksX4_cry_3 : cX4_cry.data.toList.drop 69 = dktX4_cry_3 := dk_seg dksX4_cry_2 22 rfl rfl
theorem dX4_cry_0 : decode cX4_cry 0 = .ok (.aload_n 0, 1) := dk_42 (dk_at dksX4_cry_0 0 rfl rfl)
theorem dX4_cry_1 : decode cX4_cry 1 = .ok (.iload_n 1, 1) := dk_27 (dk_at dksX4_cry_0 1 rfl rfl)
theorem dX4_cry_2 : decode cX4_cry 2 = .ok (.invokevirtual 343, 3) := dk_182 1 87 (dk_at dksX4_cry_0 2 rfl rfl)
theorem dX4_cry_5 : decode cX4_cry 5 = .ok (.ifCond .eq 13, 3) := dk_153 0 13 (dk_at dksX4_cry_0 5 rfl rfl)
theorem dX4_cry_8 : decode cX4_cry 8 = .ok (.iload_n 2, 1) := dk_28 (dk_at dksX4_cry_0 8 rfl rfl)
theorem dX4_cry_9 : decode cX4_cry 9 = .ok (.i2l, 1) := dk_133 (dk_at dksX4_cry_0 9 rfl rfl)
theorem dX4_cry_10 : decode cX4_cry 10 = .ok (.lconst 0, 1) := dk_9 (dk_at dksX4_cry_0 10 rfl rfl)
theorem dX4_cry_11 : decode cX4_cry 11 = .ok (.lconst 1, 1) := dk_10 (dk_at dksX4_cry_0 11 rfl rfl)
theorem dX4_cry_12 : decode cX4_cry 12 = .ok (.invokestatic 109, 3) := dk_184 0 109 (dk_at dksX4_cry_0 12 rfl rfl)
theorem dX4_cry_15 : decode cX4_cry 15 = .ok (.ifCond .ne 5, 3) := dk_154 0 5 (dk_at dksX4_cry_0 15 rfl rfl)
theorem dX4_cry_18 : decode cX4_cry 18 = .ok (.iconst (-1), 1) := dk_2 (dk_at dksX4_cry_0 18 rfl rfl)
theorem dX4_cry_19 : decode cX4_cry 19 = .ok (.ireturn, 1) := dk_172 (dk_at dksX4_cry_0 19 rfl rfl)
theorem dX4_cry_20 : decode cX4_cry 20 = .ok (.bipush (-2), 2) := dk_16 254 (dk_at dksX4_cry_0 20 rfl rfl)
theorem dX4_cry_22 : decode cX4_cry 22 = .ok (.istore_n 3, 1) := dk_62 (dk_at dksX4_cry_0 22 rfl rfl)
theorem dX4_cry_23 : decode cX4_cry 23 = .ok (.iconst (-1), 1) := dk_2 (dk_at dksX4_cry_0 23 rfl rfl)
theorem dX4_cry_24 : decode cX4_cry 24 = .ok (.istore 4, 2) := dk_54 4 (dk_at dksX4_cry_1 0 rfl rfl)
theorem dX4_cry_26 : decode cX4_cry 26 = .ok (.iconst 0, 1) := dk_3 (dk_at dksX4_cry_1 2 rfl rfl)
theorem dX4_cry_27 : decode cX4_cry 27 = .ok (.istore 5, 2) := dk_54 5 (dk_at dksX4_cry_1 3 rfl rfl)
theorem dX4_cry_29 : decode cX4_cry 29 = .ok (.iload 5, 2) := dk_21 5 (dk_at dksX4_cry_1 5 rfl rfl)
theorem dX4_cry_31 : decode cX4_cry 31 = .ok (.bipush 100, 2) := dk_16 100 (dk_at dksX4_cry_1 7 rfl rfl)
theorem dX4_cry_33 : decode cX4_cry 33 = .ok (.if_icmp .ge 35, 3) := dk_162 0 35 (dk_at dksX4_cry_1 9 rfl rfl)
theorem dX4_cry_36 : decode cX4_cry 36 = .ok (.aload_n 0, 1) := dk_42 (dk_at dksX4_cry_1 12 rfl rfl)
theorem dX4_cry_37 : decode cX4_cry 37 = .ok (.iload_n 1, 1) := dk_27 (dk_at dksX4_cry_1 13 rfl rfl)
theorem dX4_cry_38 : decode cX4_cry 38 = .ok (.iload 5, 2) := dk_21 5 (dk_at dksX4_cry_1 14 rfl rfl)
theorem dX4_cry_40 : decode cX4_cry 40 = .ok (.invokevirtual 460, 3) := dk_182 1 204 (dk_at dksX4_cry_1 16 rfl rfl)
theorem dX4_cry_43 : decode cX4_cry 43 = .ok (.istore 6, 2) := dk_54 6 (dk_at dksX4_cry_1 19 rfl rfl)
theorem dX4_cry_45 : decode cX4_cry 45 = .ok (.iload 6, 2) := dk_21 6 (dk_at dksX4_cry_1 21 rfl rfl)
theorem dX4_cry_47 : decode cX4_cry 47 = .ok (.iload 4, 2) := dk_21 4 (dk_at dksX4_cry_2 0 rfl rfl)
theorem dX4_cry_49 : decode cX4_cry 49 = .ok (.if_icmp .gt 6, 3) := dk_163 0 6 (dk_at dksX4_cry_2 2 rfl rfl)
theorem dX4_cry_52 : decode cX4_cry 52 = .ok (.goto 10, 3) := dk_167 0 10 (dk_at dksX4_cry_2 5 rfl rfl)
theorem dX4_cry_55 : decode cX4_cry 55 = .ok (.iload 5, 2) := dk_21 5 (dk_at dksX4_cry_2 8 rfl rfl)
theorem dX4_cry_57 : decode cX4_cry 57 = .ok (.istore_n 3, 1) := dk_62 (dk_at dksX4_cry_2 10 rfl rfl)
theorem dX4_cry_58 : decode cX4_cry 58 = .ok (.iload 6, 2) := dk_21 6 (dk_at dksX4_cry_2 11 rfl rfl)
theorem dX4_cry_60 : decode cX4_cry 60 = .ok (.istore 4, 2) := dk_54 4 (dk_at dksX4_cry_2 13 rfl rfl)
theorem dX4_cry_62 : decode cX4_cry 62 = .ok (.iinc 5 1, 3) := dk_132 5 1 (dk_at dksX4_cry_2 15 rfl rfl)
theorem dX4_cry_65 : decode cX4_cry 65 = .ok (.goto (-36), 3) := dk_167 255 220 (dk_at dksX4_cry_2 18 rfl rfl)
theorem dX4_cry_68 : decode cX4_cry 68 = .ok (.iload_n 2, 1) := dk_28 (dk_at dksX4_cry_2 21 rfl rfl)
theorem dX4_cry_69 : decode cX4_cry 69 = .ok (.ifCond .ne 7, 3) := dk_154 0 7 (dk_at dksX4_cry_3 0 rfl rfl)
theorem dX4_cry_72 : decode cX4_cry 72 = .ok (.iload_n 3, 1) := dk_29 (dk_at dksX4_cry_3 3 rfl rfl)
theorem dX4_cry_73 : decode cX4_cry 73 = .ok (.goto 14, 3) := dk_167 0 14 (dk_at dksX4_cry_3 4 rfl rfl)
theorem dX4_cry_76 : decode cX4_cry 76 = .ok (.iload 4, 2) := dk_21 4 (dk_at dksX4_cry_3 7 rfl rfl)
theorem dX4_cry_78 : decode cX4_cry 78 = .ok (.ifCond .ge 7, 3) := dk_156 0 7 (dk_at dksX4_cry_3 9 rfl rfl)
theorem dX4_cry_81 : decode cX4_cry 81 = .ok (.iconst 0, 1) := dk_3 (dk_at dksX4_cry_3 12 rfl rfl)
theorem dX4_cry_82 : decode cX4_cry 82 = .ok (.goto 5, 3) := dk_167 0 5 (dk_at dksX4_cry_3 13 rfl rfl)
theorem dX4_cry_85 : decode cX4_cry 85 = .ok (.iload 4, 2) := dk_21 4 (dk_at dksX4_cry_3 16 rfl rfl)
theorem dX4_cry_87 : decode cX4_cry 87 = .ok (.ireturn, 1) := dk_172 (dk_at dksX4_cry_3 18 rfl rfl)
abbrev cX4_criedFor : ByteArray := prog_20_method_109_code
def yX4_criedFor : MethodName := ⟨RX4, "criedFor", "(II)I"⟩
def dkwX4_criedFor_6 : List UInt8 := [167, 0, 4, 3, 96, 62, 132, 5, 1, 167, 255, 158, 21, 4, 153, 0, 7, 29, 167, 0, 4, 2, 172]
abbrev dktX4_criedFor_6 : List UInt8 := dkwX4_criedFor_6 ++ []
def dkwX4_criedFor_5 : List UInt8 := [167, 255, 207, 29, 21, 6, 153, 0, 20, 42, 27, 182, 1, 192, 21, 5, 184, 0, 215, 153, 0, 7, 4]
abbrev dktX4_criedFor_5 : List UInt8 := dkwX4_criedFor_5 ++ dktX4_criedFor_6
def dkwX4_criedFor_4 : List UInt8 := [42, 21, 7, 21, 5, 182, 1, 70, 5, 160, 0, 7, 4, 167, 0, 4, 3, 54, 6, 132, 7, 1]
abbrev dktX4_criedFor_4 : List UInt8 := dkwX4_criedFor_4 ++ dktX4_criedFor_5
def dkwX4_criedFor_3 : List UInt8 := [180, 0, 39, 4, 46, 162, 0, 44, 21, 6, 154, 0, 26, 42, 27, 21, 7, 28, 182, 1, 201, 153, 0, 19]
abbrev dktX4_criedFor_3 : List UInt8 := dkwX4_criedFor_3 ++ dktX4_criedFor_4
def dkwX4_criedFor_2 : List UInt8 := [3, 54, 5, 21, 5, 42, 180, 0, 39, 4, 46, 162, 0, 93, 3, 54, 6, 3, 54, 7, 21, 7, 42]
abbrev dktX4_criedFor_2 : List UInt8 := dkwX4_criedFor_2 ++ dktX4_criedFor_3
def dkwX4_criedFor_1 : List UInt8 := [42, 27, 21, 5, 28, 182, 1, 201, 153, 0, 7, 4, 167, 0, 4, 3, 54, 4, 132, 5, 1, 167, 255, 219]
abbrev dktX4_criedFor_1 : List UInt8 := dkwX4_criedFor_1 ++ dktX4_criedFor_2
def dkwX4_criedFor_0 : List UInt8 := [3, 62, 3, 54, 4, 3, 54, 5, 21, 5, 42, 180, 0, 39, 4, 46, 162, 0, 32, 21, 4, 154, 0, 14]
abbrev dktX4_criedFor_0 : List UInt8 := dkwX4_criedFor_0 ++ dktX4_criedFor_1
theorem dksX4_criedFor_0 : cX4_criedFor.data.toList.drop 0 = dktX4_criedFor_0 := by decide +kernel
theorem dksX4_criedFor_1 : cX4_criedFor.data.toList.drop 24 = dktX4_criedFor_1 := dk_seg dksX4_criedFor_0 24 rfl rfl
theorem dksX4_criedFor_2 : cX4_criedFor.data.toList.drop 48 = dktX4_criedFor_2 := dk_seg dksX4_criedFor_1 24 rfl rfl
theorem dksX4_criedFor_3 : cX4_criedFor.data.toList.drop 71 = dktX4_criedFor_3 := dk_seg dksX4_criedFor_2 23 rfl rfl
theorem dksX4_criedFor_4 : cX4_criedFor.data.toList.drop 95 = dktX4_criedFor_4 := dk_seg dksX4_criedFor_3 24 rfl rfl
theorem dksX4_criedFor_5 : cX4_criedFor.data.toList.drop 117 = dktX4_criedFor_5 := dk_seg dksX4_criedFor_4 22 rfl rfl
theorem dksX4_criedFor_6 : cX4_criedFor.data.toList.drop 140 = dktX4_criedFor_6 := dk_seg dksX4_criedFor_5 23 rfl rfl
theorem dX4_criedFor_0 : decode cX4_criedFor 0 = .ok (.iconst 0, 1) := dk_3 (dk_at dksX4_criedFor_0 0 rfl rfl)
theorem dX4_criedFor_1 : decode cX4_criedFor 1 = .ok (.istore_n 3, 1) := dk_62 (dk_at dksX4_criedFor_0 1 rfl rfl)
theorem dX4_criedFor_2 : decode cX4_criedFor 2 = .ok (.iconst 0, 1) := dk_3 (dk_at dksX4_criedFor_0 2 rfl rfl)
theorem dX4_criedFor_3 : decode cX4_criedFor 3 = .ok (.istore 4, 2) := dk_54 4 (dk_at dksX4_criedFor_0 3 rfl rfl)
theorem dX4_criedFor_5 : decode cX4_criedFor 5 = .ok (.iconst 0, 1) := dk_3 (dk_at dksX4_criedFor_0 5 rfl rfl)
theorem dX4_criedFor_6 : decode cX4_criedFor 6 = .ok (.istore 5, 2) := dk_54 5 (dk_at dksX4_criedFor_0 6 rfl rfl)
theorem dX4_criedFor_8 : decode cX4_criedFor 8 = .ok (.iload 5, 2) := dk_21 5 (dk_at dksX4_criedFor_0 8 rfl rfl)
theorem dX4_criedFor_10 : decode cX4_criedFor 10 = .ok (.aload_n 0, 1) := dk_42 (dk_at dksX4_criedFor_0 10 rfl rfl)
theorem dX4_criedFor_11 : decode cX4_criedFor 11 = .ok (.getfield 39, 3) := dk_180 0 39 (dk_at dksX4_criedFor_0 11 rfl rfl)
theorem dX4_criedFor_14 : decode cX4_criedFor 14 = .ok (.iconst 1, 1) := dk_4 (dk_at dksX4_criedFor_0 14 rfl rfl)
theorem dX4_criedFor_15 : decode cX4_criedFor 15 = .ok (.iaload, 1) := dk_46 (dk_at dksX4_criedFor_0 15 rfl rfl)
theorem dX4_criedFor_16 : decode cX4_criedFor 16 = .ok (.if_icmp .ge 32, 3) := dk_162 0 32 (dk_at dksX4_criedFor_0 16 rfl rfl)
theorem dX4_criedFor_19 : decode cX4_criedFor 19 = .ok (.iload 4, 2) := dk_21 4 (dk_at dksX4_criedFor_0 19 rfl rfl)
theorem dX4_criedFor_21 : decode cX4_criedFor 21 = .ok (.ifCond .ne 14, 3) := dk_154 0 14 (dk_at dksX4_criedFor_0 21 rfl rfl)
theorem dX4_criedFor_24 : decode cX4_criedFor 24 = .ok (.aload_n 0, 1) := dk_42 (dk_at dksX4_criedFor_1 0 rfl rfl)
theorem dX4_criedFor_25 : decode cX4_criedFor 25 = .ok (.iload_n 1, 1) := dk_27 (dk_at dksX4_criedFor_1 1 rfl rfl)
theorem dX4_criedFor_26 : decode cX4_criedFor 26 = .ok (.iload 5, 2) := dk_21 5 (dk_at dksX4_criedFor_1 2 rfl rfl)
theorem dX4_criedFor_28 : decode cX4_criedFor 28 = .ok (.iload_n 2, 1) := dk_28 (dk_at dksX4_criedFor_1 4 rfl rfl)
theorem dX4_criedFor_29 : decode cX4_criedFor 29 = .ok (.invokevirtual 457, 3) := dk_182 1 201 (dk_at dksX4_criedFor_1 5 rfl rfl)
theorem dX4_criedFor_32 : decode cX4_criedFor 32 = .ok (.ifCond .eq 7, 3) := dk_153 0 7 (dk_at dksX4_criedFor_1 8 rfl rfl)
theorem dX4_criedFor_35 : decode cX4_criedFor 35 = .ok (.iconst 1, 1) := dk_4 (dk_at dksX4_criedFor_1 11 rfl rfl)
theorem dX4_criedFor_36 : decode cX4_criedFor 36 = .ok (.goto 4, 3) := dk_167 0 4 (dk_at dksX4_criedFor_1 12 rfl rfl)
theorem dX4_criedFor_39 : decode cX4_criedFor 39 = .ok (.iconst 0, 1) := dk_3 (dk_at dksX4_criedFor_1 15 rfl rfl)
theorem dX4_criedFor_40 : decode cX4_criedFor 40 = .ok (.istore 4, 2) := dk_54 4 (dk_at dksX4_criedFor_1 16 rfl rfl)
theorem dX4_criedFor_42 : decode cX4_criedFor 42 = .ok (.iinc 5 1, 3) := dk_132 5 1 (dk_at dksX4_criedFor_1 18 rfl rfl)
theorem dX4_criedFor_45 : decode cX4_criedFor 45 = .ok (.goto (-37), 3) := dk_167 255 219 (dk_at dksX4_criedFor_1 21 rfl rfl)
theorem dX4_criedFor_48 : decode cX4_criedFor 48 = .ok (.iconst 0, 1) := dk_3 (dk_at dksX4_criedFor_2 0 rfl rfl)
theorem dX4_criedFor_49 : decode cX4_criedFor 49 = .ok (.istore 5, 2) := dk_54 5 (dk_at dksX4_criedFor_2 1 rfl rfl)
theorem dX4_criedFor_51 : decode cX4_criedFor 51 = .ok (.iload 5, 2) := dk_21 5 (dk_at dksX4_criedFor_2 3 rfl rfl)
theorem dX4_criedFor_53 : decode cX4_criedFor 53 = .ok (.aload_n 0, 1) := dk_42 (dk_at dksX4_criedFor_2 5 rfl rfl)
theorem dX4_criedFor_54 : decode cX4_criedFor 54 = .ok (.getfield 39, 3) := dk_180 0 39 (dk_at dksX4_criedFor_2 6 rfl rfl)
theorem dX4_criedFor_57 : decode cX4_criedFor 57 = .ok (.iconst 1, 1) := dk_4 (dk_at dksX4_criedFor_2 9 rfl rfl)
theorem dX4_criedFor_58 : decode cX4_criedFor 58 = .ok (.iaload, 1) := dk_46 (dk_at dksX4_criedFor_2 10 rfl rfl)
theorem dX4_criedFor_59 : decode cX4_criedFor 59 = .ok (.if_icmp .ge 93, 3) := dk_162 0 93 (dk_at dksX4_criedFor_2 11 rfl rfl)
theorem dX4_criedFor_62 : decode cX4_criedFor 62 = .ok (.iconst 0, 1) := dk_3 (dk_at dksX4_criedFor_2 14 rfl rfl)
theorem dX4_criedFor_63 : decode cX4_criedFor 63 = .ok (.istore 6, 2) := dk_54 6 (dk_at dksX4_criedFor_2 15 rfl rfl)
theorem dX4_criedFor_65 : decode cX4_criedFor 65 = .ok (.iconst 0, 1) := dk_3 (dk_at dksX4_criedFor_2 17 rfl rfl)
theorem dX4_criedFor_66 : decode cX4_criedFor 66 = .ok (.istore 7, 2) := dk_54 7 (dk_at dksX4_criedFor_2 18 rfl rfl)
theorem dX4_criedFor_68 : decode cX4_criedFor 68 = .ok (.iload 7, 2) := dk_21 7 (dk_at dksX4_criedFor_2 20 rfl rfl)
theorem dX4_criedFor_70 : decode cX4_criedFor 70 = .ok (.aload_n 0, 1) := dk_42 (dk_at dksX4_criedFor_2 22 rfl rfl)
theorem dX4_criedFor_71 : decode cX4_criedFor 71 = .ok (.getfield 39, 3) := dk_180 0 39 (dk_at dksX4_criedFor_3 0 rfl rfl)
theorem dX4_criedFor_74 : decode cX4_criedFor 74 = .ok (.iconst 1, 1) := dk_4 (dk_at dksX4_criedFor_3 3 rfl rfl)
theorem dX4_criedFor_75 : decode cX4_criedFor 75 = .ok (.iaload, 1) := dk_46 (dk_at dksX4_criedFor_3 4 rfl rfl)
theorem dX4_criedFor_76 : decode cX4_criedFor 76 = .ok (.if_icmp .ge 44, 3) := dk_162 0 44 (dk_at dksX4_criedFor_3 5 rfl rfl)
theorem dX4_criedFor_79 : decode cX4_criedFor 79 = .ok (.iload 6, 2) := dk_21 6 (dk_at dksX4_criedFor_3 8 rfl rfl)
theorem dX4_criedFor_81 : decode cX4_criedFor 81 = .ok (.ifCond .ne 26, 3) := dk_154 0 26 (dk_at dksX4_criedFor_3 10 rfl rfl)
theorem dX4_criedFor_84 : decode cX4_criedFor 84 = .ok (.aload_n 0, 1) := dk_42 (dk_at dksX4_criedFor_3 13 rfl rfl)
theorem dX4_criedFor_85 : decode cX4_criedFor 85 = .ok (.iload_n 1, 1) := dk_27 (dk_at dksX4_criedFor_3 14 rfl rfl)
theorem dX4_criedFor_86 : decode cX4_criedFor 86 = .ok (.iload 7, 2) := dk_21 7 (dk_at dksX4_criedFor_3 15 rfl rfl)
theorem dX4_criedFor_88 : decode cX4_criedFor 88 = .ok (.iload_n 2, 1) := dk_28 (dk_at dksX4_criedFor_3 17 rfl rfl)
theorem dX4_criedFor_89 : decode cX4_criedFor 89 = .ok (.invokevirtual 457, 3) := dk_182 1 201 (dk_at dksX4_criedFor_3 18 rfl rfl)
theorem dX4_criedFor_92 : decode cX4_criedFor 92 = .ok (.ifCond .eq 19, 3) := dk_153 0 19 (dk_at dksX4_criedFor_3 21 rfl rfl)
theorem dX4_criedFor_95 : decode cX4_criedFor 95 = .ok (.aload_n 0, 1) := dk_42 (dk_at dksX4_criedFor_4 0 rfl rfl)
theorem dX4_criedFor_96 : decode cX4_criedFor 96 = .ok (.iload 7, 2) := dk_21 7 (dk_at dksX4_criedFor_4 1 rfl rfl)
theorem dX4_criedFor_98 : decode cX4_criedFor 98 = .ok (.iload 5, 2) := dk_21 5 (dk_at dksX4_criedFor_4 3 rfl rfl)
theorem dX4_criedFor_100 : decode cX4_criedFor 100 = .ok (.invokevirtual 326, 3) := dk_182 1 70 (dk_at dksX4_criedFor_4 5 rfl rfl)
theorem dX4_criedFor_103 : decode cX4_criedFor 103 = .ok (.iconst 2, 1) := dk_5 (dk_at dksX4_criedFor_4 8 rfl rfl)
theorem dX4_criedFor_104 : decode cX4_criedFor 104 = .ok (.if_icmp .ne 7, 3) := dk_160 0 7 (dk_at dksX4_criedFor_4 9 rfl rfl)
theorem dX4_criedFor_107 : decode cX4_criedFor 107 = .ok (.iconst 1, 1) := dk_4 (dk_at dksX4_criedFor_4 12 rfl rfl)
theorem dX4_criedFor_108 : decode cX4_criedFor 108 = .ok (.goto 4, 3) := dk_167 0 4 (dk_at dksX4_criedFor_4 13 rfl rfl)
theorem dX4_criedFor_111 : decode cX4_criedFor 111 = .ok (.iconst 0, 1) := dk_3 (dk_at dksX4_criedFor_4 16 rfl rfl)
theorem dX4_criedFor_112 : decode cX4_criedFor 112 = .ok (.istore 6, 2) := dk_54 6 (dk_at dksX4_criedFor_4 17 rfl rfl)
theorem dX4_criedFor_114 : decode cX4_criedFor 114 = .ok (.iinc 7 1, 3) := dk_132 7 1 (dk_at dksX4_criedFor_4 19 rfl rfl)
theorem dX4_criedFor_117 : decode cX4_criedFor 117 = .ok (.goto (-49), 3) := dk_167 255 207 (dk_at dksX4_criedFor_5 0 rfl rfl)
theorem dX4_criedFor_120 : decode cX4_criedFor 120 = .ok (.iload_n 3, 1) := dk_29 (dk_at dksX4_criedFor_5 3 rfl rfl)
theorem dX4_criedFor_121 : decode cX4_criedFor 121 = .ok (.iload 6, 2) := dk_21 6 (dk_at dksX4_criedFor_5 4 rfl rfl)
theorem dX4_criedFor_123 : decode cX4_criedFor 123 = .ok (.ifCond .eq 20, 3) := dk_153 0 20 (dk_at dksX4_criedFor_5 6 rfl rfl)
theorem dX4_criedFor_126 : decode cX4_criedFor 126 = .ok (.aload_n 0, 1) := dk_42 (dk_at dksX4_criedFor_5 9 rfl rfl)
theorem dX4_criedFor_127 : decode cX4_criedFor 127 = .ok (.iload_n 1, 1) := dk_27 (dk_at dksX4_criedFor_5 10 rfl rfl)
theorem dX4_criedFor_128 : decode cX4_criedFor 128 = .ok (.invokevirtual 448, 3) := dk_182 1 192 (dk_at dksX4_criedFor_5 11 rfl rfl)
theorem dX4_criedFor_131 : decode cX4_criedFor 131 = .ok (.iload 5, 2) := dk_21 5 (dk_at dksX4_criedFor_5 14 rfl rfl)
theorem dX4_criedFor_133 : decode cX4_criedFor 133 = .ok (.invokestatic 215, 3) := dk_184 0 215 (dk_at dksX4_criedFor_5 16 rfl rfl)
theorem dX4_criedFor_136 : decode cX4_criedFor 136 = .ok (.ifCond .eq 7, 3) := dk_153 0 7 (dk_at dksX4_criedFor_5 19 rfl rfl)
theorem dX4_criedFor_139 : decode cX4_criedFor 139 = .ok (.iconst 1, 1) := dk_4 (dk_at dksX4_criedFor_5 22 rfl rfl)
theorem dX4_criedFor_140 : decode cX4_criedFor 140 = .ok (.goto 4, 3) := dk_167 0 4 (dk_at dksX4_criedFor_6 0 rfl rfl)
theorem dX4_criedFor_143 : decode cX4_criedFor 143 = .ok (.iconst 0, 1) := dk_3 (dk_at dksX4_criedFor_6 3 rfl rfl)
theorem dX4_criedFor_144 : decode cX4_criedFor 144 = .ok (.iadd, 1) := dk_96 (dk_at dksX4_criedFor_6 4 rfl rfl)
theorem dX4_criedFor_145 : decode cX4_criedFor 145 = .ok (.istore_n 3, 1) := dk_62 (dk_at dksX4_criedFor_6 5 rfl rfl)
theorem dX4_criedFor_146 : decode cX4_criedFor 146 = .ok (.iinc 5 1, 3) := dk_132 5 1 (dk_at dksX4_criedFor_6 6 rfl rfl)
theorem dX4_criedFor_149 : decode cX4_criedFor 149 = .ok (.goto (-98), 3) := dk_167 255 158 (dk_at dksX4_criedFor_6 9 rfl rfl)
theorem dX4_criedFor_152 : decode cX4_criedFor 152 = .ok (.iload 4, 2) := dk_21 4 (dk_at dksX4_criedFor_6 12 rfl rfl)
theorem dX4_criedFor_154 : decode cX4_criedFor 154 = .ok (.ifCond .eq 7, 3) := dk_153 0 7 (dk_at dksX4_criedFor_6 14 rfl rfl)
theorem dX4_criedFor_157 : decode cX4_criedFor 157 = .ok (.iload_n 3, 1) := dk_29 (dk_at dksX4_criedFor_6 17 rfl rfl)
theorem dX4_criedFor_158 : decode cX4_criedFor 158 = .ok (.goto 4, 3) := dk_167 0 4 (dk_at dksX4_criedFor_6 18 rfl rfl)
theorem dX4_criedFor_161 : decode cX4_criedFor 161 = .ok (.iconst (-1), 1) := dk_2 (dk_at dksX4_criedFor_6 21 rfl rfl)
theorem dX4_criedFor_162 : decode cX4_criedFor 162 = .ok (.ireturn, 1) := dk_172 (dk_at dksX4_criedFor_6 22 rfl rfl)
abbrev cX4_isOwnShape : ByteArray := prog_20_method_108_code
def yX4_isOwnShape : MethodName := ⟨RX4, "isOwnShape", "(III)Z"⟩
def dkwX4_isOwnShape_1 : List UInt8 := [182, 1, 45, 29, 160, 0, 7, 4, 167, 0, 4, 3, 172]
abbrev dktX4_isOwnShape_1 : List UInt8 := dkwX4_isOwnShape_1 ++ []
def dkwX4_isOwnShape_0 : List UInt8 := [42, 27, 182, 1, 90, 28, 184, 0, 215, 153, 0, 26, 42, 28, 7, 182, 1, 45, 154, 0, 17, 42, 28, 3]
abbrev dktX4_isOwnShape_0 : List UInt8 := dkwX4_isOwnShape_0 ++ dktX4_isOwnShape_1
theorem dksX4_isOwnShape_0 : cX4_isOwnShape.data.toList.drop 0 = dktX4_isOwnShape_0 := by decide +kernel
theorem dksX4_isOwnShape_1 : cX4_isOwnShape.data.toList.drop 24 = dktX4_isOwnShape_1 := dk_seg dksX4_isOwnShape_0 24 rfl rfl
theorem dX4_isOwnShape_0 : decode cX4_isOwnShape 0 = .ok (.aload_n 0, 1) := dk_42 (dk_at dksX4_isOwnShape_0 0 rfl rfl)
theorem dX4_isOwnShape_1 : decode cX4_isOwnShape 1 = .ok (.iload_n 1, 1) := dk_27 (dk_at dksX4_isOwnShape_0 1 rfl rfl)
theorem dX4_isOwnShape_2 : decode cX4_isOwnShape 2 = .ok (.invokevirtual 346, 3) := dk_182 1 90 (dk_at dksX4_isOwnShape_0 2 rfl rfl)
theorem dX4_isOwnShape_5 : decode cX4_isOwnShape 5 = .ok (.iload_n 2, 1) := dk_28 (dk_at dksX4_isOwnShape_0 5 rfl rfl)
theorem dX4_isOwnShape_6 : decode cX4_isOwnShape 6 = .ok (.invokestatic 215, 3) := dk_184 0 215 (dk_at dksX4_isOwnShape_0 6 rfl rfl)
theorem dX4_isOwnShape_9 : decode cX4_isOwnShape 9 = .ok (.ifCond .eq 26, 3) := dk_153 0 26 (dk_at dksX4_isOwnShape_0 9 rfl rfl)
theorem dX4_isOwnShape_12 : decode cX4_isOwnShape 12 = .ok (.aload_n 0, 1) := dk_42 (dk_at dksX4_isOwnShape_0 12 rfl rfl)
theorem dX4_isOwnShape_13 : decode cX4_isOwnShape 13 = .ok (.iload_n 2, 1) := dk_28 (dk_at dksX4_isOwnShape_0 13 rfl rfl)
theorem dX4_isOwnShape_14 : decode cX4_isOwnShape 14 = .ok (.iconst 4, 1) := dk_7 (dk_at dksX4_isOwnShape_0 14 rfl rfl)
theorem dX4_isOwnShape_15 : decode cX4_isOwnShape 15 = .ok (.invokevirtual 301, 3) := dk_182 1 45 (dk_at dksX4_isOwnShape_0 15 rfl rfl)
theorem dX4_isOwnShape_18 : decode cX4_isOwnShape 18 = .ok (.ifCond .ne 17, 3) := dk_154 0 17 (dk_at dksX4_isOwnShape_0 18 rfl rfl)
theorem dX4_isOwnShape_21 : decode cX4_isOwnShape 21 = .ok (.aload_n 0, 1) := dk_42 (dk_at dksX4_isOwnShape_0 21 rfl rfl)
theorem dX4_isOwnShape_22 : decode cX4_isOwnShape 22 = .ok (.iload_n 2, 1) := dk_28 (dk_at dksX4_isOwnShape_0 22 rfl rfl)
theorem dX4_isOwnShape_23 : decode cX4_isOwnShape 23 = .ok (.iconst 0, 1) := dk_3 (dk_at dksX4_isOwnShape_0 23 rfl rfl)
theorem dX4_isOwnShape_24 : decode cX4_isOwnShape 24 = .ok (.invokevirtual 301, 3) := dk_182 1 45 (dk_at dksX4_isOwnShape_1 0 rfl rfl)
theorem dX4_isOwnShape_27 : decode cX4_isOwnShape 27 = .ok (.iload_n 3, 1) := dk_29 (dk_at dksX4_isOwnShape_1 3 rfl rfl)
theorem dX4_isOwnShape_28 : decode cX4_isOwnShape 28 = .ok (.if_icmp .ne 7, 3) := dk_160 0 7 (dk_at dksX4_isOwnShape_1 4 rfl rfl)
theorem dX4_isOwnShape_31 : decode cX4_isOwnShape 31 = .ok (.iconst 1, 1) := dk_4 (dk_at dksX4_isOwnShape_1 7 rfl rfl)
theorem dX4_isOwnShape_32 : decode cX4_isOwnShape 32 = .ok (.goto 4, 3) := dk_167 0 4 (dk_at dksX4_isOwnShape_1 8 rfl rfl)
theorem dX4_isOwnShape_35 : decode cX4_isOwnShape 35 = .ok (.iconst 0, 1) := dk_3 (dk_at dksX4_isOwnShape_1 11 rfl rfl)
theorem dX4_isOwnShape_36 : decode cX4_isOwnShape 36 = .ok (.ireturn, 1) := dk_172 (dk_at dksX4_isOwnShape_1 12 rfl rfl)
abbrev cX4_bring : ByteArray := prog_20_method_115_code
def yX4_bring : MethodName := ⟨RX4, "bring", "(III)I"⟩
def dkwX4_bring_5 : List UInt8 := [54, 6, 132, 7, 1, 167, 255, 181, 29, 154, 0, 8, 21, 5, 167, 0, 5, 21, 6, 172]
abbrev dktX4_bring_5 : List UInt8 := dkwX4_bring_5 ++ []
def dkwX4_bring_4 : List UInt8 := [155, 0, 26, 21, 5, 155, 0, 13, 21, 8, 21, 6, 161, 0, 6, 167, 0, 11, 21, 7, 54, 5, 21, 8]
abbrev dktX4_bring_4 : List UInt8 := dkwX4_bring_4 ++ dktX4_bring_5
def dkwX4_bring_3 : List UInt8 := [96, 6, 96, 46, 160, 0, 6, 167, 0, 43, 42, 27, 28, 21, 7, 21, 4, 182, 1, 216, 54, 8, 21, 8]
abbrev dktX4_bring_3 : List UInt8 := dkwX4_bring_3 ++ dktX4_bring_4
def dkwX4_bring_2 : List UInt8 := [54, 7, 21, 7, 42, 180, 0, 39, 3, 46, 162, 0, 70, 21, 7, 42, 180, 0, 57, 16, 10, 8, 28, 104]
abbrev dktX4_bring_2 : List UInt8 := dkwX4_bring_2 ++ dktX4_bring_3
def dkwX4_bring_1 : List UInt8 := [154, 0, 5, 2, 172, 42, 182, 1, 210, 54, 4, 16, 254, 54, 5, 16, 254, 54, 6, 42, 182, 1, 213, 3]
abbrev dktX4_bring_1 : List UInt8 := dkwX4_bring_1 ++ dktX4_bring_2
def dkwX4_bring_0 : List UInt8 := [42, 27, 182, 1, 157, 153, 0, 21, 42, 28, 182, 1, 79, 153, 0, 13, 29, 133, 9, 10, 184, 0, 109]
abbrev dktX4_bring_0 : List UInt8 := dkwX4_bring_0 ++ dktX4_bring_1
theorem dksX4_bring_0 : cX4_bring.data.toList.drop 0 = dktX4_bring_0 := by decide +kernel
theorem dksX4_bring_1 : cX4_bring.data.toList.drop 23 = dktX4_bring_1 := dk_seg dksX4_bring_0 23 rfl rfl
theorem dksX4_bring_2 : cX4_bring.data.toList.drop 47 = dktX4_bring_2 := dk_seg dksX4_bring_1 24 rfl rfl
theorem dksX4_bring_3 : cX4_bring.data.toList.drop 71 = dktX4_bring_3 := dk_seg dksX4_bring_2 24 rfl rfl
theorem dksX4_bring_4 : cX4_bring.data.toList.drop 95 = dktX4_bring_4 := dk_seg dksX4_bring_3 24 rfl rfl
theorem dksX4_bring_5 : cX4_bring.data.toList.drop 119 = dktX4_bring_5 := dk_seg dksX4_bring_4 24 rfl rfl
theorem dX4_bring_0 : decode cX4_bring 0 = .ok (.aload_n 0, 1) := dk_42 (dk_at dksX4_bring_0 0 rfl rfl)
theorem dX4_bring_1 : decode cX4_bring 1 = .ok (.iload_n 1, 1) := dk_27 (dk_at dksX4_bring_0 1 rfl rfl)
theorem dX4_bring_2 : decode cX4_bring 2 = .ok (.invokevirtual 413, 3) := dk_182 1 157 (dk_at dksX4_bring_0 2 rfl rfl)
theorem dX4_bring_5 : decode cX4_bring 5 = .ok (.ifCond .eq 21, 3) := dk_153 0 21 (dk_at dksX4_bring_0 5 rfl rfl)
theorem dX4_bring_8 : decode cX4_bring 8 = .ok (.aload_n 0, 1) := dk_42 (dk_at dksX4_bring_0 8 rfl rfl)
theorem dX4_bring_9 : decode cX4_bring 9 = .ok (.iload_n 2, 1) := dk_28 (dk_at dksX4_bring_0 9 rfl rfl)
theorem dX4_bring_10 : decode cX4_bring 10 = .ok (.invokevirtual 335, 3) := dk_182 1 79 (dk_at dksX4_bring_0 10 rfl rfl)
theorem dX4_bring_13 : decode cX4_bring 13 = .ok (.ifCond .eq 13, 3) := dk_153 0 13 (dk_at dksX4_bring_0 13 rfl rfl)
theorem dX4_bring_16 : decode cX4_bring 16 = .ok (.iload_n 3, 1) := dk_29 (dk_at dksX4_bring_0 16 rfl rfl)
theorem dX4_bring_17 : decode cX4_bring 17 = .ok (.i2l, 1) := dk_133 (dk_at dksX4_bring_0 17 rfl rfl)
theorem dX4_bring_18 : decode cX4_bring 18 = .ok (.lconst 0, 1) := dk_9 (dk_at dksX4_bring_0 18 rfl rfl)
theorem dX4_bring_19 : decode cX4_bring 19 = .ok (.lconst 1, 1) := dk_10 (dk_at dksX4_bring_0 19 rfl rfl)
theorem dX4_bring_20 : decode cX4_bring 20 = .ok (.invokestatic 109, 3) := dk_184 0 109 (dk_at dksX4_bring_0 20 rfl rfl)
theorem dX4_bring_23 : decode cX4_bring 23 = .ok (.ifCond .ne 5, 3) := dk_154 0 5 (dk_at dksX4_bring_1 0 rfl rfl)
theorem dX4_bring_26 : decode cX4_bring 26 = .ok (.iconst (-1), 1) := dk_2 (dk_at dksX4_bring_1 3 rfl rfl)
theorem dX4_bring_27 : decode cX4_bring 27 = .ok (.ireturn, 1) := dk_172 (dk_at dksX4_bring_1 4 rfl rfl)
theorem dX4_bring_28 : decode cX4_bring 28 = .ok (.aload_n 0, 1) := dk_42 (dk_at dksX4_bring_1 5 rfl rfl)
theorem dX4_bring_29 : decode cX4_bring 29 = .ok (.invokevirtual 466, 3) := dk_182 1 210 (dk_at dksX4_bring_1 6 rfl rfl)
theorem dX4_bring_32 : decode cX4_bring 32 = .ok (.istore 4, 2) := dk_54 4 (dk_at dksX4_bring_1 9 rfl rfl)
theorem dX4_bring_34 : decode cX4_bring 34 = .ok (.bipush (-2), 2) := dk_16 254 (dk_at dksX4_bring_1 11 rfl rfl)
theorem dX4_bring_36 : decode cX4_bring 36 = .ok (.istore 5, 2) := dk_54 5 (dk_at dksX4_bring_1 13 rfl rfl)
theorem dX4_bring_38 : decode cX4_bring 38 = .ok (.bipush (-2), 2) := dk_16 254 (dk_at dksX4_bring_1 15 rfl rfl)
theorem dX4_bring_40 : decode cX4_bring 40 = .ok (.istore 6, 2) := dk_54 6 (dk_at dksX4_bring_1 17 rfl rfl)
theorem dX4_bring_42 : decode cX4_bring 42 = .ok (.aload_n 0, 1) := dk_42 (dk_at dksX4_bring_1 19 rfl rfl)
theorem dX4_bring_43 : decode cX4_bring 43 = .ok (.invokevirtual 469, 3) := dk_182 1 213 (dk_at dksX4_bring_1 20 rfl rfl)
theorem dX4_bring_46 : decode cX4_bring 46 = .ok (.iconst 0, 1) := dk_3 (dk_at dksX4_bring_1 23 rfl rfl)
theorem dX4_bring_47 : decode cX4_bring 47 = .ok (.istore 7, 2) := dk_54 7 (dk_at dksX4_bring_2 0 rfl rfl)
theorem dX4_bring_49 : decode cX4_bring 49 = .ok (.iload 7, 2) := dk_21 7 (dk_at dksX4_bring_2 2 rfl rfl)
theorem dX4_bring_51 : decode cX4_bring 51 = .ok (.aload_n 0, 1) := dk_42 (dk_at dksX4_bring_2 4 rfl rfl)
theorem dX4_bring_52 : decode cX4_bring 52 = .ok (.getfield 39, 3) := dk_180 0 39 (dk_at dksX4_bring_2 5 rfl rfl)
theorem dX4_bring_55 : decode cX4_bring 55 = .ok (.iconst 0, 1) := dk_3 (dk_at dksX4_bring_2 8 rfl rfl)
theorem dX4_bring_56 : decode cX4_bring 56 = .ok (.iaload, 1) := dk_46 (dk_at dksX4_bring_2 9 rfl rfl)
theorem dX4_bring_57 : decode cX4_bring 57 = .ok (.if_icmp .ge 70, 3) := dk_162 0 70 (dk_at dksX4_bring_2 10 rfl rfl)
theorem dX4_bring_60 : decode cX4_bring 60 = .ok (.iload 7, 2) := dk_21 7 (dk_at dksX4_bring_2 13 rfl rfl)
theorem dX4_bring_62 : decode cX4_bring 62 = .ok (.aload_n 0, 1) := dk_42 (dk_at dksX4_bring_2 15 rfl rfl)
theorem dX4_bring_63 : decode cX4_bring 63 = .ok (.getfield 57, 3) := dk_180 0 57 (dk_at dksX4_bring_2 16 rfl rfl)
theorem dX4_bring_66 : decode cX4_bring 66 = .ok (.bipush 10, 2) := dk_16 10 (dk_at dksX4_bring_2 19 rfl rfl)
theorem dX4_bring_68 : decode cX4_bring 68 = .ok (.iconst 5, 1) := dk_8 (dk_at dksX4_bring_2 21 rfl rfl)
theorem dX4_bring_69 : decode cX4_bring 69 = .ok (.iload_n 2, 1) := dk_28 (dk_at dksX4_bring_2 22 rfl rfl)
theorem dX4_bring_70 : decode cX4_bring 70 = .ok (.imul, 1) := dk_104 (dk_at dksX4_bring_2 23 rfl rfl)
theorem dX4_bring_71 : decode cX4_bring 71 = .ok (.iadd, 1) := dk_96 (dk_at dksX4_bring_3 0 rfl rfl)
theorem dX4_bring_72 : decode cX4_bring 72 = .ok (.iconst 3, 1) := dk_6 (dk_at dksX4_bring_3 1 rfl rfl)
theorem dX4_bring_73 : decode cX4_bring 73 = .ok (.iadd, 1) := dk_96 (dk_at dksX4_bring_3 2 rfl rfl)
theorem dX4_bring_74 : decode cX4_bring 74 = .ok (.iaload, 1) := dk_46 (dk_at dksX4_bring_3 3 rfl rfl)
theorem dX4_bring_75 : decode cX4_bring 75 = .ok (.if_icmp .ne 6, 3) := dk_160 0 6 (dk_at dksX4_bring_3 4 rfl rfl)
theorem dX4_bring_78 : decode cX4_bring 78 = .ok (.goto 43, 3) := dk_167 0 43 (dk_at dksX4_bring_3 7 rfl rfl)
theorem dX4_bring_81 : decode cX4_bring 81 = .ok (.aload_n 0, 1) := dk_42 (dk_at dksX4_bring_3 10 rfl rfl)
theorem dX4_bring_82 : decode cX4_bring 82 = .ok (.iload_n 1, 1) := dk_27 (dk_at dksX4_bring_3 11 rfl rfl)
theorem dX4_bring_83 : decode cX4_bring 83 = .ok (.iload_n 2, 1) := dk_28 (dk_at dksX4_bring_3 12 rfl rfl)
theorem dX4_bring_84 : decode cX4_bring 84 = .ok (.iload 7, 2) := dk_21 7 (dk_at dksX4_bring_3 13 rfl rfl)
theorem dX4_bring_86 : decode cX4_bring 86 = .ok (.iload 4, 2) := dk_21 4 (dk_at dksX4_bring_3 15 rfl rfl)
theorem dX4_bring_88 : decode cX4_bring 88 = .ok (.invokevirtual 472, 3) := dk_182 1 216 (dk_at dksX4_bring_3 17 rfl rfl)
theorem dX4_bring_91 : decode cX4_bring 91 = .ok (.istore 8, 2) := dk_54 8 (dk_at dksX4_bring_3 20 rfl rfl)
theorem dX4_bring_93 : decode cX4_bring 93 = .ok (.iload 8, 2) := dk_21 8 (dk_at dksX4_bring_3 22 rfl rfl)
theorem dX4_bring_95 : decode cX4_bring 95 = .ok (.ifCond .lt 26, 3) := dk_155 0 26 (dk_at dksX4_bring_4 0 rfl rfl)
theorem dX4_bring_98 : decode cX4_bring 98 = .ok (.iload 5, 2) := dk_21 5 (dk_at dksX4_bring_4 3 rfl rfl)
theorem dX4_bring_100 : decode cX4_bring 100 = .ok (.ifCond .lt 13, 3) := dk_155 0 13 (dk_at dksX4_bring_4 5 rfl rfl)
theorem dX4_bring_103 : decode cX4_bring 103 = .ok (.iload 8, 2) := dk_21 8 (dk_at dksX4_bring_4 8 rfl rfl)
theorem dX4_bring_105 : decode cX4_bring 105 = .ok (.iload 6, 2) := dk_21 6 (dk_at dksX4_bring_4 10 rfl rfl)
theorem dX4_bring_107 : decode cX4_bring 107 = .ok (.if_icmp .lt 6, 3) := dk_161 0 6 (dk_at dksX4_bring_4 12 rfl rfl)
theorem dX4_bring_110 : decode cX4_bring 110 = .ok (.goto 11, 3) := dk_167 0 11 (dk_at dksX4_bring_4 15 rfl rfl)
theorem dX4_bring_113 : decode cX4_bring 113 = .ok (.iload 7, 2) := dk_21 7 (dk_at dksX4_bring_4 18 rfl rfl)
theorem dX4_bring_115 : decode cX4_bring 115 = .ok (.istore 5, 2) := dk_54 5 (dk_at dksX4_bring_4 20 rfl rfl)
theorem dX4_bring_117 : decode cX4_bring 117 = .ok (.iload 8, 2) := dk_21 8 (dk_at dksX4_bring_4 22 rfl rfl)
theorem dX4_bring_119 : decode cX4_bring 119 = .ok (.istore 6, 2) := dk_54 6 (dk_at dksX4_bring_5 0 rfl rfl)
theorem dX4_bring_121 : decode cX4_bring 121 = .ok (.iinc 7 1, 3) := dk_132 7 1 (dk_at dksX4_bring_5 2 rfl rfl)
theorem dX4_bring_124 : decode cX4_bring 124 = .ok (.goto (-75), 3) := dk_167 255 181 (dk_at dksX4_bring_5 5 rfl rfl)
theorem dX4_bring_127 : decode cX4_bring 127 = .ok (.iload_n 3, 1) := dk_29 (dk_at dksX4_bring_5 8 rfl rfl)
theorem dX4_bring_128 : decode cX4_bring 128 = .ok (.ifCond .ne 8, 3) := dk_154 0 8 (dk_at dksX4_bring_5 9 rfl rfl)
theorem dX4_bring_131 : decode cX4_bring 131 = .ok (.iload 5, 2) := dk_21 5 (dk_at dksX4_bring_5 12 rfl rfl)
theorem dX4_bring_133 : decode cX4_bring 133 = .ok (.goto 5, 3) := dk_167 0 5 (dk_at dksX4_bring_5 14 rfl rfl)
theorem dX4_bring_136 : decode cX4_bring 136 = .ok (.iload 6, 2) := dk_21 6 (dk_at dksX4_bring_5 17 rfl rfl)
theorem dX4_bring_138 : decode cX4_bring 138 = .ok (.ireturn, 1) := dk_172 (dk_at dksX4_bring_5 19 rfl rfl)
abbrev cX4_hoursAhead : ByteArray := prog_20_method_113_code
def yX4_hoursAhead : MethodName := ⟨RX4, "hoursAhead", "()I"⟩
def dkwX4_hoursAhead_1 : List UInt8 := [100, 60, 27, 16, 24, 164, 0, 8, 16, 24, 167, 0, 4, 27, 172]
abbrev dktX4_hoursAhead_1 : List UInt8 := dkwX4_hoursAhead_1 ++ []
def dkwX4_hoursAhead_0 : List UInt8 := [42, 182, 1, 42, 153, 0, 7, 3, 167, 0, 17, 42, 180, 0, 39, 16, 6, 46, 42, 180, 0, 39, 6, 46]
abbrev dktX4_hoursAhead_0 : List UInt8 := dkwX4_hoursAhead_0 ++ dktX4_hoursAhead_1
theorem dksX4_hoursAhead_0 : cX4_hoursAhead.data.toList.drop 0 = dktX4_hoursAhead_0 := by decide +kernel
theorem dksX4_hoursAhead_1 : cX4_hoursAhead.data.toList.drop 24 = dktX4_hoursAhead_1 := dk_seg dksX4_hoursAhead_0 24 rfl rfl
theorem dX4_hoursAhead_0 : decode cX4_hoursAhead 0 = .ok (.aload_n 0, 1) := dk_42 (dk_at dksX4_hoursAhead_0 0 rfl rfl)
theorem dX4_hoursAhead_1 : decode cX4_hoursAhead 1 = .ok (.invokevirtual 298, 3) := dk_182 1 42 (dk_at dksX4_hoursAhead_0 1 rfl rfl)
theorem dX4_hoursAhead_4 : decode cX4_hoursAhead 4 = .ok (.ifCond .eq 7, 3) := dk_153 0 7 (dk_at dksX4_hoursAhead_0 4 rfl rfl)
theorem dX4_hoursAhead_7 : decode cX4_hoursAhead 7 = .ok (.iconst 0, 1) := dk_3 (dk_at dksX4_hoursAhead_0 7 rfl rfl)
theorem dX4_hoursAhead_8 : decode cX4_hoursAhead 8 = .ok (.goto 17, 3) := dk_167 0 17 (dk_at dksX4_hoursAhead_0 8 rfl rfl)
theorem dX4_hoursAhead_11 : decode cX4_hoursAhead 11 = .ok (.aload_n 0, 1) := dk_42 (dk_at dksX4_hoursAhead_0 11 rfl rfl)
theorem dX4_hoursAhead_12 : decode cX4_hoursAhead 12 = .ok (.getfield 39, 3) := dk_180 0 39 (dk_at dksX4_hoursAhead_0 12 rfl rfl)
theorem dX4_hoursAhead_15 : decode cX4_hoursAhead 15 = .ok (.bipush 6, 2) := dk_16 6 (dk_at dksX4_hoursAhead_0 15 rfl rfl)
theorem dX4_hoursAhead_17 : decode cX4_hoursAhead 17 = .ok (.iaload, 1) := dk_46 (dk_at dksX4_hoursAhead_0 17 rfl rfl)
theorem dX4_hoursAhead_18 : decode cX4_hoursAhead 18 = .ok (.aload_n 0, 1) := dk_42 (dk_at dksX4_hoursAhead_0 18 rfl rfl)
theorem dX4_hoursAhead_19 : decode cX4_hoursAhead 19 = .ok (.getfield 39, 3) := dk_180 0 39 (dk_at dksX4_hoursAhead_0 19 rfl rfl)
theorem dX4_hoursAhead_22 : decode cX4_hoursAhead 22 = .ok (.iconst 3, 1) := dk_6 (dk_at dksX4_hoursAhead_0 22 rfl rfl)
theorem dX4_hoursAhead_23 : decode cX4_hoursAhead 23 = .ok (.iaload, 1) := dk_46 (dk_at dksX4_hoursAhead_0 23 rfl rfl)
theorem dX4_hoursAhead_24 : decode cX4_hoursAhead 24 = .ok (.isub, 1) := dk_100 (dk_at dksX4_hoursAhead_1 0 rfl rfl)
theorem dX4_hoursAhead_25 : decode cX4_hoursAhead 25 = .ok (.istore_n 1, 1) := dk_60 (dk_at dksX4_hoursAhead_1 1 rfl rfl)
theorem dX4_hoursAhead_26 : decode cX4_hoursAhead 26 = .ok (.iload_n 1, 1) := dk_27 (dk_at dksX4_hoursAhead_1 2 rfl rfl)
theorem dX4_hoursAhead_27 : decode cX4_hoursAhead 27 = .ok (.bipush 24, 2) := dk_16 24 (dk_at dksX4_hoursAhead_1 3 rfl rfl)
theorem dX4_hoursAhead_29 : decode cX4_hoursAhead 29 = .ok (.if_icmp .le 8, 3) := dk_164 0 8 (dk_at dksX4_hoursAhead_1 5 rfl rfl)
theorem dX4_hoursAhead_32 : decode cX4_hoursAhead 32 = .ok (.bipush 24, 2) := dk_16 24 (dk_at dksX4_hoursAhead_1 8 rfl rfl)
theorem dX4_hoursAhead_34 : decode cX4_hoursAhead 34 = .ok (.goto 4, 3) := dk_167 0 4 (dk_at dksX4_hoursAhead_1 10 rfl rfl)
theorem dX4_hoursAhead_37 : decode cX4_hoursAhead 37 = .ok (.iload_n 1, 1) := dk_27 (dk_at dksX4_hoursAhead_1 13 rfl rfl)
theorem dX4_hoursAhead_38 : decode cX4_hoursAhead 38 = .ok (.ireturn, 1) := dk_172 (dk_at dksX4_hoursAhead_1 14 rfl rfl)
abbrev cX4_keeps : ByteArray := prog_20_method_111_code
def yX4_keeps : MethodName := ⟨RX4, "keeps", "()V"⟩
def dkwX4_keeps_1 : List UInt8 := [167, 255, 235, 177]
abbrev dktX4_keeps_1 : List UInt8 := dkwX4_keeps_1 ++ []
def dkwX4_keeps_0 : List UInt8 := [3, 60, 27, 16, 86, 162, 0, 21, 42, 180, 0, 57, 27, 42, 180, 0, 39, 27, 46, 79, 132, 1, 1]
abbrev dktX4_keeps_0 : List UInt8 := dkwX4_keeps_0 ++ dktX4_keeps_1
theorem dksX4_keeps_0 : cX4_keeps.data.toList.drop 0 = dktX4_keeps_0 := by decide +kernel
theorem dksX4_keeps_1 : cX4_keeps.data.toList.drop 23 = dktX4_keeps_1 := dk_seg dksX4_keeps_0 23 rfl rfl
theorem dX4_keeps_0 : decode cX4_keeps 0 = .ok (.iconst 0, 1) := dk_3 (dk_at dksX4_keeps_0 0 rfl rfl)
theorem dX4_keeps_1 : decode cX4_keeps 1 = .ok (.istore_n 1, 1) := dk_60 (dk_at dksX4_keeps_0 1 rfl rfl)
theorem dX4_keeps_2 : decode cX4_keeps 2 = .ok (.iload_n 1, 1) := dk_27 (dk_at dksX4_keeps_0 2 rfl rfl)
theorem dX4_keeps_3 : decode cX4_keeps 3 = .ok (.bipush 86, 2) := dk_16 86 (dk_at dksX4_keeps_0 3 rfl rfl)
theorem dX4_keeps_5 : decode cX4_keeps 5 = .ok (.if_icmp .ge 21, 3) := dk_162 0 21 (dk_at dksX4_keeps_0 5 rfl rfl)
theorem dX4_keeps_8 : decode cX4_keeps 8 = .ok (.aload_n 0, 1) := dk_42 (dk_at dksX4_keeps_0 8 rfl rfl)
theorem dX4_keeps_9 : decode cX4_keeps 9 = .ok (.getfield 57, 3) := dk_180 0 57 (dk_at dksX4_keeps_0 9 rfl rfl)
theorem dX4_keeps_12 : decode cX4_keeps 12 = .ok (.iload_n 1, 1) := dk_27 (dk_at dksX4_keeps_0 12 rfl rfl)
theorem dX4_keeps_13 : decode cX4_keeps 13 = .ok (.aload_n 0, 1) := dk_42 (dk_at dksX4_keeps_0 13 rfl rfl)
theorem dX4_keeps_14 : decode cX4_keeps 14 = .ok (.getfield 39, 3) := dk_180 0 39 (dk_at dksX4_keeps_0 14 rfl rfl)
theorem dX4_keeps_17 : decode cX4_keeps 17 = .ok (.iload_n 1, 1) := dk_27 (dk_at dksX4_keeps_0 17 rfl rfl)
theorem dX4_keeps_18 : decode cX4_keeps 18 = .ok (.iaload, 1) := dk_46 (dk_at dksX4_keeps_0 18 rfl rfl)
theorem dX4_keeps_19 : decode cX4_keeps 19 = .ok (.iastore, 1) := dk_79 (dk_at dksX4_keeps_0 19 rfl rfl)
theorem dX4_keeps_20 : decode cX4_keeps 20 = .ok (.iinc 1 1, 3) := dk_132 1 1 (dk_at dksX4_keeps_0 20 rfl rfl)
theorem dX4_keeps_23 : decode cX4_keeps 23 = .ok (.goto (-21), 3) := dk_167 255 235 (dk_at dksX4_keeps_1 0 rfl rfl)
theorem dX4_keeps_26 : decode cX4_keeps 26 = .ok (.return_, 1) := dk_177 (dk_at dksX4_keeps_1 3 rfl rfl)
abbrev cX4_soldFrom : ByteArray := prog_20_method_114_code
def yX4_soldFrom : MethodName := ⟨RX4, "soldFrom", "(IIII)I"⟩
def dkwX4_soldFrom_3 : List UInt8 := [172]
abbrev dktX4_soldFrom_3 : List UInt8 := dkwX4_soldFrom_3 ++ []
def dkwX4_soldFrom_2 : List UInt8 := [182, 1, 45, 16, 100, 161, 0, 7, 21, 7, 54, 5, 132, 6, 1, 167, 255, 213, 42, 182, 1, 207, 21, 5]
abbrev dktX4_soldFrom_2 : List UInt8 := dkwX4_soldFrom_2 ++ dktX4_soldFrom_3
def dkwX4_soldFrom_1 : List UInt8 := [162, 0, 42, 21, 5, 156, 0, 37, 42, 180, 0, 39, 6, 46, 54, 7, 42, 27, 182, 1, 162, 42, 28, 6]
abbrev dktX4_soldFrom_1 : List UInt8 := dkwX4_soldFrom_1 ++ dktX4_soldFrom_2
def dkwX4_soldFrom_0 : List UInt8 := [42, 180, 0, 39, 16, 10, 8, 28, 104, 96, 6, 96, 29, 79, 2, 54, 5, 3, 54, 6, 21, 6, 21, 4]
abbrev dktX4_soldFrom_0 : List UInt8 := dkwX4_soldFrom_0 ++ dktX4_soldFrom_1
theorem dksX4_soldFrom_0 : cX4_soldFrom.data.toList.drop 0 = dktX4_soldFrom_0 := by decide +kernel
theorem dksX4_soldFrom_1 : cX4_soldFrom.data.toList.drop 24 = dktX4_soldFrom_1 := dk_seg dksX4_soldFrom_0 24 rfl rfl
theorem dksX4_soldFrom_2 : cX4_soldFrom.data.toList.drop 48 = dktX4_soldFrom_2 := dk_seg dksX4_soldFrom_1 24 rfl rfl
theorem dksX4_soldFrom_3 : cX4_soldFrom.data.toList.drop 72 = dktX4_soldFrom_3 := dk_seg dksX4_soldFrom_2 24 rfl rfl
theorem dX4_soldFrom_0 : decode cX4_soldFrom 0 = .ok (.aload_n 0, 1) := dk_42 (dk_at dksX4_soldFrom_0 0 rfl rfl)
theorem dX4_soldFrom_1 : decode cX4_soldFrom 1 = .ok (.getfield 39, 3) := dk_180 0 39 (dk_at dksX4_soldFrom_0 1 rfl rfl)
theorem dX4_soldFrom_4 : decode cX4_soldFrom 4 = .ok (.bipush 10, 2) := dk_16 10 (dk_at dksX4_soldFrom_0 4 rfl rfl)
theorem dX4_soldFrom_6 : decode cX4_soldFrom 6 = .ok (.iconst 5, 1) := dk_8 (dk_at dksX4_soldFrom_0 6 rfl rfl)
theorem dX4_soldFrom_7 : decode cX4_soldFrom 7 = .ok (.iload_n 2, 1) := dk_28 (dk_at dksX4_soldFrom_0 7 rfl rfl)
theorem dX4_soldFrom_8 : decode cX4_soldFrom 8 = .ok (.imul, 1) := dk_104 (dk_at dksX4_soldFrom_0 8 rfl rfl)
theorem dX4_soldFrom_9 : decode cX4_soldFrom 9 = .ok (.iadd, 1) := dk_96 (dk_at dksX4_soldFrom_0 9 rfl rfl)
theorem dX4_soldFrom_10 : decode cX4_soldFrom 10 = .ok (.iconst 3, 1) := dk_6 (dk_at dksX4_soldFrom_0 10 rfl rfl)
theorem dX4_soldFrom_11 : decode cX4_soldFrom 11 = .ok (.iadd, 1) := dk_96 (dk_at dksX4_soldFrom_0 11 rfl rfl)
theorem dX4_soldFrom_12 : decode cX4_soldFrom 12 = .ok (.iload_n 3, 1) := dk_29 (dk_at dksX4_soldFrom_0 12 rfl rfl)
theorem dX4_soldFrom_13 : decode cX4_soldFrom 13 = .ok (.iastore, 1) := dk_79 (dk_at dksX4_soldFrom_0 13 rfl rfl)
theorem dX4_soldFrom_14 : decode cX4_soldFrom 14 = .ok (.iconst (-1), 1) := dk_2 (dk_at dksX4_soldFrom_0 14 rfl rfl)
theorem dX4_soldFrom_15 : decode cX4_soldFrom 15 = .ok (.istore 5, 2) := dk_54 5 (dk_at dksX4_soldFrom_0 15 rfl rfl)
theorem dX4_soldFrom_17 : decode cX4_soldFrom 17 = .ok (.iconst 0, 1) := dk_3 (dk_at dksX4_soldFrom_0 17 rfl rfl)
theorem dX4_soldFrom_18 : decode cX4_soldFrom 18 = .ok (.istore 6, 2) := dk_54 6 (dk_at dksX4_soldFrom_0 18 rfl rfl)
theorem dX4_soldFrom_20 : decode cX4_soldFrom 20 = .ok (.iload 6, 2) := dk_21 6 (dk_at dksX4_soldFrom_0 20 rfl rfl)
theorem dX4_soldFrom_22 : decode cX4_soldFrom 22 = .ok (.iload 4, 2) := dk_21 4 (dk_at dksX4_soldFrom_0 22 rfl rfl)
theorem dX4_soldFrom_24 : decode cX4_soldFrom 24 = .ok (.if_icmp .ge 42, 3) := dk_162 0 42 (dk_at dksX4_soldFrom_1 0 rfl rfl)
theorem dX4_soldFrom_27 : decode cX4_soldFrom 27 = .ok (.iload 5, 2) := dk_21 5 (dk_at dksX4_soldFrom_1 3 rfl rfl)
theorem dX4_soldFrom_29 : decode cX4_soldFrom 29 = .ok (.ifCond .ge 37, 3) := dk_156 0 37 (dk_at dksX4_soldFrom_1 5 rfl rfl)
theorem dX4_soldFrom_32 : decode cX4_soldFrom 32 = .ok (.aload_n 0, 1) := dk_42 (dk_at dksX4_soldFrom_1 8 rfl rfl)
theorem dX4_soldFrom_33 : decode cX4_soldFrom 33 = .ok (.getfield 39, 3) := dk_180 0 39 (dk_at dksX4_soldFrom_1 9 rfl rfl)
theorem dX4_soldFrom_36 : decode cX4_soldFrom 36 = .ok (.iconst 3, 1) := dk_6 (dk_at dksX4_soldFrom_1 12 rfl rfl)
theorem dX4_soldFrom_37 : decode cX4_soldFrom 37 = .ok (.iaload, 1) := dk_46 (dk_at dksX4_soldFrom_1 13 rfl rfl)
theorem dX4_soldFrom_38 : decode cX4_soldFrom 38 = .ok (.istore 7, 2) := dk_54 7 (dk_at dksX4_soldFrom_1 14 rfl rfl)
theorem dX4_soldFrom_40 : decode cX4_soldFrom 40 = .ok (.aload_n 0, 1) := dk_42 (dk_at dksX4_soldFrom_1 16 rfl rfl)
theorem dX4_soldFrom_41 : decode cX4_soldFrom 41 = .ok (.iload_n 1, 1) := dk_27 (dk_at dksX4_soldFrom_1 17 rfl rfl)
theorem dX4_soldFrom_42 : decode cX4_soldFrom 42 = .ok (.invokevirtual 418, 3) := dk_182 1 162 (dk_at dksX4_soldFrom_1 18 rfl rfl)
theorem dX4_soldFrom_45 : decode cX4_soldFrom 45 = .ok (.aload_n 0, 1) := dk_42 (dk_at dksX4_soldFrom_1 21 rfl rfl)
theorem dX4_soldFrom_46 : decode cX4_soldFrom 46 = .ok (.iload_n 2, 1) := dk_28 (dk_at dksX4_soldFrom_1 22 rfl rfl)
theorem dX4_soldFrom_47 : decode cX4_soldFrom 47 = .ok (.iconst 3, 1) := dk_6 (dk_at dksX4_soldFrom_1 23 rfl rfl)
theorem dX4_soldFrom_48 : decode cX4_soldFrom 48 = .ok (.invokevirtual 301, 3) := dk_182 1 45 (dk_at dksX4_soldFrom_2 0 rfl rfl)
theorem dX4_soldFrom_51 : decode cX4_soldFrom 51 = .ok (.bipush 100, 2) := dk_16 100 (dk_at dksX4_soldFrom_2 3 rfl rfl)
theorem dX4_soldFrom_53 : decode cX4_soldFrom 53 = .ok (.if_icmp .lt 7, 3) := dk_161 0 7 (dk_at dksX4_soldFrom_2 5 rfl rfl)
theorem dX4_soldFrom_56 : decode cX4_soldFrom 56 = .ok (.iload 7, 2) := dk_21 7 (dk_at dksX4_soldFrom_2 8 rfl rfl)
theorem dX4_soldFrom_58 : decode cX4_soldFrom 58 = .ok (.istore 5, 2) := dk_54 5 (dk_at dksX4_soldFrom_2 10 rfl rfl)
theorem dX4_soldFrom_60 : decode cX4_soldFrom 60 = .ok (.iinc 6 1, 3) := dk_132 6 1 (dk_at dksX4_soldFrom_2 12 rfl rfl)
theorem dX4_soldFrom_63 : decode cX4_soldFrom 63 = .ok (.goto (-43), 3) := dk_167 255 213 (dk_at dksX4_soldFrom_2 15 rfl rfl)
theorem dX4_soldFrom_66 : decode cX4_soldFrom 66 = .ok (.aload_n 0, 1) := dk_42 (dk_at dksX4_soldFrom_2 18 rfl rfl)
theorem dX4_soldFrom_67 : decode cX4_soldFrom 67 = .ok (.invokevirtual 463, 3) := dk_182 1 207 (dk_at dksX4_soldFrom_2 19 rfl rfl)
theorem dX4_soldFrom_70 : decode cX4_soldFrom 70 = .ok (.iload 5, 2) := dk_21 5 (dk_at dksX4_soldFrom_2 22 rfl rfl)
theorem dX4_soldFrom_72 : decode cX4_soldFrom 72 = .ok (.ireturn, 1) := dk_172 (dk_at dksX4_soldFrom_3 0 rfl rfl)
abbrev cX4_putsBack : ByteArray := prog_20_method_112_code
def yX4_putsBack : MethodName := ⟨RX4, "putsBack", "()V"⟩
def dkwX4_putsBack_1 : List UInt8 := [167, 255, 235, 177]
abbrev dktX4_putsBack_1 : List UInt8 := dkwX4_putsBack_1 ++ []
def dkwX4_putsBack_0 : List UInt8 := [3, 60, 27, 16, 86, 162, 0, 21, 42, 180, 0, 39, 27, 42, 180, 0, 57, 27, 46, 79, 132, 1, 1]
abbrev dktX4_putsBack_0 : List UInt8 := dkwX4_putsBack_0 ++ dktX4_putsBack_1
theorem dksX4_putsBack_0 : cX4_putsBack.data.toList.drop 0 = dktX4_putsBack_0 := by decide +kernel
theorem dksX4_putsBack_1 : cX4_putsBack.data.toList.drop 23 = dktX4_putsBack_1 := dk_seg dksX4_putsBack_0 23 rfl rfl
theorem dX4_putsBack_0 : decode cX4_putsBack 0 = .ok (.iconst 0, 1) := dk_3 (dk_at dksX4_putsBack_0 0 rfl rfl)
theorem dX4_putsBack_1 : decode cX4_putsBack 1 = .ok (.istore_n 1, 1) := dk_60 (dk_at dksX4_putsBack_0 1 rfl rfl)
theorem dX4_putsBack_2 : decode cX4_putsBack 2 = .ok (.iload_n 1, 1) := dk_27 (dk_at dksX4_putsBack_0 2 rfl rfl)
theorem dX4_putsBack_3 : decode cX4_putsBack 3 = .ok (.bipush 86, 2) := dk_16 86 (dk_at dksX4_putsBack_0 3 rfl rfl)
theorem dX4_putsBack_5 : decode cX4_putsBack 5 = .ok (.if_icmp .ge 21, 3) := dk_162 0 21 (dk_at dksX4_putsBack_0 5 rfl rfl)
theorem dX4_putsBack_8 : decode cX4_putsBack 8 = .ok (.aload_n 0, 1) := dk_42 (dk_at dksX4_putsBack_0 8 rfl rfl)
theorem dX4_putsBack_9 : decode cX4_putsBack 9 = .ok (.getfield 39, 3) := dk_180 0 39 (dk_at dksX4_putsBack_0 9 rfl rfl)
theorem dX4_putsBack_12 : decode cX4_putsBack 12 = .ok (.iload_n 1, 1) := dk_27 (dk_at dksX4_putsBack_0 12 rfl rfl)
theorem dX4_putsBack_13 : decode cX4_putsBack 13 = .ok (.aload_n 0, 1) := dk_42 (dk_at dksX4_putsBack_0 13 rfl rfl)
theorem dX4_putsBack_14 : decode cX4_putsBack 14 = .ok (.getfield 57, 3) := dk_180 0 57 (dk_at dksX4_putsBack_0 14 rfl rfl)
theorem dX4_putsBack_17 : decode cX4_putsBack 17 = .ok (.iload_n 1, 1) := dk_27 (dk_at dksX4_putsBack_0 17 rfl rfl)
theorem dX4_putsBack_18 : decode cX4_putsBack 18 = .ok (.iaload, 1) := dk_46 (dk_at dksX4_putsBack_0 18 rfl rfl)
theorem dX4_putsBack_19 : decode cX4_putsBack 19 = .ok (.iastore, 1) := dk_79 (dk_at dksX4_putsBack_0 19 rfl rfl)
theorem dX4_putsBack_20 : decode cX4_putsBack 20 = .ok (.iinc 1 1, 3) := dk_132 1 1 (dk_at dksX4_putsBack_0 20 rfl rfl)
theorem dX4_putsBack_23 : decode cX4_putsBack 23 = .ok (.goto (-21), 3) := dk_167 255 235 (dk_at dksX4_putsBack_1 0 rfl rfl)
theorem dX4_putsBack_26 : decode cX4_putsBack 26 = .ok (.return_, 1) := dk_177 (dk_at dksX4_putsBack_1 3 rfl rfl)
abbrev cX4_trial : ByteArray := prog_20_method_116_code
def yX4_trial : MethodName := ⟨RX4, "trial", "(IIZ)I"⟩
def dkwX4_trial_4 : List UInt8 := [167, 0, 4, 3, 79, 42, 180, 0, 39, 16, 122, 92, 46, 4, 96, 79, 42, 180, 0, 39, 16, 122, 46, 172]
abbrev dktX4_trial_4 : List UInt8 := dkwX4_trial_4 ++ []
def dkwX4_trial_3 : List UInt8 := [79, 42, 180, 0, 39, 21, 4, 4, 96, 28, 79, 42, 180, 0, 39, 21, 4, 5, 96, 29, 153, 0, 7, 4]
abbrev dktX4_trial_3 : List UInt8 := dkwX4_trial_3 ++ dktX4_trial_4
def dkwX4_trial_2 : List UInt8 := [16, 254, 172, 16, 86, 6, 42, 180, 0, 39, 16, 122, 46, 104, 96, 54, 4, 42, 180, 0, 39, 21, 4, 27]
abbrev dktX4_trial_2 : List UInt8 := dkwX4_trial_2 ++ dktX4_trial_3
def dkwX4_trial_1 : List UInt8 := [28, 182, 1, 79, 153, 0, 20, 27, 28, 159, 0, 15, 42, 180, 0, 39, 16, 122, 46, 16, 12, 160, 0, 6]
abbrev dktX4_trial_1 : List UInt8 := dkwX4_trial_1 ++ dktX4_trial_2
def dkwX4_trial_0 : List UInt8 := [27, 2, 160, 0, 13, 42, 180, 0, 39, 16, 122, 3, 79, 3, 172, 42, 27, 182, 1, 79, 153, 0, 28, 42]
abbrev dktX4_trial_0 : List UInt8 := dkwX4_trial_0 ++ dktX4_trial_1
theorem dksX4_trial_0 : cX4_trial.data.toList.drop 0 = dktX4_trial_0 := by decide +kernel
theorem dksX4_trial_1 : cX4_trial.data.toList.drop 24 = dktX4_trial_1 := dk_seg dksX4_trial_0 24 rfl rfl
theorem dksX4_trial_2 : cX4_trial.data.toList.drop 48 = dktX4_trial_2 := dk_seg dksX4_trial_1 24 rfl rfl
theorem dksX4_trial_3 : cX4_trial.data.toList.drop 72 = dktX4_trial_3 := dk_seg dksX4_trial_2 24 rfl rfl
theorem dksX4_trial_4 : cX4_trial.data.toList.drop 96 = dktX4_trial_4 := dk_seg dksX4_trial_3 24 rfl rfl
theorem dX4_trial_0 : decode cX4_trial 0 = .ok (.iload_n 1, 1) := dk_27 (dk_at dksX4_trial_0 0 rfl rfl)
theorem dX4_trial_1 : decode cX4_trial 1 = .ok (.iconst (-1), 1) := dk_2 (dk_at dksX4_trial_0 1 rfl rfl)
theorem dX4_trial_2 : decode cX4_trial 2 = .ok (.if_icmp .ne 13, 3) := dk_160 0 13 (dk_at dksX4_trial_0 2 rfl rfl)
theorem dX4_trial_5 : decode cX4_trial 5 = .ok (.aload_n 0, 1) := dk_42 (dk_at dksX4_trial_0 5 rfl rfl)
theorem dX4_trial_6 : decode cX4_trial 6 = .ok (.getfield 39, 3) := dk_180 0 39 (dk_at dksX4_trial_0 6 rfl rfl)
theorem dX4_trial_9 : decode cX4_trial 9 = .ok (.bipush 122, 2) := dk_16 122 (dk_at dksX4_trial_0 9 rfl rfl)
theorem dX4_trial_11 : decode cX4_trial 11 = .ok (.iconst 0, 1) := dk_3 (dk_at dksX4_trial_0 11 rfl rfl)
theorem dX4_trial_12 : decode cX4_trial 12 = .ok (.iastore, 1) := dk_79 (dk_at dksX4_trial_0 12 rfl rfl)
theorem dX4_trial_13 : decode cX4_trial 13 = .ok (.iconst 0, 1) := dk_3 (dk_at dksX4_trial_0 13 rfl rfl)
theorem dX4_trial_14 : decode cX4_trial 14 = .ok (.ireturn, 1) := dk_172 (dk_at dksX4_trial_0 14 rfl rfl)
theorem dX4_trial_15 : decode cX4_trial 15 = .ok (.aload_n 0, 1) := dk_42 (dk_at dksX4_trial_0 15 rfl rfl)
theorem dX4_trial_16 : decode cX4_trial 16 = .ok (.iload_n 1, 1) := dk_27 (dk_at dksX4_trial_0 16 rfl rfl)
theorem dX4_trial_17 : decode cX4_trial 17 = .ok (.invokevirtual 335, 3) := dk_182 1 79 (dk_at dksX4_trial_0 17 rfl rfl)
theorem dX4_trial_20 : decode cX4_trial 20 = .ok (.ifCond .eq 28, 3) := dk_153 0 28 (dk_at dksX4_trial_0 20 rfl rfl)
theorem dX4_trial_23 : decode cX4_trial 23 = .ok (.aload_n 0, 1) := dk_42 (dk_at dksX4_trial_0 23 rfl rfl)
theorem dX4_trial_24 : decode cX4_trial 24 = .ok (.iload_n 2, 1) := dk_28 (dk_at dksX4_trial_1 0 rfl rfl)
theorem dX4_trial_25 : decode cX4_trial 25 = .ok (.invokevirtual 335, 3) := dk_182 1 79 (dk_at dksX4_trial_1 1 rfl rfl)
theorem dX4_trial_28 : decode cX4_trial 28 = .ok (.ifCond .eq 20, 3) := dk_153 0 20 (dk_at dksX4_trial_1 4 rfl rfl)
theorem dX4_trial_31 : decode cX4_trial 31 = .ok (.iload_n 1, 1) := dk_27 (dk_at dksX4_trial_1 7 rfl rfl)
theorem dX4_trial_32 : decode cX4_trial 32 = .ok (.iload_n 2, 1) := dk_28 (dk_at dksX4_trial_1 8 rfl rfl)
theorem dX4_trial_33 : decode cX4_trial 33 = .ok (.if_icmp .eq 15, 3) := dk_159 0 15 (dk_at dksX4_trial_1 9 rfl rfl)
theorem dX4_trial_36 : decode cX4_trial 36 = .ok (.aload_n 0, 1) := dk_42 (dk_at dksX4_trial_1 12 rfl rfl)
theorem dX4_trial_37 : decode cX4_trial 37 = .ok (.getfield 39, 3) := dk_180 0 39 (dk_at dksX4_trial_1 13 rfl rfl)
theorem dX4_trial_40 : decode cX4_trial 40 = .ok (.bipush 122, 2) := dk_16 122 (dk_at dksX4_trial_1 16 rfl rfl)
theorem dX4_trial_42 : decode cX4_trial 42 = .ok (.iaload, 1) := dk_46 (dk_at dksX4_trial_1 18 rfl rfl)
theorem dX4_trial_43 : decode cX4_trial 43 = .ok (.bipush 12, 2) := dk_16 12 (dk_at dksX4_trial_1 19 rfl rfl)
theorem dX4_trial_45 : decode cX4_trial 45 = .ok (.if_icmp .ne 6, 3) := dk_160 0 6 (dk_at dksX4_trial_1 21 rfl rfl)
theorem dX4_trial_48 : decode cX4_trial 48 = .ok (.bipush (-2), 2) := dk_16 254 (dk_at dksX4_trial_2 0 rfl rfl)
theorem dX4_trial_50 : decode cX4_trial 50 = .ok (.ireturn, 1) := dk_172 (dk_at dksX4_trial_2 2 rfl rfl)
theorem dX4_trial_51 : decode cX4_trial 51 = .ok (.bipush 86, 2) := dk_16 86 (dk_at dksX4_trial_2 3 rfl rfl)
theorem dX4_trial_53 : decode cX4_trial 53 = .ok (.iconst 3, 1) := dk_6 (dk_at dksX4_trial_2 5 rfl rfl)
theorem dX4_trial_54 : decode cX4_trial 54 = .ok (.aload_n 0, 1) := dk_42 (dk_at dksX4_trial_2 6 rfl rfl)
theorem dX4_trial_55 : decode cX4_trial 55 = .ok (.getfield 39, 3) := dk_180 0 39 (dk_at dksX4_trial_2 7 rfl rfl)
theorem dX4_trial_58 : decode cX4_trial 58 = .ok (.bipush 122, 2) := dk_16 122 (dk_at dksX4_trial_2 10 rfl rfl)
theorem dX4_trial_60 : decode cX4_trial 60 = .ok (.iaload, 1) := dk_46 (dk_at dksX4_trial_2 12 rfl rfl)
theorem dX4_trial_61 : decode cX4_trial 61 = .ok (.imul, 1) := dk_104 (dk_at dksX4_trial_2 13 rfl rfl)
theorem dX4_trial_62 : decode cX4_trial 62 = .ok (.iadd, 1) := dk_96 (dk_at dksX4_trial_2 14 rfl rfl)
theorem dX4_trial_63 : decode cX4_trial 63 = .ok (.istore 4, 2) := dk_54 4 (dk_at dksX4_trial_2 15 rfl rfl)
theorem dX4_trial_65 : decode cX4_trial 65 = .ok (.aload_n 0, 1) := dk_42 (dk_at dksX4_trial_2 17 rfl rfl)
theorem dX4_trial_66 : decode cX4_trial 66 = .ok (.getfield 39, 3) := dk_180 0 39 (dk_at dksX4_trial_2 18 rfl rfl)
theorem dX4_trial_69 : decode cX4_trial 69 = .ok (.iload 4, 2) := dk_21 4 (dk_at dksX4_trial_2 21 rfl rfl)
theorem dX4_trial_71 : decode cX4_trial 71 = .ok (.iload_n 1, 1) := dk_27 (dk_at dksX4_trial_2 23 rfl rfl)
theorem dX4_trial_72 : decode cX4_trial 72 = .ok (.iastore, 1) := dk_79 (dk_at dksX4_trial_3 0 rfl rfl)
theorem dX4_trial_73 : decode cX4_trial 73 = .ok (.aload_n 0, 1) := dk_42 (dk_at dksX4_trial_3 1 rfl rfl)
theorem dX4_trial_74 : decode cX4_trial 74 = .ok (.getfield 39, 3) := dk_180 0 39 (dk_at dksX4_trial_3 2 rfl rfl)
theorem dX4_trial_77 : decode cX4_trial 77 = .ok (.iload 4, 2) := dk_21 4 (dk_at dksX4_trial_3 5 rfl rfl)
theorem dX4_trial_79 : decode cX4_trial 79 = .ok (.iconst 1, 1) := dk_4 (dk_at dksX4_trial_3 7 rfl rfl)
theorem dX4_trial_80 : decode cX4_trial 80 = .ok (.iadd, 1) := dk_96 (dk_at dksX4_trial_3 8 rfl rfl)
theorem dX4_trial_81 : decode cX4_trial 81 = .ok (.iload_n 2, 1) := dk_28 (dk_at dksX4_trial_3 9 rfl rfl)
theorem dX4_trial_82 : decode cX4_trial 82 = .ok (.iastore, 1) := dk_79 (dk_at dksX4_trial_3 10 rfl rfl)
theorem dX4_trial_83 : decode cX4_trial 83 = .ok (.aload_n 0, 1) := dk_42 (dk_at dksX4_trial_3 11 rfl rfl)
theorem dX4_trial_84 : decode cX4_trial 84 = .ok (.getfield 39, 3) := dk_180 0 39 (dk_at dksX4_trial_3 12 rfl rfl)
theorem dX4_trial_87 : decode cX4_trial 87 = .ok (.iload 4, 2) := dk_21 4 (dk_at dksX4_trial_3 15 rfl rfl)
theorem dX4_trial_89 : decode cX4_trial 89 = .ok (.iconst 2, 1) := dk_5 (dk_at dksX4_trial_3 17 rfl rfl)
theorem dX4_trial_90 : decode cX4_trial 90 = .ok (.iadd, 1) := dk_96 (dk_at dksX4_trial_3 18 rfl rfl)
theorem dX4_trial_91 : decode cX4_trial 91 = .ok (.iload_n 3, 1) := dk_29 (dk_at dksX4_trial_3 19 rfl rfl)
theorem dX4_trial_92 : decode cX4_trial 92 = .ok (.ifCond .eq 7, 3) := dk_153 0 7 (dk_at dksX4_trial_3 20 rfl rfl)
theorem dX4_trial_95 : decode cX4_trial 95 = .ok (.iconst 1, 1) := dk_4 (dk_at dksX4_trial_3 23 rfl rfl)
theorem dX4_trial_96 : decode cX4_trial 96 = .ok (.goto 4, 3) := dk_167 0 4 (dk_at dksX4_trial_4 0 rfl rfl)
theorem dX4_trial_99 : decode cX4_trial 99 = .ok (.iconst 0, 1) := dk_3 (dk_at dksX4_trial_4 3 rfl rfl)
theorem dX4_trial_100 : decode cX4_trial 100 = .ok (.iastore, 1) := dk_79 (dk_at dksX4_trial_4 4 rfl rfl)
theorem dX4_trial_101 : decode cX4_trial 101 = .ok (.aload_n 0, 1) := dk_42 (dk_at dksX4_trial_4 5 rfl rfl)
theorem dX4_trial_102 : decode cX4_trial 102 = .ok (.getfield 39, 3) := dk_180 0 39 (dk_at dksX4_trial_4 6 rfl rfl)
theorem dX4_trial_105 : decode cX4_trial 105 = .ok (.bipush 122, 2) := dk_16 122 (dk_at dksX4_trial_4 9 rfl rfl)
theorem dX4_trial_107 : decode cX4_trial 107 = .ok (.dup2, 1) := dk_92 (dk_at dksX4_trial_4 11 rfl rfl)
theorem dX4_trial_108 : decode cX4_trial 108 = .ok (.iaload, 1) := dk_46 (dk_at dksX4_trial_4 12 rfl rfl)
theorem dX4_trial_109 : decode cX4_trial 109 = .ok (.iconst 1, 1) := dk_4 (dk_at dksX4_trial_4 13 rfl rfl)
theorem dX4_trial_110 : decode cX4_trial 110 = .ok (.iadd, 1) := dk_96 (dk_at dksX4_trial_4 14 rfl rfl)
theorem dX4_trial_111 : decode cX4_trial 111 = .ok (.iastore, 1) := dk_79 (dk_at dksX4_trial_4 15 rfl rfl)
theorem dX4_trial_112 : decode cX4_trial 112 = .ok (.aload_n 0, 1) := dk_42 (dk_at dksX4_trial_4 16 rfl rfl)
theorem dX4_trial_113 : decode cX4_trial 113 = .ok (.getfield 39, 3) := dk_180 0 39 (dk_at dksX4_trial_4 17 rfl rfl)
theorem dX4_trial_116 : decode cX4_trial 116 = .ok (.bipush 122, 2) := dk_16 122 (dk_at dksX4_trial_4 20 rfl rfl)
theorem dX4_trial_118 : decode cX4_trial 118 = .ok (.iaload, 1) := dk_46 (dk_at dksX4_trial_4 22 rfl rfl)
theorem dX4_trial_119 : decode cX4_trial 119 = .ok (.ireturn, 1) := dk_172 (dk_at dksX4_trial_4 23 rfl rfl)
abbrev cX4_forgers : ByteArray := prog_20_method_118_code
def yX4_forgers : MethodName := ⟨RX4, "forgers", "(I)I"⟩
def dkwX4_forgers_5 : List UInt8 := [42, 180, 0, 39, 4, 46, 120, 4, 100, 29, 2, 130, 126, 172]
abbrev dktX4_forgers_5 : List UInt8 := dkwX4_forgers_5 ++ []
def dkwX4_forgers_4 : List UInt8 := [62, 132, 4, 1, 167, 255, 186, 27, 154, 0, 7, 28, 167, 0, 25, 28, 156, 0, 7, 3, 167, 0, 17, 4]
abbrev dktX4_forgers_4 : List UInt8 := dkwX4_forgers_4 ++ dktX4_forgers_5
def dkwX4_forgers_3 : List UInt8 := [155, 0, 15, 21, 4, 184, 1, 118, 28, 184, 1, 118, 162, 0, 8, 21, 4, 61, 3, 62, 29, 21, 4, 128]
abbrev dktX4_forgers_3 : List UInt8 := dkwX4_forgers_3 ++ dktX4_forgers_4
def dkwX4_forgers_2 : List UInt8 := [184, 1, 118, 28, 184, 1, 118, 163, 0, 41, 42, 21, 4, 182, 1, 220, 154, 0, 6, 167, 0, 29, 28]
abbrev dktX4_forgers_2 : List UInt8 := dkwX4_forgers_2 ++ dktX4_forgers_3
def dkwX4_forgers_1 : List UInt8 := [3, 54, 4, 21, 4, 4, 42, 180, 0, 39, 4, 46, 120, 162, 0, 63, 28, 155, 0, 15, 21, 4]
abbrev dktX4_forgers_1 : List UInt8 := dkwX4_forgers_1 ++ dktX4_forgers_2
def dkwX4_forgers_0 : List UInt8 := [42, 182, 1, 73, 153, 0, 13, 27, 133, 9, 10, 184, 0, 109, 154, 0, 5, 2, 172, 16, 254, 61, 3, 62]
abbrev dktX4_forgers_0 : List UInt8 := dkwX4_forgers_0 ++ dktX4_forgers_1
theorem dksX4_forgers_0 : cX4_forgers.data.toList.drop 0 = dktX4_forgers_0 := by decide +kernel
theorem dksX4_forgers_1 : cX4_forgers.data.toList.drop 24 = dktX4_forgers_1 := dk_seg dksX4_forgers_0 24 rfl rfl
theorem dksX4_forgers_2 : cX4_forgers.data.toList.drop 46 = dktX4_forgers_2 := dk_seg dksX4_forgers_1 22 rfl rfl
theorem dksX4_forgers_3 : cX4_forgers.data.toList.drop 69 = dktX4_forgers_3 := dk_seg dksX4_forgers_2 23 rfl rfl
theorem dksX4_forgers_4 : cX4_forgers.data.toList.drop 93 = dktX4_forgers_4 := dk_seg dksX4_forgers_3 24 rfl rfl
theorem dksX4_forgers_5 : cX4_forgers.data.toList.drop 117 = dktX4_forgers_5 := dk_seg dksX4_forgers_4 24 rfl rfl
theorem dX4_forgers_0 : decode cX4_forgers 0 = .ok (.aload_n 0, 1) := dk_42 (dk_at dksX4_forgers_0 0 rfl rfl)
theorem dX4_forgers_1 : decode cX4_forgers 1 = .ok (.invokevirtual 329, 3) := dk_182 1 73 (dk_at dksX4_forgers_0 1 rfl rfl)
theorem dX4_forgers_4 : decode cX4_forgers 4 = .ok (.ifCond .eq 13, 3) := dk_153 0 13 (dk_at dksX4_forgers_0 4 rfl rfl)
theorem dX4_forgers_7 : decode cX4_forgers 7 = .ok (.iload_n 1, 1) := dk_27 (dk_at dksX4_forgers_0 7 rfl rfl)
theorem dX4_forgers_8 : decode cX4_forgers 8 = .ok (.i2l, 1) := dk_133 (dk_at dksX4_forgers_0 8 rfl rfl)
theorem dX4_forgers_9 : decode cX4_forgers 9 = .ok (.lconst 0, 1) := dk_9 (dk_at dksX4_forgers_0 9 rfl rfl)
theorem dX4_forgers_10 : decode cX4_forgers 10 = .ok (.lconst 1, 1) := dk_10 (dk_at dksX4_forgers_0 10 rfl rfl)
theorem dX4_forgers_11 : decode cX4_forgers 11 = .ok (.invokestatic 109, 3) := dk_184 0 109 (dk_at dksX4_forgers_0 11 rfl rfl)
theorem dX4_forgers_14 : decode cX4_forgers 14 = .ok (.ifCond .ne 5, 3) := dk_154 0 5 (dk_at dksX4_forgers_0 14 rfl rfl)
theorem dX4_forgers_17 : decode cX4_forgers 17 = .ok (.iconst (-1), 1) := dk_2 (dk_at dksX4_forgers_0 17 rfl rfl)
theorem dX4_forgers_18 : decode cX4_forgers 18 = .ok (.ireturn, 1) := dk_172 (dk_at dksX4_forgers_0 18 rfl rfl)
theorem dX4_forgers_19 : decode cX4_forgers 19 = .ok (.bipush (-2), 2) := dk_16 254 (dk_at dksX4_forgers_0 19 rfl rfl)
theorem dX4_forgers_21 : decode cX4_forgers 21 = .ok (.istore_n 2, 1) := dk_61 (dk_at dksX4_forgers_0 21 rfl rfl)
theorem dX4_forgers_22 : decode cX4_forgers 22 = .ok (.iconst 0, 1) := dk_3 (dk_at dksX4_forgers_0 22 rfl rfl)
theorem dX4_forgers_23 : decode cX4_forgers 23 = .ok (.istore_n 3, 1) := dk_62 (dk_at dksX4_forgers_0 23 rfl rfl)
theorem dX4_forgers_24 : decode cX4_forgers 24 = .ok (.iconst 0, 1) := dk_3 (dk_at dksX4_forgers_1 0 rfl rfl)
theorem dX4_forgers_25 : decode cX4_forgers 25 = .ok (.istore 4, 2) := dk_54 4 (dk_at dksX4_forgers_1 1 rfl rfl)
theorem dX4_forgers_27 : decode cX4_forgers 27 = .ok (.iload 4, 2) := dk_21 4 (dk_at dksX4_forgers_1 3 rfl rfl)
theorem dX4_forgers_29 : decode cX4_forgers 29 = .ok (.iconst 1, 1) := dk_4 (dk_at dksX4_forgers_1 5 rfl rfl)
theorem dX4_forgers_30 : decode cX4_forgers 30 = .ok (.aload_n 0, 1) := dk_42 (dk_at dksX4_forgers_1 6 rfl rfl)
theorem dX4_forgers_31 : decode cX4_forgers 31 = .ok (.getfield 39, 3) := dk_180 0 39 (dk_at dksX4_forgers_1 7 rfl rfl)
theorem dX4_forgers_34 : decode cX4_forgers 34 = .ok (.iconst 1, 1) := dk_4 (dk_at dksX4_forgers_1 10 rfl rfl)
theorem dX4_forgers_35 : decode cX4_forgers 35 = .ok (.iaload, 1) := dk_46 (dk_at dksX4_forgers_1 11 rfl rfl)
theorem dX4_forgers_36 : decode cX4_forgers 36 = .ok (.ishl, 1) := dk_120 (dk_at dksX4_forgers_1 12 rfl rfl)
theorem dX4_forgers_37 : decode cX4_forgers 37 = .ok (.if_icmp .ge 63, 3) := dk_162 0 63 (dk_at dksX4_forgers_1 13 rfl rfl)
theorem dX4_forgers_40 : decode cX4_forgers 40 = .ok (.iload_n 2, 1) := dk_28 (dk_at dksX4_forgers_1 16 rfl rfl)
theorem dX4_forgers_41 : decode cX4_forgers 41 = .ok (.ifCond .lt 15, 3) := dk_155 0 15 (dk_at dksX4_forgers_1 17 rfl rfl)
theorem dX4_forgers_44 : decode cX4_forgers 44 = .ok (.iload 4, 2) := dk_21 4 (dk_at dksX4_forgers_1 20 rfl rfl)
theorem dX4_forgers_46 : decode cX4_forgers 46 = .ok (.invokestatic 374, 3) := dk_184 1 118 (dk_at dksX4_forgers_2 0 rfl rfl)
theorem dX4_forgers_49 : decode cX4_forgers 49 = .ok (.iload_n 2, 1) := dk_28 (dk_at dksX4_forgers_2 3 rfl rfl)
theorem dX4_forgers_50 : decode cX4_forgers 50 = .ok (.invokestatic 374, 3) := dk_184 1 118 (dk_at dksX4_forgers_2 4 rfl rfl)
theorem dX4_forgers_53 : decode cX4_forgers 53 = .ok (.if_icmp .gt 41, 3) := dk_163 0 41 (dk_at dksX4_forgers_2 7 rfl rfl)
theorem dX4_forgers_56 : decode cX4_forgers 56 = .ok (.aload_n 0, 1) := dk_42 (dk_at dksX4_forgers_2 10 rfl rfl)
theorem dX4_forgers_57 : decode cX4_forgers 57 = .ok (.iload 4, 2) := dk_21 4 (dk_at dksX4_forgers_2 11 rfl rfl)
theorem dX4_forgers_59 : decode cX4_forgers 59 = .ok (.invokevirtual 476, 3) := dk_182 1 220 (dk_at dksX4_forgers_2 13 rfl rfl)
theorem dX4_forgers_62 : decode cX4_forgers 62 = .ok (.ifCond .ne 6, 3) := dk_154 0 6 (dk_at dksX4_forgers_2 16 rfl rfl)
theorem dX4_forgers_65 : decode cX4_forgers 65 = .ok (.goto 29, 3) := dk_167 0 29 (dk_at dksX4_forgers_2 19 rfl rfl)
theorem dX4_forgers_68 : decode cX4_forgers 68 = .ok (.iload_n 2, 1) := dk_28 (dk_at dksX4_forgers_2 22 rfl rfl)
theorem dX4_forgers_69 : decode cX4_forgers 69 = .ok (.ifCond .lt 15, 3) := dk_155 0 15 (dk_at dksX4_forgers_3 0 rfl rfl)
theorem dX4_forgers_72 : decode cX4_forgers 72 = .ok (.iload 4, 2) := dk_21 4 (dk_at dksX4_forgers_3 3 rfl rfl)
theorem dX4_forgers_74 : decode cX4_forgers 74 = .ok (.invokestatic 374, 3) := dk_184 1 118 (dk_at dksX4_forgers_3 5 rfl rfl)
theorem dX4_forgers_77 : decode cX4_forgers 77 = .ok (.iload_n 2, 1) := dk_28 (dk_at dksX4_forgers_3 8 rfl rfl)
theorem dX4_forgers_78 : decode cX4_forgers 78 = .ok (.invokestatic 374, 3) := dk_184 1 118 (dk_at dksX4_forgers_3 9 rfl rfl)
theorem dX4_forgers_81 : decode cX4_forgers 81 = .ok (.if_icmp .ge 8, 3) := dk_162 0 8 (dk_at dksX4_forgers_3 12 rfl rfl)
theorem dX4_forgers_84 : decode cX4_forgers 84 = .ok (.iload 4, 2) := dk_21 4 (dk_at dksX4_forgers_3 15 rfl rfl)
theorem dX4_forgers_86 : decode cX4_forgers 86 = .ok (.istore_n 2, 1) := dk_61 (dk_at dksX4_forgers_3 17 rfl rfl)
theorem dX4_forgers_87 : decode cX4_forgers 87 = .ok (.iconst 0, 1) := dk_3 (dk_at dksX4_forgers_3 18 rfl rfl)
theorem dX4_forgers_88 : decode cX4_forgers 88 = .ok (.istore_n 3, 1) := dk_62 (dk_at dksX4_forgers_3 19 rfl rfl)
theorem dX4_forgers_89 : decode cX4_forgers 89 = .ok (.iload_n 3, 1) := dk_29 (dk_at dksX4_forgers_3 20 rfl rfl)
theorem dX4_forgers_90 : decode cX4_forgers 90 = .ok (.iload 4, 2) := dk_21 4 (dk_at dksX4_forgers_3 21 rfl rfl)
theorem dX4_forgers_92 : decode cX4_forgers 92 = .ok (.ior, 1) := dk_128 (dk_at dksX4_forgers_3 23 rfl rfl)
theorem dX4_forgers_93 : decode cX4_forgers 93 = .ok (.istore_n 3, 1) := dk_62 (dk_at dksX4_forgers_4 0 rfl rfl)
theorem dX4_forgers_94 : decode cX4_forgers 94 = .ok (.iinc 4 1, 3) := dk_132 4 1 (dk_at dksX4_forgers_4 1 rfl rfl)
theorem dX4_forgers_97 : decode cX4_forgers 97 = .ok (.goto (-70), 3) := dk_167 255 186 (dk_at dksX4_forgers_4 4 rfl rfl)
theorem dX4_forgers_100 : decode cX4_forgers 100 = .ok (.iload_n 1, 1) := dk_27 (dk_at dksX4_forgers_4 7 rfl rfl)
theorem dX4_forgers_101 : decode cX4_forgers 101 = .ok (.ifCond .ne 7, 3) := dk_154 0 7 (dk_at dksX4_forgers_4 8 rfl rfl)
theorem dX4_forgers_104 : decode cX4_forgers 104 = .ok (.iload_n 2, 1) := dk_28 (dk_at dksX4_forgers_4 11 rfl rfl)
theorem dX4_forgers_105 : decode cX4_forgers 105 = .ok (.goto 25, 3) := dk_167 0 25 (dk_at dksX4_forgers_4 12 rfl rfl)
theorem dX4_forgers_108 : decode cX4_forgers 108 = .ok (.iload_n 2, 1) := dk_28 (dk_at dksX4_forgers_4 15 rfl rfl)
theorem dX4_forgers_109 : decode cX4_forgers 109 = .ok (.ifCond .ge 7, 3) := dk_156 0 7 (dk_at dksX4_forgers_4 16 rfl rfl)
theorem dX4_forgers_112 : decode cX4_forgers 112 = .ok (.iconst 0, 1) := dk_3 (dk_at dksX4_forgers_4 19 rfl rfl)
theorem dX4_forgers_113 : decode cX4_forgers 113 = .ok (.goto 17, 3) := dk_167 0 17 (dk_at dksX4_forgers_4 20 rfl rfl)
theorem dX4_forgers_116 : decode cX4_forgers 116 = .ok (.iconst 1, 1) := dk_4 (dk_at dksX4_forgers_4 23 rfl rfl)
theorem dX4_forgers_117 : decode cX4_forgers 117 = .ok (.aload_n 0, 1) := dk_42 (dk_at dksX4_forgers_5 0 rfl rfl)
theorem dX4_forgers_118 : decode cX4_forgers 118 = .ok (.getfield 39, 3) := dk_180 0 39 (dk_at dksX4_forgers_5 1 rfl rfl)
theorem dX4_forgers_121 : decode cX4_forgers 121 = .ok (.iconst 1, 1) := dk_4 (dk_at dksX4_forgers_5 4 rfl rfl)
theorem dX4_forgers_122 : decode cX4_forgers 122 = .ok (.iaload, 1) := dk_46 (dk_at dksX4_forgers_5 5 rfl rfl)
theorem dX4_forgers_123 : decode cX4_forgers 123 = .ok (.ishl, 1) := dk_120 (dk_at dksX4_forgers_5 6 rfl rfl)
theorem dX4_forgers_124 : decode cX4_forgers 124 = .ok (.iconst 1, 1) := dk_4 (dk_at dksX4_forgers_5 7 rfl rfl)
theorem dX4_forgers_125 : decode cX4_forgers 125 = .ok (.isub, 1) := dk_100 (dk_at dksX4_forgers_5 8 rfl rfl)
theorem dX4_forgers_126 : decode cX4_forgers 126 = .ok (.iload_n 3, 1) := dk_29 (dk_at dksX4_forgers_5 9 rfl rfl)
theorem dX4_forgers_127 : decode cX4_forgers 127 = .ok (.iconst (-1), 1) := dk_2 (dk_at dksX4_forgers_5 10 rfl rfl)
theorem dX4_forgers_128 : decode cX4_forgers 128 = .ok (.ixor, 1) := dk_130 (dk_at dksX4_forgers_5 11 rfl rfl)
theorem dX4_forgers_129 : decode cX4_forgers 129 = .ok (.iand, 1) := dk_126 (dk_at dksX4_forgers_5 12 rfl rfl)
theorem dX4_forgers_130 : decode cX4_forgers 130 = .ok (.ireturn, 1) := dk_172 (dk_at dksX4_forgers_5 13 rfl rfl)
abbrev cX4_isTried : ByteArray := prog_20_method_117_code
def yX4_isTried : MethodName := ⟨RX4, "isTried", "(I)Z"⟩
def dkwX4_isTried_4 : List UInt8 := [167, 0, 4, 3, 159, 0, 5, 3, 172, 132, 2, 1, 167, 255, 151, 4, 172]
abbrev dktX4_isTried_4 : List UInt8 := dkwX4_isTried_4 ++ []
def dkwX4_isTried_3 : List UInt8 := [3, 54, 5, 21, 5, 42, 180, 0, 39, 16, 86, 6, 28, 104, 96, 5, 96, 46, 4, 160, 0, 7, 4]
abbrev dktX4_isTried_3 : List UInt8 := dkwX4_isTried_3 ++ dktX4_isTried_4
def dkwX4_isTried_2 : List UInt8 := [27, 21, 4, 184, 0, 215, 154, 0, 14, 42, 29, 21, 4, 182, 1, 55, 5, 160, 0, 7, 4, 167, 0, 4]
abbrev dktX4_isTried_2 : List UInt8 := dkwX4_isTried_2 ++ dktX4_isTried_3
def dkwX4_isTried_1 : List UInt8 := [62, 42, 180, 0, 39, 16, 86, 6, 28, 104, 96, 4, 96, 46, 54, 4, 27, 29, 184, 0, 215, 154, 0, 23]
abbrev dktX4_isTried_1 : List UInt8 := dkwX4_isTried_1 ++ dktX4_isTried_2
def dkwX4_isTried_0 : List UInt8 := [3, 61, 28, 42, 180, 0, 39, 16, 122, 46, 162, 0, 100, 42, 180, 0, 39, 16, 86, 6, 28, 104, 96, 46]
abbrev dktX4_isTried_0 : List UInt8 := dkwX4_isTried_0 ++ dktX4_isTried_1
theorem dksX4_isTried_0 : cX4_isTried.data.toList.drop 0 = dktX4_isTried_0 := by decide +kernel
theorem dksX4_isTried_1 : cX4_isTried.data.toList.drop 24 = dktX4_isTried_1 := dk_seg dksX4_isTried_0 24 rfl rfl
theorem dksX4_isTried_2 : cX4_isTried.data.toList.drop 48 = dktX4_isTried_2 := dk_seg dksX4_isTried_1 24 rfl rfl
theorem dksX4_isTried_3 : cX4_isTried.data.toList.drop 72 = dktX4_isTried_3 := dk_seg dksX4_isTried_2 24 rfl rfl
theorem dksX4_isTried_4 : cX4_isTried.data.toList.drop 95 = dktX4_isTried_4 := dk_seg dksX4_isTried_3 23 rfl rfl
theorem dX4_isTried_0 : decode cX4_isTried 0 = .ok (.iconst 0, 1) := dk_3 (dk_at dksX4_isTried_0 0 rfl rfl)
theorem dX4_isTried_1 : decode cX4_isTried 1 = .ok (.istore_n 2, 1) := dk_61 (dk_at dksX4_isTried_0 1 rfl rfl)
theorem dX4_isTried_2 : decode cX4_isTried 2 = .ok (.iload_n 2, 1) := dk_28 (dk_at dksX4_isTried_0 2 rfl rfl)
theorem dX4_isTried_3 : decode cX4_isTried 3 = .ok (.aload_n 0, 1) := dk_42 (dk_at dksX4_isTried_0 3 rfl rfl)
theorem dX4_isTried_4 : decode cX4_isTried 4 = .ok (.getfield 39, 3) := dk_180 0 39 (dk_at dksX4_isTried_0 4 rfl rfl)
theorem dX4_isTried_7 : decode cX4_isTried 7 = .ok (.bipush 122, 2) := dk_16 122 (dk_at dksX4_isTried_0 7 rfl rfl)
theorem dX4_isTried_9 : decode cX4_isTried 9 = .ok (.iaload, 1) := dk_46 (dk_at dksX4_isTried_0 9 rfl rfl)
theorem dX4_isTried_10 : decode cX4_isTried 10 = .ok (.if_icmp .ge 100, 3) := dk_162 0 100 (dk_at dksX4_isTried_0 10 rfl rfl)
theorem dX4_isTried_13 : decode cX4_isTried 13 = .ok (.aload_n 0, 1) := dk_42 (dk_at dksX4_isTried_0 13 rfl rfl)
theorem dX4_isTried_14 : decode cX4_isTried 14 = .ok (.getfield 39, 3) := dk_180 0 39 (dk_at dksX4_isTried_0 14 rfl rfl)
theorem dX4_isTried_17 : decode cX4_isTried 17 = .ok (.bipush 86, 2) := dk_16 86 (dk_at dksX4_isTried_0 17 rfl rfl)
theorem dX4_isTried_19 : decode cX4_isTried 19 = .ok (.iconst 3, 1) := dk_6 (dk_at dksX4_isTried_0 19 rfl rfl)
theorem dX4_isTried_20 : decode cX4_isTried 20 = .ok (.iload_n 2, 1) := dk_28 (dk_at dksX4_isTried_0 20 rfl rfl)
theorem dX4_isTried_21 : decode cX4_isTried 21 = .ok (.imul, 1) := dk_104 (dk_at dksX4_isTried_0 21 rfl rfl)
theorem dX4_isTried_22 : decode cX4_isTried 22 = .ok (.iadd, 1) := dk_96 (dk_at dksX4_isTried_0 22 rfl rfl)
theorem dX4_isTried_23 : decode cX4_isTried 23 = .ok (.iaload, 1) := dk_46 (dk_at dksX4_isTried_0 23 rfl rfl)
theorem dX4_isTried_24 : decode cX4_isTried 24 = .ok (.istore_n 3, 1) := dk_62 (dk_at dksX4_isTried_1 0 rfl rfl)
theorem dX4_isTried_25 : decode cX4_isTried 25 = .ok (.aload_n 0, 1) := dk_42 (dk_at dksX4_isTried_1 1 rfl rfl)
theorem dX4_isTried_26 : decode cX4_isTried 26 = .ok (.getfield 39, 3) := dk_180 0 39 (dk_at dksX4_isTried_1 2 rfl rfl)
theorem dX4_isTried_29 : decode cX4_isTried 29 = .ok (.bipush 86, 2) := dk_16 86 (dk_at dksX4_isTried_1 5 rfl rfl)
theorem dX4_isTried_31 : decode cX4_isTried 31 = .ok (.iconst 3, 1) := dk_6 (dk_at dksX4_isTried_1 7 rfl rfl)
theorem dX4_isTried_32 : decode cX4_isTried 32 = .ok (.iload_n 2, 1) := dk_28 (dk_at dksX4_isTried_1 8 rfl rfl)
theorem dX4_isTried_33 : decode cX4_isTried 33 = .ok (.imul, 1) := dk_104 (dk_at dksX4_isTried_1 9 rfl rfl)
theorem dX4_isTried_34 : decode cX4_isTried 34 = .ok (.iadd, 1) := dk_96 (dk_at dksX4_isTried_1 10 rfl rfl)
theorem dX4_isTried_35 : decode cX4_isTried 35 = .ok (.iconst 1, 1) := dk_4 (dk_at dksX4_isTried_1 11 rfl rfl)
theorem dX4_isTried_36 : decode cX4_isTried 36 = .ok (.iadd, 1) := dk_96 (dk_at dksX4_isTried_1 12 rfl rfl)
theorem dX4_isTried_37 : decode cX4_isTried 37 = .ok (.iaload, 1) := dk_46 (dk_at dksX4_isTried_1 13 rfl rfl)
theorem dX4_isTried_38 : decode cX4_isTried 38 = .ok (.istore 4, 2) := dk_54 4 (dk_at dksX4_isTried_1 14 rfl rfl)
theorem dX4_isTried_40 : decode cX4_isTried 40 = .ok (.iload_n 1, 1) := dk_27 (dk_at dksX4_isTried_1 16 rfl rfl)
theorem dX4_isTried_41 : decode cX4_isTried 41 = .ok (.iload_n 3, 1) := dk_29 (dk_at dksX4_isTried_1 17 rfl rfl)
theorem dX4_isTried_42 : decode cX4_isTried 42 = .ok (.invokestatic 215, 3) := dk_184 0 215 (dk_at dksX4_isTried_1 18 rfl rfl)
theorem dX4_isTried_45 : decode cX4_isTried 45 = .ok (.ifCond .ne 23, 3) := dk_154 0 23 (dk_at dksX4_isTried_1 21 rfl rfl)
theorem dX4_isTried_48 : decode cX4_isTried 48 = .ok (.iload_n 1, 1) := dk_27 (dk_at dksX4_isTried_2 0 rfl rfl)
theorem dX4_isTried_49 : decode cX4_isTried 49 = .ok (.iload 4, 2) := dk_21 4 (dk_at dksX4_isTried_2 1 rfl rfl)
theorem dX4_isTried_51 : decode cX4_isTried 51 = .ok (.invokestatic 215, 3) := dk_184 0 215 (dk_at dksX4_isTried_2 3 rfl rfl)
theorem dX4_isTried_54 : decode cX4_isTried 54 = .ok (.ifCond .ne 14, 3) := dk_154 0 14 (dk_at dksX4_isTried_2 6 rfl rfl)
theorem dX4_isTried_57 : decode cX4_isTried 57 = .ok (.aload_n 0, 1) := dk_42 (dk_at dksX4_isTried_2 9 rfl rfl)
theorem dX4_isTried_58 : decode cX4_isTried 58 = .ok (.iload_n 3, 1) := dk_29 (dk_at dksX4_isTried_2 10 rfl rfl)
theorem dX4_isTried_59 : decode cX4_isTried 59 = .ok (.iload 4, 2) := dk_21 4 (dk_at dksX4_isTried_2 11 rfl rfl)
theorem dX4_isTried_61 : decode cX4_isTried 61 = .ok (.invokevirtual 311, 3) := dk_182 1 55 (dk_at dksX4_isTried_2 13 rfl rfl)
theorem dX4_isTried_64 : decode cX4_isTried 64 = .ok (.iconst 2, 1) := dk_5 (dk_at dksX4_isTried_2 16 rfl rfl)
theorem dX4_isTried_65 : decode cX4_isTried 65 = .ok (.if_icmp .ne 7, 3) := dk_160 0 7 (dk_at dksX4_isTried_2 17 rfl rfl)
theorem dX4_isTried_68 : decode cX4_isTried 68 = .ok (.iconst 1, 1) := dk_4 (dk_at dksX4_isTried_2 20 rfl rfl)
theorem dX4_isTried_69 : decode cX4_isTried 69 = .ok (.goto 4, 3) := dk_167 0 4 (dk_at dksX4_isTried_2 21 rfl rfl)
theorem dX4_isTried_72 : decode cX4_isTried 72 = .ok (.iconst 0, 1) := dk_3 (dk_at dksX4_isTried_3 0 rfl rfl)
theorem dX4_isTried_73 : decode cX4_isTried 73 = .ok (.istore 5, 2) := dk_54 5 (dk_at dksX4_isTried_3 1 rfl rfl)
theorem dX4_isTried_75 : decode cX4_isTried 75 = .ok (.iload 5, 2) := dk_21 5 (dk_at dksX4_isTried_3 3 rfl rfl)
theorem dX4_isTried_77 : decode cX4_isTried 77 = .ok (.aload_n 0, 1) := dk_42 (dk_at dksX4_isTried_3 5 rfl rfl)
theorem dX4_isTried_78 : decode cX4_isTried 78 = .ok (.getfield 39, 3) := dk_180 0 39 (dk_at dksX4_isTried_3 6 rfl rfl)
theorem dX4_isTried_81 : decode cX4_isTried 81 = .ok (.bipush 86, 2) := dk_16 86 (dk_at dksX4_isTried_3 9 rfl rfl)
theorem dX4_isTried_83 : decode cX4_isTried 83 = .ok (.iconst 3, 1) := dk_6 (dk_at dksX4_isTried_3 11 rfl rfl)
theorem dX4_isTried_84 : decode cX4_isTried 84 = .ok (.iload_n 2, 1) := dk_28 (dk_at dksX4_isTried_3 12 rfl rfl)
theorem dX4_isTried_85 : decode cX4_isTried 85 = .ok (.imul, 1) := dk_104 (dk_at dksX4_isTried_3 13 rfl rfl)
theorem dX4_isTried_86 : decode cX4_isTried 86 = .ok (.iadd, 1) := dk_96 (dk_at dksX4_isTried_3 14 rfl rfl)
theorem dX4_isTried_87 : decode cX4_isTried 87 = .ok (.iconst 2, 1) := dk_5 (dk_at dksX4_isTried_3 15 rfl rfl)
theorem dX4_isTried_88 : decode cX4_isTried 88 = .ok (.iadd, 1) := dk_96 (dk_at dksX4_isTried_3 16 rfl rfl)
theorem dX4_isTried_89 : decode cX4_isTried 89 = .ok (.iaload, 1) := dk_46 (dk_at dksX4_isTried_3 17 rfl rfl)
theorem dX4_isTried_90 : decode cX4_isTried 90 = .ok (.iconst 1, 1) := dk_4 (dk_at dksX4_isTried_3 18 rfl rfl)
theorem dX4_isTried_91 : decode cX4_isTried 91 = .ok (.if_icmp .ne 7, 3) := dk_160 0 7 (dk_at dksX4_isTried_3 19 rfl rfl)
theorem dX4_isTried_94 : decode cX4_isTried 94 = .ok (.iconst 1, 1) := dk_4 (dk_at dksX4_isTried_3 22 rfl rfl)
theorem dX4_isTried_95 : decode cX4_isTried 95 = .ok (.goto 4, 3) := dk_167 0 4 (dk_at dksX4_isTried_4 0 rfl rfl)
theorem dX4_isTried_98 : decode cX4_isTried 98 = .ok (.iconst 0, 1) := dk_3 (dk_at dksX4_isTried_4 3 rfl rfl)
theorem dX4_isTried_99 : decode cX4_isTried 99 = .ok (.if_icmp .eq 5, 3) := dk_159 0 5 (dk_at dksX4_isTried_4 4 rfl rfl)
theorem dX4_isTried_102 : decode cX4_isTried 102 = .ok (.iconst 0, 1) := dk_3 (dk_at dksX4_isTried_4 7 rfl rfl)
theorem dX4_isTried_103 : decode cX4_isTried 103 = .ok (.ireturn, 1) := dk_172 (dk_at dksX4_isTried_4 8 rfl rfl)
theorem dX4_isTried_104 : decode cX4_isTried 104 = .ok (.iinc 2 1, 3) := dk_132 2 1 (dk_at dksX4_isTried_4 9 rfl rfl)
theorem dX4_isTried_107 : decode cX4_isTried 107 = .ok (.goto (-105), 3) := dk_167 255 151 (dk_at dksX4_isTried_4 12 rfl rfl)
theorem dX4_isTried_110 : decode cX4_isTried 110 = .ok (.iconst 1, 1) := dk_4 (dk_at dksX4_isTried_4 15 rfl rfl)
theorem dX4_isTried_111 : decode cX4_isTried 111 = .ok (.ireturn, 1) := dk_172 (dk_at dksX4_isTried_4 16 rfl rfl)
abbrev cX4_seed : ByteArray := prog_20_method_119_code
def yX4_seed : MethodName := ⟨RX4, "seed", "(I)I"⟩
def dkwX4_seed_0 : List UInt8 := [27, 156, 0, 5, 2, 172, 42, 180, 1, 223, 61, 42, 27, 181, 1, 223, 28, 172]
abbrev dktX4_seed_0 : List UInt8 := dkwX4_seed_0 ++ []
theorem dksX4_seed_0 : cX4_seed.data.toList.drop 0 = dktX4_seed_0 := by decide +kernel
theorem dX4_seed_0 : decode cX4_seed 0 = .ok (.iload_n 1, 1) := dk_27 (dk_at dksX4_seed_0 0 rfl rfl)
theorem dX4_seed_1 : decode cX4_seed 1 = .ok (.ifCond .ge 5, 3) := dk_156 0 5 (dk_at dksX4_seed_0 1 rfl rfl)
theorem dX4_seed_4 : decode cX4_seed 4 = .ok (.iconst (-1), 1) := dk_2 (dk_at dksX4_seed_0 4 rfl rfl)
theorem dX4_seed_5 : decode cX4_seed 5 = .ok (.ireturn, 1) := dk_172 (dk_at dksX4_seed_0 5 rfl rfl)
theorem dX4_seed_6 : decode cX4_seed 6 = .ok (.aload_n 0, 1) := dk_42 (dk_at dksX4_seed_0 6 rfl rfl)
theorem dX4_seed_7 : decode cX4_seed 7 = .ok (.getfield 479, 3) := dk_180 1 223 (dk_at dksX4_seed_0 7 rfl rfl)
theorem dX4_seed_10 : decode cX4_seed 10 = .ok (.istore_n 2, 1) := dk_61 (dk_at dksX4_seed_0 10 rfl rfl)
theorem dX4_seed_11 : decode cX4_seed 11 = .ok (.aload_n 0, 1) := dk_42 (dk_at dksX4_seed_0 11 rfl rfl)
theorem dX4_seed_12 : decode cX4_seed 12 = .ok (.iload_n 1, 1) := dk_27 (dk_at dksX4_seed_0 12 rfl rfl)
theorem dX4_seed_13 : decode cX4_seed 13 = .ok (.putfield 479, 3) := dk_181 1 223 (dk_at dksX4_seed_0 13 rfl rfl)
theorem dX4_seed_16 : decode cX4_seed 16 = .ok (.iload_n 2, 1) := dk_28 (dk_at dksX4_seed_0 16 rfl rfl)
theorem dX4_seed_17 : decode cX4_seed 17 = .ok (.ireturn, 1) := dk_172 (dk_at dksX4_seed_0 17 rfl rfl)
abbrev cX4_fairs : ByteArray := prog_20_method_122_code
def yX4_fairs : MethodName := ⟨RX4, "fairs", "(IIII)I"⟩
def dkwX4_fairs_7 : List UInt8 := [180, 1, 148, 167, 0, 5, 21, 5, 172]
abbrev dktX4_fairs_7 : List UInt8 := dkwX4_fairs_7 ++ []
def dkwX4_fairs_6 : List UInt8 := [132, 8, 1, 167, 255, 226, 42, 182, 1, 207, 132, 7, 1, 167, 255, 185, 21, 4, 154, 0, 10, 42]
abbrev dktX4_fairs_6 : List UInt8 := dkwX4_fairs_6 ++ dktX4_fairs_7
def dkwX4_fairs_5 : List UInt8 := [180, 0, 39, 5, 46, 162, 0, 25, 21, 5, 42, 180, 0, 42, 42, 21, 8, 182, 1, 90, 46, 96, 54, 5]
abbrev dktX4_fairs_5 : List UInt8 := dkwX4_fairs_5 ++ dktX4_fairs_6
def dkwX4_fairs_4 : List UInt8 := [21, 6, 162, 0, 15, 42, 27, 29, 182, 1, 245, 132, 8, 1, 167, 255, 240, 3, 54, 8, 21, 8, 42]
abbrev dktX4_fairs_4 : List UInt8 := dkwX4_fairs_4 ++ dktX4_fairs_5
def dkwX4_fairs_3 : List UInt8 := [182, 1, 210, 54, 6, 42, 182, 1, 213, 3, 54, 7, 21, 7, 28, 162, 0, 71, 3, 54, 8, 21, 8]
abbrev dktX4_fairs_3 : List UInt8 := dkwX4_fairs_3 ++ dktX4_fairs_4
def dkwX4_fairs_2 : List UInt8 := [154, 0, 5, 2, 172, 42, 42, 180, 1, 223, 133, 181, 1, 226, 42, 3, 181, 1, 148, 3, 54, 5, 42]
abbrev dktX4_fairs_2 : List UInt8 := dkwX4_fairs_2 ++ dktX4_fairs_3
def dkwX4_fairs_1 : List UInt8 := [153, 0, 26, 29, 133, 9, 20, 1, 243, 184, 0, 109, 153, 0, 14, 21, 4, 133, 9, 10, 184, 0, 109]
abbrev dktX4_fairs_1 : List UInt8 := dkwX4_fairs_1 ++ dktX4_fairs_2
def dkwX4_fairs_0 : List UInt8 := [42, 182, 1, 73, 153, 0, 46, 42, 27, 182, 1, 157, 153, 0, 38, 28, 133, 10, 20, 1, 241, 184, 0, 109]
abbrev dktX4_fairs_0 : List UInt8 := dkwX4_fairs_0 ++ dktX4_fairs_1
theorem dksX4_fairs_0 : cX4_fairs.data.toList.drop 0 = dktX4_fairs_0 := by decide +kernel
theorem dksX4_fairs_1 : cX4_fairs.data.toList.drop 24 = dktX4_fairs_1 := dk_seg dksX4_fairs_0 24 rfl rfl
theorem dksX4_fairs_2 : cX4_fairs.data.toList.drop 47 = dktX4_fairs_2 := dk_seg dksX4_fairs_1 23 rfl rfl
theorem dksX4_fairs_3 : cX4_fairs.data.toList.drop 70 = dktX4_fairs_3 := dk_seg dksX4_fairs_2 23 rfl rfl
theorem dksX4_fairs_4 : cX4_fairs.data.toList.drop 93 = dktX4_fairs_4 := dk_seg dksX4_fairs_3 23 rfl rfl
theorem dksX4_fairs_5 : cX4_fairs.data.toList.drop 116 = dktX4_fairs_5 := dk_seg dksX4_fairs_4 23 rfl rfl
theorem dksX4_fairs_6 : cX4_fairs.data.toList.drop 140 = dktX4_fairs_6 := dk_seg dksX4_fairs_5 24 rfl rfl
theorem dksX4_fairs_7 : cX4_fairs.data.toList.drop 162 = dktX4_fairs_7 := dk_seg dksX4_fairs_6 22 rfl rfl
theorem dX4_fairs_0 : decode cX4_fairs 0 = .ok (.aload_n 0, 1) := dk_42 (dk_at dksX4_fairs_0 0 rfl rfl)
theorem dX4_fairs_1 : decode cX4_fairs 1 = .ok (.invokevirtual 329, 3) := dk_182 1 73 (dk_at dksX4_fairs_0 1 rfl rfl)
theorem dX4_fairs_4 : decode cX4_fairs 4 = .ok (.ifCond .eq 46, 3) := dk_153 0 46 (dk_at dksX4_fairs_0 4 rfl rfl)
theorem dX4_fairs_7 : decode cX4_fairs 7 = .ok (.aload_n 0, 1) := dk_42 (dk_at dksX4_fairs_0 7 rfl rfl)
theorem dX4_fairs_8 : decode cX4_fairs 8 = .ok (.iload_n 1, 1) := dk_27 (dk_at dksX4_fairs_0 8 rfl rfl)
theorem dX4_fairs_9 : decode cX4_fairs 9 = .ok (.invokevirtual 413, 3) := dk_182 1 157 (dk_at dksX4_fairs_0 9 rfl rfl)
theorem dX4_fairs_12 : decode cX4_fairs 12 = .ok (.ifCond .eq 38, 3) := dk_153 0 38 (dk_at dksX4_fairs_0 12 rfl rfl)
theorem dX4_fairs_15 : decode cX4_fairs 15 = .ok (.iload_n 2, 1) := dk_28 (dk_at dksX4_fairs_0 15 rfl rfl)
theorem dX4_fairs_16 : decode cX4_fairs 16 = .ok (.i2l, 1) := dk_133 (dk_at dksX4_fairs_0 16 rfl rfl)
theorem dX4_fairs_17 : decode cX4_fairs 17 = .ok (.lconst 1, 1) := dk_10 (dk_at dksX4_fairs_0 17 rfl rfl)
theorem dX4_fairs_18 : decode cX4_fairs 18 = .ok (.ldc2_w 497, 3) := dk_20 1 241 (dk_at dksX4_fairs_0 18 rfl rfl)
theorem dX4_fairs_21 : decode cX4_fairs 21 = .ok (.invokestatic 109, 3) := dk_184 0 109 (dk_at dksX4_fairs_0 21 rfl rfl)
theorem dX4_fairs_24 : decode cX4_fairs 24 = .ok (.ifCond .eq 26, 3) := dk_153 0 26 (dk_at dksX4_fairs_1 0 rfl rfl)
theorem dX4_fairs_27 : decode cX4_fairs 27 = .ok (.iload_n 3, 1) := dk_29 (dk_at dksX4_fairs_1 3 rfl rfl)
theorem dX4_fairs_28 : decode cX4_fairs 28 = .ok (.i2l, 1) := dk_133 (dk_at dksX4_fairs_1 4 rfl rfl)
theorem dX4_fairs_29 : decode cX4_fairs 29 = .ok (.lconst 0, 1) := dk_9 (dk_at dksX4_fairs_1 5 rfl rfl)
theorem dX4_fairs_30 : decode cX4_fairs 30 = .ok (.ldc2_w 499, 3) := dk_20 1 243 (dk_at dksX4_fairs_1 6 rfl rfl)
theorem dX4_fairs_33 : decode cX4_fairs 33 = .ok (.invokestatic 109, 3) := dk_184 0 109 (dk_at dksX4_fairs_1 9 rfl rfl)
theorem dX4_fairs_36 : decode cX4_fairs 36 = .ok (.ifCond .eq 14, 3) := dk_153 0 14 (dk_at dksX4_fairs_1 12 rfl rfl)
theorem dX4_fairs_39 : decode cX4_fairs 39 = .ok (.iload 4, 2) := dk_21 4 (dk_at dksX4_fairs_1 15 rfl rfl)
theorem dX4_fairs_41 : decode cX4_fairs 41 = .ok (.i2l, 1) := dk_133 (dk_at dksX4_fairs_1 17 rfl rfl)
theorem dX4_fairs_42 : decode cX4_fairs 42 = .ok (.lconst 0, 1) := dk_9 (dk_at dksX4_fairs_1 18 rfl rfl)
theorem dX4_fairs_43 : decode cX4_fairs 43 = .ok (.lconst 1, 1) := dk_10 (dk_at dksX4_fairs_1 19 rfl rfl)
theorem dX4_fairs_44 : decode cX4_fairs 44 = .ok (.invokestatic 109, 3) := dk_184 0 109 (dk_at dksX4_fairs_1 20 rfl rfl)
theorem dX4_fairs_47 : decode cX4_fairs 47 = .ok (.ifCond .ne 5, 3) := dk_154 0 5 (dk_at dksX4_fairs_2 0 rfl rfl)
theorem dX4_fairs_50 : decode cX4_fairs 50 = .ok (.iconst (-1), 1) := dk_2 (dk_at dksX4_fairs_2 3 rfl rfl)
theorem dX4_fairs_51 : decode cX4_fairs 51 = .ok (.ireturn, 1) := dk_172 (dk_at dksX4_fairs_2 4 rfl rfl)
theorem dX4_fairs_52 : decode cX4_fairs 52 = .ok (.aload_n 0, 1) := dk_42 (dk_at dksX4_fairs_2 5 rfl rfl)
theorem dX4_fairs_53 : decode cX4_fairs 53 = .ok (.aload_n 0, 1) := dk_42 (dk_at dksX4_fairs_2 6 rfl rfl)
theorem dX4_fairs_54 : decode cX4_fairs 54 = .ok (.getfield 479, 3) := dk_180 1 223 (dk_at dksX4_fairs_2 7 rfl rfl)
theorem dX4_fairs_57 : decode cX4_fairs 57 = .ok (.i2l, 1) := dk_133 (dk_at dksX4_fairs_2 10 rfl rfl)
theorem dX4_fairs_58 : decode cX4_fairs 58 = .ok (.putfield 482, 3) := dk_181 1 226 (dk_at dksX4_fairs_2 11 rfl rfl)
theorem dX4_fairs_61 : decode cX4_fairs 61 = .ok (.aload_n 0, 1) := dk_42 (dk_at dksX4_fairs_2 14 rfl rfl)
theorem dX4_fairs_62 : decode cX4_fairs 62 = .ok (.iconst 0, 1) := dk_3 (dk_at dksX4_fairs_2 15 rfl rfl)
theorem dX4_fairs_63 : decode cX4_fairs 63 = .ok (.putfield 404, 3) := dk_181 1 148 (dk_at dksX4_fairs_2 16 rfl rfl)
theorem dX4_fairs_66 : decode cX4_fairs 66 = .ok (.iconst 0, 1) := dk_3 (dk_at dksX4_fairs_2 19 rfl rfl)
theorem dX4_fairs_67 : decode cX4_fairs 67 = .ok (.istore 5, 2) := dk_54 5 (dk_at dksX4_fairs_2 20 rfl rfl)
theorem dX4_fairs_69 : decode cX4_fairs 69 = .ok (.aload_n 0, 1) := dk_42 (dk_at dksX4_fairs_2 22 rfl rfl)
theorem dX4_fairs_70 : decode cX4_fairs 70 = .ok (.invokevirtual 466, 3) := dk_182 1 210 (dk_at dksX4_fairs_3 0 rfl rfl)
theorem dX4_fairs_73 : decode cX4_fairs 73 = .ok (.istore 6, 2) := dk_54 6 (dk_at dksX4_fairs_3 3 rfl rfl)
theorem dX4_fairs_75 : decode cX4_fairs 75 = .ok (.aload_n 0, 1) := dk_42 (dk_at dksX4_fairs_3 5 rfl rfl)
theorem dX4_fairs_76 : decode cX4_fairs 76 = .ok (.invokevirtual 469, 3) := dk_182 1 213 (dk_at dksX4_fairs_3 6 rfl rfl)
theorem dX4_fairs_79 : decode cX4_fairs 79 = .ok (.iconst 0, 1) := dk_3 (dk_at dksX4_fairs_3 9 rfl rfl)
theorem dX4_fairs_80 : decode cX4_fairs 80 = .ok (.istore 7, 2) := dk_54 7 (dk_at dksX4_fairs_3 10 rfl rfl)
theorem dX4_fairs_82 : decode cX4_fairs 82 = .ok (.iload 7, 2) := dk_21 7 (dk_at dksX4_fairs_3 12 rfl rfl)
theorem dX4_fairs_84 : decode cX4_fairs 84 = .ok (.iload_n 2, 1) := dk_28 (dk_at dksX4_fairs_3 14 rfl rfl)
theorem dX4_fairs_85 : decode cX4_fairs 85 = .ok (.if_icmp .ge 71, 3) := dk_162 0 71 (dk_at dksX4_fairs_3 15 rfl rfl)
theorem dX4_fairs_88 : decode cX4_fairs 88 = .ok (.iconst 0, 1) := dk_3 (dk_at dksX4_fairs_3 18 rfl rfl)
theorem dX4_fairs_89 : decode cX4_fairs 89 = .ok (.istore 8, 2) := dk_54 8 (dk_at dksX4_fairs_3 19 rfl rfl)
theorem dX4_fairs_91 : decode cX4_fairs 91 = .ok (.iload 8, 2) := dk_21 8 (dk_at dksX4_fairs_3 21 rfl rfl)
theorem dX4_fairs_93 : decode cX4_fairs 93 = .ok (.iload 6, 2) := dk_21 6 (dk_at dksX4_fairs_4 0 rfl rfl)
theorem dX4_fairs_95 : decode cX4_fairs 95 = .ok (.if_icmp .ge 15, 3) := dk_162 0 15 (dk_at dksX4_fairs_4 2 rfl rfl)
theorem dX4_fairs_98 : decode cX4_fairs 98 = .ok (.aload_n 0, 1) := dk_42 (dk_at dksX4_fairs_4 5 rfl rfl)
theorem dX4_fairs_99 : decode cX4_fairs 99 = .ok (.iload_n 1, 1) := dk_27 (dk_at dksX4_fairs_4 6 rfl rfl)
theorem dX4_fairs_100 : decode cX4_fairs 100 = .ok (.iload_n 3, 1) := dk_29 (dk_at dksX4_fairs_4 7 rfl rfl)
theorem dX4_fairs_101 : decode cX4_fairs 101 = .ok (.invokevirtual 501, 3) := dk_182 1 245 (dk_at dksX4_fairs_4 8 rfl rfl)
theorem dX4_fairs_104 : decode cX4_fairs 104 = .ok (.iinc 8 1, 3) := dk_132 8 1 (dk_at dksX4_fairs_4 11 rfl rfl)
theorem dX4_fairs_107 : decode cX4_fairs 107 = .ok (.goto (-16), 3) := dk_167 255 240 (dk_at dksX4_fairs_4 14 rfl rfl)
theorem dX4_fairs_110 : decode cX4_fairs 110 = .ok (.iconst 0, 1) := dk_3 (dk_at dksX4_fairs_4 17 rfl rfl)
theorem dX4_fairs_111 : decode cX4_fairs 111 = .ok (.istore 8, 2) := dk_54 8 (dk_at dksX4_fairs_4 18 rfl rfl)
theorem dX4_fairs_113 : decode cX4_fairs 113 = .ok (.iload 8, 2) := dk_21 8 (dk_at dksX4_fairs_4 20 rfl rfl)
theorem dX4_fairs_115 : decode cX4_fairs 115 = .ok (.aload_n 0, 1) := dk_42 (dk_at dksX4_fairs_4 22 rfl rfl)
theorem dX4_fairs_116 : decode cX4_fairs 116 = .ok (.getfield 39, 3) := dk_180 0 39 (dk_at dksX4_fairs_5 0 rfl rfl)
theorem dX4_fairs_119 : decode cX4_fairs 119 = .ok (.iconst 2, 1) := dk_5 (dk_at dksX4_fairs_5 3 rfl rfl)
theorem dX4_fairs_120 : decode cX4_fairs 120 = .ok (.iaload, 1) := dk_46 (dk_at dksX4_fairs_5 4 rfl rfl)
theorem dX4_fairs_121 : decode cX4_fairs 121 = .ok (.if_icmp .ge 25, 3) := dk_162 0 25 (dk_at dksX4_fairs_5 5 rfl rfl)
theorem dX4_fairs_124 : decode cX4_fairs 124 = .ok (.iload 5, 2) := dk_21 5 (dk_at dksX4_fairs_5 8 rfl rfl)
theorem dX4_fairs_126 : decode cX4_fairs 126 = .ok (.aload_n 0, 1) := dk_42 (dk_at dksX4_fairs_5 10 rfl rfl)
theorem dX4_fairs_127 : decode cX4_fairs 127 = .ok (.getfield 42, 3) := dk_180 0 42 (dk_at dksX4_fairs_5 11 rfl rfl)
theorem dX4_fairs_130 : decode cX4_fairs 130 = .ok (.aload_n 0, 1) := dk_42 (dk_at dksX4_fairs_5 14 rfl rfl)
theorem dX4_fairs_131 : decode cX4_fairs 131 = .ok (.iload 8, 2) := dk_21 8 (dk_at dksX4_fairs_5 15 rfl rfl)
theorem dX4_fairs_133 : decode cX4_fairs 133 = .ok (.invokevirtual 346, 3) := dk_182 1 90 (dk_at dksX4_fairs_5 17 rfl rfl)
theorem dX4_fairs_136 : decode cX4_fairs 136 = .ok (.iaload, 1) := dk_46 (dk_at dksX4_fairs_5 20 rfl rfl)
theorem dX4_fairs_137 : decode cX4_fairs 137 = .ok (.iadd, 1) := dk_96 (dk_at dksX4_fairs_5 21 rfl rfl)
theorem dX4_fairs_138 : decode cX4_fairs 138 = .ok (.istore 5, 2) := dk_54 5 (dk_at dksX4_fairs_5 22 rfl rfl)
theorem dX4_fairs_140 : decode cX4_fairs 140 = .ok (.iinc 8 1, 3) := dk_132 8 1 (dk_at dksX4_fairs_6 0 rfl rfl)
theorem dX4_fairs_143 : decode cX4_fairs 143 = .ok (.goto (-30), 3) := dk_167 255 226 (dk_at dksX4_fairs_6 3 rfl rfl)
theorem dX4_fairs_146 : decode cX4_fairs 146 = .ok (.aload_n 0, 1) := dk_42 (dk_at dksX4_fairs_6 6 rfl rfl)
theorem dX4_fairs_147 : decode cX4_fairs 147 = .ok (.invokevirtual 463, 3) := dk_182 1 207 (dk_at dksX4_fairs_6 7 rfl rfl)
theorem dX4_fairs_150 : decode cX4_fairs 150 = .ok (.iinc 7 1, 3) := dk_132 7 1 (dk_at dksX4_fairs_6 10 rfl rfl)
theorem dX4_fairs_153 : decode cX4_fairs 153 = .ok (.goto (-71), 3) := dk_167 255 185 (dk_at dksX4_fairs_6 13 rfl rfl)
theorem dX4_fairs_156 : decode cX4_fairs 156 = .ok (.iload 4, 2) := dk_21 4 (dk_at dksX4_fairs_6 16 rfl rfl)
theorem dX4_fairs_158 : decode cX4_fairs 158 = .ok (.ifCond .ne 10, 3) := dk_154 0 10 (dk_at dksX4_fairs_6 18 rfl rfl)
theorem dX4_fairs_161 : decode cX4_fairs 161 = .ok (.aload_n 0, 1) := dk_42 (dk_at dksX4_fairs_6 21 rfl rfl)
theorem dX4_fairs_162 : decode cX4_fairs 162 = .ok (.getfield 404, 3) := dk_180 1 148 (dk_at dksX4_fairs_7 0 rfl rfl)
theorem dX4_fairs_165 : decode cX4_fairs 165 = .ok (.goto 5, 3) := dk_167 0 5 (dk_at dksX4_fairs_7 3 rfl rfl)
theorem dX4_fairs_168 : decode cX4_fairs 168 = .ok (.iload 5, 2) := dk_21 5 (dk_at dksX4_fairs_7 6 rfl rfl)
theorem dX4_fairs_170 : decode cX4_fairs 170 = .ok (.ireturn, 1) := dk_172 (dk_at dksX4_fairs_7 8 rfl rfl)
abbrev cX4_drawsHour : ByteArray := prog_20_method_121_code
def yX4_drawsHour : MethodName := ⟨RX4, "drawsHour", "(II)V"⟩
def dkwX4_drawsHour_3 : List UInt8 := [182, 1, 103, 132, 3, 1, 167, 255, 181, 42, 182, 1, 106, 177]
abbrev dktX4_drawsHour_3 : List UInt8 := dkwX4_drawsHour_3 ++ []
def dkwX4_drawsHour_2 : List UInt8 := [42, 27, 29, 182, 1, 151, 42, 29, 21, 4, 153, 0, 8, 21, 5, 167, 0, 9, 42, 27, 29, 182, 1, 154]
abbrev dktX4_drawsHour_2 : List UInt8 := dkwX4_drawsHour_2 ++ dktX4_drawsHour_3
def dkwX4_drawsHour_1 : List UInt8 := [167, 0, 4, 3, 54, 4, 21, 4, 153, 0, 13, 42, 6, 182, 1, 238, 4, 100, 167, 0, 4, 3, 54, 5]
abbrev dktX4_drawsHour_1 : List UInt8 := dkwX4_drawsHour_1 ++ dktX4_drawsHour_2
def dkwX4_drawsHour_0 : List UInt8 := [3, 62, 29, 42, 180, 0, 39, 5, 46, 162, 0, 71, 42, 16, 100, 182, 1, 238, 28, 162, 0, 7, 4]
abbrev dktX4_drawsHour_0 : List UInt8 := dkwX4_drawsHour_0 ++ dktX4_drawsHour_1
theorem dksX4_drawsHour_0 : cX4_drawsHour.data.toList.drop 0 = dktX4_drawsHour_0 := by decide +kernel
theorem dksX4_drawsHour_1 : cX4_drawsHour.data.toList.drop 23 = dktX4_drawsHour_1 := dk_seg dksX4_drawsHour_0 23 rfl rfl
theorem dksX4_drawsHour_2 : cX4_drawsHour.data.toList.drop 47 = dktX4_drawsHour_2 := dk_seg dksX4_drawsHour_1 24 rfl rfl
theorem dksX4_drawsHour_3 : cX4_drawsHour.data.toList.drop 71 = dktX4_drawsHour_3 := dk_seg dksX4_drawsHour_2 24 rfl rfl
theorem dX4_drawsHour_0 : decode cX4_drawsHour 0 = .ok (.iconst 0, 1) := dk_3 (dk_at dksX4_drawsHour_0 0 rfl rfl)
theorem dX4_drawsHour_1 : decode cX4_drawsHour 1 = .ok (.istore_n 3, 1) := dk_62 (dk_at dksX4_drawsHour_0 1 rfl rfl)
theorem dX4_drawsHour_2 : decode cX4_drawsHour 2 = .ok (.iload_n 3, 1) := dk_29 (dk_at dksX4_drawsHour_0 2 rfl rfl)
theorem dX4_drawsHour_3 : decode cX4_drawsHour 3 = .ok (.aload_n 0, 1) := dk_42 (dk_at dksX4_drawsHour_0 3 rfl rfl)
theorem dX4_drawsHour_4 : decode cX4_drawsHour 4 = .ok (.getfield 39, 3) := dk_180 0 39 (dk_at dksX4_drawsHour_0 4 rfl rfl)
theorem dX4_drawsHour_7 : decode cX4_drawsHour 7 = .ok (.iconst 2, 1) := dk_5 (dk_at dksX4_drawsHour_0 7 rfl rfl)
theorem dX4_drawsHour_8 : decode cX4_drawsHour 8 = .ok (.iaload, 1) := dk_46 (dk_at dksX4_drawsHour_0 8 rfl rfl)
theorem dX4_drawsHour_9 : decode cX4_drawsHour 9 = .ok (.if_icmp .ge 71, 3) := dk_162 0 71 (dk_at dksX4_drawsHour_0 9 rfl rfl)
theorem dX4_drawsHour_12 : decode cX4_drawsHour 12 = .ok (.aload_n 0, 1) := dk_42 (dk_at dksX4_drawsHour_0 12 rfl rfl)
theorem dX4_drawsHour_13 : decode cX4_drawsHour 13 = .ok (.bipush 100, 2) := dk_16 100 (dk_at dksX4_drawsHour_0 13 rfl rfl)
theorem dX4_drawsHour_15 : decode cX4_drawsHour 15 = .ok (.invokevirtual 494, 3) := dk_182 1 238 (dk_at dksX4_drawsHour_0 15 rfl rfl)
theorem dX4_drawsHour_18 : decode cX4_drawsHour 18 = .ok (.iload_n 2, 1) := dk_28 (dk_at dksX4_drawsHour_0 18 rfl rfl)
theorem dX4_drawsHour_19 : decode cX4_drawsHour 19 = .ok (.if_icmp .ge 7, 3) := dk_162 0 7 (dk_at dksX4_drawsHour_0 19 rfl rfl)
theorem dX4_drawsHour_22 : decode cX4_drawsHour 22 = .ok (.iconst 1, 1) := dk_4 (dk_at dksX4_drawsHour_0 22 rfl rfl)
theorem dX4_drawsHour_23 : decode cX4_drawsHour 23 = .ok (.goto 4, 3) := dk_167 0 4 (dk_at dksX4_drawsHour_1 0 rfl rfl)
theorem dX4_drawsHour_26 : decode cX4_drawsHour 26 = .ok (.iconst 0, 1) := dk_3 (dk_at dksX4_drawsHour_1 3 rfl rfl)
theorem dX4_drawsHour_27 : decode cX4_drawsHour 27 = .ok (.istore 4, 2) := dk_54 4 (dk_at dksX4_drawsHour_1 4 rfl rfl)
theorem dX4_drawsHour_29 : decode cX4_drawsHour 29 = .ok (.iload 4, 2) := dk_21 4 (dk_at dksX4_drawsHour_1 6 rfl rfl)
theorem dX4_drawsHour_31 : decode cX4_drawsHour 31 = .ok (.ifCond .eq 13, 3) := dk_153 0 13 (dk_at dksX4_drawsHour_1 8 rfl rfl)
theorem dX4_drawsHour_34 : decode cX4_drawsHour 34 = .ok (.aload_n 0, 1) := dk_42 (dk_at dksX4_drawsHour_1 11 rfl rfl)
theorem dX4_drawsHour_35 : decode cX4_drawsHour 35 = .ok (.iconst 3, 1) := dk_6 (dk_at dksX4_drawsHour_1 12 rfl rfl)
theorem dX4_drawsHour_36 : decode cX4_drawsHour 36 = .ok (.invokevirtual 494, 3) := dk_182 1 238 (dk_at dksX4_drawsHour_1 13 rfl rfl)
theorem dX4_drawsHour_39 : decode cX4_drawsHour 39 = .ok (.iconst 1, 1) := dk_4 (dk_at dksX4_drawsHour_1 16 rfl rfl)
theorem dX4_drawsHour_40 : decode cX4_drawsHour 40 = .ok (.isub, 1) := dk_100 (dk_at dksX4_drawsHour_1 17 rfl rfl)
theorem dX4_drawsHour_41 : decode cX4_drawsHour 41 = .ok (.goto 4, 3) := dk_167 0 4 (dk_at dksX4_drawsHour_1 18 rfl rfl)
theorem dX4_drawsHour_44 : decode cX4_drawsHour 44 = .ok (.iconst 0, 1) := dk_3 (dk_at dksX4_drawsHour_1 21 rfl rfl)
theorem dX4_drawsHour_45 : decode cX4_drawsHour 45 = .ok (.istore 5, 2) := dk_54 5 (dk_at dksX4_drawsHour_1 22 rfl rfl)
theorem dX4_drawsHour_47 : decode cX4_drawsHour 47 = .ok (.aload_n 0, 1) := dk_42 (dk_at dksX4_drawsHour_2 0 rfl rfl)
theorem dX4_drawsHour_48 : decode cX4_drawsHour 48 = .ok (.iload_n 1, 1) := dk_27 (dk_at dksX4_drawsHour_2 1 rfl rfl)
theorem dX4_drawsHour_49 : decode cX4_drawsHour 49 = .ok (.iload_n 3, 1) := dk_29 (dk_at dksX4_drawsHour_2 2 rfl rfl)
theorem dX4_drawsHour_50 : decode cX4_drawsHour 50 = .ok (.invokevirtual 407, 3) := dk_182 1 151 (dk_at dksX4_drawsHour_2 3 rfl rfl)
theorem dX4_drawsHour_53 : decode cX4_drawsHour 53 = .ok (.aload_n 0, 1) := dk_42 (dk_at dksX4_drawsHour_2 6 rfl rfl)
theorem dX4_drawsHour_54 : decode cX4_drawsHour 54 = .ok (.iload_n 3, 1) := dk_29 (dk_at dksX4_drawsHour_2 7 rfl rfl)
theorem dX4_drawsHour_55 : decode cX4_drawsHour 55 = .ok (.iload 4, 2) := dk_21 4 (dk_at dksX4_drawsHour_2 8 rfl rfl)
theorem dX4_drawsHour_57 : decode cX4_drawsHour 57 = .ok (.ifCond .eq 8, 3) := dk_153 0 8 (dk_at dksX4_drawsHour_2 10 rfl rfl)
theorem dX4_drawsHour_60 : decode cX4_drawsHour 60 = .ok (.iload 5, 2) := dk_21 5 (dk_at dksX4_drawsHour_2 13 rfl rfl)
theorem dX4_drawsHour_62 : decode cX4_drawsHour 62 = .ok (.goto 9, 3) := dk_167 0 9 (dk_at dksX4_drawsHour_2 15 rfl rfl)
theorem dX4_drawsHour_65 : decode cX4_drawsHour 65 = .ok (.aload_n 0, 1) := dk_42 (dk_at dksX4_drawsHour_2 18 rfl rfl)
theorem dX4_drawsHour_66 : decode cX4_drawsHour 66 = .ok (.iload_n 1, 1) := dk_27 (dk_at dksX4_drawsHour_2 19 rfl rfl)
theorem dX4_drawsHour_67 : decode cX4_drawsHour 67 = .ok (.iload_n 3, 1) := dk_29 (dk_at dksX4_drawsHour_2 20 rfl rfl)
theorem dX4_drawsHour_68 : decode cX4_drawsHour 68 = .ok (.invokevirtual 410, 3) := dk_182 1 154 (dk_at dksX4_drawsHour_2 21 rfl rfl)
theorem dX4_drawsHour_71 : decode cX4_drawsHour 71 = .ok (.invokevirtual 359, 3) := dk_182 1 103 (dk_at dksX4_drawsHour_3 0 rfl rfl)
theorem dX4_drawsHour_74 : decode cX4_drawsHour 74 = .ok (.iinc 3 1, 3) := dk_132 3 1 (dk_at dksX4_drawsHour_3 3 rfl rfl)
theorem dX4_drawsHour_77 : decode cX4_drawsHour 77 = .ok (.goto (-75), 3) := dk_167 255 181 (dk_at dksX4_drawsHour_3 6 rfl rfl)
theorem dX4_drawsHour_80 : decode cX4_drawsHour 80 = .ok (.aload_n 0, 1) := dk_42 (dk_at dksX4_drawsHour_3 9 rfl rfl)
theorem dX4_drawsHour_81 : decode cX4_drawsHour 81 = .ok (.invokevirtual 362, 3) := dk_182 1 106 (dk_at dksX4_drawsHour_3 10 rfl rfl)
theorem dX4_drawsHour_84 : decode cX4_drawsHour 84 = .ok (.return_, 1) := dk_177 (dk_at dksX4_drawsHour_3 13 rfl rfl)
abbrev cX4_draw : ByteArray := prog_20_method_120_code
def yX4_draw : MethodName := ⟨RX4, "draw", "(I)I"⟩
def dkwX4_draw_1 : List UInt8 := [20, 1, 236, 109, 27, 133, 113, 136, 172]
abbrev dktX4_draw_1 : List UInt8 := dkwX4_draw_1 ++ []
def dkwX4_draw_0 : List UInt8 := [42, 42, 180, 1, 226, 20, 1, 230, 105, 20, 1, 232, 97, 20, 1, 234, 113, 181, 1, 226, 42, 180, 1, 226]
abbrev dktX4_draw_0 : List UInt8 := dkwX4_draw_0 ++ dktX4_draw_1
theorem dksX4_draw_0 : cX4_draw.data.toList.drop 0 = dktX4_draw_0 := by decide +kernel
theorem dksX4_draw_1 : cX4_draw.data.toList.drop 24 = dktX4_draw_1 := dk_seg dksX4_draw_0 24 rfl rfl
theorem dX4_draw_0 : decode cX4_draw 0 = .ok (.aload_n 0, 1) := dk_42 (dk_at dksX4_draw_0 0 rfl rfl)
theorem dX4_draw_1 : decode cX4_draw 1 = .ok (.aload_n 0, 1) := dk_42 (dk_at dksX4_draw_0 1 rfl rfl)
theorem dX4_draw_2 : decode cX4_draw 2 = .ok (.getfield 482, 3) := dk_180 1 226 (dk_at dksX4_draw_0 2 rfl rfl)
theorem dX4_draw_5 : decode cX4_draw 5 = .ok (.ldc2_w 486, 3) := dk_20 1 230 (dk_at dksX4_draw_0 5 rfl rfl)
theorem dX4_draw_8 : decode cX4_draw 8 = .ok (.lmul, 1) := dk_105 (dk_at dksX4_draw_0 8 rfl rfl)
theorem dX4_draw_9 : decode cX4_draw 9 = .ok (.ldc2_w 488, 3) := dk_20 1 232 (dk_at dksX4_draw_0 9 rfl rfl)
theorem dX4_draw_12 : decode cX4_draw 12 = .ok (.ladd, 1) := dk_97 (dk_at dksX4_draw_0 12 rfl rfl)
theorem dX4_draw_13 : decode cX4_draw 13 = .ok (.ldc2_w 490, 3) := dk_20 1 234 (dk_at dksX4_draw_0 13 rfl rfl)
theorem dX4_draw_16 : decode cX4_draw 16 = .ok (.lrem, 1) := dk_113 (dk_at dksX4_draw_0 16 rfl rfl)
theorem dX4_draw_17 : decode cX4_draw 17 = .ok (.putfield 482, 3) := dk_181 1 226 (dk_at dksX4_draw_0 17 rfl rfl)
theorem dX4_draw_20 : decode cX4_draw 20 = .ok (.aload_n 0, 1) := dk_42 (dk_at dksX4_draw_0 20 rfl rfl)
theorem dX4_draw_21 : decode cX4_draw 21 = .ok (.getfield 482, 3) := dk_180 1 226 (dk_at dksX4_draw_0 21 rfl rfl)
theorem dX4_draw_24 : decode cX4_draw 24 = .ok (.ldc2_w 492, 3) := dk_20 1 236 (dk_at dksX4_draw_1 0 rfl rfl)
theorem dX4_draw_27 : decode cX4_draw 27 = .ok (.ldiv, 1) := dk_109 (dk_at dksX4_draw_1 3 rfl rfl)
theorem dX4_draw_28 : decode cX4_draw 28 = .ok (.iload_n 1, 1) := dk_27 (dk_at dksX4_draw_1 4 rfl rfl)
theorem dX4_draw_29 : decode cX4_draw 29 = .ok (.i2l, 1) := dk_133 (dk_at dksX4_draw_1 5 rfl rfl)
theorem dX4_draw_30 : decode cX4_draw 30 = .ok (.lrem, 1) := dk_113 (dk_at dksX4_draw_1 6 rfl rfl)
theorem dX4_draw_31 : decode cX4_draw 31 = .ok (.l2i, 1) := dk_136 (dk_at dksX4_draw_1 7 rfl rfl)
theorem dX4_draw_32 : decode cX4_draw 32 = .ok (.ireturn, 1) := dk_172 (dk_at dksX4_draw_1 8 rfl rfl)
abbrev cX4_count : ByteArray := prog_20_method_123_code
def yX4_count : MethodName := ⟨RX4, "count", "(I)I"⟩
def dkwX4_count_5 : List UInt8 := [172, 42, 180, 1, 18, 172, 42, 180, 1, 223, 172, 42, 180, 0, 70, 172, 2, 172]
abbrev dktX4_count_5 : List UInt8 := dkwX4_count_5 ++ []
def dkwX4_count_4 : List UInt8 := [46, 42, 180, 0, 39, 6, 46, 100, 172, 42, 182, 1, 131, 184, 1, 118, 172, 42, 180, 0, 39, 16, 122, 46]
abbrev dktX4_count_4 : List UInt8 := dkwX4_count_4 ++ dktX4_count_5
def dkwX4_count_3 : List UInt8 := [154, 0, 7, 2, 167, 0, 28, 42, 182, 1, 42, 153, 0, 7, 3, 167, 0, 17, 42, 180, 0, 39, 16, 6]
abbrev dktX4_count_3 : List UInt8 := dkwX4_count_3 ++ dktX4_count_4
def dkwX4_count_2 : List UInt8 := [42, 180, 0, 39, 27, 46, 172, 42, 180, 1, 12, 172, 42, 180, 0, 39, 6, 46, 172, 42, 182, 1, 73]
abbrev dktX4_count_2 : List UInt8 := dkwX4_count_2 ++ dktX4_count_3
def dkwX4_count_1 : List UInt8 := [170, 0, 0, 0, 0, 0, 146, 0, 0, 0, 0, 0, 0, 0, 10, 0, 0, 0, 59, 0, 0, 0, 59, 0, 0, 0, 59, 0, 0, 0, 66, 0, 0, 0, 71, 0, 0, 0, 78, 0, 0, 0, 115, 0, 0, 0, 123, 0, 0, 0, 131, 0, 0, 0, 136, 0, 0, 0, 141]
abbrev dktX4_count_1 : List UInt8 := dkwX4_count_1 ++ dktX4_count_2
def dkwX4_count_0 : List UInt8 := [27]
abbrev dktX4_count_0 : List UInt8 := dkwX4_count_0 ++ dktX4_count_1
theorem dksX4_count_0 : cX4_count.data.toList.drop 0 = dktX4_count_0 := by decide +kernel
theorem dksX4_count_1 : cX4_count.data.toList.drop 1 = dktX4_count_1 := dk_seg dksX4_count_0 1 rfl rfl
theorem dksX4_count_2 : cX4_count.data.toList.drop 60 = dktX4_count_2 := dk_seg dksX4_count_1 59 rfl rfl
theorem dksX4_count_3 : cX4_count.data.toList.drop 83 = dktX4_count_3 := dk_seg dksX4_count_2 23 rfl rfl
theorem dksX4_count_4 : cX4_count.data.toList.drop 107 = dktX4_count_4 := dk_seg dksX4_count_3 24 rfl rfl
theorem dksX4_count_5 : cX4_count.data.toList.drop 131 = dktX4_count_5 := dk_seg dksX4_count_4 24 rfl rfl
theorem dX4_count_0 : decode cX4_count 0 = .ok (.iload_n 1, 1) := dk_27 (dk_at dksX4_count_0 0 rfl rfl)
theorem dX4_count_1 : decode cX4_count 1 = .ok (.tableswitch 146 0 10 #[59, 59, 59, 66, 71, 78, 115, 123, 131, 136, 141], 59) := by decide +kernel
theorem dX4_count_60 : decode cX4_count 60 = .ok (.aload_n 0, 1) := dk_42 (dk_at dksX4_count_2 0 rfl rfl)
theorem dX4_count_61 : decode cX4_count 61 = .ok (.getfield 39, 3) := dk_180 0 39 (dk_at dksX4_count_2 1 rfl rfl)
theorem dX4_count_64 : decode cX4_count 64 = .ok (.iload_n 1, 1) := dk_27 (dk_at dksX4_count_2 4 rfl rfl)
theorem dX4_count_65 : decode cX4_count 65 = .ok (.iaload, 1) := dk_46 (dk_at dksX4_count_2 5 rfl rfl)
theorem dX4_count_66 : decode cX4_count 66 = .ok (.ireturn, 1) := dk_172 (dk_at dksX4_count_2 6 rfl rfl)
theorem dX4_count_67 : decode cX4_count 67 = .ok (.aload_n 0, 1) := dk_42 (dk_at dksX4_count_2 7 rfl rfl)
theorem dX4_count_68 : decode cX4_count 68 = .ok (.getfield 268, 3) := dk_180 1 12 (dk_at dksX4_count_2 8 rfl rfl)
theorem dX4_count_71 : decode cX4_count 71 = .ok (.ireturn, 1) := dk_172 (dk_at dksX4_count_2 11 rfl rfl)
theorem dX4_count_72 : decode cX4_count 72 = .ok (.aload_n 0, 1) := dk_42 (dk_at dksX4_count_2 12 rfl rfl)
theorem dX4_count_73 : decode cX4_count 73 = .ok (.getfield 39, 3) := dk_180 0 39 (dk_at dksX4_count_2 13 rfl rfl)
theorem dX4_count_76 : decode cX4_count 76 = .ok (.iconst 3, 1) := dk_6 (dk_at dksX4_count_2 16 rfl rfl)
theorem dX4_count_77 : decode cX4_count 77 = .ok (.iaload, 1) := dk_46 (dk_at dksX4_count_2 17 rfl rfl)
theorem dX4_count_78 : decode cX4_count 78 = .ok (.ireturn, 1) := dk_172 (dk_at dksX4_count_2 18 rfl rfl)
theorem dX4_count_79 : decode cX4_count 79 = .ok (.aload_n 0, 1) := dk_42 (dk_at dksX4_count_2 19 rfl rfl)
theorem dX4_count_80 : decode cX4_count 80 = .ok (.invokevirtual 329, 3) := dk_182 1 73 (dk_at dksX4_count_2 20 rfl rfl)
theorem dX4_count_83 : decode cX4_count 83 = .ok (.ifCond .ne 7, 3) := dk_154 0 7 (dk_at dksX4_count_3 0 rfl rfl)
theorem dX4_count_86 : decode cX4_count 86 = .ok (.iconst (-1), 1) := dk_2 (dk_at dksX4_count_3 3 rfl rfl)
theorem dX4_count_87 : decode cX4_count 87 = .ok (.goto 28, 3) := dk_167 0 28 (dk_at dksX4_count_3 4 rfl rfl)
theorem dX4_count_90 : decode cX4_count 90 = .ok (.aload_n 0, 1) := dk_42 (dk_at dksX4_count_3 7 rfl rfl)
theorem dX4_count_91 : decode cX4_count 91 = .ok (.invokevirtual 298, 3) := dk_182 1 42 (dk_at dksX4_count_3 8 rfl rfl)
theorem dX4_count_94 : decode cX4_count 94 = .ok (.ifCond .eq 7, 3) := dk_153 0 7 (dk_at dksX4_count_3 11 rfl rfl)
theorem dX4_count_97 : decode cX4_count 97 = .ok (.iconst 0, 1) := dk_3 (dk_at dksX4_count_3 14 rfl rfl)
theorem dX4_count_98 : decode cX4_count 98 = .ok (.goto 17, 3) := dk_167 0 17 (dk_at dksX4_count_3 15 rfl rfl)
theorem dX4_count_101 : decode cX4_count 101 = .ok (.aload_n 0, 1) := dk_42 (dk_at dksX4_count_3 18 rfl rfl)
theorem dX4_count_102 : decode cX4_count 102 = .ok (.getfield 39, 3) := dk_180 0 39 (dk_at dksX4_count_3 19 rfl rfl)
theorem dX4_count_105 : decode cX4_count 105 = .ok (.bipush 6, 2) := dk_16 6 (dk_at dksX4_count_3 22 rfl rfl)
theorem dX4_count_107 : decode cX4_count 107 = .ok (.iaload, 1) := dk_46 (dk_at dksX4_count_4 0 rfl rfl)
theorem dX4_count_108 : decode cX4_count 108 = .ok (.aload_n 0, 1) := dk_42 (dk_at dksX4_count_4 1 rfl rfl)
theorem dX4_count_109 : decode cX4_count 109 = .ok (.getfield 39, 3) := dk_180 0 39 (dk_at dksX4_count_4 2 rfl rfl)
theorem dX4_count_112 : decode cX4_count 112 = .ok (.iconst 3, 1) := dk_6 (dk_at dksX4_count_4 5 rfl rfl)
theorem dX4_count_113 : decode cX4_count 113 = .ok (.iaload, 1) := dk_46 (dk_at dksX4_count_4 6 rfl rfl)
theorem dX4_count_114 : decode cX4_count 114 = .ok (.isub, 1) := dk_100 (dk_at dksX4_count_4 7 rfl rfl)
theorem dX4_count_115 : decode cX4_count 115 = .ok (.ireturn, 1) := dk_172 (dk_at dksX4_count_4 8 rfl rfl)
theorem dX4_count_116 : decode cX4_count 116 = .ok (.aload_n 0, 1) := dk_42 (dk_at dksX4_count_4 9 rfl rfl)
theorem dX4_count_117 : decode cX4_count 117 = .ok (.invokevirtual 387, 3) := dk_182 1 131 (dk_at dksX4_count_4 10 rfl rfl)
theorem dX4_count_120 : decode cX4_count 120 = .ok (.invokestatic 374, 3) := dk_184 1 118 (dk_at dksX4_count_4 13 rfl rfl)
theorem dX4_count_123 : decode cX4_count 123 = .ok (.ireturn, 1) := dk_172 (dk_at dksX4_count_4 16 rfl rfl)
theorem dX4_count_124 : decode cX4_count 124 = .ok (.aload_n 0, 1) := dk_42 (dk_at dksX4_count_4 17 rfl rfl)
theorem dX4_count_125 : decode cX4_count 125 = .ok (.getfield 39, 3) := dk_180 0 39 (dk_at dksX4_count_4 18 rfl rfl)
theorem dX4_count_128 : decode cX4_count 128 = .ok (.bipush 122, 2) := dk_16 122 (dk_at dksX4_count_4 21 rfl rfl)
theorem dX4_count_130 : decode cX4_count 130 = .ok (.iaload, 1) := dk_46 (dk_at dksX4_count_4 23 rfl rfl)
theorem dX4_count_131 : decode cX4_count 131 = .ok (.ireturn, 1) := dk_172 (dk_at dksX4_count_5 0 rfl rfl)
theorem dX4_count_132 : decode cX4_count 132 = .ok (.aload_n 0, 1) := dk_42 (dk_at dksX4_count_5 1 rfl rfl)
theorem dX4_count_133 : decode cX4_count 133 = .ok (.getfield 274, 3) := dk_180 1 18 (dk_at dksX4_count_5 2 rfl rfl)
theorem dX4_count_136 : decode cX4_count 136 = .ok (.ireturn, 1) := dk_172 (dk_at dksX4_count_5 5 rfl rfl)
theorem dX4_count_137 : decode cX4_count 137 = .ok (.aload_n 0, 1) := dk_42 (dk_at dksX4_count_5 6 rfl rfl)
theorem dX4_count_138 : decode cX4_count 138 = .ok (.getfield 479, 3) := dk_180 1 223 (dk_at dksX4_count_5 7 rfl rfl)
theorem dX4_count_141 : decode cX4_count 141 = .ok (.ireturn, 1) := dk_172 (dk_at dksX4_count_5 10 rfl rfl)
theorem dX4_count_142 : decode cX4_count 142 = .ok (.aload_n 0, 1) := dk_42 (dk_at dksX4_count_5 11 rfl rfl)
theorem dX4_count_143 : decode cX4_count 143 = .ok (.getfield 70, 3) := dk_180 0 70 (dk_at dksX4_count_5 12 rfl rfl)
theorem dX4_count_146 : decode cX4_count 146 = .ok (.ireturn, 1) := dk_172 (dk_at dksX4_count_5 15 rfl rfl)
theorem dX4_count_147 : decode cX4_count 147 = .ok (.iconst (-1), 1) := dk_2 (dk_at dksX4_count_5 16 rfl rfl)
theorem dX4_count_148 : decode cX4_count 148 = .ok (.ireturn, 1) := dk_172 (dk_at dksX4_count_5 17 rfl rfl)
abbrev cX4_image : ByteArray := prog_20_method_124_code
def yX4_image : MethodName := ⟨RX4, "image", "(I)I"⟩
def dkwX4_image_2 : List UInt8 := [104, 28, 96, 42, 180, 0, 39, 28, 46, 79, 132, 2, 1, 167, 255, 230, 42, 180, 0, 39, 6, 46, 172]
abbrev dktX4_image_2 : List UInt8 := dkwX4_image_2 ++ []
def dkwX4_image_1 : List UInt8 := [180, 0, 63, 27, 42, 180, 1, 223, 79, 3, 61, 28, 16, 123, 162, 0, 26, 42, 180, 0, 60, 16, 123, 27]
abbrev dktX4_image_1 : List UInt8 := dkwX4_image_1 ++ dktX4_image_2
def dkwX4_image_0 : List UInt8 := [27, 133, 9, 20, 1, 248, 184, 0, 109, 154, 0, 5, 2, 172, 42, 180, 0, 66, 27, 4, 84, 42]
abbrev dktX4_image_0 : List UInt8 := dkwX4_image_0 ++ dktX4_image_1
theorem dksX4_image_0 : cX4_image.data.toList.drop 0 = dktX4_image_0 := by decide +kernel
theorem dksX4_image_1 : cX4_image.data.toList.drop 22 = dktX4_image_1 := dk_seg dksX4_image_0 22 rfl rfl
theorem dksX4_image_2 : cX4_image.data.toList.drop 46 = dktX4_image_2 := dk_seg dksX4_image_1 24 rfl rfl
theorem dX4_image_0 : decode cX4_image 0 = .ok (.iload_n 1, 1) := dk_27 (dk_at dksX4_image_0 0 rfl rfl)
theorem dX4_image_1 : decode cX4_image 1 = .ok (.i2l, 1) := dk_133 (dk_at dksX4_image_0 1 rfl rfl)
theorem dX4_image_2 : decode cX4_image 2 = .ok (.lconst 0, 1) := dk_9 (dk_at dksX4_image_0 2 rfl rfl)
theorem dX4_image_3 : decode cX4_image 3 = .ok (.ldc2_w 504, 3) := dk_20 1 248 (dk_at dksX4_image_0 3 rfl rfl)
theorem dX4_image_6 : decode cX4_image 6 = .ok (.invokestatic 109, 3) := dk_184 0 109 (dk_at dksX4_image_0 6 rfl rfl)
theorem dX4_image_9 : decode cX4_image 9 = .ok (.ifCond .ne 5, 3) := dk_154 0 5 (dk_at dksX4_image_0 9 rfl rfl)
theorem dX4_image_12 : decode cX4_image 12 = .ok (.iconst (-1), 1) := dk_2 (dk_at dksX4_image_0 12 rfl rfl)
theorem dX4_image_13 : decode cX4_image 13 = .ok (.ireturn, 1) := dk_172 (dk_at dksX4_image_0 13 rfl rfl)
theorem dX4_image_14 : decode cX4_image 14 = .ok (.aload_n 0, 1) := dk_42 (dk_at dksX4_image_0 14 rfl rfl)
theorem dX4_image_15 : decode cX4_image 15 = .ok (.getfield 66, 3) := dk_180 0 66 (dk_at dksX4_image_0 15 rfl rfl)
theorem dX4_image_18 : decode cX4_image 18 = .ok (.iload_n 1, 1) := dk_27 (dk_at dksX4_image_0 18 rfl rfl)
theorem dX4_image_19 : decode cX4_image 19 = .ok (.iconst 1, 1) := dk_4 (dk_at dksX4_image_0 19 rfl rfl)
theorem dX4_image_20 : decode cX4_image 20 = .ok (.bastore, 1) := dk_84 (dk_at dksX4_image_0 20 rfl rfl)
theorem dX4_image_21 : decode cX4_image 21 = .ok (.aload_n 0, 1) := dk_42 (dk_at dksX4_image_0 21 rfl rfl)
theorem dX4_image_22 : decode cX4_image 22 = .ok (.getfield 63, 3) := dk_180 0 63 (dk_at dksX4_image_1 0 rfl rfl)
theorem dX4_image_25 : decode cX4_image 25 = .ok (.iload_n 1, 1) := dk_27 (dk_at dksX4_image_1 3 rfl rfl)
theorem dX4_image_26 : decode cX4_image 26 = .ok (.aload_n 0, 1) := dk_42 (dk_at dksX4_image_1 4 rfl rfl)
theorem dX4_image_27 : decode cX4_image 27 = .ok (.getfield 479, 3) := dk_180 1 223 (dk_at dksX4_image_1 5 rfl rfl)
theorem dX4_image_30 : decode cX4_image 30 = .ok (.iastore, 1) := dk_79 (dk_at dksX4_image_1 8 rfl rfl)
theorem dX4_image_31 : decode cX4_image 31 = .ok (.iconst 0, 1) := dk_3 (dk_at dksX4_image_1 9 rfl rfl)
theorem dX4_image_32 : decode cX4_image 32 = .ok (.istore_n 2, 1) := dk_61 (dk_at dksX4_image_1 10 rfl rfl)
theorem dX4_image_33 : decode cX4_image 33 = .ok (.iload_n 2, 1) := dk_28 (dk_at dksX4_image_1 11 rfl rfl)
theorem dX4_image_34 : decode cX4_image 34 = .ok (.bipush 123, 2) := dk_16 123 (dk_at dksX4_image_1 12 rfl rfl)
theorem dX4_image_36 : decode cX4_image 36 = .ok (.if_icmp .ge 26, 3) := dk_162 0 26 (dk_at dksX4_image_1 14 rfl rfl)
theorem dX4_image_39 : decode cX4_image 39 = .ok (.aload_n 0, 1) := dk_42 (dk_at dksX4_image_1 17 rfl rfl)
theorem dX4_image_40 : decode cX4_image 40 = .ok (.getfield 60, 3) := dk_180 0 60 (dk_at dksX4_image_1 18 rfl rfl)
theorem dX4_image_43 : decode cX4_image 43 = .ok (.bipush 123, 2) := dk_16 123 (dk_at dksX4_image_1 21 rfl rfl)
theorem dX4_image_45 : decode cX4_image 45 = .ok (.iload_n 1, 1) := dk_27 (dk_at dksX4_image_1 23 rfl rfl)
theorem dX4_image_46 : decode cX4_image 46 = .ok (.imul, 1) := dk_104 (dk_at dksX4_image_2 0 rfl rfl)
theorem dX4_image_47 : decode cX4_image 47 = .ok (.iload_n 2, 1) := dk_28 (dk_at dksX4_image_2 1 rfl rfl)
theorem dX4_image_48 : decode cX4_image 48 = .ok (.iadd, 1) := dk_96 (dk_at dksX4_image_2 2 rfl rfl)
theorem dX4_image_49 : decode cX4_image 49 = .ok (.aload_n 0, 1) := dk_42 (dk_at dksX4_image_2 3 rfl rfl)
theorem dX4_image_50 : decode cX4_image 50 = .ok (.getfield 39, 3) := dk_180 0 39 (dk_at dksX4_image_2 4 rfl rfl)
theorem dX4_image_53 : decode cX4_image 53 = .ok (.iload_n 2, 1) := dk_28 (dk_at dksX4_image_2 7 rfl rfl)
theorem dX4_image_54 : decode cX4_image 54 = .ok (.iaload, 1) := dk_46 (dk_at dksX4_image_2 8 rfl rfl)
theorem dX4_image_55 : decode cX4_image 55 = .ok (.iastore, 1) := dk_79 (dk_at dksX4_image_2 9 rfl rfl)
theorem dX4_image_56 : decode cX4_image 56 = .ok (.iinc 2 1, 3) := dk_132 2 1 (dk_at dksX4_image_2 10 rfl rfl)
theorem dX4_image_59 : decode cX4_image 59 = .ok (.goto (-26), 3) := dk_167 255 230 (dk_at dksX4_image_2 13 rfl rfl)
theorem dX4_image_62 : decode cX4_image 62 = .ok (.aload_n 0, 1) := dk_42 (dk_at dksX4_image_2 16 rfl rfl)
theorem dX4_image_63 : decode cX4_image 63 = .ok (.getfield 39, 3) := dk_180 0 39 (dk_at dksX4_image_2 17 rfl rfl)
theorem dX4_image_66 : decode cX4_image 66 = .ok (.iconst 3, 1) := dk_6 (dk_at dksX4_image_2 20 rfl rfl)
theorem dX4_image_67 : decode cX4_image 67 = .ok (.iaload, 1) := dk_46 (dk_at dksX4_image_2 21 rfl rfl)
theorem dX4_image_68 : decode cX4_image 68 = .ok (.ireturn, 1) := dk_172 (dk_at dksX4_image_2 22 rfl rfl)
abbrev cX4_back : ByteArray := prog_20_method_125_code
def yX4_back : MethodName := ⟨RX4, "back", "(I)I"⟩
def dkwX4_back_3 : List UInt8 := [182, 1, 24, 42, 180, 0, 39, 6, 46, 172]
abbrev dktX4_back_3 : List UInt8 := dkwX4_back_3 ++ []
def dkwX4_back_2 : List UInt8 := [180, 0, 39, 28, 42, 180, 0, 60, 16, 123, 27, 104, 28, 96, 46, 79, 132, 2, 1, 167, 255, 230, 42]
abbrev dktX4_back_2 : List UInt8 := dkwX4_back_2 ++ dktX4_back_3
def dkwX4_back_1 : List UInt8 := [42, 180, 0, 63, 27, 46, 181, 1, 223, 42, 3, 181, 1, 18, 3, 61, 28, 16, 123, 162, 0, 26, 42]
abbrev dktX4_back_1 : List UInt8 := dkwX4_back_1 ++ dktX4_back_2
def dkwX4_back_0 : List UInt8 := [27, 133, 9, 20, 1, 248, 184, 0, 109, 153, 0, 12, 42, 180, 0, 66, 27, 51, 154, 0, 5, 2, 172, 42]
abbrev dktX4_back_0 : List UInt8 := dkwX4_back_0 ++ dktX4_back_1
theorem dksX4_back_0 : cX4_back.data.toList.drop 0 = dktX4_back_0 := by decide +kernel
theorem dksX4_back_1 : cX4_back.data.toList.drop 24 = dktX4_back_1 := dk_seg dksX4_back_0 24 rfl rfl
theorem dksX4_back_2 : cX4_back.data.toList.drop 47 = dktX4_back_2 := dk_seg dksX4_back_1 23 rfl rfl
theorem dksX4_back_3 : cX4_back.data.toList.drop 70 = dktX4_back_3 := dk_seg dksX4_back_2 23 rfl rfl
theorem dX4_back_0 : decode cX4_back 0 = .ok (.iload_n 1, 1) := dk_27 (dk_at dksX4_back_0 0 rfl rfl)
theorem dX4_back_1 : decode cX4_back 1 = .ok (.i2l, 1) := dk_133 (dk_at dksX4_back_0 1 rfl rfl)
theorem dX4_back_2 : decode cX4_back 2 = .ok (.lconst 0, 1) := dk_9 (dk_at dksX4_back_0 2 rfl rfl)
theorem dX4_back_3 : decode cX4_back 3 = .ok (.ldc2_w 504, 3) := dk_20 1 248 (dk_at dksX4_back_0 3 rfl rfl)
theorem dX4_back_6 : decode cX4_back 6 = .ok (.invokestatic 109, 3) := dk_184 0 109 (dk_at dksX4_back_0 6 rfl rfl)
theorem dX4_back_9 : decode cX4_back 9 = .ok (.ifCond .eq 12, 3) := dk_153 0 12 (dk_at dksX4_back_0 9 rfl rfl)
theorem dX4_back_12 : decode cX4_back 12 = .ok (.aload_n 0, 1) := dk_42 (dk_at dksX4_back_0 12 rfl rfl)
theorem dX4_back_13 : decode cX4_back 13 = .ok (.getfield 66, 3) := dk_180 0 66 (dk_at dksX4_back_0 13 rfl rfl)
theorem dX4_back_16 : decode cX4_back 16 = .ok (.iload_n 1, 1) := dk_27 (dk_at dksX4_back_0 16 rfl rfl)
theorem dX4_back_17 : decode cX4_back 17 = .ok (.baload, 1) := dk_51 (dk_at dksX4_back_0 17 rfl rfl)
theorem dX4_back_18 : decode cX4_back 18 = .ok (.ifCond .ne 5, 3) := dk_154 0 5 (dk_at dksX4_back_0 18 rfl rfl)
theorem dX4_back_21 : decode cX4_back 21 = .ok (.iconst (-1), 1) := dk_2 (dk_at dksX4_back_0 21 rfl rfl)
theorem dX4_back_22 : decode cX4_back 22 = .ok (.ireturn, 1) := dk_172 (dk_at dksX4_back_0 22 rfl rfl)
theorem dX4_back_23 : decode cX4_back 23 = .ok (.aload_n 0, 1) := dk_42 (dk_at dksX4_back_0 23 rfl rfl)
theorem dX4_back_24 : decode cX4_back 24 = .ok (.aload_n 0, 1) := dk_42 (dk_at dksX4_back_1 0 rfl rfl)
theorem dX4_back_25 : decode cX4_back 25 = .ok (.getfield 63, 3) := dk_180 0 63 (dk_at dksX4_back_1 1 rfl rfl)
theorem dX4_back_28 : decode cX4_back 28 = .ok (.iload_n 1, 1) := dk_27 (dk_at dksX4_back_1 4 rfl rfl)
theorem dX4_back_29 : decode cX4_back 29 = .ok (.iaload, 1) := dk_46 (dk_at dksX4_back_1 5 rfl rfl)
theorem dX4_back_30 : decode cX4_back 30 = .ok (.putfield 479, 3) := dk_181 1 223 (dk_at dksX4_back_1 6 rfl rfl)
theorem dX4_back_33 : decode cX4_back 33 = .ok (.aload_n 0, 1) := dk_42 (dk_at dksX4_back_1 9 rfl rfl)
theorem dX4_back_34 : decode cX4_back 34 = .ok (.iconst 0, 1) := dk_3 (dk_at dksX4_back_1 10 rfl rfl)
theorem dX4_back_35 : decode cX4_back 35 = .ok (.putfield 274, 3) := dk_181 1 18 (dk_at dksX4_back_1 11 rfl rfl)
theorem dX4_back_38 : decode cX4_back 38 = .ok (.iconst 0, 1) := dk_3 (dk_at dksX4_back_1 14 rfl rfl)
theorem dX4_back_39 : decode cX4_back 39 = .ok (.istore_n 2, 1) := dk_61 (dk_at dksX4_back_1 15 rfl rfl)
theorem dX4_back_40 : decode cX4_back 40 = .ok (.iload_n 2, 1) := dk_28 (dk_at dksX4_back_1 16 rfl rfl)
theorem dX4_back_41 : decode cX4_back 41 = .ok (.bipush 123, 2) := dk_16 123 (dk_at dksX4_back_1 17 rfl rfl)
theorem dX4_back_43 : decode cX4_back 43 = .ok (.if_icmp .ge 26, 3) := dk_162 0 26 (dk_at dksX4_back_1 19 rfl rfl)
theorem dX4_back_46 : decode cX4_back 46 = .ok (.aload_n 0, 1) := dk_42 (dk_at dksX4_back_1 22 rfl rfl)
theorem dX4_back_47 : decode cX4_back 47 = .ok (.getfield 39, 3) := dk_180 0 39 (dk_at dksX4_back_2 0 rfl rfl)
theorem dX4_back_50 : decode cX4_back 50 = .ok (.iload_n 2, 1) := dk_28 (dk_at dksX4_back_2 3 rfl rfl)
theorem dX4_back_51 : decode cX4_back 51 = .ok (.aload_n 0, 1) := dk_42 (dk_at dksX4_back_2 4 rfl rfl)
theorem dX4_back_52 : decode cX4_back 52 = .ok (.getfield 60, 3) := dk_180 0 60 (dk_at dksX4_back_2 5 rfl rfl)
theorem dX4_back_55 : decode cX4_back 55 = .ok (.bipush 123, 2) := dk_16 123 (dk_at dksX4_back_2 8 rfl rfl)
theorem dX4_back_57 : decode cX4_back 57 = .ok (.iload_n 1, 1) := dk_27 (dk_at dksX4_back_2 10 rfl rfl)
theorem dX4_back_58 : decode cX4_back 58 = .ok (.imul, 1) := dk_104 (dk_at dksX4_back_2 11 rfl rfl)
theorem dX4_back_59 : decode cX4_back 59 = .ok (.iload_n 2, 1) := dk_28 (dk_at dksX4_back_2 12 rfl rfl)
theorem dX4_back_60 : decode cX4_back 60 = .ok (.iadd, 1) := dk_96 (dk_at dksX4_back_2 13 rfl rfl)
theorem dX4_back_61 : decode cX4_back 61 = .ok (.iaload, 1) := dk_46 (dk_at dksX4_back_2 14 rfl rfl)
theorem dX4_back_62 : decode cX4_back 62 = .ok (.iastore, 1) := dk_79 (dk_at dksX4_back_2 15 rfl rfl)
theorem dX4_back_63 : decode cX4_back 63 = .ok (.iinc 2 1, 3) := dk_132 2 1 (dk_at dksX4_back_2 16 rfl rfl)
theorem dX4_back_66 : decode cX4_back 66 = .ok (.goto (-26), 3) := dk_167 255 230 (dk_at dksX4_back_2 19 rfl rfl)
theorem dX4_back_69 : decode cX4_back 69 = .ok (.aload_n 0, 1) := dk_42 (dk_at dksX4_back_2 22 rfl rfl)
theorem dX4_back_70 : decode cX4_back 70 = .ok (.invokevirtual 280, 3) := dk_182 1 24 (dk_at dksX4_back_3 0 rfl rfl)
theorem dX4_back_73 : decode cX4_back 73 = .ok (.aload_n 0, 1) := dk_42 (dk_at dksX4_back_3 3 rfl rfl)
theorem dX4_back_74 : decode cX4_back 74 = .ok (.getfield 39, 3) := dk_180 0 39 (dk_at dksX4_back_3 4 rfl rfl)
theorem dX4_back_77 : decode cX4_back 77 = .ok (.iconst 3, 1) := dk_6 (dk_at dksX4_back_3 7 rfl rfl)
theorem dX4_back_78 : decode cX4_back 78 = .ok (.iaload, 1) := dk_46 (dk_at dksX4_back_3 8 rfl rfl)
theorem dX4_back_79 : decode cX4_back 79 = .ok (.ireturn, 1) := dk_172 (dk_at dksX4_back_3 9 rfl rfl)
