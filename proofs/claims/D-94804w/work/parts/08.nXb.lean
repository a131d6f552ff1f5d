set_option maxRecDepth 100000
abbrev cX0_buysAll : ByteArray := prog_1_method_51_code
def yX0_buysAll : MethodName := ⟨RX0, "buysAll", "(II)V"⟩
def dkwX0_buysAll_6 : List UInt8 := [167, 255, 156, 132, 3, 1, 167, 255, 114, 177]
abbrev dktX0_buysAll_6 : List UInt8 := dkwX0_buysAll_6 ++ []
def dkwX0_buysAll_5 : List UInt8 := [17, 16, 0, 29, 104, 21, 5, 4, 21, 6, 120, 128, 96, 4, 84, 132, 6, 1, 167, 255, 195, 132, 5, 1]
abbrev dktX0_buysAll_5 : List UInt8 := dkwX0_buysAll_5 ++ dktX0_buysAll_6
def dkwX0_buysAll_4 : List UInt8 := [153, 0, 37, 42, 21, 5, 4, 21, 6, 120, 128, 182, 1, 98, 28, 163, 0, 22, 42, 180, 0, 77]
abbrev dktX0_buysAll_4 : List UInt8 := dkwX0_buysAll_4 ++ dktX0_buysAll_5
def dkwX0_buysAll_3 : List UInt8 := [54, 6, 21, 6, 42, 182, 0, 103, 162, 0, 58, 21, 4, 21, 5, 2, 130, 126, 21, 6, 184, 0, 175]
abbrev dktX0_buysAll_3 : List UInt8 := dkwX0_buysAll_3 ++ dktX0_buysAll_4
def dkwX0_buysAll_2 : List UInt8 := [162, 0, 95, 42, 180, 0, 77, 17, 16, 0, 29, 104, 21, 5, 96, 51, 154, 0, 6, 167, 0, 70, 3]
abbrev dktX0_buysAll_2 : List UInt8 := dkwX0_buysAll_2 ++ dktX0_buysAll_3
def dkwX0_buysAll_1 : List UInt8 := [180, 0, 12, 29, 27, 182, 1, 92, 182, 1, 95, 54, 4, 3, 54, 5, 21, 5, 4, 42, 182, 0, 103, 120]
abbrev dktX0_buysAll_1 : List UInt8 := dkwX0_buysAll_1 ++ dktX0_buysAll_2
def dkwX0_buysAll_0 : List UInt8 := [3, 62, 29, 42, 180, 0, 12, 180, 0, 89, 162, 0, 137, 42, 180, 0, 19, 42, 180, 0, 12, 42]
abbrev dktX0_buysAll_0 : List UInt8 := dkwX0_buysAll_0 ++ dktX0_buysAll_1
theorem dksX0_buysAll_0 : cX0_buysAll.data.toList.drop 0 = dktX0_buysAll_0 := by decide +kernel
theorem dksX0_buysAll_1 : cX0_buysAll.data.toList.drop 22 = dktX0_buysAll_1 := dk_seg dksX0_buysAll_0 22 rfl rfl
theorem dksX0_buysAll_2 : cX0_buysAll.data.toList.drop 46 = dktX0_buysAll_2 := dk_seg dksX0_buysAll_1 24 rfl rfl
theorem dksX0_buysAll_3 : cX0_buysAll.data.toList.drop 69 = dktX0_buysAll_3 := dk_seg dksX0_buysAll_2 23 rfl rfl
theorem dksX0_buysAll_4 : cX0_buysAll.data.toList.drop 92 = dktX0_buysAll_4 := dk_seg dksX0_buysAll_3 23 rfl rfl
theorem dksX0_buysAll_5 : cX0_buysAll.data.toList.drop 114 = dktX0_buysAll_5 := dk_seg dksX0_buysAll_4 22 rfl rfl
theorem dksX0_buysAll_6 : cX0_buysAll.data.toList.drop 138 = dktX0_buysAll_6 := dk_seg dksX0_buysAll_5 24 rfl rfl
theorem dX0_buysAll_0 : decode cX0_buysAll 0 = .ok (.iconst 0, 1) := dk_3 (dk_at dksX0_buysAll_0 0 rfl rfl)
theorem dX0_buysAll_1 : decode cX0_buysAll 1 = .ok (.istore_n 3, 1) := dk_62 (dk_at dksX0_buysAll_0 1 rfl rfl)
theorem dX0_buysAll_2 : decode cX0_buysAll 2 = .ok (.iload_n 3, 1) := dk_29 (dk_at dksX0_buysAll_0 2 rfl rfl)
theorem dX0_buysAll_3 : decode cX0_buysAll 3 = .ok (.aload_n 0, 1) := dk_42 (dk_at dksX0_buysAll_0 3 rfl rfl)
theorem dX0_buysAll_4 : decode cX0_buysAll 4 = .ok (.getfield 12, 3) := dk_180 0 12 (dk_at dksX0_buysAll_0 4 rfl rfl)
theorem dX0_buysAll_7 : decode cX0_buysAll 7 = .ok (.getfield 89, 3) := dk_180 0 89 (dk_at dksX0_buysAll_0 7 rfl rfl)
theorem dX0_buysAll_10 : decode cX0_buysAll 10 = .ok (.if_icmp .ge 137, 3) := dk_162 0 137 (dk_at dksX0_buysAll_0 10 rfl rfl)
theorem dX0_buysAll_13 : decode cX0_buysAll 13 = .ok (.aload_n 0, 1) := dk_42 (dk_at dksX0_buysAll_0 13 rfl rfl)
theorem dX0_buysAll_14 : decode cX0_buysAll 14 = .ok (.getfield 19, 3) := dk_180 0 19 (dk_at dksX0_buysAll_0 14 rfl rfl)
theorem dX0_buysAll_17 : decode cX0_buysAll 17 = .ok (.aload_n 0, 1) := dk_42 (dk_at dksX0_buysAll_0 17 rfl rfl)
theorem dX0_buysAll_18 : decode cX0_buysAll 18 = .ok (.getfield 12, 3) := dk_180 0 12 (dk_at dksX0_buysAll_0 18 rfl rfl)
theorem dX0_buysAll_21 : decode cX0_buysAll 21 = .ok (.aload_n 0, 1) := dk_42 (dk_at dksX0_buysAll_0 21 rfl rfl)
theorem dX0_buysAll_22 : decode cX0_buysAll 22 = .ok (.getfield 12, 3) := dk_180 0 12 (dk_at dksX0_buysAll_1 0 rfl rfl)
theorem dX0_buysAll_25 : decode cX0_buysAll 25 = .ok (.iload_n 3, 1) := dk_29 (dk_at dksX0_buysAll_1 3 rfl rfl)
theorem dX0_buysAll_26 : decode cX0_buysAll 26 = .ok (.iload_n 1, 1) := dk_27 (dk_at dksX0_buysAll_1 4 rfl rfl)
theorem dX0_buysAll_27 : decode cX0_buysAll 27 = .ok (.invokevirtual 348, 3) := dk_182 1 92 (dk_at dksX0_buysAll_1 5 rfl rfl)
theorem dX0_buysAll_30 : decode cX0_buysAll 30 = .ok (.invokevirtual 351, 3) := dk_182 1 95 (dk_at dksX0_buysAll_1 8 rfl rfl)
theorem dX0_buysAll_33 : decode cX0_buysAll 33 = .ok (.istore 4, 2) := dk_54 4 (dk_at dksX0_buysAll_1 11 rfl rfl)
theorem dX0_buysAll_35 : decode cX0_buysAll 35 = .ok (.iconst 0, 1) := dk_3 (dk_at dksX0_buysAll_1 13 rfl rfl)
theorem dX0_buysAll_36 : decode cX0_buysAll 36 = .ok (.istore 5, 2) := dk_54 5 (dk_at dksX0_buysAll_1 14 rfl rfl)
theorem dX0_buysAll_38 : decode cX0_buysAll 38 = .ok (.iload 5, 2) := dk_21 5 (dk_at dksX0_buysAll_1 16 rfl rfl)
theorem dX0_buysAll_40 : decode cX0_buysAll 40 = .ok (.iconst 1, 1) := dk_4 (dk_at dksX0_buysAll_1 18 rfl rfl)
theorem dX0_buysAll_41 : decode cX0_buysAll 41 = .ok (.aload_n 0, 1) := dk_42 (dk_at dksX0_buysAll_1 19 rfl rfl)
theorem dX0_buysAll_42 : decode cX0_buysAll 42 = .ok (.invokevirtual 103, 3) := dk_182 0 103 (dk_at dksX0_buysAll_1 20 rfl rfl)
theorem dX0_buysAll_45 : decode cX0_buysAll 45 = .ok (.ishl, 1) := dk_120 (dk_at dksX0_buysAll_1 23 rfl rfl)
theorem dX0_buysAll_46 : decode cX0_buysAll 46 = .ok (.if_icmp .ge 95, 3) := dk_162 0 95 (dk_at dksX0_buysAll_2 0 rfl rfl)
theorem dX0_buysAll_49 : decode cX0_buysAll 49 = .ok (.aload_n 0, 1) := dk_42 (dk_at dksX0_buysAll_2 3 rfl rfl)
theorem dX0_buysAll_50 : decode cX0_buysAll 50 = .ok (.getfield 77, 3) := dk_180 0 77 (dk_at dksX0_buysAll_2 4 rfl rfl)
theorem dX0_buysAll_53 : decode cX0_buysAll 53 = .ok (.sipush 4096, 3) := dk_17 16 0 (dk_at dksX0_buysAll_2 7 rfl rfl)
theorem dX0_buysAll_56 : decode cX0_buysAll 56 = .ok (.iload_n 3, 1) := dk_29 (dk_at dksX0_buysAll_2 10 rfl rfl)
theorem dX0_buysAll_57 : decode cX0_buysAll 57 = .ok (.imul, 1) := dk_104 (dk_at dksX0_buysAll_2 11 rfl rfl)
theorem dX0_buysAll_58 : decode cX0_buysAll 58 = .ok (.iload 5, 2) := dk_21 5 (dk_at dksX0_buysAll_2 12 rfl rfl)
theorem dX0_buysAll_60 : decode cX0_buysAll 60 = .ok (.iadd, 1) := dk_96 (dk_at dksX0_buysAll_2 14 rfl rfl)
theorem dX0_buysAll_61 : decode cX0_buysAll 61 = .ok (.baload, 1) := dk_51 (dk_at dksX0_buysAll_2 15 rfl rfl)
theorem dX0_buysAll_62 : decode cX0_buysAll 62 = .ok (.ifCond .ne 6, 3) := dk_154 0 6 (dk_at dksX0_buysAll_2 16 rfl rfl)
theorem dX0_buysAll_65 : decode cX0_buysAll 65 = .ok (.goto 70, 3) := dk_167 0 70 (dk_at dksX0_buysAll_2 19 rfl rfl)
theorem dX0_buysAll_68 : decode cX0_buysAll 68 = .ok (.iconst 0, 1) := dk_3 (dk_at dksX0_buysAll_2 22 rfl rfl)
theorem dX0_buysAll_69 : decode cX0_buysAll 69 = .ok (.istore 6, 2) := dk_54 6 (dk_at dksX0_buysAll_3 0 rfl rfl)
theorem dX0_buysAll_71 : decode cX0_buysAll 71 = .ok (.iload 6, 2) := dk_21 6 (dk_at dksX0_buysAll_3 2 rfl rfl)
theorem dX0_buysAll_73 : decode cX0_buysAll 73 = .ok (.aload_n 0, 1) := dk_42 (dk_at dksX0_buysAll_3 4 rfl rfl)
theorem dX0_buysAll_74 : decode cX0_buysAll 74 = .ok (.invokevirtual 103, 3) := dk_182 0 103 (dk_at dksX0_buysAll_3 5 rfl rfl)
theorem dX0_buysAll_77 : decode cX0_buysAll 77 = .ok (.if_icmp .ge 58, 3) := dk_162 0 58 (dk_at dksX0_buysAll_3 8 rfl rfl)
theorem dX0_buysAll_80 : decode cX0_buysAll 80 = .ok (.iload 4, 2) := dk_21 4 (dk_at dksX0_buysAll_3 11 rfl rfl)
theorem dX0_buysAll_82 : decode cX0_buysAll 82 = .ok (.iload 5, 2) := dk_21 5 (dk_at dksX0_buysAll_3 13 rfl rfl)
theorem dX0_buysAll_84 : decode cX0_buysAll 84 = .ok (.iconst (-1), 1) := dk_2 (dk_at dksX0_buysAll_3 15 rfl rfl)
theorem dX0_buysAll_85 : decode cX0_buysAll 85 = .ok (.ixor, 1) := dk_130 (dk_at dksX0_buysAll_3 16 rfl rfl)
theorem dX0_buysAll_86 : decode cX0_buysAll 86 = .ok (.iand, 1) := dk_126 (dk_at dksX0_buysAll_3 17 rfl rfl)
theorem dX0_buysAll_87 : decode cX0_buysAll 87 = .ok (.iload 6, 2) := dk_21 6 (dk_at dksX0_buysAll_3 18 rfl rfl)
theorem dX0_buysAll_89 : decode cX0_buysAll 89 = .ok (.invokestatic 175, 3) := dk_184 0 175 (dk_at dksX0_buysAll_3 20 rfl rfl)
theorem dX0_buysAll_92 : decode cX0_buysAll 92 = .ok (.ifCond .eq 37, 3) := dk_153 0 37 (dk_at dksX0_buysAll_4 0 rfl rfl)
theorem dX0_buysAll_95 : decode cX0_buysAll 95 = .ok (.aload_n 0, 1) := dk_42 (dk_at dksX0_buysAll_4 3 rfl rfl)
theorem dX0_buysAll_96 : decode cX0_buysAll 96 = .ok (.iload 5, 2) := dk_21 5 (dk_at dksX0_buysAll_4 4 rfl rfl)
theorem dX0_buysAll_98 : decode cX0_buysAll 98 = .ok (.iconst 1, 1) := dk_4 (dk_at dksX0_buysAll_4 6 rfl rfl)
theorem dX0_buysAll_99 : decode cX0_buysAll 99 = .ok (.iload 6, 2) := dk_21 6 (dk_at dksX0_buysAll_4 7 rfl rfl)
theorem dX0_buysAll_101 : decode cX0_buysAll 101 = .ok (.ishl, 1) := dk_120 (dk_at dksX0_buysAll_4 9 rfl rfl)
theorem dX0_buysAll_102 : decode cX0_buysAll 102 = .ok (.ior, 1) := dk_128 (dk_at dksX0_buysAll_4 10 rfl rfl)
theorem dX0_buysAll_103 : decode cX0_buysAll 103 = .ok (.invokevirtual 354, 3) := dk_182 1 98 (dk_at dksX0_buysAll_4 11 rfl rfl)
theorem dX0_buysAll_106 : decode cX0_buysAll 106 = .ok (.iload_n 2, 1) := dk_28 (dk_at dksX0_buysAll_4 14 rfl rfl)
theorem dX0_buysAll_107 : decode cX0_buysAll 107 = .ok (.if_icmp .gt 22, 3) := dk_163 0 22 (dk_at dksX0_buysAll_4 15 rfl rfl)
theorem dX0_buysAll_110 : decode cX0_buysAll 110 = .ok (.aload_n 0, 1) := dk_42 (dk_at dksX0_buysAll_4 18 rfl rfl)
theorem dX0_buysAll_111 : decode cX0_buysAll 111 = .ok (.getfield 77, 3) := dk_180 0 77 (dk_at dksX0_buysAll_4 19 rfl rfl)
theorem dX0_buysAll_114 : decode cX0_buysAll 114 = .ok (.sipush 4096, 3) := dk_17 16 0 (dk_at dksX0_buysAll_5 0 rfl rfl)
theorem dX0_buysAll_117 : decode cX0_buysAll 117 = .ok (.iload_n 3, 1) := dk_29 (dk_at dksX0_buysAll_5 3 rfl rfl)
theorem dX0_buysAll_118 : decode cX0_buysAll 118 = .ok (.imul, 1) := dk_104 (dk_at dksX0_buysAll_5 4 rfl rfl)
theorem dX0_buysAll_119 : decode cX0_buysAll 119 = .ok (.iload 5, 2) := dk_21 5 (dk_at dksX0_buysAll_5 5 rfl rfl)
theorem dX0_buysAll_121 : decode cX0_buysAll 121 = .ok (.iconst 1, 1) := dk_4 (dk_at dksX0_buysAll_5 7 rfl rfl)
theorem dX0_buysAll_122 : decode cX0_buysAll 122 = .ok (.iload 6, 2) := dk_21 6 (dk_at dksX0_buysAll_5 8 rfl rfl)
theorem dX0_buysAll_124 : decode cX0_buysAll 124 = .ok (.ishl, 1) := dk_120 (dk_at dksX0_buysAll_5 10 rfl rfl)
theorem dX0_buysAll_125 : decode cX0_buysAll 125 = .ok (.ior, 1) := dk_128 (dk_at dksX0_buysAll_5 11 rfl rfl)
theorem dX0_buysAll_126 : decode cX0_buysAll 126 = .ok (.iadd, 1) := dk_96 (dk_at dksX0_buysAll_5 12 rfl rfl)
theorem dX0_buysAll_127 : decode cX0_buysAll 127 = .ok (.iconst 1, 1) := dk_4 (dk_at dksX0_buysAll_5 13 rfl rfl)
theorem dX0_buysAll_128 : decode cX0_buysAll 128 = .ok (.bastore, 1) := dk_84 (dk_at dksX0_buysAll_5 14 rfl rfl)
theorem dX0_buysAll_129 : decode cX0_buysAll 129 = .ok (.iinc 6 1, 3) := dk_132 6 1 (dk_at dksX0_buysAll_5 15 rfl rfl)
theorem dX0_buysAll_132 : decode cX0_buysAll 132 = .ok (.goto (-61), 3) := dk_167 255 195 (dk_at dksX0_buysAll_5 18 rfl rfl)
theorem dX0_buysAll_135 : decode cX0_buysAll 135 = .ok (.iinc 5 1, 3) := dk_132 5 1 (dk_at dksX0_buysAll_5 21 rfl rfl)
theorem dX0_buysAll_138 : decode cX0_buysAll 138 = .ok (.goto (-100), 3) := dk_167 255 156 (dk_at dksX0_buysAll_6 0 rfl rfl)
theorem dX0_buysAll_141 : decode cX0_buysAll 141 = .ok (.iinc 3 1, 3) := dk_132 3 1 (dk_at dksX0_buysAll_6 3 rfl rfl)
theorem dX0_buysAll_144 : decode cX0_buysAll 144 = .ok (.goto (-142), 3) := dk_167 255 114 (dk_at dksX0_buysAll_6 6 rfl rfl)
theorem dX0_buysAll_147 : decode cX0_buysAll 147 = .ok (.return_, 1) := dk_177 (dk_at dksX0_buysAll_6 9 rfl rfl)
abbrev cX0_costOf : ByteArray := prog_1_method_50_code
def yX0_costOf : MethodName := ⟨RX0, "costOf", "(I)I"⟩
def dkwX0_costOf_2 : List UInt8 := [132, 3, 1, 167, 255, 213, 28, 172]
abbrev dktX0_costOf_2 : List UInt8 := dkwX0_costOf_2 ++ []
def dkwX0_costOf_1 : List UInt8 := [180, 0, 12, 180, 0, 93, 29, 182, 0, 153, 192, 0, 157, 180, 1, 89, 167, 0, 4, 3, 96, 61]
abbrev dktX0_costOf_1 : List UInt8 := dkwX0_costOf_1 ++ dktX0_costOf_2
def dkwX0_costOf_0 : List UInt8 := [3, 61, 3, 62, 29, 42, 182, 0, 103, 162, 0, 41, 28, 27, 29, 184, 0, 175, 153, 0, 23, 42]
abbrev dktX0_costOf_0 : List UInt8 := dkwX0_costOf_0 ++ dktX0_costOf_1
theorem dksX0_costOf_0 : cX0_costOf.data.toList.drop 0 = dktX0_costOf_0 := by decide +kernel
theorem dksX0_costOf_1 : cX0_costOf.data.toList.drop 22 = dktX0_costOf_1 := dk_seg dksX0_costOf_0 22 rfl rfl
theorem dksX0_costOf_2 : cX0_costOf.data.toList.drop 44 = dktX0_costOf_2 := dk_seg dksX0_costOf_1 22 rfl rfl
theorem dX0_costOf_0 : decode cX0_costOf 0 = .ok (.iconst 0, 1) := dk_3 (dk_at dksX0_costOf_0 0 rfl rfl)
theorem dX0_costOf_1 : decode cX0_costOf 1 = .ok (.istore_n 2, 1) := dk_61 (dk_at dksX0_costOf_0 1 rfl rfl)
theorem dX0_costOf_2 : decode cX0_costOf 2 = .ok (.iconst 0, 1) := dk_3 (dk_at dksX0_costOf_0 2 rfl rfl)
theorem dX0_costOf_3 : decode cX0_costOf 3 = .ok (.istore_n 3, 1) := dk_62 (dk_at dksX0_costOf_0 3 rfl rfl)
theorem dX0_costOf_4 : decode cX0_costOf 4 = .ok (.iload_n 3, 1) := dk_29 (dk_at dksX0_costOf_0 4 rfl rfl)
theorem dX0_costOf_5 : decode cX0_costOf 5 = .ok (.aload_n 0, 1) := dk_42 (dk_at dksX0_costOf_0 5 rfl rfl)
theorem dX0_costOf_6 : decode cX0_costOf 6 = .ok (.invokevirtual 103, 3) := dk_182 0 103 (dk_at dksX0_costOf_0 6 rfl rfl)
theorem dX0_costOf_9 : decode cX0_costOf 9 = .ok (.if_icmp .ge 41, 3) := dk_162 0 41 (dk_at dksX0_costOf_0 9 rfl rfl)
theorem dX0_costOf_12 : decode cX0_costOf 12 = .ok (.iload_n 2, 1) := dk_28 (dk_at dksX0_costOf_0 12 rfl rfl)
theorem dX0_costOf_13 : decode cX0_costOf 13 = .ok (.iload_n 1, 1) := dk_27 (dk_at dksX0_costOf_0 13 rfl rfl)
theorem dX0_costOf_14 : decode cX0_costOf 14 = .ok (.iload_n 3, 1) := dk_29 (dk_at dksX0_costOf_0 14 rfl rfl)
theorem dX0_costOf_15 : decode cX0_costOf 15 = .ok (.invokestatic 175, 3) := dk_184 0 175 (dk_at dksX0_costOf_0 15 rfl rfl)
theorem dX0_costOf_18 : decode cX0_costOf 18 = .ok (.ifCond .eq 23, 3) := dk_153 0 23 (dk_at dksX0_costOf_0 18 rfl rfl)
theorem dX0_costOf_21 : decode cX0_costOf 21 = .ok (.aload_n 0, 1) := dk_42 (dk_at dksX0_costOf_0 21 rfl rfl)
theorem dX0_costOf_22 : decode cX0_costOf 22 = .ok (.getfield 12, 3) := dk_180 0 12 (dk_at dksX0_costOf_1 0 rfl rfl)
theorem dX0_costOf_25 : decode cX0_costOf 25 = .ok (.getfield 93, 3) := dk_180 0 93 (dk_at dksX0_costOf_1 3 rfl rfl)
theorem dX0_costOf_28 : decode cX0_costOf 28 = .ok (.iload_n 3, 1) := dk_29 (dk_at dksX0_costOf_1 6 rfl rfl)
theorem dX0_costOf_29 : decode cX0_costOf 29 = .ok (.invokevirtual 153, 3) := dk_182 0 153 (dk_at dksX0_costOf_1 7 rfl rfl)
theorem dX0_costOf_32 : decode cX0_costOf 32 = .ok (.checkcast 157, 3) := dk_192 0 157 (dk_at dksX0_costOf_1 10 rfl rfl)
theorem dX0_costOf_35 : decode cX0_costOf 35 = .ok (.getfield 345, 3) := dk_180 1 89 (dk_at dksX0_costOf_1 13 rfl rfl)
theorem dX0_costOf_38 : decode cX0_costOf 38 = .ok (.goto 4, 3) := dk_167 0 4 (dk_at dksX0_costOf_1 16 rfl rfl)
theorem dX0_costOf_41 : decode cX0_costOf 41 = .ok (.iconst 0, 1) := dk_3 (dk_at dksX0_costOf_1 19 rfl rfl)
theorem dX0_costOf_42 : decode cX0_costOf 42 = .ok (.iadd, 1) := dk_96 (dk_at dksX0_costOf_1 20 rfl rfl)
theorem dX0_costOf_43 : decode cX0_costOf 43 = .ok (.istore_n 2, 1) := dk_61 (dk_at dksX0_costOf_1 21 rfl rfl)
theorem dX0_costOf_44 : decode cX0_costOf 44 = .ok (.iinc 3 1, 3) := dk_132 3 1 (dk_at dksX0_costOf_2 0 rfl rfl)
theorem dX0_costOf_47 : decode cX0_costOf 47 = .ok (.goto (-43), 3) := dk_167 255 213 (dk_at dksX0_costOf_2 3 rfl rfl)
theorem dX0_costOf_50 : decode cX0_costOf 50 = .ok (.iload_n 2, 1) := dk_28 (dk_at dksX0_costOf_2 6 rfl rfl)
theorem dX0_costOf_51 : decode cX0_costOf 51 = .ok (.ireturn, 1) := dk_172 (dk_at dksX0_costOf_2 7 rfl rfl)
abbrev cX0_goesAll : ByteArray := prog_1_method_52_code
def yX0_goesAll : MethodName := ⟨RX0, "goesAll", "(II)V"⟩
def dkwX0_goesAll_6 : List UInt8 := [180, 0, 77, 29, 42, 180, 0, 80, 29, 51, 84, 132, 3, 1, 167, 255, 232, 177]
abbrev dktX0_goesAll_6 : List UInt8 := dkwX0_goesAll_6 ++ []
def dkwX0_goesAll_5 : List UInt8 := [132, 4, 1, 167, 255, 175, 132, 3, 1, 167, 255, 155, 3, 62, 29, 42, 180, 0, 80, 190, 162, 0, 21, 42]
abbrev dktX0_goesAll_5 : List UInt8 := dkwX0_goesAll_5 ++ dktX0_goesAll_6
def dkwX0_goesAll_4 : List UInt8 := [180, 0, 89, 96, 42, 180, 0, 12, 180, 0, 89, 112, 104, 21, 4, 96, 4, 84, 132, 5, 1, 167, 255, 214]
abbrev dktX0_goesAll_4 : List UInt8 := dkwX0_goesAll_4 ++ dktX0_goesAll_5
def dkwX0_goesAll_3 : List UInt8 := [54, 5, 21, 5, 28, 163, 0, 42, 42, 180, 0, 80, 17, 16, 0, 29, 21, 5, 96, 42, 180, 0, 12]
abbrev dktX0_goesAll_3 : List UInt8 := dkwX0_goesAll_3 ++ dktX0_goesAll_4
def dkwX0_goesAll_2 : List UInt8 := [162, 0, 76, 42, 180, 0, 77, 17, 16, 0, 29, 104, 21, 4, 96, 51, 154, 0, 6, 167, 0, 51, 27]
abbrev dktX0_goesAll_2 : List UInt8 := dkwX0_goesAll_2 ++ dktX0_goesAll_3
def dkwX0_goesAll_1 : List UInt8 := [3, 62, 29, 42, 180, 0, 12, 180, 0, 89, 162, 0, 96, 3, 54, 4, 21, 4, 4, 42, 182, 0, 103, 120]
abbrev dktX0_goesAll_1 : List UInt8 := dkwX0_goesAll_1 ++ dktX0_goesAll_2
def dkwX0_goesAll_0 : List UInt8 := [3, 62, 29, 42, 180, 0, 80, 190, 162, 0, 16, 42, 180, 0, 80, 29, 3, 84, 132, 3, 1, 167, 255, 237]
abbrev dktX0_goesAll_0 : List UInt8 := dkwX0_goesAll_0 ++ dktX0_goesAll_1
theorem dksX0_goesAll_0 : cX0_goesAll.data.toList.drop 0 = dktX0_goesAll_0 := by decide +kernel
theorem dksX0_goesAll_1 : cX0_goesAll.data.toList.drop 24 = dktX0_goesAll_1 := dk_seg dksX0_goesAll_0 24 rfl rfl
theorem dksX0_goesAll_2 : cX0_goesAll.data.toList.drop 48 = dktX0_goesAll_2 := dk_seg dksX0_goesAll_1 24 rfl rfl
theorem dksX0_goesAll_3 : cX0_goesAll.data.toList.drop 71 = dktX0_goesAll_3 := dk_seg dksX0_goesAll_2 23 rfl rfl
theorem dksX0_goesAll_4 : cX0_goesAll.data.toList.drop 94 = dktX0_goesAll_4 := dk_seg dksX0_goesAll_3 23 rfl rfl
theorem dksX0_goesAll_5 : cX0_goesAll.data.toList.drop 118 = dktX0_goesAll_5 := dk_seg dksX0_goesAll_4 24 rfl rfl
theorem dksX0_goesAll_6 : cX0_goesAll.data.toList.drop 142 = dktX0_goesAll_6 := dk_seg dksX0_goesAll_5 24 rfl rfl
theorem dX0_goesAll_0 : decode cX0_goesAll 0 = .ok (.iconst 0, 1) := dk_3 (dk_at dksX0_goesAll_0 0 rfl rfl)
theorem dX0_goesAll_1 : decode cX0_goesAll 1 = .ok (.istore_n 3, 1) := dk_62 (dk_at dksX0_goesAll_0 1 rfl rfl)
theorem dX0_goesAll_2 : decode cX0_goesAll 2 = .ok (.iload_n 3, 1) := dk_29 (dk_at dksX0_goesAll_0 2 rfl rfl)
theorem dX0_goesAll_3 : decode cX0_goesAll 3 = .ok (.aload_n 0, 1) := dk_42 (dk_at dksX0_goesAll_0 3 rfl rfl)
theorem dX0_goesAll_4 : decode cX0_goesAll 4 = .ok (.getfield 80, 3) := dk_180 0 80 (dk_at dksX0_goesAll_0 4 rfl rfl)
theorem dX0_goesAll_7 : decode cX0_goesAll 7 = .ok (.arraylength, 1) := dk_190 (dk_at dksX0_goesAll_0 7 rfl rfl)
theorem dX0_goesAll_8 : decode cX0_goesAll 8 = .ok (.if_icmp .ge 16, 3) := dk_162 0 16 (dk_at dksX0_goesAll_0 8 rfl rfl)
theorem dX0_goesAll_11 : decode cX0_goesAll 11 = .ok (.aload_n 0, 1) := dk_42 (dk_at dksX0_goesAll_0 11 rfl rfl)
theorem dX0_goesAll_12 : decode cX0_goesAll 12 = .ok (.getfield 80, 3) := dk_180 0 80 (dk_at dksX0_goesAll_0 12 rfl rfl)
theorem dX0_goesAll_15 : decode cX0_goesAll 15 = .ok (.iload_n 3, 1) := dk_29 (dk_at dksX0_goesAll_0 15 rfl rfl)
theorem dX0_goesAll_16 : decode cX0_goesAll 16 = .ok (.iconst 0, 1) := dk_3 (dk_at dksX0_goesAll_0 16 rfl rfl)
theorem dX0_goesAll_17 : decode cX0_goesAll 17 = .ok (.bastore, 1) := dk_84 (dk_at dksX0_goesAll_0 17 rfl rfl)
theorem dX0_goesAll_18 : decode cX0_goesAll 18 = .ok (.iinc 3 1, 3) := dk_132 3 1 (dk_at dksX0_goesAll_0 18 rfl rfl)
theorem dX0_goesAll_21 : decode cX0_goesAll 21 = .ok (.goto (-19), 3) := dk_167 255 237 (dk_at dksX0_goesAll_0 21 rfl rfl)
theorem dX0_goesAll_24 : decode cX0_goesAll 24 = .ok (.iconst 0, 1) := dk_3 (dk_at dksX0_goesAll_1 0 rfl rfl)
theorem dX0_goesAll_25 : decode cX0_goesAll 25 = .ok (.istore_n 3, 1) := dk_62 (dk_at dksX0_goesAll_1 1 rfl rfl)
theorem dX0_goesAll_26 : decode cX0_goesAll 26 = .ok (.iload_n 3, 1) := dk_29 (dk_at dksX0_goesAll_1 2 rfl rfl)
theorem dX0_goesAll_27 : decode cX0_goesAll 27 = .ok (.aload_n 0, 1) := dk_42 (dk_at dksX0_goesAll_1 3 rfl rfl)
theorem dX0_goesAll_28 : decode cX0_goesAll 28 = .ok (.getfield 12, 3) := dk_180 0 12 (dk_at dksX0_goesAll_1 4 rfl rfl)
theorem dX0_goesAll_31 : decode cX0_goesAll 31 = .ok (.getfield 89, 3) := dk_180 0 89 (dk_at dksX0_goesAll_1 7 rfl rfl)
theorem dX0_goesAll_34 : decode cX0_goesAll 34 = .ok (.if_icmp .ge 96, 3) := dk_162 0 96 (dk_at dksX0_goesAll_1 10 rfl rfl)
theorem dX0_goesAll_37 : decode cX0_goesAll 37 = .ok (.iconst 0, 1) := dk_3 (dk_at dksX0_goesAll_1 13 rfl rfl)
theorem dX0_goesAll_38 : decode cX0_goesAll 38 = .ok (.istore 4, 2) := dk_54 4 (dk_at dksX0_goesAll_1 14 rfl rfl)
theorem dX0_goesAll_40 : decode cX0_goesAll 40 = .ok (.iload 4, 2) := dk_21 4 (dk_at dksX0_goesAll_1 16 rfl rfl)
theorem dX0_goesAll_42 : decode cX0_goesAll 42 = .ok (.iconst 1, 1) := dk_4 (dk_at dksX0_goesAll_1 18 rfl rfl)
theorem dX0_goesAll_43 : decode cX0_goesAll 43 = .ok (.aload_n 0, 1) := dk_42 (dk_at dksX0_goesAll_1 19 rfl rfl)
theorem dX0_goesAll_44 : decode cX0_goesAll 44 = .ok (.invokevirtual 103, 3) := dk_182 0 103 (dk_at dksX0_goesAll_1 20 rfl rfl)
theorem dX0_goesAll_47 : decode cX0_goesAll 47 = .ok (.ishl, 1) := dk_120 (dk_at dksX0_goesAll_1 23 rfl rfl)
theorem dX0_goesAll_48 : decode cX0_goesAll 48 = .ok (.if_icmp .ge 76, 3) := dk_162 0 76 (dk_at dksX0_goesAll_2 0 rfl rfl)
theorem dX0_goesAll_51 : decode cX0_goesAll 51 = .ok (.aload_n 0, 1) := dk_42 (dk_at dksX0_goesAll_2 3 rfl rfl)
theorem dX0_goesAll_52 : decode cX0_goesAll 52 = .ok (.getfield 77, 3) := dk_180 0 77 (dk_at dksX0_goesAll_2 4 rfl rfl)
theorem dX0_goesAll_55 : decode cX0_goesAll 55 = .ok (.sipush 4096, 3) := dk_17 16 0 (dk_at dksX0_goesAll_2 7 rfl rfl)
theorem dX0_goesAll_58 : decode cX0_goesAll 58 = .ok (.iload_n 3, 1) := dk_29 (dk_at dksX0_goesAll_2 10 rfl rfl)
theorem dX0_goesAll_59 : decode cX0_goesAll 59 = .ok (.imul, 1) := dk_104 (dk_at dksX0_goesAll_2 11 rfl rfl)
theorem dX0_goesAll_60 : decode cX0_goesAll 60 = .ok (.iload 4, 2) := dk_21 4 (dk_at dksX0_goesAll_2 12 rfl rfl)
theorem dX0_goesAll_62 : decode cX0_goesAll 62 = .ok (.iadd, 1) := dk_96 (dk_at dksX0_goesAll_2 14 rfl rfl)
theorem dX0_goesAll_63 : decode cX0_goesAll 63 = .ok (.baload, 1) := dk_51 (dk_at dksX0_goesAll_2 15 rfl rfl)
theorem dX0_goesAll_64 : decode cX0_goesAll 64 = .ok (.ifCond .ne 6, 3) := dk_154 0 6 (dk_at dksX0_goesAll_2 16 rfl rfl)
theorem dX0_goesAll_67 : decode cX0_goesAll 67 = .ok (.goto 51, 3) := dk_167 0 51 (dk_at dksX0_goesAll_2 19 rfl rfl)
theorem dX0_goesAll_70 : decode cX0_goesAll 70 = .ok (.iload_n 1, 1) := dk_27 (dk_at dksX0_goesAll_2 22 rfl rfl)
theorem dX0_goesAll_71 : decode cX0_goesAll 71 = .ok (.istore 5, 2) := dk_54 5 (dk_at dksX0_goesAll_3 0 rfl rfl)
theorem dX0_goesAll_73 : decode cX0_goesAll 73 = .ok (.iload 5, 2) := dk_21 5 (dk_at dksX0_goesAll_3 2 rfl rfl)
theorem dX0_goesAll_75 : decode cX0_goesAll 75 = .ok (.iload_n 2, 1) := dk_28 (dk_at dksX0_goesAll_3 4 rfl rfl)
theorem dX0_goesAll_76 : decode cX0_goesAll 76 = .ok (.if_icmp .gt 42, 3) := dk_163 0 42 (dk_at dksX0_goesAll_3 5 rfl rfl)
theorem dX0_goesAll_79 : decode cX0_goesAll 79 = .ok (.aload_n 0, 1) := dk_42 (dk_at dksX0_goesAll_3 8 rfl rfl)
theorem dX0_goesAll_80 : decode cX0_goesAll 80 = .ok (.getfield 80, 3) := dk_180 0 80 (dk_at dksX0_goesAll_3 9 rfl rfl)
theorem dX0_goesAll_83 : decode cX0_goesAll 83 = .ok (.sipush 4096, 3) := dk_17 16 0 (dk_at dksX0_goesAll_3 12 rfl rfl)
theorem dX0_goesAll_86 : decode cX0_goesAll 86 = .ok (.iload_n 3, 1) := dk_29 (dk_at dksX0_goesAll_3 15 rfl rfl)
theorem dX0_goesAll_87 : decode cX0_goesAll 87 = .ok (.iload 5, 2) := dk_21 5 (dk_at dksX0_goesAll_3 16 rfl rfl)
theorem dX0_goesAll_89 : decode cX0_goesAll 89 = .ok (.iadd, 1) := dk_96 (dk_at dksX0_goesAll_3 18 rfl rfl)
theorem dX0_goesAll_90 : decode cX0_goesAll 90 = .ok (.aload_n 0, 1) := dk_42 (dk_at dksX0_goesAll_3 19 rfl rfl)
theorem dX0_goesAll_91 : decode cX0_goesAll 91 = .ok (.getfield 12, 3) := dk_180 0 12 (dk_at dksX0_goesAll_3 20 rfl rfl)
theorem dX0_goesAll_94 : decode cX0_goesAll 94 = .ok (.getfield 89, 3) := dk_180 0 89 (dk_at dksX0_goesAll_4 0 rfl rfl)
theorem dX0_goesAll_97 : decode cX0_goesAll 97 = .ok (.iadd, 1) := dk_96 (dk_at dksX0_goesAll_4 3 rfl rfl)
theorem dX0_goesAll_98 : decode cX0_goesAll 98 = .ok (.aload_n 0, 1) := dk_42 (dk_at dksX0_goesAll_4 4 rfl rfl)
theorem dX0_goesAll_99 : decode cX0_goesAll 99 = .ok (.getfield 12, 3) := dk_180 0 12 (dk_at dksX0_goesAll_4 5 rfl rfl)
theorem dX0_goesAll_102 : decode cX0_goesAll 102 = .ok (.getfield 89, 3) := dk_180 0 89 (dk_at dksX0_goesAll_4 8 rfl rfl)
theorem dX0_goesAll_105 : decode cX0_goesAll 105 = .ok (.irem, 1) := dk_112 (dk_at dksX0_goesAll_4 11 rfl rfl)
theorem dX0_goesAll_106 : decode cX0_goesAll 106 = .ok (.imul, 1) := dk_104 (dk_at dksX0_goesAll_4 12 rfl rfl)
theorem dX0_goesAll_107 : decode cX0_goesAll 107 = .ok (.iload 4, 2) := dk_21 4 (dk_at dksX0_goesAll_4 13 rfl rfl)
theorem dX0_goesAll_109 : decode cX0_goesAll 109 = .ok (.iadd, 1) := dk_96 (dk_at dksX0_goesAll_4 15 rfl rfl)
theorem dX0_goesAll_110 : decode cX0_goesAll 110 = .ok (.iconst 1, 1) := dk_4 (dk_at dksX0_goesAll_4 16 rfl rfl)
theorem dX0_goesAll_111 : decode cX0_goesAll 111 = .ok (.bastore, 1) := dk_84 (dk_at dksX0_goesAll_4 17 rfl rfl)
theorem dX0_goesAll_112 : decode cX0_goesAll 112 = .ok (.iinc 5 1, 3) := dk_132 5 1 (dk_at dksX0_goesAll_4 18 rfl rfl)
theorem dX0_goesAll_115 : decode cX0_goesAll 115 = .ok (.goto (-42), 3) := dk_167 255 214 (dk_at dksX0_goesAll_4 21 rfl rfl)
theorem dX0_goesAll_118 : decode cX0_goesAll 118 = .ok (.iinc 4 1, 3) := dk_132 4 1 (dk_at dksX0_goesAll_5 0 rfl rfl)
theorem dX0_goesAll_121 : decode cX0_goesAll 121 = .ok (.goto (-81), 3) := dk_167 255 175 (dk_at dksX0_goesAll_5 3 rfl rfl)
theorem dX0_goesAll_124 : decode cX0_goesAll 124 = .ok (.iinc 3 1, 3) := dk_132 3 1 (dk_at dksX0_goesAll_5 6 rfl rfl)
theorem dX0_goesAll_127 : decode cX0_goesAll 127 = .ok (.goto (-101), 3) := dk_167 255 155 (dk_at dksX0_goesAll_5 9 rfl rfl)
theorem dX0_goesAll_130 : decode cX0_goesAll 130 = .ok (.iconst 0, 1) := dk_3 (dk_at dksX0_goesAll_5 12 rfl rfl)
theorem dX0_goesAll_131 : decode cX0_goesAll 131 = .ok (.istore_n 3, 1) := dk_62 (dk_at dksX0_goesAll_5 13 rfl rfl)
theorem dX0_goesAll_132 : decode cX0_goesAll 132 = .ok (.iload_n 3, 1) := dk_29 (dk_at dksX0_goesAll_5 14 rfl rfl)
theorem dX0_goesAll_133 : decode cX0_goesAll 133 = .ok (.aload_n 0, 1) := dk_42 (dk_at dksX0_goesAll_5 15 rfl rfl)
theorem dX0_goesAll_134 : decode cX0_goesAll 134 = .ok (.getfield 80, 3) := dk_180 0 80 (dk_at dksX0_goesAll_5 16 rfl rfl)
theorem dX0_goesAll_137 : decode cX0_goesAll 137 = .ok (.arraylength, 1) := dk_190 (dk_at dksX0_goesAll_5 19 rfl rfl)
theorem dX0_goesAll_138 : decode cX0_goesAll 138 = .ok (.if_icmp .ge 21, 3) := dk_162 0 21 (dk_at dksX0_goesAll_5 20 rfl rfl)
theorem dX0_goesAll_141 : decode cX0_goesAll 141 = .ok (.aload_n 0, 1) := dk_42 (dk_at dksX0_goesAll_5 23 rfl rfl)
theorem dX0_goesAll_142 : decode cX0_goesAll 142 = .ok (.getfield 77, 3) := dk_180 0 77 (dk_at dksX0_goesAll_6 0 rfl rfl)
theorem dX0_goesAll_145 : decode cX0_goesAll 145 = .ok (.iload_n 3, 1) := dk_29 (dk_at dksX0_goesAll_6 3 rfl rfl)
theorem dX0_goesAll_146 : decode cX0_goesAll 146 = .ok (.aload_n 0, 1) := dk_42 (dk_at dksX0_goesAll_6 4 rfl rfl)
theorem dX0_goesAll_147 : decode cX0_goesAll 147 = .ok (.getfield 80, 3) := dk_180 0 80 (dk_at dksX0_goesAll_6 5 rfl rfl)
theorem dX0_goesAll_150 : decode cX0_goesAll 150 = .ok (.iload_n 3, 1) := dk_29 (dk_at dksX0_goesAll_6 8 rfl rfl)
theorem dX0_goesAll_151 : decode cX0_goesAll 151 = .ok (.baload, 1) := dk_51 (dk_at dksX0_goesAll_6 9 rfl rfl)
theorem dX0_goesAll_152 : decode cX0_goesAll 152 = .ok (.bastore, 1) := dk_84 (dk_at dksX0_goesAll_6 10 rfl rfl)
theorem dX0_goesAll_153 : decode cX0_goesAll 153 = .ok (.iinc 3 1, 3) := dk_132 3 1 (dk_at dksX0_goesAll_6 11 rfl rfl)
theorem dX0_goesAll_156 : decode cX0_goesAll 156 = .ok (.goto (-24), 3) := dk_167 255 232 (dk_at dksX0_goesAll_6 14 rfl rfl)
theorem dX0_goesAll_159 : decode cX0_goesAll 159 = .ok (.return_, 1) := dk_177 (dk_at dksX0_goesAll_6 17 rfl rfl)
abbrev cX0_chance : ByteArray := prog_1_method_57_code
def yX0_chance : MethodName := ⟨RX0, "chance", "(III)I"⟩
def dkwX0_chance_3 : List UInt8 := [54, 7, 29, 154, 0, 11, 21, 5, 21, 7, 108, 167, 0, 8, 21, 6, 21, 7, 108, 172]
abbrev dktX0_chance_3 : List UInt8 := dkwX0_chance_3 ++ []
def dkwX0_chance_2 : List UInt8 := [182, 1, 53, 54, 5, 4, 21, 4, 184, 1, 35, 184, 0, 223, 54, 6, 21, 5, 21, 6, 184, 1, 129]
abbrev dktX0_chance_2 : List UInt8 := dkwX0_chance_2 ++ dktX0_chance_3
def dkwX0_chance_1 : List UInt8 := [154, 0, 5, 2, 172, 42, 180, 0, 19, 42, 180, 0, 12, 27, 182, 1, 126, 54, 4, 42, 28, 21, 4, 5]
abbrev dktX0_chance_1 : List UInt8 := dkwX0_chance_1 ++ dktX0_chance_2
def dkwX0_chance_0 : List UInt8 := [42, 27, 182, 0, 186, 153, 0, 21, 42, 28, 182, 0, 149, 153, 0, 13, 29, 133, 9, 10, 184, 0, 106]
abbrev dktX0_chance_0 : List UInt8 := dkwX0_chance_0 ++ dktX0_chance_1
theorem dksX0_chance_0 : cX0_chance.data.toList.drop 0 = dktX0_chance_0 := by decide +kernel
theorem dksX0_chance_1 : cX0_chance.data.toList.drop 23 = dktX0_chance_1 := dk_seg dksX0_chance_0 23 rfl rfl
theorem dksX0_chance_2 : cX0_chance.data.toList.drop 47 = dktX0_chance_2 := dk_seg dksX0_chance_1 24 rfl rfl
theorem dksX0_chance_3 : cX0_chance.data.toList.drop 70 = dktX0_chance_3 := dk_seg dksX0_chance_2 23 rfl rfl
theorem dX0_chance_0 : decode cX0_chance 0 = .ok (.aload_n 0, 1) := dk_42 (dk_at dksX0_chance_0 0 rfl rfl)
theorem dX0_chance_1 : decode cX0_chance 1 = .ok (.iload_n 1, 1) := dk_27 (dk_at dksX0_chance_0 1 rfl rfl)
theorem dX0_chance_2 : decode cX0_chance 2 = .ok (.invokevirtual 186, 3) := dk_182 0 186 (dk_at dksX0_chance_0 2 rfl rfl)
theorem dX0_chance_5 : decode cX0_chance 5 = .ok (.ifCond .eq 21, 3) := dk_153 0 21 (dk_at dksX0_chance_0 5 rfl rfl)
theorem dX0_chance_8 : decode cX0_chance 8 = .ok (.aload_n 0, 1) := dk_42 (dk_at dksX0_chance_0 8 rfl rfl)
theorem dX0_chance_9 : decode cX0_chance 9 = .ok (.iload_n 2, 1) := dk_28 (dk_at dksX0_chance_0 9 rfl rfl)
theorem dX0_chance_10 : decode cX0_chance 10 = .ok (.invokevirtual 149, 3) := dk_182 0 149 (dk_at dksX0_chance_0 10 rfl rfl)
theorem dX0_chance_13 : decode cX0_chance 13 = .ok (.ifCond .eq 13, 3) := dk_153 0 13 (dk_at dksX0_chance_0 13 rfl rfl)
theorem dX0_chance_16 : decode cX0_chance 16 = .ok (.iload_n 3, 1) := dk_29 (dk_at dksX0_chance_0 16 rfl rfl)
theorem dX0_chance_17 : decode cX0_chance 17 = .ok (.i2l, 1) := dk_133 (dk_at dksX0_chance_0 17 rfl rfl)
theorem dX0_chance_18 : decode cX0_chance 18 = .ok (.lconst 0, 1) := dk_9 (dk_at dksX0_chance_0 18 rfl rfl)
theorem dX0_chance_19 : decode cX0_chance 19 = .ok (.lconst 1, 1) := dk_10 (dk_at dksX0_chance_0 19 rfl rfl)
theorem dX0_chance_20 : decode cX0_chance 20 = .ok (.invokestatic 106, 3) := dk_184 0 106 (dk_at dksX0_chance_0 20 rfl rfl)
theorem dX0_chance_23 : decode cX0_chance 23 = .ok (.ifCond .ne 5, 3) := dk_154 0 5 (dk_at dksX0_chance_1 0 rfl rfl)
theorem dX0_chance_26 : decode cX0_chance 26 = .ok (.iconst (-1), 1) := dk_2 (dk_at dksX0_chance_1 3 rfl rfl)
theorem dX0_chance_27 : decode cX0_chance 27 = .ok (.ireturn, 1) := dk_172 (dk_at dksX0_chance_1 4 rfl rfl)
theorem dX0_chance_28 : decode cX0_chance 28 = .ok (.aload_n 0, 1) := dk_42 (dk_at dksX0_chance_1 5 rfl rfl)
theorem dX0_chance_29 : decode cX0_chance 29 = .ok (.getfield 19, 3) := dk_180 0 19 (dk_at dksX0_chance_1 6 rfl rfl)
theorem dX0_chance_32 : decode cX0_chance 32 = .ok (.aload_n 0, 1) := dk_42 (dk_at dksX0_chance_1 9 rfl rfl)
theorem dX0_chance_33 : decode cX0_chance 33 = .ok (.getfield 12, 3) := dk_180 0 12 (dk_at dksX0_chance_1 10 rfl rfl)
theorem dX0_chance_36 : decode cX0_chance 36 = .ok (.iload_n 1, 1) := dk_27 (dk_at dksX0_chance_1 13 rfl rfl)
theorem dX0_chance_37 : decode cX0_chance 37 = .ok (.invokevirtual 382, 3) := dk_182 1 126 (dk_at dksX0_chance_1 14 rfl rfl)
theorem dX0_chance_40 : decode cX0_chance 40 = .ok (.istore 4, 2) := dk_54 4 (dk_at dksX0_chance_1 17 rfl rfl)
theorem dX0_chance_42 : decode cX0_chance 42 = .ok (.aload_n 0, 1) := dk_42 (dk_at dksX0_chance_1 19 rfl rfl)
theorem dX0_chance_43 : decode cX0_chance 43 = .ok (.iload_n 2, 1) := dk_28 (dk_at dksX0_chance_1 20 rfl rfl)
theorem dX0_chance_44 : decode cX0_chance 44 = .ok (.iload 4, 2) := dk_21 4 (dk_at dksX0_chance_1 21 rfl rfl)
theorem dX0_chance_46 : decode cX0_chance 46 = .ok (.iconst 2, 1) := dk_5 (dk_at dksX0_chance_1 23 rfl rfl)
theorem dX0_chance_47 : decode cX0_chance 47 = .ok (.invokevirtual 309, 3) := dk_182 1 53 (dk_at dksX0_chance_2 0 rfl rfl)
theorem dX0_chance_50 : decode cX0_chance 50 = .ok (.istore 5, 2) := dk_54 5 (dk_at dksX0_chance_2 3 rfl rfl)
theorem dX0_chance_52 : decode cX0_chance 52 = .ok (.iconst 1, 1) := dk_4 (dk_at dksX0_chance_2 5 rfl rfl)
theorem dX0_chance_53 : decode cX0_chance 53 = .ok (.iload 4, 2) := dk_21 4 (dk_at dksX0_chance_2 6 rfl rfl)
theorem dX0_chance_55 : decode cX0_chance 55 = .ok (.invokestatic 291, 3) := dk_184 1 35 (dk_at dksX0_chance_2 8 rfl rfl)
theorem dX0_chance_58 : decode cX0_chance 58 = .ok (.invokestatic 223, 3) := dk_184 0 223 (dk_at dksX0_chance_2 11 rfl rfl)
theorem dX0_chance_61 : decode cX0_chance 61 = .ok (.istore 6, 2) := dk_54 6 (dk_at dksX0_chance_2 14 rfl rfl)
theorem dX0_chance_63 : decode cX0_chance 63 = .ok (.iload 5, 2) := dk_21 5 (dk_at dksX0_chance_2 16 rfl rfl)
theorem dX0_chance_65 : decode cX0_chance 65 = .ok (.iload 6, 2) := dk_21 6 (dk_at dksX0_chance_2 18 rfl rfl)
theorem dX0_chance_67 : decode cX0_chance 67 = .ok (.invokestatic 385, 3) := dk_184 1 129 (dk_at dksX0_chance_2 20 rfl rfl)
theorem dX0_chance_70 : decode cX0_chance 70 = .ok (.istore 7, 2) := dk_54 7 (dk_at dksX0_chance_3 0 rfl rfl)
theorem dX0_chance_72 : decode cX0_chance 72 = .ok (.iload_n 3, 1) := dk_29 (dk_at dksX0_chance_3 2 rfl rfl)
theorem dX0_chance_73 : decode cX0_chance 73 = .ok (.ifCond .ne 11, 3) := dk_154 0 11 (dk_at dksX0_chance_3 3 rfl rfl)
theorem dX0_chance_76 : decode cX0_chance 76 = .ok (.iload 5, 2) := dk_21 5 (dk_at dksX0_chance_3 6 rfl rfl)
theorem dX0_chance_78 : decode cX0_chance 78 = .ok (.iload 7, 2) := dk_21 7 (dk_at dksX0_chance_3 8 rfl rfl)
theorem dX0_chance_80 : decode cX0_chance 80 = .ok (.idiv, 1) := dk_108 (dk_at dksX0_chance_3 10 rfl rfl)
theorem dX0_chance_81 : decode cX0_chance 81 = .ok (.goto 8, 3) := dk_167 0 8 (dk_at dksX0_chance_3 11 rfl rfl)
theorem dX0_chance_84 : decode cX0_chance 84 = .ok (.iload 6, 2) := dk_21 6 (dk_at dksX0_chance_3 14 rfl rfl)
theorem dX0_chance_86 : decode cX0_chance 86 = .ok (.iload 7, 2) := dk_21 7 (dk_at dksX0_chance_3 16 rfl rfl)
theorem dX0_chance_88 : decode cX0_chance 88 = .ok (.idiv, 1) := dk_108 (dk_at dksX0_chance_3 18 rfl rfl)
theorem dX0_chance_89 : decode cX0_chance 89 = .ok (.ireturn, 1) := dk_172 (dk_at dksX0_chance_3 19 rfl rfl)
abbrev cX0_divisor : ByteArray := prog_1_method_56_code
def yX0_divisor : MethodName := ⟨RX0, "divisor", "(II)I"⟩
def dkwX0_divisor_0 : List UInt8 := [26, 61, 27, 62, 28, 153, 0, 16, 29, 28, 112, 54, 4, 28, 62, 21, 4, 61, 167, 255, 242, 29, 172]
abbrev dktX0_divisor_0 : List UInt8 := dkwX0_divisor_0 ++ []
theorem dksX0_divisor_0 : cX0_divisor.data.toList.drop 0 = dktX0_divisor_0 := by decide +kernel
theorem dX0_divisor_0 : decode cX0_divisor 0 = .ok (.iload_n 0, 1) := dk_26 (dk_at dksX0_divisor_0 0 rfl rfl)
theorem dX0_divisor_1 : decode cX0_divisor 1 = .ok (.istore_n 2, 1) := dk_61 (dk_at dksX0_divisor_0 1 rfl rfl)
theorem dX0_divisor_2 : decode cX0_divisor 2 = .ok (.iload_n 1, 1) := dk_27 (dk_at dksX0_divisor_0 2 rfl rfl)
theorem dX0_divisor_3 : decode cX0_divisor 3 = .ok (.istore_n 3, 1) := dk_62 (dk_at dksX0_divisor_0 3 rfl rfl)
theorem dX0_divisor_4 : decode cX0_divisor 4 = .ok (.iload_n 2, 1) := dk_28 (dk_at dksX0_divisor_0 4 rfl rfl)
theorem dX0_divisor_5 : decode cX0_divisor 5 = .ok (.ifCond .eq 16, 3) := dk_153 0 16 (dk_at dksX0_divisor_0 5 rfl rfl)
theorem dX0_divisor_8 : decode cX0_divisor 8 = .ok (.iload_n 3, 1) := dk_29 (dk_at dksX0_divisor_0 8 rfl rfl)
theorem dX0_divisor_9 : decode cX0_divisor 9 = .ok (.iload_n 2, 1) := dk_28 (dk_at dksX0_divisor_0 9 rfl rfl)
theorem dX0_divisor_10 : decode cX0_divisor 10 = .ok (.irem, 1) := dk_112 (dk_at dksX0_divisor_0 10 rfl rfl)
theorem dX0_divisor_11 : decode cX0_divisor 11 = .ok (.istore 4, 2) := dk_54 4 (dk_at dksX0_divisor_0 11 rfl rfl)
theorem dX0_divisor_13 : decode cX0_divisor 13 = .ok (.iload_n 2, 1) := dk_28 (dk_at dksX0_divisor_0 13 rfl rfl)
theorem dX0_divisor_14 : decode cX0_divisor 14 = .ok (.istore_n 3, 1) := dk_62 (dk_at dksX0_divisor_0 14 rfl rfl)
theorem dX0_divisor_15 : decode cX0_divisor 15 = .ok (.iload 4, 2) := dk_21 4 (dk_at dksX0_divisor_0 15 rfl rfl)
theorem dX0_divisor_17 : decode cX0_divisor 17 = .ok (.istore_n 2, 1) := dk_61 (dk_at dksX0_divisor_0 17 rfl rfl)
theorem dX0_divisor_18 : decode cX0_divisor 18 = .ok (.goto (-14), 3) := dk_167 255 242 (dk_at dksX0_divisor_0 18 rfl rfl)
theorem dX0_divisor_21 : decode cX0_divisor 21 = .ok (.iload_n 3, 1) := dk_29 (dk_at dksX0_divisor_0 21 rfl rfl)
theorem dX0_divisor_22 : decode cX0_divisor 22 = .ok (.ireturn, 1) := dk_172 (dk_at dksX0_divisor_0 22 rfl rfl)
abbrev cX0_yields : ByteArray := prog_1_method_59_code
def yX0_yields : MethodName := ⟨RX0, "yields", "(IIIII)I"⟩
def dkwX0_yields_4 : List UInt8 := [21, 6, 21, 7, 96, 5, 108, 172]
abbrev dktX0_yields_4 : List UInt8 := dkwX0_yields_4 ++ []
def dkwX0_yields_3 : List UInt8 := [162, 0, 7, 29, 167, 0, 8, 27, 29, 184, 0, 251, 54, 8, 21, 5, 154, 0, 8, 21, 8, 167, 0, 10]
abbrev dktX0_yields_3 : List UInt8 := dkwX0_yields_3 ++ dktX0_yields_4
def dkwX0_yields_2 : List UInt8 := [42, 29, 28, 182, 1, 132, 54, 7, 21, 6, 21, 7, 162, 0, 7, 27, 167, 0, 19, 21, 7, 21, 6]
abbrev dktX0_yields_2 : List UInt8 := dkwX0_yields_2 ++ dktX0_yields_3
def dkwX0_yields_1 : List UInt8 := [133, 9, 10, 184, 0, 106, 154, 0, 5, 2, 172, 42, 182, 0, 228, 42, 27, 21, 4, 182, 1, 132, 54, 6]
abbrev dktX0_yields_1 : List UInt8 := dkwX0_yields_1 ++ dktX0_yields_2
def dkwX0_yields_0 : List UInt8 := [42, 27, 28, 29, 21, 4, 182, 1, 43, 153, 0, 24, 42, 28, 21, 4, 182, 0, 183, 153, 0, 14, 21, 5]
abbrev dktX0_yields_0 : List UInt8 := dkwX0_yields_0 ++ dktX0_yields_1
theorem dksX0_yields_0 : cX0_yields.data.toList.drop 0 = dktX0_yields_0 := by decide +kernel
theorem dksX0_yields_1 : cX0_yields.data.toList.drop 24 = dktX0_yields_1 := dk_seg dksX0_yields_0 24 rfl rfl
theorem dksX0_yields_2 : cX0_yields.data.toList.drop 48 = dktX0_yields_2 := dk_seg dksX0_yields_1 24 rfl rfl
theorem dksX0_yields_3 : cX0_yields.data.toList.drop 71 = dktX0_yields_3 := dk_seg dksX0_yields_2 23 rfl rfl
theorem dksX0_yields_4 : cX0_yields.data.toList.drop 95 = dktX0_yields_4 := dk_seg dksX0_yields_3 24 rfl rfl
theorem dX0_yields_0 : decode cX0_yields 0 = .ok (.aload_n 0, 1) := dk_42 (dk_at dksX0_yields_0 0 rfl rfl)
theorem dX0_yields_1 : decode cX0_yields 1 = .ok (.iload_n 1, 1) := dk_27 (dk_at dksX0_yields_0 1 rfl rfl)
theorem dX0_yields_2 : decode cX0_yields 2 = .ok (.iload_n 2, 1) := dk_28 (dk_at dksX0_yields_0 2 rfl rfl)
theorem dX0_yields_3 : decode cX0_yields 3 = .ok (.iload_n 3, 1) := dk_29 (dk_at dksX0_yields_0 3 rfl rfl)
theorem dX0_yields_4 : decode cX0_yields 4 = .ok (.iload 4, 2) := dk_21 4 (dk_at dksX0_yields_0 4 rfl rfl)
theorem dX0_yields_6 : decode cX0_yields 6 = .ok (.invokevirtual 299, 3) := dk_182 1 43 (dk_at dksX0_yields_0 6 rfl rfl)
theorem dX0_yields_9 : decode cX0_yields 9 = .ok (.ifCond .eq 24, 3) := dk_153 0 24 (dk_at dksX0_yields_0 9 rfl rfl)
theorem dX0_yields_12 : decode cX0_yields 12 = .ok (.aload_n 0, 1) := dk_42 (dk_at dksX0_yields_0 12 rfl rfl)
theorem dX0_yields_13 : decode cX0_yields 13 = .ok (.iload_n 2, 1) := dk_28 (dk_at dksX0_yields_0 13 rfl rfl)
theorem dX0_yields_14 : decode cX0_yields 14 = .ok (.iload 4, 2) := dk_21 4 (dk_at dksX0_yields_0 14 rfl rfl)
theorem dX0_yields_16 : decode cX0_yields 16 = .ok (.invokevirtual 183, 3) := dk_182 0 183 (dk_at dksX0_yields_0 16 rfl rfl)
theorem dX0_yields_19 : decode cX0_yields 19 = .ok (.ifCond .eq 14, 3) := dk_153 0 14 (dk_at dksX0_yields_0 19 rfl rfl)
theorem dX0_yields_22 : decode cX0_yields 22 = .ok (.iload 5, 2) := dk_21 5 (dk_at dksX0_yields_0 22 rfl rfl)
theorem dX0_yields_24 : decode cX0_yields 24 = .ok (.i2l, 1) := dk_133 (dk_at dksX0_yields_1 0 rfl rfl)
theorem dX0_yields_25 : decode cX0_yields 25 = .ok (.lconst 0, 1) := dk_9 (dk_at dksX0_yields_1 1 rfl rfl)
theorem dX0_yields_26 : decode cX0_yields 26 = .ok (.lconst 1, 1) := dk_10 (dk_at dksX0_yields_1 2 rfl rfl)
theorem dX0_yields_27 : decode cX0_yields 27 = .ok (.invokestatic 106, 3) := dk_184 0 106 (dk_at dksX0_yields_1 3 rfl rfl)
theorem dX0_yields_30 : decode cX0_yields 30 = .ok (.ifCond .ne 5, 3) := dk_154 0 5 (dk_at dksX0_yields_1 6 rfl rfl)
theorem dX0_yields_33 : decode cX0_yields 33 = .ok (.iconst (-1), 1) := dk_2 (dk_at dksX0_yields_1 9 rfl rfl)
theorem dX0_yields_34 : decode cX0_yields 34 = .ok (.ireturn, 1) := dk_172 (dk_at dksX0_yields_1 10 rfl rfl)
theorem dX0_yields_35 : decode cX0_yields 35 = .ok (.aload_n 0, 1) := dk_42 (dk_at dksX0_yields_1 11 rfl rfl)
theorem dX0_yields_36 : decode cX0_yields 36 = .ok (.invokevirtual 228, 3) := dk_182 0 228 (dk_at dksX0_yields_1 12 rfl rfl)
theorem dX0_yields_39 : decode cX0_yields 39 = .ok (.aload_n 0, 1) := dk_42 (dk_at dksX0_yields_1 15 rfl rfl)
theorem dX0_yields_40 : decode cX0_yields 40 = .ok (.iload_n 1, 1) := dk_27 (dk_at dksX0_yields_1 16 rfl rfl)
theorem dX0_yields_41 : decode cX0_yields 41 = .ok (.iload 4, 2) := dk_21 4 (dk_at dksX0_yields_1 17 rfl rfl)
theorem dX0_yields_43 : decode cX0_yields 43 = .ok (.invokevirtual 388, 3) := dk_182 1 132 (dk_at dksX0_yields_1 19 rfl rfl)
theorem dX0_yields_46 : decode cX0_yields 46 = .ok (.istore 6, 2) := dk_54 6 (dk_at dksX0_yields_1 22 rfl rfl)
theorem dX0_yields_48 : decode cX0_yields 48 = .ok (.aload_n 0, 1) := dk_42 (dk_at dksX0_yields_2 0 rfl rfl)
theorem dX0_yields_49 : decode cX0_yields 49 = .ok (.iload_n 3, 1) := dk_29 (dk_at dksX0_yields_2 1 rfl rfl)
theorem dX0_yields_50 : decode cX0_yields 50 = .ok (.iload_n 2, 1) := dk_28 (dk_at dksX0_yields_2 2 rfl rfl)
theorem dX0_yields_51 : decode cX0_yields 51 = .ok (.invokevirtual 388, 3) := dk_182 1 132 (dk_at dksX0_yields_2 3 rfl rfl)
theorem dX0_yields_54 : decode cX0_yields 54 = .ok (.istore 7, 2) := dk_54 7 (dk_at dksX0_yields_2 6 rfl rfl)
theorem dX0_yields_56 : decode cX0_yields 56 = .ok (.iload 6, 2) := dk_21 6 (dk_at dksX0_yields_2 8 rfl rfl)
theorem dX0_yields_58 : decode cX0_yields 58 = .ok (.iload 7, 2) := dk_21 7 (dk_at dksX0_yields_2 10 rfl rfl)
theorem dX0_yields_60 : decode cX0_yields 60 = .ok (.if_icmp .ge 7, 3) := dk_162 0 7 (dk_at dksX0_yields_2 12 rfl rfl)
theorem dX0_yields_63 : decode cX0_yields 63 = .ok (.iload_n 1, 1) := dk_27 (dk_at dksX0_yields_2 15 rfl rfl)
theorem dX0_yields_64 : decode cX0_yields 64 = .ok (.goto 19, 3) := dk_167 0 19 (dk_at dksX0_yields_2 16 rfl rfl)
theorem dX0_yields_67 : decode cX0_yields 67 = .ok (.iload 7, 2) := dk_21 7 (dk_at dksX0_yields_2 19 rfl rfl)
theorem dX0_yields_69 : decode cX0_yields 69 = .ok (.iload 6, 2) := dk_21 6 (dk_at dksX0_yields_2 21 rfl rfl)
theorem dX0_yields_71 : decode cX0_yields 71 = .ok (.if_icmp .ge 7, 3) := dk_162 0 7 (dk_at dksX0_yields_3 0 rfl rfl)
theorem dX0_yields_74 : decode cX0_yields 74 = .ok (.iload_n 3, 1) := dk_29 (dk_at dksX0_yields_3 3 rfl rfl)
theorem dX0_yields_75 : decode cX0_yields 75 = .ok (.goto 8, 3) := dk_167 0 8 (dk_at dksX0_yields_3 4 rfl rfl)
theorem dX0_yields_78 : decode cX0_yields 78 = .ok (.iload_n 1, 1) := dk_27 (dk_at dksX0_yields_3 7 rfl rfl)
theorem dX0_yields_79 : decode cX0_yields 79 = .ok (.iload_n 3, 1) := dk_29 (dk_at dksX0_yields_3 8 rfl rfl)
theorem dX0_yields_80 : decode cX0_yields 80 = .ok (.invokestatic 251, 3) := dk_184 0 251 (dk_at dksX0_yields_3 9 rfl rfl)
theorem dX0_yields_83 : decode cX0_yields 83 = .ok (.istore 8, 2) := dk_54 8 (dk_at dksX0_yields_3 12 rfl rfl)
theorem dX0_yields_85 : decode cX0_yields 85 = .ok (.iload 5, 2) := dk_21 5 (dk_at dksX0_yields_3 14 rfl rfl)
theorem dX0_yields_87 : decode cX0_yields 87 = .ok (.ifCond .ne 8, 3) := dk_154 0 8 (dk_at dksX0_yields_3 16 rfl rfl)
theorem dX0_yields_90 : decode cX0_yields 90 = .ok (.iload 8, 2) := dk_21 8 (dk_at dksX0_yields_3 19 rfl rfl)
theorem dX0_yields_92 : decode cX0_yields 92 = .ok (.goto 10, 3) := dk_167 0 10 (dk_at dksX0_yields_3 21 rfl rfl)
theorem dX0_yields_95 : decode cX0_yields 95 = .ok (.iload 6, 2) := dk_21 6 (dk_at dksX0_yields_4 0 rfl rfl)
theorem dX0_yields_97 : decode cX0_yields 97 = .ok (.iload 7, 2) := dk_21 7 (dk_at dksX0_yields_4 2 rfl rfl)
theorem dX0_yields_99 : decode cX0_yields 99 = .ok (.iadd, 1) := dk_96 (dk_at dksX0_yields_4 4 rfl rfl)
theorem dX0_yields_100 : decode cX0_yields 100 = .ok (.iconst 2, 1) := dk_5 (dk_at dksX0_yields_4 5 rfl rfl)
theorem dX0_yields_101 : decode cX0_yields 101 = .ok (.idiv, 1) := dk_108 (dk_at dksX0_yields_4 6 rfl rfl)
theorem dX0_yields_102 : decode cX0_yields 102 = .ok (.ireturn, 1) := dk_172 (dk_at dksX0_yields_4 7 rfl rfl)
abbrev cX0_moreWorth : ByteArray := prog_1_method_58_code
def yX0_moreWorth : MethodName := ⟨RX0, "moreWorth", "(II)I"⟩
def dkwX0_moreWorth_1 : List UInt8 := [180, 0, 57, 29, 46, 100, 172]
abbrev dktX0_moreWorth_1 : List UInt8 := dkwX0_moreWorth_1 ++ []
def dkwX0_moreWorth_0 : List UInt8 := [42, 180, 0, 19, 42, 180, 0, 12, 27, 182, 0, 195, 62, 42, 180, 0, 57, 29, 4, 28, 120, 128, 46, 42]
abbrev dktX0_moreWorth_0 : List UInt8 := dkwX0_moreWorth_0 ++ dktX0_moreWorth_1
theorem dksX0_moreWorth_0 : cX0_moreWorth.data.toList.drop 0 = dktX0_moreWorth_0 := by decide +kernel
theorem dksX0_moreWorth_1 : cX0_moreWorth.data.toList.drop 24 = dktX0_moreWorth_1 := dk_seg dksX0_moreWorth_0 24 rfl rfl
theorem dX0_moreWorth_0 : decode cX0_moreWorth 0 = .ok (.aload_n 0, 1) := dk_42 (dk_at dksX0_moreWorth_0 0 rfl rfl)
theorem dX0_moreWorth_1 : decode cX0_moreWorth 1 = .ok (.getfield 19, 3) := dk_180 0 19 (dk_at dksX0_moreWorth_0 1 rfl rfl)
theorem dX0_moreWorth_4 : decode cX0_moreWorth 4 = .ok (.aload_n 0, 1) := dk_42 (dk_at dksX0_moreWorth_0 4 rfl rfl)
theorem dX0_moreWorth_5 : decode cX0_moreWorth 5 = .ok (.getfield 12, 3) := dk_180 0 12 (dk_at dksX0_moreWorth_0 5 rfl rfl)
theorem dX0_moreWorth_8 : decode cX0_moreWorth 8 = .ok (.iload_n 1, 1) := dk_27 (dk_at dksX0_moreWorth_0 8 rfl rfl)
theorem dX0_moreWorth_9 : decode cX0_moreWorth 9 = .ok (.invokevirtual 195, 3) := dk_182 0 195 (dk_at dksX0_moreWorth_0 9 rfl rfl)
theorem dX0_moreWorth_12 : decode cX0_moreWorth 12 = .ok (.istore_n 3, 1) := dk_62 (dk_at dksX0_moreWorth_0 12 rfl rfl)
theorem dX0_moreWorth_13 : decode cX0_moreWorth 13 = .ok (.aload_n 0, 1) := dk_42 (dk_at dksX0_moreWorth_0 13 rfl rfl)
theorem dX0_moreWorth_14 : decode cX0_moreWorth 14 = .ok (.getfield 57, 3) := dk_180 0 57 (dk_at dksX0_moreWorth_0 14 rfl rfl)
theorem dX0_moreWorth_17 : decode cX0_moreWorth 17 = .ok (.iload_n 3, 1) := dk_29 (dk_at dksX0_moreWorth_0 17 rfl rfl)
theorem dX0_moreWorth_18 : decode cX0_moreWorth 18 = .ok (.iconst 1, 1) := dk_4 (dk_at dksX0_moreWorth_0 18 rfl rfl)
theorem dX0_moreWorth_19 : decode cX0_moreWorth 19 = .ok (.iload_n 2, 1) := dk_28 (dk_at dksX0_moreWorth_0 19 rfl rfl)
theorem dX0_moreWorth_20 : decode cX0_moreWorth 20 = .ok (.ishl, 1) := dk_120 (dk_at dksX0_moreWorth_0 20 rfl rfl)
theorem dX0_moreWorth_21 : decode cX0_moreWorth 21 = .ok (.ior, 1) := dk_128 (dk_at dksX0_moreWorth_0 21 rfl rfl)
theorem dX0_moreWorth_22 : decode cX0_moreWorth 22 = .ok (.iaload, 1) := dk_46 (dk_at dksX0_moreWorth_0 22 rfl rfl)
theorem dX0_moreWorth_23 : decode cX0_moreWorth 23 = .ok (.aload_n 0, 1) := dk_42 (dk_at dksX0_moreWorth_0 23 rfl rfl)
theorem dX0_moreWorth_24 : decode cX0_moreWorth 24 = .ok (.getfield 57, 3) := dk_180 0 57 (dk_at dksX0_moreWorth_1 0 rfl rfl)
theorem dX0_moreWorth_27 : decode cX0_moreWorth 27 = .ok (.iload_n 3, 1) := dk_29 (dk_at dksX0_moreWorth_1 3 rfl rfl)
theorem dX0_moreWorth_28 : decode cX0_moreWorth 28 = .ok (.iaload, 1) := dk_46 (dk_at dksX0_moreWorth_1 4 rfl rfl)
theorem dX0_moreWorth_29 : decode cX0_moreWorth 29 = .ok (.isub, 1) := dk_100 (dk_at dksX0_moreWorth_1 5 rfl rfl)
theorem dX0_moreWorth_30 : decode cX0_moreWorth 30 = .ok (.ireturn, 1) := dk_172 (dk_at dksX0_moreWorth_1 6 rfl rfl)
abbrev cX0_cry : ByteArray := prog_1_method_61_code
def yX0_cry : MethodName := ⟨RX0, "cry", "(II)I"⟩
def dkwX0_cry_7 : List UInt8 := [132, 6, 1, 167, 255, 141, 28, 154, 0, 8, 21, 4, 167, 0, 5, 21, 5, 172]
abbrev dktX0_cry_7 : List UInt8 := dkwX0_cry_7 ++ []
def dkwX0_cry_6 : List UInt8 := [182, 1, 135, 21, 5, 163, 0, 6, 167, 0, 16, 21, 6, 54, 4, 42, 27, 21, 6, 182, 1, 135, 54, 5]
abbrev dktX0_cry_6 : List UInt8 := dkwX0_cry_6 ++ dktX0_cry_7
def dkwX0_cry_5 : List UInt8 := [132, 8, 1, 167, 255, 200, 21, 7, 153, 0, 38, 21, 4, 16, 254, 159, 0, 18, 42, 27, 21, 6]
abbrev dktX0_cry_5 : List UInt8 := dkwX0_cry_5 ++ dktX0_cry_6
def dkwX0_cry_4 : List UInt8 := [21, 8, 182, 0, 153, 192, 0, 157, 180, 0, 159, 21, 6, 160, 0, 7, 4, 167, 0, 4, 3, 54, 7]
abbrev dktX0_cry_4 : List UInt8 := dkwX0_cry_4 ++ dktX0_cry_5
def dkwX0_cry_3 : List UInt8 := [162, 0, 53, 21, 7, 154, 0, 35, 29, 21, 8, 184, 0, 175, 153, 0, 30, 42, 180, 0, 12, 180, 0, 93]
abbrev dktX0_cry_3 : List UInt8 := dkwX0_cry_3 ++ dktX0_cry_4
def dkwX0_cry_2 : List UInt8 := [54, 5, 3, 54, 6, 21, 6, 16, 99, 163, 0, 114, 3, 54, 7, 3, 54, 8, 21, 8, 42, 182, 0, 103]
abbrev dktX0_cry_2 : List UInt8 := dkwX0_cry_2 ++ dktX0_cry_3
def dkwX0_cry_1 : List UInt8 := [42, 180, 0, 12, 27, 182, 0, 195, 42, 180, 0, 12, 180, 0, 112, 2, 130, 126, 62, 16, 254, 54, 4, 3]
abbrev dktX0_cry_1 : List UInt8 := dkwX0_cry_1 ++ dktX0_cry_2
def dkwX0_cry_0 : List UInt8 := [42, 27, 182, 0, 186, 153, 0, 13, 28, 133, 9, 10, 184, 0, 106, 154, 0, 5, 2, 172, 42, 180, 0, 19]
abbrev dktX0_cry_0 : List UInt8 := dkwX0_cry_0 ++ dktX0_cry_1
theorem dksX0_cry_0 : cX0_cry.data.toList.drop 0 = dktX0_cry_0 := by decide +kernel
theorem dksX0_cry_1 : cX0_cry.data.toList.drop 24 = dktX0_cry_1 := dk_seg dksX0_cry_0 24 rfl rfl
theorem dksX0_cry_2 : cX0_cry.data.toList.drop 48 = dktX0_cry_2 := dk_seg dksX0_cry_1 24 rfl rfl
theorem dksX0_cry_3 : cX0_cry.data.toList.drop 72 = dktX0_cry_3 := dk_seg dksX0_cry_2 24 rfl rfl
theorem dksX0_cry_4 : cX0_cry.data.toList.drop 96 = dktX0_cry_4 := dk_seg dksX0_cry_3 24 rfl rfl
theorem dksX0_cry_5 : cX0_cry.data.toList.drop 119 = dktX0_cry_5 := dk_seg dksX0_cry_4 23 rfl rfl
theorem dksX0_cry_6 : cX0_cry.data.toList.drop 141 = dktX0_cry_6 := dk_seg dksX0_cry_5 22 rfl rfl
theorem dksX0_cry_7 : cX0_cry.data.toList.drop 165 = dktX0_cry_7 := dk_seg dksX0_cry_6 24 rfl rfl
theorem dX0_cry_0 : decode cX0_cry 0 = .ok (.aload_n 0, 1) := dk_42 (dk_at dksX0_cry_0 0 rfl rfl)
theorem dX0_cry_1 : decode cX0_cry 1 = .ok (.iload_n 1, 1) := dk_27 (dk_at dksX0_cry_0 1 rfl rfl)
theorem dX0_cry_2 : decode cX0_cry 2 = .ok (.invokevirtual 186, 3) := dk_182 0 186 (dk_at dksX0_cry_0 2 rfl rfl)
theorem dX0_cry_5 : decode cX0_cry 5 = .ok (.ifCond .eq 13, 3) := dk_153 0 13 (dk_at dksX0_cry_0 5 rfl rfl)
theorem dX0_cry_8 : decode cX0_cry 8 = .ok (.iload_n 2, 1) := dk_28 (dk_at dksX0_cry_0 8 rfl rfl)
theorem dX0_cry_9 : decode cX0_cry 9 = .ok (.i2l, 1) := dk_133 (dk_at dksX0_cry_0 9 rfl rfl)
theorem dX0_cry_10 : decode cX0_cry 10 = .ok (.lconst 0, 1) := dk_9 (dk_at dksX0_cry_0 10 rfl rfl)
theorem dX0_cry_11 : decode cX0_cry 11 = .ok (.lconst 1, 1) := dk_10 (dk_at dksX0_cry_0 11 rfl rfl)
theorem dX0_cry_12 : decode cX0_cry 12 = .ok (.invokestatic 106, 3) := dk_184 0 106 (dk_at dksX0_cry_0 12 rfl rfl)
theorem dX0_cry_15 : decode cX0_cry 15 = .ok (.ifCond .ne 5, 3) := dk_154 0 5 (dk_at dksX0_cry_0 15 rfl rfl)
theorem dX0_cry_18 : decode cX0_cry 18 = .ok (.iconst (-1), 1) := dk_2 (dk_at dksX0_cry_0 18 rfl rfl)
theorem dX0_cry_19 : decode cX0_cry 19 = .ok (.ireturn, 1) := dk_172 (dk_at dksX0_cry_0 19 rfl rfl)
theorem dX0_cry_20 : decode cX0_cry 20 = .ok (.aload_n 0, 1) := dk_42 (dk_at dksX0_cry_0 20 rfl rfl)
theorem dX0_cry_21 : decode cX0_cry 21 = .ok (.getfield 19, 3) := dk_180 0 19 (dk_at dksX0_cry_0 21 rfl rfl)
theorem dX0_cry_24 : decode cX0_cry 24 = .ok (.aload_n 0, 1) := dk_42 (dk_at dksX0_cry_1 0 rfl rfl)
theorem dX0_cry_25 : decode cX0_cry 25 = .ok (.getfield 12, 3) := dk_180 0 12 (dk_at dksX0_cry_1 1 rfl rfl)
theorem dX0_cry_28 : decode cX0_cry 28 = .ok (.iload_n 1, 1) := dk_27 (dk_at dksX0_cry_1 4 rfl rfl)
theorem dX0_cry_29 : decode cX0_cry 29 = .ok (.invokevirtual 195, 3) := dk_182 0 195 (dk_at dksX0_cry_1 5 rfl rfl)
theorem dX0_cry_32 : decode cX0_cry 32 = .ok (.aload_n 0, 1) := dk_42 (dk_at dksX0_cry_1 8 rfl rfl)
theorem dX0_cry_33 : decode cX0_cry 33 = .ok (.getfield 12, 3) := dk_180 0 12 (dk_at dksX0_cry_1 9 rfl rfl)
theorem dX0_cry_36 : decode cX0_cry 36 = .ok (.getfield 112, 3) := dk_180 0 112 (dk_at dksX0_cry_1 12 rfl rfl)
theorem dX0_cry_39 : decode cX0_cry 39 = .ok (.iconst (-1), 1) := dk_2 (dk_at dksX0_cry_1 15 rfl rfl)
theorem dX0_cry_40 : decode cX0_cry 40 = .ok (.ixor, 1) := dk_130 (dk_at dksX0_cry_1 16 rfl rfl)
theorem dX0_cry_41 : decode cX0_cry 41 = .ok (.iand, 1) := dk_126 (dk_at dksX0_cry_1 17 rfl rfl)
theorem dX0_cry_42 : decode cX0_cry 42 = .ok (.istore_n 3, 1) := dk_62 (dk_at dksX0_cry_1 18 rfl rfl)
theorem dX0_cry_43 : decode cX0_cry 43 = .ok (.bipush (-2), 2) := dk_16 254 (dk_at dksX0_cry_1 19 rfl rfl)
theorem dX0_cry_45 : decode cX0_cry 45 = .ok (.istore 4, 2) := dk_54 4 (dk_at dksX0_cry_1 21 rfl rfl)
theorem dX0_cry_47 : decode cX0_cry 47 = .ok (.iconst 0, 1) := dk_3 (dk_at dksX0_cry_1 23 rfl rfl)
theorem dX0_cry_48 : decode cX0_cry 48 = .ok (.istore 5, 2) := dk_54 5 (dk_at dksX0_cry_2 0 rfl rfl)
theorem dX0_cry_50 : decode cX0_cry 50 = .ok (.iconst 0, 1) := dk_3 (dk_at dksX0_cry_2 2 rfl rfl)
theorem dX0_cry_51 : decode cX0_cry 51 = .ok (.istore 6, 2) := dk_54 6 (dk_at dksX0_cry_2 3 rfl rfl)
theorem dX0_cry_53 : decode cX0_cry 53 = .ok (.iload 6, 2) := dk_21 6 (dk_at dksX0_cry_2 5 rfl rfl)
theorem dX0_cry_55 : decode cX0_cry 55 = .ok (.bipush 99, 2) := dk_16 99 (dk_at dksX0_cry_2 7 rfl rfl)
theorem dX0_cry_57 : decode cX0_cry 57 = .ok (.if_icmp .gt 114, 3) := dk_163 0 114 (dk_at dksX0_cry_2 9 rfl rfl)
theorem dX0_cry_60 : decode cX0_cry 60 = .ok (.iconst 0, 1) := dk_3 (dk_at dksX0_cry_2 12 rfl rfl)
theorem dX0_cry_61 : decode cX0_cry 61 = .ok (.istore 7, 2) := dk_54 7 (dk_at dksX0_cry_2 13 rfl rfl)
theorem dX0_cry_63 : decode cX0_cry 63 = .ok (.iconst 0, 1) := dk_3 (dk_at dksX0_cry_2 15 rfl rfl)
theorem dX0_cry_64 : decode cX0_cry 64 = .ok (.istore 8, 2) := dk_54 8 (dk_at dksX0_cry_2 16 rfl rfl)
theorem dX0_cry_66 : decode cX0_cry 66 = .ok (.iload 8, 2) := dk_21 8 (dk_at dksX0_cry_2 18 rfl rfl)
theorem dX0_cry_68 : decode cX0_cry 68 = .ok (.aload_n 0, 1) := dk_42 (dk_at dksX0_cry_2 20 rfl rfl)
theorem dX0_cry_69 : decode cX0_cry 69 = .ok (.invokevirtual 103, 3) := dk_182 0 103 (dk_at dksX0_cry_2 21 rfl rfl)
theorem dX0_cry_72 : decode cX0_cry 72 = .ok (.if_icmp .ge 53, 3) := dk_162 0 53 (dk_at dksX0_cry_3 0 rfl rfl)
theorem dX0_cry_75 : decode cX0_cry 75 = .ok (.iload 7, 2) := dk_21 7 (dk_at dksX0_cry_3 3 rfl rfl)
theorem dX0_cry_77 : decode cX0_cry 77 = .ok (.ifCond .ne 35, 3) := dk_154 0 35 (dk_at dksX0_cry_3 5 rfl rfl)
theorem dX0_cry_80 : decode cX0_cry 80 = .ok (.iload_n 3, 1) := dk_29 (dk_at dksX0_cry_3 8 rfl rfl)
theorem dX0_cry_81 : decode cX0_cry 81 = .ok (.iload 8, 2) := dk_21 8 (dk_at dksX0_cry_3 9 rfl rfl)
theorem dX0_cry_83 : decode cX0_cry 83 = .ok (.invokestatic 175, 3) := dk_184 0 175 (dk_at dksX0_cry_3 11 rfl rfl)
theorem dX0_cry_86 : decode cX0_cry 86 = .ok (.ifCond .eq 30, 3) := dk_153 0 30 (dk_at dksX0_cry_3 14 rfl rfl)
theorem dX0_cry_89 : decode cX0_cry 89 = .ok (.aload_n 0, 1) := dk_42 (dk_at dksX0_cry_3 17 rfl rfl)
theorem dX0_cry_90 : decode cX0_cry 90 = .ok (.getfield 12, 3) := dk_180 0 12 (dk_at dksX0_cry_3 18 rfl rfl)
theorem dX0_cry_93 : decode cX0_cry 93 = .ok (.getfield 93, 3) := dk_180 0 93 (dk_at dksX0_cry_3 21 rfl rfl)
theorem dX0_cry_96 : decode cX0_cry 96 = .ok (.iload 8, 2) := dk_21 8 (dk_at dksX0_cry_4 0 rfl rfl)
theorem dX0_cry_98 : decode cX0_cry 98 = .ok (.invokevirtual 153, 3) := dk_182 0 153 (dk_at dksX0_cry_4 2 rfl rfl)
theorem dX0_cry_101 : decode cX0_cry 101 = .ok (.checkcast 157, 3) := dk_192 0 157 (dk_at dksX0_cry_4 5 rfl rfl)
theorem dX0_cry_104 : decode cX0_cry 104 = .ok (.getfield 159, 3) := dk_180 0 159 (dk_at dksX0_cry_4 8 rfl rfl)
theorem dX0_cry_107 : decode cX0_cry 107 = .ok (.iload 6, 2) := dk_21 6 (dk_at dksX0_cry_4 11 rfl rfl)
theorem dX0_cry_109 : decode cX0_cry 109 = .ok (.if_icmp .ne 7, 3) := dk_160 0 7 (dk_at dksX0_cry_4 13 rfl rfl)
theorem dX0_cry_112 : decode cX0_cry 112 = .ok (.iconst 1, 1) := dk_4 (dk_at dksX0_cry_4 16 rfl rfl)
theorem dX0_cry_113 : decode cX0_cry 113 = .ok (.goto 4, 3) := dk_167 0 4 (dk_at dksX0_cry_4 17 rfl rfl)
theorem dX0_cry_116 : decode cX0_cry 116 = .ok (.iconst 0, 1) := dk_3 (dk_at dksX0_cry_4 20 rfl rfl)
theorem dX0_cry_117 : decode cX0_cry 117 = .ok (.istore 7, 2) := dk_54 7 (dk_at dksX0_cry_4 21 rfl rfl)
theorem dX0_cry_119 : decode cX0_cry 119 = .ok (.iinc 8 1, 3) := dk_132 8 1 (dk_at dksX0_cry_5 0 rfl rfl)
theorem dX0_cry_122 : decode cX0_cry 122 = .ok (.goto (-56), 3) := dk_167 255 200 (dk_at dksX0_cry_5 3 rfl rfl)
theorem dX0_cry_125 : decode cX0_cry 125 = .ok (.iload 7, 2) := dk_21 7 (dk_at dksX0_cry_5 6 rfl rfl)
theorem dX0_cry_127 : decode cX0_cry 127 = .ok (.ifCond .eq 38, 3) := dk_153 0 38 (dk_at dksX0_cry_5 8 rfl rfl)
theorem dX0_cry_130 : decode cX0_cry 130 = .ok (.iload 4, 2) := dk_21 4 (dk_at dksX0_cry_5 11 rfl rfl)
theorem dX0_cry_132 : decode cX0_cry 132 = .ok (.bipush (-2), 2) := dk_16 254 (dk_at dksX0_cry_5 13 rfl rfl)
theorem dX0_cry_134 : decode cX0_cry 134 = .ok (.if_icmp .eq 18, 3) := dk_159 0 18 (dk_at dksX0_cry_5 15 rfl rfl)
theorem dX0_cry_137 : decode cX0_cry 137 = .ok (.aload_n 0, 1) := dk_42 (dk_at dksX0_cry_5 18 rfl rfl)
theorem dX0_cry_138 : decode cX0_cry 138 = .ok (.iload_n 1, 1) := dk_27 (dk_at dksX0_cry_5 19 rfl rfl)
theorem dX0_cry_139 : decode cX0_cry 139 = .ok (.iload 6, 2) := dk_21 6 (dk_at dksX0_cry_5 20 rfl rfl)
theorem dX0_cry_141 : decode cX0_cry 141 = .ok (.invokevirtual 391, 3) := dk_182 1 135 (dk_at dksX0_cry_6 0 rfl rfl)
theorem dX0_cry_144 : decode cX0_cry 144 = .ok (.iload 5, 2) := dk_21 5 (dk_at dksX0_cry_6 3 rfl rfl)
theorem dX0_cry_146 : decode cX0_cry 146 = .ok (.if_icmp .gt 6, 3) := dk_163 0 6 (dk_at dksX0_cry_6 5 rfl rfl)
theorem dX0_cry_149 : decode cX0_cry 149 = .ok (.goto 16, 3) := dk_167 0 16 (dk_at dksX0_cry_6 8 rfl rfl)
theorem dX0_cry_152 : decode cX0_cry 152 = .ok (.iload 6, 2) := dk_21 6 (dk_at dksX0_cry_6 11 rfl rfl)
theorem dX0_cry_154 : decode cX0_cry 154 = .ok (.istore 4, 2) := dk_54 4 (dk_at dksX0_cry_6 13 rfl rfl)
theorem dX0_cry_156 : decode cX0_cry 156 = .ok (.aload_n 0, 1) := dk_42 (dk_at dksX0_cry_6 15 rfl rfl)
theorem dX0_cry_157 : decode cX0_cry 157 = .ok (.iload_n 1, 1) := dk_27 (dk_at dksX0_cry_6 16 rfl rfl)
theorem dX0_cry_158 : decode cX0_cry 158 = .ok (.iload 6, 2) := dk_21 6 (dk_at dksX0_cry_6 17 rfl rfl)
theorem dX0_cry_160 : decode cX0_cry 160 = .ok (.invokevirtual 391, 3) := dk_182 1 135 (dk_at dksX0_cry_6 19 rfl rfl)
theorem dX0_cry_163 : decode cX0_cry 163 = .ok (.istore 5, 2) := dk_54 5 (dk_at dksX0_cry_6 22 rfl rfl)
theorem dX0_cry_165 : decode cX0_cry 165 = .ok (.iinc 6 1, 3) := dk_132 6 1 (dk_at dksX0_cry_7 0 rfl rfl)
theorem dX0_cry_168 : decode cX0_cry 168 = .ok (.goto (-115), 3) := dk_167 255 141 (dk_at dksX0_cry_7 3 rfl rfl)
theorem dX0_cry_171 : decode cX0_cry 171 = .ok (.iload_n 2, 1) := dk_28 (dk_at dksX0_cry_7 6 rfl rfl)
theorem dX0_cry_172 : decode cX0_cry 172 = .ok (.ifCond .ne 8, 3) := dk_154 0 8 (dk_at dksX0_cry_7 7 rfl rfl)
theorem dX0_cry_175 : decode cX0_cry 175 = .ok (.iload 4, 2) := dk_21 4 (dk_at dksX0_cry_7 10 rfl rfl)
theorem dX0_cry_177 : decode cX0_cry 177 = .ok (.goto 5, 3) := dk_167 0 5 (dk_at dksX0_cry_7 12 rfl rfl)
theorem dX0_cry_180 : decode cX0_cry 180 = .ok (.iload 5, 2) := dk_21 5 (dk_at dksX0_cry_7 15 rfl rfl)
theorem dX0_cry_182 : decode cX0_cry 182 = .ok (.ireturn, 1) := dk_172 (dk_at dksX0_cry_7 17 rfl rfl)
abbrev cX0_criedBy : ByteArray := prog_1_method_60_code
def yX0_criedBy : MethodName := ⟨RX0, "criedBy", "(II)I"⟩
def dkwX0_criedBy_7 : List UInt8 := [21, 5, 172]
abbrev dktX0_criedBy_7 : List UInt8 := dkwX0_criedBy_7 ++ []
def dkwX0_criedBy_6 : List UInt8 := [184, 0, 175, 153, 0, 7, 4, 167, 0, 4, 3, 184, 0, 179, 96, 54, 5, 132, 6, 1, 167, 255, 130]
abbrev dktX0_criedBy_6 : List UInt8 := dkwX0_criedBy_6 ++ dktX0_criedBy_7
def dkwX0_criedBy_5 : List UInt8 := [167, 0, 4, 3, 54, 7, 132, 8, 1, 167, 255, 179, 21, 5, 21, 7, 153, 0, 17, 21, 4, 21, 6]
abbrev dktX0_criedBy_5 : List UInt8 := dkwX0_criedBy_5 ++ dktX0_criedBy_6
def dkwX0_criedBy_4 : List UInt8 := [192, 0, 157, 180, 0, 159, 28, 160, 0, 19, 42, 21, 8, 21, 6, 182, 0, 183, 5, 160, 0, 7, 4]
abbrev dktX0_criedBy_4 : List UInt8 := dkwX0_criedBy_4 ++ dktX0_criedBy_5
def dkwX0_criedBy_3 : List UInt8 := [2, 130, 126, 21, 8, 184, 0, 175, 153, 0, 41, 42, 180, 0, 12, 180, 0, 93, 21, 8, 182, 0, 153]
abbrev dktX0_criedBy_3 : List UInt8 := dkwX0_criedBy_3 ++ dktX0_criedBy_4
def dkwX0_criedBy_2 : List UInt8 := [54, 8, 21, 8, 42, 182, 0, 103, 162, 0, 74, 21, 7, 154, 0, 56, 29, 42, 180, 0, 12, 180, 0, 112]
abbrev dktX0_criedBy_2 : List UInt8 := dkwX0_criedBy_2 ++ dktX0_criedBy_3
def dkwX0_criedBy_1 : List UInt8 := [182, 1, 126, 54, 4, 3, 54, 5, 3, 54, 6, 21, 6, 42, 182, 0, 103, 162, 0, 123, 3, 54, 7, 3]
abbrev dktX0_criedBy_1 : List UInt8 := dkwX0_criedBy_1 ++ dktX0_criedBy_2
def dkwX0_criedBy_0 : List UInt8 := [42, 180, 0, 19, 42, 180, 0, 12, 27, 182, 0, 195, 62, 42, 180, 0, 19, 42, 180, 0, 12, 27]
abbrev dktX0_criedBy_0 : List UInt8 := dkwX0_criedBy_0 ++ dktX0_criedBy_1
theorem dksX0_criedBy_0 : cX0_criedBy.data.toList.drop 0 = dktX0_criedBy_0 := by decide +kernel
theorem dksX0_criedBy_1 : cX0_criedBy.data.toList.drop 22 = dktX0_criedBy_1 := dk_seg dksX0_criedBy_0 22 rfl rfl
theorem dksX0_criedBy_2 : cX0_criedBy.data.toList.drop 46 = dktX0_criedBy_2 := dk_seg dksX0_criedBy_1 24 rfl rfl
theorem dksX0_criedBy_3 : cX0_criedBy.data.toList.drop 70 = dktX0_criedBy_3 := dk_seg dksX0_criedBy_2 24 rfl rfl
theorem dksX0_criedBy_4 : cX0_criedBy.data.toList.drop 93 = dktX0_criedBy_4 := dk_seg dksX0_criedBy_3 23 rfl rfl
theorem dksX0_criedBy_5 : cX0_criedBy.data.toList.drop 116 = dktX0_criedBy_5 := dk_seg dksX0_criedBy_4 23 rfl rfl
theorem dksX0_criedBy_6 : cX0_criedBy.data.toList.drop 139 = dktX0_criedBy_6 := dk_seg dksX0_criedBy_5 23 rfl rfl
theorem dksX0_criedBy_7 : cX0_criedBy.data.toList.drop 162 = dktX0_criedBy_7 := dk_seg dksX0_criedBy_6 23 rfl rfl
theorem dX0_criedBy_0 : decode cX0_criedBy 0 = .ok (.aload_n 0, 1) := dk_42 (dk_at dksX0_criedBy_0 0 rfl rfl)
theorem dX0_criedBy_1 : decode cX0_criedBy 1 = .ok (.getfield 19, 3) := dk_180 0 19 (dk_at dksX0_criedBy_0 1 rfl rfl)
theorem dX0_criedBy_4 : decode cX0_criedBy 4 = .ok (.aload_n 0, 1) := dk_42 (dk_at dksX0_criedBy_0 4 rfl rfl)
theorem dX0_criedBy_5 : decode cX0_criedBy 5 = .ok (.getfield 12, 3) := dk_180 0 12 (dk_at dksX0_criedBy_0 5 rfl rfl)
theorem dX0_criedBy_8 : decode cX0_criedBy 8 = .ok (.iload_n 1, 1) := dk_27 (dk_at dksX0_criedBy_0 8 rfl rfl)
theorem dX0_criedBy_9 : decode cX0_criedBy 9 = .ok (.invokevirtual 195, 3) := dk_182 0 195 (dk_at dksX0_criedBy_0 9 rfl rfl)
theorem dX0_criedBy_12 : decode cX0_criedBy 12 = .ok (.istore_n 3, 1) := dk_62 (dk_at dksX0_criedBy_0 12 rfl rfl)
theorem dX0_criedBy_13 : decode cX0_criedBy 13 = .ok (.aload_n 0, 1) := dk_42 (dk_at dksX0_criedBy_0 13 rfl rfl)
theorem dX0_criedBy_14 : decode cX0_criedBy 14 = .ok (.getfield 19, 3) := dk_180 0 19 (dk_at dksX0_criedBy_0 14 rfl rfl)
theorem dX0_criedBy_17 : decode cX0_criedBy 17 = .ok (.aload_n 0, 1) := dk_42 (dk_at dksX0_criedBy_0 17 rfl rfl)
theorem dX0_criedBy_18 : decode cX0_criedBy 18 = .ok (.getfield 12, 3) := dk_180 0 12 (dk_at dksX0_criedBy_0 18 rfl rfl)
theorem dX0_criedBy_21 : decode cX0_criedBy 21 = .ok (.iload_n 1, 1) := dk_27 (dk_at dksX0_criedBy_0 21 rfl rfl)
theorem dX0_criedBy_22 : decode cX0_criedBy 22 = .ok (.invokevirtual 382, 3) := dk_182 1 126 (dk_at dksX0_criedBy_1 0 rfl rfl)
theorem dX0_criedBy_25 : decode cX0_criedBy 25 = .ok (.istore 4, 2) := dk_54 4 (dk_at dksX0_criedBy_1 3 rfl rfl)
theorem dX0_criedBy_27 : decode cX0_criedBy 27 = .ok (.iconst 0, 1) := dk_3 (dk_at dksX0_criedBy_1 5 rfl rfl)
theorem dX0_criedBy_28 : decode cX0_criedBy 28 = .ok (.istore 5, 2) := dk_54 5 (dk_at dksX0_criedBy_1 6 rfl rfl)
theorem dX0_criedBy_30 : decode cX0_criedBy 30 = .ok (.iconst 0, 1) := dk_3 (dk_at dksX0_criedBy_1 8 rfl rfl)
theorem dX0_criedBy_31 : decode cX0_criedBy 31 = .ok (.istore 6, 2) := dk_54 6 (dk_at dksX0_criedBy_1 9 rfl rfl)
theorem dX0_criedBy_33 : decode cX0_criedBy 33 = .ok (.iload 6, 2) := dk_21 6 (dk_at dksX0_criedBy_1 11 rfl rfl)
theorem dX0_criedBy_35 : decode cX0_criedBy 35 = .ok (.aload_n 0, 1) := dk_42 (dk_at dksX0_criedBy_1 13 rfl rfl)
theorem dX0_criedBy_36 : decode cX0_criedBy 36 = .ok (.invokevirtual 103, 3) := dk_182 0 103 (dk_at dksX0_criedBy_1 14 rfl rfl)
theorem dX0_criedBy_39 : decode cX0_criedBy 39 = .ok (.if_icmp .ge 123, 3) := dk_162 0 123 (dk_at dksX0_criedBy_1 17 rfl rfl)
theorem dX0_criedBy_42 : decode cX0_criedBy 42 = .ok (.iconst 0, 1) := dk_3 (dk_at dksX0_criedBy_1 20 rfl rfl)
theorem dX0_criedBy_43 : decode cX0_criedBy 43 = .ok (.istore 7, 2) := dk_54 7 (dk_at dksX0_criedBy_1 21 rfl rfl)
theorem dX0_criedBy_45 : decode cX0_criedBy 45 = .ok (.iconst 0, 1) := dk_3 (dk_at dksX0_criedBy_1 23 rfl rfl)
theorem dX0_criedBy_46 : decode cX0_criedBy 46 = .ok (.istore 8, 2) := dk_54 8 (dk_at dksX0_criedBy_2 0 rfl rfl)
theorem dX0_criedBy_48 : decode cX0_criedBy 48 = .ok (.iload 8, 2) := dk_21 8 (dk_at dksX0_criedBy_2 2 rfl rfl)
theorem dX0_criedBy_50 : decode cX0_criedBy 50 = .ok (.aload_n 0, 1) := dk_42 (dk_at dksX0_criedBy_2 4 rfl rfl)
theorem dX0_criedBy_51 : decode cX0_criedBy 51 = .ok (.invokevirtual 103, 3) := dk_182 0 103 (dk_at dksX0_criedBy_2 5 rfl rfl)
theorem dX0_criedBy_54 : decode cX0_criedBy 54 = .ok (.if_icmp .ge 74, 3) := dk_162 0 74 (dk_at dksX0_criedBy_2 8 rfl rfl)
theorem dX0_criedBy_57 : decode cX0_criedBy 57 = .ok (.iload 7, 2) := dk_21 7 (dk_at dksX0_criedBy_2 11 rfl rfl)
theorem dX0_criedBy_59 : decode cX0_criedBy 59 = .ok (.ifCond .ne 56, 3) := dk_154 0 56 (dk_at dksX0_criedBy_2 13 rfl rfl)
theorem dX0_criedBy_62 : decode cX0_criedBy 62 = .ok (.iload_n 3, 1) := dk_29 (dk_at dksX0_criedBy_2 16 rfl rfl)
theorem dX0_criedBy_63 : decode cX0_criedBy 63 = .ok (.aload_n 0, 1) := dk_42 (dk_at dksX0_criedBy_2 17 rfl rfl)
theorem dX0_criedBy_64 : decode cX0_criedBy 64 = .ok (.getfield 12, 3) := dk_180 0 12 (dk_at dksX0_criedBy_2 18 rfl rfl)
theorem dX0_criedBy_67 : decode cX0_criedBy 67 = .ok (.getfield 112, 3) := dk_180 0 112 (dk_at dksX0_criedBy_2 21 rfl rfl)
theorem dX0_criedBy_70 : decode cX0_criedBy 70 = .ok (.iconst (-1), 1) := dk_2 (dk_at dksX0_criedBy_3 0 rfl rfl)
theorem dX0_criedBy_71 : decode cX0_criedBy 71 = .ok (.ixor, 1) := dk_130 (dk_at dksX0_criedBy_3 1 rfl rfl)
theorem dX0_criedBy_72 : decode cX0_criedBy 72 = .ok (.iand, 1) := dk_126 (dk_at dksX0_criedBy_3 2 rfl rfl)
theorem dX0_criedBy_73 : decode cX0_criedBy 73 = .ok (.iload 8, 2) := dk_21 8 (dk_at dksX0_criedBy_3 3 rfl rfl)
theorem dX0_criedBy_75 : decode cX0_criedBy 75 = .ok (.invokestatic 175, 3) := dk_184 0 175 (dk_at dksX0_criedBy_3 5 rfl rfl)
theorem dX0_criedBy_78 : decode cX0_criedBy 78 = .ok (.ifCond .eq 41, 3) := dk_153 0 41 (dk_at dksX0_criedBy_3 8 rfl rfl)
theorem dX0_criedBy_81 : decode cX0_criedBy 81 = .ok (.aload_n 0, 1) := dk_42 (dk_at dksX0_criedBy_3 11 rfl rfl)
theorem dX0_criedBy_82 : decode cX0_criedBy 82 = .ok (.getfield 12, 3) := dk_180 0 12 (dk_at dksX0_criedBy_3 12 rfl rfl)
theorem dX0_criedBy_85 : decode cX0_criedBy 85 = .ok (.getfield 93, 3) := dk_180 0 93 (dk_at dksX0_criedBy_3 15 rfl rfl)
theorem dX0_criedBy_88 : decode cX0_criedBy 88 = .ok (.iload 8, 2) := dk_21 8 (dk_at dksX0_criedBy_3 18 rfl rfl)
theorem dX0_criedBy_90 : decode cX0_criedBy 90 = .ok (.invokevirtual 153, 3) := dk_182 0 153 (dk_at dksX0_criedBy_3 20 rfl rfl)
theorem dX0_criedBy_93 : decode cX0_criedBy 93 = .ok (.checkcast 157, 3) := dk_192 0 157 (dk_at dksX0_criedBy_4 0 rfl rfl)
theorem dX0_criedBy_96 : decode cX0_criedBy 96 = .ok (.getfield 159, 3) := dk_180 0 159 (dk_at dksX0_criedBy_4 3 rfl rfl)
theorem dX0_criedBy_99 : decode cX0_criedBy 99 = .ok (.iload_n 2, 1) := dk_28 (dk_at dksX0_criedBy_4 6 rfl rfl)
theorem dX0_criedBy_100 : decode cX0_criedBy 100 = .ok (.if_icmp .ne 19, 3) := dk_160 0 19 (dk_at dksX0_criedBy_4 7 rfl rfl)
theorem dX0_criedBy_103 : decode cX0_criedBy 103 = .ok (.aload_n 0, 1) := dk_42 (dk_at dksX0_criedBy_4 10 rfl rfl)
theorem dX0_criedBy_104 : decode cX0_criedBy 104 = .ok (.iload 8, 2) := dk_21 8 (dk_at dksX0_criedBy_4 11 rfl rfl)
theorem dX0_criedBy_106 : decode cX0_criedBy 106 = .ok (.iload 6, 2) := dk_21 6 (dk_at dksX0_criedBy_4 13 rfl rfl)
theorem dX0_criedBy_108 : decode cX0_criedBy 108 = .ok (.invokevirtual 183, 3) := dk_182 0 183 (dk_at dksX0_criedBy_4 15 rfl rfl)
theorem dX0_criedBy_111 : decode cX0_criedBy 111 = .ok (.iconst 2, 1) := dk_5 (dk_at dksX0_criedBy_4 18 rfl rfl)
theorem dX0_criedBy_112 : decode cX0_criedBy 112 = .ok (.if_icmp .ne 7, 3) := dk_160 0 7 (dk_at dksX0_criedBy_4 19 rfl rfl)
theorem dX0_criedBy_115 : decode cX0_criedBy 115 = .ok (.iconst 1, 1) := dk_4 (dk_at dksX0_criedBy_4 22 rfl rfl)
theorem dX0_criedBy_116 : decode cX0_criedBy 116 = .ok (.goto 4, 3) := dk_167 0 4 (dk_at dksX0_criedBy_5 0 rfl rfl)
theorem dX0_criedBy_119 : decode cX0_criedBy 119 = .ok (.iconst 0, 1) := dk_3 (dk_at dksX0_criedBy_5 3 rfl rfl)
theorem dX0_criedBy_120 : decode cX0_criedBy 120 = .ok (.istore 7, 2) := dk_54 7 (dk_at dksX0_criedBy_5 4 rfl rfl)
theorem dX0_criedBy_122 : decode cX0_criedBy 122 = .ok (.iinc 8 1, 3) := dk_132 8 1 (dk_at dksX0_criedBy_5 6 rfl rfl)
theorem dX0_criedBy_125 : decode cX0_criedBy 125 = .ok (.goto (-77), 3) := dk_167 255 179 (dk_at dksX0_criedBy_5 9 rfl rfl)
theorem dX0_criedBy_128 : decode cX0_criedBy 128 = .ok (.iload 5, 2) := dk_21 5 (dk_at dksX0_criedBy_5 12 rfl rfl)
theorem dX0_criedBy_130 : decode cX0_criedBy 130 = .ok (.iload 7, 2) := dk_21 7 (dk_at dksX0_criedBy_5 14 rfl rfl)
theorem dX0_criedBy_132 : decode cX0_criedBy 132 = .ok (.ifCond .eq 17, 3) := dk_153 0 17 (dk_at dksX0_criedBy_5 16 rfl rfl)
theorem dX0_criedBy_135 : decode cX0_criedBy 135 = .ok (.iload 4, 2) := dk_21 4 (dk_at dksX0_criedBy_5 19 rfl rfl)
theorem dX0_criedBy_137 : decode cX0_criedBy 137 = .ok (.iload 6, 2) := dk_21 6 (dk_at dksX0_criedBy_5 21 rfl rfl)
theorem dX0_criedBy_139 : decode cX0_criedBy 139 = .ok (.invokestatic 175, 3) := dk_184 0 175 (dk_at dksX0_criedBy_6 0 rfl rfl)
theorem dX0_criedBy_142 : decode cX0_criedBy 142 = .ok (.ifCond .eq 7, 3) := dk_153 0 7 (dk_at dksX0_criedBy_6 3 rfl rfl)
theorem dX0_criedBy_145 : decode cX0_criedBy 145 = .ok (.iconst 1, 1) := dk_4 (dk_at dksX0_criedBy_6 6 rfl rfl)
theorem dX0_criedBy_146 : decode cX0_criedBy 146 = .ok (.goto 4, 3) := dk_167 0 4 (dk_at dksX0_criedBy_6 7 rfl rfl)
theorem dX0_criedBy_149 : decode cX0_criedBy 149 = .ok (.iconst 0, 1) := dk_3 (dk_at dksX0_criedBy_6 10 rfl rfl)
theorem dX0_criedBy_150 : decode cX0_criedBy 150 = .ok (.invokestatic 179, 3) := dk_184 0 179 (dk_at dksX0_criedBy_6 11 rfl rfl)
theorem dX0_criedBy_153 : decode cX0_criedBy 153 = .ok (.iadd, 1) := dk_96 (dk_at dksX0_criedBy_6 14 rfl rfl)
theorem dX0_criedBy_154 : decode cX0_criedBy 154 = .ok (.istore 5, 2) := dk_54 5 (dk_at dksX0_criedBy_6 15 rfl rfl)
theorem dX0_criedBy_156 : decode cX0_criedBy 156 = .ok (.iinc 6 1, 3) := dk_132 6 1 (dk_at dksX0_criedBy_6 17 rfl rfl)
theorem dX0_criedBy_159 : decode cX0_criedBy 159 = .ok (.goto (-126), 3) := dk_167 255 130 (dk_at dksX0_criedBy_6 20 rfl rfl)
theorem dX0_criedBy_162 : decode cX0_criedBy 162 = .ok (.iload 5, 2) := dk_21 5 (dk_at dksX0_criedBy_7 0 rfl rfl)
theorem dX0_criedBy_164 : decode cX0_criedBy 164 = .ok (.ireturn, 1) := dk_172 (dk_at dksX0_criedBy_7 2 rfl rfl)
abbrev cX0_bring : ByteArray := prog_1_method_63_code
def yX0_bring : MethodName := ⟨RX0, "bring", "(III)I"⟩
def dkwX0_bring_5 : List UInt8 := [21, 7, 54, 5, 132, 6, 1, 167, 255, 173, 29, 154, 0, 8, 21, 4, 167, 0, 5, 21, 5, 172]
abbrev dktX0_bring_5 : List UInt8 := dkwX0_bring_5 ++ []
def dkwX0_bring_4 : List UInt8 := [159, 0, 28, 21, 4, 16, 254, 159, 0, 13, 21, 7, 21, 5, 161, 0, 6, 167, 0, 11, 21, 6, 54, 4]
abbrev dktX0_bring_4 : List UInt8 := dkwX0_bring_4 ++ dktX0_bring_5
def dkwX0_bring_3 : List UInt8 := [28, 21, 6, 42, 180, 0, 31, 27, 182, 0, 153, 192, 1, 65, 182, 1, 138, 54, 7, 21, 7, 2]
abbrev dktX0_bring_3 : List UInt8 := dkwX0_bring_3 ++ dktX0_bring_4
def dkwX0_bring_2 : List UInt8 := [180, 0, 89, 162, 0, 77, 21, 6, 42, 180, 0, 19, 180, 0, 172, 28, 46, 160, 0, 6, 167, 0, 54, 42]
abbrev dktX0_bring_2 : List UInt8 := dkwX0_bring_2 ++ dktX0_bring_3
def dkwX0_bring_1 : List UInt8 := [154, 0, 5, 2, 172, 16, 254, 54, 4, 16, 254, 54, 5, 3, 54, 6, 21, 6, 42, 180, 0, 12]
abbrev dktX0_bring_1 : List UInt8 := dkwX0_bring_1 ++ dktX0_bring_2
def dkwX0_bring_0 : List UInt8 := [42, 27, 182, 1, 80, 153, 0, 21, 42, 28, 182, 0, 149, 153, 0, 13, 29, 133, 9, 10, 184, 0, 106]
abbrev dktX0_bring_0 : List UInt8 := dkwX0_bring_0 ++ dktX0_bring_1
theorem dksX0_bring_0 : cX0_bring.data.toList.drop 0 = dktX0_bring_0 := by decide +kernel
theorem dksX0_bring_1 : cX0_bring.data.toList.drop 23 = dktX0_bring_1 := dk_seg dksX0_bring_0 23 rfl rfl
theorem dksX0_bring_2 : cX0_bring.data.toList.drop 45 = dktX0_bring_2 := dk_seg dksX0_bring_1 22 rfl rfl
theorem dksX0_bring_3 : cX0_bring.data.toList.drop 69 = dktX0_bring_3 := dk_seg dksX0_bring_2 24 rfl rfl
theorem dksX0_bring_4 : cX0_bring.data.toList.drop 91 = dktX0_bring_4 := dk_seg dksX0_bring_3 22 rfl rfl
theorem dksX0_bring_5 : cX0_bring.data.toList.drop 115 = dktX0_bring_5 := dk_seg dksX0_bring_4 24 rfl rfl
theorem dX0_bring_0 : decode cX0_bring 0 = .ok (.aload_n 0, 1) := dk_42 (dk_at dksX0_bring_0 0 rfl rfl)
theorem dX0_bring_1 : decode cX0_bring 1 = .ok (.iload_n 1, 1) := dk_27 (dk_at dksX0_bring_0 1 rfl rfl)
theorem dX0_bring_2 : decode cX0_bring 2 = .ok (.invokevirtual 336, 3) := dk_182 1 80 (dk_at dksX0_bring_0 2 rfl rfl)
theorem dX0_bring_5 : decode cX0_bring 5 = .ok (.ifCond .eq 21, 3) := dk_153 0 21 (dk_at dksX0_bring_0 5 rfl rfl)
theorem dX0_bring_8 : decode cX0_bring 8 = .ok (.aload_n 0, 1) := dk_42 (dk_at dksX0_bring_0 8 rfl rfl)
theorem dX0_bring_9 : decode cX0_bring 9 = .ok (.iload_n 2, 1) := dk_28 (dk_at dksX0_bring_0 9 rfl rfl)
theorem dX0_bring_10 : decode cX0_bring 10 = .ok (.invokevirtual 149, 3) := dk_182 0 149 (dk_at dksX0_bring_0 10 rfl rfl)
theorem dX0_bring_13 : decode cX0_bring 13 = .ok (.ifCond .eq 13, 3) := dk_153 0 13 (dk_at dksX0_bring_0 13 rfl rfl)
theorem dX0_bring_16 : decode cX0_bring 16 = .ok (.iload_n 3, 1) := dk_29 (dk_at dksX0_bring_0 16 rfl rfl)
theorem dX0_bring_17 : decode cX0_bring 17 = .ok (.i2l, 1) := dk_133 (dk_at dksX0_bring_0 17 rfl rfl)
theorem dX0_bring_18 : decode cX0_bring 18 = .ok (.lconst 0, 1) := dk_9 (dk_at dksX0_bring_0 18 rfl rfl)
theorem dX0_bring_19 : decode cX0_bring 19 = .ok (.lconst 1, 1) := dk_10 (dk_at dksX0_bring_0 19 rfl rfl)
theorem dX0_bring_20 : decode cX0_bring 20 = .ok (.invokestatic 106, 3) := dk_184 0 106 (dk_at dksX0_bring_0 20 rfl rfl)
theorem dX0_bring_23 : decode cX0_bring 23 = .ok (.ifCond .ne 5, 3) := dk_154 0 5 (dk_at dksX0_bring_1 0 rfl rfl)
theorem dX0_bring_26 : decode cX0_bring 26 = .ok (.iconst (-1), 1) := dk_2 (dk_at dksX0_bring_1 3 rfl rfl)
theorem dX0_bring_27 : decode cX0_bring 27 = .ok (.ireturn, 1) := dk_172 (dk_at dksX0_bring_1 4 rfl rfl)
theorem dX0_bring_28 : decode cX0_bring 28 = .ok (.bipush (-2), 2) := dk_16 254 (dk_at dksX0_bring_1 5 rfl rfl)
theorem dX0_bring_30 : decode cX0_bring 30 = .ok (.istore 4, 2) := dk_54 4 (dk_at dksX0_bring_1 7 rfl rfl)
theorem dX0_bring_32 : decode cX0_bring 32 = .ok (.bipush (-2), 2) := dk_16 254 (dk_at dksX0_bring_1 9 rfl rfl)
theorem dX0_bring_34 : decode cX0_bring 34 = .ok (.istore 5, 2) := dk_54 5 (dk_at dksX0_bring_1 11 rfl rfl)
theorem dX0_bring_36 : decode cX0_bring 36 = .ok (.iconst 0, 1) := dk_3 (dk_at dksX0_bring_1 13 rfl rfl)
theorem dX0_bring_37 : decode cX0_bring 37 = .ok (.istore 6, 2) := dk_54 6 (dk_at dksX0_bring_1 14 rfl rfl)
theorem dX0_bring_39 : decode cX0_bring 39 = .ok (.iload 6, 2) := dk_21 6 (dk_at dksX0_bring_1 16 rfl rfl)
theorem dX0_bring_41 : decode cX0_bring 41 = .ok (.aload_n 0, 1) := dk_42 (dk_at dksX0_bring_1 18 rfl rfl)
theorem dX0_bring_42 : decode cX0_bring 42 = .ok (.getfield 12, 3) := dk_180 0 12 (dk_at dksX0_bring_1 19 rfl rfl)
theorem dX0_bring_45 : decode cX0_bring 45 = .ok (.getfield 89, 3) := dk_180 0 89 (dk_at dksX0_bring_2 0 rfl rfl)
theorem dX0_bring_48 : decode cX0_bring 48 = .ok (.if_icmp .ge 77, 3) := dk_162 0 77 (dk_at dksX0_bring_2 3 rfl rfl)
theorem dX0_bring_51 : decode cX0_bring 51 = .ok (.iload 6, 2) := dk_21 6 (dk_at dksX0_bring_2 6 rfl rfl)
theorem dX0_bring_53 : decode cX0_bring 53 = .ok (.aload_n 0, 1) := dk_42 (dk_at dksX0_bring_2 8 rfl rfl)
theorem dX0_bring_54 : decode cX0_bring 54 = .ok (.getfield 19, 3) := dk_180 0 19 (dk_at dksX0_bring_2 9 rfl rfl)
theorem dX0_bring_57 : decode cX0_bring 57 = .ok (.getfield 172, 3) := dk_180 0 172 (dk_at dksX0_bring_2 12 rfl rfl)
theorem dX0_bring_60 : decode cX0_bring 60 = .ok (.iload_n 2, 1) := dk_28 (dk_at dksX0_bring_2 15 rfl rfl)
theorem dX0_bring_61 : decode cX0_bring 61 = .ok (.iaload, 1) := dk_46 (dk_at dksX0_bring_2 16 rfl rfl)
theorem dX0_bring_62 : decode cX0_bring 62 = .ok (.if_icmp .ne 6, 3) := dk_160 0 6 (dk_at dksX0_bring_2 17 rfl rfl)
theorem dX0_bring_65 : decode cX0_bring 65 = .ok (.goto 54, 3) := dk_167 0 54 (dk_at dksX0_bring_2 20 rfl rfl)
theorem dX0_bring_68 : decode cX0_bring 68 = .ok (.aload_n 0, 1) := dk_42 (dk_at dksX0_bring_2 23 rfl rfl)
theorem dX0_bring_69 : decode cX0_bring 69 = .ok (.iload_n 2, 1) := dk_28 (dk_at dksX0_bring_3 0 rfl rfl)
theorem dX0_bring_70 : decode cX0_bring 70 = .ok (.iload 6, 2) := dk_21 6 (dk_at dksX0_bring_3 1 rfl rfl)
theorem dX0_bring_72 : decode cX0_bring 72 = .ok (.aload_n 0, 1) := dk_42 (dk_at dksX0_bring_3 3 rfl rfl)
theorem dX0_bring_73 : decode cX0_bring 73 = .ok (.getfield 31, 3) := dk_180 0 31 (dk_at dksX0_bring_3 4 rfl rfl)
theorem dX0_bring_76 : decode cX0_bring 76 = .ok (.iload_n 1, 1) := dk_27 (dk_at dksX0_bring_3 7 rfl rfl)
theorem dX0_bring_77 : decode cX0_bring 77 = .ok (.invokevirtual 153, 3) := dk_182 0 153 (dk_at dksX0_bring_3 8 rfl rfl)
theorem dX0_bring_80 : decode cX0_bring 80 = .ok (.checkcast 321, 3) := dk_192 1 65 (dk_at dksX0_bring_3 11 rfl rfl)
theorem dX0_bring_83 : decode cX0_bring 83 = .ok (.invokevirtual 394, 3) := dk_182 1 138 (dk_at dksX0_bring_3 14 rfl rfl)
theorem dX0_bring_86 : decode cX0_bring 86 = .ok (.istore 7, 2) := dk_54 7 (dk_at dksX0_bring_3 17 rfl rfl)
theorem dX0_bring_88 : decode cX0_bring 88 = .ok (.iload 7, 2) := dk_21 7 (dk_at dksX0_bring_3 19 rfl rfl)
theorem dX0_bring_90 : decode cX0_bring 90 = .ok (.iconst (-1), 1) := dk_2 (dk_at dksX0_bring_3 21 rfl rfl)
theorem dX0_bring_91 : decode cX0_bring 91 = .ok (.if_icmp .eq 28, 3) := dk_159 0 28 (dk_at dksX0_bring_4 0 rfl rfl)
theorem dX0_bring_94 : decode cX0_bring 94 = .ok (.iload 4, 2) := dk_21 4 (dk_at dksX0_bring_4 3 rfl rfl)
theorem dX0_bring_96 : decode cX0_bring 96 = .ok (.bipush (-2), 2) := dk_16 254 (dk_at dksX0_bring_4 5 rfl rfl)
theorem dX0_bring_98 : decode cX0_bring 98 = .ok (.if_icmp .eq 13, 3) := dk_159 0 13 (dk_at dksX0_bring_4 7 rfl rfl)
theorem dX0_bring_101 : decode cX0_bring 101 = .ok (.iload 7, 2) := dk_21 7 (dk_at dksX0_bring_4 10 rfl rfl)
theorem dX0_bring_103 : decode cX0_bring 103 = .ok (.iload 5, 2) := dk_21 5 (dk_at dksX0_bring_4 12 rfl rfl)
theorem dX0_bring_105 : decode cX0_bring 105 = .ok (.if_icmp .lt 6, 3) := dk_161 0 6 (dk_at dksX0_bring_4 14 rfl rfl)
theorem dX0_bring_108 : decode cX0_bring 108 = .ok (.goto 11, 3) := dk_167 0 11 (dk_at dksX0_bring_4 17 rfl rfl)
theorem dX0_bring_111 : decode cX0_bring 111 = .ok (.iload 6, 2) := dk_21 6 (dk_at dksX0_bring_4 20 rfl rfl)
theorem dX0_bring_113 : decode cX0_bring 113 = .ok (.istore 4, 2) := dk_54 4 (dk_at dksX0_bring_4 22 rfl rfl)
theorem dX0_bring_115 : decode cX0_bring 115 = .ok (.iload 7, 2) := dk_21 7 (dk_at dksX0_bring_5 0 rfl rfl)
theorem dX0_bring_117 : decode cX0_bring 117 = .ok (.istore 5, 2) := dk_54 5 (dk_at dksX0_bring_5 2 rfl rfl)
theorem dX0_bring_119 : decode cX0_bring 119 = .ok (.iinc 6 1, 3) := dk_132 6 1 (dk_at dksX0_bring_5 4 rfl rfl)
theorem dX0_bring_122 : decode cX0_bring 122 = .ok (.goto (-83), 3) := dk_167 255 173 (dk_at dksX0_bring_5 7 rfl rfl)
theorem dX0_bring_125 : decode cX0_bring 125 = .ok (.iload_n 3, 1) := dk_29 (dk_at dksX0_bring_5 10 rfl rfl)
theorem dX0_bring_126 : decode cX0_bring 126 = .ok (.ifCond .ne 8, 3) := dk_154 0 8 (dk_at dksX0_bring_5 11 rfl rfl)
theorem dX0_bring_129 : decode cX0_bring 129 = .ok (.iload 4, 2) := dk_21 4 (dk_at dksX0_bring_5 14 rfl rfl)
theorem dX0_bring_131 : decode cX0_bring 131 = .ok (.goto 5, 3) := dk_167 0 5 (dk_at dksX0_bring_5 16 rfl rfl)
theorem dX0_bring_134 : decode cX0_bring 134 = .ok (.iload 5, 2) := dk_21 5 (dk_at dksX0_bring_5 19 rfl rfl)
theorem dX0_bring_136 : decode cX0_bring 136 = .ok (.ireturn, 1) := dk_172 (dk_at dksX0_bring_5 21 rfl rfl)
abbrev cX0_soldAt : ByteArray := prog_1_method_62_code
def yX0_soldAt : MethodName := ⟨RX0, "soldAt", "(IILHalfFair$Rule;)I"⟩
def dkwX0_soldAt_3 : List UInt8 := [180, 0, 23, 180, 0, 165, 4, 100, 172, 132, 5, 1, 167, 255, 220, 2, 172]
abbrev dktX0_soldAt_3 : List UInt8 := dkwX0_soldAt_3 ++ []
def dkwX0_soldAt_2 : List UInt8 := [21, 4, 162, 0, 35, 42, 42, 180, 0, 23, 45, 182, 1, 85, 27, 184, 0, 175, 153, 0, 13, 42]
abbrev dktX0_soldAt_2 : List UInt8 := dkwX0_soldAt_2 ++ dktX0_soldAt_3
def dkwX0_soldAt_1 : List UInt8 := [180, 0, 12, 42, 180, 0, 19, 180, 0, 165, 182, 1, 50, 184, 0, 251, 54, 4, 3, 54, 5, 21, 5]
abbrev dktX0_soldAt_1 : List UInt8 := dkwX0_soldAt_1 ++ dktX0_soldAt_2
def dkwX0_soldAt_0 : List UInt8 := [42, 180, 0, 23, 42, 180, 0, 19, 182, 0, 244, 42, 180, 0, 23, 180, 0, 172, 27, 28, 79, 16, 24, 42]
abbrev dktX0_soldAt_0 : List UInt8 := dkwX0_soldAt_0 ++ dktX0_soldAt_1
theorem dksX0_soldAt_0 : cX0_soldAt.data.toList.drop 0 = dktX0_soldAt_0 := by decide +kernel
theorem dksX0_soldAt_1 : cX0_soldAt.data.toList.drop 24 = dktX0_soldAt_1 := dk_seg dksX0_soldAt_0 24 rfl rfl
theorem dksX0_soldAt_2 : cX0_soldAt.data.toList.drop 47 = dktX0_soldAt_2 := dk_seg dksX0_soldAt_1 23 rfl rfl
theorem dksX0_soldAt_3 : cX0_soldAt.data.toList.drop 69 = dktX0_soldAt_3 := dk_seg dksX0_soldAt_2 22 rfl rfl
theorem dX0_soldAt_0 : decode cX0_soldAt 0 = .ok (.aload_n 0, 1) := dk_42 (dk_at dksX0_soldAt_0 0 rfl rfl)
theorem dX0_soldAt_1 : decode cX0_soldAt 1 = .ok (.getfield 23, 3) := dk_180 0 23 (dk_at dksX0_soldAt_0 1 rfl rfl)
theorem dX0_soldAt_4 : decode cX0_soldAt 4 = .ok (.aload_n 0, 1) := dk_42 (dk_at dksX0_soldAt_0 4 rfl rfl)
theorem dX0_soldAt_5 : decode cX0_soldAt 5 = .ok (.getfield 19, 3) := dk_180 0 19 (dk_at dksX0_soldAt_0 5 rfl rfl)
theorem dX0_soldAt_8 : decode cX0_soldAt 8 = .ok (.invokevirtual 244, 3) := dk_182 0 244 (dk_at dksX0_soldAt_0 8 rfl rfl)
theorem dX0_soldAt_11 : decode cX0_soldAt 11 = .ok (.aload_n 0, 1) := dk_42 (dk_at dksX0_soldAt_0 11 rfl rfl)
theorem dX0_soldAt_12 : decode cX0_soldAt 12 = .ok (.getfield 23, 3) := dk_180 0 23 (dk_at dksX0_soldAt_0 12 rfl rfl)
theorem dX0_soldAt_15 : decode cX0_soldAt 15 = .ok (.getfield 172, 3) := dk_180 0 172 (dk_at dksX0_soldAt_0 15 rfl rfl)
theorem dX0_soldAt_18 : decode cX0_soldAt 18 = .ok (.iload_n 1, 1) := dk_27 (dk_at dksX0_soldAt_0 18 rfl rfl)
theorem dX0_soldAt_19 : decode cX0_soldAt 19 = .ok (.iload_n 2, 1) := dk_28 (dk_at dksX0_soldAt_0 19 rfl rfl)
theorem dX0_soldAt_20 : decode cX0_soldAt 20 = .ok (.iastore, 1) := dk_79 (dk_at dksX0_soldAt_0 20 rfl rfl)
theorem dX0_soldAt_21 : decode cX0_soldAt 21 = .ok (.bipush 24, 2) := dk_16 24 (dk_at dksX0_soldAt_0 21 rfl rfl)
theorem dX0_soldAt_23 : decode cX0_soldAt 23 = .ok (.aload_n 0, 1) := dk_42 (dk_at dksX0_soldAt_0 23 rfl rfl)
theorem dX0_soldAt_24 : decode cX0_soldAt 24 = .ok (.getfield 12, 3) := dk_180 0 12 (dk_at dksX0_soldAt_1 0 rfl rfl)
theorem dX0_soldAt_27 : decode cX0_soldAt 27 = .ok (.aload_n 0, 1) := dk_42 (dk_at dksX0_soldAt_1 3 rfl rfl)
theorem dX0_soldAt_28 : decode cX0_soldAt 28 = .ok (.getfield 19, 3) := dk_180 0 19 (dk_at dksX0_soldAt_1 4 rfl rfl)
theorem dX0_soldAt_31 : decode cX0_soldAt 31 = .ok (.getfield 165, 3) := dk_180 0 165 (dk_at dksX0_soldAt_1 7 rfl rfl)
theorem dX0_soldAt_34 : decode cX0_soldAt 34 = .ok (.invokevirtual 306, 3) := dk_182 1 50 (dk_at dksX0_soldAt_1 10 rfl rfl)
theorem dX0_soldAt_37 : decode cX0_soldAt 37 = .ok (.invokestatic 251, 3) := dk_184 0 251 (dk_at dksX0_soldAt_1 13 rfl rfl)
theorem dX0_soldAt_40 : decode cX0_soldAt 40 = .ok (.istore 4, 2) := dk_54 4 (dk_at dksX0_soldAt_1 16 rfl rfl)
theorem dX0_soldAt_42 : decode cX0_soldAt 42 = .ok (.iconst 0, 1) := dk_3 (dk_at dksX0_soldAt_1 18 rfl rfl)
theorem dX0_soldAt_43 : decode cX0_soldAt 43 = .ok (.istore 5, 2) := dk_54 5 (dk_at dksX0_soldAt_1 19 rfl rfl)
theorem dX0_soldAt_45 : decode cX0_soldAt 45 = .ok (.iload 5, 2) := dk_21 5 (dk_at dksX0_soldAt_1 21 rfl rfl)
theorem dX0_soldAt_47 : decode cX0_soldAt 47 = .ok (.iload 4, 2) := dk_21 4 (dk_at dksX0_soldAt_2 0 rfl rfl)
theorem dX0_soldAt_49 : decode cX0_soldAt 49 = .ok (.if_icmp .ge 35, 3) := dk_162 0 35 (dk_at dksX0_soldAt_2 2 rfl rfl)
theorem dX0_soldAt_52 : decode cX0_soldAt 52 = .ok (.aload_n 0, 1) := dk_42 (dk_at dksX0_soldAt_2 5 rfl rfl)
theorem dX0_soldAt_53 : decode cX0_soldAt 53 = .ok (.aload_n 0, 1) := dk_42 (dk_at dksX0_soldAt_2 6 rfl rfl)
theorem dX0_soldAt_54 : decode cX0_soldAt 54 = .ok (.getfield 23, 3) := dk_180 0 23 (dk_at dksX0_soldAt_2 7 rfl rfl)
theorem dX0_soldAt_57 : decode cX0_soldAt 57 = .ok (.aload_n 3, 1) := dk_45 (dk_at dksX0_soldAt_2 10 rfl rfl)
theorem dX0_soldAt_58 : decode cX0_soldAt 58 = .ok (.invokevirtual 341, 3) := dk_182 1 85 (dk_at dksX0_soldAt_2 11 rfl rfl)
theorem dX0_soldAt_61 : decode cX0_soldAt 61 = .ok (.iload_n 1, 1) := dk_27 (dk_at dksX0_soldAt_2 14 rfl rfl)
theorem dX0_soldAt_62 : decode cX0_soldAt 62 = .ok (.invokestatic 175, 3) := dk_184 0 175 (dk_at dksX0_soldAt_2 15 rfl rfl)
theorem dX0_soldAt_65 : decode cX0_soldAt 65 = .ok (.ifCond .eq 13, 3) := dk_153 0 13 (dk_at dksX0_soldAt_2 18 rfl rfl)
theorem dX0_soldAt_68 : decode cX0_soldAt 68 = .ok (.aload_n 0, 1) := dk_42 (dk_at dksX0_soldAt_2 21 rfl rfl)
theorem dX0_soldAt_69 : decode cX0_soldAt 69 = .ok (.getfield 23, 3) := dk_180 0 23 (dk_at dksX0_soldAt_3 0 rfl rfl)
theorem dX0_soldAt_72 : decode cX0_soldAt 72 = .ok (.getfield 165, 3) := dk_180 0 165 (dk_at dksX0_soldAt_3 3 rfl rfl)
theorem dX0_soldAt_75 : decode cX0_soldAt 75 = .ok (.iconst 1, 1) := dk_4 (dk_at dksX0_soldAt_3 6 rfl rfl)
theorem dX0_soldAt_76 : decode cX0_soldAt 76 = .ok (.isub, 1) := dk_100 (dk_at dksX0_soldAt_3 7 rfl rfl)
theorem dX0_soldAt_77 : decode cX0_soldAt 77 = .ok (.ireturn, 1) := dk_172 (dk_at dksX0_soldAt_3 8 rfl rfl)
theorem dX0_soldAt_78 : decode cX0_soldAt 78 = .ok (.iinc 5 1, 3) := dk_132 5 1 (dk_at dksX0_soldAt_3 9 rfl rfl)
theorem dX0_soldAt_81 : decode cX0_soldAt 81 = .ok (.goto (-36), 3) := dk_167 255 220 (dk_at dksX0_soldAt_3 12 rfl rfl)
theorem dX0_soldAt_84 : decode cX0_soldAt 84 = .ok (.iconst (-1), 1) := dk_2 (dk_at dksX0_soldAt_3 15 rfl rfl)
theorem dX0_soldAt_85 : decode cX0_soldAt 85 = .ok (.ireturn, 1) := dk_172 (dk_at dksX0_soldAt_3 16 rfl rfl)
abbrev cX0_trial : ByteArray := prog_1_method_64_code
def yX0_trial : MethodName := ⟨RX0, "trial", "(IIZ)I"⟩
def dkwX0_trial_3 : List UInt8 := [180, 0, 140, 29, 84, 42, 89, 180, 0, 140, 4, 96, 181, 0, 140, 42, 180, 0, 140, 172]
abbrev dktX0_trial_3 : List UInt8 := dkwX0_trial_3 ++ []
def dkwX0_trial_2 : List UInt8 := [180, 0, 46, 42, 180, 0, 140, 27, 79, 42, 180, 0, 50, 42, 180, 0, 140, 28, 79, 42, 180, 0, 53, 42]
abbrev dktX0_trial_2 : List UInt8 := dkwX0_trial_2 ++ dktX0_trial_3
def dkwX0_trial_1 : List UInt8 := [182, 0, 149, 153, 0, 17, 27, 28, 159, 0, 12, 42, 180, 0, 140, 16, 12, 160, 0, 6, 16, 254, 172, 42]
abbrev dktX0_trial_1 : List UInt8 := dkwX0_trial_1 ++ dktX0_trial_2
def dkwX0_trial_0 : List UInt8 := [27, 2, 160, 0, 10, 42, 3, 181, 0, 140, 3, 172, 42, 27, 182, 0, 149, 153, 0, 25, 42, 28]
abbrev dktX0_trial_0 : List UInt8 := dkwX0_trial_0 ++ dktX0_trial_1
theorem dksX0_trial_0 : cX0_trial.data.toList.drop 0 = dktX0_trial_0 := by decide +kernel
theorem dksX0_trial_1 : cX0_trial.data.toList.drop 22 = dktX0_trial_1 := dk_seg dksX0_trial_0 22 rfl rfl
theorem dksX0_trial_2 : cX0_trial.data.toList.drop 46 = dktX0_trial_2 := dk_seg dksX0_trial_1 24 rfl rfl
theorem dksX0_trial_3 : cX0_trial.data.toList.drop 70 = dktX0_trial_3 := dk_seg dksX0_trial_2 24 rfl rfl
theorem dX0_trial_0 : decode cX0_trial 0 = .ok (.iload_n 1, 1) := dk_27 (dk_at dksX0_trial_0 0 rfl rfl)
theorem dX0_trial_1 : decode cX0_trial 1 = .ok (.iconst (-1), 1) := dk_2 (dk_at dksX0_trial_0 1 rfl rfl)
theorem dX0_trial_2 : decode cX0_trial 2 = .ok (.if_icmp .ne 10, 3) := dk_160 0 10 (dk_at dksX0_trial_0 2 rfl rfl)
theorem dX0_trial_5 : decode cX0_trial 5 = .ok (.aload_n 0, 1) := dk_42 (dk_at dksX0_trial_0 5 rfl rfl)
theorem dX0_trial_6 : decode cX0_trial 6 = .ok (.iconst 0, 1) := dk_3 (dk_at dksX0_trial_0 6 rfl rfl)
theorem dX0_trial_7 : decode cX0_trial 7 = .ok (.putfield 140, 3) := dk_181 0 140 (dk_at dksX0_trial_0 7 rfl rfl)
theorem dX0_trial_10 : decode cX0_trial 10 = .ok (.iconst 0, 1) := dk_3 (dk_at dksX0_trial_0 10 rfl rfl)
theorem dX0_trial_11 : decode cX0_trial 11 = .ok (.ireturn, 1) := dk_172 (dk_at dksX0_trial_0 11 rfl rfl)
theorem dX0_trial_12 : decode cX0_trial 12 = .ok (.aload_n 0, 1) := dk_42 (dk_at dksX0_trial_0 12 rfl rfl)
theorem dX0_trial_13 : decode cX0_trial 13 = .ok (.iload_n 1, 1) := dk_27 (dk_at dksX0_trial_0 13 rfl rfl)
theorem dX0_trial_14 : decode cX0_trial 14 = .ok (.invokevirtual 149, 3) := dk_182 0 149 (dk_at dksX0_trial_0 14 rfl rfl)
theorem dX0_trial_17 : decode cX0_trial 17 = .ok (.ifCond .eq 25, 3) := dk_153 0 25 (dk_at dksX0_trial_0 17 rfl rfl)
theorem dX0_trial_20 : decode cX0_trial 20 = .ok (.aload_n 0, 1) := dk_42 (dk_at dksX0_trial_0 20 rfl rfl)
theorem dX0_trial_21 : decode cX0_trial 21 = .ok (.iload_n 2, 1) := dk_28 (dk_at dksX0_trial_0 21 rfl rfl)
theorem dX0_trial_22 : decode cX0_trial 22 = .ok (.invokevirtual 149, 3) := dk_182 0 149 (dk_at dksX0_trial_1 0 rfl rfl)
theorem dX0_trial_25 : decode cX0_trial 25 = .ok (.ifCond .eq 17, 3) := dk_153 0 17 (dk_at dksX0_trial_1 3 rfl rfl)
theorem dX0_trial_28 : decode cX0_trial 28 = .ok (.iload_n 1, 1) := dk_27 (dk_at dksX0_trial_1 6 rfl rfl)
theorem dX0_trial_29 : decode cX0_trial 29 = .ok (.iload_n 2, 1) := dk_28 (dk_at dksX0_trial_1 7 rfl rfl)
theorem dX0_trial_30 : decode cX0_trial 30 = .ok (.if_icmp .eq 12, 3) := dk_159 0 12 (dk_at dksX0_trial_1 8 rfl rfl)
theorem dX0_trial_33 : decode cX0_trial 33 = .ok (.aload_n 0, 1) := dk_42 (dk_at dksX0_trial_1 11 rfl rfl)
theorem dX0_trial_34 : decode cX0_trial 34 = .ok (.getfield 140, 3) := dk_180 0 140 (dk_at dksX0_trial_1 12 rfl rfl)
theorem dX0_trial_37 : decode cX0_trial 37 = .ok (.bipush 12, 2) := dk_16 12 (dk_at dksX0_trial_1 15 rfl rfl)
theorem dX0_trial_39 : decode cX0_trial 39 = .ok (.if_icmp .ne 6, 3) := dk_160 0 6 (dk_at dksX0_trial_1 17 rfl rfl)
theorem dX0_trial_42 : decode cX0_trial 42 = .ok (.bipush (-2), 2) := dk_16 254 (dk_at dksX0_trial_1 20 rfl rfl)
theorem dX0_trial_44 : decode cX0_trial 44 = .ok (.ireturn, 1) := dk_172 (dk_at dksX0_trial_1 22 rfl rfl)
theorem dX0_trial_45 : decode cX0_trial 45 = .ok (.aload_n 0, 1) := dk_42 (dk_at dksX0_trial_1 23 rfl rfl)
theorem dX0_trial_46 : decode cX0_trial 46 = .ok (.getfield 46, 3) := dk_180 0 46 (dk_at dksX0_trial_2 0 rfl rfl)
theorem dX0_trial_49 : decode cX0_trial 49 = .ok (.aload_n 0, 1) := dk_42 (dk_at dksX0_trial_2 3 rfl rfl)
theorem dX0_trial_50 : decode cX0_trial 50 = .ok (.getfield 140, 3) := dk_180 0 140 (dk_at dksX0_trial_2 4 rfl rfl)
theorem dX0_trial_53 : decode cX0_trial 53 = .ok (.iload_n 1, 1) := dk_27 (dk_at dksX0_trial_2 7 rfl rfl)
theorem dX0_trial_54 : decode cX0_trial 54 = .ok (.iastore, 1) := dk_79 (dk_at dksX0_trial_2 8 rfl rfl)
theorem dX0_trial_55 : decode cX0_trial 55 = .ok (.aload_n 0, 1) := dk_42 (dk_at dksX0_trial_2 9 rfl rfl)
theorem dX0_trial_56 : decode cX0_trial 56 = .ok (.getfield 50, 3) := dk_180 0 50 (dk_at dksX0_trial_2 10 rfl rfl)
theorem dX0_trial_59 : decode cX0_trial 59 = .ok (.aload_n 0, 1) := dk_42 (dk_at dksX0_trial_2 13 rfl rfl)
theorem dX0_trial_60 : decode cX0_trial 60 = .ok (.getfield 140, 3) := dk_180 0 140 (dk_at dksX0_trial_2 14 rfl rfl)
theorem dX0_trial_63 : decode cX0_trial 63 = .ok (.iload_n 2, 1) := dk_28 (dk_at dksX0_trial_2 17 rfl rfl)
theorem dX0_trial_64 : decode cX0_trial 64 = .ok (.iastore, 1) := dk_79 (dk_at dksX0_trial_2 18 rfl rfl)
theorem dX0_trial_65 : decode cX0_trial 65 = .ok (.aload_n 0, 1) := dk_42 (dk_at dksX0_trial_2 19 rfl rfl)
theorem dX0_trial_66 : decode cX0_trial 66 = .ok (.getfield 53, 3) := dk_180 0 53 (dk_at dksX0_trial_2 20 rfl rfl)
theorem dX0_trial_69 : decode cX0_trial 69 = .ok (.aload_n 0, 1) := dk_42 (dk_at dksX0_trial_2 23 rfl rfl)
theorem dX0_trial_70 : decode cX0_trial 70 = .ok (.getfield 140, 3) := dk_180 0 140 (dk_at dksX0_trial_3 0 rfl rfl)
theorem dX0_trial_73 : decode cX0_trial 73 = .ok (.iload_n 3, 1) := dk_29 (dk_at dksX0_trial_3 3 rfl rfl)
theorem dX0_trial_74 : decode cX0_trial 74 = .ok (.bastore, 1) := dk_84 (dk_at dksX0_trial_3 4 rfl rfl)
theorem dX0_trial_75 : decode cX0_trial 75 = .ok (.aload_n 0, 1) := dk_42 (dk_at dksX0_trial_3 5 rfl rfl)
theorem dX0_trial_76 : decode cX0_trial 76 = .ok (.dup, 1) := dk_89 (dk_at dksX0_trial_3 6 rfl rfl)
theorem dX0_trial_77 : decode cX0_trial 77 = .ok (.getfield 140, 3) := dk_180 0 140 (dk_at dksX0_trial_3 7 rfl rfl)
theorem dX0_trial_80 : decode cX0_trial 80 = .ok (.iconst 1, 1) := dk_4 (dk_at dksX0_trial_3 10 rfl rfl)
theorem dX0_trial_81 : decode cX0_trial 81 = .ok (.iadd, 1) := dk_96 (dk_at dksX0_trial_3 11 rfl rfl)
theorem dX0_trial_82 : decode cX0_trial 82 = .ok (.putfield 140, 3) := dk_181 0 140 (dk_at dksX0_trial_3 12 rfl rfl)
theorem dX0_trial_85 : decode cX0_trial 85 = .ok (.aload_n 0, 1) := dk_42 (dk_at dksX0_trial_3 15 rfl rfl)
theorem dX0_trial_86 : decode cX0_trial 86 = .ok (.getfield 140, 3) := dk_180 0 140 (dk_at dksX0_trial_3 16 rfl rfl)
theorem dX0_trial_89 : decode cX0_trial 89 = .ok (.ireturn, 1) := dk_172 (dk_at dksX0_trial_3 19 rfl rfl)
abbrev cX0_forgers : ByteArray := prog_1_method_66_code
def yX0_forgers : MethodName := ⟨RX0, "forgers", "(I)I"⟩
def dkwX0_forgers_6 : List UInt8 := [182, 0, 103, 120, 4, 100, 29, 2, 130, 126, 172]
abbrev dktX0_forgers_6 : List UInt8 := dkwX0_forgers_6 ++ []
def dkwX0_forgers_5 : List UInt8 := [132, 4, 1, 167, 255, 161, 27, 154, 0, 5, 28, 172, 28, 16, 254, 160, 0, 7, 3, 167, 0, 15, 4, 42]
abbrev dktX0_forgers_5 : List UInt8 := dkwX0_forgers_5 ++ dktX0_forgers_6
def dkwX0_forgers_4 : List UInt8 := [62, 28, 16, 254, 159, 0, 16, 21, 5, 28, 184, 1, 35, 160, 0, 7, 28, 167, 0, 5, 21, 4, 61]
abbrev dktX0_forgers_4 : List UInt8 := dkwX0_forgers_4 ++ dktX0_forgers_5
def dkwX0_forgers_3 : List UInt8 := [28, 16, 254, 159, 0, 19, 21, 5, 28, 184, 1, 35, 160, 0, 10, 29, 21, 4, 128, 167, 0, 5, 21, 4]
abbrev dktX0_forgers_3 : List UInt8 := dkwX0_forgers_3 ++ dktX0_forgers_4
def dkwX0_forgers_2 : List UInt8 := [159, 0, 12, 21, 5, 28, 184, 1, 35, 163, 0, 62, 42, 21, 4, 182, 1, 142, 154, 0, 6, 167, 0, 50]
abbrev dktX0_forgers_2 : List UInt8 := dkwX0_forgers_2 ++ dktX0_forgers_3
def dkwX0_forgers_1 : List UInt8 := [3, 54, 4, 21, 4, 4, 42, 182, 0, 103, 120, 162, 0, 90, 21, 4, 184, 1, 35, 54, 5, 28, 16, 254]
abbrev dktX0_forgers_1 : List UInt8 := dkwX0_forgers_1 ++ dktX0_forgers_2
def dkwX0_forgers_0 : List UInt8 := [42, 182, 0, 231, 153, 0, 13, 27, 133, 9, 10, 184, 0, 106, 154, 0, 5, 2, 172, 16, 254, 61, 3, 62]
abbrev dktX0_forgers_0 : List UInt8 := dkwX0_forgers_0 ++ dktX0_forgers_1
theorem dksX0_forgers_0 : cX0_forgers.data.toList.drop 0 = dktX0_forgers_0 := by decide +kernel
theorem dksX0_forgers_1 : cX0_forgers.data.toList.drop 24 = dktX0_forgers_1 := dk_seg dksX0_forgers_0 24 rfl rfl
theorem dksX0_forgers_2 : cX0_forgers.data.toList.drop 48 = dktX0_forgers_2 := dk_seg dksX0_forgers_1 24 rfl rfl
theorem dksX0_forgers_3 : cX0_forgers.data.toList.drop 72 = dktX0_forgers_3 := dk_seg dksX0_forgers_2 24 rfl rfl
theorem dksX0_forgers_4 : cX0_forgers.data.toList.drop 96 = dktX0_forgers_4 := dk_seg dksX0_forgers_3 24 rfl rfl
theorem dksX0_forgers_5 : cX0_forgers.data.toList.drop 119 = dktX0_forgers_5 := dk_seg dksX0_forgers_4 23 rfl rfl
theorem dksX0_forgers_6 : cX0_forgers.data.toList.drop 143 = dktX0_forgers_6 := dk_seg dksX0_forgers_5 24 rfl rfl
theorem dX0_forgers_0 : decode cX0_forgers 0 = .ok (.aload_n 0, 1) := dk_42 (dk_at dksX0_forgers_0 0 rfl rfl)
theorem dX0_forgers_1 : decode cX0_forgers 1 = .ok (.invokevirtual 231, 3) := dk_182 0 231 (dk_at dksX0_forgers_0 1 rfl rfl)
theorem dX0_forgers_4 : decode cX0_forgers 4 = .ok (.ifCond .eq 13, 3) := dk_153 0 13 (dk_at dksX0_forgers_0 4 rfl rfl)
theorem dX0_forgers_7 : decode cX0_forgers 7 = .ok (.iload_n 1, 1) := dk_27 (dk_at dksX0_forgers_0 7 rfl rfl)
theorem dX0_forgers_8 : decode cX0_forgers 8 = .ok (.i2l, 1) := dk_133 (dk_at dksX0_forgers_0 8 rfl rfl)
theorem dX0_forgers_9 : decode cX0_forgers 9 = .ok (.lconst 0, 1) := dk_9 (dk_at dksX0_forgers_0 9 rfl rfl)
theorem dX0_forgers_10 : decode cX0_forgers 10 = .ok (.lconst 1, 1) := dk_10 (dk_at dksX0_forgers_0 10 rfl rfl)
theorem dX0_forgers_11 : decode cX0_forgers 11 = .ok (.invokestatic 106, 3) := dk_184 0 106 (dk_at dksX0_forgers_0 11 rfl rfl)
theorem dX0_forgers_14 : decode cX0_forgers 14 = .ok (.ifCond .ne 5, 3) := dk_154 0 5 (dk_at dksX0_forgers_0 14 rfl rfl)
theorem dX0_forgers_17 : decode cX0_forgers 17 = .ok (.iconst (-1), 1) := dk_2 (dk_at dksX0_forgers_0 17 rfl rfl)
theorem dX0_forgers_18 : decode cX0_forgers 18 = .ok (.ireturn, 1) := dk_172 (dk_at dksX0_forgers_0 18 rfl rfl)
theorem dX0_forgers_19 : decode cX0_forgers 19 = .ok (.bipush (-2), 2) := dk_16 254 (dk_at dksX0_forgers_0 19 rfl rfl)
theorem dX0_forgers_21 : decode cX0_forgers 21 = .ok (.istore_n 2, 1) := dk_61 (dk_at dksX0_forgers_0 21 rfl rfl)
theorem dX0_forgers_22 : decode cX0_forgers 22 = .ok (.iconst 0, 1) := dk_3 (dk_at dksX0_forgers_0 22 rfl rfl)
theorem dX0_forgers_23 : decode cX0_forgers 23 = .ok (.istore_n 3, 1) := dk_62 (dk_at dksX0_forgers_0 23 rfl rfl)
theorem dX0_forgers_24 : decode cX0_forgers 24 = .ok (.iconst 0, 1) := dk_3 (dk_at dksX0_forgers_1 0 rfl rfl)
theorem dX0_forgers_25 : decode cX0_forgers 25 = .ok (.istore 4, 2) := dk_54 4 (dk_at dksX0_forgers_1 1 rfl rfl)
theorem dX0_forgers_27 : decode cX0_forgers 27 = .ok (.iload 4, 2) := dk_21 4 (dk_at dksX0_forgers_1 3 rfl rfl)
theorem dX0_forgers_29 : decode cX0_forgers 29 = .ok (.iconst 1, 1) := dk_4 (dk_at dksX0_forgers_1 5 rfl rfl)
theorem dX0_forgers_30 : decode cX0_forgers 30 = .ok (.aload_n 0, 1) := dk_42 (dk_at dksX0_forgers_1 6 rfl rfl)
theorem dX0_forgers_31 : decode cX0_forgers 31 = .ok (.invokevirtual 103, 3) := dk_182 0 103 (dk_at dksX0_forgers_1 7 rfl rfl)
theorem dX0_forgers_34 : decode cX0_forgers 34 = .ok (.ishl, 1) := dk_120 (dk_at dksX0_forgers_1 10 rfl rfl)
theorem dX0_forgers_35 : decode cX0_forgers 35 = .ok (.if_icmp .ge 90, 3) := dk_162 0 90 (dk_at dksX0_forgers_1 11 rfl rfl)
theorem dX0_forgers_38 : decode cX0_forgers 38 = .ok (.iload 4, 2) := dk_21 4 (dk_at dksX0_forgers_1 14 rfl rfl)
theorem dX0_forgers_40 : decode cX0_forgers 40 = .ok (.invokestatic 291, 3) := dk_184 1 35 (dk_at dksX0_forgers_1 16 rfl rfl)
theorem dX0_forgers_43 : decode cX0_forgers 43 = .ok (.istore 5, 2) := dk_54 5 (dk_at dksX0_forgers_1 19 rfl rfl)
theorem dX0_forgers_45 : decode cX0_forgers 45 = .ok (.iload_n 2, 1) := dk_28 (dk_at dksX0_forgers_1 21 rfl rfl)
theorem dX0_forgers_46 : decode cX0_forgers 46 = .ok (.bipush (-2), 2) := dk_16 254 (dk_at dksX0_forgers_1 22 rfl rfl)
theorem dX0_forgers_48 : decode cX0_forgers 48 = .ok (.if_icmp .eq 12, 3) := dk_159 0 12 (dk_at dksX0_forgers_2 0 rfl rfl)
theorem dX0_forgers_51 : decode cX0_forgers 51 = .ok (.iload 5, 2) := dk_21 5 (dk_at dksX0_forgers_2 3 rfl rfl)
theorem dX0_forgers_53 : decode cX0_forgers 53 = .ok (.iload_n 2, 1) := dk_28 (dk_at dksX0_forgers_2 5 rfl rfl)
theorem dX0_forgers_54 : decode cX0_forgers 54 = .ok (.invokestatic 291, 3) := dk_184 1 35 (dk_at dksX0_forgers_2 6 rfl rfl)
theorem dX0_forgers_57 : decode cX0_forgers 57 = .ok (.if_icmp .gt 62, 3) := dk_163 0 62 (dk_at dksX0_forgers_2 9 rfl rfl)
theorem dX0_forgers_60 : decode cX0_forgers 60 = .ok (.aload_n 0, 1) := dk_42 (dk_at dksX0_forgers_2 12 rfl rfl)
theorem dX0_forgers_61 : decode cX0_forgers 61 = .ok (.iload 4, 2) := dk_21 4 (dk_at dksX0_forgers_2 13 rfl rfl)
theorem dX0_forgers_63 : decode cX0_forgers 63 = .ok (.invokevirtual 398, 3) := dk_182 1 142 (dk_at dksX0_forgers_2 15 rfl rfl)
theorem dX0_forgers_66 : decode cX0_forgers 66 = .ok (.ifCond .ne 6, 3) := dk_154 0 6 (dk_at dksX0_forgers_2 18 rfl rfl)
theorem dX0_forgers_69 : decode cX0_forgers 69 = .ok (.goto 50, 3) := dk_167 0 50 (dk_at dksX0_forgers_2 21 rfl rfl)
theorem dX0_forgers_72 : decode cX0_forgers 72 = .ok (.iload_n 2, 1) := dk_28 (dk_at dksX0_forgers_3 0 rfl rfl)
theorem dX0_forgers_73 : decode cX0_forgers 73 = .ok (.bipush (-2), 2) := dk_16 254 (dk_at dksX0_forgers_3 1 rfl rfl)
theorem dX0_forgers_75 : decode cX0_forgers 75 = .ok (.if_icmp .eq 19, 3) := dk_159 0 19 (dk_at dksX0_forgers_3 3 rfl rfl)
theorem dX0_forgers_78 : decode cX0_forgers 78 = .ok (.iload 5, 2) := dk_21 5 (dk_at dksX0_forgers_3 6 rfl rfl)
theorem dX0_forgers_80 : decode cX0_forgers 80 = .ok (.iload_n 2, 1) := dk_28 (dk_at dksX0_forgers_3 8 rfl rfl)
theorem dX0_forgers_81 : decode cX0_forgers 81 = .ok (.invokestatic 291, 3) := dk_184 1 35 (dk_at dksX0_forgers_3 9 rfl rfl)
theorem dX0_forgers_84 : decode cX0_forgers 84 = .ok (.if_icmp .ne 10, 3) := dk_160 0 10 (dk_at dksX0_forgers_3 12 rfl rfl)
theorem dX0_forgers_87 : decode cX0_forgers 87 = .ok (.iload_n 3, 1) := dk_29 (dk_at dksX0_forgers_3 15 rfl rfl)
theorem dX0_forgers_88 : decode cX0_forgers 88 = .ok (.iload 4, 2) := dk_21 4 (dk_at dksX0_forgers_3 16 rfl rfl)
theorem dX0_forgers_90 : decode cX0_forgers 90 = .ok (.ior, 1) := dk_128 (dk_at dksX0_forgers_3 18 rfl rfl)
theorem dX0_forgers_91 : decode cX0_forgers 91 = .ok (.goto 5, 3) := dk_167 0 5 (dk_at dksX0_forgers_3 19 rfl rfl)
theorem dX0_forgers_94 : decode cX0_forgers 94 = .ok (.iload 4, 2) := dk_21 4 (dk_at dksX0_forgers_3 22 rfl rfl)
theorem dX0_forgers_96 : decode cX0_forgers 96 = .ok (.istore_n 3, 1) := dk_62 (dk_at dksX0_forgers_4 0 rfl rfl)
theorem dX0_forgers_97 : decode cX0_forgers 97 = .ok (.iload_n 2, 1) := dk_28 (dk_at dksX0_forgers_4 1 rfl rfl)
theorem dX0_forgers_98 : decode cX0_forgers 98 = .ok (.bipush (-2), 2) := dk_16 254 (dk_at dksX0_forgers_4 2 rfl rfl)
theorem dX0_forgers_100 : decode cX0_forgers 100 = .ok (.if_icmp .eq 16, 3) := dk_159 0 16 (dk_at dksX0_forgers_4 4 rfl rfl)
theorem dX0_forgers_103 : decode cX0_forgers 103 = .ok (.iload 5, 2) := dk_21 5 (dk_at dksX0_forgers_4 7 rfl rfl)
theorem dX0_forgers_105 : decode cX0_forgers 105 = .ok (.iload_n 2, 1) := dk_28 (dk_at dksX0_forgers_4 9 rfl rfl)
theorem dX0_forgers_106 : decode cX0_forgers 106 = .ok (.invokestatic 291, 3) := dk_184 1 35 (dk_at dksX0_forgers_4 10 rfl rfl)
theorem dX0_forgers_109 : decode cX0_forgers 109 = .ok (.if_icmp .ne 7, 3) := dk_160 0 7 (dk_at dksX0_forgers_4 13 rfl rfl)
theorem dX0_forgers_112 : decode cX0_forgers 112 = .ok (.iload_n 2, 1) := dk_28 (dk_at dksX0_forgers_4 16 rfl rfl)
theorem dX0_forgers_113 : decode cX0_forgers 113 = .ok (.goto 5, 3) := dk_167 0 5 (dk_at dksX0_forgers_4 17 rfl rfl)
theorem dX0_forgers_116 : decode cX0_forgers 116 = .ok (.iload 4, 2) := dk_21 4 (dk_at dksX0_forgers_4 20 rfl rfl)
theorem dX0_forgers_118 : decode cX0_forgers 118 = .ok (.istore_n 2, 1) := dk_61 (dk_at dksX0_forgers_4 22 rfl rfl)
theorem dX0_forgers_119 : decode cX0_forgers 119 = .ok (.iinc 4 1, 3) := dk_132 4 1 (dk_at dksX0_forgers_5 0 rfl rfl)
theorem dX0_forgers_122 : decode cX0_forgers 122 = .ok (.goto (-95), 3) := dk_167 255 161 (dk_at dksX0_forgers_5 3 rfl rfl)
theorem dX0_forgers_125 : decode cX0_forgers 125 = .ok (.iload_n 1, 1) := dk_27 (dk_at dksX0_forgers_5 6 rfl rfl)
theorem dX0_forgers_126 : decode cX0_forgers 126 = .ok (.ifCond .ne 5, 3) := dk_154 0 5 (dk_at dksX0_forgers_5 7 rfl rfl)
theorem dX0_forgers_129 : decode cX0_forgers 129 = .ok (.iload_n 2, 1) := dk_28 (dk_at dksX0_forgers_5 10 rfl rfl)
theorem dX0_forgers_130 : decode cX0_forgers 130 = .ok (.ireturn, 1) := dk_172 (dk_at dksX0_forgers_5 11 rfl rfl)
theorem dX0_forgers_131 : decode cX0_forgers 131 = .ok (.iload_n 2, 1) := dk_28 (dk_at dksX0_forgers_5 12 rfl rfl)
theorem dX0_forgers_132 : decode cX0_forgers 132 = .ok (.bipush (-2), 2) := dk_16 254 (dk_at dksX0_forgers_5 13 rfl rfl)
theorem dX0_forgers_134 : decode cX0_forgers 134 = .ok (.if_icmp .ne 7, 3) := dk_160 0 7 (dk_at dksX0_forgers_5 15 rfl rfl)
theorem dX0_forgers_137 : decode cX0_forgers 137 = .ok (.iconst 0, 1) := dk_3 (dk_at dksX0_forgers_5 18 rfl rfl)
theorem dX0_forgers_138 : decode cX0_forgers 138 = .ok (.goto 15, 3) := dk_167 0 15 (dk_at dksX0_forgers_5 19 rfl rfl)
theorem dX0_forgers_141 : decode cX0_forgers 141 = .ok (.iconst 1, 1) := dk_4 (dk_at dksX0_forgers_5 22 rfl rfl)
theorem dX0_forgers_142 : decode cX0_forgers 142 = .ok (.aload_n 0, 1) := dk_42 (dk_at dksX0_forgers_5 23 rfl rfl)
theorem dX0_forgers_143 : decode cX0_forgers 143 = .ok (.invokevirtual 103, 3) := dk_182 0 103 (dk_at dksX0_forgers_6 0 rfl rfl)
theorem dX0_forgers_146 : decode cX0_forgers 146 = .ok (.ishl, 1) := dk_120 (dk_at dksX0_forgers_6 3 rfl rfl)
theorem dX0_forgers_147 : decode cX0_forgers 147 = .ok (.iconst 1, 1) := dk_4 (dk_at dksX0_forgers_6 4 rfl rfl)
theorem dX0_forgers_148 : decode cX0_forgers 148 = .ok (.isub, 1) := dk_100 (dk_at dksX0_forgers_6 5 rfl rfl)
theorem dX0_forgers_149 : decode cX0_forgers 149 = .ok (.iload_n 3, 1) := dk_29 (dk_at dksX0_forgers_6 6 rfl rfl)
theorem dX0_forgers_150 : decode cX0_forgers 150 = .ok (.iconst (-1), 1) := dk_2 (dk_at dksX0_forgers_6 7 rfl rfl)
theorem dX0_forgers_151 : decode cX0_forgers 151 = .ok (.ixor, 1) := dk_130 (dk_at dksX0_forgers_6 8 rfl rfl)
theorem dX0_forgers_152 : decode cX0_forgers 152 = .ok (.iand, 1) := dk_126 (dk_at dksX0_forgers_6 9 rfl rfl)
theorem dX0_forgers_153 : decode cX0_forgers 153 = .ok (.ireturn, 1) := dk_172 (dk_at dksX0_forgers_6 10 rfl rfl)
abbrev cX0_areAllSo : ByteArray := prog_1_method_65_code
def yX0_areAllSo : MethodName := ⟨RX0, "areAllSo", "(I)Z"⟩
def dkwX0_areAllSo_2 : List UInt8 := [180, 0, 53, 29, 51, 160, 0, 7, 4, 167, 0, 4, 3, 61, 132, 3, 1, 167, 255, 197, 28, 172]
abbrev dktX0_areAllSo_2 : List UInt8 := dkwX0_areAllSo_2 ++ []
def dkwX0_areAllSo_1 : List UInt8 := [29, 46, 42, 180, 0, 50, 29, 46, 27, 182, 0, 115, 5, 160, 0, 7, 4, 167, 0, 4, 3, 42]
abbrev dktX0_areAllSo_1 : List UInt8 := dkwX0_areAllSo_1 ++ dktX0_areAllSo_2
def dkwX0_areAllSo_0 : List UInt8 := [4, 61, 3, 62, 29, 42, 180, 0, 140, 162, 0, 57, 28, 153, 0, 45, 42, 180, 0, 12, 42, 180, 0, 46]
abbrev dktX0_areAllSo_0 : List UInt8 := dkwX0_areAllSo_0 ++ dktX0_areAllSo_1
theorem dksX0_areAllSo_0 : cX0_areAllSo.data.toList.drop 0 = dktX0_areAllSo_0 := by decide +kernel
theorem dksX0_areAllSo_1 : cX0_areAllSo.data.toList.drop 24 = dktX0_areAllSo_1 := dk_seg dksX0_areAllSo_0 24 rfl rfl
theorem dksX0_areAllSo_2 : cX0_areAllSo.data.toList.drop 46 = dktX0_areAllSo_2 := dk_seg dksX0_areAllSo_1 22 rfl rfl
theorem dX0_areAllSo_0 : decode cX0_areAllSo 0 = .ok (.iconst 1, 1) := dk_4 (dk_at dksX0_areAllSo_0 0 rfl rfl)
theorem dX0_areAllSo_1 : decode cX0_areAllSo 1 = .ok (.istore_n 2, 1) := dk_61 (dk_at dksX0_areAllSo_0 1 rfl rfl)
theorem dX0_areAllSo_2 : decode cX0_areAllSo 2 = .ok (.iconst 0, 1) := dk_3 (dk_at dksX0_areAllSo_0 2 rfl rfl)
theorem dX0_areAllSo_3 : decode cX0_areAllSo 3 = .ok (.istore_n 3, 1) := dk_62 (dk_at dksX0_areAllSo_0 3 rfl rfl)
theorem dX0_areAllSo_4 : decode cX0_areAllSo 4 = .ok (.iload_n 3, 1) := dk_29 (dk_at dksX0_areAllSo_0 4 rfl rfl)
theorem dX0_areAllSo_5 : decode cX0_areAllSo 5 = .ok (.aload_n 0, 1) := dk_42 (dk_at dksX0_areAllSo_0 5 rfl rfl)
theorem dX0_areAllSo_6 : decode cX0_areAllSo 6 = .ok (.getfield 140, 3) := dk_180 0 140 (dk_at dksX0_areAllSo_0 6 rfl rfl)
theorem dX0_areAllSo_9 : decode cX0_areAllSo 9 = .ok (.if_icmp .ge 57, 3) := dk_162 0 57 (dk_at dksX0_areAllSo_0 9 rfl rfl)
theorem dX0_areAllSo_12 : decode cX0_areAllSo 12 = .ok (.iload_n 2, 1) := dk_28 (dk_at dksX0_areAllSo_0 12 rfl rfl)
theorem dX0_areAllSo_13 : decode cX0_areAllSo 13 = .ok (.ifCond .eq 45, 3) := dk_153 0 45 (dk_at dksX0_areAllSo_0 13 rfl rfl)
theorem dX0_areAllSo_16 : decode cX0_areAllSo 16 = .ok (.aload_n 0, 1) := dk_42 (dk_at dksX0_areAllSo_0 16 rfl rfl)
theorem dX0_areAllSo_17 : decode cX0_areAllSo 17 = .ok (.getfield 12, 3) := dk_180 0 12 (dk_at dksX0_areAllSo_0 17 rfl rfl)
theorem dX0_areAllSo_20 : decode cX0_areAllSo 20 = .ok (.aload_n 0, 1) := dk_42 (dk_at dksX0_areAllSo_0 20 rfl rfl)
theorem dX0_areAllSo_21 : decode cX0_areAllSo 21 = .ok (.getfield 46, 3) := dk_180 0 46 (dk_at dksX0_areAllSo_0 21 rfl rfl)
theorem dX0_areAllSo_24 : decode cX0_areAllSo 24 = .ok (.iload_n 3, 1) := dk_29 (dk_at dksX0_areAllSo_1 0 rfl rfl)
theorem dX0_areAllSo_25 : decode cX0_areAllSo 25 = .ok (.iaload, 1) := dk_46 (dk_at dksX0_areAllSo_1 1 rfl rfl)
theorem dX0_areAllSo_26 : decode cX0_areAllSo 26 = .ok (.aload_n 0, 1) := dk_42 (dk_at dksX0_areAllSo_1 2 rfl rfl)
theorem dX0_areAllSo_27 : decode cX0_areAllSo 27 = .ok (.getfield 50, 3) := dk_180 0 50 (dk_at dksX0_areAllSo_1 3 rfl rfl)
theorem dX0_areAllSo_30 : decode cX0_areAllSo 30 = .ok (.iload_n 3, 1) := dk_29 (dk_at dksX0_areAllSo_1 6 rfl rfl)
theorem dX0_areAllSo_31 : decode cX0_areAllSo 31 = .ok (.iaload, 1) := dk_46 (dk_at dksX0_areAllSo_1 7 rfl rfl)
theorem dX0_areAllSo_32 : decode cX0_areAllSo 32 = .ok (.iload_n 1, 1) := dk_27 (dk_at dksX0_areAllSo_1 8 rfl rfl)
theorem dX0_areAllSo_33 : decode cX0_areAllSo 33 = .ok (.invokevirtual 115, 3) := dk_182 0 115 (dk_at dksX0_areAllSo_1 9 rfl rfl)
theorem dX0_areAllSo_36 : decode cX0_areAllSo 36 = .ok (.iconst 2, 1) := dk_5 (dk_at dksX0_areAllSo_1 12 rfl rfl)
theorem dX0_areAllSo_37 : decode cX0_areAllSo 37 = .ok (.if_icmp .ne 7, 3) := dk_160 0 7 (dk_at dksX0_areAllSo_1 13 rfl rfl)
theorem dX0_areAllSo_40 : decode cX0_areAllSo 40 = .ok (.iconst 1, 1) := dk_4 (dk_at dksX0_areAllSo_1 16 rfl rfl)
theorem dX0_areAllSo_41 : decode cX0_areAllSo 41 = .ok (.goto 4, 3) := dk_167 0 4 (dk_at dksX0_areAllSo_1 17 rfl rfl)
theorem dX0_areAllSo_44 : decode cX0_areAllSo 44 = .ok (.iconst 0, 1) := dk_3 (dk_at dksX0_areAllSo_1 20 rfl rfl)
theorem dX0_areAllSo_45 : decode cX0_areAllSo 45 = .ok (.aload_n 0, 1) := dk_42 (dk_at dksX0_areAllSo_1 21 rfl rfl)
theorem dX0_areAllSo_46 : decode cX0_areAllSo 46 = .ok (.getfield 53, 3) := dk_180 0 53 (dk_at dksX0_areAllSo_2 0 rfl rfl)
theorem dX0_areAllSo_49 : decode cX0_areAllSo 49 = .ok (.iload_n 3, 1) := dk_29 (dk_at dksX0_areAllSo_2 3 rfl rfl)
theorem dX0_areAllSo_50 : decode cX0_areAllSo 50 = .ok (.baload, 1) := dk_51 (dk_at dksX0_areAllSo_2 4 rfl rfl)
theorem dX0_areAllSo_51 : decode cX0_areAllSo 51 = .ok (.if_icmp .ne 7, 3) := dk_160 0 7 (dk_at dksX0_areAllSo_2 5 rfl rfl)
theorem dX0_areAllSo_54 : decode cX0_areAllSo 54 = .ok (.iconst 1, 1) := dk_4 (dk_at dksX0_areAllSo_2 8 rfl rfl)
theorem dX0_areAllSo_55 : decode cX0_areAllSo 55 = .ok (.goto 4, 3) := dk_167 0 4 (dk_at dksX0_areAllSo_2 9 rfl rfl)
theorem dX0_areAllSo_58 : decode cX0_areAllSo 58 = .ok (.iconst 0, 1) := dk_3 (dk_at dksX0_areAllSo_2 12 rfl rfl)
theorem dX0_areAllSo_59 : decode cX0_areAllSo 59 = .ok (.istore_n 2, 1) := dk_61 (dk_at dksX0_areAllSo_2 13 rfl rfl)
theorem dX0_areAllSo_60 : decode cX0_areAllSo 60 = .ok (.iinc 3 1, 3) := dk_132 3 1 (dk_at dksX0_areAllSo_2 14 rfl rfl)
theorem dX0_areAllSo_63 : decode cX0_areAllSo 63 = .ok (.goto (-59), 3) := dk_167 255 197 (dk_at dksX0_areAllSo_2 17 rfl rfl)
theorem dX0_areAllSo_66 : decode cX0_areAllSo 66 = .ok (.iload_n 2, 1) := dk_28 (dk_at dksX0_areAllSo_2 20 rfl rfl)
theorem dX0_areAllSo_67 : decode cX0_areAllSo 67 = .ok (.ireturn, 1) := dk_172 (dk_at dksX0_areAllSo_2 21 rfl rfl)
abbrev cX0_seed : ByteArray := prog_1_method_67_code
def yX0_seed : MethodName := ⟨RX0, "seed", "(I)I"⟩
def dkwX0_seed_0 : List UInt8 := [27, 156, 0, 5, 2, 172, 42, 180, 1, 145, 61, 42, 27, 181, 1, 145, 28, 172]
abbrev dktX0_seed_0 : List UInt8 := dkwX0_seed_0 ++ []
theorem dksX0_seed_0 : cX0_seed.data.toList.drop 0 = dktX0_seed_0 := by decide +kernel
theorem dX0_seed_0 : decode cX0_seed 0 = .ok (.iload_n 1, 1) := dk_27 (dk_at dksX0_seed_0 0 rfl rfl)
theorem dX0_seed_1 : decode cX0_seed 1 = .ok (.ifCond .ge 5, 3) := dk_156 0 5 (dk_at dksX0_seed_0 1 rfl rfl)
theorem dX0_seed_4 : decode cX0_seed 4 = .ok (.iconst (-1), 1) := dk_2 (dk_at dksX0_seed_0 4 rfl rfl)
theorem dX0_seed_5 : decode cX0_seed 5 = .ok (.ireturn, 1) := dk_172 (dk_at dksX0_seed_0 5 rfl rfl)
theorem dX0_seed_6 : decode cX0_seed 6 = .ok (.aload_n 0, 1) := dk_42 (dk_at dksX0_seed_0 6 rfl rfl)
theorem dX0_seed_7 : decode cX0_seed 7 = .ok (.getfield 401, 3) := dk_180 1 145 (dk_at dksX0_seed_0 7 rfl rfl)
theorem dX0_seed_10 : decode cX0_seed 10 = .ok (.istore_n 2, 1) := dk_61 (dk_at dksX0_seed_0 10 rfl rfl)
theorem dX0_seed_11 : decode cX0_seed 11 = .ok (.aload_n 0, 1) := dk_42 (dk_at dksX0_seed_0 11 rfl rfl)
theorem dX0_seed_12 : decode cX0_seed 12 = .ok (.iload_n 1, 1) := dk_27 (dk_at dksX0_seed_0 12 rfl rfl)
theorem dX0_seed_13 : decode cX0_seed 13 = .ok (.putfield 401, 3) := dk_181 1 145 (dk_at dksX0_seed_0 13 rfl rfl)
theorem dX0_seed_16 : decode cX0_seed 16 = .ok (.iload_n 2, 1) := dk_28 (dk_at dksX0_seed_0 16 rfl rfl)
theorem dX0_seed_17 : decode cX0_seed 17 = .ok (.ireturn, 1) := dk_172 (dk_at dksX0_seed_0 17 rfl rfl)
abbrev cX0_fairs : ByteArray := prog_1_method_70_code
def yX0_fairs : MethodName := ⟨RX0, "fairs", "(IIII)I"⟩
def dkwX0_fairs_9 : List UInt8 := [167, 0, 5, 21, 7, 172]
abbrev dktX0_fairs_9 : List UInt8 := dkwX0_fairs_9 ++ []
def dkwX0_fairs_8 : List UInt8 := [167, 255, 221, 132, 8, 1, 167, 255, 133, 42, 21, 5, 181, 1, 145, 21, 4, 154, 0, 8, 21, 6]
abbrev dktX0_fairs_8 : List UInt8 := dkwX0_fairs_8 ++ dktX0_fairs_9
def dkwX0_fairs_7 : List UInt8 := [180, 0, 57, 42, 180, 0, 23, 42, 180, 0, 12, 21, 10, 182, 0, 195, 46, 96, 54, 7, 132, 10, 1]
abbrev dktX0_fairs_7 : List UInt8 := dkwX0_fairs_7 ++ dktX0_fairs_8
def dkwX0_fairs_6 : List UInt8 := [54, 6, 132, 10, 1, 167, 255, 221, 3, 54, 10, 21, 10, 42, 182, 0, 110, 162, 0, 32, 21, 7, 42]
abbrev dktX0_fairs_6 : List UInt8 := dkwX0_fairs_6 ++ dktX0_fairs_7
def dkwX0_fairs_5 : List UInt8 := [21, 6, 42, 42, 180, 0, 23, 42, 180, 0, 31, 27, 182, 0, 153, 192, 1, 65, 29, 182, 1, 162, 96]
abbrev dktX0_fairs_5 : List UInt8 := dkwX0_fairs_5 ++ dktX0_fairs_6
def dkwX0_fairs_4 : List UInt8 := [180, 0, 19, 180, 0, 165, 182, 1, 50, 184, 0, 251, 54, 9, 3, 54, 10, 21, 10, 21, 9, 162, 0, 34]
abbrev dktX0_fairs_4 : List UInt8 := dkwX0_fairs_4 ++ dktX0_fairs_5
def dkwX0_fairs_3 : List UInt8 := [21, 8, 28, 162, 0, 123, 42, 180, 0, 23, 42, 180, 0, 19, 182, 0, 244, 16, 24, 42, 180, 0, 12, 42]
abbrev dktX0_fairs_3 : List UInt8 := dkwX0_fairs_3 ++ dktX0_fairs_4
def dkwX0_fairs_2 : List UInt8 := [154, 0, 5, 2, 172, 42, 180, 1, 145, 54, 5, 3, 54, 6, 3, 54, 7, 42, 182, 0, 228, 3, 54, 8]
abbrev dktX0_fairs_2 : List UInt8 := dkwX0_fairs_2 ++ dktX0_fairs_3
def dkwX0_fairs_1 : List UInt8 := [153, 0, 26, 29, 133, 9, 20, 1, 160, 184, 0, 106, 153, 0, 14, 21, 4, 133, 9, 10, 184, 0, 106]
abbrev dktX0_fairs_1 : List UInt8 := dkwX0_fairs_1 ++ dktX0_fairs_2
def dkwX0_fairs_0 : List UInt8 := [42, 182, 0, 231, 153, 0, 46, 42, 27, 182, 1, 80, 153, 0, 38, 28, 133, 10, 20, 1, 158, 184, 0, 106]
abbrev dktX0_fairs_0 : List UInt8 := dkwX0_fairs_0 ++ dktX0_fairs_1
theorem dksX0_fairs_0 : cX0_fairs.data.toList.drop 0 = dktX0_fairs_0 := by decide +kernel
theorem dksX0_fairs_1 : cX0_fairs.data.toList.drop 24 = dktX0_fairs_1 := dk_seg dksX0_fairs_0 24 rfl rfl
theorem dksX0_fairs_2 : cX0_fairs.data.toList.drop 47 = dktX0_fairs_2 := dk_seg dksX0_fairs_1 23 rfl rfl
theorem dksX0_fairs_3 : cX0_fairs.data.toList.drop 71 = dktX0_fairs_3 := dk_seg dksX0_fairs_2 24 rfl rfl
theorem dksX0_fairs_4 : cX0_fairs.data.toList.drop 95 = dktX0_fairs_4 := dk_seg dksX0_fairs_3 24 rfl rfl
theorem dksX0_fairs_5 : cX0_fairs.data.toList.drop 119 = dktX0_fairs_5 := dk_seg dksX0_fairs_4 24 rfl rfl
theorem dksX0_fairs_6 : cX0_fairs.data.toList.drop 142 = dktX0_fairs_6 := dk_seg dksX0_fairs_5 23 rfl rfl
theorem dksX0_fairs_7 : cX0_fairs.data.toList.drop 165 = dktX0_fairs_7 := dk_seg dksX0_fairs_6 23 rfl rfl
theorem dksX0_fairs_8 : cX0_fairs.data.toList.drop 188 = dktX0_fairs_8 := dk_seg dksX0_fairs_7 23 rfl rfl
theorem dksX0_fairs_9 : cX0_fairs.data.toList.drop 210 = dktX0_fairs_9 := dk_seg dksX0_fairs_8 22 rfl rfl
theorem dX0_fairs_0 : decode cX0_fairs 0 = .ok (.aload_n 0, 1) := dk_42 (dk_at dksX0_fairs_0 0 rfl rfl)
theorem dX0_fairs_1 : decode cX0_fairs 1 = .ok (.invokevirtual 231, 3) := dk_182 0 231 (dk_at dksX0_fairs_0 1 rfl rfl)
theorem dX0_fairs_4 : decode cX0_fairs 4 = .ok (.ifCond .eq 46, 3) := dk_153 0 46 (dk_at dksX0_fairs_0 4 rfl rfl)
theorem dX0_fairs_7 : decode cX0_fairs 7 = .ok (.aload_n 0, 1) := dk_42 (dk_at dksX0_fairs_0 7 rfl rfl)
theorem dX0_fairs_8 : decode cX0_fairs 8 = .ok (.iload_n 1, 1) := dk_27 (dk_at dksX0_fairs_0 8 rfl rfl)
theorem dX0_fairs_9 : decode cX0_fairs 9 = .ok (.invokevirtual 336, 3) := dk_182 1 80 (dk_at dksX0_fairs_0 9 rfl rfl)
theorem dX0_fairs_12 : decode cX0_fairs 12 = .ok (.ifCond .eq 38, 3) := dk_153 0 38 (dk_at dksX0_fairs_0 12 rfl rfl)
theorem dX0_fairs_15 : decode cX0_fairs 15 = .ok (.iload_n 2, 1) := dk_28 (dk_at dksX0_fairs_0 15 rfl rfl)
theorem dX0_fairs_16 : decode cX0_fairs 16 = .ok (.i2l, 1) := dk_133 (dk_at dksX0_fairs_0 16 rfl rfl)
theorem dX0_fairs_17 : decode cX0_fairs 17 = .ok (.lconst 1, 1) := dk_10 (dk_at dksX0_fairs_0 17 rfl rfl)
theorem dX0_fairs_18 : decode cX0_fairs 18 = .ok (.ldc2_w 414, 3) := dk_20 1 158 (dk_at dksX0_fairs_0 18 rfl rfl)
theorem dX0_fairs_21 : decode cX0_fairs 21 = .ok (.invokestatic 106, 3) := dk_184 0 106 (dk_at dksX0_fairs_0 21 rfl rfl)
theorem dX0_fairs_24 : decode cX0_fairs 24 = .ok (.ifCond .eq 26, 3) := dk_153 0 26 (dk_at dksX0_fairs_1 0 rfl rfl)
theorem dX0_fairs_27 : decode cX0_fairs 27 = .ok (.iload_n 3, 1) := dk_29 (dk_at dksX0_fairs_1 3 rfl rfl)
theorem dX0_fairs_28 : decode cX0_fairs 28 = .ok (.i2l, 1) := dk_133 (dk_at dksX0_fairs_1 4 rfl rfl)
theorem dX0_fairs_29 : decode cX0_fairs 29 = .ok (.lconst 0, 1) := dk_9 (dk_at dksX0_fairs_1 5 rfl rfl)
theorem dX0_fairs_30 : decode cX0_fairs 30 = .ok (.ldc2_w 416, 3) := dk_20 1 160 (dk_at dksX0_fairs_1 6 rfl rfl)
theorem dX0_fairs_33 : decode cX0_fairs 33 = .ok (.invokestatic 106, 3) := dk_184 0 106 (dk_at dksX0_fairs_1 9 rfl rfl)
theorem dX0_fairs_36 : decode cX0_fairs 36 = .ok (.ifCond .eq 14, 3) := dk_153 0 14 (dk_at dksX0_fairs_1 12 rfl rfl)
theorem dX0_fairs_39 : decode cX0_fairs 39 = .ok (.iload 4, 2) := dk_21 4 (dk_at dksX0_fairs_1 15 rfl rfl)
theorem dX0_fairs_41 : decode cX0_fairs 41 = .ok (.i2l, 1) := dk_133 (dk_at dksX0_fairs_1 17 rfl rfl)
theorem dX0_fairs_42 : decode cX0_fairs 42 = .ok (.lconst 0, 1) := dk_9 (dk_at dksX0_fairs_1 18 rfl rfl)
theorem dX0_fairs_43 : decode cX0_fairs 43 = .ok (.lconst 1, 1) := dk_10 (dk_at dksX0_fairs_1 19 rfl rfl)
theorem dX0_fairs_44 : decode cX0_fairs 44 = .ok (.invokestatic 106, 3) := dk_184 0 106 (dk_at dksX0_fairs_1 20 rfl rfl)
theorem dX0_fairs_47 : decode cX0_fairs 47 = .ok (.ifCond .ne 5, 3) := dk_154 0 5 (dk_at dksX0_fairs_2 0 rfl rfl)
theorem dX0_fairs_50 : decode cX0_fairs 50 = .ok (.iconst (-1), 1) := dk_2 (dk_at dksX0_fairs_2 3 rfl rfl)
theorem dX0_fairs_51 : decode cX0_fairs 51 = .ok (.ireturn, 1) := dk_172 (dk_at dksX0_fairs_2 4 rfl rfl)
theorem dX0_fairs_52 : decode cX0_fairs 52 = .ok (.aload_n 0, 1) := dk_42 (dk_at dksX0_fairs_2 5 rfl rfl)
theorem dX0_fairs_53 : decode cX0_fairs 53 = .ok (.getfield 401, 3) := dk_180 1 145 (dk_at dksX0_fairs_2 6 rfl rfl)
theorem dX0_fairs_56 : decode cX0_fairs 56 = .ok (.istore 5, 2) := dk_54 5 (dk_at dksX0_fairs_2 9 rfl rfl)
theorem dX0_fairs_58 : decode cX0_fairs 58 = .ok (.iconst 0, 1) := dk_3 (dk_at dksX0_fairs_2 11 rfl rfl)
theorem dX0_fairs_59 : decode cX0_fairs 59 = .ok (.istore 6, 2) := dk_54 6 (dk_at dksX0_fairs_2 12 rfl rfl)
theorem dX0_fairs_61 : decode cX0_fairs 61 = .ok (.iconst 0, 1) := dk_3 (dk_at dksX0_fairs_2 14 rfl rfl)
theorem dX0_fairs_62 : decode cX0_fairs 62 = .ok (.istore 7, 2) := dk_54 7 (dk_at dksX0_fairs_2 15 rfl rfl)
theorem dX0_fairs_64 : decode cX0_fairs 64 = .ok (.aload_n 0, 1) := dk_42 (dk_at dksX0_fairs_2 17 rfl rfl)
theorem dX0_fairs_65 : decode cX0_fairs 65 = .ok (.invokevirtual 228, 3) := dk_182 0 228 (dk_at dksX0_fairs_2 18 rfl rfl)
theorem dX0_fairs_68 : decode cX0_fairs 68 = .ok (.iconst 0, 1) := dk_3 (dk_at dksX0_fairs_2 21 rfl rfl)
theorem dX0_fairs_69 : decode cX0_fairs 69 = .ok (.istore 8, 2) := dk_54 8 (dk_at dksX0_fairs_2 22 rfl rfl)
theorem dX0_fairs_71 : decode cX0_fairs 71 = .ok (.iload 8, 2) := dk_21 8 (dk_at dksX0_fairs_3 0 rfl rfl)
theorem dX0_fairs_73 : decode cX0_fairs 73 = .ok (.iload_n 2, 1) := dk_28 (dk_at dksX0_fairs_3 2 rfl rfl)
theorem dX0_fairs_74 : decode cX0_fairs 74 = .ok (.if_icmp .ge 123, 3) := dk_162 0 123 (dk_at dksX0_fairs_3 3 rfl rfl)
theorem dX0_fairs_77 : decode cX0_fairs 77 = .ok (.aload_n 0, 1) := dk_42 (dk_at dksX0_fairs_3 6 rfl rfl)
theorem dX0_fairs_78 : decode cX0_fairs 78 = .ok (.getfield 23, 3) := dk_180 0 23 (dk_at dksX0_fairs_3 7 rfl rfl)
theorem dX0_fairs_81 : decode cX0_fairs 81 = .ok (.aload_n 0, 1) := dk_42 (dk_at dksX0_fairs_3 10 rfl rfl)
theorem dX0_fairs_82 : decode cX0_fairs 82 = .ok (.getfield 19, 3) := dk_180 0 19 (dk_at dksX0_fairs_3 11 rfl rfl)
theorem dX0_fairs_85 : decode cX0_fairs 85 = .ok (.invokevirtual 244, 3) := dk_182 0 244 (dk_at dksX0_fairs_3 14 rfl rfl)
theorem dX0_fairs_88 : decode cX0_fairs 88 = .ok (.bipush 24, 2) := dk_16 24 (dk_at dksX0_fairs_3 17 rfl rfl)
theorem dX0_fairs_90 : decode cX0_fairs 90 = .ok (.aload_n 0, 1) := dk_42 (dk_at dksX0_fairs_3 19 rfl rfl)
theorem dX0_fairs_91 : decode cX0_fairs 91 = .ok (.getfield 12, 3) := dk_180 0 12 (dk_at dksX0_fairs_3 20 rfl rfl)
theorem dX0_fairs_94 : decode cX0_fairs 94 = .ok (.aload_n 0, 1) := dk_42 (dk_at dksX0_fairs_3 23 rfl rfl)
theorem dX0_fairs_95 : decode cX0_fairs 95 = .ok (.getfield 19, 3) := dk_180 0 19 (dk_at dksX0_fairs_4 0 rfl rfl)
theorem dX0_fairs_98 : decode cX0_fairs 98 = .ok (.getfield 165, 3) := dk_180 0 165 (dk_at dksX0_fairs_4 3 rfl rfl)
theorem dX0_fairs_101 : decode cX0_fairs 101 = .ok (.invokevirtual 306, 3) := dk_182 1 50 (dk_at dksX0_fairs_4 6 rfl rfl)
theorem dX0_fairs_104 : decode cX0_fairs 104 = .ok (.invokestatic 251, 3) := dk_184 0 251 (dk_at dksX0_fairs_4 9 rfl rfl)
theorem dX0_fairs_107 : decode cX0_fairs 107 = .ok (.istore 9, 2) := dk_54 9 (dk_at dksX0_fairs_4 12 rfl rfl)
theorem dX0_fairs_109 : decode cX0_fairs 109 = .ok (.iconst 0, 1) := dk_3 (dk_at dksX0_fairs_4 14 rfl rfl)
theorem dX0_fairs_110 : decode cX0_fairs 110 = .ok (.istore 10, 2) := dk_54 10 (dk_at dksX0_fairs_4 15 rfl rfl)
theorem dX0_fairs_112 : decode cX0_fairs 112 = .ok (.iload 10, 2) := dk_21 10 (dk_at dksX0_fairs_4 17 rfl rfl)
theorem dX0_fairs_114 : decode cX0_fairs 114 = .ok (.iload 9, 2) := dk_21 9 (dk_at dksX0_fairs_4 19 rfl rfl)
theorem dX0_fairs_116 : decode cX0_fairs 116 = .ok (.if_icmp .ge 34, 3) := dk_162 0 34 (dk_at dksX0_fairs_4 21 rfl rfl)
theorem dX0_fairs_119 : decode cX0_fairs 119 = .ok (.iload 6, 2) := dk_21 6 (dk_at dksX0_fairs_5 0 rfl rfl)
theorem dX0_fairs_121 : decode cX0_fairs 121 = .ok (.aload_n 0, 1) := dk_42 (dk_at dksX0_fairs_5 2 rfl rfl)
theorem dX0_fairs_122 : decode cX0_fairs 122 = .ok (.aload_n 0, 1) := dk_42 (dk_at dksX0_fairs_5 3 rfl rfl)
theorem dX0_fairs_123 : decode cX0_fairs 123 = .ok (.getfield 23, 3) := dk_180 0 23 (dk_at dksX0_fairs_5 4 rfl rfl)
theorem dX0_fairs_126 : decode cX0_fairs 126 = .ok (.aload_n 0, 1) := dk_42 (dk_at dksX0_fairs_5 7 rfl rfl)
theorem dX0_fairs_127 : decode cX0_fairs 127 = .ok (.getfield 31, 3) := dk_180 0 31 (dk_at dksX0_fairs_5 8 rfl rfl)
theorem dX0_fairs_130 : decode cX0_fairs 130 = .ok (.iload_n 1, 1) := dk_27 (dk_at dksX0_fairs_5 11 rfl rfl)
theorem dX0_fairs_131 : decode cX0_fairs 131 = .ok (.invokevirtual 153, 3) := dk_182 0 153 (dk_at dksX0_fairs_5 12 rfl rfl)
theorem dX0_fairs_134 : decode cX0_fairs 134 = .ok (.checkcast 321, 3) := dk_192 1 65 (dk_at dksX0_fairs_5 15 rfl rfl)
theorem dX0_fairs_137 : decode cX0_fairs 137 = .ok (.iload_n 3, 1) := dk_29 (dk_at dksX0_fairs_5 18 rfl rfl)
theorem dX0_fairs_138 : decode cX0_fairs 138 = .ok (.invokevirtual 418, 3) := dk_182 1 162 (dk_at dksX0_fairs_5 19 rfl rfl)
theorem dX0_fairs_141 : decode cX0_fairs 141 = .ok (.iadd, 1) := dk_96 (dk_at dksX0_fairs_5 22 rfl rfl)
theorem dX0_fairs_142 : decode cX0_fairs 142 = .ok (.istore 6, 2) := dk_54 6 (dk_at dksX0_fairs_6 0 rfl rfl)
theorem dX0_fairs_144 : decode cX0_fairs 144 = .ok (.iinc 10 1, 3) := dk_132 10 1 (dk_at dksX0_fairs_6 2 rfl rfl)
theorem dX0_fairs_147 : decode cX0_fairs 147 = .ok (.goto (-35), 3) := dk_167 255 221 (dk_at dksX0_fairs_6 5 rfl rfl)
theorem dX0_fairs_150 : decode cX0_fairs 150 = .ok (.iconst 0, 1) := dk_3 (dk_at dksX0_fairs_6 8 rfl rfl)
theorem dX0_fairs_151 : decode cX0_fairs 151 = .ok (.istore 10, 2) := dk_54 10 (dk_at dksX0_fairs_6 9 rfl rfl)
theorem dX0_fairs_153 : decode cX0_fairs 153 = .ok (.iload 10, 2) := dk_21 10 (dk_at dksX0_fairs_6 11 rfl rfl)
theorem dX0_fairs_155 : decode cX0_fairs 155 = .ok (.aload_n 0, 1) := dk_42 (dk_at dksX0_fairs_6 13 rfl rfl)
theorem dX0_fairs_156 : decode cX0_fairs 156 = .ok (.invokevirtual 110, 3) := dk_182 0 110 (dk_at dksX0_fairs_6 14 rfl rfl)
theorem dX0_fairs_159 : decode cX0_fairs 159 = .ok (.if_icmp .ge 32, 3) := dk_162 0 32 (dk_at dksX0_fairs_6 17 rfl rfl)
theorem dX0_fairs_162 : decode cX0_fairs 162 = .ok (.iload 7, 2) := dk_21 7 (dk_at dksX0_fairs_6 20 rfl rfl)
theorem dX0_fairs_164 : decode cX0_fairs 164 = .ok (.aload_n 0, 1) := dk_42 (dk_at dksX0_fairs_6 22 rfl rfl)
theorem dX0_fairs_165 : decode cX0_fairs 165 = .ok (.getfield 57, 3) := dk_180 0 57 (dk_at dksX0_fairs_7 0 rfl rfl)
theorem dX0_fairs_168 : decode cX0_fairs 168 = .ok (.aload_n 0, 1) := dk_42 (dk_at dksX0_fairs_7 3 rfl rfl)
theorem dX0_fairs_169 : decode cX0_fairs 169 = .ok (.getfield 23, 3) := dk_180 0 23 (dk_at dksX0_fairs_7 4 rfl rfl)
theorem dX0_fairs_172 : decode cX0_fairs 172 = .ok (.aload_n 0, 1) := dk_42 (dk_at dksX0_fairs_7 7 rfl rfl)
theorem dX0_fairs_173 : decode cX0_fairs 173 = .ok (.getfield 12, 3) := dk_180 0 12 (dk_at dksX0_fairs_7 8 rfl rfl)
theorem dX0_fairs_176 : decode cX0_fairs 176 = .ok (.iload 10, 2) := dk_21 10 (dk_at dksX0_fairs_7 11 rfl rfl)
theorem dX0_fairs_178 : decode cX0_fairs 178 = .ok (.invokevirtual 195, 3) := dk_182 0 195 (dk_at dksX0_fairs_7 13 rfl rfl)
theorem dX0_fairs_181 : decode cX0_fairs 181 = .ok (.iaload, 1) := dk_46 (dk_at dksX0_fairs_7 16 rfl rfl)
theorem dX0_fairs_182 : decode cX0_fairs 182 = .ok (.iadd, 1) := dk_96 (dk_at dksX0_fairs_7 17 rfl rfl)
theorem dX0_fairs_183 : decode cX0_fairs 183 = .ok (.istore 7, 2) := dk_54 7 (dk_at dksX0_fairs_7 18 rfl rfl)
theorem dX0_fairs_185 : decode cX0_fairs 185 = .ok (.iinc 10 1, 3) := dk_132 10 1 (dk_at dksX0_fairs_7 20 rfl rfl)
theorem dX0_fairs_188 : decode cX0_fairs 188 = .ok (.goto (-35), 3) := dk_167 255 221 (dk_at dksX0_fairs_8 0 rfl rfl)
theorem dX0_fairs_191 : decode cX0_fairs 191 = .ok (.iinc 8 1, 3) := dk_132 8 1 (dk_at dksX0_fairs_8 3 rfl rfl)
theorem dX0_fairs_194 : decode cX0_fairs 194 = .ok (.goto (-123), 3) := dk_167 255 133 (dk_at dksX0_fairs_8 6 rfl rfl)
theorem dX0_fairs_197 : decode cX0_fairs 197 = .ok (.aload_n 0, 1) := dk_42 (dk_at dksX0_fairs_8 9 rfl rfl)
theorem dX0_fairs_198 : decode cX0_fairs 198 = .ok (.iload 5, 2) := dk_21 5 (dk_at dksX0_fairs_8 10 rfl rfl)
theorem dX0_fairs_200 : decode cX0_fairs 200 = .ok (.putfield 401, 3) := dk_181 1 145 (dk_at dksX0_fairs_8 12 rfl rfl)
theorem dX0_fairs_203 : decode cX0_fairs 203 = .ok (.iload 4, 2) := dk_21 4 (dk_at dksX0_fairs_8 15 rfl rfl)
theorem dX0_fairs_205 : decode cX0_fairs 205 = .ok (.ifCond .ne 8, 3) := dk_154 0 8 (dk_at dksX0_fairs_8 17 rfl rfl)
theorem dX0_fairs_208 : decode cX0_fairs 208 = .ok (.iload 6, 2) := dk_21 6 (dk_at dksX0_fairs_8 20 rfl rfl)
theorem dX0_fairs_210 : decode cX0_fairs 210 = .ok (.goto 5, 3) := dk_167 0 5 (dk_at dksX0_fairs_9 0 rfl rfl)
theorem dX0_fairs_213 : decode cX0_fairs 213 = .ok (.iload 7, 2) := dk_21 7 (dk_at dksX0_fairs_9 3 rfl rfl)
theorem dX0_fairs_215 : decode cX0_fairs 215 = .ok (.ireturn, 1) := dk_172 (dk_at dksX0_fairs_9 5 rfl rfl)
abbrev cX0_drawnHour : ByteArray := prog_1_method_69_code
def yX0_drawnHour : MethodName := ⟨RX0, "drawnHour", "(LHalfFair$State;LHalfFair$Rule;I)I"⟩
def dkwX0_drawnHour_4 : List UInt8 := [182, 1, 3, 132, 5, 1, 167, 255, 165, 43, 42, 180, 0, 12, 182, 1, 7, 21, 4, 172]
abbrev dktX0_drawnHour_4 : List UInt8 := dkwX0_drawnHour_4 ++ []
def dkwX0_drawnHour_3 : List UInt8 := [180, 0, 12, 21, 5, 21, 6, 153, 0, 8, 21, 7, 167, 0, 11, 42, 43, 21, 5, 44, 182, 1, 77]
abbrev dktX0_drawnHour_3 : List UInt8 := dkwX0_drawnHour_3 ++ dktX0_drawnHour_4
def dkwX0_drawnHour_2 : List UInt8 := [167, 0, 4, 3, 54, 7, 21, 4, 42, 43, 21, 5, 44, 182, 1, 74, 184, 1, 35, 96, 54, 4, 43, 42]
abbrev dktX0_drawnHour_2 : List UInt8 := dkwX0_drawnHour_2 ++ dktX0_drawnHour_3
def dkwX0_drawnHour_1 : List UInt8 := [162, 0, 7, 4, 167, 0, 4, 3, 54, 6, 21, 6, 153, 0, 13, 42, 6, 182, 1, 155, 4, 100]
abbrev dktX0_drawnHour_1 : List UInt8 := dkwX0_drawnHour_1 ++ dktX0_drawnHour_2
def dkwX0_drawnHour_0 : List UInt8 := [3, 54, 4, 3, 54, 5, 21, 5, 42, 182, 0, 110, 162, 0, 88, 42, 16, 100, 182, 1, 155, 29]
abbrev dktX0_drawnHour_0 : List UInt8 := dkwX0_drawnHour_0 ++ dktX0_drawnHour_1
theorem dksX0_drawnHour_0 : cX0_drawnHour.data.toList.drop 0 = dktX0_drawnHour_0 := by decide +kernel
theorem dksX0_drawnHour_1 : cX0_drawnHour.data.toList.drop 22 = dktX0_drawnHour_1 := dk_seg dksX0_drawnHour_0 22 rfl rfl
theorem dksX0_drawnHour_2 : cX0_drawnHour.data.toList.drop 44 = dktX0_drawnHour_2 := dk_seg dksX0_drawnHour_1 22 rfl rfl
theorem dksX0_drawnHour_3 : cX0_drawnHour.data.toList.drop 68 = dktX0_drawnHour_3 := dk_seg dksX0_drawnHour_2 24 rfl rfl
theorem dksX0_drawnHour_4 : cX0_drawnHour.data.toList.drop 91 = dktX0_drawnHour_4 := dk_seg dksX0_drawnHour_3 23 rfl rfl
theorem dX0_drawnHour_0 : decode cX0_drawnHour 0 = .ok (.iconst 0, 1) := dk_3 (dk_at dksX0_drawnHour_0 0 rfl rfl)
theorem dX0_drawnHour_1 : decode cX0_drawnHour 1 = .ok (.istore 4, 2) := dk_54 4 (dk_at dksX0_drawnHour_0 1 rfl rfl)
theorem dX0_drawnHour_3 : decode cX0_drawnHour 3 = .ok (.iconst 0, 1) := dk_3 (dk_at dksX0_drawnHour_0 3 rfl rfl)
theorem dX0_drawnHour_4 : decode cX0_drawnHour 4 = .ok (.istore 5, 2) := dk_54 5 (dk_at dksX0_drawnHour_0 4 rfl rfl)
theorem dX0_drawnHour_6 : decode cX0_drawnHour 6 = .ok (.iload 5, 2) := dk_21 5 (dk_at dksX0_drawnHour_0 6 rfl rfl)
theorem dX0_drawnHour_8 : decode cX0_drawnHour 8 = .ok (.aload_n 0, 1) := dk_42 (dk_at dksX0_drawnHour_0 8 rfl rfl)
theorem dX0_drawnHour_9 : decode cX0_drawnHour 9 = .ok (.invokevirtual 110, 3) := dk_182 0 110 (dk_at dksX0_drawnHour_0 9 rfl rfl)
theorem dX0_drawnHour_12 : decode cX0_drawnHour 12 = .ok (.if_icmp .ge 88, 3) := dk_162 0 88 (dk_at dksX0_drawnHour_0 12 rfl rfl)
theorem dX0_drawnHour_15 : decode cX0_drawnHour 15 = .ok (.aload_n 0, 1) := dk_42 (dk_at dksX0_drawnHour_0 15 rfl rfl)
theorem dX0_drawnHour_16 : decode cX0_drawnHour 16 = .ok (.bipush 100, 2) := dk_16 100 (dk_at dksX0_drawnHour_0 16 rfl rfl)
theorem dX0_drawnHour_18 : decode cX0_drawnHour 18 = .ok (.invokevirtual 411, 3) := dk_182 1 155 (dk_at dksX0_drawnHour_0 18 rfl rfl)
theorem dX0_drawnHour_21 : decode cX0_drawnHour 21 = .ok (.iload_n 3, 1) := dk_29 (dk_at dksX0_drawnHour_0 21 rfl rfl)
theorem dX0_drawnHour_22 : decode cX0_drawnHour 22 = .ok (.if_icmp .ge 7, 3) := dk_162 0 7 (dk_at dksX0_drawnHour_1 0 rfl rfl)
theorem dX0_drawnHour_25 : decode cX0_drawnHour 25 = .ok (.iconst 1, 1) := dk_4 (dk_at dksX0_drawnHour_1 3 rfl rfl)
theorem dX0_drawnHour_26 : decode cX0_drawnHour 26 = .ok (.goto 4, 3) := dk_167 0 4 (dk_at dksX0_drawnHour_1 4 rfl rfl)
theorem dX0_drawnHour_29 : decode cX0_drawnHour 29 = .ok (.iconst 0, 1) := dk_3 (dk_at dksX0_drawnHour_1 7 rfl rfl)
theorem dX0_drawnHour_30 : decode cX0_drawnHour 30 = .ok (.istore 6, 2) := dk_54 6 (dk_at dksX0_drawnHour_1 8 rfl rfl)
theorem dX0_drawnHour_32 : decode cX0_drawnHour 32 = .ok (.iload 6, 2) := dk_21 6 (dk_at dksX0_drawnHour_1 10 rfl rfl)
theorem dX0_drawnHour_34 : decode cX0_drawnHour 34 = .ok (.ifCond .eq 13, 3) := dk_153 0 13 (dk_at dksX0_drawnHour_1 12 rfl rfl)
theorem dX0_drawnHour_37 : decode cX0_drawnHour 37 = .ok (.aload_n 0, 1) := dk_42 (dk_at dksX0_drawnHour_1 15 rfl rfl)
theorem dX0_drawnHour_38 : decode cX0_drawnHour 38 = .ok (.iconst 3, 1) := dk_6 (dk_at dksX0_drawnHour_1 16 rfl rfl)
theorem dX0_drawnHour_39 : decode cX0_drawnHour 39 = .ok (.invokevirtual 411, 3) := dk_182 1 155 (dk_at dksX0_drawnHour_1 17 rfl rfl)
theorem dX0_drawnHour_42 : decode cX0_drawnHour 42 = .ok (.iconst 1, 1) := dk_4 (dk_at dksX0_drawnHour_1 20 rfl rfl)
theorem dX0_drawnHour_43 : decode cX0_drawnHour 43 = .ok (.isub, 1) := dk_100 (dk_at dksX0_drawnHour_1 21 rfl rfl)
theorem dX0_drawnHour_44 : decode cX0_drawnHour 44 = .ok (.goto 4, 3) := dk_167 0 4 (dk_at dksX0_drawnHour_2 0 rfl rfl)
theorem dX0_drawnHour_47 : decode cX0_drawnHour 47 = .ok (.iconst 0, 1) := dk_3 (dk_at dksX0_drawnHour_2 3 rfl rfl)
theorem dX0_drawnHour_48 : decode cX0_drawnHour 48 = .ok (.istore 7, 2) := dk_54 7 (dk_at dksX0_drawnHour_2 4 rfl rfl)
theorem dX0_drawnHour_50 : decode cX0_drawnHour 50 = .ok (.iload 4, 2) := dk_21 4 (dk_at dksX0_drawnHour_2 6 rfl rfl)
theorem dX0_drawnHour_52 : decode cX0_drawnHour 52 = .ok (.aload_n 0, 1) := dk_42 (dk_at dksX0_drawnHour_2 8 rfl rfl)
theorem dX0_drawnHour_53 : decode cX0_drawnHour 53 = .ok (.aload_n 1, 1) := dk_43 (dk_at dksX0_drawnHour_2 9 rfl rfl)
theorem dX0_drawnHour_54 : decode cX0_drawnHour 54 = .ok (.iload 5, 2) := dk_21 5 (dk_at dksX0_drawnHour_2 10 rfl rfl)
theorem dX0_drawnHour_56 : decode cX0_drawnHour 56 = .ok (.aload_n 2, 1) := dk_44 (dk_at dksX0_drawnHour_2 12 rfl rfl)
theorem dX0_drawnHour_57 : decode cX0_drawnHour 57 = .ok (.invokevirtual 330, 3) := dk_182 1 74 (dk_at dksX0_drawnHour_2 13 rfl rfl)
theorem dX0_drawnHour_60 : decode cX0_drawnHour 60 = .ok (.invokestatic 291, 3) := dk_184 1 35 (dk_at dksX0_drawnHour_2 16 rfl rfl)
theorem dX0_drawnHour_63 : decode cX0_drawnHour 63 = .ok (.iadd, 1) := dk_96 (dk_at dksX0_drawnHour_2 19 rfl rfl)
theorem dX0_drawnHour_64 : decode cX0_drawnHour 64 = .ok (.istore 4, 2) := dk_54 4 (dk_at dksX0_drawnHour_2 20 rfl rfl)
theorem dX0_drawnHour_66 : decode cX0_drawnHour 66 = .ok (.aload_n 1, 1) := dk_43 (dk_at dksX0_drawnHour_2 22 rfl rfl)
theorem dX0_drawnHour_67 : decode cX0_drawnHour 67 = .ok (.aload_n 0, 1) := dk_42 (dk_at dksX0_drawnHour_2 23 rfl rfl)
theorem dX0_drawnHour_68 : decode cX0_drawnHour 68 = .ok (.getfield 12, 3) := dk_180 0 12 (dk_at dksX0_drawnHour_3 0 rfl rfl)
theorem dX0_drawnHour_71 : decode cX0_drawnHour 71 = .ok (.iload 5, 2) := dk_21 5 (dk_at dksX0_drawnHour_3 3 rfl rfl)
theorem dX0_drawnHour_73 : decode cX0_drawnHour 73 = .ok (.iload 6, 2) := dk_21 6 (dk_at dksX0_drawnHour_3 5 rfl rfl)
theorem dX0_drawnHour_75 : decode cX0_drawnHour 75 = .ok (.ifCond .eq 8, 3) := dk_153 0 8 (dk_at dksX0_drawnHour_3 7 rfl rfl)
theorem dX0_drawnHour_78 : decode cX0_drawnHour 78 = .ok (.iload 7, 2) := dk_21 7 (dk_at dksX0_drawnHour_3 10 rfl rfl)
theorem dX0_drawnHour_80 : decode cX0_drawnHour 80 = .ok (.goto 11, 3) := dk_167 0 11 (dk_at dksX0_drawnHour_3 12 rfl rfl)
theorem dX0_drawnHour_83 : decode cX0_drawnHour 83 = .ok (.aload_n 0, 1) := dk_42 (dk_at dksX0_drawnHour_3 15 rfl rfl)
theorem dX0_drawnHour_84 : decode cX0_drawnHour 84 = .ok (.aload_n 1, 1) := dk_43 (dk_at dksX0_drawnHour_3 16 rfl rfl)
theorem dX0_drawnHour_85 : decode cX0_drawnHour 85 = .ok (.iload 5, 2) := dk_21 5 (dk_at dksX0_drawnHour_3 17 rfl rfl)
theorem dX0_drawnHour_87 : decode cX0_drawnHour 87 = .ok (.aload_n 2, 1) := dk_44 (dk_at dksX0_drawnHour_3 19 rfl rfl)
theorem dX0_drawnHour_88 : decode cX0_drawnHour 88 = .ok (.invokevirtual 333, 3) := dk_182 1 77 (dk_at dksX0_drawnHour_3 20 rfl rfl)
theorem dX0_drawnHour_91 : decode cX0_drawnHour 91 = .ok (.invokevirtual 259, 3) := dk_182 1 3 (dk_at dksX0_drawnHour_4 0 rfl rfl)
theorem dX0_drawnHour_94 : decode cX0_drawnHour 94 = .ok (.iinc 5 1, 3) := dk_132 5 1 (dk_at dksX0_drawnHour_4 3 rfl rfl)
theorem dX0_drawnHour_97 : decode cX0_drawnHour 97 = .ok (.goto (-91), 3) := dk_167 255 165 (dk_at dksX0_drawnHour_4 6 rfl rfl)
theorem dX0_drawnHour_100 : decode cX0_drawnHour 100 = .ok (.aload_n 1, 1) := dk_43 (dk_at dksX0_drawnHour_4 9 rfl rfl)
theorem dX0_drawnHour_101 : decode cX0_drawnHour 101 = .ok (.aload_n 0, 1) := dk_42 (dk_at dksX0_drawnHour_4 10 rfl rfl)
theorem dX0_drawnHour_102 : decode cX0_drawnHour 102 = .ok (.getfield 12, 3) := dk_180 0 12 (dk_at dksX0_drawnHour_4 11 rfl rfl)
theorem dX0_drawnHour_105 : decode cX0_drawnHour 105 = .ok (.invokevirtual 263, 3) := dk_182 1 7 (dk_at dksX0_drawnHour_4 14 rfl rfl)
theorem dX0_drawnHour_108 : decode cX0_drawnHour 108 = .ok (.iload 4, 2) := dk_21 4 (dk_at dksX0_drawnHour_4 17 rfl rfl)
theorem dX0_drawnHour_110 : decode cX0_drawnHour 110 = .ok (.ireturn, 1) := dk_172 (dk_at dksX0_drawnHour_4 19 rfl rfl)
abbrev cX0_draws : ByteArray := prog_1_method_68_code
def yX0_draws : MethodName := ⟨RX0, "draws", "(I)I"⟩
def dkwX0_draws_1 : List UInt8 := [180, 1, 145, 19, 1, 154, 108, 27, 112, 172]
abbrev dktX0_draws_1 : List UInt8 := dkwX0_draws_1 ++ []
def dkwX0_draws_0 : List UInt8 := [42, 42, 180, 1, 145, 133, 20, 1, 148, 105, 20, 1, 150, 97, 20, 1, 152, 113, 136, 181, 1, 145, 42]
abbrev dktX0_draws_0 : List UInt8 := dkwX0_draws_0 ++ dktX0_draws_1
theorem dksX0_draws_0 : cX0_draws.data.toList.drop 0 = dktX0_draws_0 := by decide +kernel
theorem dksX0_draws_1 : cX0_draws.data.toList.drop 23 = dktX0_draws_1 := dk_seg dksX0_draws_0 23 rfl rfl
theorem dX0_draws_0 : decode cX0_draws 0 = .ok (.aload_n 0, 1) := dk_42 (dk_at dksX0_draws_0 0 rfl rfl)
theorem dX0_draws_1 : decode cX0_draws 1 = .ok (.aload_n 0, 1) := dk_42 (dk_at dksX0_draws_0 1 rfl rfl)
theorem dX0_draws_2 : decode cX0_draws 2 = .ok (.getfield 401, 3) := dk_180 1 145 (dk_at dksX0_draws_0 2 rfl rfl)
theorem dX0_draws_5 : decode cX0_draws 5 = .ok (.i2l, 1) := dk_133 (dk_at dksX0_draws_0 5 rfl rfl)
theorem dX0_draws_6 : decode cX0_draws 6 = .ok (.ldc2_w 404, 3) := dk_20 1 148 (dk_at dksX0_draws_0 6 rfl rfl)
theorem dX0_draws_9 : decode cX0_draws 9 = .ok (.lmul, 1) := dk_105 (dk_at dksX0_draws_0 9 rfl rfl)
theorem dX0_draws_10 : decode cX0_draws 10 = .ok (.ldc2_w 406, 3) := dk_20 1 150 (dk_at dksX0_draws_0 10 rfl rfl)
theorem dX0_draws_13 : decode cX0_draws 13 = .ok (.ladd, 1) := dk_97 (dk_at dksX0_draws_0 13 rfl rfl)
theorem dX0_draws_14 : decode cX0_draws 14 = .ok (.ldc2_w 408, 3) := dk_20 1 152 (dk_at dksX0_draws_0 14 rfl rfl)
theorem dX0_draws_17 : decode cX0_draws 17 = .ok (.lrem, 1) := dk_113 (dk_at dksX0_draws_0 17 rfl rfl)
theorem dX0_draws_18 : decode cX0_draws 18 = .ok (.l2i, 1) := dk_136 (dk_at dksX0_draws_0 18 rfl rfl)
theorem dX0_draws_19 : decode cX0_draws 19 = .ok (.putfield 401, 3) := dk_181 1 145 (dk_at dksX0_draws_0 19 rfl rfl)
theorem dX0_draws_22 : decode cX0_draws 22 = .ok (.aload_n 0, 1) := dk_42 (dk_at dksX0_draws_0 22 rfl rfl)
theorem dX0_draws_23 : decode cX0_draws 23 = .ok (.getfield 401, 3) := dk_180 1 145 (dk_at dksX0_draws_1 0 rfl rfl)
theorem dX0_draws_26 : decode cX0_draws 26 = .ok (.ldc_w 410, 3) := dk_19 1 154 (dk_at dksX0_draws_1 3 rfl rfl)
theorem dX0_draws_29 : decode cX0_draws 29 = .ok (.idiv, 1) := dk_108 (dk_at dksX0_draws_1 6 rfl rfl)
theorem dX0_draws_30 : decode cX0_draws 30 = .ok (.iload_n 1, 1) := dk_27 (dk_at dksX0_draws_1 7 rfl rfl)
theorem dX0_draws_31 : decode cX0_draws 31 = .ok (.irem, 1) := dk_112 (dk_at dksX0_draws_1 8 rfl rfl)
theorem dX0_draws_32 : decode cX0_draws 32 = .ok (.ireturn, 1) := dk_172 (dk_at dksX0_draws_1 9 rfl rfl)
abbrev cX0_count : ByteArray := prog_1_method_71_code
def yX0_count : MethodName := ⟨RX0, "count", "(I)I"⟩
def dkwX0_count_6 : List UInt8 := [180, 0, 122, 172, 2, 172]
abbrev dktX0_count_6 : List UInt8 := dkwX0_count_6 ++ []
def dkwX0_count_5 : List UInt8 := [182, 1, 56, 184, 1, 35, 172, 42, 180, 0, 140, 172, 42, 180, 0, 248, 172, 42, 180, 1, 145, 172, 42]
abbrev dktX0_count_5 : List UInt8 := dkwX0_count_5 ++ dktX0_count_6
def dkwX0_count_4 : List UInt8 := [180, 0, 19, 180, 0, 165, 182, 1, 50, 167, 0, 4, 2, 172, 42, 180, 0, 19, 42, 180, 0, 12]
abbrev dktX0_count_4 : List UInt8 := dkwX0_count_4 ++ dktX0_count_5
def dkwX0_count_3 : List UInt8 := [182, 0, 96, 172, 42, 180, 0, 19, 180, 0, 165, 172, 42, 182, 0, 231, 153, 0, 20, 42, 180, 0, 12, 42]
abbrev dktX0_count_3 : List UInt8 := dkwX0_count_3 ++ dktX0_count_4
def dkwX0_count_2 : List UInt8 := [42, 180, 0, 12, 180, 0, 89, 172, 42, 182, 0, 103, 172, 42, 182, 0, 110, 172, 42, 180, 0, 31]
abbrev dktX0_count_2 : List UInt8 := dkwX0_count_2 ++ dktX0_count_3
def dkwX0_count_1 : List UInt8 := [170, 0, 0, 0, 0, 0, 154, 0, 0, 0, 0, 0, 0, 0, 10, 0, 0, 0, 59, 0, 0, 0, 67, 0, 0, 0, 72, 0, 0, 0, 77, 0, 0, 0, 85, 0, 0, 0, 93, 0, 0, 0, 119, 0, 0, 0, 134, 0, 0, 0, 139, 0, 0, 0, 144, 0, 0, 0, 149]
abbrev dktX0_count_1 : List UInt8 := dkwX0_count_1 ++ dktX0_count_2
def dkwX0_count_0 : List UInt8 := [27]
abbrev dktX0_count_0 : List UInt8 := dkwX0_count_0 ++ dktX0_count_1
theorem dksX0_count_0 : cX0_count.data.toList.drop 0 = dktX0_count_0 := by decide +kernel
theorem dksX0_count_1 : cX0_count.data.toList.drop 1 = dktX0_count_1 := dk_seg dksX0_count_0 1 rfl rfl
theorem dksX0_count_2 : cX0_count.data.toList.drop 60 = dktX0_count_2 := dk_seg dksX0_count_1 59 rfl rfl
theorem dksX0_count_3 : cX0_count.data.toList.drop 82 = dktX0_count_3 := dk_seg dksX0_count_2 22 rfl rfl
theorem dksX0_count_4 : cX0_count.data.toList.drop 106 = dktX0_count_4 := dk_seg dksX0_count_3 24 rfl rfl
theorem dksX0_count_5 : cX0_count.data.toList.drop 128 = dktX0_count_5 := dk_seg dksX0_count_4 22 rfl rfl
theorem dksX0_count_6 : cX0_count.data.toList.drop 151 = dktX0_count_6 := dk_seg dksX0_count_5 23 rfl rfl
theorem dX0_count_0 : decode cX0_count 0 = .ok (.iload_n 1, 1) := dk_27 (dk_at dksX0_count_0 0 rfl rfl)
theorem dX0_count_1 : decode cX0_count 1 = .ok (.tableswitch 154 0 10 #[59, 67, 72, 77, 85, 93, 119, 134, 139, 144, 149], 59) := by decide +kernel
theorem dX0_count_60 : decode cX0_count 60 = .ok (.aload_n 0, 1) := dk_42 (dk_at dksX0_count_2 0 rfl rfl)
theorem dX0_count_61 : decode cX0_count 61 = .ok (.getfield 12, 3) := dk_180 0 12 (dk_at dksX0_count_2 1 rfl rfl)
theorem dX0_count_64 : decode cX0_count 64 = .ok (.getfield 89, 3) := dk_180 0 89 (dk_at dksX0_count_2 4 rfl rfl)
theorem dX0_count_67 : decode cX0_count 67 = .ok (.ireturn, 1) := dk_172 (dk_at dksX0_count_2 7 rfl rfl)
theorem dX0_count_68 : decode cX0_count 68 = .ok (.aload_n 0, 1) := dk_42 (dk_at dksX0_count_2 8 rfl rfl)
theorem dX0_count_69 : decode cX0_count 69 = .ok (.invokevirtual 103, 3) := dk_182 0 103 (dk_at dksX0_count_2 9 rfl rfl)
theorem dX0_count_72 : decode cX0_count 72 = .ok (.ireturn, 1) := dk_172 (dk_at dksX0_count_2 12 rfl rfl)
theorem dX0_count_73 : decode cX0_count 73 = .ok (.aload_n 0, 1) := dk_42 (dk_at dksX0_count_2 13 rfl rfl)
theorem dX0_count_74 : decode cX0_count 74 = .ok (.invokevirtual 110, 3) := dk_182 0 110 (dk_at dksX0_count_2 14 rfl rfl)
theorem dX0_count_77 : decode cX0_count 77 = .ok (.ireturn, 1) := dk_172 (dk_at dksX0_count_2 17 rfl rfl)
theorem dX0_count_78 : decode cX0_count 78 = .ok (.aload_n 0, 1) := dk_42 (dk_at dksX0_count_2 18 rfl rfl)
theorem dX0_count_79 : decode cX0_count 79 = .ok (.getfield 31, 3) := dk_180 0 31 (dk_at dksX0_count_2 19 rfl rfl)
theorem dX0_count_82 : decode cX0_count 82 = .ok (.invokevirtual 96, 3) := dk_182 0 96 (dk_at dksX0_count_3 0 rfl rfl)
theorem dX0_count_85 : decode cX0_count 85 = .ok (.ireturn, 1) := dk_172 (dk_at dksX0_count_3 3 rfl rfl)
theorem dX0_count_86 : decode cX0_count 86 = .ok (.aload_n 0, 1) := dk_42 (dk_at dksX0_count_3 4 rfl rfl)
theorem dX0_count_87 : decode cX0_count 87 = .ok (.getfield 19, 3) := dk_180 0 19 (dk_at dksX0_count_3 5 rfl rfl)
theorem dX0_count_90 : decode cX0_count 90 = .ok (.getfield 165, 3) := dk_180 0 165 (dk_at dksX0_count_3 8 rfl rfl)
theorem dX0_count_93 : decode cX0_count 93 = .ok (.ireturn, 1) := dk_172 (dk_at dksX0_count_3 11 rfl rfl)
theorem dX0_count_94 : decode cX0_count 94 = .ok (.aload_n 0, 1) := dk_42 (dk_at dksX0_count_3 12 rfl rfl)
theorem dX0_count_95 : decode cX0_count 95 = .ok (.invokevirtual 231, 3) := dk_182 0 231 (dk_at dksX0_count_3 13 rfl rfl)
theorem dX0_count_98 : decode cX0_count 98 = .ok (.ifCond .eq 20, 3) := dk_153 0 20 (dk_at dksX0_count_3 16 rfl rfl)
theorem dX0_count_101 : decode cX0_count 101 = .ok (.aload_n 0, 1) := dk_42 (dk_at dksX0_count_3 19 rfl rfl)
theorem dX0_count_102 : decode cX0_count 102 = .ok (.getfield 12, 3) := dk_180 0 12 (dk_at dksX0_count_3 20 rfl rfl)
theorem dX0_count_105 : decode cX0_count 105 = .ok (.aload_n 0, 1) := dk_42 (dk_at dksX0_count_3 23 rfl rfl)
theorem dX0_count_106 : decode cX0_count 106 = .ok (.getfield 19, 3) := dk_180 0 19 (dk_at dksX0_count_4 0 rfl rfl)
theorem dX0_count_109 : decode cX0_count 109 = .ok (.getfield 165, 3) := dk_180 0 165 (dk_at dksX0_count_4 3 rfl rfl)
theorem dX0_count_112 : decode cX0_count 112 = .ok (.invokevirtual 306, 3) := dk_182 1 50 (dk_at dksX0_count_4 6 rfl rfl)
theorem dX0_count_115 : decode cX0_count 115 = .ok (.goto 4, 3) := dk_167 0 4 (dk_at dksX0_count_4 9 rfl rfl)
theorem dX0_count_118 : decode cX0_count 118 = .ok (.iconst (-1), 1) := dk_2 (dk_at dksX0_count_4 12 rfl rfl)
theorem dX0_count_119 : decode cX0_count 119 = .ok (.ireturn, 1) := dk_172 (dk_at dksX0_count_4 13 rfl rfl)
theorem dX0_count_120 : decode cX0_count 120 = .ok (.aload_n 0, 1) := dk_42 (dk_at dksX0_count_4 14 rfl rfl)
theorem dX0_count_121 : decode cX0_count 121 = .ok (.getfield 19, 3) := dk_180 0 19 (dk_at dksX0_count_4 15 rfl rfl)
theorem dX0_count_124 : decode cX0_count 124 = .ok (.aload_n 0, 1) := dk_42 (dk_at dksX0_count_4 18 rfl rfl)
theorem dX0_count_125 : decode cX0_count 125 = .ok (.getfield 12, 3) := dk_180 0 12 (dk_at dksX0_count_4 19 rfl rfl)
theorem dX0_count_128 : decode cX0_count 128 = .ok (.invokevirtual 312, 3) := dk_182 1 56 (dk_at dksX0_count_5 0 rfl rfl)
theorem dX0_count_131 : decode cX0_count 131 = .ok (.invokestatic 291, 3) := dk_184 1 35 (dk_at dksX0_count_5 3 rfl rfl)
theorem dX0_count_134 : decode cX0_count 134 = .ok (.ireturn, 1) := dk_172 (dk_at dksX0_count_5 6 rfl rfl)
theorem dX0_count_135 : decode cX0_count 135 = .ok (.aload_n 0, 1) := dk_42 (dk_at dksX0_count_5 7 rfl rfl)
theorem dX0_count_136 : decode cX0_count 136 = .ok (.getfield 140, 3) := dk_180 0 140 (dk_at dksX0_count_5 8 rfl rfl)
theorem dX0_count_139 : decode cX0_count 139 = .ok (.ireturn, 1) := dk_172 (dk_at dksX0_count_5 11 rfl rfl)
theorem dX0_count_140 : decode cX0_count 140 = .ok (.aload_n 0, 1) := dk_42 (dk_at dksX0_count_5 12 rfl rfl)
theorem dX0_count_141 : decode cX0_count 141 = .ok (.getfield 248, 3) := dk_180 0 248 (dk_at dksX0_count_5 13 rfl rfl)
theorem dX0_count_144 : decode cX0_count 144 = .ok (.ireturn, 1) := dk_172 (dk_at dksX0_count_5 16 rfl rfl)
theorem dX0_count_145 : decode cX0_count 145 = .ok (.aload_n 0, 1) := dk_42 (dk_at dksX0_count_5 17 rfl rfl)
theorem dX0_count_146 : decode cX0_count 146 = .ok (.getfield 401, 3) := dk_180 1 145 (dk_at dksX0_count_5 18 rfl rfl)
theorem dX0_count_149 : decode cX0_count 149 = .ok (.ireturn, 1) := dk_172 (dk_at dksX0_count_5 21 rfl rfl)
theorem dX0_count_150 : decode cX0_count 150 = .ok (.aload_n 0, 1) := dk_42 (dk_at dksX0_count_5 22 rfl rfl)
theorem dX0_count_151 : decode cX0_count 151 = .ok (.getfield 122, 3) := dk_180 0 122 (dk_at dksX0_count_6 0 rfl rfl)
theorem dX0_count_154 : decode cX0_count 154 = .ok (.ireturn, 1) := dk_172 (dk_at dksX0_count_6 3 rfl rfl)
theorem dX0_count_155 : decode cX0_count 155 = .ok (.iconst (-1), 1) := dk_2 (dk_at dksX0_count_6 4 rfl rfl)
theorem dX0_count_156 : decode cX0_count 156 = .ok (.ireturn, 1) := dk_172 (dk_at dksX0_count_6 5 rfl rfl)
abbrev cX0_image : ByteArray := prog_1_method_72_code
def yX0_image : MethodName := ⟨RX0, "image", "(I)I"⟩
def dkwX0_image_2 : List UInt8 := [180, 0, 19, 180, 0, 165, 172]
abbrev dktX0_image_2 : List UInt8 := dkwX0_image_2 ++ []
def dkwX0_image_1 : List UInt8 := [180, 0, 85, 27, 187, 0, 83, 89, 42, 183, 1, 168, 83, 42, 180, 0, 85, 27, 50, 182, 1, 171, 42]
abbrev dktX0_image_1 : List UInt8 := dkwX0_image_1 ++ dktX0_image_2
def dkwX0_image_0 : List UInt8 := [27, 133, 9, 20, 1, 166, 184, 0, 106, 154, 0, 5, 2, 172, 42, 180, 0, 85, 27, 50, 199, 0, 17, 42]
abbrev dktX0_image_0 : List UInt8 := dkwX0_image_0 ++ dktX0_image_1
theorem dksX0_image_0 : cX0_image.data.toList.drop 0 = dktX0_image_0 := by decide +kernel
theorem dksX0_image_1 : cX0_image.data.toList.drop 24 = dktX0_image_1 := dk_seg dksX0_image_0 24 rfl rfl
theorem dksX0_image_2 : cX0_image.data.toList.drop 47 = dktX0_image_2 := dk_seg dksX0_image_1 23 rfl rfl
theorem dX0_image_0 : decode cX0_image 0 = .ok (.iload_n 1, 1) := dk_27 (dk_at dksX0_image_0 0 rfl rfl)
theorem dX0_image_1 : decode cX0_image 1 = .ok (.i2l, 1) := dk_133 (dk_at dksX0_image_0 1 rfl rfl)
theorem dX0_image_2 : decode cX0_image 2 = .ok (.lconst 0, 1) := dk_9 (dk_at dksX0_image_0 2 rfl rfl)
theorem dX0_image_3 : decode cX0_image 3 = .ok (.ldc2_w 422, 3) := dk_20 1 166 (dk_at dksX0_image_0 3 rfl rfl)
theorem dX0_image_6 : decode cX0_image 6 = .ok (.invokestatic 106, 3) := dk_184 0 106 (dk_at dksX0_image_0 6 rfl rfl)
theorem dX0_image_9 : decode cX0_image 9 = .ok (.ifCond .ne 5, 3) := dk_154 0 5 (dk_at dksX0_image_0 9 rfl rfl)
theorem dX0_image_12 : decode cX0_image 12 = .ok (.iconst (-1), 1) := dk_2 (dk_at dksX0_image_0 12 rfl rfl)
theorem dX0_image_13 : decode cX0_image 13 = .ok (.ireturn, 1) := dk_172 (dk_at dksX0_image_0 13 rfl rfl)
theorem dX0_image_14 : decode cX0_image 14 = .ok (.aload_n 0, 1) := dk_42 (dk_at dksX0_image_0 14 rfl rfl)
theorem dX0_image_15 : decode cX0_image 15 = .ok (.getfield 85, 3) := dk_180 0 85 (dk_at dksX0_image_0 15 rfl rfl)
theorem dX0_image_18 : decode cX0_image 18 = .ok (.iload_n 1, 1) := dk_27 (dk_at dksX0_image_0 18 rfl rfl)
theorem dX0_image_19 : decode cX0_image 19 = .ok (.aaload, 1) := dk_50 (dk_at dksX0_image_0 19 rfl rfl)
theorem dX0_image_20 : decode cX0_image 20 = .ok (.ifnonnull 17, 3) := dk_199 0 17 (dk_at dksX0_image_0 20 rfl rfl)
theorem dX0_image_23 : decode cX0_image 23 = .ok (.aload_n 0, 1) := dk_42 (dk_at dksX0_image_0 23 rfl rfl)
theorem dX0_image_24 : decode cX0_image 24 = .ok (.getfield 85, 3) := dk_180 0 85 (dk_at dksX0_image_1 0 rfl rfl)
theorem dX0_image_27 : decode cX0_image 27 = .ok (.iload_n 1, 1) := dk_27 (dk_at dksX0_image_1 3 rfl rfl)
theorem dX0_image_28 : decode cX0_image 28 = .ok (.new 83, 3) := dk_187 0 83 (dk_at dksX0_image_1 4 rfl rfl)
theorem dX0_image_31 : decode cX0_image 31 = .ok (.dup, 1) := dk_89 (dk_at dksX0_image_1 7 rfl rfl)
theorem dX0_image_32 : decode cX0_image 32 = .ok (.aload_n 0, 1) := dk_42 (dk_at dksX0_image_1 8 rfl rfl)
theorem dX0_image_33 : decode cX0_image 33 = .ok (.invokespecial 424, 3) := dk_183 1 168 (dk_at dksX0_image_1 9 rfl rfl)
theorem dX0_image_36 : decode cX0_image 36 = .ok (.aastore, 1) := dk_83 (dk_at dksX0_image_1 12 rfl rfl)
theorem dX0_image_37 : decode cX0_image 37 = .ok (.aload_n 0, 1) := dk_42 (dk_at dksX0_image_1 13 rfl rfl)
theorem dX0_image_38 : decode cX0_image 38 = .ok (.getfield 85, 3) := dk_180 0 85 (dk_at dksX0_image_1 14 rfl rfl)
theorem dX0_image_41 : decode cX0_image 41 = .ok (.iload_n 1, 1) := dk_27 (dk_at dksX0_image_1 17 rfl rfl)
theorem dX0_image_42 : decode cX0_image 42 = .ok (.aaload, 1) := dk_50 (dk_at dksX0_image_1 18 rfl rfl)
theorem dX0_image_43 : decode cX0_image 43 = .ok (.invokevirtual 427, 3) := dk_182 1 171 (dk_at dksX0_image_1 19 rfl rfl)
theorem dX0_image_46 : decode cX0_image 46 = .ok (.aload_n 0, 1) := dk_42 (dk_at dksX0_image_1 22 rfl rfl)
theorem dX0_image_47 : decode cX0_image 47 = .ok (.getfield 19, 3) := dk_180 0 19 (dk_at dksX0_image_2 0 rfl rfl)
theorem dX0_image_50 : decode cX0_image 50 = .ok (.getfield 165, 3) := dk_180 0 165 (dk_at dksX0_image_2 3 rfl rfl)
theorem dX0_image_53 : decode cX0_image 53 = .ok (.ireturn, 1) := dk_172 (dk_at dksX0_image_2 6 rfl rfl)
abbrev cX0_back : ByteArray := prog_1_method_73_code
def yX0_back : MethodName := ⟨RX0, "back", "(I)I"⟩
def dkwX0_back_1 : List UInt8 := [180, 0, 85, 27, 50, 182, 1, 174, 42, 180, 0, 19, 180, 0, 165, 172]
abbrev dktX0_back_1 : List UInt8 := dkwX0_back_1 ++ []
def dkwX0_back_0 : List UInt8 := [27, 133, 9, 20, 1, 166, 184, 0, 106, 153, 0, 12, 42, 180, 0, 85, 27, 50, 199, 0, 5, 2, 172, 42]
abbrev dktX0_back_0 : List UInt8 := dkwX0_back_0 ++ dktX0_back_1
theorem dksX0_back_0 : cX0_back.data.toList.drop 0 = dktX0_back_0 := by decide +kernel
theorem dksX0_back_1 : cX0_back.data.toList.drop 24 = dktX0_back_1 := dk_seg dksX0_back_0 24 rfl rfl
theorem dX0_back_0 : decode cX0_back 0 = .ok (.iload_n 1, 1) := dk_27 (dk_at dksX0_back_0 0 rfl rfl)
theorem dX0_back_1 : decode cX0_back 1 = .ok (.i2l, 1) := dk_133 (dk_at dksX0_back_0 1 rfl rfl)
theorem dX0_back_2 : decode cX0_back 2 = .ok (.lconst 0, 1) := dk_9 (dk_at dksX0_back_0 2 rfl rfl)
theorem dX0_back_3 : decode cX0_back 3 = .ok (.ldc2_w 422, 3) := dk_20 1 166 (dk_at dksX0_back_0 3 rfl rfl)
theorem dX0_back_6 : decode cX0_back 6 = .ok (.invokestatic 106, 3) := dk_184 0 106 (dk_at dksX0_back_0 6 rfl rfl)
theorem dX0_back_9 : decode cX0_back 9 = .ok (.ifCond .eq 12, 3) := dk_153 0 12 (dk_at dksX0_back_0 9 rfl rfl)
theorem dX0_back_12 : decode cX0_back 12 = .ok (.aload_n 0, 1) := dk_42 (dk_at dksX0_back_0 12 rfl rfl)
theorem dX0_back_13 : decode cX0_back 13 = .ok (.getfield 85, 3) := dk_180 0 85 (dk_at dksX0_back_0 13 rfl rfl)
theorem dX0_back_16 : decode cX0_back 16 = .ok (.iload_n 1, 1) := dk_27 (dk_at dksX0_back_0 16 rfl rfl)
theorem dX0_back_17 : decode cX0_back 17 = .ok (.aaload, 1) := dk_50 (dk_at dksX0_back_0 17 rfl rfl)
theorem dX0_back_18 : decode cX0_back 18 = .ok (.ifnonnull 5, 3) := dk_199 0 5 (dk_at dksX0_back_0 18 rfl rfl)
theorem dX0_back_21 : decode cX0_back 21 = .ok (.iconst (-1), 1) := dk_2 (dk_at dksX0_back_0 21 rfl rfl)
theorem dX0_back_22 : decode cX0_back 22 = .ok (.ireturn, 1) := dk_172 (dk_at dksX0_back_0 22 rfl rfl)
theorem dX0_back_23 : decode cX0_back 23 = .ok (.aload_n 0, 1) := dk_42 (dk_at dksX0_back_0 23 rfl rfl)
theorem dX0_back_24 : decode cX0_back 24 = .ok (.getfield 85, 3) := dk_180 0 85 (dk_at dksX0_back_1 0 rfl rfl)
theorem dX0_back_27 : decode cX0_back 27 = .ok (.iload_n 1, 1) := dk_27 (dk_at dksX0_back_1 3 rfl rfl)
theorem dX0_back_28 : decode cX0_back 28 = .ok (.aaload, 1) := dk_50 (dk_at dksX0_back_1 4 rfl rfl)
theorem dX0_back_29 : decode cX0_back 29 = .ok (.invokevirtual 430, 3) := dk_182 1 174 (dk_at dksX0_back_1 5 rfl rfl)
theorem dX0_back_32 : decode cX0_back 32 = .ok (.aload_n 0, 1) := dk_42 (dk_at dksX0_back_1 8 rfl rfl)
theorem dX0_back_33 : decode cX0_back 33 = .ok (.getfield 19, 3) := dk_180 0 19 (dk_at dksX0_back_1 9 rfl rfl)
theorem dX0_back_36 : decode cX0_back 36 = .ok (.getfield 165, 3) := dk_180 0 165 (dk_at dksX0_back_1 12 rfl rfl)
theorem dX0_back_39 : decode cX0_back 39 = .ok (.ireturn, 1) := dk_172 (dk_at dksX0_back_1 15 rfl rfl)
theorem q153 : (Jvm.Cond.initialized "HalfFair") ∈ lw_all := lw_g (lw_at lw_m1 1 rfl) rfl
theorem q189 : (Jvm.Cond.instantiable "HalfFair" (23 : Nat)) ∈ lw_all := lw_g (lw_at lw_m1 37 rfl) rfl
theorem q191 : (Jvm.Cond.instanceMethod ({ cls := "HalfFair", name := "<init>", desc := "()V" } : Jvm.MethodName)) ∈ lw_all := lw_g (lw_at lw_m1 39 rfl) rfl
theorem q192 : (Jvm.Cond.code ({ cls := "HalfFair", name := "<init>", desc := "()V" } : Jvm.MethodName) prog_1_method_4_code (1 : Nat) (Option.none : Option Jvm.ClassFile.FieldType)) ∈ lw_all := lw_g (lw_at lw_m1 40 rfl) rfl
theorem q193 : (Jvm.Cond.methodLink "HalfFair" (3 : Nat) ({ cls := "java/lang/Object", name := "<init>", desc := "()V" } : Jvm.MethodName)) ∈ lw_all := lw_g (lw_at lw_m1 41 rfl) rfl
theorem q196 : (Jvm.Cond.classLink "HalfFair" (9 : Nat) "HalfFair$Fair") ∈ lw_all := lw_g (lw_at lw_m1 44 rfl) rfl
theorem q198 : (Jvm.Cond.methodLinkNest "HalfFair" (11 : Nat) ({ cls := "HalfFair$Fair", name := "<init>", desc := "()V" } : Jvm.MethodName) "HalfFair") ∈ lw_tbl := lw_at lw_m1 46 rfl
theorem q232 : (Jvm.Cond.fieldLinkNest "HalfFair" (93 : Nat) "HalfFair$Fair" "halves" "Ljava/util/ArrayList;" "HalfFair") ∈ lw_tbl := lw_at lw_m1 80 rfl
theorem q236 : (Jvm.Cond.fieldLinkNest "HalfFair" (100 : Nat) "HalfFair$Fair" "buyers" "Ljava/util/ArrayList;" "HalfFair") ∈ lw_tbl := lw_at lw_m1 84 rfl
theorem q240 : (Jvm.Cond.fieldLinkNest "HalfFair" (202 : Nat) "HalfFair$Fair" "club" "[I" "HalfFair") ∈ lw_tbl := lw_at lw_m1 88 rfl
theorem q242 : (Jvm.Cond.fieldLinkNest "HalfFair" (89 : Nat) "HalfFair$Fair" "stalls" "I" "HalfFair") ∈ lw_tbl := lw_at lw_m1 90 rfl
theorem q249 : (Jvm.Cond.fieldLinkNest "HalfFair" (276 : Nat) "HalfFair$Fair" "near" "I" "HalfFair") ∈ lw_tbl := lw_at lw_m1 97 rfl
theorem q256 : (Jvm.Cond.fieldLinkNest "HalfFair" (282 : Nat) "HalfFair$Fair" "hear" "I" "HalfFair") ∈ lw_tbl := lw_at lw_m1 104 rfl
theorem q257 : (Jvm.Cond.fieldLinkNest "HalfFair" (112 : Nat) "HalfFair$Fair" "forged" "I" "HalfFair") ∈ lw_tbl := lw_at lw_m1 105 rfl
theorem q290 : (Jvm.Cond.classLink "HalfFair" (16 : Nat) "HalfFair$State") ∈ lw_all := lw_g (lw_at lw_m1 138 rfl) rfl
theorem q292 : (Jvm.Cond.methodLinkNest "HalfFair" (18 : Nat) ({ cls := "HalfFair$State", name := "<init>", desc := "()V" } : Jvm.MethodName) "HalfFair") ∈ lw_tbl := lw_at lw_m1 140 rfl
theorem q297 : (Jvm.Cond.fieldLinkNest "HalfFair" (172 : Nat) "HalfFair$State" "where" "[I" "HalfFair") ∈ lw_tbl := lw_at lw_m1 145 rfl
theorem q299 : (Jvm.Cond.fieldLinkNest "HalfFair" (189 : Nat) "HalfFair$State" "purse" "[I" "HalfFair") ∈ lw_tbl := lw_at lw_m1 147 rfl
theorem q301 : (Jvm.Cond.fieldLinkNest "HalfFair" (192 : Nat) "HalfFair$State" "spot" "[I" "HalfFair") ∈ lw_tbl := lw_at lw_m1 149 rfl
theorem q303 : (Jvm.Cond.fieldLinkNest "HalfFair" (288 : Nat) "HalfFair$State" "saw" "[I" "HalfFair") ∈ lw_tbl := lw_at lw_m1 151 rfl
theorem q305 : (Jvm.Cond.fieldLinkNest "HalfFair" (165 : Nat) "HalfFair$State" "now" "I" "HalfFair") ∈ lw_tbl := lw_at lw_m1 153 rfl
theorem q317 : (Jvm.Cond.classLink "HalfFair" (26 : Nat) "java/util/ArrayList") ∈ lw_all := lw_g (lw_at lw_m1 165 rfl) rfl
theorem q318 : (Jvm.Cond.methodLink "HalfFair" (28 : Nat) ({ cls := "java/util/ArrayList", name := "<init>", desc := "(I)V" } : Jvm.MethodName)) ∈ lw_all := lw_g (lw_at lw_m1 166 rfl) rfl
theorem q319 : (Jvm.Cond.classLink "HalfFair" (35 : Nat) "HalfFair$Wrong") ∈ lw_all := lw_g (lw_at lw_m1 167 rfl) rfl
theorem q356 : (Jvm.Cond.methodLinkNest "HalfFair" (37 : Nat) ({ cls := "HalfFair$Wrong", name := "<init>", desc := "()V" } : Jvm.MethodName) "HalfFair") ∈ lw_tbl := lw_at lw_m1 204 rfl
theorem q363 : (Jvm.Cond.fieldLinkNest "HalfFair" (119 : Nat) "HalfFair$Wrong" "number" "I" "HalfFair") ∈ lw_tbl := lw_at lw_m1 211 rfl
theorem q378 : (Jvm.Cond.methodLink "HalfFair" (60 : Nat) ({ cls := "HalfFair", name := "newStates", desc := "(I)[LHalfFair$State;" } : Jvm.MethodName)) ∈ lw_all := lw_g (lw_at lw_m1 226 rfl) rfl
theorem q379 : (Jvm.Cond.static ({ cls := "HalfFair", name := "newStates", desc := "(I)[LHalfFair$State;" } : Jvm.MethodName)) ∈ lw_all := lw_g (lw_at lw_m1 227 rfl) rfl
theorem q380 : (Jvm.Cond.code ({ cls := "HalfFair", name := "newStates", desc := "(I)[LHalfFair$State;" } : Jvm.MethodName) prog_1_method_31_code (3 : Nat) (Option.some (Jvm.ClassFile.FieldType.array (Jvm.ClassFile.FieldType.object "HalfFair$State")))) ∈ lw_all := lw_g (lw_at lw_m1 228 rfl) rfl
theorem q382 : (Jvm.Cond.fieldLink "HalfFair" (68 : Nat) "HalfFair" "NAMES" "[Ljava/lang/String;") ∈ lw_all := lw_g (lw_at lw_m1 230 rfl) rfl
theorem q383 : (Jvm.Cond.laysStatic "HalfFair" "NAMES" "[Ljava/lang/String;") ∈ lw_tbl := lw_at lw_m1 231 rfl
theorem q384 : (Jvm.Cond.constant "HalfFair" (76 : Nat) (32768 : Int32)) ∈ lw_all := lw_g (lw_at lw_m1 232 rfl) rfl
theorem q385 : (Jvm.Cond.classLink "HalfFair" (83 : Nat) "HalfFair$Image") ∈ lw_all := lw_g (lw_at lw_m1 233 rfl) rfl
theorem q388 : (Jvm.Cond.fieldLink "HalfFair" (12 : Nat) "HalfFair" "fair" "LHalfFair$Fair;") ∈ lw_all := lw_g (lw_at lw_m1 236 rfl) rfl
theorem q390 : (Jvm.Cond.fieldLink "HalfFair" (19 : Nat) "HalfFair" "state" "LHalfFair$State;") ∈ lw_all := lw_g (lw_at lw_m1 238 rfl) rfl
theorem q391 : (Jvm.Cond.fieldLink "HalfFair" (23 : Nat) "HalfFair" "kept" "LHalfFair$State;") ∈ lw_all := lw_g (lw_at lw_m1 239 rfl) rfl
theorem q392 : (Jvm.Cond.fieldLink "HalfFair" (31 : Nat) "HalfFair" "rules" "Ljava/util/ArrayList;") ∈ lw_all := lw_g (lw_at lw_m2 0 rfl) rfl
theorem q394 : (Jvm.Cond.fieldLink "HalfFair" (38 : Nat) "HalfFair" "wrong" "LHalfFair$Wrong;") ∈ lw_all := lw_g (lw_at lw_m2 2 rfl) rfl
theorem q396 : (Jvm.Cond.fieldLink "HalfFair" (42 : Nat) "HalfFair" "tape" "[B") ∈ lw_all := lw_g (lw_at lw_m2 4 rfl) rfl
theorem q398 : (Jvm.Cond.fieldLink "HalfFair" (122 : Nat) "HalfFair" "taped" "I") ∈ lw_all := lw_g (lw_at lw_m2 6 rfl) rfl
theorem q400 : (Jvm.Cond.fieldLink "HalfFair" (46 : Nat) "HalfFair" "trialOne" "[I") ∈ lw_all := lw_g (lw_at lw_m2 8 rfl) rfl
theorem q402 : (Jvm.Cond.fieldLink "HalfFair" (50 : Nat) "HalfFair" "trialOther" "[I") ∈ lw_all := lw_g (lw_at lw_m2 10 rfl) rfl
theorem q404 : (Jvm.Cond.fieldLink "HalfFair" (53 : Nat) "HalfFair" "isFitted" "[Z") ∈ lw_all := lw_g (lw_at lw_m2 12 rfl) rfl
theorem q406 : (Jvm.Cond.fieldLink "HalfFair" (140 : Nat) "HalfFair" "trialMany" "I") ∈ lw_all := lw_g (lw_at lw_m2 14 rfl) rfl
theorem q408 : (Jvm.Cond.fieldLink "HalfFair" (401 : Nat) "HalfFair" "draw" "I") ∈ lw_all := lw_g (lw_at lw_m2 16 rfl) rfl
theorem q409 : (Jvm.Cond.fieldLink "HalfFair" (57 : Nat) "HalfFair" "worths" "[I") ∈ lw_all := lw_g (lw_at lw_m2 17 rfl) rfl
theorem q410 : (Jvm.Cond.fieldLink "HalfFair" (64 : Nat) "HalfFair" "past" "[LHalfFair$State;") ∈ lw_all := lw_g (lw_at lw_m2 18 rfl) rfl
theorem q411 : (Jvm.Cond.fieldLink "HalfFair" (248 : Nat) "HalfFair" "pastMany" "I") ∈ lw_all := lw_g (lw_at lw_m2 19 rfl) rfl
theorem q412 : (Jvm.Cond.fieldLink "HalfFair" (241 : Nat) "HalfFair" "pastAt" "I") ∈ lw_all := lw_g (lw_at lw_m2 20 rfl) rfl
theorem q413 : (Jvm.Cond.fieldLink "HalfFair" (72 : Nat) "HalfFair" "words" "[J") ∈ lw_all := lw_g (lw_at lw_m2 21 rfl) rfl
theorem q414 : (Jvm.Cond.fieldLink "HalfFair" (77 : Nat) "HalfFair" "can" "[Z") ∈ lw_all := lw_g (lw_at lw_m2 22 rfl) rfl
theorem q415 : (Jvm.Cond.fieldLink "HalfFair" (80 : Nat) "HalfFair" "next" "[Z") ∈ lw_all := lw_g (lw_at lw_m2 23 rfl) rfl
theorem q416 : (Jvm.Cond.fieldLink "HalfFair" (368 : Nat) "HalfFair" "bestWalk" "I") ∈ lw_all := lw_g (lw_at lw_m2 24 rfl) rfl
theorem q417 : (Jvm.Cond.fieldLink "HalfFair" (371 : Nat) "HalfFair" "bestWay" "I") ∈ lw_all := lw_g (lw_at lw_m2 25 rfl) rfl
theorem q418 : (Jvm.Cond.fieldLink "HalfFair" (374 : Nat) "HalfFair" "bestSet" "I") ∈ lw_all := lw_g (lw_at lw_m2 26 rfl) rfl
theorem q419 : (Jvm.Cond.fieldLink "HalfFair" (85 : Nat) "HalfFair" "images" "[LHalfFair$Image;") ∈ lw_all := lw_g (lw_at lw_m2 27 rfl) rfl
theorem q420 : (Jvm.Cond.lays "HalfFair" "HalfFair" "fair" "LHalfFair$Fair;") ∈ lw_all := lw_g (lw_at lw_m2 28 rfl) rfl
theorem q421 : (Jvm.Cond.soleField "HalfFair" "fair") ∈ lw_all := lw_g (lw_at lw_m2 29 rfl) rfl
theorem q422 : (Jvm.Cond.laysFinal "HalfFair" "HalfFair" "state" "LHalfFair$State;") ∈ lw_all := lw_g (lw_at lw_m2 30 rfl) rfl
theorem q423 : (Jvm.Cond.soleField "HalfFair" "state") ∈ lw_all := lw_g (lw_at lw_m2 31 rfl) rfl
theorem q424 : (Jvm.Cond.laysFinal "HalfFair" "HalfFair" "kept" "LHalfFair$State;") ∈ lw_all := lw_g (lw_at lw_m2 32 rfl) rfl
theorem q425 : (Jvm.Cond.soleField "HalfFair" "kept") ∈ lw_all := lw_g (lw_at lw_m2 33 rfl) rfl
theorem q426 : (Jvm.Cond.laysFinal "HalfFair" "HalfFair" "rules" "Ljava/util/ArrayList;") ∈ lw_all := lw_g (lw_at lw_m2 34 rfl) rfl
theorem q427 : (Jvm.Cond.soleField "HalfFair" "rules") ∈ lw_all := lw_g (lw_at lw_m2 35 rfl) rfl
theorem q428 : (Jvm.Cond.laysFinal "HalfFair" "HalfFair" "wrong" "LHalfFair$Wrong;") ∈ lw_all := lw_g (lw_at lw_m2 36 rfl) rfl
theorem q429 : (Jvm.Cond.soleField "HalfFair" "wrong") ∈ lw_all := lw_g (lw_at lw_m2 37 rfl) rfl
theorem q430 : (Jvm.Cond.laysFinal "HalfFair" "HalfFair" "tape" "[B") ∈ lw_all := lw_g (lw_at lw_m2 38 rfl) rfl
theorem q431 : (Jvm.Cond.soleField "HalfFair" "tape") ∈ lw_all := lw_g (lw_at lw_m2 39 rfl) rfl
theorem q432 : (Jvm.Cond.lays "HalfFair" "HalfFair" "taped" "I") ∈ lw_all := lw_g (lw_at lw_m2 40 rfl) rfl
theorem q433 : (Jvm.Cond.soleField "HalfFair" "taped") ∈ lw_all := lw_g (lw_at lw_m2 41 rfl) rfl
theorem q434 : (Jvm.Cond.laysFinal "HalfFair" "HalfFair" "trialOne" "[I") ∈ lw_all := lw_g (lw_at lw_m2 42 rfl) rfl
theorem q435 : (Jvm.Cond.soleField "HalfFair" "trialOne") ∈ lw_all := lw_g (lw_at lw_m2 43 rfl) rfl
theorem q436 : (Jvm.Cond.laysFinal "HalfFair" "HalfFair" "trialOther" "[I") ∈ lw_all := lw_g (lw_at lw_m2 44 rfl) rfl
theorem q437 : (Jvm.Cond.soleField "HalfFair" "trialOther") ∈ lw_all := lw_g (lw_at lw_m2 45 rfl) rfl
theorem q438 : (Jvm.Cond.laysFinal "HalfFair" "HalfFair" "isFitted" "[Z") ∈ lw_all := lw_g (lw_at lw_m2 46 rfl) rfl
theorem q439 : (Jvm.Cond.soleField "HalfFair" "isFitted") ∈ lw_all := lw_g (lw_at lw_m2 47 rfl) rfl
theorem q440 : (Jvm.Cond.lays "HalfFair" "HalfFair" "trialMany" "I") ∈ lw_all := lw_g (lw_at lw_m2 48 rfl) rfl
theorem q441 : (Jvm.Cond.soleField "HalfFair" "trialMany") ∈ lw_all := lw_g (lw_at lw_m2 49 rfl) rfl
theorem q442 : (Jvm.Cond.lays "HalfFair" "HalfFair" "draw" "I") ∈ lw_all := lw_g (lw_at lw_m2 50 rfl) rfl
theorem q443 : (Jvm.Cond.soleField "HalfFair" "draw") ∈ lw_all := lw_g (lw_at lw_m2 51 rfl) rfl
theorem q444 : (Jvm.Cond.laysFinal "HalfFair" "HalfFair" "worths" "[I") ∈ lw_all := lw_g (lw_at lw_m2 52 rfl) rfl
theorem q445 : (Jvm.Cond.soleField "HalfFair" "worths") ∈ lw_all := lw_g (lw_at lw_m2 53 rfl) rfl
theorem q446 : (Jvm.Cond.laysFinal "HalfFair" "HalfFair" "past" "[LHalfFair$State;") ∈ lw_all := lw_g (lw_at lw_m2 54 rfl) rfl
theorem q447 : (Jvm.Cond.soleField "HalfFair" "past") ∈ lw_all := lw_g (lw_at lw_m2 55 rfl) rfl
theorem q448 : (Jvm.Cond.lays "HalfFair" "HalfFair" "pastMany" "I") ∈ lw_all := lw_g (lw_at lw_m2 56 rfl) rfl
theorem q449 : (Jvm.Cond.soleField "HalfFair" "pastMany") ∈ lw_all := lw_g (lw_at lw_m2 57 rfl) rfl
theorem q450 : (Jvm.Cond.lays "HalfFair" "HalfFair" "pastAt" "I") ∈ lw_all := lw_g (lw_at lw_m2 58 rfl) rfl
theorem q451 : (Jvm.Cond.soleField "HalfFair" "pastAt") ∈ lw_all := lw_g (lw_at lw_m2 59 rfl) rfl
theorem q452 : (Jvm.Cond.laysFinal "HalfFair" "HalfFair" "words" "[J") ∈ lw_all := lw_g (lw_at lw_m2 60 rfl) rfl
theorem q453 : (Jvm.Cond.soleField "HalfFair" "words") ∈ lw_all := lw_g (lw_at lw_m2 61 rfl) rfl
theorem q454 : (Jvm.Cond.laysFinal "HalfFair" "HalfFair" "can" "[Z") ∈ lw_all := lw_g (lw_at lw_m2 62 rfl) rfl
theorem q455 : (Jvm.Cond.soleField "HalfFair" "can") ∈ lw_all := lw_g (lw_at lw_m2 63 rfl) rfl
theorem q456 : (Jvm.Cond.laysFinal "HalfFair" "HalfFair" "next" "[Z") ∈ lw_all := lw_g (lw_at lw_m2 64 rfl) rfl
theorem q457 : (Jvm.Cond.soleField "HalfFair" "next") ∈ lw_all := lw_g (lw_at lw_m2 65 rfl) rfl
theorem q458 : (Jvm.Cond.lays "HalfFair" "HalfFair" "bestWalk" "I") ∈ lw_all := lw_g (lw_at lw_m2 66 rfl) rfl
theorem q459 : (Jvm.Cond.soleField "HalfFair" "bestWalk") ∈ lw_all := lw_g (lw_at lw_m2 67 rfl) rfl
theorem q460 : (Jvm.Cond.lays "HalfFair" "HalfFair" "bestWay" "I") ∈ lw_all := lw_g (lw_at lw_m2 68 rfl) rfl
theorem q461 : (Jvm.Cond.soleField "HalfFair" "bestWay") ∈ lw_all := lw_g (lw_at lw_m2 69 rfl) rfl
theorem q462 : (Jvm.Cond.lays "HalfFair" "HalfFair" "bestSet" "I") ∈ lw_all := lw_g (lw_at lw_m2 70 rfl) rfl
theorem q463 : (Jvm.Cond.soleField "HalfFair" "bestSet") ∈ lw_all := lw_g (lw_at lw_m2 71 rfl) rfl
theorem q464 : (Jvm.Cond.laysFinal "HalfFair" "HalfFair" "images" "[LHalfFair$Image;") ∈ lw_all := lw_g (lw_at lw_m2 72 rfl) rfl
theorem q465 : (Jvm.Cond.soleField "HalfFair" "images") ∈ lw_all := lw_g (lw_at lw_m2 73 rfl) rfl
theorem q466 : (Jvm.Cond.superclass "HalfFair" "java/lang/Object") ∈ lw_all := lw_g (lw_at lw_m2 74 rfl) rfl
theorem q471 : (Jvm.Cond.instanceMethod ({ cls := "HalfFair", name := "feed", desc := "(IIIII)I" } : Jvm.MethodName)) ∈ lw_all := lw_g (lw_at lw_m2 79 rfl) rfl
theorem q472 : (Jvm.Cond.selects "HalfFair" ({ cls := "HalfFair", name := "feed", desc := "(IIIII)I" } : Jvm.MethodName) ({ cls := "HalfFair", name := "feed", desc := "(IIIII)I" } : Jvm.MethodName)) ∈ lw_all := lw_g (lw_at lw_m2 80 rfl) rfl
theorem q473 : (Jvm.Cond.code ({ cls := "HalfFair", name := "feed", desc := "(IIIII)I" } : Jvm.MethodName) prog_1_method_14_code (6 : Nat) (Option.some Jvm.ClassFile.FieldType.int)) ∈ lw_all := lw_g (lw_at lw_m2 81 rfl) rfl
theorem q474 : (Jvm.Cond.methodLink "HalfFair" (125 : Nat) ({ cls := "HalfFair", name := "put", desc := "(I)V" } : Jvm.MethodName)) ∈ lw_all := lw_g (lw_at lw_m2 82 rfl) rfl
theorem q475 : (Jvm.Cond.privateMethod ({ cls := "HalfFair", name := "put", desc := "(I)V" } : Jvm.MethodName)) ∈ lw_tbl := lw_at lw_m2 83 rfl
theorem q476 : (Jvm.Cond.instanceMethod ({ cls := "HalfFair", name := "put", desc := "(I)V" } : Jvm.MethodName)) ∈ lw_all := lw_g (lw_at lw_m2 84 rfl) rfl
theorem q477 : (Jvm.Cond.code ({ cls := "HalfFair", name := "put", desc := "(I)V" } : Jvm.MethodName) prog_1_method_15_code (3 : Nat) (Option.none : Option Jvm.ClassFile.FieldType)) ∈ lw_all := lw_g (lw_at lw_m2 85 rfl) rfl
theorem q479 : (Jvm.Cond.instanceMethod ({ cls := "HalfFair", name := "end", desc := "(I)I" } : Jvm.MethodName)) ∈ lw_all := lw_g (lw_at lw_m2 87 rfl) rfl
theorem q480 : (Jvm.Cond.selects "HalfFair" ({ cls := "HalfFair", name := "end", desc := "(I)I" } : Jvm.MethodName) ({ cls := "HalfFair", name := "end", desc := "(I)I" } : Jvm.MethodName)) ∈ lw_all := lw_g (lw_at lw_m2 88 rfl) rfl
theorem q481 : (Jvm.Cond.code ({ cls := "HalfFair", name := "end", desc := "(I)I" } : Jvm.MethodName) prog_1_method_16_code (2 : Nat) (Option.some Jvm.ClassFile.FieldType.int)) ∈ lw_all := lw_g (lw_at lw_m2 89 rfl) rfl
theorem q483 : (Jvm.Cond.instanceMethod ({ cls := "HalfFair", name := "fair", desc := "()I" } : Jvm.MethodName)) ∈ lw_all := lw_g (lw_at lw_m2 91 rfl) rfl
theorem q484 : (Jvm.Cond.selects "HalfFair" ({ cls := "HalfFair", name := "fair", desc := "()I" } : Jvm.MethodName) ({ cls := "HalfFair", name := "fair", desc := "()I" } : Jvm.MethodName)) ∈ lw_all := lw_g (lw_at lw_m2 92 rfl) rfl
theorem q485 : (Jvm.Cond.codeWith ({ cls := "HalfFair", name := "fair", desc := "()I" } : Jvm.MethodName) prog_1_method_17_code (4 : Nat) (Option.some Jvm.ClassFile.FieldType.int) [((0 : Nat), (45 : Nat), (52 : Nat), (35 : Nat)), ((0 : Nat), (45 : Nat), (68 : Nat), (0 : Nat)), ((52 : Nat), (61 : Nat), (68 : Nat), (0 : Nat))]) ∈ lw_all := lw_g (lw_at lw_m2 93 rfl) rfl
theorem q486 : (Jvm.Cond.classLink "HalfFair" (128 : Nat) "HalfFair$Parser") ∈ lw_all := lw_g (lw_at lw_m2 94 rfl) rfl
theorem q488 : (Jvm.Cond.methodLink "HalfFair" (130 : Nat) ({ cls := "HalfFair$Parser", name := "<init>", desc := "(LHalfFair;[Ljava/lang/String;I)V" } : Jvm.MethodName)) ∈ lw_all := lw_g (lw_at lw_m2 96 rfl) rfl
theorem q514 : (Jvm.Cond.methodLink "HalfFair" (133 : Nat) ({ cls := "HalfFair$Parser", name := "fair", desc := "()LHalfFair$Fair;" } : Jvm.MethodName)) ∈ lw_all := lw_g (lw_at lw_m2 122 rfl) rfl
theorem q544 : (Jvm.Cond.static ({ cls := "HalfFair", name := "in", desc := "(JJJ)Z" } : Jvm.MethodName)) ∈ lw_all := lw_g (lw_at lw_m2 152 rfl) rfl
theorem q545 : (Jvm.Cond.code ({ cls := "HalfFair", name := "in", desc := "(JJJ)Z" } : Jvm.MethodName) prog_1_method_1_code (6 : Nat) (Option.some Jvm.ClassFile.FieldType.boolean)) ∈ lw_all := lw_g (lw_at lw_m2 153 rfl) rfl
theorem q595 : (Jvm.Cond.privateMethod ({ cls := "HalfFair", name := "fails", desc := "(II)LHalfFair$Wrong;" } : Jvm.MethodName)) ∈ lw_tbl := lw_at lw_m2 203 rfl
theorem q596 : (Jvm.Cond.instanceMethod ({ cls := "HalfFair", name := "fails", desc := "(II)LHalfFair$Wrong;" } : Jvm.MethodName)) ∈ lw_all := lw_g (lw_at lw_m2 204 rfl) rfl
theorem q597 : (Jvm.Cond.code ({ cls := "HalfFair", name := "fails", desc := "(II)LHalfFair$Wrong;" } : Jvm.MethodName) prog_1_method_13_code (3 : Nat) (Option.some (Jvm.ClassFile.FieldType.object "HalfFair$Wrong"))) ∈ lw_all := lw_g (lw_at lw_m2 205 rfl) rfl
theorem q634 : (Jvm.Cond.fieldLinkNest "HalfFair" (159 : Nat) "HalfFair$Half" "shape" "I" "HalfFair") ∈ lw_tbl := lw_at lw_m3 2 rfl
theorem q637 : (Jvm.Cond.fieldLinkNest "HalfFair" (162 : Nat) "HalfFair$Half" "side" "I" "HalfFair") ∈ lw_tbl := lw_at lw_m3 5 rfl
theorem q640 : (Jvm.Cond.fieldLinkNest "HalfFair" (345 : Nat) "HalfFair$Half" "price" "I" "HalfFair") ∈ lw_tbl := lw_at lw_m3 8 rfl
theorem q684 : (Jvm.Cond.selects "HalfFair" ({ cls := "java/lang/Object", name := "getClass", desc := "()Ljava/lang/Class;" } : Jvm.MethodName) ({ cls := "java/lang/Object", name := "getClass", desc := "()Ljava/lang/Class;" } : Jvm.MethodName)) ∈ lw_all := lw_g (lw_at lw_m3 52 rfl) rfl
theorem q742 : (Jvm.Cond.static ({ cls := "HalfFair", name := "has", desc := "(II)Z" } : Jvm.MethodName)) ∈ lw_all := lw_g (lw_at lw_m3 110 rfl) rfl
theorem q743 : (Jvm.Cond.code ({ cls := "HalfFair", name := "has", desc := "(II)Z" } : Jvm.MethodName) prog_1_method_2_code (2 : Nat) (Option.some Jvm.ClassFile.FieldType.boolean)) ∈ lw_all := lw_g (lw_at lw_m3 111 rfl) rfl
theorem q759 : (Jvm.Cond.methodLink "HalfFair" (136 : Nat) ({ cls := "HalfFair$State", name := "begin", desc := "(LHalfFair$Fair;)V" } : Jvm.MethodName)) ∈ lw_all := lw_g (lw_at lw_m3 127 rfl) rfl
theorem q798 : (Jvm.Cond.methodLink "HalfFair" (143 : Nat) ({ cls := "HalfFair", name := "forgets", desc := "()V" } : Jvm.MethodName)) ∈ lw_all := lw_g (lw_at lw_m3 166 rfl) rfl
theorem q799 : (Jvm.Cond.privateMethod ({ cls := "HalfFair", name := "forgets", desc := "()V" } : Jvm.MethodName)) ∈ lw_tbl := lw_at lw_m3 167 rfl
theorem q800 : (Jvm.Cond.instanceMethod ({ cls := "HalfFair", name := "forgets", desc := "()V" } : Jvm.MethodName)) ∈ lw_all := lw_g (lw_at lw_m3 168 rfl) rfl
theorem q801 : (Jvm.Cond.code ({ cls := "HalfFair", name := "forgets", desc := "()V" } : Jvm.MethodName) prog_1_method_33_code (1 : Nat) (Option.none : Option Jvm.ClassFile.FieldType)) ∈ lw_all := lw_g (lw_at lw_m3 169 rfl) rfl
theorem q802 : (Jvm.Cond.methodLink "HalfFair" (103 : Nat) ({ cls := "HalfFair", name := "many", desc := "()I" } : Jvm.MethodName)) ∈ lw_all := lw_g (lw_at lw_m3 170 rfl) rfl
theorem q803 : (Jvm.Cond.privateMethod ({ cls := "HalfFair", name := "many", desc := "()I" } : Jvm.MethodName)) ∈ lw_tbl := lw_at lw_m3 171 rfl
theorem q804 : (Jvm.Cond.instanceMethod ({ cls := "HalfFair", name := "many", desc := "()I" } : Jvm.MethodName)) ∈ lw_all := lw_g (lw_at lw_m3 172 rfl) rfl
theorem q805 : (Jvm.Cond.code ({ cls := "HalfFair", name := "many", desc := "()I" } : Jvm.MethodName) prog_1_method_6_code (1 : Nat) (Option.some Jvm.ClassFile.FieldType.int)) ∈ lw_all := lw_g (lw_at lw_m3 173 rfl) rfl
theorem q806 : (Jvm.Cond.methodLink "HalfFair" (96 : Nat) ({ cls := "java/util/ArrayList", name := "size", desc := "()I" } : Jvm.MethodName)) ∈ lw_all := lw_g (lw_at lw_m3 174 rfl) rfl
theorem q808 : (Jvm.Cond.instanceMethod ({ cls := "HalfFair", name := "rule", desc := "()I" } : Jvm.MethodName)) ∈ lw_all := lw_g (lw_at lw_m3 176 rfl) rfl
theorem q809 : (Jvm.Cond.selects "HalfFair" ({ cls := "HalfFair", name := "rule", desc := "()I" } : Jvm.MethodName) ({ cls := "HalfFair", name := "rule", desc := "()I" } : Jvm.MethodName)) ∈ lw_all := lw_g (lw_at lw_m3 177 rfl) rfl
theorem q810 : (Jvm.Cond.codeWith ({ cls := "HalfFair", name := "rule", desc := "()I" } : Jvm.MethodName) prog_1_method_18_code (4 : Nat) (Option.some Jvm.ClassFile.FieldType.int) [((14 : Nat), (31 : Nat), (38 : Nat), (35 : Nat)), ((14 : Nat), (31 : Nat), (54 : Nat), (0 : Nat)), ((38 : Nat), (47 : Nat), (54 : Nat), (0 : Nat))]) ∈ lw_all := lw_g (lw_at lw_m3 178 rfl) rfl
theorem q811 : (Jvm.Cond.methodLink "HalfFair" (146 : Nat) ({ cls := "HalfFair$Parser", name := "rule", desc := "()I" } : Jvm.MethodName)) ∈ lw_all := lw_g (lw_at lw_m3 179 rfl) rfl
theorem q981 : (Jvm.Cond.instanceMethod ({ cls := "HalfFair", name := "half", desc := "(II)I" } : Jvm.MethodName)) ∈ lw_all := lw_g (lw_at lw_m4 109 rfl) rfl
theorem q982 : (Jvm.Cond.selects "HalfFair" ({ cls := "HalfFair", name := "half", desc := "(II)I" } : Jvm.MethodName) ({ cls := "HalfFair", name := "half", desc := "(II)I" } : Jvm.MethodName)) ∈ lw_all := lw_g (lw_at lw_m4 110 rfl) rfl
theorem q983 : (Jvm.Cond.code ({ cls := "HalfFair", name := "half", desc := "(II)I" } : Jvm.MethodName) prog_1_method_19_code (3 : Nat) (Option.some Jvm.ClassFile.FieldType.int)) ∈ lw_all := lw_g (lw_at lw_m4 111 rfl) rfl
theorem q984 : (Jvm.Cond.methodLink "HalfFair" (149 : Nat) ({ cls := "HalfFair", name := "isHalf", desc := "(I)Z" } : Jvm.MethodName)) ∈ lw_all := lw_g (lw_at lw_m4 112 rfl) rfl
theorem q985 : (Jvm.Cond.privateMethod ({ cls := "HalfFair", name := "isHalf", desc := "(I)Z" } : Jvm.MethodName)) ∈ lw_tbl := lw_at lw_m4 113 rfl
theorem q986 : (Jvm.Cond.instanceMethod ({ cls := "HalfFair", name := "isHalf", desc := "(I)Z" } : Jvm.MethodName)) ∈ lw_all := lw_g (lw_at lw_m4 114 rfl) rfl
theorem q987 : (Jvm.Cond.code ({ cls := "HalfFair", name := "isHalf", desc := "(I)Z" } : Jvm.MethodName) prog_1_method_8_code (2 : Nat) (Option.some Jvm.ClassFile.FieldType.boolean)) ∈ lw_all := lw_g (lw_at lw_m4 115 rfl) rfl
theorem q988 : (Jvm.Cond.methodLink "HalfFair" (106 : Nat) ({ cls := "HalfFair", name := "in", desc := "(JJJ)Z" } : Jvm.MethodName)) ∈ lw_all := lw_g (lw_at lw_m4 116 rfl) rfl
theorem q989 : (Jvm.Cond.methodLink "HalfFair" (153 : Nat) ({ cls := "java/util/ArrayList", name := "get", desc := "(I)Ljava/lang/Object;" } : Jvm.MethodName)) ∈ lw_all := lw_g (lw_at lw_m4 117 rfl) rfl
theorem q990 : (Jvm.Cond.classLink "HalfFair" (157 : Nat) "HalfFair$Half") ∈ lw_all := lw_g (lw_at lw_m4 118 rfl) rfl
theorem q991 : (Jvm.Cond.methodLink "HalfFair" (168 : Nat) ({ cls := "HalfFair$Fair", name := "priceAt", desc := "(II)I" } : Jvm.MethodName)) ∈ lw_all := lw_g (lw_at lw_m4 119 rfl) rfl
theorem q997 : (Jvm.Cond.methodLink "HalfFair" (175 : Nat) ({ cls := "HalfFair", name := "has", desc := "(II)Z" } : Jvm.MethodName)) ∈ lw_all := lw_g (lw_at lw_m4 125 rfl) rfl
theorem q998 : (Jvm.Cond.methodLink "HalfFair" (179 : Nat) ({ cls := "HalfFair", name := "bit", desc := "(Z)I" } : Jvm.MethodName)) ∈ lw_all := lw_g (lw_at lw_m4 126 rfl) rfl
theorem q999 : (Jvm.Cond.static ({ cls := "HalfFair", name := "bit", desc := "(Z)I" } : Jvm.MethodName)) ∈ lw_all := lw_g (lw_at lw_m4 127 rfl) rfl
theorem q1000 : (Jvm.Cond.code ({ cls := "HalfFair", name := "bit", desc := "(Z)I" } : Jvm.MethodName) prog_1_method_3_code (1 : Nat) (Option.some Jvm.ClassFile.FieldType.int)) ∈ lw_all := lw_g (lw_at lw_m4 128 rfl) rfl
theorem q1002 : (Jvm.Cond.instanceMethod ({ cls := "HalfFair", name := "fit", desc := "(II)I" } : Jvm.MethodName)) ∈ lw_all := lw_g (lw_at lw_m4 130 rfl) rfl
theorem q1003 : (Jvm.Cond.selects "HalfFair" ({ cls := "HalfFair", name := "fit", desc := "(II)I" } : Jvm.MethodName) ({ cls := "HalfFair", name := "fit", desc := "(II)I" } : Jvm.MethodName)) ∈ lw_all := lw_g (lw_at lw_m4 131 rfl) rfl
theorem q1004 : (Jvm.Cond.code ({ cls := "HalfFair", name := "fit", desc := "(II)I" } : Jvm.MethodName) prog_1_method_20_code (3 : Nat) (Option.some Jvm.ClassFile.FieldType.int)) ∈ lw_all := lw_g (lw_at lw_m4 132 rfl) rfl
theorem q1005 : (Jvm.Cond.methodLink "HalfFair" (183 : Nat) ({ cls := "HalfFair", name := "fit2", desc := "(II)I" } : Jvm.MethodName)) ∈ lw_all := lw_g (lw_at lw_m4 133 rfl) rfl
theorem q1006 : (Jvm.Cond.privateMethod ({ cls := "HalfFair", name := "fit2", desc := "(II)I" } : Jvm.MethodName)) ∈ lw_tbl := lw_at lw_m4 134 rfl
theorem q1007 : (Jvm.Cond.instanceMethod ({ cls := "HalfFair", name := "fit2", desc := "(II)I" } : Jvm.MethodName)) ∈ lw_all := lw_g (lw_at lw_m4 135 rfl) rfl
theorem q1008 : (Jvm.Cond.code ({ cls := "HalfFair", name := "fit2", desc := "(II)I" } : Jvm.MethodName) prog_1_method_11_code (3 : Nat) (Option.some Jvm.ClassFile.FieldType.int)) ∈ lw_all := lw_g (lw_at lw_m4 136 rfl) rfl
theorem q1009 : (Jvm.Cond.methodLink "HalfFair" (115 : Nat) ({ cls := "HalfFair$Fair", name := "fit", desc := "(III)I" } : Jvm.MethodName)) ∈ lw_all := lw_g (lw_at lw_m4 137 rfl) rfl
theorem q1017 : (Jvm.Cond.instanceMethod ({ cls := "HalfFair", name := "buyer", desc := "(II)I" } : Jvm.MethodName)) ∈ lw_all := lw_g (lw_at lw_m4 145 rfl) rfl
theorem q1018 : (Jvm.Cond.selects "HalfFair" ({ cls := "HalfFair", name := "buyer", desc := "(II)I" } : Jvm.MethodName) ({ cls := "HalfFair", name := "buyer", desc := "(II)I" } : Jvm.MethodName)) ∈ lw_all := lw_g (lw_at lw_m4 146 rfl) rfl
theorem q1019 : (Jvm.Cond.code ({ cls := "HalfFair", name := "buyer", desc := "(II)I" } : Jvm.MethodName) prog_1_method_21_code (3 : Nat) (Option.some Jvm.ClassFile.FieldType.int)) ∈ lw_all := lw_g (lw_at lw_m4 147 rfl) rfl
theorem q1020 : (Jvm.Cond.methodLink "HalfFair" (186 : Nat) ({ cls := "HalfFair", name := "isBuyer", desc := "(I)Z" } : Jvm.MethodName)) ∈ lw_all := lw_g (lw_at lw_m4 148 rfl) rfl
theorem q1021 : (Jvm.Cond.privateMethod ({ cls := "HalfFair", name := "isBuyer", desc := "(I)Z" } : Jvm.MethodName)) ∈ lw_tbl := lw_at lw_m4 149 rfl
theorem q1022 : (Jvm.Cond.instanceMethod ({ cls := "HalfFair", name := "isBuyer", desc := "(I)Z" } : Jvm.MethodName)) ∈ lw_all := lw_g (lw_at lw_m4 150 rfl) rfl
theorem q1023 : (Jvm.Cond.code ({ cls := "HalfFair", name := "isBuyer", desc := "(I)Z" } : Jvm.MethodName) prog_1_method_9_code (2 : Nat) (Option.some Jvm.ClassFile.FieldType.boolean)) ∈ lw_all := lw_g (lw_at lw_m4 151 rfl) rfl
theorem q1024 : (Jvm.Cond.methodLink "HalfFair" (110 : Nat) ({ cls := "HalfFair", name := "buyers", desc := "()I" } : Jvm.MethodName)) ∈ lw_all := lw_g (lw_at lw_m4 152 rfl) rfl
theorem q1025 : (Jvm.Cond.privateMethod ({ cls := "HalfFair", name := "buyers", desc := "()I" } : Jvm.MethodName)) ∈ lw_tbl := lw_at lw_m4 153 rfl
theorem q1026 : (Jvm.Cond.instanceMethod ({ cls := "HalfFair", name := "buyers", desc := "()I" } : Jvm.MethodName)) ∈ lw_all := lw_g (lw_at lw_m4 154 rfl) rfl
theorem q1027 : (Jvm.Cond.code ({ cls := "HalfFair", name := "buyers", desc := "()I" } : Jvm.MethodName) prog_1_method_7_code (1 : Nat) (Option.some Jvm.ClassFile.FieldType.int)) ∈ lw_all := lw_g (lw_at lw_m4 155 rfl) rfl
theorem q1028 : (Jvm.Cond.methodLink "HalfFair" (195 : Nat) ({ cls := "HalfFair$State", name := "halvesOf", desc := "(LHalfFair$Fair;I)I" } : Jvm.MethodName)) ∈ lw_all := lw_g (lw_at lw_m4 156 rfl) rfl
theorem q1032 : (Jvm.Cond.methodLink "HalfFair" (199 : Nat) ({ cls := "HalfFair$State", name := "clubSaw", desc := "(LHalfFair$Fair;I)I" } : Jvm.MethodName)) ∈ lw_all := lw_g (lw_at lw_m4 160 rfl) rfl
theorem q1037 : (Jvm.Cond.methodLink "HalfFair" (205 : Nat) ({ cls := "HalfFair", name := "worthOf", desc := "(I)I" } : Jvm.MethodName)) ∈ lw_all := lw_g (lw_at lw_m4 165 rfl) rfl
theorem q1038 : (Jvm.Cond.privateMethod ({ cls := "HalfFair", name := "worthOf", desc := "(I)I" } : Jvm.MethodName)) ∈ lw_tbl := lw_at lw_m4 166 rfl
theorem q1039 : (Jvm.Cond.instanceMethod ({ cls := "HalfFair", name := "worthOf", desc := "(I)I" } : Jvm.MethodName)) ∈ lw_all := lw_g (lw_at lw_m4 167 rfl) rfl
theorem q1040 : (Jvm.Cond.code ({ cls := "HalfFair", name := "worthOf", desc := "(I)I" } : Jvm.MethodName) prog_1_method_26_code (2 : Nat) (Option.some Jvm.ClassFile.FieldType.int)) ∈ lw_all := lw_g (lw_at lw_m4 168 rfl) rfl
theorem q1041 : (Jvm.Cond.methodLink "HalfFair" (228 : Nat) ({ cls := "HalfFair", name := "fillsWorths", desc := "()V" } : Jvm.MethodName)) ∈ lw_all := lw_g (lw_at lw_m4 169 rfl) rfl
theorem q1042 : (Jvm.Cond.privateMethod ({ cls := "HalfFair", name := "fillsWorths", desc := "()V" } : Jvm.MethodName)) ∈ lw_tbl := lw_at lw_m4 170 rfl
theorem q1043 : (Jvm.Cond.instanceMethod ({ cls := "HalfFair", name := "fillsWorths", desc := "()V" } : Jvm.MethodName)) ∈ lw_all := lw_g (lw_at lw_m4 171 rfl) rfl
theorem q1044 : (Jvm.Cond.code ({ cls := "HalfFair", name := "fillsWorths", desc := "()V" } : Jvm.MethodName) prog_1_method_25_code (6 : Nat) (Option.none : Option Jvm.ClassFile.FieldType)) ∈ lw_all := lw_g (lw_at lw_m4 172 rfl) rfl
theorem q1045 : (Jvm.Cond.methodLink "HalfFair" (217 : Nat) ({ cls := "HalfFair", name := "least", desc := "(I)I" } : Jvm.MethodName)) ∈ lw_all := lw_g (lw_at lw_m4 173 rfl) rfl
theorem q1046 : (Jvm.Cond.static ({ cls := "HalfFair", name := "least", desc := "(I)I" } : Jvm.MethodName)) ∈ lw_all := lw_g (lw_at lw_m4 174 rfl) rfl
theorem q1047 : (Jvm.Cond.code ({ cls := "HalfFair", name := "least", desc := "(I)I" } : Jvm.MethodName) prog_1_method_23_code (2 : Nat) (Option.some Jvm.ClassFile.FieldType.int)) ∈ lw_all := lw_g (lw_at lw_m4 175 rfl) rfl
theorem q1048 : (Jvm.Cond.methodLink "HalfFair" (220 : Nat) ({ cls := "HalfFair", name := "pairOf", desc := "(II)I" } : Jvm.MethodName)) ∈ lw_all := lw_g (lw_at lw_m4 176 rfl) rfl
theorem q1049 : (Jvm.Cond.privateMethod ({ cls := "HalfFair", name := "pairOf", desc := "(II)I" } : Jvm.MethodName)) ∈ lw_tbl := lw_at lw_m4 177 rfl
theorem q1050 : (Jvm.Cond.instanceMethod ({ cls := "HalfFair", name := "pairOf", desc := "(II)I" } : Jvm.MethodName)) ∈ lw_all := lw_g (lw_at lw_m4 178 rfl) rfl
theorem q1051 : (Jvm.Cond.code ({ cls := "HalfFair", name := "pairOf", desc := "(II)I" } : Jvm.MethodName) prog_1_method_24_code (4 : Nat) (Option.some Jvm.ClassFile.FieldType.int)) ∈ lw_all := lw_g (lw_at lw_m4 179 rfl) rfl
theorem q1052 : (Jvm.Cond.methodLink "HalfFair" (223 : Nat) ({ cls := "java/lang/Math", name := "max", desc := "(II)I" } : Jvm.MethodName)) ∈ lw_all := lw_g (lw_at lw_m4 180 rfl) rfl
theorem q1054 : (Jvm.Cond.instanceMethod ({ cls := "HalfFair", name := "spot", desc := "(II)I" } : Jvm.MethodName)) ∈ lw_all := lw_g (lw_at lw_m4 182 rfl) rfl
theorem q1055 : (Jvm.Cond.selects "HalfFair" ({ cls := "HalfFair", name := "spot", desc := "(II)I" } : Jvm.MethodName) ({ cls := "HalfFair", name := "spot", desc := "(II)I" } : Jvm.MethodName)) ∈ lw_all := lw_g (lw_at lw_m4 183 rfl) rfl
theorem q1056 : (Jvm.Cond.code ({ cls := "HalfFair", name := "spot", desc := "(II)I" } : Jvm.MethodName) prog_1_method_22_code (3 : Nat) (Option.some Jvm.ClassFile.FieldType.int)) ∈ lw_all := lw_g (lw_at lw_m4 184 rfl) rfl
theorem q1057 : (Jvm.Cond.methodLink "HalfFair" (209 : Nat) ({ cls := "HalfFair", name := "isStall", desc := "(I)Z" } : Jvm.MethodName)) ∈ lw_all := lw_g (lw_at lw_m4 185 rfl) rfl
theorem q1058 : (Jvm.Cond.privateMethod ({ cls := "HalfFair", name := "isStall", desc := "(I)Z" } : Jvm.MethodName)) ∈ lw_tbl := lw_at lw_m4 186 rfl
theorem q1059 : (Jvm.Cond.instanceMethod ({ cls := "HalfFair", name := "isStall", desc := "(I)Z" } : Jvm.MethodName)) ∈ lw_all := lw_g (lw_at lw_m4 187 rfl) rfl
theorem q1060 : (Jvm.Cond.code ({ cls := "HalfFair", name := "isStall", desc := "(I)Z" } : Jvm.MethodName) prog_1_method_10_code (2 : Nat) (Option.some Jvm.ClassFile.FieldType.boolean)) ∈ lw_all := lw_g (lw_at lw_m4 188 rfl) rfl
theorem q1061 : (Jvm.Cond.constantLong "HalfFair" (212 : Nat) (99 : Int64)) ∈ lw_all := lw_g (lw_at lw_m4 189 rfl) rfl
theorem q1062 : (Jvm.Cond.methodLink "HalfFair" (214 : Nat) ({ cls := "HalfFair$Fair", name := "spotOf", desc := "(II)I" } : Jvm.MethodName)) ∈ lw_all := lw_g (lw_at lw_m4 190 rfl) rfl
theorem q1064 : (Jvm.Cond.instanceMethod ({ cls := "HalfFair", name := "worth", desc := "(I)I" } : Jvm.MethodName)) ∈ lw_all := lw_g (lw_at lw_m4 192 rfl) rfl
theorem q1065 : (Jvm.Cond.selects "HalfFair" ({ cls := "HalfFair", name := "worth", desc := "(I)I" } : Jvm.MethodName) ({ cls := "HalfFair", name := "worth", desc := "(I)I" } : Jvm.MethodName)) ∈ lw_all := lw_g (lw_at lw_m4 193 rfl) rfl
theorem q1066 : (Jvm.Cond.code ({ cls := "HalfFair", name := "worth", desc := "(I)I" } : Jvm.MethodName) prog_1_method_28_code (2 : Nat) (Option.some Jvm.ClassFile.FieldType.int)) ∈ lw_all := lw_g (lw_at lw_m4 194 rfl) rfl
theorem q1067 : (Jvm.Cond.methodLink "HalfFair" (235 : Nat) ({ cls := "HalfFair", name := "isSet", desc := "(I)Z" } : Jvm.MethodName)) ∈ lw_all := lw_g (lw_at lw_m4 195 rfl) rfl
theorem q1068 : (Jvm.Cond.privateMethod ({ cls := "HalfFair", name := "isSet", desc := "(I)Z" } : Jvm.MethodName)) ∈ lw_tbl := lw_at lw_m4 196 rfl
theorem q1069 : (Jvm.Cond.instanceMethod ({ cls := "HalfFair", name := "isSet", desc := "(I)Z" } : Jvm.MethodName)) ∈ lw_all := lw_g (lw_at lw_m4 197 rfl) rfl
theorem q1070 : (Jvm.Cond.code ({ cls := "HalfFair", name := "isSet", desc := "(I)Z" } : Jvm.MethodName) prog_1_method_27_code (2 : Nat) (Option.some Jvm.ClassFile.FieldType.boolean)) ∈ lw_all := lw_g (lw_at lw_m4 198 rfl) rfl
theorem q1071 : (Jvm.Cond.methodLink "HalfFair" (231 : Nat) ({ cls := "HalfFair", name := "isFair", desc := "()Z" } : Jvm.MethodName)) ∈ lw_all := lw_g (lw_at lw_m4 199 rfl) rfl
theorem q1072 : (Jvm.Cond.privateMethod ({ cls := "HalfFair", name := "isFair", desc := "()Z" } : Jvm.MethodName)) ∈ lw_tbl := lw_at lw_m4 200 rfl
theorem q1073 : (Jvm.Cond.instanceMethod ({ cls := "HalfFair", name := "isFair", desc := "()Z" } : Jvm.MethodName)) ∈ lw_all := lw_g (lw_at lw_m4 201 rfl) rfl
theorem q1074 : (Jvm.Cond.code ({ cls := "HalfFair", name := "isFair", desc := "()Z" } : Jvm.MethodName) prog_1_method_5_code (1 : Nat) (Option.some Jvm.ClassFile.FieldType.boolean)) ∈ lw_all := lw_g (lw_at lw_m4 202 rfl) rfl
theorem q1076 : (Jvm.Cond.instanceMethod ({ cls := "HalfFair", name := "with", desc := "(II)I" } : Jvm.MethodName)) ∈ lw_all := lw_g (lw_at lw_m4 204 rfl) rfl
theorem q1077 : (Jvm.Cond.selects "HalfFair" ({ cls := "HalfFair", name := "with", desc := "(II)I" } : Jvm.MethodName) ({ cls := "HalfFair", name := "with", desc := "(II)I" } : Jvm.MethodName)) ∈ lw_all := lw_g (lw_at lw_m4 205 rfl) rfl
theorem q1078 : (Jvm.Cond.code ({ cls := "HalfFair", name := "with", desc := "(II)I" } : Jvm.MethodName) prog_1_method_30_code (7 : Nat) (Option.some Jvm.ClassFile.FieldType.int)) ∈ lw_all := lw_g (lw_at lw_m4 206 rfl) rfl
theorem q1079 : (Jvm.Cond.methodLink "HalfFair" (238 : Nat) ({ cls := "HalfFair", name := "firstWith", desc := "(I)I" } : Jvm.MethodName)) ∈ lw_all := lw_g (lw_at lw_m4 207 rfl) rfl
theorem q1080 : (Jvm.Cond.privateMethod ({ cls := "HalfFair", name := "firstWith", desc := "(I)I" } : Jvm.MethodName)) ∈ lw_tbl := lw_at lw_m4 208 rfl
theorem q1081 : (Jvm.Cond.instanceMethod ({ cls := "HalfFair", name := "firstWith", desc := "(I)I" } : Jvm.MethodName)) ∈ lw_all := lw_g (lw_at lw_m4 209 rfl) rfl
theorem q1082 : (Jvm.Cond.code ({ cls := "HalfFair", name := "firstWith", desc := "(I)I" } : Jvm.MethodName) prog_1_method_29_code (5 : Nat) (Option.some Jvm.ClassFile.FieldType.int)) ∈ lw_all := lw_g (lw_at lw_m4 210 rfl) rfl
theorem q1084 : (Jvm.Cond.instanceMethod ({ cls := "HalfFair", name := "undo", desc := "()I" } : Jvm.MethodName)) ∈ lw_all := lw_g (lw_at lw_m4 212 rfl) rfl
theorem q1085 : (Jvm.Cond.selects "HalfFair" ({ cls := "HalfFair", name := "undo", desc := "()I" } : Jvm.MethodName) ({ cls := "HalfFair", name := "undo", desc := "()I" } : Jvm.MethodName)) ∈ lw_all := lw_g (lw_at lw_m4 213 rfl) rfl
theorem q1086 : (Jvm.Cond.code ({ cls := "HalfFair", name := "undo", desc := "()I" } : Jvm.MethodName) prog_1_method_34_code (1 : Nat) (Option.some Jvm.ClassFile.FieldType.int)) ∈ lw_all := lw_g (lw_at lw_m4 214 rfl) rfl
theorem q1087 : (Jvm.Cond.methodLink "HalfFair" (244 : Nat) ({ cls := "HalfFair$State", name := "copyFrom", desc := "(LHalfFair$State;)V" } : Jvm.MethodName)) ∈ lw_all := lw_g (lw_at lw_m4 215 rfl) rfl
theorem q1092 : (Jvm.Cond.instanceMethod ({ cls := "HalfFair", name := "go", desc := "(II)I" } : Jvm.MethodName)) ∈ lw_all := lw_g (lw_at lw_m4 220 rfl) rfl
theorem q1093 : (Jvm.Cond.selects "HalfFair" ({ cls := "HalfFair", name := "go", desc := "(II)I" } : Jvm.MethodName) ({ cls := "HalfFair", name := "go", desc := "(II)I" } : Jvm.MethodName)) ∈ lw_all := lw_g (lw_at lw_m4 221 rfl) rfl
theorem q1094 : (Jvm.Cond.code ({ cls := "HalfFair", name := "go", desc := "(II)I" } : Jvm.MethodName) prog_1_method_35_code (3 : Nat) (Option.some Jvm.ClassFile.FieldType.int)) ∈ lw_all := lw_g (lw_at lw_m4 222 rfl) rfl
theorem q1095 : (Jvm.Cond.constantLong "HalfFair" (254 : Nat) (-1 : Int64)) ∈ lw_all := lw_g (lw_at lw_m4 223 rfl) rfl
theorem q1096 : (Jvm.Cond.methodLink "HalfFair" (256 : Nat) ({ cls := "HalfFair", name := "keeps", desc := "()V" } : Jvm.MethodName)) ∈ lw_all := lw_g (lw_at lw_m4 224 rfl) rfl
theorem q1097 : (Jvm.Cond.privateMethod ({ cls := "HalfFair", name := "keeps", desc := "()V" } : Jvm.MethodName)) ∈ lw_tbl := lw_at lw_m4 225 rfl
theorem q1098 : (Jvm.Cond.instanceMethod ({ cls := "HalfFair", name := "keeps", desc := "()V" } : Jvm.MethodName)) ∈ lw_all := lw_g (lw_at lw_m4 226 rfl) rfl
theorem q1099 : (Jvm.Cond.code ({ cls := "HalfFair", name := "keeps", desc := "()V" } : Jvm.MethodName) prog_1_method_32_code (1 : Nat) (Option.none : Option Jvm.ClassFile.FieldType)) ∈ lw_all := lw_g (lw_at lw_m4 227 rfl) rfl
theorem q1100 : (Jvm.Cond.methodLink "HalfFair" (251 : Nat) ({ cls := "java/lang/Math", name := "min", desc := "(II)I" } : Jvm.MethodName)) ∈ lw_all := lw_g (lw_at lw_m4 228 rfl) rfl
theorem q1101 : (Jvm.Cond.methodLink "HalfFair" (259 : Nat) ({ cls := "HalfFair$State", name := "goes", desc := "(LHalfFair$Fair;II)V" } : Jvm.MethodName)) ∈ lw_all := lw_g (lw_at lw_m4 229 rfl) rfl
theorem q1105 : (Jvm.Cond.methodLink "HalfFair" (263 : Nat) ({ cls := "HalfFair$State", name := "passes", desc := "(LHalfFair$Fair;)V" } : Jvm.MethodName)) ∈ lw_all := lw_g (lw_at lw_m4 233 rfl) rfl
theorem q1110 : (Jvm.Cond.instanceMethod ({ cls := "HalfFair", name := "buy", desc := "(II)I" } : Jvm.MethodName)) ∈ lw_all := lw_g (lw_at lw_m4 238 rfl) rfl
theorem q1111 : (Jvm.Cond.selects "HalfFair" ({ cls := "HalfFair", name := "buy", desc := "(II)I" } : Jvm.MethodName) ({ cls := "HalfFair", name := "buy", desc := "(II)I" } : Jvm.MethodName)) ∈ lw_all := lw_g (lw_at lw_m4 239 rfl) rfl
theorem q1112 : (Jvm.Cond.code ({ cls := "HalfFair", name := "buy", desc := "(II)I" } : Jvm.MethodName) prog_1_method_36_code (3 : Nat) (Option.some Jvm.ClassFile.FieldType.int)) ∈ lw_all := lw_g (lw_at lw_m5 0 rfl) rfl
theorem q1113 : (Jvm.Cond.methodLink "HalfFair" (266 : Nat) ({ cls := "HalfFair$State", name := "canBuy", desc := "(LHalfFair$Fair;II)Z" } : Jvm.MethodName)) ∈ lw_all := lw_g (lw_at lw_m5 1 rfl) rfl
theorem q1118 : (Jvm.Cond.methodLink "HalfFair" (270 : Nat) ({ cls := "HalfFair$State", name := "buys", desc := "(LHalfFair$Fair;II)V" } : Jvm.MethodName)) ∈ lw_all := lw_g (lw_at lw_m5 6 rfl) rfl
theorem q1123 : (Jvm.Cond.instanceMethod ({ cls := "HalfFair", name := "shout", desc := "(II)I" } : Jvm.MethodName)) ∈ lw_all := lw_g (lw_at lw_m5 11 rfl) rfl
theorem q1124 : (Jvm.Cond.selects "HalfFair" ({ cls := "HalfFair", name := "shout", desc := "(II)I" } : Jvm.MethodName) ({ cls := "HalfFair", name := "shout", desc := "(II)I" } : Jvm.MethodName)) ∈ lw_all := lw_g (lw_at lw_m5 12 rfl) rfl
theorem q1125 : (Jvm.Cond.code ({ cls := "HalfFair", name := "shout", desc := "(II)I" } : Jvm.MethodName) prog_1_method_38_code (4 : Nat) (Option.some Jvm.ClassFile.FieldType.int)) ∈ lw_all := lw_g (lw_at lw_m5 13 rfl) rfl
theorem q1126 : (Jvm.Cond.methodLink "HalfFair" (285 : Nat) ({ cls := "HalfFair", name := "heard", desc := "(II)I" } : Jvm.MethodName)) ∈ lw_all := lw_g (lw_at lw_m5 14 rfl) rfl
theorem q1127 : (Jvm.Cond.privateMethod ({ cls := "HalfFair", name := "heard", desc := "(II)I" } : Jvm.MethodName)) ∈ lw_tbl := lw_at lw_m5 15 rfl
theorem q1128 : (Jvm.Cond.instanceMethod ({ cls := "HalfFair", name := "heard", desc := "(II)I" } : Jvm.MethodName)) ∈ lw_all := lw_g (lw_at lw_m5 16 rfl) rfl
theorem q1129 : (Jvm.Cond.code ({ cls := "HalfFair", name := "heard", desc := "(II)I" } : Jvm.MethodName) prog_1_method_37_code (6 : Nat) (Option.some Jvm.ClassFile.FieldType.int)) ∈ lw_all := lw_g (lw_at lw_m5 17 rfl) rfl
theorem q1130 : (Jvm.Cond.methodLink "HalfFair" (273 : Nat) ({ cls := "java/lang/Math", name := "abs", desc := "(I)I" } : Jvm.MethodName)) ∈ lw_all := lw_g (lw_at lw_m5 18 rfl) rfl
theorem q1131 : (Jvm.Cond.methodLink "HalfFair" (279 : Nat) ({ cls := "HalfFair$Fair", name := "far", desc := "(II)I" } : Jvm.MethodName)) ∈ lw_all := lw_g (lw_at lw_m5 19 rfl) rfl
theorem q1136 : (Jvm.Cond.methodLink "HalfFair" (291 : Nat) ({ cls := "java/lang/Integer", name := "bitCount", desc := "(I)I" } : Jvm.MethodName)) ∈ lw_all := lw_g (lw_at lw_m5 24 rfl) rfl
theorem q1143 : (Jvm.Cond.instanceMethod ({ cls := "HalfFair", name := "swap", desc := "(IIII)Z" } : Jvm.MethodName)) ∈ lw_all := lw_g (lw_at lw_m5 31 rfl) rfl
theorem q1144 : (Jvm.Cond.selects "HalfFair" ({ cls := "HalfFair", name := "swap", desc := "(IIII)Z" } : Jvm.MethodName) ({ cls := "HalfFair", name := "swap", desc := "(IIII)Z" } : Jvm.MethodName)) ∈ lw_all := lw_g (lw_at lw_m5 32 rfl) rfl
theorem q1145 : (Jvm.Cond.code ({ cls := "HalfFair", name := "swap", desc := "(IIII)Z" } : Jvm.MethodName) prog_1_method_41_code (5 : Nat) (Option.some Jvm.ClassFile.FieldType.boolean)) ∈ lw_all := lw_g (lw_at lw_m5 33 rfl) rfl
theorem q1146 : (Jvm.Cond.methodLink "HalfFair" (299 : Nat) ({ cls := "HalfFair", name := "areTheirs", desc := "(IIII)Z" } : Jvm.MethodName)) ∈ lw_all := lw_g (lw_at lw_m5 34 rfl) rfl
theorem q1147 : (Jvm.Cond.privateMethod ({ cls := "HalfFair", name := "areTheirs", desc := "(IIII)Z" } : Jvm.MethodName)) ∈ lw_tbl := lw_at lw_m5 35 rfl
theorem q1148 : (Jvm.Cond.instanceMethod ({ cls := "HalfFair", name := "areTheirs", desc := "(IIII)Z" } : Jvm.MethodName)) ∈ lw_all := lw_g (lw_at lw_m5 36 rfl) rfl
theorem q1149 : (Jvm.Cond.code ({ cls := "HalfFair", name := "areTheirs", desc := "(IIII)Z" } : Jvm.MethodName) prog_1_method_40_code (5 : Nat) (Option.some Jvm.ClassFile.FieldType.boolean)) ∈ lw_all := lw_g (lw_at lw_m5 37 rfl) rfl
theorem q1150 : (Jvm.Cond.methodLink "HalfFair" (296 : Nat) ({ cls := "HalfFair", name := "isTheirs", desc := "(II)Z" } : Jvm.MethodName)) ∈ lw_all := lw_g (lw_at lw_m5 38 rfl) rfl
theorem q1151 : (Jvm.Cond.privateMethod ({ cls := "HalfFair", name := "isTheirs", desc := "(II)Z" } : Jvm.MethodName)) ∈ lw_tbl := lw_at lw_m5 39 rfl
theorem q1152 : (Jvm.Cond.instanceMethod ({ cls := "HalfFair", name := "isTheirs", desc := "(II)Z" } : Jvm.MethodName)) ∈ lw_all := lw_g (lw_at lw_m5 40 rfl) rfl
theorem q1153 : (Jvm.Cond.code ({ cls := "HalfFair", name := "isTheirs", desc := "(II)Z" } : Jvm.MethodName) prog_1_method_39_code (3 : Nat) (Option.some Jvm.ClassFile.FieldType.boolean)) ∈ lw_all := lw_g (lw_at lw_m5 41 rfl) rfl
theorem q1155 : (Jvm.Cond.instanceMethod ({ cls := "HalfFair", name := "giveUp", desc := "(II)I" } : Jvm.MethodName)) ∈ lw_all := lw_g (lw_at lw_m5 43 rfl) rfl
theorem q1156 : (Jvm.Cond.selects "HalfFair" ({ cls := "HalfFair", name := "giveUp", desc := "(II)I" } : Jvm.MethodName) ({ cls := "HalfFair", name := "giveUp", desc := "(II)I" } : Jvm.MethodName)) ∈ lw_all := lw_g (lw_at lw_m5 44 rfl) rfl
theorem q1157 : (Jvm.Cond.code ({ cls := "HalfFair", name := "giveUp", desc := "(II)I" } : Jvm.MethodName) prog_1_method_42_code (3 : Nat) (Option.some Jvm.ClassFile.FieldType.int)) ∈ lw_all := lw_g (lw_at lw_m5 45 rfl) rfl
theorem q1158 : (Jvm.Cond.methodLink "HalfFair" (303 : Nat) ({ cls := "HalfFair$State", name := "stallOf", desc := "(LHalfFair$Fair;I)I" } : Jvm.MethodName)) ∈ lw_all := lw_g (lw_at lw_m5 46 rfl) rfl
theorem q1160 : (Jvm.Cond.instanceMethod ({ cls := "HalfFair", name := "run", desc := "(II)I" } : Jvm.MethodName)) ∈ lw_all := lw_g (lw_at lw_m5 48 rfl) rfl
theorem q1161 : (Jvm.Cond.selects "HalfFair" ({ cls := "HalfFair", name := "run", desc := "(II)I" } : Jvm.MethodName) ({ cls := "HalfFair", name := "run", desc := "(II)I" } : Jvm.MethodName)) ∈ lw_all := lw_g (lw_at lw_m5 49 rfl) rfl
theorem q1162 : (Jvm.Cond.code ({ cls := "HalfFair", name := "run", desc := "(II)I" } : Jvm.MethodName) prog_1_method_49_code (4 : Nat) (Option.some Jvm.ClassFile.FieldType.int)) ∈ lw_all := lw_g (lw_at lw_m5 50 rfl) rfl
theorem q1163 : (Jvm.Cond.methodLink "HalfFair" (336 : Nat) ({ cls := "HalfFair", name := "isRule", desc := "(I)Z" } : Jvm.MethodName)) ∈ lw_all := lw_g (lw_at lw_m5 51 rfl) rfl
theorem q1164 : (Jvm.Cond.privateMethod ({ cls := "HalfFair", name := "isRule", desc := "(I)Z" } : Jvm.MethodName)) ∈ lw_tbl := lw_at lw_m5 52 rfl
theorem q1165 : (Jvm.Cond.instanceMethod ({ cls := "HalfFair", name := "isRule", desc := "(I)Z" } : Jvm.MethodName)) ∈ lw_all := lw_g (lw_at lw_m5 53 rfl) rfl
theorem q1166 : (Jvm.Cond.code ({ cls := "HalfFair", name := "isRule", desc := "(I)Z" } : Jvm.MethodName) prog_1_method_12_code (2 : Nat) (Option.some Jvm.ClassFile.FieldType.boolean)) ∈ lw_all := lw_g (lw_at lw_m5 54 rfl) rfl
theorem q1167 : (Jvm.Cond.constantLong "HalfFair" (339 : Nat) (48 : Int64)) ∈ lw_all := lw_g (lw_at lw_m5 55 rfl) rfl
theorem q1168 : (Jvm.Cond.classLink "HalfFair" (321 : Nat) "HalfFair$Rule") ∈ lw_all := lw_g (lw_at lw_m5 56 rfl) rfl
theorem q1169 : (Jvm.Cond.methodLink "HalfFair" (341 : Nat) ({ cls := "HalfFair", name := "hourBy", desc := "(LHalfFair$State;LHalfFair$Rule;)I" } : Jvm.MethodName)) ∈ lw_all := lw_g (lw_at lw_m5 57 rfl) rfl
theorem q1170 : (Jvm.Cond.privateMethod ({ cls := "HalfFair", name := "hourBy", desc := "(LHalfFair$State;LHalfFair$Rule;)I" } : Jvm.MethodName)) ∈ lw_tbl := lw_at lw_m5 58 rfl
theorem q1171 : (Jvm.Cond.instanceMethod ({ cls := "HalfFair", name := "hourBy", desc := "(LHalfFair$State;LHalfFair$Rule;)I" } : Jvm.MethodName)) ∈ lw_all := lw_g (lw_at lw_m5 59 rfl) rfl
theorem q1172 : (Jvm.Cond.code ({ cls := "HalfFair", name := "hourBy", desc := "(LHalfFair$State;LHalfFair$Rule;)I" } : Jvm.MethodName) prog_1_method_48_code (5 : Nat) (Option.some Jvm.ClassFile.FieldType.int)) ∈ lw_all := lw_g (lw_at lw_m5 60 rfl) rfl
theorem q1173 : (Jvm.Cond.methodLink "HalfFair" (330 : Nat) ({ cls := "HalfFair", name := "buysBy", desc := "(LHalfFair$State;ILHalfFair$Rule;)I" } : Jvm.MethodName)) ∈ lw_all := lw_g (lw_at lw_m5 61 rfl) rfl
theorem q1174 : (Jvm.Cond.privateMethod ({ cls := "HalfFair", name := "buysBy", desc := "(LHalfFair$State;ILHalfFair$Rule;)I" } : Jvm.MethodName)) ∈ lw_tbl := lw_at lw_m5 62 rfl
theorem q1175 : (Jvm.Cond.instanceMethod ({ cls := "HalfFair", name := "buysBy", desc := "(LHalfFair$State;ILHalfFair$Rule;)I" } : Jvm.MethodName)) ∈ lw_all := lw_g (lw_at lw_m5 63 rfl) rfl
theorem q1176 : (Jvm.Cond.code ({ cls := "HalfFair", name := "buysBy", desc := "(LHalfFair$State;ILHalfFair$Rule;)I" } : Jvm.MethodName) prog_1_method_46_code (6 : Nat) (Option.some Jvm.ClassFile.FieldType.int)) ∈ lw_all := lw_g (lw_at lw_m5 64 rfl) rfl
theorem q1177 : (Jvm.Cond.methodLink "HalfFair" (326 : Nat) ({ cls := "HalfFair", name := "wanted", desc := "(LHalfFair$State;ILHalfFair$Rule;)I" } : Jvm.MethodName)) ∈ lw_all := lw_g (lw_at lw_m5 65 rfl) rfl
theorem q1178 : (Jvm.Cond.privateMethod ({ cls := "HalfFair", name := "wanted", desc := "(LHalfFair$State;ILHalfFair$Rule;)I" } : Jvm.MethodName)) ∈ lw_tbl := lw_at lw_m5 66 rfl
theorem q1179 : (Jvm.Cond.instanceMethod ({ cls := "HalfFair", name := "wanted", desc := "(LHalfFair$State;ILHalfFair$Rule;)I" } : Jvm.MethodName)) ∈ lw_all := lw_g (lw_at lw_m5 67 rfl) rfl
theorem q1180 : (Jvm.Cond.code ({ cls := "HalfFair", name := "wanted", desc := "(LHalfFair$State;ILHalfFair$Rule;)I" } : Jvm.MethodName) prog_1_method_45_code (10 : Nat) (Option.some Jvm.ClassFile.FieldType.int)) ∈ lw_all := lw_g (lw_at lw_m5 68 rfl) rfl
theorem q1181 : (Jvm.Cond.methodLink "HalfFair" (316 : Nat) ({ cls := "HalfFair", name := "asks", desc := "(LHalfFair$State;II)V" } : Jvm.MethodName)) ∈ lw_all := lw_g (lw_at lw_m5 69 rfl) rfl
theorem q1182 : (Jvm.Cond.privateMethod ({ cls := "HalfFair", name := "asks", desc := "(LHalfFair$State;II)V" } : Jvm.MethodName)) ∈ lw_tbl := lw_at lw_m5 70 rfl
theorem q1183 : (Jvm.Cond.instanceMethod ({ cls := "HalfFair", name := "asks", desc := "(LHalfFair$State;II)V" } : Jvm.MethodName)) ∈ lw_all := lw_g (lw_at lw_m5 71 rfl) rfl
theorem q1184 : (Jvm.Cond.code ({ cls := "HalfFair", name := "asks", desc := "(LHalfFair$State;II)V" } : Jvm.MethodName) prog_1_method_44_code (6 : Nat) (Option.none : Option Jvm.ClassFile.FieldType)) ∈ lw_all := lw_g (lw_at lw_m5 72 rfl) rfl
theorem q1185 : (Jvm.Cond.methodLink "HalfFair" (306 : Nat) ({ cls := "HalfFair$Fair", name := "left", desc := "(I)I" } : Jvm.MethodName)) ∈ lw_all := lw_g (lw_at lw_m5 73 rfl) rfl
theorem q1190 : (Jvm.Cond.methodLink "HalfFair" (309 : Nat) ({ cls := "HalfFair", name := "fitting", desc := "(III)I" } : Jvm.MethodName)) ∈ lw_all := lw_g (lw_at lw_m5 78 rfl) rfl
theorem q1191 : (Jvm.Cond.privateMethod ({ cls := "HalfFair", name := "fitting", desc := "(III)I" } : Jvm.MethodName)) ∈ lw_tbl := lw_at lw_m5 79 rfl
theorem q1192 : (Jvm.Cond.instanceMethod ({ cls := "HalfFair", name := "fitting", desc := "(III)I" } : Jvm.MethodName)) ∈ lw_all := lw_g (lw_at lw_m5 80 rfl) rfl
theorem q1193 : (Jvm.Cond.code ({ cls := "HalfFair", name := "fitting", desc := "(III)I" } : Jvm.MethodName) prog_1_method_43_code (6 : Nat) (Option.some Jvm.ClassFile.FieldType.int)) ∈ lw_all := lw_g (lw_at lw_m5 81 rfl) rfl
theorem q1194 : (Jvm.Cond.methodLink "HalfFair" (312 : Nat) ({ cls := "HalfFair$State", name := "atStalls", desc := "(LHalfFair$Fair;)I" } : Jvm.MethodName)) ∈ lw_all := lw_g (lw_at lw_m5 82 rfl) rfl
theorem q1198 : (Jvm.Cond.methodLink "HalfFair" (320 : Nat) ({ cls := "HalfFair$Rule", name := "sum", desc := "(Z[J)J" } : Jvm.MethodName)) ∈ lw_all := lw_g (lw_at lw_m5 86 rfl) rfl
theorem q1237 : (Jvm.Cond.methodLink "HalfFair" (333 : Nat) ({ cls := "HalfFair", name := "wayBy", desc := "(LHalfFair$State;ILHalfFair$Rule;)I" } : Jvm.MethodName)) ∈ lw_all := lw_g (lw_at lw_m5 125 rfl) rfl
theorem q1238 : (Jvm.Cond.privateMethod ({ cls := "HalfFair", name := "wayBy", desc := "(LHalfFair$State;ILHalfFair$Rule;)I" } : Jvm.MethodName)) ∈ lw_tbl := lw_at lw_m5 126 rfl
theorem q1239 : (Jvm.Cond.instanceMethod ({ cls := "HalfFair", name := "wayBy", desc := "(LHalfFair$State;ILHalfFair$Rule;)I" } : Jvm.MethodName)) ∈ lw_all := lw_g (lw_at lw_m5 127 rfl) rfl
theorem q1240 : (Jvm.Cond.code ({ cls := "HalfFair", name := "wayBy", desc := "(LHalfFair$State;ILHalfFair$Rule;)I" } : Jvm.MethodName) prog_1_method_47_code (6 : Nat) (Option.some Jvm.ClassFile.FieldType.int)) ∈ lw_all := lw_g (lw_at lw_m5 128 rfl) rfl
theorem q1242 : (Jvm.Cond.instanceMethod ({ cls := "HalfFair", name := "walk", desc := "(II)I" } : Jvm.MethodName)) ∈ lw_all := lw_g (lw_at lw_m5 130 rfl) rfl
theorem q1243 : (Jvm.Cond.selects "HalfFair" ({ cls := "HalfFair", name := "walk", desc := "(II)I" } : Jvm.MethodName) ({ cls := "HalfFair", name := "walk", desc := "(II)I" } : Jvm.MethodName)) ∈ lw_all := lw_g (lw_at lw_m5 131 rfl) rfl
theorem q1244 : (Jvm.Cond.code ({ cls := "HalfFair", name := "walk", desc := "(II)I" } : Jvm.MethodName) prog_1_method_55_code (5 : Nat) (Option.some Jvm.ClassFile.FieldType.int)) ∈ lw_all := lw_g (lw_at lw_m5 132 rfl) rfl
theorem q1245 : (Jvm.Cond.constantLong "HalfFair" (377 : Nat) (2 : Int64)) ∈ lw_all := lw_g (lw_at lw_m5 133 rfl) rfl
theorem q1246 : (Jvm.Cond.methodLink "HalfFair" (364 : Nat) ({ cls := "HalfFair", name := "comes", desc := "(III)V" } : Jvm.MethodName)) ∈ lw_all := lw_g (lw_at lw_m5 134 rfl) rfl
theorem q1247 : (Jvm.Cond.privateMethod ({ cls := "HalfFair", name := "comes", desc := "(III)V" } : Jvm.MethodName)) ∈ lw_tbl := lw_at lw_m5 135 rfl
theorem q1248 : (Jvm.Cond.instanceMethod ({ cls := "HalfFair", name := "comes", desc := "(III)V" } : Jvm.MethodName)) ∈ lw_all := lw_g (lw_at lw_m5 136 rfl) rfl
theorem q1249 : (Jvm.Cond.code ({ cls := "HalfFair", name := "comes", desc := "(III)V" } : Jvm.MethodName) prog_1_method_54_code (4 : Nat) (Option.none : Option Jvm.ClassFile.FieldType)) ∈ lw_all := lw_g (lw_at lw_m5 137 rfl) rfl
theorem q1250 : (Jvm.Cond.methodLink "HalfFair" (379 : Nat) ({ cls := "HalfFair", name := "walksBy", desc := "(II)V" } : Jvm.MethodName)) ∈ lw_all := lw_g (lw_at lw_m5 138 rfl) rfl
theorem q1251 : (Jvm.Cond.privateMethod ({ cls := "HalfFair", name := "walksBy", desc := "(II)V" } : Jvm.MethodName)) ∈ lw_tbl := lw_at lw_m5 139 rfl
theorem q1252 : (Jvm.Cond.instanceMethod ({ cls := "HalfFair", name := "walksBy", desc := "(II)V" } : Jvm.MethodName)) ∈ lw_all := lw_g (lw_at lw_m5 140 rfl) rfl
theorem q1253 : (Jvm.Cond.code ({ cls := "HalfFair", name := "walksBy", desc := "(II)V" } : Jvm.MethodName) prog_1_method_53_code (9 : Nat) (Option.none : Option Jvm.ClassFile.FieldType)) ∈ lw_all := lw_g (lw_at lw_m5 141 rfl) rfl
theorem q1254 : (Jvm.Cond.methodLink "HalfFair" (357 : Nat) ({ cls := "HalfFair", name := "buysAll", desc := "(II)V" } : Jvm.MethodName)) ∈ lw_all := lw_g (lw_at lw_m5 142 rfl) rfl
theorem q1255 : (Jvm.Cond.privateMethod ({ cls := "HalfFair", name := "buysAll", desc := "(II)V" } : Jvm.MethodName)) ∈ lw_tbl := lw_at lw_m5 143 rfl
theorem q1256 : (Jvm.Cond.instanceMethod ({ cls := "HalfFair", name := "buysAll", desc := "(II)V" } : Jvm.MethodName)) ∈ lw_all := lw_g (lw_at lw_m5 144 rfl) rfl
theorem q1257 : (Jvm.Cond.code ({ cls := "HalfFair", name := "buysAll", desc := "(II)V" } : Jvm.MethodName) prog_1_method_51_code (7 : Nat) (Option.none : Option Jvm.ClassFile.FieldType)) ∈ lw_all := lw_g (lw_at lw_m5 145 rfl) rfl
theorem q1258 : (Jvm.Cond.methodLink "HalfFair" (348 : Nat) ({ cls := "HalfFair$Fair", name := "stallAt", desc := "(II)I" } : Jvm.MethodName)) ∈ lw_all := lw_g (lw_at lw_m5 146 rfl) rfl
theorem q1259 : (Jvm.Cond.methodLink "HalfFair" (351 : Nat) ({ cls := "HalfFair$State", name := "halvesAt", desc := "(LHalfFair$Fair;I)I" } : Jvm.MethodName)) ∈ lw_all := lw_g (lw_at lw_m5 147 rfl) rfl
theorem q1260 : (Jvm.Cond.methodLink "HalfFair" (354 : Nat) ({ cls := "HalfFair", name := "costOf", desc := "(I)I" } : Jvm.MethodName)) ∈ lw_all := lw_g (lw_at lw_m5 148 rfl) rfl
theorem q1261 : (Jvm.Cond.privateMethod ({ cls := "HalfFair", name := "costOf", desc := "(I)I" } : Jvm.MethodName)) ∈ lw_tbl := lw_at lw_m5 149 rfl
theorem q1262 : (Jvm.Cond.instanceMethod ({ cls := "HalfFair", name := "costOf", desc := "(I)I" } : Jvm.MethodName)) ∈ lw_all := lw_g (lw_at lw_m5 150 rfl) rfl
theorem q1263 : (Jvm.Cond.code ({ cls := "HalfFair", name := "costOf", desc := "(I)I" } : Jvm.MethodName) prog_1_method_50_code (4 : Nat) (Option.some Jvm.ClassFile.FieldType.int)) ∈ lw_all := lw_g (lw_at lw_m5 151 rfl) rfl
theorem q1264 : (Jvm.Cond.methodLink "HalfFair" (361 : Nat) ({ cls := "HalfFair", name := "goesAll", desc := "(II)V" } : Jvm.MethodName)) ∈ lw_all := lw_g (lw_at lw_m5 152 rfl) rfl
theorem q1265 : (Jvm.Cond.privateMethod ({ cls := "HalfFair", name := "goesAll", desc := "(II)V" } : Jvm.MethodName)) ∈ lw_tbl := lw_at lw_m5 153 rfl
theorem q1266 : (Jvm.Cond.instanceMethod ({ cls := "HalfFair", name := "goesAll", desc := "(II)V" } : Jvm.MethodName)) ∈ lw_all := lw_g (lw_at lw_m5 154 rfl) rfl
theorem q1267 : (Jvm.Cond.code ({ cls := "HalfFair", name := "goesAll", desc := "(II)V" } : Jvm.MethodName) prog_1_method_52_code (6 : Nat) (Option.none : Option Jvm.ClassFile.FieldType)) ∈ lw_all := lw_g (lw_at lw_m5 155 rfl) rfl
theorem q1269 : (Jvm.Cond.instanceMethod ({ cls := "HalfFair", name := "chance", desc := "(III)I" } : Jvm.MethodName)) ∈ lw_all := lw_g (lw_at lw_m5 157 rfl) rfl
theorem q1270 : (Jvm.Cond.selects "HalfFair" ({ cls := "HalfFair", name := "chance", desc := "(III)I" } : Jvm.MethodName) ({ cls := "HalfFair", name := "chance", desc := "(III)I" } : Jvm.MethodName)) ∈ lw_all := lw_g (lw_at lw_m5 158 rfl) rfl
theorem q1271 : (Jvm.Cond.code ({ cls := "HalfFair", name := "chance", desc := "(III)I" } : Jvm.MethodName) prog_1_method_57_code (8 : Nat) (Option.some Jvm.ClassFile.FieldType.int)) ∈ lw_all := lw_g (lw_at lw_m5 159 rfl) rfl
theorem q1272 : (Jvm.Cond.methodLink "HalfFair" (382 : Nat) ({ cls := "HalfFair$State", name := "unseen", desc := "(LHalfFair$Fair;I)I" } : Jvm.MethodName)) ∈ lw_all := lw_g (lw_at lw_m5 160 rfl) rfl
theorem q1278 : (Jvm.Cond.methodLink "HalfFair" (385 : Nat) ({ cls := "HalfFair", name := "divisor", desc := "(II)I" } : Jvm.MethodName)) ∈ lw_all := lw_g (lw_at lw_m5 166 rfl) rfl
theorem q1279 : (Jvm.Cond.static ({ cls := "HalfFair", name := "divisor", desc := "(II)I" } : Jvm.MethodName)) ∈ lw_all := lw_g (lw_at lw_m5 167 rfl) rfl
theorem q1280 : (Jvm.Cond.code ({ cls := "HalfFair", name := "divisor", desc := "(II)I" } : Jvm.MethodName) prog_1_method_56_code (5 : Nat) (Option.some Jvm.ClassFile.FieldType.int)) ∈ lw_all := lw_g (lw_at lw_m5 168 rfl) rfl
theorem q1282 : (Jvm.Cond.instanceMethod ({ cls := "HalfFair", name := "yields", desc := "(IIIII)I" } : Jvm.MethodName)) ∈ lw_all := lw_g (lw_at lw_m5 170 rfl) rfl
theorem q1283 : (Jvm.Cond.selects "HalfFair" ({ cls := "HalfFair", name := "yields", desc := "(IIIII)I" } : Jvm.MethodName) ({ cls := "HalfFair", name := "yields", desc := "(IIIII)I" } : Jvm.MethodName)) ∈ lw_all := lw_g (lw_at lw_m5 171 rfl) rfl
theorem q1284 : (Jvm.Cond.code ({ cls := "HalfFair", name := "yields", desc := "(IIIII)I" } : Jvm.MethodName) prog_1_method_59_code (9 : Nat) (Option.some Jvm.ClassFile.FieldType.int)) ∈ lw_all := lw_g (lw_at lw_m5 172 rfl) rfl
theorem q1285 : (Jvm.Cond.methodLink "HalfFair" (388 : Nat) ({ cls := "HalfFair", name := "moreWorth", desc := "(II)I" } : Jvm.MethodName)) ∈ lw_all := lw_g (lw_at lw_m5 173 rfl) rfl
theorem q1286 : (Jvm.Cond.privateMethod ({ cls := "HalfFair", name := "moreWorth", desc := "(II)I" } : Jvm.MethodName)) ∈ lw_tbl := lw_at lw_m5 174 rfl
theorem q1287 : (Jvm.Cond.instanceMethod ({ cls := "HalfFair", name := "moreWorth", desc := "(II)I" } : Jvm.MethodName)) ∈ lw_all := lw_g (lw_at lw_m5 175 rfl) rfl
theorem q1288 : (Jvm.Cond.code ({ cls := "HalfFair", name := "moreWorth", desc := "(II)I" } : Jvm.MethodName) prog_1_method_58_code (4 : Nat) (Option.some Jvm.ClassFile.FieldType.int)) ∈ lw_all := lw_g (lw_at lw_m5 176 rfl) rfl
theorem q1290 : (Jvm.Cond.instanceMethod ({ cls := "HalfFair", name := "cry", desc := "(II)I" } : Jvm.MethodName)) ∈ lw_all := lw_g (lw_at lw_m5 178 rfl) rfl
theorem q1291 : (Jvm.Cond.selects "HalfFair" ({ cls := "HalfFair", name := "cry", desc := "(II)I" } : Jvm.MethodName) ({ cls := "HalfFair", name := "cry", desc := "(II)I" } : Jvm.MethodName)) ∈ lw_all := lw_g (lw_at lw_m5 179 rfl) rfl
theorem q1292 : (Jvm.Cond.code ({ cls := "HalfFair", name := "cry", desc := "(II)I" } : Jvm.MethodName) prog_1_method_61_code (9 : Nat) (Option.some Jvm.ClassFile.FieldType.int)) ∈ lw_all := lw_g (lw_at lw_m5 180 rfl) rfl
theorem q1293 : (Jvm.Cond.methodLink "HalfFair" (391 : Nat) ({ cls := "HalfFair", name := "criedBy", desc := "(II)I" } : Jvm.MethodName)) ∈ lw_all := lw_g (lw_at lw_m5 181 rfl) rfl
theorem q1294 : (Jvm.Cond.privateMethod ({ cls := "HalfFair", name := "criedBy", desc := "(II)I" } : Jvm.MethodName)) ∈ lw_tbl := lw_at lw_m5 182 rfl
theorem q1295 : (Jvm.Cond.instanceMethod ({ cls := "HalfFair", name := "criedBy", desc := "(II)I" } : Jvm.MethodName)) ∈ lw_all := lw_g (lw_at lw_m5 183 rfl) rfl
theorem q1296 : (Jvm.Cond.code ({ cls := "HalfFair", name := "criedBy", desc := "(II)I" } : Jvm.MethodName) prog_1_method_60_code (9 : Nat) (Option.some Jvm.ClassFile.FieldType.int)) ∈ lw_all := lw_g (lw_at lw_m5 184 rfl) rfl
theorem q1298 : (Jvm.Cond.instanceMethod ({ cls := "HalfFair", name := "bring", desc := "(III)I" } : Jvm.MethodName)) ∈ lw_all := lw_g (lw_at lw_m5 186 rfl) rfl
theorem q1299 : (Jvm.Cond.selects "HalfFair" ({ cls := "HalfFair", name := "bring", desc := "(III)I" } : Jvm.MethodName) ({ cls := "HalfFair", name := "bring", desc := "(III)I" } : Jvm.MethodName)) ∈ lw_all := lw_g (lw_at lw_m5 187 rfl) rfl
theorem q1300 : (Jvm.Cond.code ({ cls := "HalfFair", name := "bring", desc := "(III)I" } : Jvm.MethodName) prog_1_method_63_code (8 : Nat) (Option.some Jvm.ClassFile.FieldType.int)) ∈ lw_all := lw_g (lw_at lw_m5 188 rfl) rfl
theorem q1301 : (Jvm.Cond.methodLink "HalfFair" (394 : Nat) ({ cls := "HalfFair", name := "soldAt", desc := "(IILHalfFair$Rule;)I" } : Jvm.MethodName)) ∈ lw_all := lw_g (lw_at lw_m5 189 rfl) rfl
theorem q1302 : (Jvm.Cond.privateMethod ({ cls := "HalfFair", name := "soldAt", desc := "(IILHalfFair$Rule;)I" } : Jvm.MethodName)) ∈ lw_tbl := lw_at lw_m5 190 rfl
theorem q1303 : (Jvm.Cond.instanceMethod ({ cls := "HalfFair", name := "soldAt", desc := "(IILHalfFair$Rule;)I" } : Jvm.MethodName)) ∈ lw_all := lw_g (lw_at lw_m5 191 rfl) rfl
theorem q1304 : (Jvm.Cond.code ({ cls := "HalfFair", name := "soldAt", desc := "(IILHalfFair$Rule;)I" } : Jvm.MethodName) prog_1_method_62_code (6 : Nat) (Option.some Jvm.ClassFile.FieldType.int)) ∈ lw_all := lw_g (lw_at lw_m5 192 rfl) rfl
theorem q1306 : (Jvm.Cond.instanceMethod ({ cls := "HalfFair", name := "trial", desc := "(IIZ)I" } : Jvm.MethodName)) ∈ lw_all := lw_g (lw_at lw_m5 194 rfl) rfl
theorem q1307 : (Jvm.Cond.selects "HalfFair" ({ cls := "HalfFair", name := "trial", desc := "(IIZ)I" } : Jvm.MethodName) ({ cls := "HalfFair", name := "trial", desc := "(IIZ)I" } : Jvm.MethodName)) ∈ lw_all := lw_g (lw_at lw_m5 195 rfl) rfl
theorem q1308 : (Jvm.Cond.code ({ cls := "HalfFair", name := "trial", desc := "(IIZ)I" } : Jvm.MethodName) prog_1_method_64_code (4 : Nat) (Option.some Jvm.ClassFile.FieldType.int)) ∈ lw_all := lw_g (lw_at lw_m5 196 rfl) rfl
theorem q1310 : (Jvm.Cond.instanceMethod ({ cls := "HalfFair", name := "forgers", desc := "(I)I" } : Jvm.MethodName)) ∈ lw_all := lw_g (lw_at lw_m5 198 rfl) rfl
theorem q1311 : (Jvm.Cond.selects "HalfFair" ({ cls := "HalfFair", name := "forgers", desc := "(I)I" } : Jvm.MethodName) ({ cls := "HalfFair", name := "forgers", desc := "(I)I" } : Jvm.MethodName)) ∈ lw_all := lw_g (lw_at lw_m5 199 rfl) rfl
theorem q1312 : (Jvm.Cond.code ({ cls := "HalfFair", name := "forgers", desc := "(I)I" } : Jvm.MethodName) prog_1_method_66_code (6 : Nat) (Option.some Jvm.ClassFile.FieldType.int)) ∈ lw_all := lw_g (lw_at lw_m5 200 rfl) rfl
theorem q1313 : (Jvm.Cond.methodLink "HalfFair" (398 : Nat) ({ cls := "HalfFair", name := "areAllSo", desc := "(I)Z" } : Jvm.MethodName)) ∈ lw_all := lw_g (lw_at lw_m5 201 rfl) rfl
theorem q1314 : (Jvm.Cond.privateMethod ({ cls := "HalfFair", name := "areAllSo", desc := "(I)Z" } : Jvm.MethodName)) ∈ lw_tbl := lw_at lw_m5 202 rfl
theorem q1315 : (Jvm.Cond.instanceMethod ({ cls := "HalfFair", name := "areAllSo", desc := "(I)Z" } : Jvm.MethodName)) ∈ lw_all := lw_g (lw_at lw_m5 203 rfl) rfl
theorem q1316 : (Jvm.Cond.code ({ cls := "HalfFair", name := "areAllSo", desc := "(I)Z" } : Jvm.MethodName) prog_1_method_65_code (4 : Nat) (Option.some Jvm.ClassFile.FieldType.boolean)) ∈ lw_all := lw_g (lw_at lw_m5 204 rfl) rfl
theorem q1318 : (Jvm.Cond.instanceMethod ({ cls := "HalfFair", name := "seed", desc := "(I)I" } : Jvm.MethodName)) ∈ lw_all := lw_g (lw_at lw_m5 206 rfl) rfl
theorem q1319 : (Jvm.Cond.selects "HalfFair" ({ cls := "HalfFair", name := "seed", desc := "(I)I" } : Jvm.MethodName) ({ cls := "HalfFair", name := "seed", desc := "(I)I" } : Jvm.MethodName)) ∈ lw_all := lw_g (lw_at lw_m5 207 rfl) rfl
theorem q1320 : (Jvm.Cond.code ({ cls := "HalfFair", name := "seed", desc := "(I)I" } : Jvm.MethodName) prog_1_method_67_code (3 : Nat) (Option.some Jvm.ClassFile.FieldType.int)) ∈ lw_all := lw_g (lw_at lw_m5 208 rfl) rfl
theorem q1322 : (Jvm.Cond.instanceMethod ({ cls := "HalfFair", name := "fairs", desc := "(IIII)I" } : Jvm.MethodName)) ∈ lw_all := lw_g (lw_at lw_m5 210 rfl) rfl
theorem q1323 : (Jvm.Cond.selects "HalfFair" ({ cls := "HalfFair", name := "fairs", desc := "(IIII)I" } : Jvm.MethodName) ({ cls := "HalfFair", name := "fairs", desc := "(IIII)I" } : Jvm.MethodName)) ∈ lw_all := lw_g (lw_at lw_m5 211 rfl) rfl
theorem q1324 : (Jvm.Cond.code ({ cls := "HalfFair", name := "fairs", desc := "(IIII)I" } : Jvm.MethodName) prog_1_method_70_code (11 : Nat) (Option.some Jvm.ClassFile.FieldType.int)) ∈ lw_all := lw_g (lw_at lw_m5 212 rfl) rfl
theorem q1325 : (Jvm.Cond.constantLong "HalfFair" (414 : Nat) (10 : Int64)) ∈ lw_all := lw_g (lw_at lw_m5 213 rfl) rfl
theorem q1326 : (Jvm.Cond.constantLong "HalfFair" (416 : Nat) (100 : Int64)) ∈ lw_all := lw_g (lw_at lw_m5 214 rfl) rfl
theorem q1327 : (Jvm.Cond.methodLink "HalfFair" (418 : Nat) ({ cls := "HalfFair", name := "drawnHour", desc := "(LHalfFair$State;LHalfFair$Rule;I)I" } : Jvm.MethodName)) ∈ lw_all := lw_g (lw_at lw_m5 215 rfl) rfl
theorem q1328 : (Jvm.Cond.privateMethod ({ cls := "HalfFair", name := "drawnHour", desc := "(LHalfFair$State;LHalfFair$Rule;I)I" } : Jvm.MethodName)) ∈ lw_tbl := lw_at lw_m5 216 rfl
theorem q1329 : (Jvm.Cond.instanceMethod ({ cls := "HalfFair", name := "drawnHour", desc := "(LHalfFair$State;LHalfFair$Rule;I)I" } : Jvm.MethodName)) ∈ lw_all := lw_g (lw_at lw_m5 217 rfl) rfl
theorem q1330 : (Jvm.Cond.code ({ cls := "HalfFair", name := "drawnHour", desc := "(LHalfFair$State;LHalfFair$Rule;I)I" } : Jvm.MethodName) prog_1_method_69_code (8 : Nat) (Option.some Jvm.ClassFile.FieldType.int)) ∈ lw_all := lw_g (lw_at lw_m5 218 rfl) rfl
theorem q1331 : (Jvm.Cond.methodLink "HalfFair" (411 : Nat) ({ cls := "HalfFair", name := "draws", desc := "(I)I" } : Jvm.MethodName)) ∈ lw_all := lw_g (lw_at lw_m5 219 rfl) rfl
theorem q1332 : (Jvm.Cond.privateMethod ({ cls := "HalfFair", name := "draws", desc := "(I)I" } : Jvm.MethodName)) ∈ lw_tbl := lw_at lw_m5 220 rfl
theorem q1333 : (Jvm.Cond.instanceMethod ({ cls := "HalfFair", name := "draws", desc := "(I)I" } : Jvm.MethodName)) ∈ lw_all := lw_g (lw_at lw_m5 221 rfl) rfl
theorem q1334 : (Jvm.Cond.code ({ cls := "HalfFair", name := "draws", desc := "(I)I" } : Jvm.MethodName) prog_1_method_68_code (2 : Nat) (Option.some Jvm.ClassFile.FieldType.int)) ∈ lw_all := lw_g (lw_at lw_m5 222 rfl) rfl
theorem q1335 : (Jvm.Cond.constantLong "HalfFair" (404 : Nat) (1103515245 : Int64)) ∈ lw_all := lw_g (lw_at lw_m5 223 rfl) rfl
theorem q1336 : (Jvm.Cond.constantLong "HalfFair" (406 : Nat) (12345 : Int64)) ∈ lw_all := lw_g (lw_at lw_m5 224 rfl) rfl
theorem q1337 : (Jvm.Cond.constantLong "HalfFair" (408 : Nat) (2147483648 : Int64)) ∈ lw_all := lw_g (lw_at lw_m5 225 rfl) rfl
theorem q1338 : (Jvm.Cond.constant "HalfFair" (410 : Nat) (65536 : Int32)) ∈ lw_all := lw_g (lw_at lw_m5 226 rfl) rfl
theorem q1340 : (Jvm.Cond.instanceMethod ({ cls := "HalfFair", name := "count", desc := "(I)I" } : Jvm.MethodName)) ∈ lw_all := lw_g (lw_at lw_m5 228 rfl) rfl
theorem q1341 : (Jvm.Cond.selects "HalfFair" ({ cls := "HalfFair", name := "count", desc := "(I)I" } : Jvm.MethodName) ({ cls := "HalfFair", name := "count", desc := "(I)I" } : Jvm.MethodName)) ∈ lw_all := lw_g (lw_at lw_m5 229 rfl) rfl
theorem q1342 : (Jvm.Cond.code ({ cls := "HalfFair", name := "count", desc := "(I)I" } : Jvm.MethodName) prog_1_method_71_code (2 : Nat) (Option.some Jvm.ClassFile.FieldType.int)) ∈ lw_all := lw_g (lw_at lw_m5 230 rfl) rfl
theorem q1344 : (Jvm.Cond.instanceMethod ({ cls := "HalfFair", name := "image", desc := "(I)I" } : Jvm.MethodName)) ∈ lw_all := lw_g (lw_at lw_m5 232 rfl) rfl
theorem q1345 : (Jvm.Cond.selects "HalfFair" ({ cls := "HalfFair", name := "image", desc := "(I)I" } : Jvm.MethodName) ({ cls := "HalfFair", name := "image", desc := "(I)I" } : Jvm.MethodName)) ∈ lw_all := lw_g (lw_at lw_m5 233 rfl) rfl
theorem q1346 : (Jvm.Cond.code ({ cls := "HalfFair", name := "image", desc := "(I)I" } : Jvm.MethodName) prog_1_method_72_code (2 : Nat) (Option.some Jvm.ClassFile.FieldType.int)) ∈ lw_all := lw_g (lw_at lw_m5 234 rfl) rfl
theorem q1347 : (Jvm.Cond.constantLong "HalfFair" (422 : Nat) (3 : Int64)) ∈ lw_all := lw_g (lw_at lw_m5 235 rfl) rfl
theorem q1349 : (Jvm.Cond.methodLinkNest "HalfFair" (424 : Nat) ({ cls := "HalfFair$Image", name := "<init>", desc := "(LHalfFair;)V" } : Jvm.MethodName) "HalfFair") ∈ lw_tbl := lw_at lw_m5 237 rfl
theorem q1380 : (Jvm.Cond.methodLink "HalfFair" (427 : Nat) ({ cls := "HalfFair$Image", name := "keep", desc := "()V" } : Jvm.MethodName)) ∈ lw_all := lw_g (lw_at lw_m6 28 rfl) rfl
theorem q1386 : (Jvm.Cond.instanceMethod ({ cls := "HalfFair", name := "back", desc := "(I)I" } : Jvm.MethodName)) ∈ lw_all := lw_g (lw_at lw_m6 34 rfl) rfl
theorem q1387 : (Jvm.Cond.selects "HalfFair" ({ cls := "HalfFair", name := "back", desc := "(I)I" } : Jvm.MethodName) ({ cls := "HalfFair", name := "back", desc := "(I)I" } : Jvm.MethodName)) ∈ lw_all := lw_g (lw_at lw_m6 35 rfl) rfl
theorem q1388 : (Jvm.Cond.code ({ cls := "HalfFair", name := "back", desc := "(I)I" } : Jvm.MethodName) prog_1_method_73_code (2 : Nat) (Option.some Jvm.ClassFile.FieldType.int)) ∈ lw_all := lw_g (lw_at lw_m6 36 rfl) rfl
theorem q1389 : (Jvm.Cond.methodLink "HalfFair" (430 : Nat) ({ cls := "HalfFair$Image", name := "back", desc := "()V" } : Jvm.MethodName)) ∈ lw_all := lw_g (lw_at lw_m6 37 rfl) rfl
theorem q2044 : (Jvm.Cond.castable "HalfFair" "java/lang/Object") ∈ lw_tbl := lw_at lw_m8 212 rfl
theorem q2074 : (Jvm.Cond.stringRef "HalfFair" (435 : Nat) "buyer") ∈ lw_tbl := lw_at lw_m9 2 rfl
theorem q2075 : (Jvm.Cond.stringRef "HalfFair" (437 : Nat) "purse") ∈ lw_tbl := lw_at lw_m9 3 rfl
theorem q2076 : (Jvm.Cond.stringRef "HalfFair" (438 : Nat) "spot") ∈ lw_tbl := lw_at lw_m9 4 rfl
theorem q2077 : (Jvm.Cond.stringRef "HalfFair" (439 : Nat) "hour") ∈ lw_tbl := lw_at lw_m9 5 rfl
theorem q2078 : (Jvm.Cond.stringRef "HalfFair" (441 : Nat) "left") ∈ lw_tbl := lw_at lw_m9 6 rfl
theorem q2079 : (Jvm.Cond.stringRef "HalfFair" (442 : Nat) "has") ∈ lw_tbl := lw_at lw_m9 7 rfl
theorem q2080 : (Jvm.Cond.stringRef "HalfFair" (443 : Nat) "half") ∈ lw_tbl := lw_at lw_m9 8 rfl
theorem q2081 : (Jvm.Cond.stringRef "HalfFair" (445 : Nat) "shape") ∈ lw_tbl := lw_at lw_m9 9 rfl
theorem q2082 : (Jvm.Cond.stringRef "HalfFair" (446 : Nat) "side") ∈ lw_tbl := lw_at lw_m9 10 rfl
theorem q2083 : (Jvm.Cond.stringRef "HalfFair" (447 : Nat) "price") ∈ lw_tbl := lw_at lw_m9 11 rfl
theorem q2084 : (Jvm.Cond.stringRef "HalfFair" (448 : Nat) "fits") ∈ lw_tbl := lw_at lw_m9 12 rfl
theorem q2085 : (Jvm.Cond.stringRef "HalfFair" (450 : Nat) "nearly") ∈ lw_tbl := lw_at lw_m9 13 rfl
theorem q2086 : (Jvm.Cond.stringRef "HalfFair" (452 : Nat) "known") ∈ lw_tbl := lw_at lw_m9 14 rfl
theorem in_X0 : ∀ w ∈ wsX00, w ∈ lw_all := lw_in wsX00 [420, 422, 424, 426, 428, 430, 432, 434, 436, 438, 440, 442, 444, 446, 448, 450, 452, 454, 456, 458, 460, 462, 464] (by decide +kernel) (by decide +kernel)

