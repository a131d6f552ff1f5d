set_option maxRecDepth 100000
abbrev cX5_goesDeeper : ByteArray := prog_12_method_9_code
def yX5_goesDeeper : MethodName := ⟨RX5, "goesDeeper", "(I)V"⟩
def dkwX5_goesDeeper_1 : List UInt8 := [4, 96, 181, 0, 76, 177]
abbrev dktX5_goesDeeper_1 : List UInt8 := dkwX5_goesDeeper_1 ++ []
def dkwX5_goesDeeper_0 : List UInt8 := [42, 180, 0, 76, 16, 10, 160, 0, 13, 42, 180, 0, 3, 5, 27, 182, 0, 69, 191, 42, 89, 180, 0, 76]
abbrev dktX5_goesDeeper_0 : List UInt8 := dkwX5_goesDeeper_0 ++ dktX5_goesDeeper_1
theorem dksX5_goesDeeper_0 : cX5_goesDeeper.data.toList.drop 0 = dktX5_goesDeeper_0 := by decide +kernel
theorem dksX5_goesDeeper_1 : cX5_goesDeeper.data.toList.drop 24 = dktX5_goesDeeper_1 := dk_seg dksX5_goesDeeper_0 24 rfl rfl
theorem dX5_goesDeeper_0 : decode cX5_goesDeeper 0 = .ok (.aload_n 0, 1) := dk_42 (dk_at dksX5_goesDeeper_0 0 rfl rfl)
theorem dX5_goesDeeper_1 : decode cX5_goesDeeper 1 = .ok (.getfield 76, 3) := dk_180 0 76 (dk_at dksX5_goesDeeper_0 1 rfl rfl)
theorem dX5_goesDeeper_4 : decode cX5_goesDeeper 4 = .ok (.bipush 10, 2) := dk_16 10 (dk_at dksX5_goesDeeper_0 4 rfl rfl)
theorem dX5_goesDeeper_6 : decode cX5_goesDeeper 6 = .ok (.if_icmp .ne 13, 3) := dk_160 0 13 (dk_at dksX5_goesDeeper_0 6 rfl rfl)
theorem dX5_goesDeeper_9 : decode cX5_goesDeeper 9 = .ok (.aload_n 0, 1) := dk_42 (dk_at dksX5_goesDeeper_0 9 rfl rfl)
theorem dX5_goesDeeper_10 : decode cX5_goesDeeper 10 = .ok (.getfield 3, 3) := dk_180 0 3 (dk_at dksX5_goesDeeper_0 10 rfl rfl)
theorem dX5_goesDeeper_13 : decode cX5_goesDeeper 13 = .ok (.iconst 2, 1) := dk_5 (dk_at dksX5_goesDeeper_0 13 rfl rfl)
theorem dX5_goesDeeper_14 : decode cX5_goesDeeper 14 = .ok (.iload_n 1, 1) := dk_27 (dk_at dksX5_goesDeeper_0 14 rfl rfl)
theorem dX5_goesDeeper_15 : decode cX5_goesDeeper 15 = .ok (.invokevirtual 69, 3) := dk_182 0 69 (dk_at dksX5_goesDeeper_0 15 rfl rfl)
theorem dX5_goesDeeper_18 : decode cX5_goesDeeper 18 = .ok (.athrow, 1) := dk_191 (dk_at dksX5_goesDeeper_0 18 rfl rfl)
theorem dX5_goesDeeper_19 : decode cX5_goesDeeper 19 = .ok (.aload_n 0, 1) := dk_42 (dk_at dksX5_goesDeeper_0 19 rfl rfl)
theorem dX5_goesDeeper_20 : decode cX5_goesDeeper 20 = .ok (.dup, 1) := dk_89 (dk_at dksX5_goesDeeper_0 20 rfl rfl)
theorem dX5_goesDeeper_21 : decode cX5_goesDeeper 21 = .ok (.getfield 76, 3) := dk_180 0 76 (dk_at dksX5_goesDeeper_0 21 rfl rfl)
theorem dX5_goesDeeper_24 : decode cX5_goesDeeper 24 = .ok (.iconst 1, 1) := dk_4 (dk_at dksX5_goesDeeper_1 0 rfl rfl)
theorem dX5_goesDeeper_25 : decode cX5_goesDeeper 25 = .ok (.iadd, 1) := dk_96 (dk_at dksX5_goesDeeper_1 1 rfl rfl)
theorem dX5_goesDeeper_26 : decode cX5_goesDeeper 26 = .ok (.putfield 76, 3) := dk_181 0 76 (dk_at dksX5_goesDeeper_1 2 rfl rfl)
theorem dX5_goesDeeper_29 : decode cX5_goesDeeper 29 = .ok (.return_, 1) := dk_177 (dk_at dksX5_goesDeeper_1 5 rfl rfl)
theorem q163 : (Jvm.Cond.initialized "HalfFair$Parser") ∈ lw_all := lw_g (lw_at lw_m1 11 rfl) rfl
theorem q233 : (Jvm.Cond.fieldLinkNest "HalfFair$Parser" (155 : Nat) "HalfFair$Fair" "halves" "Ljava/util/ArrayList;" "HalfFair") ∈ lw_tbl := lw_at lw_m1 81 rfl
theorem q237 : (Jvm.Cond.fieldLinkNest "HalfFair$Parser" (170 : Nat) "HalfFair$Fair" "buyers" "Ljava/util/ArrayList;" "HalfFair") ∈ lw_tbl := lw_at lw_m1 85 rfl
theorem q244 : (Jvm.Cond.fieldLinkNest "HalfFair$Parser" (150 : Nat) "HalfFair$Fair" "stalls" "I" "HalfFair") ∈ lw_tbl := lw_at lw_m1 92 rfl
theorem q246 : (Jvm.Cond.fieldLinkNest "HalfFair$Parser" (180 : Nat) "HalfFair$Fair" "shift" "I" "HalfFair") ∈ lw_tbl := lw_at lw_m1 94 rfl
theorem q248 : (Jvm.Cond.fieldLinkNest "HalfFair$Parser" (202 : Nat) "HalfFair$Fair" "near" "I" "HalfFair") ∈ lw_tbl := lw_at lw_m1 96 rfl
theorem q251 : (Jvm.Cond.fieldLinkNest "HalfFair$Parser" (183 : Nat) "HalfFair$Fair" "dusk" "I" "HalfFair") ∈ lw_tbl := lw_at lw_m1 99 rfl
theorem q253 : (Jvm.Cond.fieldLinkNest "HalfFair$Parser" (186 : Nat) "HalfFair$Fair" "duskPrice" "I" "HalfFair") ∈ lw_tbl := lw_at lw_m1 101 rfl
theorem q255 : (Jvm.Cond.fieldLinkNest "HalfFair$Parser" (213 : Nat) "HalfFair$Fair" "hear" "I" "HalfFair") ∈ lw_tbl := lw_at lw_m1 103 rfl
theorem q258 : (Jvm.Cond.fieldLinkNest "HalfFair$Parser" (224 : Nat) "HalfFair$Fair" "forged" "I" "HalfFair") ∈ lw_tbl := lw_at lw_m1 106 rfl
theorem q259 : (Jvm.Cond.fieldLinkNest "HalfFair$Parser" (195 : Nat) "HalfFair$Fair" "isNearTold" "Z" "HalfFair") ∈ lw_tbl := lw_at lw_m1 107 rfl
theorem q260 : (Jvm.Cond.fieldLinkNest "HalfFair$Parser" (189 : Nat) "HalfFair$Fair" "isDuskTold" "Z" "HalfFair") ∈ lw_tbl := lw_at lw_m1 108 rfl
theorem q261 : (Jvm.Cond.fieldLinkNest "HalfFair$Parser" (210 : Nat) "HalfFair$Fair" "isHearTold" "Z" "HalfFair") ∈ lw_tbl := lw_at lw_m1 109 rfl
theorem q393 : (Jvm.Cond.fieldLinkNest "HalfFair$Parser" (267 : Nat) "HalfFair" "rules" "Ljava/util/ArrayList;" "HalfFair") ∈ lw_tbl := lw_at lw_m2 1 rfl
theorem q395 : (Jvm.Cond.fieldLinkNest "HalfFair$Parser" (29 : Nat) "HalfFair" "tape" "[B" "HalfFair") ∈ lw_tbl := lw_at lw_m2 3 rfl
theorem q397 : (Jvm.Cond.fieldLinkNest "HalfFair$Parser" (26 : Nat) "HalfFair" "taped" "I" "HalfFair") ∈ lw_tbl := lw_at lw_m2 5 rfl
theorem q487 : (Jvm.Cond.instantiable "HalfFair$Parser" (7 : Nat)) ∈ lw_all := lw_g (lw_at lw_m2 95 rfl) rfl
theorem q489 : (Jvm.Cond.instanceMethod ({ cls := "HalfFair$Parser", name := "<init>", desc := "(LHalfFair;[Ljava/lang/String;I)V" } : Jvm.MethodName)) ∈ lw_all := lw_g (lw_at lw_m2 97 rfl) rfl
theorem q490 : (Jvm.Cond.code ({ cls := "HalfFair$Parser", name := "<init>", desc := "(LHalfFair;[Ljava/lang/String;I)V" } : Jvm.MethodName) prog_12_method_1_code (4 : Nat) (Option.none : Option Jvm.ClassFile.FieldType)) ∈ lw_all := lw_g (lw_at lw_m2 98 rfl) rfl
theorem q491 : (Jvm.Cond.methodLink "HalfFair$Parser" (9 : Nat) ({ cls := "java/lang/Object", name := "<init>", desc := "()V" } : Jvm.MethodName)) ∈ lw_all := lw_g (lw_at lw_m2 99 rfl) rfl
theorem q492 : (Jvm.Cond.fieldLink "HalfFair$Parser" (15 : Nat) "HalfFair$Parser" "names" "[Ljava/lang/String;") ∈ lw_all := lw_g (lw_at lw_m2 100 rfl) rfl
theorem q493 : (Jvm.Cond.fieldLink "HalfFair$Parser" (23 : Nat) "HalfFair$Parser" "at" "I") ∈ lw_all := lw_g (lw_at lw_m2 101 rfl) rfl
theorem q494 : (Jvm.Cond.fieldLink "HalfFair$Parser" (76 : Nat) "HalfFair$Parser" "deep" "I") ∈ lw_all := lw_g (lw_at lw_m2 102 rfl) rfl
theorem q495 : (Jvm.Cond.fieldLink "HalfFair$Parser" (73 : Nat) "HalfFair$Parser" "counted" "I") ∈ lw_all := lw_g (lw_at lw_m2 103 rfl) rfl
theorem q496 : (Jvm.Cond.fieldLink "HalfFair$Parser" (147 : Nat) "HalfFair$Parser" "clauses" "I") ∈ lw_all := lw_g (lw_at lw_m2 104 rfl) rfl
theorem q497 : (Jvm.Cond.fieldLink "HalfFair$Parser" (19 : Nat) "HalfFair$Parser" "most" "I") ∈ lw_all := lw_g (lw_at lw_m2 105 rfl) rfl
theorem q498 : (Jvm.Cond.fieldLink "HalfFair$Parser" (3 : Nat) "HalfFair$Parser" "this$0" "LHalfFair;") ∈ lw_all := lw_g (lw_at lw_m2 106 rfl) rfl
theorem q499 : (Jvm.Cond.laysFinal "HalfFair$Parser" "HalfFair$Parser" "names" "[Ljava/lang/String;") ∈ lw_all := lw_g (lw_at lw_m2 107 rfl) rfl
theorem q500 : (Jvm.Cond.soleField "HalfFair$Parser" "names") ∈ lw_all := lw_g (lw_at lw_m2 108 rfl) rfl
theorem q501 : (Jvm.Cond.lays "HalfFair$Parser" "HalfFair$Parser" "at" "I") ∈ lw_all := lw_g (lw_at lw_m2 109 rfl) rfl
theorem q502 : (Jvm.Cond.soleField "HalfFair$Parser" "at") ∈ lw_all := lw_g (lw_at lw_m2 110 rfl) rfl
theorem q503 : (Jvm.Cond.lays "HalfFair$Parser" "HalfFair$Parser" "deep" "I") ∈ lw_all := lw_g (lw_at lw_m2 111 rfl) rfl
theorem q504 : (Jvm.Cond.soleField "HalfFair$Parser" "deep") ∈ lw_all := lw_g (lw_at lw_m2 112 rfl) rfl
theorem q505 : (Jvm.Cond.lays "HalfFair$Parser" "HalfFair$Parser" "counted" "I") ∈ lw_all := lw_g (lw_at lw_m2 113 rfl) rfl
theorem q506 : (Jvm.Cond.soleField "HalfFair$Parser" "counted") ∈ lw_all := lw_g (lw_at lw_m2 114 rfl) rfl
theorem q507 : (Jvm.Cond.lays "HalfFair$Parser" "HalfFair$Parser" "clauses" "I") ∈ lw_all := lw_g (lw_at lw_m2 115 rfl) rfl
theorem q508 : (Jvm.Cond.soleField "HalfFair$Parser" "clauses") ∈ lw_all := lw_g (lw_at lw_m2 116 rfl) rfl
theorem q509 : (Jvm.Cond.laysFinal "HalfFair$Parser" "HalfFair$Parser" "most" "I") ∈ lw_all := lw_g (lw_at lw_m2 117 rfl) rfl
theorem q510 : (Jvm.Cond.soleField "HalfFair$Parser" "most") ∈ lw_all := lw_g (lw_at lw_m2 118 rfl) rfl
theorem q511 : (Jvm.Cond.laysFinal "HalfFair$Parser" "HalfFair$Parser" "this$0" "LHalfFair;") ∈ lw_all := lw_g (lw_at lw_m2 119 rfl) rfl
theorem q512 : (Jvm.Cond.soleField "HalfFair$Parser" "this$0") ∈ lw_all := lw_g (lw_at lw_m2 120 rfl) rfl
theorem q513 : (Jvm.Cond.superclass "HalfFair$Parser" "java/lang/Object") ∈ lw_all := lw_g (lw_at lw_m2 121 rfl) rfl
theorem q515 : (Jvm.Cond.instanceMethod ({ cls := "HalfFair$Parser", name := "fair", desc := "()LHalfFair$Fair;" } : Jvm.MethodName)) ∈ lw_all := lw_g (lw_at lw_m2 123 rfl) rfl
theorem q516 : (Jvm.Cond.selects "HalfFair$Parser" ({ cls := "HalfFair$Parser", name := "fair", desc := "()LHalfFair$Fair;" } : Jvm.MethodName) ({ cls := "HalfFair$Parser", name := "fair", desc := "()LHalfFair$Fair;" } : Jvm.MethodName)) ∈ lw_all := lw_g (lw_at lw_m2 124 rfl) rfl
theorem q517 : (Jvm.Cond.code ({ cls := "HalfFair$Parser", name := "fair", desc := "()LHalfFair$Fair;" } : Jvm.MethodName) prog_12_method_25_code (2 : Nat) (Option.some (Jvm.ClassFile.FieldType.object "HalfFair$Fair"))) ∈ lw_all := lw_g (lw_at lw_m2 125 rfl) rfl
theorem q518 : (Jvm.Cond.classLink "HalfFair$Parser" (151 : Nat) "HalfFair$Fair") ∈ lw_all := lw_g (lw_at lw_m2 126 rfl) rfl
theorem q519 : (Jvm.Cond.methodLinkNest "HalfFair$Parser" (256 : Nat) ({ cls := "HalfFair$Fair", name := "<init>", desc := "()V" } : Jvm.MethodName) "HalfFair") ∈ lw_tbl := lw_at lw_m2 127 rfl
theorem q520 : (Jvm.Cond.methodLink "HalfFair$Parser" (257 : Nat) ({ cls := "HalfFair$Parser", name := "clause", desc := "(LHalfFair$Fair;)V" } : Jvm.MethodName)) ∈ lw_all := lw_g (lw_at lw_m2 128 rfl) rfl
theorem q521 : (Jvm.Cond.privateMethod ({ cls := "HalfFair$Parser", name := "clause", desc := "(LHalfFair$Fair;)V" } : Jvm.MethodName)) ∈ lw_tbl := lw_at lw_m2 129 rfl
theorem q522 : (Jvm.Cond.instanceMethod ({ cls := "HalfFair$Parser", name := "clause", desc := "(LHalfFair$Fair;)V" } : Jvm.MethodName)) ∈ lw_all := lw_g (lw_at lw_m2 130 rfl) rfl
theorem q523 : (Jvm.Cond.code ({ cls := "HalfFair$Parser", name := "clause", desc := "(LHalfFair$Fair;)V" } : Jvm.MethodName) prog_12_method_22_code (4 : Nat) (Option.none : Option Jvm.ClassFile.FieldType)) ∈ lw_all := lw_g (lw_at lw_m2 131 rfl) rfl
theorem q524 : (Jvm.Cond.stringRef "HalfFair$Parser" (215 : Nat) "stalls") ∈ lw_tbl := lw_at lw_m2 132 rfl
theorem q525 : (Jvm.Cond.methodLink "HalfFair$Parser" (198 : Nat) ({ cls := "HalfFair$Parser", name := "begins", desc := "(Ljava/lang/String;Z)Z" } : Jvm.MethodName)) ∈ lw_all := lw_g (lw_at lw_m2 133 rfl) rfl
theorem q526 : (Jvm.Cond.privateMethod ({ cls := "HalfFair$Parser", name := "begins", desc := "(Ljava/lang/String;Z)Z" } : Jvm.MethodName)) ∈ lw_tbl := lw_at lw_m2 134 rfl
theorem q527 : (Jvm.Cond.instanceMethod ({ cls := "HalfFair$Parser", name := "begins", desc := "(Ljava/lang/String;Z)Z" } : Jvm.MethodName)) ∈ lw_all := lw_g (lw_at lw_m2 135 rfl) rfl
theorem q528 : (Jvm.Cond.code ({ cls := "HalfFair$Parser", name := "begins", desc := "(Ljava/lang/String;Z)Z" } : Jvm.MethodName) prog_12_method_16_code (3 : Nat) (Option.some Jvm.ClassFile.FieldType.boolean)) ∈ lw_all := lw_g (lw_at lw_m2 136 rfl) rfl
theorem q529 : (Jvm.Cond.methodLink "HalfFair$Parser" (61 : Nat) ({ cls := "HalfFair$Parser", name := "isWord", desc := "(Ljava/lang/String;)Z" } : Jvm.MethodName)) ∈ lw_all := lw_g (lw_at lw_m2 137 rfl) rfl
theorem q530 : (Jvm.Cond.privateMethod ({ cls := "HalfFair$Parser", name := "isWord", desc := "(Ljava/lang/String;)Z" } : Jvm.MethodName)) ∈ lw_tbl := lw_at lw_m2 138 rfl
theorem q531 : (Jvm.Cond.instanceMethod ({ cls := "HalfFair$Parser", name := "isWord", desc := "(Ljava/lang/String;)Z" } : Jvm.MethodName)) ∈ lw_all := lw_g (lw_at lw_m2 139 rfl) rfl
theorem q532 : (Jvm.Cond.code ({ cls := "HalfFair$Parser", name := "isWord", desc := "(Ljava/lang/String;)Z" } : Jvm.MethodName) prog_12_method_5_code (5 : Nat) (Option.some Jvm.ClassFile.FieldType.boolean)) ∈ lw_all := lw_g (lw_at lw_m2 140 rfl) rfl
theorem q533 : (Jvm.Cond.methodLink "HalfFair$Parser" (45 : Nat) ({ cls := "HalfFair$Parser", name := "next", desc := "()I" } : Jvm.MethodName)) ∈ lw_all := lw_g (lw_at lw_m2 141 rfl) rfl
theorem q534 : (Jvm.Cond.privateMethod ({ cls := "HalfFair$Parser", name := "next", desc := "()I" } : Jvm.MethodName)) ∈ lw_tbl := lw_at lw_m2 142 rfl
theorem q535 : (Jvm.Cond.instanceMethod ({ cls := "HalfFair$Parser", name := "next", desc := "()I" } : Jvm.MethodName)) ∈ lw_all := lw_g (lw_at lw_m2 143 rfl) rfl
theorem q536 : (Jvm.Cond.code ({ cls := "HalfFair$Parser", name := "next", desc := "()I" } : Jvm.MethodName) prog_12_method_3_code (1 : Nat) (Option.some Jvm.ClassFile.FieldType.int)) ∈ lw_all := lw_g (lw_at lw_m2 144 rfl) rfl
theorem q537 : (Jvm.Cond.methodLink "HalfFair$Parser" (33 : Nat) ({ cls := "HalfFair$Parser", name := "sign", desc := "()I" } : Jvm.MethodName)) ∈ lw_all := lw_g (lw_at lw_m2 145 rfl) rfl
theorem q538 : (Jvm.Cond.privateMethod ({ cls := "HalfFair$Parser", name := "sign", desc := "()I" } : Jvm.MethodName)) ∈ lw_tbl := lw_at lw_m2 146 rfl
theorem q539 : (Jvm.Cond.instanceMethod ({ cls := "HalfFair$Parser", name := "sign", desc := "()I" } : Jvm.MethodName)) ∈ lw_all := lw_g (lw_at lw_m2 147 rfl) rfl
theorem q540 : (Jvm.Cond.code ({ cls := "HalfFair$Parser", name := "sign", desc := "()I" } : Jvm.MethodName) prog_12_method_2_code (1 : Nat) (Option.some Jvm.ClassFile.FieldType.int)) ∈ lw_all := lw_g (lw_at lw_m2 148 rfl) rfl
theorem q541 : (Jvm.Cond.constantLong "HalfFair$Parser" (48 : Nat) (97 : Int64)) ∈ lw_all := lw_g (lw_at lw_m2 149 rfl) rfl
theorem q542 : (Jvm.Cond.constantLong "HalfFair$Parser" (50 : Nat) (122 : Int64)) ∈ lw_all := lw_g (lw_at lw_m2 150 rfl) rfl
theorem q543 : (Jvm.Cond.methodLinkNest "HalfFair$Parser" (41 : Nat) ({ cls := "HalfFair", name := "in", desc := "(JJJ)Z" } : Jvm.MethodName) "HalfFair") ∈ lw_tbl := lw_at lw_m2 151 rfl
theorem q546 : (Jvm.Cond.methodLink "HalfFair$Parser" (52 : Nat) ({ cls := "java/lang/String", name := "length", desc := "()I" } : Jvm.MethodName)) ∈ lw_all := lw_g (lw_at lw_m2 154 rfl) rfl
theorem q556 : (Jvm.Cond.methodLink "HalfFair$Parser" (57 : Nat) ({ cls := "java/lang/String", name := "charAt", desc := "(I)C" } : Jvm.MethodName)) ∈ lw_all := lw_g (lw_at lw_m2 164 rfl) rfl
theorem q594 : (Jvm.Cond.methodLinkNest "HalfFair$Parser" (69 : Nat) ({ cls := "HalfFair", name := "fails", desc := "(II)LHalfFair$Wrong;" } : Jvm.MethodName) "HalfFair") ∈ lw_tbl := lw_at lw_m2 202 rfl
theorem q598 : (Jvm.Cond.methodLink "HalfFair$Parser" (216 : Nat) ({ cls := "HalfFair$Parser", name := "stalls", desc := "(LHalfFair$Fair;)V" } : Jvm.MethodName)) ∈ lw_all := lw_g (lw_at lw_m2 206 rfl) rfl
theorem q599 : (Jvm.Cond.privateMethod ({ cls := "HalfFair$Parser", name := "stalls", desc := "(LHalfFair$Fair;)V" } : Jvm.MethodName)) ∈ lw_tbl := lw_at lw_m2 207 rfl
theorem q600 : (Jvm.Cond.instanceMethod ({ cls := "HalfFair$Parser", name := "stalls", desc := "(LHalfFair$Fair;)V" } : Jvm.MethodName)) ∈ lw_all := lw_g (lw_at lw_m2 208 rfl) rfl
theorem q601 : (Jvm.Cond.code ({ cls := "HalfFair$Parser", name := "stalls", desc := "(LHalfFair$Fair;)V" } : Jvm.MethodName) prog_12_method_19_code (2 : Nat) (Option.none : Option Jvm.ClassFile.FieldType)) ∈ lw_all := lw_g (lw_at lw_m2 209 rfl) rfl
theorem q602 : (Jvm.Cond.methodLink "HalfFair$Parser" (82 : Nat) ({ cls := "HalfFair$Parser", name := "number", desc := "(II)I" } : Jvm.MethodName)) ∈ lw_all := lw_g (lw_at lw_m2 210 rfl) rfl
theorem q603 : (Jvm.Cond.privateMethod ({ cls := "HalfFair$Parser", name := "number", desc := "(II)I" } : Jvm.MethodName)) ∈ lw_tbl := lw_at lw_m2 211 rfl
theorem q604 : (Jvm.Cond.instanceMethod ({ cls := "HalfFair$Parser", name := "number", desc := "(II)I" } : Jvm.MethodName)) ∈ lw_all := lw_g (lw_at lw_m2 212 rfl) rfl
theorem q605 : (Jvm.Cond.code ({ cls := "HalfFair$Parser", name := "number", desc := "(II)I" } : Jvm.MethodName) prog_12_method_7_code (5 : Nat) (Option.some Jvm.ClassFile.FieldType.int)) ∈ lw_all := lw_g (lw_at lw_m2 213 rfl) rfl
theorem q606 : (Jvm.Cond.methodLink "HalfFair$Parser" (65 : Nat) ({ cls := "HalfFair$Parser", name := "isDigit", desc := "()Z" } : Jvm.MethodName)) ∈ lw_all := lw_g (lw_at lw_m2 214 rfl) rfl
theorem q607 : (Jvm.Cond.privateMethod ({ cls := "HalfFair$Parser", name := "isDigit", desc := "()Z" } : Jvm.MethodName)) ∈ lw_tbl := lw_at lw_m2 215 rfl
theorem q608 : (Jvm.Cond.instanceMethod ({ cls := "HalfFair$Parser", name := "isDigit", desc := "()Z" } : Jvm.MethodName)) ∈ lw_all := lw_g (lw_at lw_m2 216 rfl) rfl
theorem q609 : (Jvm.Cond.code ({ cls := "HalfFair$Parser", name := "isDigit", desc := "()Z" } : Jvm.MethodName) prog_12_method_4_code (1 : Nat) (Option.some Jvm.ClassFile.FieldType.boolean)) ∈ lw_all := lw_g (lw_at lw_m2 217 rfl) rfl
theorem q610 : (Jvm.Cond.constantLong "HalfFair$Parser" (37 : Nat) (48 : Int64)) ∈ lw_all := lw_g (lw_at lw_m2 218 rfl) rfl
theorem q611 : (Jvm.Cond.constantLong "HalfFair$Parser" (39 : Nat) (57 : Int64)) ∈ lw_all := lw_g (lw_at lw_m2 219 rfl) rfl
theorem q612 : (Jvm.Cond.stringRef "HalfFair$Parser" (218 : Nat) "half") ∈ lw_tbl := lw_at lw_m2 220 rfl
theorem q613 : (Jvm.Cond.methodLink "HalfFair$Parser" (173 : Nat) ({ cls := "java/util/ArrayList", name := "size", desc := "()I" } : Jvm.MethodName)) ∈ lw_all := lw_g (lw_at lw_m2 221 rfl) rfl
theorem q617 : (Jvm.Cond.methodLink "HalfFair$Parser" (220 : Nat) ({ cls := "HalfFair$Parser", name := "half", desc := "(LHalfFair$Fair;)V" } : Jvm.MethodName)) ∈ lw_all := lw_g (lw_at lw_m2 225 rfl) rfl
theorem q618 : (Jvm.Cond.privateMethod ({ cls := "HalfFair$Parser", name := "half", desc := "(LHalfFair$Fair;)V" } : Jvm.MethodName)) ∈ lw_tbl := lw_at lw_m2 226 rfl
theorem q619 : (Jvm.Cond.instanceMethod ({ cls := "HalfFair$Parser", name := "half", desc := "(LHalfFair$Fair;)V" } : Jvm.MethodName)) ∈ lw_all := lw_g (lw_at lw_m2 227 rfl) rfl
theorem q620 : (Jvm.Cond.code ({ cls := "HalfFair$Parser", name := "half", desc := "(LHalfFair$Fair;)V" } : Jvm.MethodName) prog_12_method_17_code (5 : Nat) (Option.none : Option Jvm.ClassFile.FieldType)) ∈ lw_all := lw_g (lw_at lw_m2 228 rfl) rfl
theorem q621 : (Jvm.Cond.classLink "HalfFair$Parser" (159 : Nat) "HalfFair$Half") ∈ lw_all := lw_g (lw_at lw_m2 229 rfl) rfl
theorem q623 : (Jvm.Cond.methodLinkNest "HalfFair$Parser" (161 : Nat) ({ cls := "HalfFair$Half", name := "<init>", desc := "(IIII)V" } : Jvm.MethodName) "HalfFair") ∈ lw_tbl := lw_at lw_m2 231 rfl
theorem q650 : (Jvm.Cond.methodLink "HalfFair$Parser" (164 : Nat) ({ cls := "java/util/ArrayList", name := "add", desc := "(Ljava/lang/Object;)Z" } : Jvm.MethodName)) ∈ lw_all := lw_g (lw_at lw_m3 18 rfl) rfl
theorem q694 : (Jvm.Cond.selects "HalfFair$Parser" ({ cls := "java/lang/Object", name := "getClass", desc := "()Ljava/lang/Class;" } : Jvm.MethodName) ({ cls := "java/lang/Object", name := "getClass", desc := "()Ljava/lang/Class;" } : Jvm.MethodName)) ∈ lw_all := lw_g (lw_at lw_m3 62 rfl) rfl
theorem q715 : (Jvm.Cond.stringRef "HalfFair$Parser" (222 : Nat) "forged") ∈ lw_tbl := lw_at lw_m3 83 rfl
theorem q716 : (Jvm.Cond.stringRef "HalfFair$Parser" (226 : Nat) "buyer") ∈ lw_tbl := lw_at lw_m3 84 rfl
theorem q717 : (Jvm.Cond.classLink "HalfFair$Parser" (228 : Nat) "HalfFair$Buyer") ∈ lw_all := lw_g (lw_at lw_m3 85 rfl) rfl
theorem q719 : (Jvm.Cond.methodLinkNest "HalfFair$Parser" (230 : Nat) ({ cls := "HalfFair$Buyer", name := "<init>", desc := "(II)V" } : Jvm.MethodName) "HalfFair") ∈ lw_tbl := lw_at lw_m3 87 rfl
theorem q732 : (Jvm.Cond.stringRef "HalfFair$Parser" (232 : Nat) "club") ∈ lw_tbl := lw_at lw_m3 100 rfl
theorem q733 : (Jvm.Cond.methodLink "HalfFair$Parser" (234 : Nat) ({ cls := "HalfFair$Parser", name := "club", desc := "(LHalfFair$Fair;)V" } : Jvm.MethodName)) ∈ lw_all := lw_g (lw_at lw_m3 101 rfl) rfl
theorem q734 : (Jvm.Cond.privateMethod ({ cls := "HalfFair$Parser", name := "club", desc := "(LHalfFair$Fair;)V" } : Jvm.MethodName)) ∈ lw_tbl := lw_at lw_m3 102 rfl
theorem q735 : (Jvm.Cond.instanceMethod ({ cls := "HalfFair$Parser", name := "club", desc := "(LHalfFair$Fair;)V" } : Jvm.MethodName)) ∈ lw_all := lw_g (lw_at lw_m3 103 rfl) rfl
theorem q736 : (Jvm.Cond.code ({ cls := "HalfFair$Parser", name := "club", desc := "(LHalfFair$Fair;)V" } : Jvm.MethodName) prog_12_method_18_code (5 : Nat) (Option.none : Option Jvm.ClassFile.FieldType)) ∈ lw_all := lw_g (lw_at lw_m3 104 rfl) rfl
theorem q737 : (Jvm.Cond.methodLink "HalfFair$Parser" (176 : Nat) ({ cls := "HalfFair$Fair", name := "joins", desc := "(II)V" } : Jvm.MethodName)) ∈ lw_all := lw_g (lw_at lw_m3 105 rfl) rfl
theorem q744 : (Jvm.Cond.methodLink "HalfFair$Parser" (236 : Nat) ({ cls := "HalfFair$Parser", name := "once", desc := "(LHalfFair$Fair;Z)V" } : Jvm.MethodName)) ∈ lw_all := lw_g (lw_at lw_m3 112 rfl) rfl
theorem q745 : (Jvm.Cond.privateMethod ({ cls := "HalfFair$Parser", name := "once", desc := "(LHalfFair$Fair;Z)V" } : Jvm.MethodName)) ∈ lw_tbl := lw_at lw_m3 113 rfl
theorem q746 : (Jvm.Cond.instanceMethod ({ cls := "HalfFair$Parser", name := "once", desc := "(LHalfFair$Fair;Z)V" } : Jvm.MethodName)) ∈ lw_all := lw_g (lw_at lw_m3 114 rfl) rfl
theorem q747 : (Jvm.Cond.code ({ cls := "HalfFair$Parser", name := "once", desc := "(LHalfFair$Fair;Z)V" } : Jvm.MethodName) prog_12_method_21_code (3 : Nat) (Option.none : Option Jvm.ClassFile.FieldType)) ∈ lw_all := lw_g (lw_at lw_m3 115 rfl) rfl
theorem q748 : (Jvm.Cond.stringRef "HalfFair$Parser" (193 : Nat) "near") ∈ lw_tbl := lw_at lw_m3 116 rfl
theorem q749 : (Jvm.Cond.stringRef "HalfFair$Parser" (204 : Nat) "dusk") ∈ lw_tbl := lw_at lw_m3 117 rfl
theorem q750 : (Jvm.Cond.methodLink "HalfFair$Parser" (205 : Nat) ({ cls := "HalfFair$Parser", name := "dusk", desc := "(LHalfFair$Fair;)V" } : Jvm.MethodName)) ∈ lw_all := lw_g (lw_at lw_m3 118 rfl) rfl
theorem q751 : (Jvm.Cond.privateMethod ({ cls := "HalfFair$Parser", name := "dusk", desc := "(LHalfFair$Fair;)V" } : Jvm.MethodName)) ∈ lw_tbl := lw_at lw_m3 119 rfl
theorem q752 : (Jvm.Cond.instanceMethod ({ cls := "HalfFair$Parser", name := "dusk", desc := "(LHalfFair$Fair;)V" } : Jvm.MethodName)) ∈ lw_all := lw_g (lw_at lw_m3 120 rfl) rfl
theorem q753 : (Jvm.Cond.code ({ cls := "HalfFair$Parser", name := "dusk", desc := "(LHalfFair$Fair;)V" } : Jvm.MethodName) prog_12_method_20_code (2 : Nat) (Option.none : Option Jvm.ClassFile.FieldType)) ∈ lw_all := lw_g (lw_at lw_m3 121 rfl) rfl
theorem q754 : (Jvm.Cond.stringRef "HalfFair$Parser" (208 : Nat) "hear") ∈ lw_tbl := lw_at lw_m3 122 rfl
theorem q755 : (Jvm.Cond.methodLink "HalfFair$Parser" (260 : Nat) ({ cls := "HalfFair$Parser", name := "goesOn", desc := "()Z" } : Jvm.MethodName)) ∈ lw_all := lw_g (lw_at lw_m3 123 rfl) rfl
theorem q756 : (Jvm.Cond.privateMethod ({ cls := "HalfFair$Parser", name := "goesOn", desc := "()Z" } : Jvm.MethodName)) ∈ lw_tbl := lw_at lw_m3 124 rfl
theorem q757 : (Jvm.Cond.instanceMethod ({ cls := "HalfFair$Parser", name := "goesOn", desc := "()Z" } : Jvm.MethodName)) ∈ lw_all := lw_g (lw_at lw_m3 125 rfl) rfl
theorem q758 : (Jvm.Cond.code ({ cls := "HalfFair$Parser", name := "goesOn", desc := "()Z" } : Jvm.MethodName) prog_12_method_24_code (2 : Nat) (Option.some Jvm.ClassFile.FieldType.boolean)) ∈ lw_all := lw_g (lw_at lw_m3 126 rfl) rfl
theorem q812 : (Jvm.Cond.instanceMethod ({ cls := "HalfFair$Parser", name := "rule", desc := "()I" } : Jvm.MethodName)) ∈ lw_all := lw_g (lw_at lw_m3 180 rfl) rfl
theorem q813 : (Jvm.Cond.selects "HalfFair$Parser" ({ cls := "HalfFair$Parser", name := "rule", desc := "()I" } : Jvm.MethodName) ({ cls := "HalfFair$Parser", name := "rule", desc := "()I" } : Jvm.MethodName)) ∈ lw_all := lw_g (lw_at lw_m3 181 rfl) rfl
theorem q814 : (Jvm.Cond.code ({ cls := "HalfFair$Parser", name := "rule", desc := "()I" } : Jvm.MethodName) prog_12_method_26_code (2 : Nat) (Option.some Jvm.ClassFile.FieldType.int)) ∈ lw_all := lw_g (lw_at lw_m3 182 rfl) rfl
theorem q815 : (Jvm.Cond.classLink "HalfFair$Parser" (245 : Nat) "HalfFair$Rule") ∈ lw_all := lw_g (lw_at lw_m3 183 rfl) rfl
theorem q817 : (Jvm.Cond.methodLinkNest "HalfFair$Parser" (263 : Nat) ({ cls := "HalfFair$Rule", name := "<init>", desc := "()V" } : Jvm.MethodName) "HalfFair") ∈ lw_tbl := lw_at lw_m3 185 rfl
theorem q824 : (Jvm.Cond.fieldLinkNest "HalfFair$Parser" (244 : Nat) "HalfFair$Rule" "all" "Ljava/util/ArrayList;" "HalfFair") ∈ lw_tbl := lw_at lw_m3 192 rfl
theorem q828 : (Jvm.Cond.methodLink "HalfFair$Parser" (264 : Nat) ({ cls := "HalfFair$Parser", name := "clause", desc := "(LHalfFair$Rule;)V" } : Jvm.MethodName)) ∈ lw_all := lw_g (lw_at lw_m3 196 rfl) rfl
theorem q829 : (Jvm.Cond.privateMethod ({ cls := "HalfFair$Parser", name := "clause", desc := "(LHalfFair$Rule;)V" } : Jvm.MethodName)) ∈ lw_tbl := lw_at lw_m3 197 rfl
theorem q830 : (Jvm.Cond.instanceMethod ({ cls := "HalfFair$Parser", name := "clause", desc := "(LHalfFair$Rule;)V" } : Jvm.MethodName)) ∈ lw_all := lw_g (lw_at lw_m3 198 rfl) rfl
theorem q831 : (Jvm.Cond.code ({ cls := "HalfFair$Parser", name := "clause", desc := "(LHalfFair$Rule;)V" } : Jvm.MethodName) prog_12_method_23_code (4 : Nat) (Option.none : Option Jvm.ClassFile.FieldType)) ∈ lw_all := lw_g (lw_at lw_m3 199 rfl) rfl
theorem q832 : (Jvm.Cond.stringRef "HalfFair$Parser" (240 : Nat) "buy") ∈ lw_tbl := lw_at lw_m3 200 rfl
theorem q833 : (Jvm.Cond.stringRef "HalfFair$Parser" (242 : Nat) "go") ∈ lw_tbl := lw_at lw_m3 201 rfl
theorem q834 : (Jvm.Cond.methodLink "HalfFair$Parser" (124 : Nat) ({ cls := "HalfFair$Parser", name := "sum", desc := "()LHalfFair$Value;" } : Jvm.MethodName)) ∈ lw_all := lw_g (lw_at lw_m3 202 rfl) rfl
theorem q835 : (Jvm.Cond.privateMethod ({ cls := "HalfFair$Parser", name := "sum", desc := "()LHalfFair$Value;" } : Jvm.MethodName)) ∈ lw_tbl := lw_at lw_m3 203 rfl
theorem q836 : (Jvm.Cond.instanceMethod ({ cls := "HalfFair$Parser", name := "sum", desc := "()LHalfFair$Value;" } : Jvm.MethodName)) ∈ lw_all := lw_g (lw_at lw_m3 204 rfl) rfl
theorem q837 : (Jvm.Cond.code ({ cls := "HalfFair$Parser", name := "sum", desc := "()LHalfFair$Value;" } : Jvm.MethodName) prog_12_method_12_code (3 : Nat) (Option.some (Jvm.ClassFile.FieldType.object "HalfFair$Value"))) ∈ lw_all := lw_g (lw_at lw_m3 205 rfl) rfl
theorem q838 : (Jvm.Cond.methodLink "HalfFair$Parser" (104 : Nat) ({ cls := "HalfFair$Parser", name := "term", desc := "()LHalfFair$Value;" } : Jvm.MethodName)) ∈ lw_all := lw_g (lw_at lw_m3 206 rfl) rfl
theorem q839 : (Jvm.Cond.privateMethod ({ cls := "HalfFair$Parser", name := "term", desc := "()LHalfFair$Value;" } : Jvm.MethodName)) ∈ lw_tbl := lw_at lw_m3 207 rfl
theorem q840 : (Jvm.Cond.instanceMethod ({ cls := "HalfFair$Parser", name := "term", desc := "()LHalfFair$Value;" } : Jvm.MethodName)) ∈ lw_all := lw_g (lw_at lw_m3 208 rfl) rfl
theorem q841 : (Jvm.Cond.code ({ cls := "HalfFair$Parser", name := "term", desc := "()LHalfFair$Value;" } : Jvm.MethodName) prog_12_method_11_code (3 : Nat) (Option.some (Jvm.ClassFile.FieldType.object "HalfFair$Value"))) ∈ lw_all := lw_g (lw_at lw_m3 209 rfl) rfl
theorem q842 : (Jvm.Cond.methodLink "HalfFair$Parser" (95 : Nat) ({ cls := "HalfFair$Parser", name := "value", desc := "()LHalfFair$Value;" } : Jvm.MethodName)) ∈ lw_all := lw_g (lw_at lw_m3 210 rfl) rfl
theorem q843 : (Jvm.Cond.privateMethod ({ cls := "HalfFair$Parser", name := "value", desc := "()LHalfFair$Value;" } : Jvm.MethodName)) ∈ lw_tbl := lw_at lw_m3 211 rfl
theorem q844 : (Jvm.Cond.instanceMethod ({ cls := "HalfFair$Parser", name := "value", desc := "()LHalfFair$Value;" } : Jvm.MethodName)) ∈ lw_all := lw_g (lw_at lw_m3 212 rfl) rfl
theorem q845 : (Jvm.Cond.code ({ cls := "HalfFair$Parser", name := "value", desc := "()LHalfFair$Value;" } : Jvm.MethodName) prog_12_method_10_code (3 : Nat) (Option.some (Jvm.ClassFile.FieldType.object "HalfFair$Value"))) ∈ lw_all := lw_g (lw_at lw_m3 213 rfl) rfl
theorem q846 : (Jvm.Cond.classLink "HalfFair$Parser" (79 : Nat) "HalfFair$Plain") ∈ lw_all := lw_g (lw_at lw_m3 214 rfl) rfl
theorem q848 : (Jvm.Cond.constant "HalfFair$Parser" (81 : Nat) (99999 : Int32)) ∈ lw_all := lw_g (lw_at lw_m3 216 rfl) rfl
theorem q849 : (Jvm.Cond.methodLink "HalfFair$Parser" (86 : Nat) ({ cls := "HalfFair$Plain", name := "<init>", desc := "(I)V" } : Jvm.MethodName)) ∈ lw_all := lw_g (lw_at lw_m3 217 rfl) rfl
theorem q860 : (Jvm.Cond.methodLink "HalfFair$Parser" (89 : Nat) ({ cls := "HalfFair$Parser", name := "counts", desc := "(I)V" } : Jvm.MethodName)) ∈ lw_all := lw_g (lw_at lw_m3 228 rfl) rfl
theorem q861 : (Jvm.Cond.privateMethod ({ cls := "HalfFair$Parser", name := "counts", desc := "(I)V" } : Jvm.MethodName)) ∈ lw_tbl := lw_at lw_m3 229 rfl
theorem q862 : (Jvm.Cond.instanceMethod ({ cls := "HalfFair$Parser", name := "counts", desc := "(I)V" } : Jvm.MethodName)) ∈ lw_all := lw_g (lw_at lw_m3 230 rfl) rfl
theorem q863 : (Jvm.Cond.code ({ cls := "HalfFair$Parser", name := "counts", desc := "(I)V" } : Jvm.MethodName) prog_12_method_8_code (2 : Nat) (Option.none : Option Jvm.ClassFile.FieldType)) ∈ lw_all := lw_g (lw_at lw_m3 231 rfl) rfl
theorem q864 : (Jvm.Cond.classLink "HalfFair$Parser" (92 : Nat) "HalfFair$Asked") ∈ lw_all := lw_g (lw_at lw_m3 232 rfl) rfl
theorem q866 : (Jvm.Cond.methodLink "HalfFair$Parser" (94 : Nat) ({ cls := "HalfFair$Asked", name := "<init>", desc := "(I)V" } : Jvm.MethodName)) ∈ lw_all := lw_g (lw_at lw_m3 234 rfl) rfl
theorem q874 : (Jvm.Cond.classLink "HalfFair$Parser" (99 : Nat) "HalfFair$Joined") ∈ lw_all := lw_g (lw_at lw_m4 2 rfl) rfl
theorem q876 : (Jvm.Cond.methodLink "HalfFair$Parser" (101 : Nat) ({ cls := "HalfFair$Joined", name := "<init>", desc := "(LHalfFair$Value;LHalfFair$Value;I)V" } : Jvm.MethodName)) ∈ lw_all := lw_g (lw_at lw_m4 4 rfl) rfl
theorem q890 : (Jvm.Cond.classLink "HalfFair$Parser" (249 : Nat) "HalfFair$Told") ∈ lw_all := lw_g (lw_at lw_m4 18 rfl) rfl
theorem q892 : (Jvm.Cond.stringRef "HalfFair$Parser" (251 : Nat) "if") ∈ lw_tbl := lw_at lw_m4 20 rfl
theorem q893 : (Jvm.Cond.methodLink "HalfFair$Parser" (134 : Nat) ({ cls := "HalfFair$Parser", name := "takes", desc := "(Ljava/lang/String;)Z" } : Jvm.MethodName)) ∈ lw_all := lw_g (lw_at lw_m4 21 rfl) rfl
theorem q894 : (Jvm.Cond.privateMethod ({ cls := "HalfFair$Parser", name := "takes", desc := "(Ljava/lang/String;)Z" } : Jvm.MethodName)) ∈ lw_tbl := lw_at lw_m4 22 rfl
theorem q895 : (Jvm.Cond.instanceMethod ({ cls := "HalfFair$Parser", name := "takes", desc := "(Ljava/lang/String;)Z" } : Jvm.MethodName)) ∈ lw_all := lw_g (lw_at lw_m4 23 rfl) rfl
theorem q896 : (Jvm.Cond.code ({ cls := "HalfFair$Parser", name := "takes", desc := "(Ljava/lang/String;)Z" } : Jvm.MethodName) prog_12_method_6_code (3 : Nat) (Option.some Jvm.ClassFile.FieldType.boolean)) ∈ lw_all := lw_g (lw_at lw_m4 24 rfl) rfl
theorem q897 : (Jvm.Cond.methodLink "HalfFair$Parser" (121 : Nat) ({ cls := "HalfFair$Parser", name := "test", desc := "()LHalfFair$Condition;" } : Jvm.MethodName)) ∈ lw_all := lw_g (lw_at lw_m4 25 rfl) rfl
theorem q898 : (Jvm.Cond.privateMethod ({ cls := "HalfFair$Parser", name := "test", desc := "()LHalfFair$Condition;" } : Jvm.MethodName)) ∈ lw_tbl := lw_at lw_m4 26 rfl
theorem q899 : (Jvm.Cond.instanceMethod ({ cls := "HalfFair$Parser", name := "test", desc := "()LHalfFair$Condition;" } : Jvm.MethodName)) ∈ lw_all := lw_g (lw_at lw_m4 27 rfl) rfl
theorem q900 : (Jvm.Cond.code ({ cls := "HalfFair$Parser", name := "test", desc := "()LHalfFair$Condition;" } : Jvm.MethodName) prog_12_method_15_code (2 : Nat) (Option.some (Jvm.ClassFile.FieldType.object "HalfFair$Condition"))) ∈ lw_all := lw_g (lw_at lw_m4 28 rfl) rfl
theorem q901 : (Jvm.Cond.methodLink "HalfFair$Parser" (142 : Nat) ({ cls := "HalfFair$Parser", name := "part", desc := "()LHalfFair$Condition;" } : Jvm.MethodName)) ∈ lw_all := lw_g (lw_at lw_m4 29 rfl) rfl
theorem q902 : (Jvm.Cond.privateMethod ({ cls := "HalfFair$Parser", name := "part", desc := "()LHalfFair$Condition;" } : Jvm.MethodName)) ∈ lw_tbl := lw_at lw_m4 30 rfl
theorem q903 : (Jvm.Cond.instanceMethod ({ cls := "HalfFair$Parser", name := "part", desc := "()LHalfFair$Condition;" } : Jvm.MethodName)) ∈ lw_all := lw_g (lw_at lw_m4 31 rfl) rfl
theorem q904 : (Jvm.Cond.code ({ cls := "HalfFair$Parser", name := "part", desc := "()LHalfFair$Condition;" } : Jvm.MethodName) prog_12_method_14_code (2 : Nat) (Option.some (Jvm.ClassFile.FieldType.object "HalfFair$Condition"))) ∈ lw_all := lw_g (lw_at lw_m4 32 rfl) rfl
theorem q905 : (Jvm.Cond.methodLink "HalfFair$Parser" (114 : Nat) ({ cls := "HalfFair$Parser", name := "fact", desc := "()LHalfFair$Condition;" } : Jvm.MethodName)) ∈ lw_all := lw_g (lw_at lw_m4 33 rfl) rfl
theorem q906 : (Jvm.Cond.privateMethod ({ cls := "HalfFair$Parser", name := "fact", desc := "()LHalfFair$Condition;" } : Jvm.MethodName)) ∈ lw_tbl := lw_at lw_m4 34 rfl
theorem q907 : (Jvm.Cond.instanceMethod ({ cls := "HalfFair$Parser", name := "fact", desc := "()LHalfFair$Condition;" } : Jvm.MethodName)) ∈ lw_all := lw_g (lw_at lw_m4 35 rfl) rfl
theorem q908 : (Jvm.Cond.code ({ cls := "HalfFair$Parser", name := "fact", desc := "()LHalfFair$Condition;" } : Jvm.MethodName) prog_12_method_13_code (5 : Nat) (Option.some (Jvm.ClassFile.FieldType.object "HalfFair$Condition"))) ∈ lw_all := lw_g (lw_at lw_m4 36 rfl) rfl
theorem q909 : (Jvm.Cond.stringRef "HalfFair$Parser" (107 : Nat) "not") ∈ lw_tbl := lw_at lw_m4 37 rfl
theorem q910 : (Jvm.Cond.methodLink "HalfFair$Parser" (109 : Nat) ({ cls := "HalfFair$Parser", name := "goesDeeper", desc := "(I)V" } : Jvm.MethodName)) ∈ lw_all := lw_g (lw_at lw_m4 38 rfl) rfl
theorem q911 : (Jvm.Cond.privateMethod ({ cls := "HalfFair$Parser", name := "goesDeeper", desc := "(I)V" } : Jvm.MethodName)) ∈ lw_tbl := lw_at lw_m4 39 rfl
theorem q912 : (Jvm.Cond.instanceMethod ({ cls := "HalfFair$Parser", name := "goesDeeper", desc := "(I)V" } : Jvm.MethodName)) ∈ lw_all := lw_g (lw_at lw_m4 40 rfl) rfl
theorem q913 : (Jvm.Cond.code ({ cls := "HalfFair$Parser", name := "goesDeeper", desc := "(I)V" } : Jvm.MethodName) prog_12_method_9_code (2 : Nat) (Option.none : Option Jvm.ClassFile.FieldType)) ∈ lw_all := lw_g (lw_at lw_m4 41 rfl) rfl
theorem q914 : (Jvm.Cond.classLink "HalfFair$Parser" (112 : Nat) "HalfFair$Not") ∈ lw_all := lw_g (lw_at lw_m4 42 rfl) rfl
theorem q916 : (Jvm.Cond.methodLink "HalfFair$Parser" (118 : Nat) ({ cls := "HalfFair$Not", name := "<init>", desc := "(LHalfFair$Condition;)V" } : Jvm.MethodName)) ∈ lw_all := lw_g (lw_at lw_m4 44 rfl) rfl
theorem q927 : (Jvm.Cond.classLink "HalfFair$Parser" (127 : Nat) "HalfFair$Compared") ∈ lw_all := lw_g (lw_at lw_m4 55 rfl) rfl
theorem q929 : (Jvm.Cond.methodLink "HalfFair$Parser" (129 : Nat) ({ cls := "HalfFair$Compared", name := "<init>", desc := "(LHalfFair$Value;LHalfFair$Value;IZ)V" } : Jvm.MethodName)) ∈ lw_all := lw_g (lw_at lw_m4 57 rfl) rfl
theorem q946 : (Jvm.Cond.stringRef "HalfFair$Parser" (132 : Nat) "and") ∈ lw_tbl := lw_at lw_m4 74 rfl
theorem q947 : (Jvm.Cond.classLink "HalfFair$Parser" (137 : Nat) "HalfFair$Both") ∈ lw_all := lw_g (lw_at lw_m4 75 rfl) rfl
theorem q949 : (Jvm.Cond.methodLink "HalfFair$Parser" (139 : Nat) ({ cls := "HalfFair$Both", name := "<init>", desc := "(LHalfFair$Condition;LHalfFair$Condition;Z)V" } : Jvm.MethodName)) ∈ lw_all := lw_g (lw_at lw_m4 77 rfl) rfl
theorem q963 : (Jvm.Cond.stringRef "HalfFair$Parser" (145 : Nat) "or") ∈ lw_tbl := lw_at lw_m4 91 rfl
theorem q964 : (Jvm.Cond.methodLinkNest "HalfFair$Parser" (253 : Nat) ({ cls := "HalfFair$Told", name := "<init>", desc := "(ZLHalfFair$Value;LHalfFair$Condition;)V" } : Jvm.MethodName) "HalfFair") ∈ lw_tbl := lw_at lw_m4 92 rfl
theorem q2049 : (Jvm.Cond.castable "HalfFair$Parser" "java/lang/Object") ∈ lw_tbl := lw_at lw_m8 217 rfl
theorem in_X5 : ∀ w ∈ wsX50, w ∈ lw_all := lw_in wsX50 [499, 501, 503, 505, 507, 509, 511] (by decide +kernel) (by decide +kernel)

/-! HalfFair$Half -/
set_option maxRecDepth 100000
def RX6 : String := "HalfFair$Half"
def TX6 : u_T := fun k => match k with
  | 0 => ("HalfFair$Half", "stall", "I", true)
  | 1 => ("HalfFair$Half", "shape", "I", true)
  | 2 => ("HalfFair$Half", "side", "I", true)
  | _ => ("HalfFair$Half", "price", "I", true)
def tyX6 : Nat → FieldType := fun k => match k with
  | 0 => .int
  | 1 => .int
  | 2 => .int
  | _ => .int
abbrev wsX60 : List Cond := u_ws RX6 TX6 4
theorem nmX6 : ∀ a, a < 4 → ∀ b, b < 4 → a ≠ b → (TX6 a).2.1 ≠ (TX6 b).2.1 := by decide +kernel
theorem tyX6_ok : ∀ k, k < 4 → parseFieldDescriptor (TX6 k).2.2.1 = some (tyX6 k) := by decide +kernel
abbrev cX6_init : ByteArray := prog_8_method_1_code
def yX6_init : MethodName := ⟨RX6, "<init>", "(IIII)V"⟩
def dkwX6_init_1 : List UInt8 := [181, 0, 19, 177]
abbrev dktX6_init_1 : List UInt8 := dkwX6_init_1 ++ []
def dkwX6_init_0 : List UInt8 := [42, 183, 0, 1, 42, 27, 181, 0, 7, 42, 28, 181, 0, 13, 42, 29, 181, 0, 16, 42, 21, 4]
abbrev dktX6_init_0 : List UInt8 := dkwX6_init_0 ++ dktX6_init_1
theorem dksX6_init_0 : cX6_init.data.toList.drop 0 = dktX6_init_0 := by decide +kernel
theorem dksX6_init_1 : cX6_init.data.toList.drop 22 = dktX6_init_1 := dk_seg dksX6_init_0 22 rfl rfl
theorem dX6_init_0 : decode cX6_init 0 = .ok (.aload_n 0, 1) := dk_42 (dk_at dksX6_init_0 0 rfl rfl)
theorem dX6_init_1 : decode cX6_init 1 = .ok (.invokespecial 1, 3) := dk_183 0 1 (dk_at dksX6_init_0 1 rfl rfl)
theorem dX6_init_4 : decode cX6_init 4 = .ok (.aload_n 0, 1) := dk_42 (dk_at dksX6_init_0 4 rfl rfl)
theorem dX6_init_5 : decode cX6_init 5 = .ok (.iload_n 1, 1) := dk_27 (dk_at dksX6_init_0 5 rfl rfl)
theorem dX6_init_6 : decode cX6_init 6 = .ok (.putfield 7, 3) := dk_181 0 7 (dk_at dksX6_init_0 6 rfl rfl)
theorem dX6_init_9 : decode cX6_init 9 = .ok (.aload_n 0, 1) := dk_42 (dk_at dksX6_init_0 9 rfl rfl)
theorem dX6_init_10 : decode cX6_init 10 = .ok (.iload_n 2, 1) := dk_28 (dk_at dksX6_init_0 10 rfl rfl)
theorem dX6_init_11 : decode cX6_init 11 = .ok (.putfield 13, 3) := dk_181 0 13 (dk_at dksX6_init_0 11 rfl rfl)
theorem dX6_init_14 : decode cX6_init 14 = .ok (.aload_n 0, 1) := dk_42 (dk_at dksX6_init_0 14 rfl rfl)
theorem dX6_init_15 : decode cX6_init 15 = .ok (.iload_n 3, 1) := dk_29 (dk_at dksX6_init_0 15 rfl rfl)
theorem dX6_init_16 : decode cX6_init 16 = .ok (.putfield 16, 3) := dk_181 0 16 (dk_at dksX6_init_0 16 rfl rfl)
theorem dX6_init_19 : decode cX6_init 19 = .ok (.aload_n 0, 1) := dk_42 (dk_at dksX6_init_0 19 rfl rfl)
theorem dX6_init_20 : decode cX6_init 20 = .ok (.iload 4, 2) := dk_21 4 (dk_at dksX6_init_0 20 rfl rfl)
theorem dX6_init_22 : decode cX6_init 22 = .ok (.putfield 19, 3) := dk_181 0 19 (dk_at dksX6_init_1 0 rfl rfl)
theorem dX6_init_25 : decode cX6_init 25 = .ok (.return_, 1) := dk_177 (dk_at dksX6_init_1 3 rfl rfl)
theorem q169 : (Jvm.Cond.initialized "HalfFair$Half") ∈ lw_all := lw_g (lw_at lw_m1 17 rfl) rfl
theorem q622 : (Jvm.Cond.instantiable "HalfFair$Half" (4 : Nat)) ∈ lw_all := lw_g (lw_at lw_m2 230 rfl) rfl
theorem q624 : (Jvm.Cond.instanceMethod ({ cls := "HalfFair$Half", name := "<init>", desc := "(IIII)V" } : Jvm.MethodName)) ∈ lw_all := lw_g (lw_at lw_m2 232 rfl) rfl
theorem q625 : (Jvm.Cond.code ({ cls := "HalfFair$Half", name := "<init>", desc := "(IIII)V" } : Jvm.MethodName) prog_8_method_1_code (5 : Nat) (Option.none : Option Jvm.ClassFile.FieldType)) ∈ lw_all := lw_g (lw_at lw_m2 233 rfl) rfl
theorem q626 : (Jvm.Cond.methodLink "HalfFair$Half" (1 : Nat) ({ cls := "java/lang/Record", name := "<init>", desc := "()V" } : Jvm.MethodName)) ∈ lw_all := lw_g (lw_at lw_m2 234 rfl) rfl
theorem q630 : (Jvm.Cond.fieldLink "HalfFair$Half" (7 : Nat) "HalfFair$Half" "stall" "I") ∈ lw_all := lw_g (lw_at lw_m2 238 rfl) rfl
theorem q632 : (Jvm.Cond.fieldLink "HalfFair$Half" (13 : Nat) "HalfFair$Half" "shape" "I") ∈ lw_all := lw_g (lw_at lw_m3 0 rfl) rfl
theorem q635 : (Jvm.Cond.fieldLink "HalfFair$Half" (16 : Nat) "HalfFair$Half" "side" "I") ∈ lw_all := lw_g (lw_at lw_m3 3 rfl) rfl
theorem q638 : (Jvm.Cond.fieldLink "HalfFair$Half" (19 : Nat) "HalfFair$Half" "price" "I") ∈ lw_all := lw_g (lw_at lw_m3 6 rfl) rfl
theorem q641 : (Jvm.Cond.laysFinal "HalfFair$Half" "HalfFair$Half" "stall" "I") ∈ lw_all := lw_g (lw_at lw_m3 9 rfl) rfl
theorem q642 : (Jvm.Cond.soleField "HalfFair$Half" "stall") ∈ lw_all := lw_g (lw_at lw_m3 10 rfl) rfl
theorem q643 : (Jvm.Cond.laysFinal "HalfFair$Half" "HalfFair$Half" "shape" "I") ∈ lw_all := lw_g (lw_at lw_m3 11 rfl) rfl
theorem q644 : (Jvm.Cond.soleField "HalfFair$Half" "shape") ∈ lw_all := lw_g (lw_at lw_m3 12 rfl) rfl
theorem q645 : (Jvm.Cond.laysFinal "HalfFair$Half" "HalfFair$Half" "side" "I") ∈ lw_all := lw_g (lw_at lw_m3 13 rfl) rfl
theorem q646 : (Jvm.Cond.soleField "HalfFair$Half" "side") ∈ lw_all := lw_g (lw_at lw_m3 14 rfl) rfl
theorem q647 : (Jvm.Cond.laysFinal "HalfFair$Half" "HalfFair$Half" "price" "I") ∈ lw_all := lw_g (lw_at lw_m3 15 rfl) rfl
theorem q648 : (Jvm.Cond.soleField "HalfFair$Half" "price") ∈ lw_all := lw_g (lw_at lw_m3 16 rfl) rfl
theorem q649 : (Jvm.Cond.superclass "HalfFair$Half" "java/lang/Record") ∈ lw_all := lw_g (lw_at lw_m3 17 rfl) rfl
theorem q690 : (Jvm.Cond.selects "HalfFair$Half" ({ cls := "java/lang/Object", name := "getClass", desc := "()Ljava/lang/Class;" } : Jvm.MethodName) ({ cls := "java/lang/Object", name := "getClass", desc := "()Ljava/lang/Class;" } : Jvm.MethodName)) ∈ lw_all := lw_g (lw_at lw_m3 58 rfl) rfl
theorem q2050 : (Jvm.Cond.castable "HalfFair$Half" "java/lang/Object") ∈ lw_tbl := lw_at lw_m8 218 rfl
theorem in_X6 : ∀ w ∈ wsX60, w ∈ lw_all := lw_in wsX60 [641, 643, 645, 647] (by decide +kernel) (by decide +kernel)

/-! HalfFair$Buyer -/
set_option maxRecDepth 100000
def RX7 : String := "HalfFair$Buyer"
def TX7 : u_T := fun k => match k with
  | 0 => ("HalfFair$Buyer", "purse", "I", true)
  | _ => ("HalfFair$Buyer", "spot", "I", true)
def tyX7 : Nat → FieldType := fun k => match k with
  | 0 => .int
  | _ => .int
abbrev wsX70 : List Cond := u_ws RX7 TX7 2
theorem nmX7 : ∀ a, a < 2 → ∀ b, b < 2 → a ≠ b → (TX7 a).2.1 ≠ (TX7 b).2.1 := by decide +kernel
theorem tyX7_ok : ∀ k, k < 2 → parseFieldDescriptor (TX7 k).2.2.1 = some (tyX7 k) := by decide +kernel
abbrev cX7_init : ByteArray := prog_4_method_1_code
def yX7_init : MethodName := ⟨RX7, "<init>", "(II)V"⟩
def dkwX7_init_0 : List UInt8 := [42, 183, 0, 1, 42, 27, 181, 0, 7, 42, 28, 181, 0, 13, 177]
abbrev dktX7_init_0 : List UInt8 := dkwX7_init_0 ++ []
theorem dksX7_init_0 : cX7_init.data.toList.drop 0 = dktX7_init_0 := by decide +kernel
theorem dX7_init_0 : decode cX7_init 0 = .ok (.aload_n 0, 1) := dk_42 (dk_at dksX7_init_0 0 rfl rfl)
theorem dX7_init_1 : decode cX7_init 1 = .ok (.invokespecial 1, 3) := dk_183 0 1 (dk_at dksX7_init_0 1 rfl rfl)
theorem dX7_init_4 : decode cX7_init 4 = .ok (.aload_n 0, 1) := dk_42 (dk_at dksX7_init_0 4 rfl rfl)
theorem dX7_init_5 : decode cX7_init 5 = .ok (.iload_n 1, 1) := dk_27 (dk_at dksX7_init_0 5 rfl rfl)
theorem dX7_init_6 : decode cX7_init 6 = .ok (.putfield 7, 3) := dk_181 0 7 (dk_at dksX7_init_0 6 rfl rfl)
theorem dX7_init_9 : decode cX7_init 9 = .ok (.aload_n 0, 1) := dk_42 (dk_at dksX7_init_0 9 rfl rfl)
theorem dX7_init_10 : decode cX7_init 10 = .ok (.iload_n 2, 1) := dk_28 (dk_at dksX7_init_0 10 rfl rfl)
theorem dX7_init_11 : decode cX7_init 11 = .ok (.putfield 13, 3) := dk_181 0 13 (dk_at dksX7_init_0 11 rfl rfl)
theorem dX7_init_14 : decode cX7_init 14 = .ok (.return_, 1) := dk_177 (dk_at dksX7_init_0 14 rfl rfl)
theorem q174 : (Jvm.Cond.initialized "HalfFair$Buyer") ∈ lw_all := lw_g (lw_at lw_m1 22 rfl) rfl
theorem q687 : (Jvm.Cond.selects "HalfFair$Buyer" ({ cls := "java/lang/Object", name := "getClass", desc := "()Ljava/lang/Class;" } : Jvm.MethodName) ({ cls := "java/lang/Object", name := "getClass", desc := "()Ljava/lang/Class;" } : Jvm.MethodName)) ∈ lw_all := lw_g (lw_at lw_m3 55 rfl) rfl
theorem q718 : (Jvm.Cond.instantiable "HalfFair$Buyer" (2 : Nat)) ∈ lw_all := lw_g (lw_at lw_m3 86 rfl) rfl
theorem q720 : (Jvm.Cond.instanceMethod ({ cls := "HalfFair$Buyer", name := "<init>", desc := "(II)V" } : Jvm.MethodName)) ∈ lw_all := lw_g (lw_at lw_m3 88 rfl) rfl
theorem q721 : (Jvm.Cond.code ({ cls := "HalfFair$Buyer", name := "<init>", desc := "(II)V" } : Jvm.MethodName) prog_4_method_1_code (3 : Nat) (Option.none : Option Jvm.ClassFile.FieldType)) ∈ lw_all := lw_g (lw_at lw_m3 89 rfl) rfl
theorem q722 : (Jvm.Cond.methodLink "HalfFair$Buyer" (1 : Nat) ({ cls := "java/lang/Record", name := "<init>", desc := "()V" } : Jvm.MethodName)) ∈ lw_all := lw_g (lw_at lw_m3 90 rfl) rfl
theorem q723 : (Jvm.Cond.fieldLink "HalfFair$Buyer" (7 : Nat) "HalfFair$Buyer" "purse" "I") ∈ lw_all := lw_g (lw_at lw_m3 91 rfl) rfl
theorem q725 : (Jvm.Cond.fieldLink "HalfFair$Buyer" (13 : Nat) "HalfFair$Buyer" "spot" "I") ∈ lw_all := lw_g (lw_at lw_m3 93 rfl) rfl
theorem q727 : (Jvm.Cond.laysFinal "HalfFair$Buyer" "HalfFair$Buyer" "purse" "I") ∈ lw_all := lw_g (lw_at lw_m3 95 rfl) rfl
theorem q728 : (Jvm.Cond.soleField "HalfFair$Buyer" "purse") ∈ lw_all := lw_g (lw_at lw_m3 96 rfl) rfl
theorem q729 : (Jvm.Cond.laysFinal "HalfFair$Buyer" "HalfFair$Buyer" "spot" "I") ∈ lw_all := lw_g (lw_at lw_m3 97 rfl) rfl
theorem q730 : (Jvm.Cond.soleField "HalfFair$Buyer" "spot") ∈ lw_all := lw_g (lw_at lw_m3 98 rfl) rfl
theorem q731 : (Jvm.Cond.superclass "HalfFair$Buyer" "java/lang/Record") ∈ lw_all := lw_g (lw_at lw_m3 99 rfl) rfl
theorem q2051 : (Jvm.Cond.castable "HalfFair$Buyer" "java/lang/Object") ∈ lw_tbl := lw_at lw_m8 219 rfl
theorem in_X7 : ∀ w ∈ wsX70, w ∈ lw_all := lw_in wsX70 [727, 729] (by decide +kernel) (by decide +kernel)

/-! HalfFair$Rule -/
set_option maxRecDepth 100000
def RX8 : String := "HalfFair$Rule"
def TX8 : u_T := fun k => match k with
  | _ => ("HalfFair$Rule", "all", "Ljava/util/ArrayList;", true)
def tyX8 : Nat → FieldType := fun k => match k with
  | _ => .object "java/util/ArrayList"
abbrev wsX80 : List Cond := u_ws RX8 TX8 1
theorem nmX8 : ∀ a, a < 1 → ∀ b, b < 1 → a ≠ b → (TX8 a).2.1 ≠ (TX8 b).2.1 := by decide +kernel
theorem tyX8_ok : ∀ k, k < 1 → parseFieldDescriptor (TX8 k).2.2.1 = some (tyX8 k) := by decide +kernel
abbrev cX8_init : ByteArray := prog_14_method_1_code
def yX8_init : MethodName := ⟨RX8, "<init>", "()V"⟩
def dkwX8_init_0 : List UInt8 := [42, 183, 0, 1, 42, 187, 0, 7, 89, 5, 183, 0, 9, 181, 0, 12, 177]
abbrev dktX8_init_0 : List UInt8 := dkwX8_init_0 ++ []
theorem dksX8_init_0 : cX8_init.data.toList.drop 0 = dktX8_init_0 := by decide +kernel
theorem dX8_init_0 : decode cX8_init 0 = .ok (.aload_n 0, 1) := dk_42 (dk_at dksX8_init_0 0 rfl rfl)
theorem dX8_init_1 : decode cX8_init 1 = .ok (.invokespecial 1, 3) := dk_183 0 1 (dk_at dksX8_init_0 1 rfl rfl)
theorem dX8_init_4 : decode cX8_init 4 = .ok (.aload_n 0, 1) := dk_42 (dk_at dksX8_init_0 4 rfl rfl)
theorem dX8_init_5 : decode cX8_init 5 = .ok (.new 7, 3) := dk_187 0 7 (dk_at dksX8_init_0 5 rfl rfl)
theorem dX8_init_8 : decode cX8_init 8 = .ok (.dup, 1) := dk_89 (dk_at dksX8_init_0 8 rfl rfl)
theorem dX8_init_9 : decode cX8_init 9 = .ok (.iconst 2, 1) := dk_5 (dk_at dksX8_init_0 9 rfl rfl)
theorem dX8_init_10 : decode cX8_init 10 = .ok (.invokespecial 9, 3) := dk_183 0 9 (dk_at dksX8_init_0 10 rfl rfl)
theorem dX8_init_13 : decode cX8_init 13 = .ok (.putfield 12, 3) := dk_181 0 12 (dk_at dksX8_init_0 13 rfl rfl)
theorem dX8_init_16 : decode cX8_init 16 = .ok (.return_, 1) := dk_177 (dk_at dksX8_init_0 16 rfl rfl)
abbrev cX8_sum : ByteArray := prog_14_method_2_code
def yX8_sum : MethodName := ⟨RX8, "sum", "(Z[J)J"⟩
def dkwX8_sum_3 : List UInt8 := [132, 3, 1, 167, 255, 187, 9, 173]
abbrev dktX8_sum_3 : List UInt8 := dkwX8_sum_3 ++ []
def dkwX8_sum_2 : List UInt8 := [153, 0, 22, 42, 180, 0, 12, 29, 182, 0, 22, 192, 0, 26, 180, 0, 36, 44, 182, 0, 40, 173]
abbrev dktX8_sum_2 : List UInt8 := dkwX8_sum_2 ++ dktX8_sum_3
def dkwX8_sum_1 : List UInt8 := [180, 0, 28, 27, 160, 0, 40, 42, 180, 0, 12, 29, 182, 0, 22, 192, 0, 26, 44, 182, 0, 32]
abbrev dktX8_sum_1 : List UInt8 := dkwX8_sum_1 ++ dktX8_sum_2
def dkwX8_sum_0 : List UInt8 := [3, 62, 29, 42, 180, 0, 12, 182, 0, 18, 162, 0, 64, 42, 180, 0, 12, 29, 182, 0, 22, 192, 0, 26]
abbrev dktX8_sum_0 : List UInt8 := dkwX8_sum_0 ++ dktX8_sum_1
theorem dksX8_sum_0 : cX8_sum.data.toList.drop 0 = dktX8_sum_0 := by decide +kernel
theorem dksX8_sum_1 : cX8_sum.data.toList.drop 24 = dktX8_sum_1 := dk_seg dksX8_sum_0 24 rfl rfl
theorem dksX8_sum_2 : cX8_sum.data.toList.drop 46 = dktX8_sum_2 := dk_seg dksX8_sum_1 22 rfl rfl
theorem dksX8_sum_3 : cX8_sum.data.toList.drop 68 = dktX8_sum_3 := dk_seg dksX8_sum_2 22 rfl rfl
theorem dX8_sum_0 : decode cX8_sum 0 = .ok (.iconst 0, 1) := dk_3 (dk_at dksX8_sum_0 0 rfl rfl)
theorem dX8_sum_1 : decode cX8_sum 1 = .ok (.istore_n 3, 1) := dk_62 (dk_at dksX8_sum_0 1 rfl rfl)
theorem dX8_sum_2 : decode cX8_sum 2 = .ok (.iload_n 3, 1) := dk_29 (dk_at dksX8_sum_0 2 rfl rfl)
theorem dX8_sum_3 : decode cX8_sum 3 = .ok (.aload_n 0, 1) := dk_42 (dk_at dksX8_sum_0 3 rfl rfl)
theorem dX8_sum_4 : decode cX8_sum 4 = .ok (.getfield 12, 3) := dk_180 0 12 (dk_at dksX8_sum_0 4 rfl rfl)
theorem dX8_sum_7 : decode cX8_sum 7 = .ok (.invokevirtual 18, 3) := dk_182 0 18 (dk_at dksX8_sum_0 7 rfl rfl)
theorem dX8_sum_10 : decode cX8_sum 10 = .ok (.if_icmp .ge 64, 3) := dk_162 0 64 (dk_at dksX8_sum_0 10 rfl rfl)
theorem dX8_sum_13 : decode cX8_sum 13 = .ok (.aload_n 0, 1) := dk_42 (dk_at dksX8_sum_0 13 rfl rfl)
theorem dX8_sum_14 : decode cX8_sum 14 = .ok (.getfield 12, 3) := dk_180 0 12 (dk_at dksX8_sum_0 14 rfl rfl)
theorem dX8_sum_17 : decode cX8_sum 17 = .ok (.iload_n 3, 1) := dk_29 (dk_at dksX8_sum_0 17 rfl rfl)
theorem dX8_sum_18 : decode cX8_sum 18 = .ok (.invokevirtual 22, 3) := dk_182 0 22 (dk_at dksX8_sum_0 18 rfl rfl)
theorem dX8_sum_21 : decode cX8_sum 21 = .ok (.checkcast 26, 3) := dk_192 0 26 (dk_at dksX8_sum_0 21 rfl rfl)
theorem dX8_sum_24 : decode cX8_sum 24 = .ok (.getfield 28, 3) := dk_180 0 28 (dk_at dksX8_sum_1 0 rfl rfl)
theorem dX8_sum_27 : decode cX8_sum 27 = .ok (.iload_n 1, 1) := dk_27 (dk_at dksX8_sum_1 3 rfl rfl)
theorem dX8_sum_28 : decode cX8_sum 28 = .ok (.if_icmp .ne 40, 3) := dk_160 0 40 (dk_at dksX8_sum_1 4 rfl rfl)
theorem dX8_sum_31 : decode cX8_sum 31 = .ok (.aload_n 0, 1) := dk_42 (dk_at dksX8_sum_1 7 rfl rfl)
theorem dX8_sum_32 : decode cX8_sum 32 = .ok (.getfield 12, 3) := dk_180 0 12 (dk_at dksX8_sum_1 8 rfl rfl)
theorem dX8_sum_35 : decode cX8_sum 35 = .ok (.iload_n 3, 1) := dk_29 (dk_at dksX8_sum_1 11 rfl rfl)
theorem dX8_sum_36 : decode cX8_sum 36 = .ok (.invokevirtual 22, 3) := dk_182 0 22 (dk_at dksX8_sum_1 12 rfl rfl)
theorem dX8_sum_39 : decode cX8_sum 39 = .ok (.checkcast 26, 3) := dk_192 0 26 (dk_at dksX8_sum_1 15 rfl rfl)
theorem dX8_sum_42 : decode cX8_sum 42 = .ok (.aload_n 2, 1) := dk_44 (dk_at dksX8_sum_1 18 rfl rfl)
theorem dX8_sum_43 : decode cX8_sum 43 = .ok (.invokevirtual 32, 3) := dk_182 0 32 (dk_at dksX8_sum_1 19 rfl rfl)
theorem dX8_sum_46 : decode cX8_sum 46 = .ok (.ifCond .eq 22, 3) := dk_153 0 22 (dk_at dksX8_sum_2 0 rfl rfl)
theorem dX8_sum_49 : decode cX8_sum 49 = .ok (.aload_n 0, 1) := dk_42 (dk_at dksX8_sum_2 3 rfl rfl)
theorem dX8_sum_50 : decode cX8_sum 50 = .ok (.getfield 12, 3) := dk_180 0 12 (dk_at dksX8_sum_2 4 rfl rfl)
theorem dX8_sum_53 : decode cX8_sum 53 = .ok (.iload_n 3, 1) := dk_29 (dk_at dksX8_sum_2 7 rfl rfl)
theorem dX8_sum_54 : decode cX8_sum 54 = .ok (.invokevirtual 22, 3) := dk_182 0 22 (dk_at dksX8_sum_2 8 rfl rfl)
theorem dX8_sum_57 : decode cX8_sum 57 = .ok (.checkcast 26, 3) := dk_192 0 26 (dk_at dksX8_sum_2 11 rfl rfl)
theorem dX8_sum_60 : decode cX8_sum 60 = .ok (.getfield 36, 3) := dk_180 0 36 (dk_at dksX8_sum_2 14 rfl rfl)
theorem dX8_sum_63 : decode cX8_sum 63 = .ok (.aload_n 2, 1) := dk_44 (dk_at dksX8_sum_2 17 rfl rfl)
theorem dX8_sum_64 : decode cX8_sum 64 = .ok (.invokevirtual 40, 3) := dk_182 0 40 (dk_at dksX8_sum_2 18 rfl rfl)
theorem dX8_sum_67 : decode cX8_sum 67 = .ok (.lreturn, 1) := dk_173 (dk_at dksX8_sum_2 21 rfl rfl)
theorem dX8_sum_68 : decode cX8_sum 68 = .ok (.iinc 3 1, 3) := dk_132 3 1 (dk_at dksX8_sum_3 0 rfl rfl)
theorem dX8_sum_71 : decode cX8_sum 71 = .ok (.goto (-69), 3) := dk_167 255 187 (dk_at dksX8_sum_3 3 rfl rfl)
theorem dX8_sum_74 : decode cX8_sum 74 = .ok (.lconst 0, 1) := dk_9 (dk_at dksX8_sum_3 6 rfl rfl)
theorem dX8_sum_75 : decode cX8_sum 75 = .ok (.lreturn, 1) := dk_173 (dk_at dksX8_sum_3 7 rfl rfl)
theorem q176 : (Jvm.Cond.initialized "HalfFair$Rule") ∈ lw_all := lw_g (lw_at lw_m1 24 rfl) rfl
theorem q696 : (Jvm.Cond.selects "HalfFair$Rule" ({ cls := "java/lang/Object", name := "getClass", desc := "()Ljava/lang/Class;" } : Jvm.MethodName) ({ cls := "java/lang/Object", name := "getClass", desc := "()Ljava/lang/Class;" } : Jvm.MethodName)) ∈ lw_all := lw_g (lw_at lw_m3 64 rfl) rfl
theorem q816 : (Jvm.Cond.instantiable "HalfFair$Rule" (1 : Nat)) ∈ lw_all := lw_g (lw_at lw_m3 184 rfl) rfl
theorem q818 : (Jvm.Cond.instanceMethod ({ cls := "HalfFair$Rule", name := "<init>", desc := "()V" } : Jvm.MethodName)) ∈ lw_all := lw_g (lw_at lw_m3 186 rfl) rfl
theorem q819 : (Jvm.Cond.code ({ cls := "HalfFair$Rule", name := "<init>", desc := "()V" } : Jvm.MethodName) prog_14_method_1_code (1 : Nat) (Option.none : Option Jvm.ClassFile.FieldType)) ∈ lw_all := lw_g (lw_at lw_m3 187 rfl) rfl
theorem q820 : (Jvm.Cond.methodLink "HalfFair$Rule" (1 : Nat) ({ cls := "java/lang/Object", name := "<init>", desc := "()V" } : Jvm.MethodName)) ∈ lw_all := lw_g (lw_at lw_m3 188 rfl) rfl
theorem q821 : (Jvm.Cond.classLink "HalfFair$Rule" (7 : Nat) "java/util/ArrayList") ∈ lw_all := lw_g (lw_at lw_m3 189 rfl) rfl
theorem q822 : (Jvm.Cond.methodLink "HalfFair$Rule" (9 : Nat) ({ cls := "java/util/ArrayList", name := "<init>", desc := "(I)V" } : Jvm.MethodName)) ∈ lw_all := lw_g (lw_at lw_m3 190 rfl) rfl
theorem q823 : (Jvm.Cond.fieldLink "HalfFair$Rule" (12 : Nat) "HalfFair$Rule" "all" "Ljava/util/ArrayList;") ∈ lw_all := lw_g (lw_at lw_m3 191 rfl) rfl
theorem q825 : (Jvm.Cond.laysFinal "HalfFair$Rule" "HalfFair$Rule" "all" "Ljava/util/ArrayList;") ∈ lw_all := lw_g (lw_at lw_m3 193 rfl) rfl
theorem q826 : (Jvm.Cond.soleField "HalfFair$Rule" "all") ∈ lw_all := lw_g (lw_at lw_m3 194 rfl) rfl
theorem q827 : (Jvm.Cond.superclass "HalfFair$Rule" "java/lang/Object") ∈ lw_all := lw_g (lw_at lw_m3 195 rfl) rfl
theorem q969 : (Jvm.Cond.fieldLinkNest "HalfFair$Rule" (28 : Nat) "HalfFair$Told" "isBuy" "Z" "HalfFair") ∈ lw_tbl := lw_at lw_m4 97 rfl
theorem q971 : (Jvm.Cond.fieldLinkNest "HalfFair$Rule" (36 : Nat) "HalfFair$Told" "sum" "LHalfFair$Value;" "HalfFair") ∈ lw_tbl := lw_at lw_m4 99 rfl
theorem q1199 : (Jvm.Cond.instanceMethod ({ cls := "HalfFair$Rule", name := "sum", desc := "(Z[J)J" } : Jvm.MethodName)) ∈ lw_all := lw_g (lw_at lw_m5 87 rfl) rfl
theorem q1200 : (Jvm.Cond.selects "HalfFair$Rule" ({ cls := "HalfFair$Rule", name := "sum", desc := "(Z[J)J" } : Jvm.MethodName) ({ cls := "HalfFair$Rule", name := "sum", desc := "(Z[J)J" } : Jvm.MethodName)) ∈ lw_all := lw_g (lw_at lw_m5 88 rfl) rfl
theorem q1201 : (Jvm.Cond.code ({ cls := "HalfFair$Rule", name := "sum", desc := "(Z[J)J" } : Jvm.MethodName) prog_14_method_2_code (4 : Nat) (Option.some Jvm.ClassFile.FieldType.long)) ∈ lw_all := lw_g (lw_at lw_m5 89 rfl) rfl
theorem q1202 : (Jvm.Cond.methodLink "HalfFair$Rule" (18 : Nat) ({ cls := "java/util/ArrayList", name := "size", desc := "()I" } : Jvm.MethodName)) ∈ lw_all := lw_g (lw_at lw_m5 90 rfl) rfl
theorem q1203 : (Jvm.Cond.methodLink "HalfFair$Rule" (22 : Nat) ({ cls := "java/util/ArrayList", name := "get", desc := "(I)Ljava/lang/Object;" } : Jvm.MethodName)) ∈ lw_all := lw_g (lw_at lw_m5 91 rfl) rfl
theorem q1204 : (Jvm.Cond.classLink "HalfFair$Rule" (26 : Nat) "HalfFair$Told") ∈ lw_all := lw_g (lw_at lw_m5 92 rfl) rfl
theorem q1205 : (Jvm.Cond.methodLink "HalfFair$Rule" (32 : Nat) ({ cls := "HalfFair$Told", name := "holds", desc := "([J)Z" } : Jvm.MethodName)) ∈ lw_all := lw_g (lw_at lw_m5 93 rfl) rfl
theorem q1236 : (Jvm.Cond.methodLink "HalfFair$Rule" (40 : Nat) ({ cls := "HalfFair$Value", name := "of", desc := "([J)J" } : Jvm.MethodName)) ∈ lw_all := lw_g (lw_at lw_m5 124 rfl) rfl
theorem q2052 : (Jvm.Cond.castable "HalfFair$Rule" "java/lang/Object") ∈ lw_tbl := lw_at lw_m8 220 rfl
theorem in_X8 : ∀ w ∈ wsX80, w ∈ lw_all := lw_in wsX80 [825] (by decide +kernel) (by decide +kernel)

/-! HalfFair$Value -/
set_option maxRecDepth 100000
def RX9 : String := "HalfFair$Value"
abbrev cX9_init : ByteArray := prog_17_method_1_code
def yX9_init : MethodName := ⟨RX9, "<init>", "()V"⟩
theorem dX9_init_0 : decode cX9_init 0 = .ok (.aload_n 0, 1) := by decide +kernel
theorem dX9_init_1 : decode cX9_init 1 = .ok (.invokespecial 1, 3) := by decide +kernel
theorem dX9_init_4 : decode cX9_init 4 = .ok (.return_, 1) := by decide +kernel
theorem q177 : (Jvm.Cond.initialized "HalfFair$Value") ∈ lw_all := lw_g (lw_at lw_m1 25 rfl) rfl
theorem q853 : (Jvm.Cond.instanceMethod ({ cls := "HalfFair$Value", name := "<init>", desc := "()V" } : Jvm.MethodName)) ∈ lw_all := lw_g (lw_at lw_m3 221 rfl) rfl
theorem q854 : (Jvm.Cond.code ({ cls := "HalfFair$Value", name := "<init>", desc := "()V" } : Jvm.MethodName) prog_17_method_1_code (1 : Nat) (Option.none : Option Jvm.ClassFile.FieldType)) ∈ lw_all := lw_g (lw_at lw_m3 222 rfl) rfl
theorem q855 : (Jvm.Cond.methodLink "HalfFair$Value" (1 : Nat) ({ cls := "java/lang/Object", name := "<init>", desc := "()V" } : Jvm.MethodName)) ∈ lw_all := lw_g (lw_at lw_m3 223 rfl) rfl
theorem q1219 : (Jvm.Cond.declares ({ cls := "HalfFair$Value", name := "of", desc := "([J)J" } : Jvm.MethodName)) ∈ lw_tbl := lw_at lw_m5 107 rfl
theorem q1220 : (Jvm.Cond.sameMethod "HalfFair$Value" "HalfFair$Value" "of" "([J)J") ∈ lw_all := lw_g (lw_at lw_m5 108 rfl) rfl

/-! HalfFair$Plain -/
set_option maxRecDepth 100000
def RX10 : String := "HalfFair$Plain"
def TX10 : u_T := fun k => match k with
  | _ => ("HalfFair$Plain", "number", "I", true)
def tyX10 : Nat → FieldType := fun k => match k with
  | _ => .int
abbrev wsX100 : List Cond := u_ws RX10 TX10 1
theorem nmX10 : ∀ a, a < 1 → ∀ b, b < 1 → a ≠ b → (TX10 a).2.1 ≠ (TX10 b).2.1 := by decide +kernel
theorem tyX10_ok : ∀ k, k < 1 → parseFieldDescriptor (TX10 k).2.2.1 = some (tyX10 k) := by decide +kernel
abbrev cX10_init : ByteArray := prog_13_method_1_code
def yX10_init : MethodName := ⟨RX10, "<init>", "(I)V"⟩
def dkwX10_init_0 : List UInt8 := [42, 183, 0, 1, 42, 27, 181, 0, 7, 177]
abbrev dktX10_init_0 : List UInt8 := dkwX10_init_0 ++ []
theorem dksX10_init_0 : cX10_init.data.toList.drop 0 = dktX10_init_0 := by decide +kernel
theorem dX10_init_0 : decode cX10_init 0 = .ok (.aload_n 0, 1) := dk_42 (dk_at dksX10_init_0 0 rfl rfl)
theorem dX10_init_1 : decode cX10_init 1 = .ok (.invokespecial 1, 3) := dk_183 0 1 (dk_at dksX10_init_0 1 rfl rfl)
theorem dX10_init_4 : decode cX10_init 4 = .ok (.aload_n 0, 1) := dk_42 (dk_at dksX10_init_0 4 rfl rfl)
theorem dX10_init_5 : decode cX10_init 5 = .ok (.iload_n 1, 1) := dk_27 (dk_at dksX10_init_0 5 rfl rfl)
theorem dX10_init_6 : decode cX10_init 6 = .ok (.putfield 7, 3) := dk_181 0 7 (dk_at dksX10_init_0 6 rfl rfl)
theorem dX10_init_9 : decode cX10_init 9 = .ok (.return_, 1) := dk_177 (dk_at dksX10_init_0 9 rfl rfl)
abbrev cX10_of : ByteArray := prog_13_method_2_code
def yX10_of : MethodName := ⟨RX10, "of", "([J)J"⟩
def dkwX10_of_0 : List UInt8 := [42, 180, 0, 7, 133, 173]
abbrev dktX10_of_0 : List UInt8 := dkwX10_of_0 ++ []
theorem dksX10_of_0 : cX10_of.data.toList.drop 0 = dktX10_of_0 := by decide +kernel
theorem dX10_of_0 : decode cX10_of 0 = .ok (.aload_n 0, 1) := dk_42 (dk_at dksX10_of_0 0 rfl rfl)
theorem dX10_of_1 : decode cX10_of 1 = .ok (.getfield 7, 3) := dk_180 0 7 (dk_at dksX10_of_0 1 rfl rfl)
theorem dX10_of_4 : decode cX10_of 4 = .ok (.i2l, 1) := dk_133 (dk_at dksX10_of_0 4 rfl rfl)
theorem dX10_of_5 : decode cX10_of 5 = .ok (.lreturn, 1) := dk_173 (dk_at dksX10_of_0 5 rfl rfl)
theorem q178 : (Jvm.Cond.initialized "HalfFair$Plain") ∈ lw_all := lw_g (lw_at lw_m1 26 rfl) rfl
theorem q695 : (Jvm.Cond.selects "HalfFair$Plain" ({ cls := "java/lang/Object", name := "getClass", desc := "()Ljava/lang/Class;" } : Jvm.MethodName) ({ cls := "java/lang/Object", name := "getClass", desc := "()Ljava/lang/Class;" } : Jvm.MethodName)) ∈ lw_all := lw_g (lw_at lw_m3 63 rfl) rfl
theorem q847 : (Jvm.Cond.instantiable "HalfFair$Plain" (1 : Nat)) ∈ lw_all := lw_g (lw_at lw_m3 215 rfl) rfl
theorem q850 : (Jvm.Cond.instanceMethod ({ cls := "HalfFair$Plain", name := "<init>", desc := "(I)V" } : Jvm.MethodName)) ∈ lw_all := lw_g (lw_at lw_m3 218 rfl) rfl
theorem q851 : (Jvm.Cond.code ({ cls := "HalfFair$Plain", name := "<init>", desc := "(I)V" } : Jvm.MethodName) prog_13_method_1_code (2 : Nat) (Option.none : Option Jvm.ClassFile.FieldType)) ∈ lw_all := lw_g (lw_at lw_m3 219 rfl) rfl
theorem q852 : (Jvm.Cond.methodLinkNest "HalfFair$Plain" (1 : Nat) ({ cls := "HalfFair$Value", name := "<init>", desc := "()V" } : Jvm.MethodName) "HalfFair") ∈ lw_tbl := lw_at lw_m3 220 rfl
theorem q856 : (Jvm.Cond.fieldLink "HalfFair$Plain" (7 : Nat) "HalfFair$Plain" "number" "I") ∈ lw_all := lw_g (lw_at lw_m3 224 rfl) rfl
theorem q857 : (Jvm.Cond.laysFinal "HalfFair$Plain" "HalfFair$Plain" "number" "I") ∈ lw_all := lw_g (lw_at lw_m3 225 rfl) rfl
theorem q858 : (Jvm.Cond.soleField "HalfFair$Plain" "number") ∈ lw_all := lw_g (lw_at lw_m3 226 rfl) rfl
theorem q859 : (Jvm.Cond.superclass "HalfFair$Plain" "HalfFair$Value") ∈ lw_all := lw_g (lw_at lw_m3 227 rfl) rfl
theorem q1228 : (Jvm.Cond.instanceMethod ({ cls := "HalfFair$Plain", name := "of", desc := "([J)J" } : Jvm.MethodName)) ∈ lw_all := lw_g (lw_at lw_m5 116 rfl) rfl
theorem q1229 : (Jvm.Cond.code ({ cls := "HalfFair$Plain", name := "of", desc := "([J)J" } : Jvm.MethodName) prog_13_method_2_code (2 : Nat) (Option.some Jvm.ClassFile.FieldType.long)) ∈ lw_all := lw_g (lw_at lw_m5 117 rfl) rfl
theorem q1230 : (Jvm.Cond.selects "HalfFair$Plain" ({ cls := "HalfFair$Value", name := "of", desc := "([J)J" } : Jvm.MethodName) ({ cls := "HalfFair$Plain", name := "of", desc := "([J)J" } : Jvm.MethodName)) ∈ lw_all := lw_g (lw_at lw_m5 118 rfl) rfl
theorem q2053 : (Jvm.Cond.castable "HalfFair$Plain" "java/lang/Object") ∈ lw_tbl := lw_at lw_m8 221 rfl
theorem in_X10 : ∀ w ∈ wsX100, w ∈ lw_all := lw_in wsX100 [857] (by decide +kernel) (by decide +kernel)

/-! HalfFair$Asked -/
set_option maxRecDepth 100000
def RX11 : String := "HalfFair$Asked"
def TX11 : u_T := fun k => match k with
  | _ => ("HalfFair$Asked", "word", "I", true)
def tyX11 : Nat → FieldType := fun k => match k with
  | _ => .int
abbrev wsX110 : List Cond := u_ws RX11 TX11 1
theorem nmX11 : ∀ a, a < 1 → ∀ b, b < 1 → a ≠ b → (TX11 a).2.1 ≠ (TX11 b).2.1 := by decide +kernel
theorem tyX11_ok : ∀ k, k < 1 → parseFieldDescriptor (TX11 k).2.2.1 = some (tyX11 k) := by decide +kernel
abbrev cX11_init : ByteArray := prog_2_method_1_code
def yX11_init : MethodName := ⟨RX11, "<init>", "(I)V"⟩
def dkwX11_init_0 : List UInt8 := [42, 183, 0, 1, 42, 27, 181, 0, 7, 177]
abbrev dktX11_init_0 : List UInt8 := dkwX11_init_0 ++ []
theorem dksX11_init_0 : cX11_init.data.toList.drop 0 = dktX11_init_0 := by decide +kernel
theorem dX11_init_0 : decode cX11_init 0 = .ok (.aload_n 0, 1) := dk_42 (dk_at dksX11_init_0 0 rfl rfl)
theorem dX11_init_1 : decode cX11_init 1 = .ok (.invokespecial 1, 3) := dk_183 0 1 (dk_at dksX11_init_0 1 rfl rfl)
theorem dX11_init_4 : decode cX11_init 4 = .ok (.aload_n 0, 1) := dk_42 (dk_at dksX11_init_0 4 rfl rfl)
theorem dX11_init_5 : decode cX11_init 5 = .ok (.iload_n 1, 1) := dk_27 (dk_at dksX11_init_0 5 rfl rfl)
theorem dX11_init_6 : decode cX11_init 6 = .ok (.putfield 7, 3) := dk_181 0 7 (dk_at dksX11_init_0 6 rfl rfl)
theorem dX11_init_9 : decode cX11_init 9 = .ok (.return_, 1) := dk_177 (dk_at dksX11_init_0 9 rfl rfl)
abbrev cX11_of : ByteArray := prog_2_method_2_code
def yX11_of : MethodName := ⟨RX11, "of", "([J)J"⟩
def dkwX11_of_0 : List UInt8 := [43, 42, 180, 0, 7, 47, 173]
abbrev dktX11_of_0 : List UInt8 := dkwX11_of_0 ++ []
theorem dksX11_of_0 : cX11_of.data.toList.drop 0 = dktX11_of_0 := by decide +kernel
theorem dX11_of_0 : decode cX11_of 0 = .ok (.aload_n 1, 1) := dk_43 (dk_at dksX11_of_0 0 rfl rfl)
theorem dX11_of_1 : decode cX11_of 1 = .ok (.aload_n 0, 1) := dk_42 (dk_at dksX11_of_0 1 rfl rfl)
theorem dX11_of_2 : decode cX11_of 2 = .ok (.getfield 7, 3) := dk_180 0 7 (dk_at dksX11_of_0 2 rfl rfl)
theorem dX11_of_5 : decode cX11_of 5 = .ok (.laload, 1) := dk_47 (dk_at dksX11_of_0 5 rfl rfl)
theorem dX11_of_6 : decode cX11_of 6 = .ok (.lreturn, 1) := dk_173 (dk_at dksX11_of_0 6 rfl rfl)
theorem q179 : (Jvm.Cond.initialized "HalfFair$Asked") ∈ lw_all := lw_g (lw_at lw_m1 27 rfl) rfl
theorem q685 : (Jvm.Cond.selects "HalfFair$Asked" ({ cls := "java/lang/Object", name := "getClass", desc := "()Ljava/lang/Class;" } : Jvm.MethodName) ({ cls := "java/lang/Object", name := "getClass", desc := "()Ljava/lang/Class;" } : Jvm.MethodName)) ∈ lw_all := lw_g (lw_at lw_m3 53 rfl) rfl
theorem q865 : (Jvm.Cond.instantiable "HalfFair$Asked" (1 : Nat)) ∈ lw_all := lw_g (lw_at lw_m3 233 rfl) rfl
theorem q867 : (Jvm.Cond.instanceMethod ({ cls := "HalfFair$Asked", name := "<init>", desc := "(I)V" } : Jvm.MethodName)) ∈ lw_all := lw_g (lw_at lw_m3 235 rfl) rfl
theorem q868 : (Jvm.Cond.code ({ cls := "HalfFair$Asked", name := "<init>", desc := "(I)V" } : Jvm.MethodName) prog_2_method_1_code (2 : Nat) (Option.none : Option Jvm.ClassFile.FieldType)) ∈ lw_all := lw_g (lw_at lw_m3 236 rfl) rfl
theorem q869 : (Jvm.Cond.methodLinkNest "HalfFair$Asked" (1 : Nat) ({ cls := "HalfFair$Value", name := "<init>", desc := "()V" } : Jvm.MethodName) "HalfFair") ∈ lw_tbl := lw_at lw_m3 237 rfl
theorem q870 : (Jvm.Cond.fieldLink "HalfFair$Asked" (7 : Nat) "HalfFair$Asked" "word" "I") ∈ lw_all := lw_g (lw_at lw_m3 238 rfl) rfl
theorem q871 : (Jvm.Cond.laysFinal "HalfFair$Asked" "HalfFair$Asked" "word" "I") ∈ lw_all := lw_g (lw_at lw_m3 239 rfl) rfl
theorem q872 : (Jvm.Cond.soleField "HalfFair$Asked" "word") ∈ lw_all := lw_g (lw_at lw_m4 0 rfl) rfl
theorem q873 : (Jvm.Cond.superclass "HalfFair$Asked" "HalfFair$Value") ∈ lw_all := lw_g (lw_at lw_m4 1 rfl) rfl
theorem q1221 : (Jvm.Cond.selects "HalfFair$Asked" ({ cls := "HalfFair$Value", name := "of", desc := "([J)J" } : Jvm.MethodName) ({ cls := "HalfFair$Asked", name := "of", desc := "([J)J" } : Jvm.MethodName)) ∈ lw_all := lw_g (lw_at lw_m5 109 rfl) rfl
theorem q1222 : (Jvm.Cond.instanceMethod ({ cls := "HalfFair$Asked", name := "of", desc := "([J)J" } : Jvm.MethodName)) ∈ lw_all := lw_g (lw_at lw_m5 110 rfl) rfl
theorem q1223 : (Jvm.Cond.code ({ cls := "HalfFair$Asked", name := "of", desc := "([J)J" } : Jvm.MethodName) prog_2_method_2_code (2 : Nat) (Option.some Jvm.ClassFile.FieldType.long)) ∈ lw_all := lw_g (lw_at lw_m5 111 rfl) rfl
theorem q2054 : (Jvm.Cond.castable "HalfFair$Asked" "java/lang/Object") ∈ lw_tbl := lw_at lw_m8 222 rfl
theorem in_X11 : ∀ w ∈ wsX110, w ∈ lw_all := lw_in wsX110 [871] (by decide +kernel) (by decide +kernel)

/-! HalfFair$Joined -/
set_option maxRecDepth 100000
def RX12 : String := "HalfFair$Joined"
def TX12 : u_T := fun k => match k with
  | 0 => ("HalfFair$Joined", "a", "LHalfFair$Value;", true)
  | 1 => ("HalfFair$Joined", "b", "LHalfFair$Value;", true)
  | _ => ("HalfFair$Joined", "sign", "I", true)
def tyX12 : Nat → FieldType := fun k => match k with
  | 0 => .object "HalfFair$Value"
  | 1 => .object "HalfFair$Value"
  | _ => .int
abbrev wsX120 : List Cond := u_ws RX12 TX12 3
theorem nmX12 : ∀ a, a < 3 → ∀ b, b < 3 → a ≠ b → (TX12 a).2.1 ≠ (TX12 b).2.1 := by decide +kernel
theorem tyX12_ok : ∀ k, k < 3 → parseFieldDescriptor (TX12 k).2.2.1 = some (tyX12 k) := by decide +kernel
abbrev cX12_init : ByteArray := prog_10_method_1_code
def yX12_init : MethodName := ⟨RX12, "<init>", "(LHalfFair$Value;LHalfFair$Value;I)V"⟩
def dkwX12_init_0 : List UInt8 := [42, 183, 0, 1, 42, 43, 181, 0, 7, 42, 44, 181, 0, 13, 42, 29, 181, 0, 16, 177]
abbrev dktX12_init_0 : List UInt8 := dkwX12_init_0 ++ []
theorem dksX12_init_0 : cX12_init.data.toList.drop 0 = dktX12_init_0 := by decide +kernel
theorem dX12_init_0 : decode cX12_init 0 = .ok (.aload_n 0, 1) := dk_42 (dk_at dksX12_init_0 0 rfl rfl)
theorem dX12_init_1 : decode cX12_init 1 = .ok (.invokespecial 1, 3) := dk_183 0 1 (dk_at dksX12_init_0 1 rfl rfl)
theorem dX12_init_4 : decode cX12_init 4 = .ok (.aload_n 0, 1) := dk_42 (dk_at dksX12_init_0 4 rfl rfl)
theorem dX12_init_5 : decode cX12_init 5 = .ok (.aload_n 1, 1) := dk_43 (dk_at dksX12_init_0 5 rfl rfl)
theorem dX12_init_6 : decode cX12_init 6 = .ok (.putfield 7, 3) := dk_181 0 7 (dk_at dksX12_init_0 6 rfl rfl)
theorem dX12_init_9 : decode cX12_init 9 = .ok (.aload_n 0, 1) := dk_42 (dk_at dksX12_init_0 9 rfl rfl)
theorem dX12_init_10 : decode cX12_init 10 = .ok (.aload_n 2, 1) := dk_44 (dk_at dksX12_init_0 10 rfl rfl)
theorem dX12_init_11 : decode cX12_init 11 = .ok (.putfield 13, 3) := dk_181 0 13 (dk_at dksX12_init_0 11 rfl rfl)
theorem dX12_init_14 : decode cX12_init 14 = .ok (.aload_n 0, 1) := dk_42 (dk_at dksX12_init_0 14 rfl rfl)
theorem dX12_init_15 : decode cX12_init 15 = .ok (.iload_n 3, 1) := dk_29 (dk_at dksX12_init_0 15 rfl rfl)
theorem dX12_init_16 : decode cX12_init 16 = .ok (.putfield 16, 3) := dk_181 0 16 (dk_at dksX12_init_0 16 rfl rfl)
theorem dX12_init_19 : decode cX12_init 19 = .ok (.return_, 1) := dk_177 (dk_at dksX12_init_0 19 rfl rfl)
abbrev cX12_of : ByteArray := prog_10_method_2_code
def yX12_of : MethodName := ⟨RX12, "of", "([J)J"⟩
def dkwX12_of_4 : List UInt8 := [22, 4, 113, 173]
abbrev dktX12_of_4 : List UInt8 := dkwX12_of_4 ++ []
def dkwX12_of_3 : List UInt8 := [154, 0, 7, 9, 167, 0, 23, 42, 180, 0, 16, 16, 47, 160, 0, 10, 32, 22, 4, 109, 167, 0, 7, 32]
abbrev dktX12_of_3 : List UInt8 := dkwX12_of_3 ++ dktX12_of_4
def dkwX12_of_2 : List UInt8 := [101, 167, 0, 50, 42, 180, 0, 16, 16, 42, 160, 0, 10, 32, 22, 4, 105, 167, 0, 34, 22, 4, 9, 148]
abbrev dktX12_of_2 : List UInt8 := dkwX12_of_2 ++ dktX12_of_3
def dkwX12_of_1 : List UInt8 := [16, 43, 160, 0, 10, 32, 22, 4, 97, 167, 0, 66, 42, 180, 0, 16, 16, 45, 160, 0, 10, 32, 22, 4]
abbrev dktX12_of_1 : List UInt8 := dkwX12_of_1 ++ dktX12_of_2
def dkwX12_of_0 : List UInt8 := [42, 180, 0, 7, 43, 182, 0, 20, 65, 42, 180, 0, 13, 43, 182, 0, 20, 55, 4, 42, 180, 0, 16]
abbrev dktX12_of_0 : List UInt8 := dkwX12_of_0 ++ dktX12_of_1
theorem dksX12_of_0 : cX12_of.data.toList.drop 0 = dktX12_of_0 := by decide +kernel
theorem dksX12_of_1 : cX12_of.data.toList.drop 23 = dktX12_of_1 := dk_seg dksX12_of_0 23 rfl rfl
theorem dksX12_of_2 : cX12_of.data.toList.drop 47 = dktX12_of_2 := dk_seg dksX12_of_1 24 rfl rfl
theorem dksX12_of_3 : cX12_of.data.toList.drop 71 = dktX12_of_3 := dk_seg dksX12_of_2 24 rfl rfl
theorem dksX12_of_4 : cX12_of.data.toList.drop 95 = dktX12_of_4 := dk_seg dksX12_of_3 24 rfl rfl
theorem dX12_of_0 : decode cX12_of 0 = .ok (.aload_n 0, 1) := dk_42 (dk_at dksX12_of_0 0 rfl rfl)
theorem dX12_of_1 : decode cX12_of 1 = .ok (.getfield 7, 3) := dk_180 0 7 (dk_at dksX12_of_0 1 rfl rfl)
theorem dX12_of_4 : decode cX12_of 4 = .ok (.aload_n 1, 1) := dk_43 (dk_at dksX12_of_0 4 rfl rfl)
theorem dX12_of_5 : decode cX12_of 5 = .ok (.invokevirtual 20, 3) := dk_182 0 20 (dk_at dksX12_of_0 5 rfl rfl)
theorem dX12_of_8 : decode cX12_of 8 = .ok (.lstore_n 2, 1) := dk_65 (dk_at dksX12_of_0 8 rfl rfl)
theorem dX12_of_9 : decode cX12_of 9 = .ok (.aload_n 0, 1) := dk_42 (dk_at dksX12_of_0 9 rfl rfl)
theorem dX12_of_10 : decode cX12_of 10 = .ok (.getfield 13, 3) := dk_180 0 13 (dk_at dksX12_of_0 10 rfl rfl)
theorem dX12_of_13 : decode cX12_of 13 = .ok (.aload_n 1, 1) := dk_43 (dk_at dksX12_of_0 13 rfl rfl)
theorem dX12_of_14 : decode cX12_of 14 = .ok (.invokevirtual 20, 3) := dk_182 0 20 (dk_at dksX12_of_0 14 rfl rfl)
theorem dX12_of_17 : decode cX12_of 17 = .ok (.lstore 4, 2) := dk_55 4 (dk_at dksX12_of_0 17 rfl rfl)
theorem dX12_of_19 : decode cX12_of 19 = .ok (.aload_n 0, 1) := dk_42 (dk_at dksX12_of_0 19 rfl rfl)
theorem dX12_of_20 : decode cX12_of 20 = .ok (.getfield 16, 3) := dk_180 0 16 (dk_at dksX12_of_0 20 rfl rfl)
theorem dX12_of_23 : decode cX12_of 23 = .ok (.bipush 43, 2) := dk_16 43 (dk_at dksX12_of_1 0 rfl rfl)
theorem dX12_of_25 : decode cX12_of 25 = .ok (.if_icmp .ne 10, 3) := dk_160 0 10 (dk_at dksX12_of_1 2 rfl rfl)
theorem dX12_of_28 : decode cX12_of 28 = .ok (.lload_n 2, 1) := dk_32 (dk_at dksX12_of_1 5 rfl rfl)
theorem dX12_of_29 : decode cX12_of 29 = .ok (.lload 4, 2) := dk_22 4 (dk_at dksX12_of_1 6 rfl rfl)
theorem dX12_of_31 : decode cX12_of 31 = .ok (.ladd, 1) := dk_97 (dk_at dksX12_of_1 8 rfl rfl)
theorem dX12_of_32 : decode cX12_of 32 = .ok (.goto 66, 3) := dk_167 0 66 (dk_at dksX12_of_1 9 rfl rfl)
theorem dX12_of_35 : decode cX12_of 35 = .ok (.aload_n 0, 1) := dk_42 (dk_at dksX12_of_1 12 rfl rfl)
theorem dX12_of_36 : decode cX12_of 36 = .ok (.getfield 16, 3) := dk_180 0 16 (dk_at dksX12_of_1 13 rfl rfl)
theorem dX12_of_39 : decode cX12_of 39 = .ok (.bipush 45, 2) := dk_16 45 (dk_at dksX12_of_1 16 rfl rfl)
theorem dX12_of_41 : decode cX12_of 41 = .ok (.if_icmp .ne 10, 3) := dk_160 0 10 (dk_at dksX12_of_1 18 rfl rfl)
theorem dX12_of_44 : decode cX12_of 44 = .ok (.lload_n 2, 1) := dk_32 (dk_at dksX12_of_1 21 rfl rfl)
theorem dX12_of_45 : decode cX12_of 45 = .ok (.lload 4, 2) := dk_22 4 (dk_at dksX12_of_1 22 rfl rfl)
theorem dX12_of_47 : decode cX12_of 47 = .ok (.lsub, 1) := dk_101 (dk_at dksX12_of_2 0 rfl rfl)
theorem dX12_of_48 : decode cX12_of 48 = .ok (.goto 50, 3) := dk_167 0 50 (dk_at dksX12_of_2 1 rfl rfl)
theorem dX12_of_51 : decode cX12_of 51 = .ok (.aload_n 0, 1) := dk_42 (dk_at dksX12_of_2 4 rfl rfl)
theorem dX12_of_52 : decode cX12_of 52 = .ok (.getfield 16, 3) := dk_180 0 16 (dk_at dksX12_of_2 5 rfl rfl)
theorem dX12_of_55 : decode cX12_of 55 = .ok (.bipush 42, 2) := dk_16 42 (dk_at dksX12_of_2 8 rfl rfl)
theorem dX12_of_57 : decode cX12_of 57 = .ok (.if_icmp .ne 10, 3) := dk_160 0 10 (dk_at dksX12_of_2 10 rfl rfl)
theorem dX12_of_60 : decode cX12_of 60 = .ok (.lload_n 2, 1) := dk_32 (dk_at dksX12_of_2 13 rfl rfl)
theorem dX12_of_61 : decode cX12_of 61 = .ok (.lload 4, 2) := dk_22 4 (dk_at dksX12_of_2 14 rfl rfl)
theorem dX12_of_63 : decode cX12_of 63 = .ok (.lmul, 1) := dk_105 (dk_at dksX12_of_2 16 rfl rfl)
theorem dX12_of_64 : decode cX12_of 64 = .ok (.goto 34, 3) := dk_167 0 34 (dk_at dksX12_of_2 17 rfl rfl)
theorem dX12_of_67 : decode cX12_of 67 = .ok (.lload 4, 2) := dk_22 4 (dk_at dksX12_of_2 20 rfl rfl)
theorem dX12_of_69 : decode cX12_of 69 = .ok (.lconst 0, 1) := dk_9 (dk_at dksX12_of_2 22 rfl rfl)
theorem dX12_of_70 : decode cX12_of 70 = .ok (.lcmp, 1) := dk_148 (dk_at dksX12_of_2 23 rfl rfl)
theorem dX12_of_71 : decode cX12_of 71 = .ok (.ifCond .ne 7, 3) := dk_154 0 7 (dk_at dksX12_of_3 0 rfl rfl)
theorem dX12_of_74 : decode cX12_of 74 = .ok (.lconst 0, 1) := dk_9 (dk_at dksX12_of_3 3 rfl rfl)
theorem dX12_of_75 : decode cX12_of 75 = .ok (.goto 23, 3) := dk_167 0 23 (dk_at dksX12_of_3 4 rfl rfl)
theorem dX12_of_78 : decode cX12_of 78 = .ok (.aload_n 0, 1) := dk_42 (dk_at dksX12_of_3 7 rfl rfl)
theorem dX12_of_79 : decode cX12_of 79 = .ok (.getfield 16, 3) := dk_180 0 16 (dk_at dksX12_of_3 8 rfl rfl)
theorem dX12_of_82 : decode cX12_of 82 = .ok (.bipush 47, 2) := dk_16 47 (dk_at dksX12_of_3 11 rfl rfl)
theorem dX12_of_84 : decode cX12_of 84 = .ok (.if_icmp .ne 10, 3) := dk_160 0 10 (dk_at dksX12_of_3 13 rfl rfl)
theorem dX12_of_87 : decode cX12_of 87 = .ok (.lload_n 2, 1) := dk_32 (dk_at dksX12_of_3 16 rfl rfl)
theorem dX12_of_88 : decode cX12_of 88 = .ok (.lload 4, 2) := dk_22 4 (dk_at dksX12_of_3 17 rfl rfl)
theorem dX12_of_90 : decode cX12_of 90 = .ok (.ldiv, 1) := dk_109 (dk_at dksX12_of_3 19 rfl rfl)
theorem dX12_of_91 : decode cX12_of 91 = .ok (.goto 7, 3) := dk_167 0 7 (dk_at dksX12_of_3 20 rfl rfl)
theorem dX12_of_94 : decode cX12_of 94 = .ok (.lload_n 2, 1) := dk_32 (dk_at dksX12_of_3 23 rfl rfl)
theorem dX12_of_95 : decode cX12_of 95 = .ok (.lload 4, 2) := dk_22 4 (dk_at dksX12_of_4 0 rfl rfl)
theorem dX12_of_97 : decode cX12_of 97 = .ok (.lrem, 1) := dk_113 (dk_at dksX12_of_4 2 rfl rfl)
theorem dX12_of_98 : decode cX12_of 98 = .ok (.lreturn, 1) := dk_173 (dk_at dksX12_of_4 3 rfl rfl)
theorem q180 : (Jvm.Cond.initialized "HalfFair$Joined") ∈ lw_all := lw_g (lw_at lw_m1 28 rfl) rfl
theorem q692 : (Jvm.Cond.selects "HalfFair$Joined" ({ cls := "java/lang/Object", name := "getClass", desc := "()Ljava/lang/Class;" } : Jvm.MethodName) ({ cls := "java/lang/Object", name := "getClass", desc := "()Ljava/lang/Class;" } : Jvm.MethodName)) ∈ lw_all := lw_g (lw_at lw_m3 60 rfl) rfl
theorem q875 : (Jvm.Cond.instantiable "HalfFair$Joined" (3 : Nat)) ∈ lw_all := lw_g (lw_at lw_m4 3 rfl) rfl
theorem q877 : (Jvm.Cond.instanceMethod ({ cls := "HalfFair$Joined", name := "<init>", desc := "(LHalfFair$Value;LHalfFair$Value;I)V" } : Jvm.MethodName)) ∈ lw_all := lw_g (lw_at lw_m4 5 rfl) rfl
theorem q878 : (Jvm.Cond.code ({ cls := "HalfFair$Joined", name := "<init>", desc := "(LHalfFair$Value;LHalfFair$Value;I)V" } : Jvm.MethodName) prog_10_method_1_code (4 : Nat) (Option.none : Option Jvm.ClassFile.FieldType)) ∈ lw_all := lw_g (lw_at lw_m4 6 rfl) rfl
theorem q879 : (Jvm.Cond.methodLinkNest "HalfFair$Joined" (1 : Nat) ({ cls := "HalfFair$Value", name := "<init>", desc := "()V" } : Jvm.MethodName) "HalfFair") ∈ lw_tbl := lw_at lw_m4 7 rfl
theorem q880 : (Jvm.Cond.fieldLink "HalfFair$Joined" (7 : Nat) "HalfFair$Joined" "a" "LHalfFair$Value;") ∈ lw_all := lw_g (lw_at lw_m4 8 rfl) rfl
theorem q881 : (Jvm.Cond.fieldLink "HalfFair$Joined" (13 : Nat) "HalfFair$Joined" "b" "LHalfFair$Value;") ∈ lw_all := lw_g (lw_at lw_m4 9 rfl) rfl
theorem q882 : (Jvm.Cond.fieldLink "HalfFair$Joined" (16 : Nat) "HalfFair$Joined" "sign" "I") ∈ lw_all := lw_g (lw_at lw_m4 10 rfl) rfl
theorem q883 : (Jvm.Cond.laysFinal "HalfFair$Joined" "HalfFair$Joined" "a" "LHalfFair$Value;") ∈ lw_all := lw_g (lw_at lw_m4 11 rfl) rfl
theorem q884 : (Jvm.Cond.soleField "HalfFair$Joined" "a") ∈ lw_all := lw_g (lw_at lw_m4 12 rfl) rfl
theorem q885 : (Jvm.Cond.laysFinal "HalfFair$Joined" "HalfFair$Joined" "b" "LHalfFair$Value;") ∈ lw_all := lw_g (lw_at lw_m4 13 rfl) rfl
theorem q886 : (Jvm.Cond.soleField "HalfFair$Joined" "b") ∈ lw_all := lw_g (lw_at lw_m4 14 rfl) rfl
theorem q887 : (Jvm.Cond.laysFinal "HalfFair$Joined" "HalfFair$Joined" "sign" "I") ∈ lw_all := lw_g (lw_at lw_m4 15 rfl) rfl
theorem q888 : (Jvm.Cond.soleField "HalfFair$Joined" "sign") ∈ lw_all := lw_g (lw_at lw_m4 16 rfl) rfl
theorem q889 : (Jvm.Cond.superclass "HalfFair$Joined" "HalfFair$Value") ∈ lw_all := lw_g (lw_at lw_m4 17 rfl) rfl
theorem q1224 : (Jvm.Cond.selects "HalfFair$Joined" ({ cls := "HalfFair$Value", name := "of", desc := "([J)J" } : Jvm.MethodName) ({ cls := "HalfFair$Joined", name := "of", desc := "([J)J" } : Jvm.MethodName)) ∈ lw_all := lw_g (lw_at lw_m5 112 rfl) rfl
theorem q1225 : (Jvm.Cond.instanceMethod ({ cls := "HalfFair$Joined", name := "of", desc := "([J)J" } : Jvm.MethodName)) ∈ lw_all := lw_g (lw_at lw_m5 113 rfl) rfl
theorem q1226 : (Jvm.Cond.code ({ cls := "HalfFair$Joined", name := "of", desc := "([J)J" } : Jvm.MethodName) prog_10_method_2_code (6 : Nat) (Option.some Jvm.ClassFile.FieldType.long)) ∈ lw_all := lw_g (lw_at lw_m5 114 rfl) rfl
theorem q1227 : (Jvm.Cond.methodLink "HalfFair$Joined" (20 : Nat) ({ cls := "HalfFair$Value", name := "of", desc := "([J)J" } : Jvm.MethodName)) ∈ lw_all := lw_g (lw_at lw_m5 115 rfl) rfl
theorem q2055 : (Jvm.Cond.castable "HalfFair$Joined" "java/lang/Object") ∈ lw_tbl := lw_at lw_m8 223 rfl
theorem in_X12 : ∀ w ∈ wsX120, w ∈ lw_all := lw_in wsX120 [883, 885, 887] (by decide +kernel) (by decide +kernel)

/-! HalfFair$Told -/
set_option maxRecDepth 100000
def RX13 : String := "HalfFair$Told"
def TX13 : u_T := fun k => match k with
  | 0 => ("HalfFair$Told", "isBuy", "Z", true)
  | 1 => ("HalfFair$Told", "sum", "LHalfFair$Value;", true)
  | _ => ("HalfFair$Told", "when", "LHalfFair$Condition;", true)
def tyX13 : Nat → FieldType := fun k => match k with
  | 0 => .boolean
  | 1 => .object "HalfFair$Value"
  | _ => .object "HalfFair$Condition"
abbrev wsX130 : List Cond := u_ws RX13 TX13 3
theorem nmX13 : ∀ a, a < 3 → ∀ b, b < 3 → a ≠ b → (TX13 a).2.1 ≠ (TX13 b).2.1 := by decide +kernel
theorem tyX13_ok : ∀ k, k < 3 → parseFieldDescriptor (TX13 k).2.2.1 = some (tyX13 k) := by decide +kernel
abbrev cX13_init : ByteArray := prog_16_method_1_code
def yX13_init : MethodName := ⟨RX13, "<init>", "(ZLHalfFair$Value;LHalfFair$Condition;)V"⟩
def dkwX13_init_0 : List UInt8 := [42, 183, 0, 1, 42, 27, 181, 0, 7, 42, 44, 181, 0, 13, 42, 45, 181, 0, 17, 177]
abbrev dktX13_init_0 : List UInt8 := dkwX13_init_0 ++ []
theorem dksX13_init_0 : cX13_init.data.toList.drop 0 = dktX13_init_0 := by decide +kernel
theorem dX13_init_0 : decode cX13_init 0 = .ok (.aload_n 0, 1) := dk_42 (dk_at dksX13_init_0 0 rfl rfl)
theorem dX13_init_1 : decode cX13_init 1 = .ok (.invokespecial 1, 3) := dk_183 0 1 (dk_at dksX13_init_0 1 rfl rfl)
theorem dX13_init_4 : decode cX13_init 4 = .ok (.aload_n 0, 1) := dk_42 (dk_at dksX13_init_0 4 rfl rfl)
theorem dX13_init_5 : decode cX13_init 5 = .ok (.iload_n 1, 1) := dk_27 (dk_at dksX13_init_0 5 rfl rfl)
theorem dX13_init_6 : decode cX13_init 6 = .ok (.putfield 7, 3) := dk_181 0 7 (dk_at dksX13_init_0 6 rfl rfl)
theorem dX13_init_9 : decode cX13_init 9 = .ok (.aload_n 0, 1) := dk_42 (dk_at dksX13_init_0 9 rfl rfl)
theorem dX13_init_10 : decode cX13_init 10 = .ok (.aload_n 2, 1) := dk_44 (dk_at dksX13_init_0 10 rfl rfl)
theorem dX13_init_11 : decode cX13_init 11 = .ok (.putfield 13, 3) := dk_181 0 13 (dk_at dksX13_init_0 11 rfl rfl)
theorem dX13_init_14 : decode cX13_init 14 = .ok (.aload_n 0, 1) := dk_42 (dk_at dksX13_init_0 14 rfl rfl)
theorem dX13_init_15 : decode cX13_init 15 = .ok (.aload_n 3, 1) := dk_45 (dk_at dksX13_init_0 15 rfl rfl)
theorem dX13_init_16 : decode cX13_init 16 = .ok (.putfield 17, 3) := dk_181 0 17 (dk_at dksX13_init_0 16 rfl rfl)
theorem dX13_init_19 : decode cX13_init 19 = .ok (.return_, 1) := dk_177 (dk_at dksX13_init_0 19 rfl rfl)
abbrev cX13_holds : ByteArray := prog_16_method_2_code
def yX13_holds : MethodName := ⟨RX13, "holds", "([J)Z"⟩
def dkwX13_holds_0 : List UInt8 := [42, 180, 0, 17, 198, 0, 14, 42, 180, 0, 17, 43, 182, 0, 21, 153, 0, 7, 4, 167, 0, 4, 3, 172]
abbrev dktX13_holds_0 : List UInt8 := dkwX13_holds_0 ++ []
theorem dksX13_holds_0 : cX13_holds.data.toList.drop 0 = dktX13_holds_0 := by decide +kernel
theorem dX13_holds_0 : decode cX13_holds 0 = .ok (.aload_n 0, 1) := dk_42 (dk_at dksX13_holds_0 0 rfl rfl)
theorem dX13_holds_1 : decode cX13_holds 1 = .ok (.getfield 17, 3) := dk_180 0 17 (dk_at dksX13_holds_0 1 rfl rfl)
theorem dX13_holds_4 : decode cX13_holds 4 = .ok (.ifnull 14, 3) := dk_198 0 14 (dk_at dksX13_holds_0 4 rfl rfl)
theorem dX13_holds_7 : decode cX13_holds 7 = .ok (.aload_n 0, 1) := dk_42 (dk_at dksX13_holds_0 7 rfl rfl)
theorem dX13_holds_8 : decode cX13_holds 8 = .ok (.getfield 17, 3) := dk_180 0 17 (dk_at dksX13_holds_0 8 rfl rfl)
theorem dX13_holds_11 : decode cX13_holds 11 = .ok (.aload_n 1, 1) := dk_43 (dk_at dksX13_holds_0 11 rfl rfl)
theorem dX13_holds_12 : decode cX13_holds 12 = .ok (.invokevirtual 21, 3) := dk_182 0 21 (dk_at dksX13_holds_0 12 rfl rfl)
theorem dX13_holds_15 : decode cX13_holds 15 = .ok (.ifCond .eq 7, 3) := dk_153 0 7 (dk_at dksX13_holds_0 15 rfl rfl)
theorem dX13_holds_18 : decode cX13_holds 18 = .ok (.iconst 1, 1) := dk_4 (dk_at dksX13_holds_0 18 rfl rfl)
theorem dX13_holds_19 : decode cX13_holds 19 = .ok (.goto 4, 3) := dk_167 0 4 (dk_at dksX13_holds_0 19 rfl rfl)
theorem dX13_holds_22 : decode cX13_holds 22 = .ok (.iconst 0, 1) := dk_3 (dk_at dksX13_holds_0 22 rfl rfl)
theorem dX13_holds_23 : decode cX13_holds 23 = .ok (.ireturn, 1) := dk_172 (dk_at dksX13_holds_0 23 rfl rfl)
theorem q181 : (Jvm.Cond.initialized "HalfFair$Told") ∈ lw_all := lw_g (lw_at lw_m1 29 rfl) rfl
theorem q698 : (Jvm.Cond.selects "HalfFair$Told" ({ cls := "java/lang/Object", name := "getClass", desc := "()Ljava/lang/Class;" } : Jvm.MethodName) ({ cls := "java/lang/Object", name := "getClass", desc := "()Ljava/lang/Class;" } : Jvm.MethodName)) ∈ lw_all := lw_g (lw_at lw_m3 66 rfl) rfl
theorem q891 : (Jvm.Cond.instantiable "HalfFair$Told" (3 : Nat)) ∈ lw_all := lw_g (lw_at lw_m4 19 rfl) rfl
theorem q965 : (Jvm.Cond.instanceMethod ({ cls := "HalfFair$Told", name := "<init>", desc := "(ZLHalfFair$Value;LHalfFair$Condition;)V" } : Jvm.MethodName)) ∈ lw_all := lw_g (lw_at lw_m4 93 rfl) rfl
theorem q966 : (Jvm.Cond.code ({ cls := "HalfFair$Told", name := "<init>", desc := "(ZLHalfFair$Value;LHalfFair$Condition;)V" } : Jvm.MethodName) prog_16_method_1_code (4 : Nat) (Option.none : Option Jvm.ClassFile.FieldType)) ∈ lw_all := lw_g (lw_at lw_m4 94 rfl) rfl
theorem q967 : (Jvm.Cond.methodLink "HalfFair$Told" (1 : Nat) ({ cls := "java/lang/Record", name := "<init>", desc := "()V" } : Jvm.MethodName)) ∈ lw_all := lw_g (lw_at lw_m4 95 rfl) rfl
theorem q968 : (Jvm.Cond.fieldLink "HalfFair$Told" (7 : Nat) "HalfFair$Told" "isBuy" "Z") ∈ lw_all := lw_g (lw_at lw_m4 96 rfl) rfl
theorem q970 : (Jvm.Cond.fieldLink "HalfFair$Told" (13 : Nat) "HalfFair$Told" "sum" "LHalfFair$Value;") ∈ lw_all := lw_g (lw_at lw_m4 98 rfl) rfl
theorem q972 : (Jvm.Cond.fieldLink "HalfFair$Told" (17 : Nat) "HalfFair$Told" "when" "LHalfFair$Condition;") ∈ lw_all := lw_g (lw_at lw_m4 100 rfl) rfl
theorem q973 : (Jvm.Cond.laysFinal "HalfFair$Told" "HalfFair$Told" "isBuy" "Z") ∈ lw_all := lw_g (lw_at lw_m4 101 rfl) rfl
theorem q974 : (Jvm.Cond.soleField "HalfFair$Told" "isBuy") ∈ lw_all := lw_g (lw_at lw_m4 102 rfl) rfl
theorem q975 : (Jvm.Cond.laysFinal "HalfFair$Told" "HalfFair$Told" "sum" "LHalfFair$Value;") ∈ lw_all := lw_g (lw_at lw_m4 103 rfl) rfl
theorem q976 : (Jvm.Cond.soleField "HalfFair$Told" "sum") ∈ lw_all := lw_g (lw_at lw_m4 104 rfl) rfl
theorem q977 : (Jvm.Cond.laysFinal "HalfFair$Told" "HalfFair$Told" "when" "LHalfFair$Condition;") ∈ lw_all := lw_g (lw_at lw_m4 105 rfl) rfl
theorem q978 : (Jvm.Cond.soleField "HalfFair$Told" "when") ∈ lw_all := lw_g (lw_at lw_m4 106 rfl) rfl
theorem q979 : (Jvm.Cond.superclass "HalfFair$Told" "java/lang/Record") ∈ lw_all := lw_g (lw_at lw_m4 107 rfl) rfl
theorem q1206 : (Jvm.Cond.instanceMethod ({ cls := "HalfFair$Told", name := "holds", desc := "([J)Z" } : Jvm.MethodName)) ∈ lw_all := lw_g (lw_at lw_m5 94 rfl) rfl
theorem q1207 : (Jvm.Cond.selects "HalfFair$Told" ({ cls := "HalfFair$Told", name := "holds", desc := "([J)Z" } : Jvm.MethodName) ({ cls := "HalfFair$Told", name := "holds", desc := "([J)Z" } : Jvm.MethodName)) ∈ lw_all := lw_g (lw_at lw_m5 95 rfl) rfl
theorem q1208 : (Jvm.Cond.code ({ cls := "HalfFair$Told", name := "holds", desc := "([J)Z" } : Jvm.MethodName) prog_16_method_2_code (2 : Nat) (Option.some Jvm.ClassFile.FieldType.boolean)) ∈ lw_all := lw_g (lw_at lw_m5 96 rfl) rfl
theorem q1209 : (Jvm.Cond.methodLink "HalfFair$Told" (21 : Nat) ({ cls := "HalfFair$Condition", name := "is", desc := "([J)Z" } : Jvm.MethodName)) ∈ lw_all := lw_g (lw_at lw_m5 97 rfl) rfl
theorem q2056 : (Jvm.Cond.castable "HalfFair$Told" "java/lang/Object") ∈ lw_tbl := lw_at lw_m8 224 rfl
theorem in_X13 : ∀ w ∈ wsX130, w ∈ lw_all := lw_in wsX130 [973, 975, 977] (by decide +kernel) (by decide +kernel)

/-! HalfFair$Condition -/
set_option maxRecDepth 100000
def RX14 : String := "HalfFair$Condition"
abbrev cX14_init : ByteArray := prog_6_method_1_code
def yX14_init : MethodName := ⟨RX14, "<init>", "()V"⟩
theorem dX14_init_0 : decode cX14_init 0 = .ok (.aload_n 0, 1) := by decide +kernel
theorem dX14_init_1 : decode cX14_init 1 = .ok (.invokespecial 1, 3) := by decide +kernel
theorem dX14_init_4 : decode cX14_init 4 = .ok (.return_, 1) := by decide +kernel
theorem q182 : (Jvm.Cond.initialized "HalfFair$Condition") ∈ lw_all := lw_g (lw_at lw_m1 30 rfl) rfl
theorem q920 : (Jvm.Cond.instanceMethod ({ cls := "HalfFair$Condition", name := "<init>", desc := "()V" } : Jvm.MethodName)) ∈ lw_all := lw_g (lw_at lw_m4 48 rfl) rfl
theorem q921 : (Jvm.Cond.code ({ cls := "HalfFair$Condition", name := "<init>", desc := "()V" } : Jvm.MethodName) prog_6_method_1_code (1 : Nat) (Option.none : Option Jvm.ClassFile.FieldType)) ∈ lw_all := lw_g (lw_at lw_m4 49 rfl) rfl
theorem q922 : (Jvm.Cond.methodLink "HalfFair$Condition" (1 : Nat) ({ cls := "java/lang/Object", name := "<init>", desc := "()V" } : Jvm.MethodName)) ∈ lw_all := lw_g (lw_at lw_m4 50 rfl) rfl
theorem q1210 : (Jvm.Cond.declares ({ cls := "HalfFair$Condition", name := "is", desc := "([J)Z" } : Jvm.MethodName)) ∈ lw_tbl := lw_at lw_m5 98 rfl
theorem q1211 : (Jvm.Cond.sameMethod "HalfFair$Condition" "HalfFair$Condition" "is" "([J)Z") ∈ lw_all := lw_g (lw_at lw_m5 99 rfl) rfl

/-! HalfFair$Not -/
set_option maxRecDepth 100000
def RX15 : String := "HalfFair$Not"
def TX15 : u_T := fun k => match k with
  | _ => ("HalfFair$Not", "of", "LHalfFair$Condition;", true)
def tyX15 : Nat → FieldType := fun k => match k with
  | _ => .object "HalfFair$Condition"
abbrev wsX150 : List Cond := u_ws RX15 TX15 1
theorem nmX15 : ∀ a, a < 1 → ∀ b, b < 1 → a ≠ b → (TX15 a).2.1 ≠ (TX15 b).2.1 := by decide +kernel
theorem tyX15_ok : ∀ k, k < 1 → parseFieldDescriptor (TX15 k).2.2.1 = some (tyX15 k) := by decide +kernel
abbrev cX15_init : ByteArray := prog_11_method_1_code
def yX15_init : MethodName := ⟨RX15, "<init>", "(LHalfFair$Condition;)V"⟩
def dkwX15_init_0 : List UInt8 := [42, 183, 0, 1, 42, 43, 181, 0, 7, 177]
abbrev dktX15_init_0 : List UInt8 := dkwX15_init_0 ++ []
theorem dksX15_init_0 : cX15_init.data.toList.drop 0 = dktX15_init_0 := by decide +kernel
theorem dX15_init_0 : decode cX15_init 0 = .ok (.aload_n 0, 1) := dk_42 (dk_at dksX15_init_0 0 rfl rfl)
theorem dX15_init_1 : decode cX15_init 1 = .ok (.invokespecial 1, 3) := dk_183 0 1 (dk_at dksX15_init_0 1 rfl rfl)
theorem dX15_init_4 : decode cX15_init 4 = .ok (.aload_n 0, 1) := dk_42 (dk_at dksX15_init_0 4 rfl rfl)
theorem dX15_init_5 : decode cX15_init 5 = .ok (.aload_n 1, 1) := dk_43 (dk_at dksX15_init_0 5 rfl rfl)
theorem dX15_init_6 : decode cX15_init 6 = .ok (.putfield 7, 3) := dk_181 0 7 (dk_at dksX15_init_0 6 rfl rfl)
theorem dX15_init_9 : decode cX15_init 9 = .ok (.return_, 1) := dk_177 (dk_at dksX15_init_0 9 rfl rfl)
abbrev cX15_is : ByteArray := prog_11_method_2_code
def yX15_is : MethodName := ⟨RX15, "is", "([J)Z"⟩
def dkwX15_is_0 : List UInt8 := [42, 180, 0, 7, 43, 182, 0, 13, 154, 0, 7, 4, 167, 0, 4, 3, 172]
abbrev dktX15_is_0 : List UInt8 := dkwX15_is_0 ++ []
theorem dksX15_is_0 : cX15_is.data.toList.drop 0 = dktX15_is_0 := by decide +kernel
theorem dX15_is_0 : decode cX15_is 0 = .ok (.aload_n 0, 1) := dk_42 (dk_at dksX15_is_0 0 rfl rfl)
theorem dX15_is_1 : decode cX15_is 1 = .ok (.getfield 7, 3) := dk_180 0 7 (dk_at dksX15_is_0 1 rfl rfl)
theorem dX15_is_4 : decode cX15_is 4 = .ok (.aload_n 1, 1) := dk_43 (dk_at dksX15_is_0 4 rfl rfl)
theorem dX15_is_5 : decode cX15_is 5 = .ok (.invokevirtual 13, 3) := dk_182 0 13 (dk_at dksX15_is_0 5 rfl rfl)
theorem dX15_is_8 : decode cX15_is 8 = .ok (.ifCond .ne 7, 3) := dk_154 0 7 (dk_at dksX15_is_0 8 rfl rfl)
theorem dX15_is_11 : decode cX15_is 11 = .ok (.iconst 1, 1) := dk_4 (dk_at dksX15_is_0 11 rfl rfl)
theorem dX15_is_12 : decode cX15_is 12 = .ok (.goto 4, 3) := dk_167 0 4 (dk_at dksX15_is_0 12 rfl rfl)
theorem dX15_is_15 : decode cX15_is 15 = .ok (.iconst 0, 1) := dk_3 (dk_at dksX15_is_0 15 rfl rfl)
theorem dX15_is_16 : decode cX15_is 16 = .ok (.ireturn, 1) := dk_172 (dk_at dksX15_is_0 16 rfl rfl)
theorem q183 : (Jvm.Cond.initialized "HalfFair$Not") ∈ lw_all := lw_g (lw_at lw_m1 31 rfl) rfl
theorem q693 : (Jvm.Cond.selects "HalfFair$Not" ({ cls := "java/lang/Object", name := "getClass", desc := "()Ljava/lang/Class;" } : Jvm.MethodName) ({ cls := "java/lang/Object", name := "getClass", desc := "()Ljava/lang/Class;" } : Jvm.MethodName)) ∈ lw_all := lw_g (lw_at lw_m3 61 rfl) rfl
theorem q915 : (Jvm.Cond.instantiable "HalfFair$Not" (1 : Nat)) ∈ lw_all := lw_g (lw_at lw_m4 43 rfl) rfl
theorem q917 : (Jvm.Cond.instanceMethod ({ cls := "HalfFair$Not", name := "<init>", desc := "(LHalfFair$Condition;)V" } : Jvm.MethodName)) ∈ lw_all := lw_g (lw_at lw_m4 45 rfl) rfl
theorem q918 : (Jvm.Cond.code ({ cls := "HalfFair$Not", name := "<init>", desc := "(LHalfFair$Condition;)V" } : Jvm.MethodName) prog_11_method_1_code (2 : Nat) (Option.none : Option Jvm.ClassFile.FieldType)) ∈ lw_all := lw_g (lw_at lw_m4 46 rfl) rfl
theorem q919 : (Jvm.Cond.methodLinkNest "HalfFair$Not" (1 : Nat) ({ cls := "HalfFair$Condition", name := "<init>", desc := "()V" } : Jvm.MethodName) "HalfFair") ∈ lw_tbl := lw_at lw_m4 47 rfl
theorem q923 : (Jvm.Cond.fieldLink "HalfFair$Not" (7 : Nat) "HalfFair$Not" "of" "LHalfFair$Condition;") ∈ lw_all := lw_g (lw_at lw_m4 51 rfl) rfl
theorem q924 : (Jvm.Cond.laysFinal "HalfFair$Not" "HalfFair$Not" "of" "LHalfFair$Condition;") ∈ lw_all := lw_g (lw_at lw_m4 52 rfl) rfl
theorem q925 : (Jvm.Cond.soleField "HalfFair$Not" "of") ∈ lw_all := lw_g (lw_at lw_m4 53 rfl) rfl
theorem q926 : (Jvm.Cond.superclass "HalfFair$Not" "HalfFair$Condition") ∈ lw_all := lw_g (lw_at lw_m4 54 rfl) rfl
theorem q1231 : (Jvm.Cond.instanceMethod ({ cls := "HalfFair$Not", name := "is", desc := "([J)Z" } : Jvm.MethodName)) ∈ lw_all := lw_g (lw_at lw_m5 119 rfl) rfl
theorem q1232 : (Jvm.Cond.code ({ cls := "HalfFair$Not", name := "is", desc := "([J)Z" } : Jvm.MethodName) prog_11_method_2_code (2 : Nat) (Option.some Jvm.ClassFile.FieldType.boolean)) ∈ lw_all := lw_g (lw_at lw_m5 120 rfl) rfl
theorem q1233 : (Jvm.Cond.methodLink "HalfFair$Not" (13 : Nat) ({ cls := "HalfFair$Condition", name := "is", desc := "([J)Z" } : Jvm.MethodName)) ∈ lw_all := lw_g (lw_at lw_m5 121 rfl) rfl
theorem q1235 : (Jvm.Cond.selects "HalfFair$Not" ({ cls := "HalfFair$Condition", name := "is", desc := "([J)Z" } : Jvm.MethodName) ({ cls := "HalfFair$Not", name := "is", desc := "([J)Z" } : Jvm.MethodName)) ∈ lw_all := lw_g (lw_at lw_m5 123 rfl) rfl
theorem q2057 : (Jvm.Cond.castable "HalfFair$Not" "java/lang/Object") ∈ lw_tbl := lw_at lw_m8 225 rfl
theorem in_X15 : ∀ w ∈ wsX150, w ∈ lw_all := lw_in wsX150 [924] (by decide +kernel) (by decide +kernel)

/-! HalfFair$Compared -/
set_option maxRecDepth 100000
def RX16 : String := "HalfFair$Compared"
def TX16 : u_T := fun k => match k with
  | 0 => ("HalfFair$Compared", "a", "LHalfFair$Value;", true)
  | 1 => ("HalfFair$Compared", "b", "LHalfFair$Value;", true)
  | 2 => ("HalfFair$Compared", "sign", "I", true)
  | _ => ("HalfFair$Compared", "same", "Z", true)
def tyX16 : Nat → FieldType := fun k => match k with
  | 0 => .object "HalfFair$Value"
  | 1 => .object "HalfFair$Value"
  | 2 => .int
  | _ => .boolean
abbrev wsX160 : List Cond := u_ws RX16 TX16 4
theorem nmX16 : ∀ a, a < 4 → ∀ b, b < 4 → a ≠ b → (TX16 a).2.1 ≠ (TX16 b).2.1 := by decide +kernel
theorem tyX16_ok : ∀ k, k < 4 → parseFieldDescriptor (TX16 k).2.2.1 = some (tyX16 k) := by decide +kernel
abbrev cX16_init : ByteArray := prog_5_method_1_code
def yX16_init : MethodName := ⟨RX16, "<init>", "(LHalfFair$Value;LHalfFair$Value;IZ)V"⟩
def dkwX16_init_1 : List UInt8 := [181, 0, 20, 177]
abbrev dktX16_init_1 : List UInt8 := dkwX16_init_1 ++ []
def dkwX16_init_0 : List UInt8 := [42, 183, 0, 1, 42, 43, 181, 0, 7, 42, 44, 181, 0, 13, 42, 29, 181, 0, 16, 42, 21, 4]
abbrev dktX16_init_0 : List UInt8 := dkwX16_init_0 ++ dktX16_init_1
theorem dksX16_init_0 : cX16_init.data.toList.drop 0 = dktX16_init_0 := by decide +kernel
theorem dksX16_init_1 : cX16_init.data.toList.drop 22 = dktX16_init_1 := dk_seg dksX16_init_0 22 rfl rfl
theorem dX16_init_0 : decode cX16_init 0 = .ok (.aload_n 0, 1) := dk_42 (dk_at dksX16_init_0 0 rfl rfl)
theorem dX16_init_1 : decode cX16_init 1 = .ok (.invokespecial 1, 3) := dk_183 0 1 (dk_at dksX16_init_0 1 rfl rfl)
theorem dX16_init_4 : decode cX16_init 4 = .ok (.aload_n 0, 1) := dk_42 (dk_at dksX16_init_0 4 rfl rfl)
theorem dX16_init_5 : decode cX16_init 5 = .ok (.aload_n 1, 1) := dk_43 (dk_at dksX16_init_0 5 rfl rfl)
theorem dX16_init_6 : decode cX16_init 6 = .ok (.putfield 7, 3) := dk_181 0 7 (dk_at dksX16_init_0 6 rfl rfl)
theorem dX16_init_9 : decode cX16_init 9 = .ok (.aload_n 0, 1) := dk_42 (dk_at dksX16_init_0 9 rfl rfl)
theorem dX16_init_10 : decode cX16_init 10 = .ok (.aload_n 2, 1) := dk_44 (dk_at dksX16_init_0 10 rfl rfl)
theorem dX16_init_11 : decode cX16_init 11 = .ok (.putfield 13, 3) := dk_181 0 13 (dk_at dksX16_init_0 11 rfl rfl)
theorem dX16_init_14 : decode cX16_init 14 = .ok (.aload_n 0, 1) := dk_42 (dk_at dksX16_init_0 14 rfl rfl)
theorem dX16_init_15 : decode cX16_init 15 = .ok (.iload_n 3, 1) := dk_29 (dk_at dksX16_init_0 15 rfl rfl)
theorem dX16_init_16 : decode cX16_init 16 = .ok (.putfield 16, 3) := dk_181 0 16 (dk_at dksX16_init_0 16 rfl rfl)
theorem dX16_init_19 : decode cX16_init 19 = .ok (.aload_n 0, 1) := dk_42 (dk_at dksX16_init_0 19 rfl rfl)
theorem dX16_init_20 : decode cX16_init 20 = .ok (.iload 4, 2) := dk_21 4 (dk_at dksX16_init_0 20 rfl rfl)
theorem dX16_init_22 : decode cX16_init 22 = .ok (.putfield 20, 3) := dk_181 0 20 (dk_at dksX16_init_1 0 rfl rfl)
theorem dX16_init_25 : decode cX16_init 25 = .ok (.return_, 1) := dk_177 (dk_at dksX16_init_1 3 rfl rfl)
abbrev cX16_is : ByteArray := prog_5_method_2_code
def yX16_is : MethodName := ⟨RX16, "is", "([J)Z"⟩
def dkwX16_is_3 : List UInt8 := [16, 62, 160, 0, 14, 32, 22, 4, 148, 158, 0, 7, 4, 167, 0, 4, 3, 172]
abbrev dktX16_is_3 : List UInt8 := dkwX16_is_3 ++ []
def dkwX16_is_2 : List UInt8 := [167, 0, 40, 42, 180, 0, 16, 16, 60, 160, 0, 10, 32, 22, 4, 148, 155, 0, 19, 42, 180, 0, 16]
abbrev dktX16_is_2 : List UInt8 := dkwX16_is_2 ++ dktX16_is_3
def dkwX16_is_1 : List UInt8 := [154, 0, 27, 42, 180, 0, 16, 16, 61, 159, 0, 10, 42, 180, 0, 20, 153, 0, 7, 4, 167, 0, 44, 3]
abbrev dktX16_is_1 : List UInt8 := dkwX16_is_1 ++ dktX16_is_2
def dkwX16_is_0 : List UInt8 := [42, 180, 0, 7, 43, 182, 0, 24, 65, 42, 180, 0, 13, 43, 182, 0, 24, 55, 4, 32, 22, 4, 148]
abbrev dktX16_is_0 : List UInt8 := dkwX16_is_0 ++ dktX16_is_1
theorem dksX16_is_0 : cX16_is.data.toList.drop 0 = dktX16_is_0 := by decide +kernel
theorem dksX16_is_1 : cX16_is.data.toList.drop 23 = dktX16_is_1 := dk_seg dksX16_is_0 23 rfl rfl
theorem dksX16_is_2 : cX16_is.data.toList.drop 47 = dktX16_is_2 := dk_seg dksX16_is_1 24 rfl rfl
theorem dksX16_is_3 : cX16_is.data.toList.drop 70 = dktX16_is_3 := dk_seg dksX16_is_2 23 rfl rfl
theorem dX16_is_0 : decode cX16_is 0 = .ok (.aload_n 0, 1) := dk_42 (dk_at dksX16_is_0 0 rfl rfl)
theorem dX16_is_1 : decode cX16_is 1 = .ok (.getfield 7, 3) := dk_180 0 7 (dk_at dksX16_is_0 1 rfl rfl)
theorem dX16_is_4 : decode cX16_is 4 = .ok (.aload_n 1, 1) := dk_43 (dk_at dksX16_is_0 4 rfl rfl)
theorem dX16_is_5 : decode cX16_is 5 = .ok (.invokevirtual 24, 3) := dk_182 0 24 (dk_at dksX16_is_0 5 rfl rfl)
theorem dX16_is_8 : decode cX16_is 8 = .ok (.lstore_n 2, 1) := dk_65 (dk_at dksX16_is_0 8 rfl rfl)
theorem dX16_is_9 : decode cX16_is 9 = .ok (.aload_n 0, 1) := dk_42 (dk_at dksX16_is_0 9 rfl rfl)
theorem dX16_is_10 : decode cX16_is 10 = .ok (.getfield 13, 3) := dk_180 0 13 (dk_at dksX16_is_0 10 rfl rfl)
theorem dX16_is_13 : decode cX16_is 13 = .ok (.aload_n 1, 1) := dk_43 (dk_at dksX16_is_0 13 rfl rfl)
theorem dX16_is_14 : decode cX16_is 14 = .ok (.invokevirtual 24, 3) := dk_182 0 24 (dk_at dksX16_is_0 14 rfl rfl)
theorem dX16_is_17 : decode cX16_is 17 = .ok (.lstore 4, 2) := dk_55 4 (dk_at dksX16_is_0 17 rfl rfl)
theorem dX16_is_19 : decode cX16_is 19 = .ok (.lload_n 2, 1) := dk_32 (dk_at dksX16_is_0 19 rfl rfl)
theorem dX16_is_20 : decode cX16_is 20 = .ok (.lload 4, 2) := dk_22 4 (dk_at dksX16_is_0 20 rfl rfl)
theorem dX16_is_22 : decode cX16_is 22 = .ok (.lcmp, 1) := dk_148 (dk_at dksX16_is_0 22 rfl rfl)
theorem dX16_is_23 : decode cX16_is 23 = .ok (.ifCond .ne 27, 3) := dk_154 0 27 (dk_at dksX16_is_1 0 rfl rfl)
theorem dX16_is_26 : decode cX16_is 26 = .ok (.aload_n 0, 1) := dk_42 (dk_at dksX16_is_1 3 rfl rfl)
theorem dX16_is_27 : decode cX16_is 27 = .ok (.getfield 16, 3) := dk_180 0 16 (dk_at dksX16_is_1 4 rfl rfl)
theorem dX16_is_30 : decode cX16_is 30 = .ok (.bipush 61, 2) := dk_16 61 (dk_at dksX16_is_1 7 rfl rfl)
theorem dX16_is_32 : decode cX16_is 32 = .ok (.if_icmp .eq 10, 3) := dk_159 0 10 (dk_at dksX16_is_1 9 rfl rfl)
theorem dX16_is_35 : decode cX16_is 35 = .ok (.aload_n 0, 1) := dk_42 (dk_at dksX16_is_1 12 rfl rfl)
theorem dX16_is_36 : decode cX16_is 36 = .ok (.getfield 20, 3) := dk_180 0 20 (dk_at dksX16_is_1 13 rfl rfl)
theorem dX16_is_39 : decode cX16_is 39 = .ok (.ifCond .eq 7, 3) := dk_153 0 7 (dk_at dksX16_is_1 16 rfl rfl)
theorem dX16_is_42 : decode cX16_is 42 = .ok (.iconst 1, 1) := dk_4 (dk_at dksX16_is_1 19 rfl rfl)
theorem dX16_is_43 : decode cX16_is 43 = .ok (.goto 44, 3) := dk_167 0 44 (dk_at dksX16_is_1 20 rfl rfl)
theorem dX16_is_46 : decode cX16_is 46 = .ok (.iconst 0, 1) := dk_3 (dk_at dksX16_is_1 23 rfl rfl)
theorem dX16_is_47 : decode cX16_is 47 = .ok (.goto 40, 3) := dk_167 0 40 (dk_at dksX16_is_2 0 rfl rfl)
theorem dX16_is_50 : decode cX16_is 50 = .ok (.aload_n 0, 1) := dk_42 (dk_at dksX16_is_2 3 rfl rfl)
theorem dX16_is_51 : decode cX16_is 51 = .ok (.getfield 16, 3) := dk_180 0 16 (dk_at dksX16_is_2 4 rfl rfl)
theorem dX16_is_54 : decode cX16_is 54 = .ok (.bipush 60, 2) := dk_16 60 (dk_at dksX16_is_2 7 rfl rfl)
theorem dX16_is_56 : decode cX16_is 56 = .ok (.if_icmp .ne 10, 3) := dk_160 0 10 (dk_at dksX16_is_2 9 rfl rfl)
theorem dX16_is_59 : decode cX16_is 59 = .ok (.lload_n 2, 1) := dk_32 (dk_at dksX16_is_2 12 rfl rfl)
theorem dX16_is_60 : decode cX16_is 60 = .ok (.lload 4, 2) := dk_22 4 (dk_at dksX16_is_2 13 rfl rfl)
theorem dX16_is_62 : decode cX16_is 62 = .ok (.lcmp, 1) := dk_148 (dk_at dksX16_is_2 15 rfl rfl)
theorem dX16_is_63 : decode cX16_is 63 = .ok (.ifCond .lt 19, 3) := dk_155 0 19 (dk_at dksX16_is_2 16 rfl rfl)
theorem dX16_is_66 : decode cX16_is 66 = .ok (.aload_n 0, 1) := dk_42 (dk_at dksX16_is_2 19 rfl rfl)
theorem dX16_is_67 : decode cX16_is 67 = .ok (.getfield 16, 3) := dk_180 0 16 (dk_at dksX16_is_2 20 rfl rfl)
theorem dX16_is_70 : decode cX16_is 70 = .ok (.bipush 62, 2) := dk_16 62 (dk_at dksX16_is_3 0 rfl rfl)
theorem dX16_is_72 : decode cX16_is 72 = .ok (.if_icmp .ne 14, 3) := dk_160 0 14 (dk_at dksX16_is_3 2 rfl rfl)
theorem dX16_is_75 : decode cX16_is 75 = .ok (.lload_n 2, 1) := dk_32 (dk_at dksX16_is_3 5 rfl rfl)
theorem dX16_is_76 : decode cX16_is 76 = .ok (.lload 4, 2) := dk_22 4 (dk_at dksX16_is_3 6 rfl rfl)
theorem dX16_is_78 : decode cX16_is 78 = .ok (.lcmp, 1) := dk_148 (dk_at dksX16_is_3 8 rfl rfl)
theorem dX16_is_79 : decode cX16_is 79 = .ok (.ifCond .le 7, 3) := dk_158 0 7 (dk_at dksX16_is_3 9 rfl rfl)
theorem dX16_is_82 : decode cX16_is 82 = .ok (.iconst 1, 1) := dk_4 (dk_at dksX16_is_3 12 rfl rfl)
theorem dX16_is_83 : decode cX16_is 83 = .ok (.goto 4, 3) := dk_167 0 4 (dk_at dksX16_is_3 13 rfl rfl)
theorem dX16_is_86 : decode cX16_is 86 = .ok (.iconst 0, 1) := dk_3 (dk_at dksX16_is_3 16 rfl rfl)
theorem dX16_is_87 : decode cX16_is 87 = .ok (.ireturn, 1) := dk_172 (dk_at dksX16_is_3 17 rfl rfl)
theorem q184 : (Jvm.Cond.initialized "HalfFair$Compared") ∈ lw_all := lw_g (lw_at lw_m1 32 rfl) rfl
theorem q688 : (Jvm.Cond.selects "HalfFair$Compared" ({ cls := "java/lang/Object", name := "getClass", desc := "()Ljava/lang/Class;" } : Jvm.MethodName) ({ cls := "java/lang/Object", name := "getClass", desc := "()Ljava/lang/Class;" } : Jvm.MethodName)) ∈ lw_all := lw_g (lw_at lw_m3 56 rfl) rfl
theorem q928 : (Jvm.Cond.instantiable "HalfFair$Compared" (4 : Nat)) ∈ lw_all := lw_g (lw_at lw_m4 56 rfl) rfl
theorem q930 : (Jvm.Cond.instanceMethod ({ cls := "HalfFair$Compared", name := "<init>", desc := "(LHalfFair$Value;LHalfFair$Value;IZ)V" } : Jvm.MethodName)) ∈ lw_all := lw_g (lw_at lw_m4 58 rfl) rfl
theorem q931 : (Jvm.Cond.code ({ cls := "HalfFair$Compared", name := "<init>", desc := "(LHalfFair$Value;LHalfFair$Value;IZ)V" } : Jvm.MethodName) prog_5_method_1_code (5 : Nat) (Option.none : Option Jvm.ClassFile.FieldType)) ∈ lw_all := lw_g (lw_at lw_m4 59 rfl) rfl
theorem q932 : (Jvm.Cond.methodLinkNest "HalfFair$Compared" (1 : Nat) ({ cls := "HalfFair$Condition", name := "<init>", desc := "()V" } : Jvm.MethodName) "HalfFair") ∈ lw_tbl := lw_at lw_m4 60 rfl
theorem q933 : (Jvm.Cond.fieldLink "HalfFair$Compared" (7 : Nat) "HalfFair$Compared" "a" "LHalfFair$Value;") ∈ lw_all := lw_g (lw_at lw_m4 61 rfl) rfl
theorem q934 : (Jvm.Cond.fieldLink "HalfFair$Compared" (13 : Nat) "HalfFair$Compared" "b" "LHalfFair$Value;") ∈ lw_all := lw_g (lw_at lw_m4 62 rfl) rfl
theorem q935 : (Jvm.Cond.fieldLink "HalfFair$Compared" (16 : Nat) "HalfFair$Compared" "sign" "I") ∈ lw_all := lw_g (lw_at lw_m4 63 rfl) rfl
theorem q936 : (Jvm.Cond.fieldLink "HalfFair$Compared" (20 : Nat) "HalfFair$Compared" "same" "Z") ∈ lw_all := lw_g (lw_at lw_m4 64 rfl) rfl
theorem q937 : (Jvm.Cond.laysFinal "HalfFair$Compared" "HalfFair$Compared" "a" "LHalfFair$Value;") ∈ lw_all := lw_g (lw_at lw_m4 65 rfl) rfl
theorem q938 : (Jvm.Cond.soleField "HalfFair$Compared" "a") ∈ lw_all := lw_g (lw_at lw_m4 66 rfl) rfl
theorem q939 : (Jvm.Cond.laysFinal "HalfFair$Compared" "HalfFair$Compared" "b" "LHalfFair$Value;") ∈ lw_all := lw_g (lw_at lw_m4 67 rfl) rfl
theorem q940 : (Jvm.Cond.soleField "HalfFair$Compared" "b") ∈ lw_all := lw_g (lw_at lw_m4 68 rfl) rfl
theorem q941 : (Jvm.Cond.laysFinal "HalfFair$Compared" "HalfFair$Compared" "sign" "I") ∈ lw_all := lw_g (lw_at lw_m4 69 rfl) rfl
theorem q942 : (Jvm.Cond.soleField "HalfFair$Compared" "sign") ∈ lw_all := lw_g (lw_at lw_m4 70 rfl) rfl
theorem q943 : (Jvm.Cond.laysFinal "HalfFair$Compared" "HalfFair$Compared" "same" "Z") ∈ lw_all := lw_g (lw_at lw_m4 71 rfl) rfl
theorem q944 : (Jvm.Cond.soleField "HalfFair$Compared" "same") ∈ lw_all := lw_g (lw_at lw_m4 72 rfl) rfl
theorem q945 : (Jvm.Cond.superclass "HalfFair$Compared" "HalfFair$Condition") ∈ lw_all := lw_g (lw_at lw_m4 73 rfl) rfl
theorem q1216 : (Jvm.Cond.instanceMethod ({ cls := "HalfFair$Compared", name := "is", desc := "([J)Z" } : Jvm.MethodName)) ∈ lw_all := lw_g (lw_at lw_m5 104 rfl) rfl
theorem q1217 : (Jvm.Cond.code ({ cls := "HalfFair$Compared", name := "is", desc := "([J)Z" } : Jvm.MethodName) prog_5_method_2_code (6 : Nat) (Option.some Jvm.ClassFile.FieldType.boolean)) ∈ lw_all := lw_g (lw_at lw_m5 105 rfl) rfl
theorem q1218 : (Jvm.Cond.methodLink "HalfFair$Compared" (24 : Nat) ({ cls := "HalfFair$Value", name := "of", desc := "([J)J" } : Jvm.MethodName)) ∈ lw_all := lw_g (lw_at lw_m5 106 rfl) rfl
theorem q1234 : (Jvm.Cond.selects "HalfFair$Compared" ({ cls := "HalfFair$Condition", name := "is", desc := "([J)Z" } : Jvm.MethodName) ({ cls := "HalfFair$Compared", name := "is", desc := "([J)Z" } : Jvm.MethodName)) ∈ lw_all := lw_g (lw_at lw_m5 122 rfl) rfl
theorem q2058 : (Jvm.Cond.castable "HalfFair$Compared" "java/lang/Object") ∈ lw_tbl := lw_at lw_m8 226 rfl
theorem in_X16 : ∀ w ∈ wsX160, w ∈ lw_all := lw_in wsX160 [937, 939, 941, 943] (by decide +kernel) (by decide +kernel)

/-! HalfFair$Both -/
set_option maxRecDepth 100000
def RX17 : String := "HalfFair$Both"
def TX17 : u_T := fun k => match k with
  | 0 => ("HalfFair$Both", "a", "LHalfFair$Condition;", true)
  | 1 => ("HalfFair$Both", "b", "LHalfFair$Condition;", true)
  | _ => ("HalfFair$Both", "or", "Z", true)
def tyX17 : Nat → FieldType := fun k => match k with
  | 0 => .object "HalfFair$Condition"
  | 1 => .object "HalfFair$Condition"
  | _ => .boolean
abbrev wsX170 : List Cond := u_ws RX17 TX17 3
theorem nmX17 : ∀ a, a < 3 → ∀ b, b < 3 → a ≠ b → (TX17 a).2.1 ≠ (TX17 b).2.1 := by decide +kernel
theorem tyX17_ok : ∀ k, k < 3 → parseFieldDescriptor (TX17 k).2.2.1 = some (tyX17 k) := by decide +kernel
abbrev cX17_init : ByteArray := prog_3_method_1_code
def yX17_init : MethodName := ⟨RX17, "<init>", "(LHalfFair$Condition;LHalfFair$Condition;Z)V"⟩
def dkwX17_init_0 : List UInt8 := [42, 183, 0, 1, 42, 43, 181, 0, 7, 42, 44, 181, 0, 13, 42, 29, 181, 0, 16, 177]
abbrev dktX17_init_0 : List UInt8 := dkwX17_init_0 ++ []
theorem dksX17_init_0 : cX17_init.data.toList.drop 0 = dktX17_init_0 := by decide +kernel
theorem dX17_init_0 : decode cX17_init 0 = .ok (.aload_n 0, 1) := dk_42 (dk_at dksX17_init_0 0 rfl rfl)
theorem dX17_init_1 : decode cX17_init 1 = .ok (.invokespecial 1, 3) := dk_183 0 1 (dk_at dksX17_init_0 1 rfl rfl)
theorem dX17_init_4 : decode cX17_init 4 = .ok (.aload_n 0, 1) := dk_42 (dk_at dksX17_init_0 4 rfl rfl)
theorem dX17_init_5 : decode cX17_init 5 = .ok (.aload_n 1, 1) := dk_43 (dk_at dksX17_init_0 5 rfl rfl)
theorem dX17_init_6 : decode cX17_init 6 = .ok (.putfield 7, 3) := dk_181 0 7 (dk_at dksX17_init_0 6 rfl rfl)
theorem dX17_init_9 : decode cX17_init 9 = .ok (.aload_n 0, 1) := dk_42 (dk_at dksX17_init_0 9 rfl rfl)
theorem dX17_init_10 : decode cX17_init 10 = .ok (.aload_n 2, 1) := dk_44 (dk_at dksX17_init_0 10 rfl rfl)
theorem dX17_init_11 : decode cX17_init 11 = .ok (.putfield 13, 3) := dk_181 0 13 (dk_at dksX17_init_0 11 rfl rfl)
theorem dX17_init_14 : decode cX17_init 14 = .ok (.aload_n 0, 1) := dk_42 (dk_at dksX17_init_0 14 rfl rfl)
theorem dX17_init_15 : decode cX17_init 15 = .ok (.iload_n 3, 1) := dk_29 (dk_at dksX17_init_0 15 rfl rfl)
theorem dX17_init_16 : decode cX17_init 16 = .ok (.putfield 16, 3) := dk_181 0 16 (dk_at dksX17_init_0 16 rfl rfl)
theorem dX17_init_19 : decode cX17_init 19 = .ok (.return_, 1) := dk_177 (dk_at dksX17_init_0 19 rfl rfl)
abbrev cX17_is : ByteArray := prog_3_method_2_code
def yX17_is : MethodName := ⟨RX17, "is", "([J)Z"⟩
def dkwX17_is_2 : List UInt8 := [153, 0, 18, 42, 180, 0, 13, 43, 182, 0, 20, 153, 0, 7, 4, 167, 0, 4, 3, 172]
abbrev dktX17_is_2 : List UInt8 := dkwX17_is_2 ++ []
def dkwX17_is_1 : List UInt8 := [182, 0, 20, 153, 0, 7, 4, 167, 0, 34, 3, 167, 0, 30, 42, 180, 0, 7, 43, 182, 0, 20]
abbrev dktX17_is_1 : List UInt8 := dkwX17_is_1 ++ dktX17_is_2
def dkwX17_is_0 : List UInt8 := [42, 180, 0, 16, 153, 0, 33, 42, 180, 0, 7, 43, 182, 0, 20, 154, 0, 14, 42, 180, 0, 13, 43]
abbrev dktX17_is_0 : List UInt8 := dkwX17_is_0 ++ dktX17_is_1
theorem dksX17_is_0 : cX17_is.data.toList.drop 0 = dktX17_is_0 := by decide +kernel
theorem dksX17_is_1 : cX17_is.data.toList.drop 23 = dktX17_is_1 := dk_seg dksX17_is_0 23 rfl rfl
theorem dksX17_is_2 : cX17_is.data.toList.drop 45 = dktX17_is_2 := dk_seg dksX17_is_1 22 rfl rfl
theorem dX17_is_0 : decode cX17_is 0 = .ok (.aload_n 0, 1) := dk_42 (dk_at dksX17_is_0 0 rfl rfl)
theorem dX17_is_1 : decode cX17_is 1 = .ok (.getfield 16, 3) := dk_180 0 16 (dk_at dksX17_is_0 1 rfl rfl)
theorem dX17_is_4 : decode cX17_is 4 = .ok (.ifCond .eq 33, 3) := dk_153 0 33 (dk_at dksX17_is_0 4 rfl rfl)
theorem dX17_is_7 : decode cX17_is 7 = .ok (.aload_n 0, 1) := dk_42 (dk_at dksX17_is_0 7 rfl rfl)
theorem dX17_is_8 : decode cX17_is 8 = .ok (.getfield 7, 3) := dk_180 0 7 (dk_at dksX17_is_0 8 rfl rfl)
theorem dX17_is_11 : decode cX17_is 11 = .ok (.aload_n 1, 1) := dk_43 (dk_at dksX17_is_0 11 rfl rfl)
theorem dX17_is_12 : decode cX17_is 12 = .ok (.invokevirtual 20, 3) := dk_182 0 20 (dk_at dksX17_is_0 12 rfl rfl)
theorem dX17_is_15 : decode cX17_is 15 = .ok (.ifCond .ne 14, 3) := dk_154 0 14 (dk_at dksX17_is_0 15 rfl rfl)
theorem dX17_is_18 : decode cX17_is 18 = .ok (.aload_n 0, 1) := dk_42 (dk_at dksX17_is_0 18 rfl rfl)
theorem dX17_is_19 : decode cX17_is 19 = .ok (.getfield 13, 3) := dk_180 0 13 (dk_at dksX17_is_0 19 rfl rfl)
theorem dX17_is_22 : decode cX17_is 22 = .ok (.aload_n 1, 1) := dk_43 (dk_at dksX17_is_0 22 rfl rfl)
theorem dX17_is_23 : decode cX17_is 23 = .ok (.invokevirtual 20, 3) := dk_182 0 20 (dk_at dksX17_is_1 0 rfl rfl)
theorem dX17_is_26 : decode cX17_is 26 = .ok (.ifCond .eq 7, 3) := dk_153 0 7 (dk_at dksX17_is_1 3 rfl rfl)
theorem dX17_is_29 : decode cX17_is 29 = .ok (.iconst 1, 1) := dk_4 (dk_at dksX17_is_1 6 rfl rfl)
theorem dX17_is_30 : decode cX17_is 30 = .ok (.goto 34, 3) := dk_167 0 34 (dk_at dksX17_is_1 7 rfl rfl)
theorem dX17_is_33 : decode cX17_is 33 = .ok (.iconst 0, 1) := dk_3 (dk_at dksX17_is_1 10 rfl rfl)
theorem dX17_is_34 : decode cX17_is 34 = .ok (.goto 30, 3) := dk_167 0 30 (dk_at dksX17_is_1 11 rfl rfl)
theorem dX17_is_37 : decode cX17_is 37 = .ok (.aload_n 0, 1) := dk_42 (dk_at dksX17_is_1 14 rfl rfl)
theorem dX17_is_38 : decode cX17_is 38 = .ok (.getfield 7, 3) := dk_180 0 7 (dk_at dksX17_is_1 15 rfl rfl)
theorem dX17_is_41 : decode cX17_is 41 = .ok (.aload_n 1, 1) := dk_43 (dk_at dksX17_is_1 18 rfl rfl)
theorem dX17_is_42 : decode cX17_is 42 = .ok (.invokevirtual 20, 3) := dk_182 0 20 (dk_at dksX17_is_1 19 rfl rfl)
theorem dX17_is_45 : decode cX17_is 45 = .ok (.ifCond .eq 18, 3) := dk_153 0 18 (dk_at dksX17_is_2 0 rfl rfl)
theorem dX17_is_48 : decode cX17_is 48 = .ok (.aload_n 0, 1) := dk_42 (dk_at dksX17_is_2 3 rfl rfl)
theorem dX17_is_49 : decode cX17_is 49 = .ok (.getfield 13, 3) := dk_180 0 13 (dk_at dksX17_is_2 4 rfl rfl)
theorem dX17_is_52 : decode cX17_is 52 = .ok (.aload_n 1, 1) := dk_43 (dk_at dksX17_is_2 7 rfl rfl)
theorem dX17_is_53 : decode cX17_is 53 = .ok (.invokevirtual 20, 3) := dk_182 0 20 (dk_at dksX17_is_2 8 rfl rfl)
theorem dX17_is_56 : decode cX17_is 56 = .ok (.ifCond .eq 7, 3) := dk_153 0 7 (dk_at dksX17_is_2 11 rfl rfl)
theorem dX17_is_59 : decode cX17_is 59 = .ok (.iconst 1, 1) := dk_4 (dk_at dksX17_is_2 14 rfl rfl)
theorem dX17_is_60 : decode cX17_is 60 = .ok (.goto 4, 3) := dk_167 0 4 (dk_at dksX17_is_2 15 rfl rfl)
theorem dX17_is_63 : decode cX17_is 63 = .ok (.iconst 0, 1) := dk_3 (dk_at dksX17_is_2 18 rfl rfl)
theorem dX17_is_64 : decode cX17_is 64 = .ok (.ireturn, 1) := dk_172 (dk_at dksX17_is_2 19 rfl rfl)
theorem q185 : (Jvm.Cond.initialized "HalfFair$Both") ∈ lw_all := lw_g (lw_at lw_m1 33 rfl) rfl
theorem q686 : (Jvm.Cond.selects "HalfFair$Both" ({ cls := "java/lang/Object", name := "getClass", desc := "()Ljava/lang/Class;" } : Jvm.MethodName) ({ cls := "java/lang/Object", name := "getClass", desc := "()Ljava/lang/Class;" } : Jvm.MethodName)) ∈ lw_all := lw_g (lw_at lw_m3 54 rfl) rfl
theorem q948 : (Jvm.Cond.instantiable "HalfFair$Both" (3 : Nat)) ∈ lw_all := lw_g (lw_at lw_m4 76 rfl) rfl
theorem q950 : (Jvm.Cond.instanceMethod ({ cls := "HalfFair$Both", name := "<init>", desc := "(LHalfFair$Condition;LHalfFair$Condition;Z)V" } : Jvm.MethodName)) ∈ lw_all := lw_g (lw_at lw_m4 78 rfl) rfl
theorem q951 : (Jvm.Cond.code ({ cls := "HalfFair$Both", name := "<init>", desc := "(LHalfFair$Condition;LHalfFair$Condition;Z)V" } : Jvm.MethodName) prog_3_method_1_code (4 : Nat) (Option.none : Option Jvm.ClassFile.FieldType)) ∈ lw_all := lw_g (lw_at lw_m4 79 rfl) rfl
theorem q952 : (Jvm.Cond.methodLinkNest "HalfFair$Both" (1 : Nat) ({ cls := "HalfFair$Condition", name := "<init>", desc := "()V" } : Jvm.MethodName) "HalfFair") ∈ lw_tbl := lw_at lw_m4 80 rfl
theorem q953 : (Jvm.Cond.fieldLink "HalfFair$Both" (7 : Nat) "HalfFair$Both" "a" "LHalfFair$Condition;") ∈ lw_all := lw_g (lw_at lw_m4 81 rfl) rfl
theorem q954 : (Jvm.Cond.fieldLink "HalfFair$Both" (13 : Nat) "HalfFair$Both" "b" "LHalfFair$Condition;") ∈ lw_all := lw_g (lw_at lw_m4 82 rfl) rfl
theorem q955 : (Jvm.Cond.fieldLink "HalfFair$Both" (16 : Nat) "HalfFair$Both" "or" "Z") ∈ lw_all := lw_g (lw_at lw_m4 83 rfl) rfl
theorem q956 : (Jvm.Cond.laysFinal "HalfFair$Both" "HalfFair$Both" "a" "LHalfFair$Condition;") ∈ lw_all := lw_g (lw_at lw_m4 84 rfl) rfl
theorem q957 : (Jvm.Cond.soleField "HalfFair$Both" "a") ∈ lw_all := lw_g (lw_at lw_m4 85 rfl) rfl
theorem q958 : (Jvm.Cond.laysFinal "HalfFair$Both" "HalfFair$Both" "b" "LHalfFair$Condition;") ∈ lw_all := lw_g (lw_at lw_m4 86 rfl) rfl
theorem q959 : (Jvm.Cond.soleField "HalfFair$Both" "b") ∈ lw_all := lw_g (lw_at lw_m4 87 rfl) rfl
theorem q960 : (Jvm.Cond.laysFinal "HalfFair$Both" "HalfFair$Both" "or" "Z") ∈ lw_all := lw_g (lw_at lw_m4 88 rfl) rfl
theorem q961 : (Jvm.Cond.soleField "HalfFair$Both" "or") ∈ lw_all := lw_g (lw_at lw_m4 89 rfl) rfl
theorem q962 : (Jvm.Cond.superclass "HalfFair$Both" "HalfFair$Condition") ∈ lw_all := lw_g (lw_at lw_m4 90 rfl) rfl
theorem q1212 : (Jvm.Cond.selects "HalfFair$Both" ({ cls := "HalfFair$Condition", name := "is", desc := "([J)Z" } : Jvm.MethodName) ({ cls := "HalfFair$Both", name := "is", desc := "([J)Z" } : Jvm.MethodName)) ∈ lw_all := lw_g (lw_at lw_m5 100 rfl) rfl
theorem q1213 : (Jvm.Cond.instanceMethod ({ cls := "HalfFair$Both", name := "is", desc := "([J)Z" } : Jvm.MethodName)) ∈ lw_all := lw_g (lw_at lw_m5 101 rfl) rfl
theorem q1214 : (Jvm.Cond.code ({ cls := "HalfFair$Both", name := "is", desc := "([J)Z" } : Jvm.MethodName) prog_3_method_2_code (2 : Nat) (Option.some Jvm.ClassFile.FieldType.boolean)) ∈ lw_all := lw_g (lw_at lw_m5 102 rfl) rfl
theorem q1215 : (Jvm.Cond.methodLink "HalfFair$Both" (20 : Nat) ({ cls := "HalfFair$Condition", name := "is", desc := "([J)Z" } : Jvm.MethodName)) ∈ lw_all := lw_g (lw_at lw_m5 103 rfl) rfl
theorem q2059 : (Jvm.Cond.castable "HalfFair$Both" "java/lang/Object") ∈ lw_tbl := lw_at lw_m8 227 rfl
theorem in_X17 : ∀ w ∈ wsX170, w ∈ lw_all := lw_in wsX170 [956, 958, 960] (by decide +kernel) (by decide +kernel)

/-! HalfFair$Image -/
set_option maxRecDepth 100000
def RX18 : String := "HalfFair$Image"
def TX18 : u_T := fun k => match k with
  | 0 => ("HalfFair$Image", "its", "LHalfFair$Fair;", false)
  | 1 => ("HalfFair$Image", "stood", "LHalfFair$State;", true)
  | 2 => ("HalfFair$Image", "one", "[I", true)
  | 3 => ("HalfFair$Image", "other", "[I", true)
  | 4 => ("HalfFair$Image", "isSo", "[Z", true)
  | 5 => ("HalfFair$Image", "many", "I", false)
  | 6 => ("HalfFair$Image", "x", "I", false)
  | _ => ("HalfFair$Image", "this$0", "LHalfFair;", true)
def tyX18 : Nat → FieldType := fun k => match k with
  | 0 => .object "HalfFair$Fair"
  | 1 => .object "HalfFair$State"
  | 2 => .array .int
  | 3 => .array .int
  | 4 => .array .boolean
  | 5 => .int
  | 6 => .int
  | _ => .object "HalfFair"
abbrev wsX180 : List Cond := u_ws RX18 TX18 8
theorem nmX18 : ∀ a, a < 8 → ∀ b, b < 8 → a ≠ b → (TX18 a).2.1 ≠ (TX18 b).2.1 := by decide +kernel
theorem tyX18_ok : ∀ k, k < 8 → parseFieldDescriptor (TX18 k).2.2.1 = some (tyX18 k) := by decide +kernel
abbrev cX18_init : ByteArray := prog_9_method_1_code
def yX18_init : MethodName := ⟨RX18, "<init>", "(LHalfFair;)V"⟩
def dkwX18_init_1 : List UInt8 := [188, 10, 181, 0, 22, 42, 16, 12, 188, 10, 181, 0, 26, 42, 16, 12, 188, 4, 181, 0, 29, 177]
abbrev dktX18_init_1 : List UInt8 := dkwX18_init_1 ++ []
def dkwX18_init_0 : List UInt8 := [42, 43, 181, 0, 3, 42, 183, 0, 9, 42, 187, 0, 15, 89, 183, 0, 17, 181, 0, 18, 42, 16, 12]
abbrev dktX18_init_0 : List UInt8 := dkwX18_init_0 ++ dktX18_init_1
theorem dksX18_init_0 : cX18_init.data.toList.drop 0 = dktX18_init_0 := by decide +kernel
theorem dksX18_init_1 : cX18_init.data.toList.drop 23 = dktX18_init_1 := dk_seg dksX18_init_0 23 rfl rfl
theorem dX18_init_0 : decode cX18_init 0 = .ok (.aload_n 0, 1) := dk_42 (dk_at dksX18_init_0 0 rfl rfl)
theorem dX18_init_1 : decode cX18_init 1 = .ok (.aload_n 1, 1) := dk_43 (dk_at dksX18_init_0 1 rfl rfl)
theorem dX18_init_2 : decode cX18_init 2 = .ok (.putfield 3, 3) := dk_181 0 3 (dk_at dksX18_init_0 2 rfl rfl)
theorem dX18_init_5 : decode cX18_init 5 = .ok (.aload_n 0, 1) := dk_42 (dk_at dksX18_init_0 5 rfl rfl)
theorem dX18_init_6 : decode cX18_init 6 = .ok (.invokespecial 9, 3) := dk_183 0 9 (dk_at dksX18_init_0 6 rfl rfl)
theorem dX18_init_9 : decode cX18_init 9 = .ok (.aload_n 0, 1) := dk_42 (dk_at dksX18_init_0 9 rfl rfl)
theorem dX18_init_10 : decode cX18_init 10 = .ok (.new 15, 3) := dk_187 0 15 (dk_at dksX18_init_0 10 rfl rfl)
theorem dX18_init_13 : decode cX18_init 13 = .ok (.dup, 1) := dk_89 (dk_at dksX18_init_0 13 rfl rfl)
theorem dX18_init_14 : decode cX18_init 14 = .ok (.invokespecial 17, 3) := dk_183 0 17 (dk_at dksX18_init_0 14 rfl rfl)
theorem dX18_init_17 : decode cX18_init 17 = .ok (.putfield 18, 3) := dk_181 0 18 (dk_at dksX18_init_0 17 rfl rfl)
theorem dX18_init_20 : decode cX18_init 20 = .ok (.aload_n 0, 1) := dk_42 (dk_at dksX18_init_0 20 rfl rfl)
theorem dX18_init_21 : decode cX18_init 21 = .ok (.bipush 12, 2) := dk_16 12 (dk_at dksX18_init_0 21 rfl rfl)
theorem dX18_init_23 : decode cX18_init 23 = .ok (.newarray .int, 2) := dk_188_10 (dk_at dksX18_init_1 0 rfl rfl)
theorem dX18_init_25 : decode cX18_init 25 = .ok (.putfield 22, 3) := dk_181 0 22 (dk_at dksX18_init_1 2 rfl rfl)
theorem dX18_init_28 : decode cX18_init 28 = .ok (.aload_n 0, 1) := dk_42 (dk_at dksX18_init_1 5 rfl rfl)
theorem dX18_init_29 : decode cX18_init 29 = .ok (.bipush 12, 2) := dk_16 12 (dk_at dksX18_init_1 6 rfl rfl)
theorem dX18_init_31 : decode cX18_init 31 = .ok (.newarray .int, 2) := dk_188_10 (dk_at dksX18_init_1 8 rfl rfl)
theorem dX18_init_33 : decode cX18_init 33 = .ok (.putfield 26, 3) := dk_181 0 26 (dk_at dksX18_init_1 10 rfl rfl)
theorem dX18_init_36 : decode cX18_init 36 = .ok (.aload_n 0, 1) := dk_42 (dk_at dksX18_init_1 13 rfl rfl)
theorem dX18_init_37 : decode cX18_init 37 = .ok (.bipush 12, 2) := dk_16 12 (dk_at dksX18_init_1 14 rfl rfl)
theorem dX18_init_39 : decode cX18_init 39 = .ok (.newarray .boolean, 2) := dk_188_4 (dk_at dksX18_init_1 16 rfl rfl)
theorem dX18_init_41 : decode cX18_init 41 = .ok (.putfield 29, 3) := dk_181 0 29 (dk_at dksX18_init_1 18 rfl rfl)
theorem dX18_init_44 : decode cX18_init 44 = .ok (.return_, 1) := dk_177 (dk_at dksX18_init_1 21 rfl rfl)
abbrev cX18_keep : ByteArray := prog_9_method_2_code
def yX18_keep : MethodName := ⟨RX18, "keep", "()V"⟩
def dkwX18_keep_4 : List UInt8 := [181, 0, 60, 42, 42, 180, 0, 3, 180, 0, 63, 181, 0, 66, 177]
abbrev dktX18_keep_4 : List UInt8 := dkwX18_keep_4 ++ []
def dkwX18_keep_3 : List UInt8 := [180, 0, 3, 180, 0, 53, 27, 51, 84, 132, 1, 1, 167, 255, 202, 42, 42, 180, 0, 3, 180, 0, 56]
abbrev dktX18_keep_3 : List UInt8 := dkwX18_keep_3 ++ dktX18_keep_4
def dkwX18_keep_2 : List UInt8 := [46, 79, 42, 180, 0, 26, 27, 42, 180, 0, 3, 180, 0, 50, 27, 46, 79, 42, 180, 0, 29, 27, 42]
abbrev dktX18_keep_2 : List UInt8 := dkwX18_keep_2 ++ dktX18_keep_3
def dkwX18_keep_1 : List UInt8 := [182, 0, 43, 3, 60, 27, 16, 12, 162, 0, 54, 42, 180, 0, 22, 27, 42, 180, 0, 3, 180, 0, 47, 27]
abbrev dktX18_keep_1 : List UInt8 := dkwX18_keep_1 ++ dktX18_keep_2
def dkwX18_keep_0 : List UInt8 := [42, 42, 180, 0, 3, 180, 0, 33, 181, 0, 37, 42, 180, 0, 18, 42, 180, 0, 3, 180, 0, 40]
abbrev dktX18_keep_0 : List UInt8 := dkwX18_keep_0 ++ dktX18_keep_1
theorem dksX18_keep_0 : cX18_keep.data.toList.drop 0 = dktX18_keep_0 := by decide +kernel
theorem dksX18_keep_1 : cX18_keep.data.toList.drop 22 = dktX18_keep_1 := dk_seg dksX18_keep_0 22 rfl rfl
theorem dksX18_keep_2 : cX18_keep.data.toList.drop 46 = dktX18_keep_2 := dk_seg dksX18_keep_1 24 rfl rfl
theorem dksX18_keep_3 : cX18_keep.data.toList.drop 69 = dktX18_keep_3 := dk_seg dksX18_keep_2 23 rfl rfl
theorem dksX18_keep_4 : cX18_keep.data.toList.drop 92 = dktX18_keep_4 := dk_seg dksX18_keep_3 23 rfl rfl
theorem dX18_keep_0 : decode cX18_keep 0 = .ok (.aload_n 0, 1) := dk_42 (dk_at dksX18_keep_0 0 rfl rfl)
theorem dX18_keep_1 : decode cX18_keep 1 = .ok (.aload_n 0, 1) := dk_42 (dk_at dksX18_keep_0 1 rfl rfl)
theorem dX18_keep_2 : decode cX18_keep 2 = .ok (.getfield 3, 3) := dk_180 0 3 (dk_at dksX18_keep_0 2 rfl rfl)
theorem dX18_keep_5 : decode cX18_keep 5 = .ok (.getfield 33, 3) := dk_180 0 33 (dk_at dksX18_keep_0 5 rfl rfl)
theorem dX18_keep_8 : decode cX18_keep 8 = .ok (.putfield 37, 3) := dk_181 0 37 (dk_at dksX18_keep_0 8 rfl rfl)
theorem dX18_keep_11 : decode cX18_keep 11 = .ok (.aload_n 0, 1) := dk_42 (dk_at dksX18_keep_0 11 rfl rfl)
theorem dX18_keep_12 : decode cX18_keep 12 = .ok (.getfield 18, 3) := dk_180 0 18 (dk_at dksX18_keep_0 12 rfl rfl)
theorem dX18_keep_15 : decode cX18_keep 15 = .ok (.aload_n 0, 1) := dk_42 (dk_at dksX18_keep_0 15 rfl rfl)
theorem dX18_keep_16 : decode cX18_keep 16 = .ok (.getfield 3, 3) := dk_180 0 3 (dk_at dksX18_keep_0 16 rfl rfl)
theorem dX18_keep_19 : decode cX18_keep 19 = .ok (.getfield 40, 3) := dk_180 0 40 (dk_at dksX18_keep_0 19 rfl rfl)
theorem dX18_keep_22 : decode cX18_keep 22 = .ok (.invokevirtual 43, 3) := dk_182 0 43 (dk_at dksX18_keep_1 0 rfl rfl)
theorem dX18_keep_25 : decode cX18_keep 25 = .ok (.iconst 0, 1) := dk_3 (dk_at dksX18_keep_1 3 rfl rfl)
theorem dX18_keep_26 : decode cX18_keep 26 = .ok (.istore_n 1, 1) := dk_60 (dk_at dksX18_keep_1 4 rfl rfl)
theorem dX18_keep_27 : decode cX18_keep 27 = .ok (.iload_n 1, 1) := dk_27 (dk_at dksX18_keep_1 5 rfl rfl)
theorem dX18_keep_28 : decode cX18_keep 28 = .ok (.bipush 12, 2) := dk_16 12 (dk_at dksX18_keep_1 6 rfl rfl)
theorem dX18_keep_30 : decode cX18_keep 30 = .ok (.if_icmp .ge 54, 3) := dk_162 0 54 (dk_at dksX18_keep_1 8 rfl rfl)
theorem dX18_keep_33 : decode cX18_keep 33 = .ok (.aload_n 0, 1) := dk_42 (dk_at dksX18_keep_1 11 rfl rfl)
theorem dX18_keep_34 : decode cX18_keep 34 = .ok (.getfield 22, 3) := dk_180 0 22 (dk_at dksX18_keep_1 12 rfl rfl)
theorem dX18_keep_37 : decode cX18_keep 37 = .ok (.iload_n 1, 1) := dk_27 (dk_at dksX18_keep_1 15 rfl rfl)
theorem dX18_keep_38 : decode cX18_keep 38 = .ok (.aload_n 0, 1) := dk_42 (dk_at dksX18_keep_1 16 rfl rfl)
theorem dX18_keep_39 : decode cX18_keep 39 = .ok (.getfield 3, 3) := dk_180 0 3 (dk_at dksX18_keep_1 17 rfl rfl)
theorem dX18_keep_42 : decode cX18_keep 42 = .ok (.getfield 47, 3) := dk_180 0 47 (dk_at dksX18_keep_1 20 rfl rfl)
theorem dX18_keep_45 : decode cX18_keep 45 = .ok (.iload_n 1, 1) := dk_27 (dk_at dksX18_keep_1 23 rfl rfl)
theorem dX18_keep_46 : decode cX18_keep 46 = .ok (.iaload, 1) := dk_46 (dk_at dksX18_keep_2 0 rfl rfl)
theorem dX18_keep_47 : decode cX18_keep 47 = .ok (.iastore, 1) := dk_79 (dk_at dksX18_keep_2 1 rfl rfl)
theorem dX18_keep_48 : decode cX18_keep 48 = .ok (.aload_n 0, 1) := dk_42 (dk_at dksX18_keep_2 2 rfl rfl)
theorem dX18_keep_49 : decode cX18_keep 49 = .ok (.getfield 26, 3) := dk_180 0 26 (dk_at dksX18_keep_2 3 rfl rfl)
theorem dX18_keep_52 : decode cX18_keep 52 = .ok (.iload_n 1, 1) := dk_27 (dk_at dksX18_keep_2 6 rfl rfl)
theorem dX18_keep_53 : decode cX18_keep 53 = .ok (.aload_n 0, 1) := dk_42 (dk_at dksX18_keep_2 7 rfl rfl)
theorem dX18_keep_54 : decode cX18_keep 54 = .ok (.getfield 3, 3) := dk_180 0 3 (dk_at dksX18_keep_2 8 rfl rfl)
theorem dX18_keep_57 : decode cX18_keep 57 = .ok (.getfield 50, 3) := dk_180 0 50 (dk_at dksX18_keep_2 11 rfl rfl)
theorem dX18_keep_60 : decode cX18_keep 60 = .ok (.iload_n 1, 1) := dk_27 (dk_at dksX18_keep_2 14 rfl rfl)
theorem dX18_keep_61 : decode cX18_keep 61 = .ok (.iaload, 1) := dk_46 (dk_at dksX18_keep_2 15 rfl rfl)
theorem dX18_keep_62 : decode cX18_keep 62 = .ok (.iastore, 1) := dk_79 (dk_at dksX18_keep_2 16 rfl rfl)
theorem dX18_keep_63 : decode cX18_keep 63 = .ok (.aload_n 0, 1) := dk_42 (dk_at dksX18_keep_2 17 rfl rfl)
theorem dX18_keep_64 : decode cX18_keep 64 = .ok (.getfield 29, 3) := dk_180 0 29 (dk_at dksX18_keep_2 18 rfl rfl)
theorem dX18_keep_67 : decode cX18_keep 67 = .ok (.iload_n 1, 1) := dk_27 (dk_at dksX18_keep_2 21 rfl rfl)
theorem dX18_keep_68 : decode cX18_keep 68 = .ok (.aload_n 0, 1) := dk_42 (dk_at dksX18_keep_2 22 rfl rfl)
theorem dX18_keep_69 : decode cX18_keep 69 = .ok (.getfield 3, 3) := dk_180 0 3 (dk_at dksX18_keep_3 0 rfl rfl)
theorem dX18_keep_72 : decode cX18_keep 72 = .ok (.getfield 53, 3) := dk_180 0 53 (dk_at dksX18_keep_3 3 rfl rfl)
theorem dX18_keep_75 : decode cX18_keep 75 = .ok (.iload_n 1, 1) := dk_27 (dk_at dksX18_keep_3 6 rfl rfl)
theorem dX18_keep_76 : decode cX18_keep 76 = .ok (.baload, 1) := dk_51 (dk_at dksX18_keep_3 7 rfl rfl)
theorem dX18_keep_77 : decode cX18_keep 77 = .ok (.bastore, 1) := dk_84 (dk_at dksX18_keep_3 8 rfl rfl)
theorem dX18_keep_78 : decode cX18_keep 78 = .ok (.iinc 1 1, 3) := dk_132 1 1 (dk_at dksX18_keep_3 9 rfl rfl)
theorem dX18_keep_81 : decode cX18_keep 81 = .ok (.goto (-54), 3) := dk_167 255 202 (dk_at dksX18_keep_3 12 rfl rfl)
theorem dX18_keep_84 : decode cX18_keep 84 = .ok (.aload_n 0, 1) := dk_42 (dk_at dksX18_keep_3 15 rfl rfl)
theorem dX18_keep_85 : decode cX18_keep 85 = .ok (.aload_n 0, 1) := dk_42 (dk_at dksX18_keep_3 16 rfl rfl)
theorem dX18_keep_86 : decode cX18_keep 86 = .ok (.getfield 3, 3) := dk_180 0 3 (dk_at dksX18_keep_3 17 rfl rfl)
theorem dX18_keep_89 : decode cX18_keep 89 = .ok (.getfield 56, 3) := dk_180 0 56 (dk_at dksX18_keep_3 20 rfl rfl)
theorem dX18_keep_92 : decode cX18_keep 92 = .ok (.putfield 60, 3) := dk_181 0 60 (dk_at dksX18_keep_4 0 rfl rfl)
theorem dX18_keep_95 : decode cX18_keep 95 = .ok (.aload_n 0, 1) := dk_42 (dk_at dksX18_keep_4 3 rfl rfl)
theorem dX18_keep_96 : decode cX18_keep 96 = .ok (.aload_n 0, 1) := dk_42 (dk_at dksX18_keep_4 4 rfl rfl)
theorem dX18_keep_97 : decode cX18_keep 97 = .ok (.getfield 3, 3) := dk_180 0 3 (dk_at dksX18_keep_4 5 rfl rfl)
theorem dX18_keep_100 : decode cX18_keep 100 = .ok (.getfield 63, 3) := dk_180 0 63 (dk_at dksX18_keep_4 8 rfl rfl)
theorem dX18_keep_103 : decode cX18_keep 103 = .ok (.putfield 66, 3) := dk_181 0 66 (dk_at dksX18_keep_4 11 rfl rfl)
theorem dX18_keep_106 : decode cX18_keep 106 = .ok (.return_, 1) := dk_177 (dk_at dksX18_keep_4 14 rfl rfl)
abbrev cX18_back : ByteArray := prog_9_method_3_code
def yX18_back : MethodName := ⟨RX18, "back", "()V"⟩
def dkwX18_back_4 : List UInt8 := [181, 0, 56, 42, 180, 0, 3, 42, 180, 0, 66, 181, 0, 63, 42, 180, 0, 3, 182, 0, 69, 177]
abbrev dktX18_back_4 : List UInt8 := dkwX18_back_4 ++ []
def dkwX18_back_3 : List UInt8 := [27, 42, 180, 0, 29, 27, 51, 84, 132, 1, 1, 167, 255, 202, 42, 180, 0, 3, 42, 180, 0, 60]
abbrev dktX18_back_3 : List UInt8 := dkwX18_back_3 ++ dktX18_back_4
def dkwX18_back_2 : List UInt8 := [46, 79, 42, 180, 0, 3, 180, 0, 50, 27, 42, 180, 0, 26, 27, 46, 79, 42, 180, 0, 3, 180, 0, 53]
abbrev dktX18_back_2 : List UInt8 := dkwX18_back_2 ++ dktX18_back_3
def dkwX18_back_1 : List UInt8 := [182, 0, 43, 3, 60, 27, 16, 12, 162, 0, 54, 42, 180, 0, 3, 180, 0, 47, 27, 42, 180, 0, 22, 27]
abbrev dktX18_back_1 : List UInt8 := dkwX18_back_1 ++ dktX18_back_2
def dkwX18_back_0 : List UInt8 := [42, 180, 0, 3, 42, 180, 0, 37, 181, 0, 33, 42, 180, 0, 3, 180, 0, 40, 42, 180, 0, 18]
abbrev dktX18_back_0 : List UInt8 := dkwX18_back_0 ++ dktX18_back_1
theorem dksX18_back_0 : cX18_back.data.toList.drop 0 = dktX18_back_0 := by decide +kernel
theorem dksX18_back_1 : cX18_back.data.toList.drop 22 = dktX18_back_1 := dk_seg dksX18_back_0 22 rfl rfl
theorem dksX18_back_2 : cX18_back.data.toList.drop 46 = dktX18_back_2 := dk_seg dksX18_back_1 24 rfl rfl
theorem dksX18_back_3 : cX18_back.data.toList.drop 70 = dktX18_back_3 := dk_seg dksX18_back_2 24 rfl rfl
theorem dksX18_back_4 : cX18_back.data.toList.drop 92 = dktX18_back_4 := dk_seg dksX18_back_3 22 rfl rfl
theorem dX18_back_0 : decode cX18_back 0 = .ok (.aload_n 0, 1) := dk_42 (dk_at dksX18_back_0 0 rfl rfl)
theorem dX18_back_1 : decode cX18_back 1 = .ok (.getfield 3, 3) := dk_180 0 3 (dk_at dksX18_back_0 1 rfl rfl)
theorem dX18_back_4 : decode cX18_back 4 = .ok (.aload_n 0, 1) := dk_42 (dk_at dksX18_back_0 4 rfl rfl)
theorem dX18_back_5 : decode cX18_back 5 = .ok (.getfield 37, 3) := dk_180 0 37 (dk_at dksX18_back_0 5 rfl rfl)
theorem dX18_back_8 : decode cX18_back 8 = .ok (.putfield 33, 3) := dk_181 0 33 (dk_at dksX18_back_0 8 rfl rfl)
theorem dX18_back_11 : decode cX18_back 11 = .ok (.aload_n 0, 1) := dk_42 (dk_at dksX18_back_0 11 rfl rfl)
theorem dX18_back_12 : decode cX18_back 12 = .ok (.getfield 3, 3) := dk_180 0 3 (dk_at dksX18_back_0 12 rfl rfl)
theorem dX18_back_15 : decode cX18_back 15 = .ok (.getfield 40, 3) := dk_180 0 40 (dk_at dksX18_back_0 15 rfl rfl)
theorem dX18_back_18 : decode cX18_back 18 = .ok (.aload_n 0, 1) := dk_42 (dk_at dksX18_back_0 18 rfl rfl)
theorem dX18_back_19 : decode cX18_back 19 = .ok (.getfield 18, 3) := dk_180 0 18 (dk_at dksX18_back_0 19 rfl rfl)
theorem dX18_back_22 : decode cX18_back 22 = .ok (.invokevirtual 43, 3) := dk_182 0 43 (dk_at dksX18_back_1 0 rfl rfl)
theorem dX18_back_25 : decode cX18_back 25 = .ok (.iconst 0, 1) := dk_3 (dk_at dksX18_back_1 3 rfl rfl)
theorem dX18_back_26 : decode cX18_back 26 = .ok (.istore_n 1, 1) := dk_60 (dk_at dksX18_back_1 4 rfl rfl)
theorem dX18_back_27 : decode cX18_back 27 = .ok (.iload_n 1, 1) := dk_27 (dk_at dksX18_back_1 5 rfl rfl)
theorem dX18_back_28 : decode cX18_back 28 = .ok (.bipush 12, 2) := dk_16 12 (dk_at dksX18_back_1 6 rfl rfl)
theorem dX18_back_30 : decode cX18_back 30 = .ok (.if_icmp .ge 54, 3) := dk_162 0 54 (dk_at dksX18_back_1 8 rfl rfl)
theorem dX18_back_33 : decode cX18_back 33 = .ok (.aload_n 0, 1) := dk_42 (dk_at dksX18_back_1 11 rfl rfl)
theorem dX18_back_34 : decode cX18_back 34 = .ok (.getfield 3, 3) := dk_180 0 3 (dk_at dksX18_back_1 12 rfl rfl)
theorem dX18_back_37 : decode cX18_back 37 = .ok (.getfield 47, 3) := dk_180 0 47 (dk_at dksX18_back_1 15 rfl rfl)
theorem dX18_back_40 : decode cX18_back 40 = .ok (.iload_n 1, 1) := dk_27 (dk_at dksX18_back_1 18 rfl rfl)
theorem dX18_back_41 : decode cX18_back 41 = .ok (.aload_n 0, 1) := dk_42 (dk_at dksX18_back_1 19 rfl rfl)
theorem dX18_back_42 : decode cX18_back 42 = .ok (.getfield 22, 3) := dk_180 0 22 (dk_at dksX18_back_1 20 rfl rfl)
theorem dX18_back_45 : decode cX18_back 45 = .ok (.iload_n 1, 1) := dk_27 (dk_at dksX18_back_1 23 rfl rfl)
theorem dX18_back_46 : decode cX18_back 46 = .ok (.iaload, 1) := dk_46 (dk_at dksX18_back_2 0 rfl rfl)
theorem dX18_back_47 : decode cX18_back 47 = .ok (.iastore, 1) := dk_79 (dk_at dksX18_back_2 1 rfl rfl)
theorem dX18_back_48 : decode cX18_back 48 = .ok (.aload_n 0, 1) := dk_42 (dk_at dksX18_back_2 2 rfl rfl)
theorem dX18_back_49 : decode cX18_back 49 = .ok (.getfield 3, 3) := dk_180 0 3 (dk_at dksX18_back_2 3 rfl rfl)
theorem dX18_back_52 : decode cX18_back 52 = .ok (.getfield 50, 3) := dk_180 0 50 (dk_at dksX18_back_2 6 rfl rfl)
theorem dX18_back_55 : decode cX18_back 55 = .ok (.iload_n 1, 1) := dk_27 (dk_at dksX18_back_2 9 rfl rfl)
theorem dX18_back_56 : decode cX18_back 56 = .ok (.aload_n 0, 1) := dk_42 (dk_at dksX18_back_2 10 rfl rfl)
theorem dX18_back_57 : decode cX18_back 57 = .ok (.getfield 26, 3) := dk_180 0 26 (dk_at dksX18_back_2 11 rfl rfl)
theorem dX18_back_60 : decode cX18_back 60 = .ok (.iload_n 1, 1) := dk_27 (dk_at dksX18_back_2 14 rfl rfl)
theorem dX18_back_61 : decode cX18_back 61 = .ok (.iaload, 1) := dk_46 (dk_at dksX18_back_2 15 rfl rfl)
theorem dX18_back_62 : decode cX18_back 62 = .ok (.iastore, 1) := dk_79 (dk_at dksX18_back_2 16 rfl rfl)
theorem dX18_back_63 : decode cX18_back 63 = .ok (.aload_n 0, 1) := dk_42 (dk_at dksX18_back_2 17 rfl rfl)
theorem dX18_back_64 : decode cX18_back 64 = .ok (.getfield 3, 3) := dk_180 0 3 (dk_at dksX18_back_2 18 rfl rfl)
theorem dX18_back_67 : decode cX18_back 67 = .ok (.getfield 53, 3) := dk_180 0 53 (dk_at dksX18_back_2 21 rfl rfl)
theorem dX18_back_70 : decode cX18_back 70 = .ok (.iload_n 1, 1) := dk_27 (dk_at dksX18_back_3 0 rfl rfl)
theorem dX18_back_71 : decode cX18_back 71 = .ok (.aload_n 0, 1) := dk_42 (dk_at dksX18_back_3 1 rfl rfl)
theorem dX18_back_72 : decode cX18_back 72 = .ok (.getfield 29, 3) := dk_180 0 29 (dk_at dksX18_back_3 2 rfl rfl)
theorem dX18_back_75 : decode cX18_back 75 = .ok (.iload_n 1, 1) := dk_27 (dk_at dksX18_back_3 5 rfl rfl)
theorem dX18_back_76 : decode cX18_back 76 = .ok (.baload, 1) := dk_51 (dk_at dksX18_back_3 6 rfl rfl)
theorem dX18_back_77 : decode cX18_back 77 = .ok (.bastore, 1) := dk_84 (dk_at dksX18_back_3 7 rfl rfl)
theorem dX18_back_78 : decode cX18_back 78 = .ok (.iinc 1 1, 3) := dk_132 1 1 (dk_at dksX18_back_3 8 rfl rfl)
theorem dX18_back_81 : decode cX18_back 81 = .ok (.goto (-54), 3) := dk_167 255 202 (dk_at dksX18_back_3 11 rfl rfl)
theorem dX18_back_84 : decode cX18_back 84 = .ok (.aload_n 0, 1) := dk_42 (dk_at dksX18_back_3 14 rfl rfl)
theorem dX18_back_85 : decode cX18_back 85 = .ok (.getfield 3, 3) := dk_180 0 3 (dk_at dksX18_back_3 15 rfl rfl)
theorem dX18_back_88 : decode cX18_back 88 = .ok (.aload_n 0, 1) := dk_42 (dk_at dksX18_back_3 18 rfl rfl)
theorem dX18_back_89 : decode cX18_back 89 = .ok (.getfield 60, 3) := dk_180 0 60 (dk_at dksX18_back_3 19 rfl rfl)
theorem dX18_back_92 : decode cX18_back 92 = .ok (.putfield 56, 3) := dk_181 0 56 (dk_at dksX18_back_4 0 rfl rfl)
theorem dX18_back_95 : decode cX18_back 95 = .ok (.aload_n 0, 1) := dk_42 (dk_at dksX18_back_4 3 rfl rfl)
theorem dX18_back_96 : decode cX18_back 96 = .ok (.getfield 3, 3) := dk_180 0 3 (dk_at dksX18_back_4 4 rfl rfl)
theorem dX18_back_99 : decode cX18_back 99 = .ok (.aload_n 0, 1) := dk_42 (dk_at dksX18_back_4 7 rfl rfl)
theorem dX18_back_100 : decode cX18_back 100 = .ok (.getfield 66, 3) := dk_180 0 66 (dk_at dksX18_back_4 8 rfl rfl)
theorem dX18_back_103 : decode cX18_back 103 = .ok (.putfield 63, 3) := dk_181 0 63 (dk_at dksX18_back_4 11 rfl rfl)
theorem dX18_back_106 : decode cX18_back 106 = .ok (.aload_n 0, 1) := dk_42 (dk_at dksX18_back_4 14 rfl rfl)
theorem dX18_back_107 : decode cX18_back 107 = .ok (.getfield 3, 3) := dk_180 0 3 (dk_at dksX18_back_4 15 rfl rfl)
theorem dX18_back_110 : decode cX18_back 110 = .ok (.invokevirtual 69, 3) := dk_182 0 69 (dk_at dksX18_back_4 18 rfl rfl)
theorem dX18_back_113 : decode cX18_back 113 = .ok (.return_, 1) := dk_177 (dk_at dksX18_back_4 21 rfl rfl)
theorem q187 : (Jvm.Cond.initialized "HalfFair$Image") ∈ lw_all := lw_g (lw_at lw_m1 35 rfl) rfl
theorem q387 : (Jvm.Cond.fieldLinkNest "HalfFair$Image" (33 : Nat) "HalfFair" "fair" "LHalfFair$Fair;" "HalfFair") ∈ lw_tbl := lw_at lw_m1 235 rfl
theorem q389 : (Jvm.Cond.fieldLinkNest "HalfFair$Image" (40 : Nat) "HalfFair" "state" "LHalfFair$State;" "HalfFair") ∈ lw_tbl := lw_at lw_m1 237 rfl
theorem q399 : (Jvm.Cond.fieldLinkNest "HalfFair$Image" (47 : Nat) "HalfFair" "trialOne" "[I" "HalfFair") ∈ lw_tbl := lw_at lw_m2 7 rfl
theorem q401 : (Jvm.Cond.fieldLinkNest "HalfFair$Image" (50 : Nat) "HalfFair" "trialOther" "[I" "HalfFair") ∈ lw_tbl := lw_at lw_m2 9 rfl
theorem q403 : (Jvm.Cond.fieldLinkNest "HalfFair$Image" (53 : Nat) "HalfFair" "isFitted" "[Z" "HalfFair") ∈ lw_tbl := lw_at lw_m2 11 rfl
theorem q405 : (Jvm.Cond.fieldLinkNest "HalfFair$Image" (56 : Nat) "HalfFair" "trialMany" "I" "HalfFair") ∈ lw_tbl := lw_at lw_m2 13 rfl
theorem q407 : (Jvm.Cond.fieldLinkNest "HalfFair$Image" (63 : Nat) "HalfFair" "draw" "I" "HalfFair") ∈ lw_tbl := lw_at lw_m2 15 rfl
theorem q691 : (Jvm.Cond.selects "HalfFair$Image" ({ cls := "java/lang/Object", name := "getClass", desc := "()Ljava/lang/Class;" } : Jvm.MethodName) ({ cls := "java/lang/Object", name := "getClass", desc := "()Ljava/lang/Class;" } : Jvm.MethodName)) ∈ lw_all := lw_g (lw_at lw_m3 59 rfl) rfl
theorem q1348 : (Jvm.Cond.instantiable "HalfFair$Image" (8 : Nat)) ∈ lw_all := lw_g (lw_at lw_m5 236 rfl) rfl
theorem q1350 : (Jvm.Cond.instanceMethod ({ cls := "HalfFair$Image", name := "<init>", desc := "(LHalfFair;)V" } : Jvm.MethodName)) ∈ lw_all := lw_g (lw_at lw_m5 238 rfl) rfl
theorem q1351 : (Jvm.Cond.code ({ cls := "HalfFair$Image", name := "<init>", desc := "(LHalfFair;)V" } : Jvm.MethodName) prog_9_method_1_code (2 : Nat) (Option.none : Option Jvm.ClassFile.FieldType)) ∈ lw_all := lw_g (lw_at lw_m5 239 rfl) rfl
theorem q1352 : (Jvm.Cond.methodLink "HalfFair$Image" (9 : Nat) ({ cls := "java/lang/Object", name := "<init>", desc := "()V" } : Jvm.MethodName)) ∈ lw_all := lw_g (lw_at lw_m6 0 rfl) rfl
theorem q1353 : (Jvm.Cond.classLink "HalfFair$Image" (15 : Nat) "HalfFair$State") ∈ lw_all := lw_g (lw_at lw_m6 1 rfl) rfl
theorem q1354 : (Jvm.Cond.methodLinkNest "HalfFair$Image" (17 : Nat) ({ cls := "HalfFair$State", name := "<init>", desc := "()V" } : Jvm.MethodName) "HalfFair") ∈ lw_tbl := lw_at lw_m6 2 rfl
theorem q1355 : (Jvm.Cond.fieldLink "HalfFair$Image" (37 : Nat) "HalfFair$Image" "its" "LHalfFair$Fair;") ∈ lw_all := lw_g (lw_at lw_m6 3 rfl) rfl
theorem q1356 : (Jvm.Cond.fieldLink "HalfFair$Image" (18 : Nat) "HalfFair$Image" "stood" "LHalfFair$State;") ∈ lw_all := lw_g (lw_at lw_m6 4 rfl) rfl
theorem q1357 : (Jvm.Cond.fieldLink "HalfFair$Image" (22 : Nat) "HalfFair$Image" "one" "[I") ∈ lw_all := lw_g (lw_at lw_m6 5 rfl) rfl
theorem q1358 : (Jvm.Cond.fieldLink "HalfFair$Image" (26 : Nat) "HalfFair$Image" "other" "[I") ∈ lw_all := lw_g (lw_at lw_m6 6 rfl) rfl
theorem q1359 : (Jvm.Cond.fieldLink "HalfFair$Image" (29 : Nat) "HalfFair$Image" "isSo" "[Z") ∈ lw_all := lw_g (lw_at lw_m6 7 rfl) rfl
theorem q1360 : (Jvm.Cond.fieldLink "HalfFair$Image" (60 : Nat) "HalfFair$Image" "many" "I") ∈ lw_all := lw_g (lw_at lw_m6 8 rfl) rfl
theorem q1361 : (Jvm.Cond.fieldLink "HalfFair$Image" (66 : Nat) "HalfFair$Image" "x" "I") ∈ lw_all := lw_g (lw_at lw_m6 9 rfl) rfl
theorem q1362 : (Jvm.Cond.fieldLink "HalfFair$Image" (3 : Nat) "HalfFair$Image" "this$0" "LHalfFair;") ∈ lw_all := lw_g (lw_at lw_m6 10 rfl) rfl
theorem q1363 : (Jvm.Cond.lays "HalfFair$Image" "HalfFair$Image" "its" "LHalfFair$Fair;") ∈ lw_all := lw_g (lw_at lw_m6 11 rfl) rfl
theorem q1364 : (Jvm.Cond.soleField "HalfFair$Image" "its") ∈ lw_all := lw_g (lw_at lw_m6 12 rfl) rfl
theorem q1365 : (Jvm.Cond.laysFinal "HalfFair$Image" "HalfFair$Image" "stood" "LHalfFair$State;") ∈ lw_all := lw_g (lw_at lw_m6 13 rfl) rfl
theorem q1366 : (Jvm.Cond.soleField "HalfFair$Image" "stood") ∈ lw_all := lw_g (lw_at lw_m6 14 rfl) rfl
theorem q1367 : (Jvm.Cond.laysFinal "HalfFair$Image" "HalfFair$Image" "one" "[I") ∈ lw_all := lw_g (lw_at lw_m6 15 rfl) rfl
theorem q1368 : (Jvm.Cond.soleField "HalfFair$Image" "one") ∈ lw_all := lw_g (lw_at lw_m6 16 rfl) rfl
theorem q1369 : (Jvm.Cond.laysFinal "HalfFair$Image" "HalfFair$Image" "other" "[I") ∈ lw_all := lw_g (lw_at lw_m6 17 rfl) rfl
theorem q1370 : (Jvm.Cond.soleField "HalfFair$Image" "other") ∈ lw_all := lw_g (lw_at lw_m6 18 rfl) rfl
theorem q1371 : (Jvm.Cond.laysFinal "HalfFair$Image" "HalfFair$Image" "isSo" "[Z") ∈ lw_all := lw_g (lw_at lw_m6 19 rfl) rfl
theorem q1372 : (Jvm.Cond.soleField "HalfFair$Image" "isSo") ∈ lw_all := lw_g (lw_at lw_m6 20 rfl) rfl
theorem q1373 : (Jvm.Cond.lays "HalfFair$Image" "HalfFair$Image" "many" "I") ∈ lw_all := lw_g (lw_at lw_m6 21 rfl) rfl
theorem q1374 : (Jvm.Cond.soleField "HalfFair$Image" "many") ∈ lw_all := lw_g (lw_at lw_m6 22 rfl) rfl
theorem q1375 : (Jvm.Cond.lays "HalfFair$Image" "HalfFair$Image" "x" "I") ∈ lw_all := lw_g (lw_at lw_m6 23 rfl) rfl
theorem q1376 : (Jvm.Cond.soleField "HalfFair$Image" "x") ∈ lw_all := lw_g (lw_at lw_m6 24 rfl) rfl
theorem q1377 : (Jvm.Cond.laysFinal "HalfFair$Image" "HalfFair$Image" "this$0" "LHalfFair;") ∈ lw_all := lw_g (lw_at lw_m6 25 rfl) rfl
theorem q1378 : (Jvm.Cond.soleField "HalfFair$Image" "this$0") ∈ lw_all := lw_g (lw_at lw_m6 26 rfl) rfl
theorem q1379 : (Jvm.Cond.superclass "HalfFair$Image" "java/lang/Object") ∈ lw_all := lw_g (lw_at lw_m6 27 rfl) rfl
theorem q1381 : (Jvm.Cond.instanceMethod ({ cls := "HalfFair$Image", name := "keep", desc := "()V" } : Jvm.MethodName)) ∈ lw_all := lw_g (lw_at lw_m6 29 rfl) rfl
theorem q1382 : (Jvm.Cond.selects "HalfFair$Image" ({ cls := "HalfFair$Image", name := "keep", desc := "()V" } : Jvm.MethodName) ({ cls := "HalfFair$Image", name := "keep", desc := "()V" } : Jvm.MethodName)) ∈ lw_all := lw_g (lw_at lw_m6 30 rfl) rfl
theorem q1383 : (Jvm.Cond.code ({ cls := "HalfFair$Image", name := "keep", desc := "()V" } : Jvm.MethodName) prog_9_method_2_code (2 : Nat) (Option.none : Option Jvm.ClassFile.FieldType)) ∈ lw_all := lw_g (lw_at lw_m6 31 rfl) rfl
theorem q1384 : (Jvm.Cond.methodLink "HalfFair$Image" (43 : Nat) ({ cls := "HalfFair$State", name := "copyFrom", desc := "(LHalfFair$State;)V" } : Jvm.MethodName)) ∈ lw_all := lw_g (lw_at lw_m6 32 rfl) rfl
theorem q1390 : (Jvm.Cond.instanceMethod ({ cls := "HalfFair$Image", name := "back", desc := "()V" } : Jvm.MethodName)) ∈ lw_all := lw_g (lw_at lw_m6 38 rfl) rfl
theorem q1391 : (Jvm.Cond.selects "HalfFair$Image" ({ cls := "HalfFair$Image", name := "back", desc := "()V" } : Jvm.MethodName) ({ cls := "HalfFair$Image", name := "back", desc := "()V" } : Jvm.MethodName)) ∈ lw_all := lw_g (lw_at lw_m6 39 rfl) rfl
theorem q1392 : (Jvm.Cond.code ({ cls := "HalfFair$Image", name := "back", desc := "()V" } : Jvm.MethodName) prog_9_method_3_code (2 : Nat) (Option.none : Option Jvm.ClassFile.FieldType)) ∈ lw_all := lw_g (lw_at lw_m6 40 rfl) rfl
theorem q1393 : (Jvm.Cond.methodLinkNest "HalfFair$Image" (69 : Nat) ({ cls := "HalfFair", name := "forgets", desc := "()V" } : Jvm.MethodName) "HalfFair") ∈ lw_tbl := lw_at lw_m6 41 rfl
theorem q2042 : (Jvm.Cond.castable "HalfFair$Image" "java/lang/Object") ∈ lw_tbl := lw_at lw_m8 210 rfl
theorem in_X18 : ∀ w ∈ wsX180, w ∈ lw_all := lw_in wsX180 [1363, 1365, 1367, 1369, 1371, 1373, 1375, 1377] (by decide +kernel) (by decide +kernel)


