set_option maxRecDepth 100000
set_option maxHeartbeats 4000000
/-! opens -/
def spX4_opens (l1 : Int32) (V0 : hf_V) : Option (Int32 × hf_V) :=
  if (V0.1 13) = (10 : Int32) then (hf_b2 (spX4_fails (2 : Int32) (V0.1 8) V0) fun x5 V4 =>
  if x5 = 0 ∨ x5 = 1 then some (x5, V4) else none) else
  hf_let (hf_ui V0 13 ((V0.1 13) + (1 : Int32))) fun V1 =>
  hf_sd 400 (V1.1 16) (fun j => hf_ua V1 15 j l1) fun V2 =>
  hf_let (hf_ui V2 16 ((V2.1 16) + (1 : Int32))) fun V3 =>
  some ((1 : Int32), V3)
theorem jtX4_opens {C : hf_X} {om : Nat} {b : hf_H} (o : hf_In C cX4_opens RX4 2 (some .boolean) 1 22) (l1 : Int32) (V0 : hf_V) : hf_J C (hf_dMI om b) (spX4_opens l1 V0) (hf_M om b V0) 0 [(0, .ref om), (1, .int l1)] [] := by
  refine hr_aload_n o 0 dX4_opens_0 rfl ?_
  refine mr_get o flX4_145 dX4_opens_1 (.int (V0.1 13)) rfl ?_
  refine hr_bipush o (10 : Int32) dX4_opens_4 (by decide) ?_
  refine hr_icmp_ne o 19 dX4_opens_6 (by decide) (fun _ => ?_) (fun _ => ?_)
  · refine hr_aload_n o 0 dX4_opens_9 rfl ?_
    refine hr_iconst o (2 : Int32) dX4_opens_10 (by decide) ?_
    refine hr_aload_n o 0 dX4_opens_11 rfl ?_
    refine mr_get o flX4_81 dX4_opens_12 (.int (V0.1 8)) rfl ?_
    refine mr_callI o mvX4_102 dX4_opens_15 [.int (2 : Int32), .int (V0.1 8)] (fun zr zV ze => mtX4_fails (2 : Int32) (V0.1 8) V0 zr zV ze) rfl rfl (Nat.le_of_ble_eq_true rfl) ⟨by decide, by decide⟩ (fun x5 V4 => ?_)
    refine hr_ck (fun hz => ?_)
    exact hr_iret o dX4_opens_18 rfl (hf_nz hz)
  refine hr_aload_n o 0 dX4_opens_19 rfl ?_
  refine hr_dup o dX4_opens_20 rfl ?_
  refine mr_get o flX4_145 dX4_opens_21 (.int (V0.1 13)) rfl ?_
  refine hr_iconst o (1 : Int32) dX4_opens_24 (by decide) ?_
  refine hr_iadd o dX4_opens_25 ?_
  refine mr_putI o flX4_145 dX4_opens_26 nf_4_13 rfl rfl (fun V1 => ?_)
  refine hr_aload_n o 0 dX4_opens_29 rfl ?_
  refine mr_get o flX4_29 dX4_opens_30 (.ref (om + 7)) rfl ?_
  refine hr_aload_n o 0 dX4_opens_33 rfl ?_
  refine mr_get o flX4_148 dX4_opens_34 (.int (V1.1 16)) rfl ?_
  refine hr_iload_n o 1 dX4_opens_37 rfl ?_
  refine mr_iast o 15 7 400 rfl (by decide) rfl dX4_opens_38 (fun V2 => ?_)
  refine hr_aload_n o 0 dX4_opens_39 rfl ?_
  refine hr_dup o dX4_opens_40 rfl ?_
  refine mr_get o flX4_148 dX4_opens_41 (.int (V2.1 16)) rfl ?_
  refine hr_iconst o (1 : Int32) dX4_opens_44 (by decide) ?_
  refine hr_iadd o dX4_opens_45 ?_
  refine mr_putI o flX4_148 dX4_opens_46 nf_4_16 rfl rfl (fun V3 => ?_)
  refine hr_iconst o (1 : Int32) dX4_opens_49 (by decide) ?_
  exact hr_iret o dX4_opens_50 rfl (by decide)
theorem mtX4_opens {om : Nat} {b : hf_H} (l1 : Int32) (V0 : hf_V) (r : Int32) (V1 : hf_V) (e : spX4_opens l1 V0 = some (r, V1)) : hf_Con yX4_opens cX4_opens 2 (some .boolean) 1 22 [.ref om, .int l1] (hf_M om b V0) (.returned (some (.int r)), hf_M om b V1) := hf_entry (dec := hf_dMI om b) (by decide) [.ref om, .int l1] (Nat.le_of_ble_eq_true rfl) [(0, .ref om), (1, .int l1)] rfl e (fun C o _ => jtX4_opens o l1 V0)

/-! fact -/
theorem mvX4_184 : hf_MV RX4 184 RX4 yX4_compare cX4_compare 5 (some .boolean) 0 := ⟨lw_V q1674 q1676 qs94 q162 q1677, by decide +kernel⟩
theorem mvX4_181 : hf_MV RX4 181 RX4 yX4_opens cX4_opens 2 (some .boolean) 1 := ⟨lw_V q1670 q1672 qs93 q162 q1673, by decide +kernel⟩
def ndX4_fact_72 (k2 : Int32 → hf_V → Option (Int32 × hf_V)) (l1 : Int32) (V0 : hf_V) : Option (Int32 × hf_V) :=
  k2 l1 V0
theorem nlX4_fact_72 {C : hf_X} {om : Nat} {b : hf_H} (o : hf_In C cX4_fact RX4 3 (some .boolean) 7 154) (k2 : Int32 → hf_V → Option (Int32 × hf_V)) (hk2 : ∀ (l1 : Int32) (V0 : hf_V), hf_J C (hf_dMI om b) (k2 l1 V0) (hf_M om b V0) 2 [(0, .ref om), (1, .int l1)] []) (l1 : Int32) (V0 : hf_V) : hf_J C (hf_dMI om b) (ndX4_fact_72 k2 l1 V0) (hf_M om b V0) 72 [(0, .ref om), (1, .int l1)] [] := by
  refine hr_goto o 2 dX4_fact_72 (by decide) ?_
  exact hk2 l1 V0
def ndX4_fact_2 (k2 : Int32 → hf_V → Option (Int32 × hf_V)) (l1 : Int32) (V0 : hf_V) : Option (Int32 × hf_V) :=
  if l1 = 0 then (hf_b2 (spX4_compare V0) fun x2 V1 =>
  if x2 = 0 ∨ x2 = 1 then some (x2, V1) else none) else
  hf_b2 (spX4_see V0) fun x4 V3 =>
  hf_b2 (spX4_isWord (7237492 : Int64) V3) fun x6 V5 =>
  if x6 = 0 then (if x4 = (91 : Int32) then (hf_b2 (spX4_opens (91 : Int32) V5) fun x8 V7 =>
  if x8 = 0 then (some ((0 : Int32), V7)) else
  hf_let (hf_ui V7 8 ((V7.1 8) + (1 : Int32))) fun V9 =>
  ndX4_fact_72 k2 (1 : Int32) V9) else
  ndX4_fact_72 k2 (0 : Int32) V5) else
  hf_b2 (spX4_opens (11 : Int32) V5) fun x11 V10 =>
  if x11 = 0 then (some ((0 : Int32), V10)) else
  (spX4_passWord V10).bind fun V12 =>
  ndX4_fact_72 k2 (1 : Int32) V12
theorem nlX4_fact_2 {C : hf_X} {om : Nat} {b : hf_H} (o : hf_In C cX4_fact RX4 3 (some .boolean) 7 154) (k2 : Int32 → hf_V → Option (Int32 × hf_V)) (hk2 : ∀ (l1 : Int32) (V0 : hf_V), hf_J C (hf_dMI om b) (k2 l1 V0) (hf_M om b V0) 2 [(0, .ref om), (1, .int l1)] []) (l1 : Int32) (V0 : hf_V) : hf_J C (hf_dMI om b) (ndX4_fact_2 k2 l1 V0) (hf_M om b V0) 2 [(0, .ref om), (1, .int l1)] [] := by
  refine hr_iload_n o 1 dX4_fact_2 rfl ?_
  refine hr_if_eq o 75 dX4_fact_3 (by decide) (fun _ => ?_) (fun _ => ?_)
  · refine hr_aload_n o 0 dX4_fact_75 rfl ?_
    refine mr_callI o mvX4_184 dX4_fact_76 [] (fun zr zV ze => mtX4_compare  V0 zr zV ze) rfl rfl (Nat.le_of_ble_eq_true rfl) ⟨by decide, by decide⟩ (fun x2 V1 => ?_)
    refine hr_ck (fun hz => ?_)
    exact hr_iret o dX4_fact_79 rfl (hf_nz hz)
  refine hr_iconst o (0 : Int32) dX4_fact_6 (by decide) ?_
  refine hr_istore_n o [(1, .int (0 : Int32)), (0, .ref om)] dX4_fact_7 (by decide) rfl ?_
  refine hr_aload_n o 1 dX4_fact_8 rfl ?_
  refine mr_callI o mvX4_84 dX4_fact_9 [] (fun zr zV ze => mtX4_see  V0 zr zV ze) rfl rfl (Nat.le_of_ble_eq_true rfl) ⟨by decide, by decide⟩ (fun x4 V3 => ?_)
  refine hr_istore_n o [(2, .int x4), (1, .int (0 : Int32)), (0, .ref om)] dX4_fact_12 (by decide) rfl ?_
  refine hr_aload_n o 2 dX4_fact_13 rfl ?_
  refine hr_ldc2 o (7237492 : Int64) q1669 dX4_fact_14 ?_
  refine mr_callI o mvX4_92 dX4_fact_17 [.long (7237492 : Int64)] (fun zr zV ze => mtX4_isWord (7237492 : Int64) V3 zr zV ze) rfl rfl (Nat.le_of_ble_eq_true rfl) ⟨by decide, by decide⟩ (fun x6 V5 => ?_)
  refine hr_if_eq o 43 dX4_fact_20 (by decide) (fun _ => ?_) (fun _ => ?_)
  · refine hr_iload_n o 0 dX4_fact_43 rfl ?_
    refine hr_bipush o (91 : Int32) dX4_fact_44 (by decide) ?_
    refine hr_icmp_ne o 72 dX4_fact_46 (by decide) (fun _ => ?_) (fun _ => ?_)
    · refine hr_aload_n o 2 dX4_fact_49 rfl ?_
      refine hr_bipush o (91 : Int32) dX4_fact_50 (by decide) ?_
      refine mr_callI o mvX4_181 dX4_fact_52 [.int (91 : Int32)] (fun zr zV ze => mtX4_opens (91 : Int32) V5 zr zV ze) rfl rfl (Nat.le_of_ble_eq_true rfl) ⟨by decide, by decide⟩ (fun x8 V7 => ?_)
      refine hr_if_ne o 60 dX4_fact_55 (by decide) (fun _ => ?_) (fun _ => ?_)
      · refine hr_iconst o (0 : Int32) dX4_fact_58 (by decide) ?_
        exact hr_iret o dX4_fact_59 rfl (by decide)
      refine hr_aload_n o 2 dX4_fact_60 rfl ?_
      refine hr_dup o dX4_fact_61 rfl ?_
      refine mr_get o flX4_81 dX4_fact_62 (.int (V7.1 8)) rfl ?_
      refine hr_iconst o (1 : Int32) dX4_fact_65 (by decide) ?_
      refine hr_iadd o dX4_fact_66 ?_
      refine mr_putI o flX4_81 dX4_fact_67 nf_4_8 rfl rfl (fun V9 => ?_)
      refine hr_iconst o (1 : Int32) dX4_fact_70 (by decide) ?_
      refine hr_istore_n o [(1, .int (1 : Int32)), (2, .int x4), (0, .ref om)] dX4_fact_71 (by decide) rfl ?_
      refine hr_sub [2, 0] rfl ?_
      exact nlX4_fact_72 o k2 hk2 (1 : Int32) V9
    refine hr_sub [2, 1] rfl ?_
    exact nlX4_fact_72 o k2 hk2 (0 : Int32) V5
  refine hr_aload_n o 2 dX4_fact_23 rfl ?_
  refine hr_bipush o (11 : Int32) dX4_fact_24 (by decide) ?_
  refine mr_callI o mvX4_181 dX4_fact_26 [.int (11 : Int32)] (fun zr zV ze => mtX4_opens (11 : Int32) V5 zr zV ze) rfl rfl (Nat.le_of_ble_eq_true rfl) ⟨by decide, by decide⟩ (fun x11 V10 => ?_)
  refine hr_if_ne o 34 dX4_fact_29 (by decide) (fun _ => ?_) (fun _ => ?_)
  · refine hr_iconst o (0 : Int32) dX4_fact_32 (by decide) ?_
    exact hr_iret o dX4_fact_33 rfl (by decide)
  refine hr_aload_n o 2 dX4_fact_34 rfl ?_
  refine mr_callV o mvX4_96 dX4_fact_35 [] (fun zV ze => mtX4_passWord  V10 zV ze) rfl rfl (Nat.le_of_ble_eq_true rfl) ⟨by decide, by decide⟩ (fun V12 => ?_)
  refine hr_iconst o (1 : Int32) dX4_fact_38 (by decide) ?_
  refine hr_istore_n o [(1, .int (1 : Int32)), (2, .int x4), (0, .ref om)] dX4_fact_39 (by decide) rfl ?_
  refine hr_goto o 72 dX4_fact_40 (by decide) ?_
  refine hr_sub [2, 0] rfl ?_
  exact nlX4_fact_72 o k2 hk2 (1 : Int32) V12
def lpX4_fact_2  : Nat → Int32 → hf_V → Option (Int32 × hf_V)
  | 0 => fun _ _ => none
  | n + 1 => fun l1 V0 => ndX4_fact_2  (lpX4_fact_2  n) l1 V0
theorem llX4_fact_2 {C : hf_X} {om : Nat} {b : hf_H} (o : hf_In C cX4_fact RX4 3 (some .boolean) 7 154)   (n : Nat) : ∀ (l1 : Int32) (V0 : hf_V), hf_J C (hf_dMI om b) ((lpX4_fact_2  n) l1 V0) (hf_M om b V0) 2 [(0, .ref om), (1, .int l1)] [] := by
  induction n with
  | zero => exact fun _ _ => hr_none
  | succ n ih => exact fun l1 V0 => nlX4_fact_2 o  (lpX4_fact_2  n)  ih l1 V0
def spX4_fact  (V0 : hf_V) : Option (Int32 × hf_V) :=
  lpX4_fact_2 hf_N (1 : Int32) V0
theorem jtX4_fact {C : hf_X} {om : Nat} {b : hf_H} (o : hf_In C cX4_fact RX4 3 (some .boolean) 7 154)  (V0 : hf_V) : hf_J C (hf_dMI om b) (spX4_fact V0) (hf_M om b V0) 0 [(0, .ref om)] [] := by
  refine hr_iconst o (1 : Int32) dX4_fact_0 (by decide) ?_
  refine hr_istore_n o [(1, .int (1 : Int32)), (0, .ref om)] dX4_fact_1 (by decide) rfl ?_
  refine hr_sub [1, 0] rfl ?_
  exact llX4_fact_2 o hf_N (1 : Int32) V0
theorem mtX4_fact {om : Nat} {b : hf_H}  (V0 : hf_V) (r : Int32) (V1 : hf_V) (e : spX4_fact V0 = some (r, V1)) : hf_Con yX4_fact cX4_fact 3 (some .boolean) 7 154 [.ref om] (hf_M om b V0) (.returned (some (.int r)), hf_M om b V1) := hf_entry (dec := hf_dMI om b) (by decide) [.ref om] (Nat.le_of_ble_eq_true rfl) [(0, .ref om)] rfl e (fun C o _ => jtX4_fact o V0)

/-! tested -/
theorem mvX4_193 : hf_MV RX4 193 RX4 yX4_fact cX4_fact 3 (some .boolean) 0 := ⟨lw_V q1665 q1667 qs92 q162 q1668, by decide +kernel⟩
theorem mvX4_196 : hf_MV RX4 196 RX4 yX4_closes cX4_closes 1 (none) 0 := ⟨lw_V q1678 q1680 qs95 q162 q1681, by decide +kernel⟩
def ndX4_tested_76 (k12 : Int32 → hf_V → Option (Int32 × hf_V)) (l1 : Int32) (s0 : Int32) (V0 : hf_V) : Option (Int32 × hf_V) :=
  (spX4_passWord V0).bind fun V1 =>
  (spX4_strength s0).bind fun x2 =>
  (spX4_settles x2 V1).bind fun V3 =>
  hf_sd 400 (V3.1 16) (fun j => hf_ua V3 15 j s0) fun V4 =>
  hf_let (hf_ui V4 16 ((V4.1 16) + (1 : Int32))) fun V5 =>
  k12 l1 V5
theorem nlX4_tested_76 {C : hf_X} {om : Nat} {b : hf_H} (o : hf_In C cX4_tested RX4 3 (some .boolean) 8 176) (k12 : Int32 → hf_V → Option (Int32 × hf_V)) (hk12 : ∀ (l1 : Int32) (V0 : hf_V), hf_J C (hf_dMI om b) (k12 l1 V0) (hf_M om b V0) 12 [(0, .ref om), (1, .int l1)] []) (l1 : Int32) (s0 : Int32) (V0 : hf_V) : hf_J C (hf_dMI om b) (ndX4_tested_76 k12 l1 s0 V0) (hf_M om b V0) 76 [(0, .ref om), (1, .int l1)] [.int s0] := by
  refine hr_istore_n o [(2, .int s0), (0, .ref om), (1, .int l1)] dX4_tested_76 (by decide) rfl ?_
  refine hr_aload_n o 1 dX4_tested_77 rfl ?_
  refine mr_callV o mvX4_96 dX4_tested_78 [] (fun zV ze => mtX4_passWord  V0 zV ze) rfl rfl (Nat.le_of_ble_eq_true rfl) ⟨by decide, by decide⟩ (fun V1 => ?_)
  refine hr_aload_n o 1 dX4_tested_81 rfl ?_
  refine hr_iload_n o 0 dX4_tested_82 rfl ?_
  refine pr_callI o msX4_151 dX4_tested_83 [.int s0] (fun zr ze => mtX4_strength s0 zr ze) rfl rfl (Nat.le_of_ble_eq_true rfl) ⟨by decide, by decide⟩ (fun x2 => ?_)
  refine mr_callV o mvX4_187 dX4_tested_86 [.int x2] (fun zV ze => mtX4_settles x2 V1 zV ze) rfl rfl (Nat.le_of_ble_eq_true rfl) ⟨by decide, by decide⟩ (fun V3 => ?_)
  refine hr_aload_n o 1 dX4_tested_89 rfl ?_
  refine mr_get o flX4_29 dX4_tested_90 (.ref (om + 7)) rfl ?_
  refine hr_aload_n o 1 dX4_tested_93 rfl ?_
  refine mr_get o flX4_148 dX4_tested_94 (.int (V3.1 16)) rfl ?_
  refine hr_iload_n o 0 dX4_tested_97 rfl ?_
  refine mr_iast o 15 7 400 rfl (by decide) rfl dX4_tested_98 (fun V4 => ?_)
  refine hr_aload_n o 1 dX4_tested_99 rfl ?_
  refine hr_dup o dX4_tested_100 rfl ?_
  refine mr_get o flX4_148 dX4_tested_101 (.int (V4.1 16)) rfl ?_
  refine hr_iconst o (1 : Int32) dX4_tested_104 (by decide) ?_
  refine hr_iadd o dX4_tested_105 ?_
  refine mr_putI o flX4_148 dX4_tested_106 nf_4_16 rfl rfl (fun V5 => ?_)
  refine hr_goto o 12 dX4_tested_109 (by decide) ?_
  refine hr_sub [1, 2] rfl ?_
  exact hk12 l1 V5
def ndX4_tested_54 (k12 : Int32 → hf_V → Option (Int32 × hf_V)) (s0 : Int32) (V0 : hf_V) : Option (Int32 × hf_V) :=
  if s0 = 0 then (k12 s0 V0) else
  hf_b2 (spX4_isWord (6385252 : Int64) V0) fun x2 V1 =>
  if x2 = 0 then (ndX4_tested_76 k12 s0 (13 : Int32) V1) else
  ndX4_tested_76 k12 s0 (12 : Int32) V1
theorem nlX4_tested_54 {C : hf_X} {om : Nat} {b : hf_H} (o : hf_In C cX4_tested RX4 3 (some .boolean) 8 176) (k12 : Int32 → hf_V → Option (Int32 × hf_V)) (hk12 : ∀ (l1 : Int32) (V0 : hf_V), hf_J C (hf_dMI om b) (k12 l1 V0) (hf_M om b V0) 12 [(0, .ref om), (1, .int l1)] []) (s0 : Int32) (V0 : hf_V) : hf_J C (hf_dMI om b) (ndX4_tested_54 k12 s0 V0) (hf_M om b V0) 54 [(0, .ref om)] [.int s0] := by
  refine hr_istore_n o [(1, .int s0), (0, .ref om)] dX4_tested_54 (by decide) rfl ?_
  refine hr_iload_n o 0 dX4_tested_55 rfl ?_
  refine hr_if_eq o 12 dX4_tested_56 (by decide) (fun _ => ?_) (fun _ => ?_)
  · refine hr_sub [1, 0] rfl ?_
    exact hk12 s0 V0
  refine hr_aload_n o 1 dX4_tested_59 rfl ?_
  refine hr_ldc2 o (6385252 : Int64) q1693 dX4_tested_60 ?_
  refine mr_callI o mvX4_92 dX4_tested_63 [.long (6385252 : Int64)] (fun zr zV ze => mtX4_isWord (6385252 : Int64) V0 zr zV ze) rfl rfl (Nat.le_of_ble_eq_true rfl) ⟨by decide, by decide⟩ (fun x2 V1 => ?_)
  refine hr_if_eq o 74 dX4_tested_66 (by decide) (fun _ => ?_) (fun _ => ?_)
  · refine hr_bipush o (13 : Int32) dX4_tested_74 (by decide) ?_
    refine hr_sub [1, 0] rfl ?_
    exact nlX4_tested_76 o k12 hk12 s0 (13 : Int32) V1
  refine hr_bipush o (12 : Int32) dX4_tested_69 (by decide) ?_
  refine hr_goto o 76 dX4_tested_71 (by decide) ?_
  refine hr_sub [1, 0] rfl ?_
  exact nlX4_tested_76 o k12 hk12 s0 (12 : Int32) V1
def ndX4_tested_49 (k12 : Int32 → hf_V → Option (Int32 × hf_V))  (V0 : hf_V) : Option (Int32 × hf_V) :=
  ndX4_tested_54 k12 (1 : Int32) V0
theorem nlX4_tested_49 {C : hf_X} {om : Nat} {b : hf_H} (o : hf_In C cX4_tested RX4 3 (some .boolean) 8 176) (k12 : Int32 → hf_V → Option (Int32 × hf_V)) (hk12 : ∀ (l1 : Int32) (V0 : hf_V), hf_J C (hf_dMI om b) (k12 l1 V0) (hf_M om b V0) 12 [(0, .ref om), (1, .int l1)] [])  (V0 : hf_V) : hf_J C (hf_dMI om b) (ndX4_tested_49 k12 V0) (hf_M om b V0) 49 [(0, .ref om)] [] := by
  refine hr_iconst o (1 : Int32) dX4_tested_49 (by decide) ?_
  refine hr_goto o 54 dX4_tested_50 (by decide) ?_
  exact nlX4_tested_54 o k12 hk12 (1 : Int32) V0
def ndX4_tested_12 (k12 : Int32 → hf_V → Option (Int32 × hf_V)) (l1 : Int32) (V0 : hf_V) : Option (Int32 × hf_V) :=
  if l1 = 0 then (hf_b2 (spX4_isInside V0) fun x2 V1 =>
  if x2 = 0 then ((spX4_settles (1 : Int32) V1).bind fun V3 =>
  some ((1 : Int32), V3)) else
  hf_b2 (spX4_see V1) fun x5 V4 =>
  hf_b2 (spX4_fails (0 : Int32) (V4.1 8) V4) fun x7 V6 =>
  if x7 = 0 ∨ x7 = 1 then some (x7, V6) else none) else
  hf_b2 (spX4_fact V0) fun x9 V8 =>
  if x9 = 0 then (some ((0 : Int32), V8)) else
  (spX4_closes V8).bind fun V10 =>
  hf_b2 (spX4_isWord (6385252 : Int64) V10) fun x12 V11 =>
  if x12 = 0 then (hf_b2 (spX4_isWord (28530 : Int64) V11) fun x14 V13 =>
  if x14 = 0 then (ndX4_tested_54 k12 (0 : Int32) V13) else
  ndX4_tested_49 k12 V13) else
  ndX4_tested_49 k12 V11
theorem nlX4_tested_12 {C : hf_X} {om : Nat} {b : hf_H} (o : hf_In C cX4_tested RX4 3 (some .boolean) 8 176) (k12 : Int32 → hf_V → Option (Int32 × hf_V)) (hk12 : ∀ (l1 : Int32) (V0 : hf_V), hf_J C (hf_dMI om b) (k12 l1 V0) (hf_M om b V0) 12 [(0, .ref om), (1, .int l1)] []) (l1 : Int32) (V0 : hf_V) : hf_J C (hf_dMI om b) (ndX4_tested_12 k12 l1 V0) (hf_M om b V0) 12 [(0, .ref om), (1, .int l1)] [] := by
  refine hr_iload_n o 1 dX4_tested_12 rfl ?_
  refine hr_if_eq o 112 dX4_tested_13 (by decide) (fun _ => ?_) (fun _ => ?_)
  · refine hr_aload_n o 0 dX4_tested_112 rfl ?_
    refine mr_callI o mvX4_190 dX4_tested_113 [] (fun zr zV ze => mtX4_isInside  V0 zr zV ze) rfl rfl (Nat.le_of_ble_eq_true rfl) ⟨by decide, by decide⟩ (fun x2 V1 => ?_)
    refine hr_if_eq o 134 dX4_tested_116 (by decide) (fun _ => ?_) (fun _ => ?_)
    · refine hr_aload_n o 0 dX4_tested_134 rfl ?_
      refine hr_iconst o (1 : Int32) dX4_tested_135 (by decide) ?_
      refine mr_callV o mvX4_187 dX4_tested_136 [.int (1 : Int32)] (fun zV ze => mtX4_settles (1 : Int32) V1 zV ze) rfl rfl (Nat.le_of_ble_eq_true rfl) ⟨by decide, by decide⟩ (fun V3 => ?_)
      refine hr_iconst o (1 : Int32) dX4_tested_139 (by decide) ?_
      exact hr_iret o dX4_tested_140 rfl (by decide)
    refine hr_aload_n o 0 dX4_tested_119 rfl ?_
    refine mr_callI o mvX4_84 dX4_tested_120 [] (fun zr zV ze => mtX4_see  V1 zr zV ze) rfl rfl (Nat.le_of_ble_eq_true rfl) ⟨by decide, by decide⟩ (fun x5 V4 => ?_)
    refine hr_pop o dX4_tested_123 rfl ?_
    refine hr_aload_n o 0 dX4_tested_124 rfl ?_
    refine hr_iconst o (0 : Int32) dX4_tested_125 (by decide) ?_
    refine hr_aload_n o 0 dX4_tested_126 rfl ?_
    refine mr_get o flX4_81 dX4_tested_127 (.int (V4.1 8)) rfl ?_
    refine mr_callI o mvX4_102 dX4_tested_130 [.int (0 : Int32), .int (V4.1 8)] (fun zr zV ze => mtX4_fails (0 : Int32) (V4.1 8) V4 zr zV ze) rfl rfl (Nat.le_of_ble_eq_true rfl) ⟨by decide, by decide⟩ (fun x7 V6 => ?_)
    refine hr_ck (fun hz => ?_)
    exact hr_iret o dX4_tested_133 rfl (hf_nz hz)
  refine hr_aload_n o 0 dX4_tested_16 rfl ?_
  refine mr_callI o mvX4_193 dX4_tested_17 [] (fun zr zV ze => mtX4_fact  V0 zr zV ze) rfl rfl (Nat.le_of_ble_eq_true rfl) ⟨by decide, by decide⟩ (fun x9 V8 => ?_)
  refine hr_if_ne o 25 dX4_tested_20 (by decide) (fun _ => ?_) (fun _ => ?_)
  · refine hr_iconst o (0 : Int32) dX4_tested_23 (by decide) ?_
    exact hr_iret o dX4_tested_24 rfl (by decide)
  refine hr_aload_n o 0 dX4_tested_25 rfl ?_
  refine mr_callV o mvX4_196 dX4_tested_26 [] (fun zV ze => mtX4_closes  V8 zV ze) rfl rfl (Nat.le_of_ble_eq_true rfl) ⟨by decide, by decide⟩ (fun V10 => ?_)
  refine hr_aload_n o 0 dX4_tested_29 rfl ?_
  refine hr_ldc2 o (6385252 : Int64) q1693 dX4_tested_30 ?_
  refine mr_callI o mvX4_92 dX4_tested_33 [.long (6385252 : Int64)] (fun zr zV ze => mtX4_isWord (6385252 : Int64) V10 zr zV ze) rfl rfl (Nat.le_of_ble_eq_true rfl) ⟨by decide, by decide⟩ (fun x12 V11 => ?_)
  refine hr_if_ne o 49 dX4_tested_36 (by decide) (fun _ => ?_) (fun _ => ?_)
  · refine hr_aload_n o 0 dX4_tested_39 rfl ?_
    refine hr_ldc2 o (28530 : Int64) q1694 dX4_tested_40 ?_
    refine mr_callI o mvX4_92 dX4_tested_43 [.long (28530 : Int64)] (fun zr zV ze => mtX4_isWord (28530 : Int64) V11 zr zV ze) rfl rfl (Nat.le_of_ble_eq_true rfl) ⟨by decide, by decide⟩ (fun x14 V13 => ?_)
    refine hr_if_eq o 53 dX4_tested_46 (by decide) (fun _ => ?_) (fun _ => ?_)
    · refine hr_iconst o (0 : Int32) dX4_tested_53 (by decide) ?_
      refine hr_sub [0] rfl ?_
      exact nlX4_tested_54 o k12 hk12 (0 : Int32) V13
    refine hr_sub [0] rfl ?_
    exact nlX4_tested_49 o k12 hk12 V13
  refine hr_sub [0] rfl ?_
  exact nlX4_tested_49 o k12 hk12 V11
def lpX4_tested_12  : Nat → Int32 → hf_V → Option (Int32 × hf_V)
  | 0 => fun _ _ => none
  | n + 1 => fun l1 V0 => ndX4_tested_12  (lpX4_tested_12  n) l1 V0
theorem llX4_tested_12 {C : hf_X} {om : Nat} {b : hf_H} (o : hf_In C cX4_tested RX4 3 (some .boolean) 8 176)   (n : Nat) : ∀ (l1 : Int32) (V0 : hf_V), hf_J C (hf_dMI om b) ((lpX4_tested_12  n) l1 V0) (hf_M om b V0) 12 [(0, .ref om), (1, .int l1)] [] := by
  induction n with
  | zero => exact fun _ _ => hr_none
  | succ n ih => exact fun l1 V0 => nlX4_tested_12 o  (lpX4_tested_12  n)  ih l1 V0
def spX4_tested  (V0 : hf_V) : Option (Int32 × hf_V) :=
  hf_let (hf_ui V0 16 (0 : Int32)) fun V1 =>
  hf_let (hf_ui V1 13 (0 : Int32)) fun V2 =>
  lpX4_tested_12 hf_N (1 : Int32) V2
theorem jtX4_tested {C : hf_X} {om : Nat} {b : hf_H} (o : hf_In C cX4_tested RX4 3 (some .boolean) 8 176)  (V0 : hf_V) : hf_J C (hf_dMI om b) (spX4_tested V0) (hf_M om b V0) 0 [(0, .ref om)] [] := by
  refine hr_aload_n o 0 dX4_tested_0 rfl ?_
  refine hr_iconst o (0 : Int32) dX4_tested_1 (by decide) ?_
  refine mr_putI o flX4_148 dX4_tested_2 nf_4_16 rfl rfl (fun V1 => ?_)
  refine hr_aload_n o 0 dX4_tested_5 rfl ?_
  refine hr_iconst o (0 : Int32) dX4_tested_6 (by decide) ?_
  refine mr_putI o flX4_145 dX4_tested_7 nf_4_13 rfl rfl (fun V2 => ?_)
  refine hr_iconst o (1 : Int32) dX4_tested_10 (by decide) ?_
  refine hr_istore_n o [(1, .int (1 : Int32)), (0, .ref om)] dX4_tested_11 (by decide) rfl ?_
  refine hr_sub [1, 0] rfl ?_
  exact llX4_tested_12 o hf_N (1 : Int32) V2
theorem mtX4_tested {om : Nat} {b : hf_H}  (V0 : hf_V) (r : Int32) (V1 : hf_V) (e : spX4_tested V0 = some (r, V1)) : hf_Con yX4_tested cX4_tested 3 (some .boolean) 8 176 [.ref om] (hf_M om b V0) (.returned (some (.int r)), hf_M om b V1) := hf_entry (dec := hf_dMI om b) (by decide) [.ref om] (Nat.le_of_ble_eq_true rfl) [(0, .ref om)] rfl e (fun C o _ => jtX4_tested o V0)

/-! isDoingHere -/
theorem flX4_20 : hf_Fl RX4 20 4 5 := ⟨(RX4, TX4, 37), RX4, rfl, by decide, in_X4, tyX4_ok, nmX4, Or.inl q1405, Or.inl rfl⟩
theorem flX4_23 : hf_Fl RX4 23 4 6 := ⟨(RX4, TX4, 37), RX4, rfl, by decide, in_X4, tyX4_ok, nmX4, Or.inl q1406, Or.inl rfl⟩
theorem mvX4_205 : hf_MV RX4 205 RX4 yX4_takesWord cX4_takesWord 3 (some .boolean) 1 := ⟨lw_V q1657 q1659 qs90 q162 q1660, by decide +kernel⟩
theorem mvX4_208 : hf_MV RX4 208 RX4 yX4_tested cX4_tested 3 (some .boolean) 0 := ⟨lw_V q1661 q1663 qs91 q162 q1664, by decide +kernel⟩
def ndX4_isDoingHere_119  (l2 : Int32) (V0 : hf_V) : Option (Int32 × hf_V) :=
  (hf_ld 7 (V0.2.2.2.1 4) (V0.1 11)).bind fun x1 =>
  hf_sd 360 (l2 + (4 : Int32)) (fun j => hf_ua V0 5 j x1) fun V2 =>
  hf_let (V2.1 11) fun x3 =>
  (hf_ld 6 (V2.2.2.2.1 6) x3).bind fun x4 =>
  hf_sd 6 x3 (fun j => hf_ua V2 6 j (x4 + (1 : Int32))) fun V5 =>
  some ((1 : Int32), V5)
theorem nlX4_isDoingHere_119 {C : hf_X} {om : Nat} {b : hf_H} (o : hf_In C cX4_isDoingHere RX4 3 (some .boolean) 9 198)   (l2 : Int32) (V0 : hf_V) : hf_J C (hf_dMI om b) (ndX4_isDoingHere_119 l2 V0) (hf_M om b V0) 119 [(0, .ref om), (2, .int l2)] [] := by
  refine hr_aload_n o 0 dX4_isDoingHere_119 rfl ?_
  refine mr_get o flX4_20 dX4_isDoingHere_120 (.ref (om + 4)) rfl ?_
  refine hr_iload_n o 1 dX4_isDoingHere_123 rfl ?_
  refine hr_iconst o (4 : Int32) dX4_isDoingHere_124 (by decide) ?_
  refine hr_iadd o dX4_isDoingHere_125 ?_
  refine hr_aload_n o 0 dX4_isDoingHere_126 rfl ?_
  refine mr_get o flX4_17 dX4_isDoingHere_127 (.ref (om + 3)) rfl ?_
  refine hr_aload_n o 0 dX4_isDoingHere_130 rfl ?_
  refine mr_get o flX4_139 dX4_isDoingHere_131 (.int (V0.1 11)) rfl ?_
  refine mr_iald o 4 3 7 rfl (by decide) rfl dX4_isDoingHere_134 (fun x1 => ?_)
  refine mr_iast o 5 4 360 rfl (by decide) rfl dX4_isDoingHere_135 (fun V2 => ?_)
  refine hr_aload_n o 0 dX4_isDoingHere_136 rfl ?_
  refine mr_get o flX4_23 dX4_isDoingHere_137 (.ref (om + 5)) rfl ?_
  refine hr_aload_n o 0 dX4_isDoingHere_140 rfl ?_
  refine mr_get o flX4_139 dX4_isDoingHere_141 (.int (V2.1 11)) rfl ?_
  refine hr_nmI (fun x3 => ?_)
  refine hr_dup2 o dX4_isDoingHere_144 rfl rfl ?_
  refine mr_iald o 6 5 6 rfl (by decide) rfl dX4_isDoingHere_145 (fun x4 => ?_)
  refine hr_iconst o (1 : Int32) dX4_isDoingHere_146 (by decide) ?_
  refine hr_iadd o dX4_isDoingHere_147 ?_
  refine mr_iast o 6 5 6 rfl (by decide) rfl dX4_isDoingHere_148 (fun V5 => ?_)
  refine hr_iconst o (1 : Int32) dX4_isDoingHere_149 (by decide) ?_
  exact hr_iret o dX4_isDoingHere_150 rfl (by decide)
def spX4_isDoingHere (l1 : Int32) (V0 : hf_V) : Option (Int32 × hf_V) :=
  (spX4_passWord V0).bind fun V1 =>
  (hf_ld 6 (V1.2.2.2.1 6) (V1.1 11)).bind fun x2 =>
  hf_let (((60 : Int32) * (V1.1 11)) + ((5 : Int32) * x2)) fun x3 =>
  hf_sd 360 x3 (fun j => hf_ua V1 5 j l1) fun V4 =>
  (hf_ld 7 (V4.2.2.2.1 4) (V4.1 11)).bind fun x5 =>
  hf_sd 360 (x3 + (1 : Int32)) (fun j => hf_ua V4 5 j x5) fun V6 =>
  hf_b2 (spX4_sum V6) fun x8 V7 =>
  if x8 = 0 then (some ((0 : Int32), V7)) else
  (hf_ld 7 (V7.2.2.2.1 4) (V7.1 11)).bind fun x9 =>
  hf_sd 360 (x3 + (2 : Int32)) (fun j => hf_ua V7 5 j x9) fun V10 =>
  hf_sd 360 (x3 + (3 : Int32)) (fun j => hf_ua V10 5 j (-1 : Int32)) fun V11 =>
  hf_b2 (spX4_takesWord (26982 : Int64) V11) fun x13 V12 =>
  if x13 = 0 then (ndX4_isDoingHere_119 x3 V12) else
  (hf_ld 7 (V12.2.2.2.1 4) (V12.1 11)).bind fun x14 =>
  hf_sd 360 (x3 + (3 : Int32)) (fun j => hf_ua V12 5 j x14) fun V15 =>
  hf_b2 (spX4_tested V15) fun x17 V16 =>
  if x17 = 0 then (some ((0 : Int32), V16)) else
  ndX4_isDoingHere_119 x3 V16
theorem jtX4_isDoingHere {C : hf_X} {om : Nat} {b : hf_H} (o : hf_In C cX4_isDoingHere RX4 3 (some .boolean) 9 198) (l1 : Int32) (V0 : hf_V) : hf_J C (hf_dMI om b) (spX4_isDoingHere l1 V0) (hf_M om b V0) 0 [(0, .ref om), (1, .int l1)] [] := by
  refine hr_aload_n o 0 dX4_isDoingHere_0 rfl ?_
  refine mr_callV o mvX4_96 dX4_isDoingHere_1 [] (fun zV ze => mtX4_passWord  V0 zV ze) rfl rfl (Nat.le_of_ble_eq_true rfl) ⟨by decide, by decide⟩ (fun V1 => ?_)
  refine hr_bipush o (60 : Int32) dX4_isDoingHere_4 (by decide) ?_
  refine hr_aload_n o 0 dX4_isDoingHere_6 rfl ?_
  refine mr_get o flX4_139 dX4_isDoingHere_7 (.int (V1.1 11)) rfl ?_
  refine hr_imul o dX4_isDoingHere_10 ?_
  refine hr_iconst o (5 : Int32) dX4_isDoingHere_11 (by decide) ?_
  refine hr_aload_n o 0 dX4_isDoingHere_12 rfl ?_
  refine mr_get o flX4_23 dX4_isDoingHere_13 (.ref (om + 5)) rfl ?_
  refine hr_aload_n o 0 dX4_isDoingHere_16 rfl ?_
  refine mr_get o flX4_139 dX4_isDoingHere_17 (.int (V1.1 11)) rfl ?_
  refine mr_iald o 6 5 6 rfl (by decide) rfl dX4_isDoingHere_20 (fun x2 => ?_)
  refine hr_imul o dX4_isDoingHere_21 ?_
  refine hr_iadd o dX4_isDoingHere_22 ?_
  refine hr_nmI (fun x3 => ?_)
  refine hr_istore_n o [(2, .int x3), (0, .ref om), (1, .int l1)] dX4_isDoingHere_23 (by decide) rfl ?_
  refine hr_aload_n o 1 dX4_isDoingHere_24 rfl ?_
  refine mr_get o flX4_20 dX4_isDoingHere_25 (.ref (om + 4)) rfl ?_
  refine hr_iload_n o 0 dX4_isDoingHere_28 rfl ?_
  refine hr_iload_n o 2 dX4_isDoingHere_29 rfl ?_
  refine mr_iast o 5 4 360 rfl (by decide) rfl dX4_isDoingHere_30 (fun V4 => ?_)
  refine hr_aload_n o 1 dX4_isDoingHere_31 rfl ?_
  refine mr_get o flX4_20 dX4_isDoingHere_32 (.ref (om + 4)) rfl ?_
  refine hr_iload_n o 0 dX4_isDoingHere_35 rfl ?_
  refine hr_iconst o (1 : Int32) dX4_isDoingHere_36 (by decide) ?_
  refine hr_iadd o dX4_isDoingHere_37 ?_
  refine hr_aload_n o 1 dX4_isDoingHere_38 rfl ?_
  refine mr_get o flX4_17 dX4_isDoingHere_39 (.ref (om + 3)) rfl ?_
  refine hr_aload_n o 1 dX4_isDoingHere_42 rfl ?_
  refine mr_get o flX4_139 dX4_isDoingHere_43 (.int (V4.1 11)) rfl ?_
  refine mr_iald o 4 3 7 rfl (by decide) rfl dX4_isDoingHere_46 (fun x5 => ?_)
  refine mr_iast o 5 4 360 rfl (by decide) rfl dX4_isDoingHere_47 (fun V6 => ?_)
  refine hr_aload_n o 1 dX4_isDoingHere_48 rfl ?_
  refine mr_callI o mvX4_176 dX4_isDoingHere_49 [] (fun zr zV ze => mtX4_sum  V6 zr zV ze) rfl rfl (Nat.le_of_ble_eq_true rfl) ⟨by decide, by decide⟩ (fun x8 V7 => ?_)
  refine hr_if_ne o 57 dX4_isDoingHere_52 (by decide) (fun _ => ?_) (fun _ => ?_)
  · refine hr_iconst o (0 : Int32) dX4_isDoingHere_55 (by decide) ?_
    exact hr_iret o dX4_isDoingHere_56 rfl (by decide)
  refine hr_aload_n o 1 dX4_isDoingHere_57 rfl ?_
  refine mr_get o flX4_20 dX4_isDoingHere_58 (.ref (om + 4)) rfl ?_
  refine hr_iload_n o 0 dX4_isDoingHere_61 rfl ?_
  refine hr_iconst o (2 : Int32) dX4_isDoingHere_62 (by decide) ?_
  refine hr_iadd o dX4_isDoingHere_63 ?_
  refine hr_aload_n o 1 dX4_isDoingHere_64 rfl ?_
  refine mr_get o flX4_17 dX4_isDoingHere_65 (.ref (om + 3)) rfl ?_
  refine hr_aload_n o 1 dX4_isDoingHere_68 rfl ?_
  refine mr_get o flX4_139 dX4_isDoingHere_69 (.int (V7.1 11)) rfl ?_
  refine mr_iald o 4 3 7 rfl (by decide) rfl dX4_isDoingHere_72 (fun x9 => ?_)
  refine mr_iast o 5 4 360 rfl (by decide) rfl dX4_isDoingHere_73 (fun V10 => ?_)
  refine hr_aload_n o 1 dX4_isDoingHere_74 rfl ?_
  refine mr_get o flX4_20 dX4_isDoingHere_75 (.ref (om + 4)) rfl ?_
  refine hr_iload_n o 0 dX4_isDoingHere_78 rfl ?_
  refine hr_iconst o (3 : Int32) dX4_isDoingHere_79 (by decide) ?_
  refine hr_iadd o dX4_isDoingHere_80 ?_
  refine hr_iconst o (-1 : Int32) dX4_isDoingHere_81 (by decide) ?_
  refine mr_iast o 5 4 360 rfl (by decide) rfl dX4_isDoingHere_82 (fun V11 => ?_)
  refine hr_aload_n o 1 dX4_isDoingHere_83 rfl ?_
  refine hr_ldc2 o (26982 : Int64) q1656 dX4_isDoingHere_84 ?_
  refine mr_callI o mvX4_205 dX4_isDoingHere_87 [.long (26982 : Int64)] (fun zr zV ze => mtX4_takesWord (26982 : Int64) V11 zr zV ze) rfl rfl (Nat.le_of_ble_eq_true rfl) ⟨by decide, by decide⟩ (fun x13 V12 => ?_)
  refine hr_if_eq o 119 dX4_isDoingHere_90 (by decide) (fun _ => ?_) (fun _ => ?_)
  · refine hr_sub [1, 0] rfl ?_
    exact nlX4_isDoingHere_119 o x3 V12
  refine hr_aload_n o 1 dX4_isDoingHere_93 rfl ?_
  refine mr_get o flX4_20 dX4_isDoingHere_94 (.ref (om + 4)) rfl ?_
  refine hr_iload_n o 0 dX4_isDoingHere_97 rfl ?_
  refine hr_iconst o (3 : Int32) dX4_isDoingHere_98 (by decide) ?_
  refine hr_iadd o dX4_isDoingHere_99 ?_
  refine hr_aload_n o 1 dX4_isDoingHere_100 rfl ?_
  refine mr_get o flX4_17 dX4_isDoingHere_101 (.ref (om + 3)) rfl ?_
  refine hr_aload_n o 1 dX4_isDoingHere_104 rfl ?_
  refine mr_get o flX4_139 dX4_isDoingHere_105 (.int (V12.1 11)) rfl ?_
  refine mr_iald o 4 3 7 rfl (by decide) rfl dX4_isDoingHere_108 (fun x14 => ?_)
  refine mr_iast o 5 4 360 rfl (by decide) rfl dX4_isDoingHere_109 (fun V15 => ?_)
  refine hr_aload_n o 1 dX4_isDoingHere_110 rfl ?_
  refine mr_callI o mvX4_208 dX4_isDoingHere_111 [] (fun zr zV ze => mtX4_tested  V15 zr zV ze) rfl rfl (Nat.le_of_ble_eq_true rfl) ⟨by decide, by decide⟩ (fun x17 V16 => ?_)
  refine hr_if_ne o 119 dX4_isDoingHere_114 (by decide) (fun _ => ?_) (fun _ => ?_)
  · refine hr_iconst o (0 : Int32) dX4_isDoingHere_117 (by decide) ?_
    exact hr_iret o dX4_isDoingHere_118 rfl (by decide)
  refine hr_sub [1, 0] rfl ?_
  exact nlX4_isDoingHere_119 o x3 V16
theorem mtX4_isDoingHere {om : Nat} {b : hf_H} (l1 : Int32) (V0 : hf_V) (r : Int32) (V1 : hf_V) (e : spX4_isDoingHere l1 V0 = some (r, V1)) : hf_Con yX4_isDoingHere cX4_isDoingHere 3 (some .boolean) 9 198 [.ref om, .int l1] (hf_M om b V0) (.returned (some (.int r)), hf_M om b V1) := hf_entry (dec := hf_dMI om b) (by decide) [.ref om, .int l1] (Nat.le_of_ble_eq_true rfl) [(0, .ref om), (1, .int l1)] rfl e (fun C o _ => jtX4_isDoingHere o l1 V0)

/-! isFairWord -/
def spX4_isFairWord  (V0 : hf_V) : Option (Int32 × hf_V) :=
  hf_b2 (spX4_isWord (126943687896179 : Int64) V0) fun x2 V1 =>
  if x2 = 0 then (hf_b2 (spX4_isWord (1751215206 : Int64) V1) fun x4 V3 =>
  if x4 = 0 then (hf_b2 (spX4_isWord (112628846781796 : Int64) V3) fun x6 V5 =>
  if x6 = 0 then (hf_b2 (spX4_isWord (422877685106 : Int64) V5) fun x8 V7 =>
  if x8 = 0 then (hf_b2 (spX4_isWord (1668052322 : Int64) V7) fun x10 V9 =>
  if x10 = 0 then (hf_b2 (spX4_isWord (1852137842 : Int64) V9) fun x12 V11 =>
  if x12 = 0 then (hf_b2 (spX4_isWord (1685418859 : Int64) V11) fun x14 V13 =>
  if x14 = 0 then (hf_b2 (spX4_isWord (1751474546 : Int64) V13) fun x16 V15 =>
  if x16 = 0 then (some ((0 : Int32), V15)) else
  some ((1 : Int32), V15)) else
  some ((1 : Int32), V13)) else
  some ((1 : Int32), V11)) else
  some ((1 : Int32), V9)) else
  some ((1 : Int32), V7)) else
  some ((1 : Int32), V5)) else
  some ((1 : Int32), V3)) else
  some ((1 : Int32), V1)
theorem jtX4_isFairWord {C : hf_X} {om : Nat} {b : hf_H} (o : hf_In C cX4_isFairWord RX4 1 (some .boolean) 2 46)  (V0 : hf_V) : hf_J C (hf_dMI om b) (spX4_isFairWord V0) (hf_M om b V0) 0 [(0, .ref om)] [] := by
  refine hr_aload_n o 0 dX4_isFairWord_0 rfl ?_
  refine hr_ldc2 o (126943687896179 : Int64) q1544 dX4_isFairWord_1 ?_
  refine mr_callI o mvX4_92 dX4_isFairWord_4 [.long (126943687896179 : Int64)] (fun zr zV ze => mtX4_isWord (126943687896179 : Int64) V0 zr zV ze) rfl rfl (Nat.le_of_ble_eq_true rfl) ⟨by decide, by decide⟩ (fun x2 V1 => ?_)
  refine hr_if_ne o 80 dX4_isFairWord_7 (by decide) (fun _ => ?_) (fun _ => ?_)
  · refine hr_aload_n o 0 dX4_isFairWord_10 rfl ?_
    refine hr_ldc2 o (1751215206 : Int64) q1553 dX4_isFairWord_11 ?_
    refine mr_callI o mvX4_92 dX4_isFairWord_14 [.long (1751215206 : Int64)] (fun zr zV ze => mtX4_isWord (1751215206 : Int64) V1 zr zV ze) rfl rfl (Nat.le_of_ble_eq_true rfl) ⟨by decide, by decide⟩ (fun x4 V3 => ?_)
    refine hr_if_ne o 80 dX4_isFairWord_17 (by decide) (fun _ => ?_) (fun _ => ?_)
    · refine hr_aload_n o 0 dX4_isFairWord_20 rfl ?_
      refine hr_ldc2 o (112628846781796 : Int64) q1554 dX4_isFairWord_21 ?_
      refine mr_callI o mvX4_92 dX4_isFairWord_24 [.long (112628846781796 : Int64)] (fun zr zV ze => mtX4_isWord (112628846781796 : Int64) V3 zr zV ze) rfl rfl (Nat.le_of_ble_eq_true rfl) ⟨by decide, by decide⟩ (fun x6 V5 => ?_)
      refine hr_if_ne o 80 dX4_isFairWord_27 (by decide) (fun _ => ?_) (fun _ => ?_)
      · refine hr_aload_n o 0 dX4_isFairWord_30 rfl ?_
        refine hr_ldc2 o (422877685106 : Int64) q1555 dX4_isFairWord_31 ?_
        refine mr_callI o mvX4_92 dX4_isFairWord_34 [.long (422877685106 : Int64)] (fun zr zV ze => mtX4_isWord (422877685106 : Int64) V5 zr zV ze) rfl rfl (Nat.le_of_ble_eq_true rfl) ⟨by decide, by decide⟩ (fun x8 V7 => ?_)
        refine hr_if_ne o 80 dX4_isFairWord_37 (by decide) (fun _ => ?_) (fun _ => ?_)
        · refine hr_aload_n o 0 dX4_isFairWord_40 rfl ?_
          refine hr_ldc2 o (1668052322 : Int64) q1556 dX4_isFairWord_41 ?_
          refine mr_callI o mvX4_92 dX4_isFairWord_44 [.long (1668052322 : Int64)] (fun zr zV ze => mtX4_isWord (1668052322 : Int64) V7 zr zV ze) rfl rfl (Nat.le_of_ble_eq_true rfl) ⟨by decide, by decide⟩ (fun x10 V9 => ?_)
          refine hr_if_ne o 80 dX4_isFairWord_47 (by decide) (fun _ => ?_) (fun _ => ?_)
          · refine hr_aload_n o 0 dX4_isFairWord_50 rfl ?_
            refine hr_ldc2 o (1852137842 : Int64) q1557 dX4_isFairWord_51 ?_
            refine mr_callI o mvX4_92 dX4_isFairWord_54 [.long (1852137842 : Int64)] (fun zr zV ze => mtX4_isWord (1852137842 : Int64) V9 zr zV ze) rfl rfl (Nat.le_of_ble_eq_true rfl) ⟨by decide, by decide⟩ (fun x12 V11 => ?_)
            refine hr_if_ne o 80 dX4_isFairWord_57 (by decide) (fun _ => ?_) (fun _ => ?_)
            · refine hr_aload_n o 0 dX4_isFairWord_60 rfl ?_
              refine hr_ldc2 o (1685418859 : Int64) q1558 dX4_isFairWord_61 ?_
              refine mr_callI o mvX4_92 dX4_isFairWord_64 [.long (1685418859 : Int64)] (fun zr zV ze => mtX4_isWord (1685418859 : Int64) V11 zr zV ze) rfl rfl (Nat.le_of_ble_eq_true rfl) ⟨by decide, by decide⟩ (fun x14 V13 => ?_)
              refine hr_if_ne o 80 dX4_isFairWord_67 (by decide) (fun _ => ?_) (fun _ => ?_)
              · refine hr_aload_n o 0 dX4_isFairWord_70 rfl ?_
                refine hr_ldc2 o (1751474546 : Int64) q1559 dX4_isFairWord_71 ?_
                refine mr_callI o mvX4_92 dX4_isFairWord_74 [.long (1751474546 : Int64)] (fun zr zV ze => mtX4_isWord (1751474546 : Int64) V13 zr zV ze) rfl rfl (Nat.le_of_ble_eq_true rfl) ⟨by decide, by decide⟩ (fun x16 V15 => ?_)
                refine hr_if_eq o 84 dX4_isFairWord_77 (by decide) (fun _ => ?_) (fun _ => ?_)
                · refine hr_iconst o (0 : Int32) dX4_isFairWord_84 (by decide) ?_
                  exact hr_iret o dX4_isFairWord_85 rfl (by decide)
                refine hr_iconst o (1 : Int32) dX4_isFairWord_80 (by decide) ?_
                refine hr_goto o 85 dX4_isFairWord_81 (by decide) ?_
                exact hr_iret o dX4_isFairWord_85 rfl (by decide)
              refine hr_iconst o (1 : Int32) dX4_isFairWord_80 (by decide) ?_
              refine hr_goto o 85 dX4_isFairWord_81 (by decide) ?_
              exact hr_iret o dX4_isFairWord_85 rfl (by decide)
            refine hr_iconst o (1 : Int32) dX4_isFairWord_80 (by decide) ?_
            refine hr_goto o 85 dX4_isFairWord_81 (by decide) ?_
            exact hr_iret o dX4_isFairWord_85 rfl (by decide)
          refine hr_iconst o (1 : Int32) dX4_isFairWord_80 (by decide) ?_
          refine hr_goto o 85 dX4_isFairWord_81 (by decide) ?_
          exact hr_iret o dX4_isFairWord_85 rfl (by decide)
        refine hr_iconst o (1 : Int32) dX4_isFairWord_80 (by decide) ?_
        refine hr_goto o 85 dX4_isFairWord_81 (by decide) ?_
        exact hr_iret o dX4_isFairWord_85 rfl (by decide)
      refine hr_iconst o (1 : Int32) dX4_isFairWord_80 (by decide) ?_
      refine hr_goto o 85 dX4_isFairWord_81 (by decide) ?_
      exact hr_iret o dX4_isFairWord_85 rfl (by decide)
    refine hr_iconst o (1 : Int32) dX4_isFairWord_80 (by decide) ?_
    refine hr_goto o 85 dX4_isFairWord_81 (by decide) ?_
    exact hr_iret o dX4_isFairWord_85 rfl (by decide)
  refine hr_iconst o (1 : Int32) dX4_isFairWord_80 (by decide) ?_
  refine hr_goto o 85 dX4_isFairWord_81 (by decide) ?_
  exact hr_iret o dX4_isFairWord_85 rfl (by decide)
theorem mtX4_isFairWord {om : Nat} {b : hf_H}  (V0 : hf_V) (r : Int32) (V1 : hf_V) (e : spX4_isFairWord V0 = some (r, V1)) : hf_Con yX4_isFairWord cX4_isFairWord 1 (some .boolean) 2 46 [.ref om] (hf_M om b V0) (.returned (some (.int r)), hf_M om b V1) := hf_entry (dec := hf_dMI om b) (by decide) [.ref om] (Nat.le_of_ble_eq_true rfl) [(0, .ref om)] rfl e (fun C o _ => jtX4_isFairWord o V0)

/-! clauseHere -/
theorem mvX4_262 : hf_MV RX4 262 RX4 yX4_isDoingHere cX4_isDoingHere 3 (some .boolean) 1 := ⟨lw_V q1616 q1618 qs83 q162 q1619, by decide +kernel⟩
theorem flX4_256 : hf_Fl RX4 256 4 14 := ⟨(RX4, TX4, 37), RX4, rfl, by decide, in_X4, tyX4_ok, nmX4, Or.inl q1414, Or.inl rfl⟩
theorem nf_4_14 : hf_Nf 4 14 := ⟨(RX4, TX4, 37), rfl, rfl⟩
theorem mvX4_259 : hf_MV RX4 259 RX4 yX4_fairLineHere cX4_fairLineHere 2 (some .boolean) 1 := ⟨lw_V q1566 q1568 qs72 q162 q1569, by decide +kernel⟩
theorem mvX4_249 : hf_MV RX4 249 RX4 yX4_isFairWord cX4_isFairWord 1 (some .boolean) 0 := ⟨lw_V q1540 q1542 qs68 q162 q1543, by decide +kernel⟩
def ndX4_clauseHere_59  (l1 : Int32) (V0 : hf_V) : Option (Int32 × hf_V) :=
  hf_b2 (spX4_fails (0 : Int32) l1 V0) fun x2 V1 =>
  if x2 = 0 ∨ x2 = 1 then some (x2, V1) else none
theorem nlX4_clauseHere_59 {C : hf_X} {om : Nat} {b : hf_H} (o : hf_In C cX4_clauseHere RX4 3 (some .boolean) 10 220)   (l1 : Int32) (V0 : hf_V) : hf_J C (hf_dMI om b) (ndX4_clauseHere_59 l1 V0) (hf_M om b V0) 59 [(0, .ref om), (1, .int l1)] [] := by
  refine hr_aload_n o 0 dX4_clauseHere_59 rfl ?_
  refine hr_iconst o (0 : Int32) dX4_clauseHere_60 (by decide) ?_
  refine hr_iload_n o 1 dX4_clauseHere_61 rfl ?_
  refine mr_callI o mvX4_102 dX4_clauseHere_62 [.int (0 : Int32), .int l1] (fun zr zV ze => mtX4_fails (0 : Int32) l1 V0 zr zV ze) rfl rfl (Nat.le_of_ble_eq_true rfl) ⟨by decide, by decide⟩ (fun x2 V1 => ?_)
  refine hr_ck (fun hz => ?_)
  exact hr_iret o dX4_clauseHere_65 rfl (hf_nz hz)
def ndX4_clauseHere_129  (s1 : Int32) (V0 : hf_V) : Option (Int32 × hf_V) :=
  hf_b2 (spX4_isDoingHere s1 V0) fun x2 V1 =>
  if x2 = 0 ∨ x2 = 1 then some (x2, V1) else none
theorem nlX4_clauseHere_129 {C : hf_X} {om : Nat} {b : hf_H} (o : hf_In C cX4_clauseHere RX4 3 (some .boolean) 10 220)   (s1 : Int32) (V0 : hf_V) : hf_J C (hf_dMI om b) (ndX4_clauseHere_129 s1 V0) (hf_M om b V0) 129 [] [.int s1, .ref om] := by
  refine mr_callI o mvX4_262 dX4_clauseHere_129 [.int s1] (fun zr zV ze => mtX4_isDoingHere s1 V0 zr zV ze) rfl rfl (Nat.le_of_ble_eq_true rfl) ⟨by decide, by decide⟩ (fun x2 V1 => ?_)
  refine hr_ck (fun hz => ?_)
  exact hr_iret o dX4_clauseHere_132 rfl (hf_nz hz)
def ndX4_clauseHere_81  (l1 : Int32) (l2 : Int32) (s0 : Int32) (s1 : Int32) (V0 : hf_V) : Option (Int32 × hf_V) :=
  if s0 = s1 then (hf_b2 (spX4_fails (4 : Int32) l1 V0) fun x7 V6 =>
  if x7 = 0 ∨ x7 = 1 then some (x7, V6) else none) else
  hf_let (hf_ui V0 14 ((V0.1 14) + (1 : Int32))) fun V1 =>
  if l2 = 0 then (hf_b2 (spX4_isWord (6452601 : Int64) V1) fun x3 V2 =>
  if x3 = 0 then (ndX4_clauseHere_129 (1 : Int32) V2) else
  ndX4_clauseHere_129 (0 : Int32) V2) else
  hf_b2 (spX4_fairLineHere l1 V1) fun x5 V4 =>
  if x5 = 0 ∨ x5 = 1 then some (x5, V4) else none
theorem nlX4_clauseHere_81 {C : hf_X} {om : Nat} {b : hf_H} (o : hf_In C cX4_clauseHere RX4 3 (some .boolean) 10 220)   (l1 : Int32) (l2 : Int32) (s0 : Int32) (s1 : Int32) (V0 : hf_V) : hf_J C (hf_dMI om b) (ndX4_clauseHere_81 l1 l2 s0 s1 V0) (hf_M om b V0) 81 [(0, .ref om), (1, .int l1), (2, .int l2)] [.int s1, .int s0] := by
  refine hr_icmp_ne o 91 dX4_clauseHere_81 (by decide) (fun _ => ?_) (fun _ => ?_)
  · refine hr_aload_n o 0 dX4_clauseHere_84 rfl ?_
    refine hr_iconst o (4 : Int32) dX4_clauseHere_85 (by decide) ?_
    refine hr_iload_n o 1 dX4_clauseHere_86 rfl ?_
    refine mr_callI o mvX4_102 dX4_clauseHere_87 [.int (4 : Int32), .int l1] (fun zr zV ze => mtX4_fails (4 : Int32) l1 V0 zr zV ze) rfl rfl (Nat.le_of_ble_eq_true rfl) ⟨by decide, by decide⟩ (fun x7 V6 => ?_)
    refine hr_ck (fun hz => ?_)
    exact hr_iret o dX4_clauseHere_90 rfl (hf_nz hz)
  refine hr_aload_n o 0 dX4_clauseHere_91 rfl ?_
  refine hr_dup o dX4_clauseHere_92 rfl ?_
  refine mr_get o flX4_256 dX4_clauseHere_93 (.int (V0.1 14)) rfl ?_
  refine hr_iconst o (1 : Int32) dX4_clauseHere_96 (by decide) ?_
  refine hr_iadd o dX4_clauseHere_97 ?_
  refine mr_putI o flX4_256 dX4_clauseHere_98 nf_4_14 rfl rfl (fun V1 => ?_)
  refine hr_iload_n o 2 dX4_clauseHere_101 rfl ?_
  refine hr_if_eq o 113 dX4_clauseHere_102 (by decide) (fun _ => ?_) (fun _ => ?_)
  · refine hr_aload_n o 0 dX4_clauseHere_113 rfl ?_
    refine hr_aload_n o 0 dX4_clauseHere_114 rfl ?_
    refine hr_ldc2 o (6452601 : Int64) q1560 dX4_clauseHere_115 ?_
    refine mr_callI o mvX4_92 dX4_clauseHere_118 [.long (6452601 : Int64)] (fun zr zV ze => mtX4_isWord (6452601 : Int64) V1 zr zV ze) rfl rfl (Nat.le_of_ble_eq_true rfl) ⟨by decide, by decide⟩ (fun x3 V2 => ?_)
    refine hr_if_eq o 128 dX4_clauseHere_121 (by decide) (fun _ => ?_) (fun _ => ?_)
    · refine hr_iconst o (1 : Int32) dX4_clauseHere_128 (by decide) ?_
      refine hr_sub [] rfl ?_
      exact nlX4_clauseHere_129 o (1 : Int32) V2
    refine hr_iconst o (0 : Int32) dX4_clauseHere_124 (by decide) ?_
    refine hr_goto o 129 dX4_clauseHere_125 (by decide) ?_
    refine hr_sub [] rfl ?_
    exact nlX4_clauseHere_129 o (0 : Int32) V2
  refine hr_aload_n o 0 dX4_clauseHere_105 rfl ?_
  refine hr_iload_n o 1 dX4_clauseHere_106 rfl ?_
  refine mr_callI o mvX4_259 dX4_clauseHere_107 [.int l1] (fun zr zV ze => mtX4_fairLineHere l1 V1 zr zV ze) rfl rfl (Nat.le_of_ble_eq_true rfl) ⟨by decide, by decide⟩ (fun x5 V4 => ?_)
  refine hr_goto o 132 dX4_clauseHere_110 (by decide) ?_
  refine hr_ck (fun hz => ?_)
  exact hr_iret o dX4_clauseHere_132 rfl (hf_nz hz)
def ndX4_clauseHere_66  (l1 : Int32) (l2 : Int32) (V0 : hf_V) : Option (Int32 × hf_V) :=
  if l2 = 0 then (ndX4_clauseHere_81 l1 l2 (V0.1 14) (12 : Int32) V0) else
  ndX4_clauseHere_81 l1 l2 (V0.1 14) (40 : Int32) V0
theorem nlX4_clauseHere_66 {C : hf_X} {om : Nat} {b : hf_H} (o : hf_In C cX4_clauseHere RX4 3 (some .boolean) 10 220)   (l1 : Int32) (l2 : Int32) (V0 : hf_V) : hf_J C (hf_dMI om b) (ndX4_clauseHere_66 l1 l2 V0) (hf_M om b V0) 66 [(0, .ref om), (1, .int l1), (2, .int l2)] [] := by
  refine hr_aload_n o 0 dX4_clauseHere_66 rfl ?_
  refine mr_get o flX4_256 dX4_clauseHere_67 (.int (V0.1 14)) rfl ?_
  refine hr_iload_n o 2 dX4_clauseHere_70 rfl ?_
  refine hr_if_eq o 79 dX4_clauseHere_71 (by decide) (fun _ => ?_) (fun _ => ?_)
  · refine hr_bipush o (12 : Int32) dX4_clauseHere_79 (by decide) ?_
    exact nlX4_clauseHere_81 o l1 l2 (V0.1 14) (12 : Int32) V0
  refine hr_bipush o (40 : Int32) dX4_clauseHere_74 (by decide) ?_
  refine hr_goto o 81 dX4_clauseHere_76 (by decide) ?_
  exact nlX4_clauseHere_81 o l1 l2 (V0.1 14) (40 : Int32) V0
def ndX4_clauseHere_24  (l1 : Int32) (s0 : Int32) (V0 : hf_V) : Option (Int32 × hf_V) :=
  if s0 = 0 then (hf_b2 (spX4_isWord (6452601 : Int64) V0) fun x2 V1 =>
  if x2 = 0 then (hf_b2 (spX4_isWord (26479 : Int64) V1) fun x4 V3 =>
  if x4 = 0 then (ndX4_clauseHere_59 l1 V3) else
  ndX4_clauseHere_66 l1 s0 V3) else
  ndX4_clauseHere_66 l1 s0 V1) else
  hf_b2 (spX4_isFairWord V0) fun x6 V5 =>
  if x6 = 0 then (ndX4_clauseHere_59 l1 V5) else
  ndX4_clauseHere_66 l1 s0 V5
theorem nlX4_clauseHere_24 {C : hf_X} {om : Nat} {b : hf_H} (o : hf_In C cX4_clauseHere RX4 3 (some .boolean) 10 220)   (l1 : Int32) (s0 : Int32) (V0 : hf_V) : hf_J C (hf_dMI om b) (ndX4_clauseHere_24 l1 s0 V0) (hf_M om b V0) 24 [(0, .ref om), (1, .int l1)] [.int s0] := by
  refine hr_istore_n o [(2, .int s0), (0, .ref om), (1, .int l1)] dX4_clauseHere_24 (by decide) rfl ?_
  refine hr_iload_n o 0 dX4_clauseHere_25 rfl ?_
  refine hr_if_eq o 39 dX4_clauseHere_26 (by decide) (fun _ => ?_) (fun _ => ?_)
  · refine hr_aload_n o 1 dX4_clauseHere_39 rfl ?_
    refine hr_ldc2 o (6452601 : Int64) q1560 dX4_clauseHere_40 ?_
    refine mr_callI o mvX4_92 dX4_clauseHere_43 [.long (6452601 : Int64)] (fun zr zV ze => mtX4_isWord (6452601 : Int64) V0 zr zV ze) rfl rfl (Nat.le_of_ble_eq_true rfl) ⟨by decide, by decide⟩ (fun x2 V1 => ?_)
    refine hr_if_ne o 66 dX4_clauseHere_46 (by decide) (fun _ => ?_) (fun _ => ?_)
    · refine hr_aload_n o 1 dX4_clauseHere_49 rfl ?_
      refine hr_ldc2 o (26479 : Int64) q1561 dX4_clauseHere_50 ?_
      refine mr_callI o mvX4_92 dX4_clauseHere_53 [.long (26479 : Int64)] (fun zr zV ze => mtX4_isWord (26479 : Int64) V1 zr zV ze) rfl rfl (Nat.le_of_ble_eq_true rfl) ⟨by decide, by decide⟩ (fun x4 V3 => ?_)
      refine hr_if_ne o 66 dX4_clauseHere_56 (by decide) (fun _ => ?_) (fun _ => ?_)
      · refine hr_sub [1, 2] rfl ?_
        exact nlX4_clauseHere_59 o l1 V3
      refine hr_sub [1, 2, 0] rfl ?_
      exact nlX4_clauseHere_66 o l1 s0 V3
    refine hr_sub [1, 2, 0] rfl ?_
    exact nlX4_clauseHere_66 o l1 s0 V1
  refine hr_aload_n o 1 dX4_clauseHere_29 rfl ?_
  refine mr_callI o mvX4_249 dX4_clauseHere_30 [] (fun zr zV ze => mtX4_isFairWord  V0 zr zV ze) rfl rfl (Nat.le_of_ble_eq_true rfl) ⟨by decide, by decide⟩ (fun x6 V5 => ?_)
  refine hr_if_ne o 66 dX4_clauseHere_33 (by decide) (fun _ => ?_) (fun _ => ?_)
  · refine hr_goto o 59 dX4_clauseHere_36 (by decide) ?_
    refine hr_sub [1, 2] rfl ?_
    exact nlX4_clauseHere_59 o l1 V5
  refine hr_sub [1, 2, 0] rfl ?_
  exact nlX4_clauseHere_66 o l1 s0 V5
def spX4_clauseHere  (V0 : hf_V) : Option (Int32 × hf_V) :=
  hf_b2 (spX4_see V0) fun x2 V1 =>
  hf_let (V1.1 8) fun x3 =>
  if (V1.1 11) = (6 : Int32) then (ndX4_clauseHere_24 x3 (1 : Int32) V1) else
  ndX4_clauseHere_24 x3 (0 : Int32) V1
theorem jtX4_clauseHere {C : hf_X} {om : Nat} {b : hf_H} (o : hf_In C cX4_clauseHere RX4 3 (some .boolean) 10 220)  (V0 : hf_V) : hf_J C (hf_dMI om b) (spX4_clauseHere V0) (hf_M om b V0) 0 [(0, .ref om)] [] := by
  refine hr_aload_n o 0 dX4_clauseHere_0 rfl ?_
  refine mr_callI o mvX4_84 dX4_clauseHere_1 [] (fun zr zV ze => mtX4_see  V0 zr zV ze) rfl rfl (Nat.le_of_ble_eq_true rfl) ⟨by decide, by decide⟩ (fun x2 V1 => ?_)
  refine hr_pop o dX4_clauseHere_4 rfl ?_
  refine hr_aload_n o 0 dX4_clauseHere_5 rfl ?_
  refine mr_get o flX4_81 dX4_clauseHere_6 (.int (V1.1 8)) rfl ?_
  refine hr_nmI (fun x3 => ?_)
  refine hr_istore_n o [(1, .int x3), (0, .ref om)] dX4_clauseHere_9 (by decide) rfl ?_
  refine hr_aload_n o 1 dX4_clauseHere_10 rfl ?_
  refine mr_get o flX4_139 dX4_clauseHere_11 (.int (V1.1 11)) rfl ?_
  refine hr_bipush o (6 : Int32) dX4_clauseHere_14 (by decide) ?_
  refine hr_icmp_ne o 23 dX4_clauseHere_16 (by decide) (fun _ => ?_) (fun _ => ?_)
  · refine hr_iconst o (1 : Int32) dX4_clauseHere_19 (by decide) ?_
    refine hr_goto o 24 dX4_clauseHere_20 (by decide) ?_
    refine hr_sub [1, 0] rfl ?_
    exact nlX4_clauseHere_24 o x3 (1 : Int32) V1
  refine hr_iconst o (0 : Int32) dX4_clauseHere_23 (by decide) ?_
  refine hr_sub [1, 0] rfl ?_
  exact nlX4_clauseHere_24 o x3 (0 : Int32) V1
theorem mtX4_clauseHere {om : Nat} {b : hf_H}  (V0 : hf_V) (r : Int32) (V1 : hf_V) (e : spX4_clauseHere V0 = some (r, V1)) : hf_Con yX4_clauseHere cX4_clauseHere 3 (some .boolean) 10 220 [.ref om] (hf_M om b V0) (.returned (some (.int r)), hf_M om b V1) := hf_entry (dec := hf_dMI om b) (by decide) [.ref om] (Nat.le_of_ble_eq_true rfl) [(0, .ref om)] rfl e (fun C o _ => jtX4_clauseHere o V0)

/-! readsAll -/
theorem mvX4_265 : hf_MV RX4 265 RX4 yX4_clauseHere cX4_clauseHere 3 (some .boolean) 0 := ⟨lw_V q1532 q1534 qs66 q162 q1535, by decide +kernel⟩
def ndX4_readsAll_88   (V0 : hf_V) : Option (Int32 × hf_V) :=
  hf_let (hf_ui V0 1 (0 : Int32)) fun V1 =>
  if (V1.1 9) = 0 then (some ((1 : Int32), V1)) else
  some ((0 : Int32), V1)
theorem nlX4_readsAll_88 {C : hf_X} {om : Nat} {b : hf_H} (o : hf_In C cX4_readsAll RX4 2 (some .boolean) 11 242)    (V0 : hf_V) : hf_J C (hf_dMI om b) (ndX4_readsAll_88 V0) (hf_M om b V0) 88 [(0, .ref om)] [] := by
  refine hr_aload_n o 0 dX4_readsAll_88 rfl ?_
  refine hr_iconst o (0 : Int32) dX4_readsAll_89 (by decide) ?_
  refine mr_putI o flX4_70 dX4_readsAll_90 nf_4_1 rfl rfl (fun V1 => ?_)
  refine hr_aload_n o 0 dX4_readsAll_93 rfl ?_
  refine mr_get o flX4_78 dX4_readsAll_94 (.int (V1.1 9)) rfl ?_
  refine hr_if_ne o 104 dX4_readsAll_97 (by decide) (fun _ => ?_) (fun _ => ?_)
  · refine hr_iconst o (1 : Int32) dX4_readsAll_100 (by decide) ?_
    refine hr_goto o 105 dX4_readsAll_101 (by decide) ?_
    exact hr_iret o dX4_readsAll_105 rfl (by decide)
  refine hr_iconst o (0 : Int32) dX4_readsAll_104 (by decide) ?_
  exact hr_iret o dX4_readsAll_105 rfl (by decide)
def ndX4_readsAll_66  (l1 : Int32) (V0 : hf_V) : Option (Int32 × hf_V) :=
  if l1 = 0 then (ndX4_readsAll_88 V0) else
  hf_b2 (spX4_see V0) fun x2 V1 =>
  if x2 = (-1 : Int32) then (ndX4_readsAll_88 V1) else
  hf_b2 (spX4_fails (0 : Int32) (V1.1 8) V1) fun x4 V3 =>
  ndX4_readsAll_88 V3
theorem nlX4_readsAll_66 {C : hf_X} {om : Nat} {b : hf_H} (o : hf_In C cX4_readsAll RX4 2 (some .boolean) 11 242)   (l1 : Int32) (V0 : hf_V) : hf_J C (hf_dMI om b) (ndX4_readsAll_66 l1 V0) (hf_M om b V0) 66 [(0, .ref om), (1, .int l1)] [] := by
  refine hr_iload_n o 1 dX4_readsAll_66 rfl ?_
  refine hr_if_eq o 88 dX4_readsAll_67 (by decide) (fun _ => ?_) (fun _ => ?_)
  · refine hr_sub [0] rfl ?_
    exact nlX4_readsAll_88 o V0
  refine hr_aload_n o 0 dX4_readsAll_70 rfl ?_
  refine mr_callI o mvX4_84 dX4_readsAll_71 [] (fun zr zV ze => mtX4_see  V0 zr zV ze) rfl rfl (Nat.le_of_ble_eq_true rfl) ⟨by decide, by decide⟩ (fun x2 V1 => ?_)
  refine hr_iconst o (-1 : Int32) dX4_readsAll_74 (by decide) ?_
  refine hr_icmp_eq o 88 dX4_readsAll_75 (by decide) (fun _ => ?_) (fun _ => ?_)
  · refine hr_sub [0] rfl ?_
    exact nlX4_readsAll_88 o V1
  refine hr_aload_n o 0 dX4_readsAll_78 rfl ?_
  refine hr_iconst o (0 : Int32) dX4_readsAll_79 (by decide) ?_
  refine hr_aload_n o 0 dX4_readsAll_80 rfl ?_
  refine mr_get o flX4_81 dX4_readsAll_81 (.int (V1.1 8)) rfl ?_
  refine mr_callI o mvX4_102 dX4_readsAll_84 [.int (0 : Int32), .int (V1.1 8)] (fun zr zV ze => mtX4_fails (0 : Int32) (V1.1 8) V1 zr zV ze) rfl rfl (Nat.le_of_ble_eq_true rfl) ⟨by decide, by decide⟩ (fun x4 V3 => ?_)
  refine hr_pop o dX4_readsAll_87 rfl ?_
  refine hr_sub [0] rfl ?_
  exact nlX4_readsAll_88 o V3
def ndX4_readsAll_35 (k35 : Int32 → hf_V → Option (Int32 × hf_V)) (l1 : Int32) (V0 : hf_V) : Option (Int32 × hf_V) :=
  if l1 = 0 then (ndX4_readsAll_66 l1 V0) else
  hf_b2 (spX4_see V0) fun x2 V1 =>
  if x2 = (59 : Int32) then (hf_let (hf_ui V1 8 ((V1.1 8) + (1 : Int32))) fun V3 =>
  hf_b2 (spX4_clauseHere V3) fun x5 V4 =>
  k35 x5 V4) else
  ndX4_readsAll_66 l1 V1
theorem nlX4_readsAll_35 {C : hf_X} {om : Nat} {b : hf_H} (o : hf_In C cX4_readsAll RX4 2 (some .boolean) 11 242) (k35 : Int32 → hf_V → Option (Int32 × hf_V)) (hk35 : ∀ (l1 : Int32) (V0 : hf_V), hf_J C (hf_dMI om b) (k35 l1 V0) (hf_M om b V0) 35 [(0, .ref om), (1, .int l1)] []) (l1 : Int32) (V0 : hf_V) : hf_J C (hf_dMI om b) (ndX4_readsAll_35 k35 l1 V0) (hf_M om b V0) 35 [(0, .ref om), (1, .int l1)] [] := by
  refine hr_iload_n o 1 dX4_readsAll_35 rfl ?_
  refine hr_if_eq o 66 dX4_readsAll_36 (by decide) (fun _ => ?_) (fun _ => ?_)
  · exact nlX4_readsAll_66 o l1 V0
  refine hr_aload_n o 0 dX4_readsAll_39 rfl ?_
  refine mr_callI o mvX4_84 dX4_readsAll_40 [] (fun zr zV ze => mtX4_see  V0 zr zV ze) rfl rfl (Nat.le_of_ble_eq_true rfl) ⟨by decide, by decide⟩ (fun x2 V1 => ?_)
  refine hr_bipush o (59 : Int32) dX4_readsAll_43 (by decide) ?_
  refine hr_icmp_ne o 66 dX4_readsAll_45 (by decide) (fun _ => ?_) (fun _ => ?_)
  · refine hr_aload_n o 0 dX4_readsAll_48 rfl ?_
    refine hr_dup o dX4_readsAll_49 rfl ?_
    refine mr_get o flX4_81 dX4_readsAll_50 (.int (V1.1 8)) rfl ?_
    refine hr_iconst o (1 : Int32) dX4_readsAll_53 (by decide) ?_
    refine hr_iadd o dX4_readsAll_54 ?_
    refine mr_putI o flX4_81 dX4_readsAll_55 nf_4_8 rfl rfl (fun V3 => ?_)
    refine hr_aload_n o 0 dX4_readsAll_58 rfl ?_
    refine mr_callI o mvX4_265 dX4_readsAll_59 [] (fun zr zV ze => mtX4_clauseHere  V3 zr zV ze) rfl rfl (Nat.le_of_ble_eq_true rfl) ⟨by decide, by decide⟩ (fun x5 V4 => ?_)
    refine hr_istore_n o [(1, .int x5), (0, .ref om)] dX4_readsAll_62 (by decide) rfl ?_
    refine hr_goto o 35 dX4_readsAll_63 (by decide) ?_
    refine hr_sub [1, 0] rfl ?_
    exact hk35 x5 V4
  exact nlX4_readsAll_66 o l1 V1
def lpX4_readsAll_35  : Nat → Int32 → hf_V → Option (Int32 × hf_V)
  | 0 => fun _ _ => none
  | n + 1 => fun l1 V0 => ndX4_readsAll_35  (lpX4_readsAll_35  n) l1 V0
theorem llX4_readsAll_35 {C : hf_X} {om : Nat} {b : hf_H} (o : hf_In C cX4_readsAll RX4 2 (some .boolean) 11 242)   (n : Nat) : ∀ (l1 : Int32) (V0 : hf_V), hf_J C (hf_dMI om b) ((lpX4_readsAll_35  n) l1 V0) (hf_M om b V0) 35 [(0, .ref om), (1, .int l1)] [] := by
  induction n with
  | zero => exact fun _ _ => hr_none
  | succ n ih => exact fun l1 V0 => nlX4_readsAll_35 o  (lpX4_readsAll_35  n)  ih l1 V0
def spX4_readsAll  (V0 : hf_V) : Option (Int32 × hf_V) :=
  hf_sd 7 (V0.1 11) (fun j => hf_ua V0 4 j (0 : Int32)) fun V1 =>
  hf_let (hf_ui V1 14 (0 : Int32)) fun V2 =>
  hf_let (hf_ui V2 8 (0 : Int32)) fun V3 =>
  hf_let (hf_ui V3 9 (0 : Int32)) fun V4 =>
  hf_let (hf_ui V4 12 (0 : Int32)) fun V5 =>
  hf_b2 (spX4_clauseHere V5) fun x7 V6 =>
  lpX4_readsAll_35 hf_N x7 V6
theorem jtX4_readsAll {C : hf_X} {om : Nat} {b : hf_H} (o : hf_In C cX4_readsAll RX4 2 (some .boolean) 11 242)  (V0 : hf_V) : hf_J C (hf_dMI om b) (spX4_readsAll V0) (hf_M om b V0) 0 [(0, .ref om)] [] := by
  refine hr_aload_n o 0 dX4_readsAll_0 rfl ?_
  refine mr_get o flX4_17 dX4_readsAll_1 (.ref (om + 3)) rfl ?_
  refine hr_aload_n o 0 dX4_readsAll_4 rfl ?_
  refine mr_get o flX4_139 dX4_readsAll_5 (.int (V0.1 11)) rfl ?_
  refine hr_iconst o (0 : Int32) dX4_readsAll_8 (by decide) ?_
  refine mr_iast o 4 3 7 rfl (by decide) rfl dX4_readsAll_9 (fun V1 => ?_)
  refine hr_aload_n o 0 dX4_readsAll_10 rfl ?_
  refine hr_iconst o (0 : Int32) dX4_readsAll_11 (by decide) ?_
  refine mr_putI o flX4_256 dX4_readsAll_12 nf_4_14 rfl rfl (fun V2 => ?_)
  refine hr_aload_n o 0 dX4_readsAll_15 rfl ?_
  refine hr_iconst o (0 : Int32) dX4_readsAll_16 (by decide) ?_
  refine mr_putI o flX4_81 dX4_readsAll_17 nf_4_8 rfl rfl (fun V3 => ?_)
  refine hr_aload_n o 0 dX4_readsAll_20 rfl ?_
  refine hr_iconst o (0 : Int32) dX4_readsAll_21 (by decide) ?_
  refine mr_putI o flX4_78 dX4_readsAll_22 nf_4_9 rfl rfl (fun V4 => ?_)
  refine hr_aload_n o 0 dX4_readsAll_25 rfl ?_
  refine hr_iconst o (0 : Int32) dX4_readsAll_26 (by decide) ?_
  refine mr_putI o flX4_142 dX4_readsAll_27 nf_4_12 rfl rfl (fun V5 => ?_)
  refine hr_aload_n o 0 dX4_readsAll_30 rfl ?_
  refine mr_callI o mvX4_265 dX4_readsAll_31 [] (fun zr zV ze => mtX4_clauseHere  V5 zr zV ze) rfl rfl (Nat.le_of_ble_eq_true rfl) ⟨by decide, by decide⟩ (fun x7 V6 => ?_)
  refine hr_istore_n o [(1, .int x7), (0, .ref om)] dX4_readsAll_34 (by decide) rfl ?_
  refine hr_sub [1, 0] rfl ?_
  exact llX4_readsAll_35 o hf_N x7 V6
theorem mtX4_readsAll {om : Nat} {b : hf_H}  (V0 : hf_V) (r : Int32) (V1 : hf_V) (e : spX4_readsAll V0 = some (r, V1)) : hf_Con yX4_readsAll cX4_readsAll 2 (some .boolean) 11 242 [.ref om] (hf_M om b V0) (.returned (some (.int r)), hf_M om b V1) := hf_entry (dec := hf_dMI om b) (by decide) [.ref om] (Nat.le_of_ble_eq_true rfl) [(0, .ref om)] rfl e (fun C o _ => jtX4_readsAll o V0)

/-! rule -/
theorem flX4_268 : hf_Fl RX4 268 4 2 := ⟨(RX4, TX4, 37), RX4, rfl, by decide, in_X4, tyX4_ok, nmX4, Or.inl q1402, Or.inl rfl⟩
theorem nf_4_11 : hf_Nf 4 11 := ⟨(RX4, TX4, 37), rfl, rfl⟩
theorem mvX4_271 : hf_MV RX4 271 RX4 yX4_readsAll cX4_readsAll 2 (some .boolean) 0 := ⟨lw_V q1528 q1530 qs65 q162 q1531, by decide +kernel⟩
theorem nf_4_2 : hf_Nf 4 2 := ⟨(RX4, TX4, 37), rfl, rfl⟩
def spX4_rule  (V0 : hf_V) : Option (Int32 × hf_V) :=
  if (V0.1 2) = (6 : Int32) then (some ((-1 : Int32), V0)) else
  hf_let (hf_ui V0 11 (V0.1 2)) fun V1 =>
  hf_sd 6 (V1.1 11) (fun j => hf_ua V1 6 j (0 : Int32)) fun V2 =>
  hf_b2 (spX4_readsAll V2) fun x4 V3 =>
  if x4 = 0 then (some (((-2 : Int32) - (V3.1 9)), V3)) else
  hf_let (hf_ui V3 2 ((V3.1 2) + (1 : Int32))) fun V5 =>
  some (((V5.1 2) - (1 : Int32)), V5)
theorem jtX4_rule {C : hf_X} {om : Nat} {b : hf_H} (o : hf_In C cX4_rule RX4 1 (some .int) 12 263)  (V0 : hf_V) : hf_J C (hf_dMI om b) (spX4_rule V0) (hf_M om b V0) 0 [(0, .ref om)] [] := by
  refine hr_aload_n o 0 dX4_rule_0 rfl ?_
  refine mr_get o flX4_268 dX4_rule_1 (.int (V0.1 2)) rfl ?_
  refine hr_bipush o (6 : Int32) dX4_rule_4 (by decide) ?_
  refine hr_icmp_ne o 11 dX4_rule_6 (by decide) (fun _ => ?_) (fun _ => ?_)
  · refine hr_iconst o (-1 : Int32) dX4_rule_9 (by decide) ?_
    exact hr_iret o dX4_rule_10 rfl rfl
  refine hr_aload_n o 0 dX4_rule_11 rfl ?_
  refine hr_aload_n o 0 dX4_rule_12 rfl ?_
  refine mr_get o flX4_268 dX4_rule_13 (.int (V0.1 2)) rfl ?_
  refine mr_putI o flX4_139 dX4_rule_16 nf_4_11 rfl rfl (fun V1 => ?_)
  refine hr_aload_n o 0 dX4_rule_19 rfl ?_
  refine mr_get o flX4_23 dX4_rule_20 (.ref (om + 5)) rfl ?_
  refine hr_aload_n o 0 dX4_rule_23 rfl ?_
  refine mr_get o flX4_139 dX4_rule_24 (.int (V1.1 11)) rfl ?_
  refine hr_iconst o (0 : Int32) dX4_rule_27 (by decide) ?_
  refine mr_iast o 6 5 6 rfl (by decide) rfl dX4_rule_28 (fun V2 => ?_)
  refine hr_aload_n o 0 dX4_rule_29 rfl ?_
  refine mr_callI o mvX4_271 dX4_rule_30 [] (fun zr zV ze => mtX4_readsAll  V2 zr zV ze) rfl rfl (Nat.le_of_ble_eq_true rfl) ⟨by decide, by decide⟩ (fun x4 V3 => ?_)
  refine hr_if_ne o 44 dX4_rule_33 (by decide) (fun _ => ?_) (fun _ => ?_)
  · refine hr_bipush o (-2 : Int32) dX4_rule_36 (by decide) ?_
    refine hr_aload_n o 0 dX4_rule_38 rfl ?_
    refine mr_get o flX4_78 dX4_rule_39 (.int (V3.1 9)) rfl ?_
    refine hr_isub o dX4_rule_42 ?_
    exact hr_iret o dX4_rule_43 rfl rfl
  refine hr_aload_n o 0 dX4_rule_44 rfl ?_
  refine hr_dup o dX4_rule_45 rfl ?_
  refine mr_get o flX4_268 dX4_rule_46 (.int (V3.1 2)) rfl ?_
  refine hr_iconst o (1 : Int32) dX4_rule_49 (by decide) ?_
  refine hr_iadd o dX4_rule_50 ?_
  refine mr_putI o flX4_268 dX4_rule_51 nf_4_2 rfl rfl (fun V5 => ?_)
  refine hr_aload_n o 0 dX4_rule_54 rfl ?_
  refine mr_get o flX4_268 dX4_rule_55 (.int (V5.1 2)) rfl ?_
  refine hr_iconst o (1 : Int32) dX4_rule_58 (by decide) ?_
  refine hr_isub o dX4_rule_59 ?_
  exact hr_iret o dX4_rule_60 rfl rfl
theorem mtX4_rule {om : Nat} {b : hf_H}  (V0 : hf_V) (r : Int32) (V1 : hf_V) (e : spX4_rule V0 = some (r, V1)) : hf_Con yX4_rule cX4_rule 1 (some .int) 12 263 [.ref om] (hf_M om b V0) (.returned (some (.int r)), hf_M om b V1) := hf_entry (dec := hf_dMI om b) (by decide) [.ref om] (Nat.le_of_ble_eq_true rfl) [(0, .ref om)] rfl e (fun C o _ => jtX4_rule o V0)

/-! halfOf -/
theorem flX4_39 : hf_Fl RX4 39 4 20 := ⟨(RX4, TX4, 37), RX4, rfl, by decide, in_X4, tyX4_ok, nmX4, Or.inl q1420, Or.inl rfl⟩
def spX4_halfOf (l1 : Int32) (l2 : Int32) (V0 : hf_V) : Option (Int32 × hf_V) :=
  (hf_ld 123 (V0.2.2.2.1 20) (((10 : Int32) + ((5 : Int32) * l1)) + l2)).bind fun x1 =>
  some (x1, V0)
theorem jtX4_halfOf {C : hf_X} {om : Nat} {b : hf_H} (o : hf_In C cX4_halfOf RX4 3 (some .int) 0 0) (l1 : Int32) (l2 : Int32) (V0 : hf_V) : hf_J C (hf_dMI om b) (spX4_halfOf l1 l2 V0) (hf_M om b V0) 0 [(0, .ref om), (1, .int l1), (2, .int l2)] [] := by
  refine hr_aload_n o 0 dX4_halfOf_0 rfl ?_
  refine mr_get o flX4_39 dX4_halfOf_1 (.ref (om + 10)) rfl ?_
  refine hr_bipush o (10 : Int32) dX4_halfOf_4 (by decide) ?_
  refine hr_iconst o (5 : Int32) dX4_halfOf_6 (by decide) ?_
  refine hr_iload_n o 1 dX4_halfOf_7 rfl ?_
  refine hr_imul o dX4_halfOf_8 ?_
  refine hr_iadd o dX4_halfOf_9 ?_
  refine hr_iload_n o 2 dX4_halfOf_10 rfl ?_
  refine hr_iadd o dX4_halfOf_11 ?_
  refine mr_iald o 20 10 123 rfl (by decide) rfl dX4_halfOf_12 (fun x1 => ?_)
  exact hr_iret o dX4_halfOf_13 rfl rfl
theorem mtX4_halfOf {om : Nat} {b : hf_H} (l1 : Int32) (l2 : Int32) (V0 : hf_V) (r : Int32) (V1 : hf_V) (e : spX4_halfOf l1 l2 V0 = some (r, V1)) : hf_Con yX4_halfOf cX4_halfOf 3 (some .int) 0 0 [.ref om, .int l1, .int l2] (hf_M om b V0) (.returned (some (.int r)), hf_M om b V1) := hf_entry (dec := hf_dMI om b) (by decide) [.ref om, .int l1, .int l2] (Nat.le_of_ble_eq_true rfl) [(0, .ref om), (1, .int l1), (2, .int l2)] rfl e (fun C o _ => jtX4_halfOf o l1 l2 V0)

/-! atStall -/
theorem mvX4_301 : hf_MV RX4 301 RX4 yX4_halfOf cX4_halfOf 3 (some .int) 2 := ⟨lw_V q1719 q1721 qs103 q162 q1722, by decide +kernel⟩
def ndX4_atStall_32 (k4 : Int32 → Int32 → Int32 → hf_V → Option (Int32 × hf_V)) (l1 : Int32) (l3 : Int32) (s0 : Int32) (s1 : Int32) (V0 : hf_V) : Option (Int32 × hf_V) :=
  hf_let (s0 ||| s1) fun x1 =>
  hf_let (l3 + (1 : Int32)) fun x2 =>
  k4 l1 x1 x2 V0
theorem nlX4_atStall_32 {C : hf_X} {om : Nat} {b : hf_H} (o : hf_In C cX4_atStall RX4 4 (some .int) 1 22) (k4 : Int32 → Int32 → Int32 → hf_V → Option (Int32 × hf_V)) (hk4 : ∀ (l1 : Int32) (l2 : Int32) (l3 : Int32) (V0 : hf_V), hf_J C (hf_dMI om b) (k4 l1 l2 l3 V0) (hf_M om b V0) 4 [(0, .ref om), (1, .int l1), (2, .int l2), (3, .int l3)] []) (l1 : Int32) (l3 : Int32) (s0 : Int32) (s1 : Int32) (V0 : hf_V) : hf_J C (hf_dMI om b) (ndX4_atStall_32 k4 l1 l3 s0 s1 V0) (hf_M om b V0) 32 [(0, .ref om), (1, .int l1), (3, .int l3)] [.int s1, .int s0] := by
  refine hr_ior o dX4_atStall_32 ?_
  refine hr_nmI (fun x1 => ?_)
  refine hr_istore_n o [(2, .int x1), (0, .ref om), (1, .int l1), (3, .int l3)] dX4_atStall_33 (by decide) rfl ?_
  refine hr_iincN o (1 : Int32) 3 (fun y => [(3, .int y), (2, .int x1), (0, .ref om), (1, .int l1)]) dX4_atStall_34 rfl (by decide) (by decide) (fun y => rfl) (fun x2 => ?_)
  refine hr_goto o 4 dX4_atStall_37 (by decide) ?_
  refine hr_sub [2, 3, 1, 0] rfl ?_
  exact hk4 l1 x1 x2 V0
def ndX4_atStall_4 (k4 : Int32 → Int32 → Int32 → hf_V → Option (Int32 × hf_V)) (l1 : Int32) (l2 : Int32) (l3 : Int32) (V0 : hf_V) : Option (Int32 × hf_V) :=
  (hf_ld 123 (V0.2.2.2.1 20) (1 : Int32)).bind fun x1 =>
  if x1 ≤ l3 then (some (l2, V0)) else
  hf_b2 (spX4_halfOf l3 (3 : Int32) V0) fun x3 V2 =>
  if x3 = l1 then (ndX4_atStall_32 k4 l1 l3 l2 ((1 : Int32) <<< (l3 &&& 31)) V2) else
  ndX4_atStall_32 k4 l1 l3 l2 (0 : Int32) V2
theorem nlX4_atStall_4 {C : hf_X} {om : Nat} {b : hf_H} (o : hf_In C cX4_atStall RX4 4 (some .int) 1 22) (k4 : Int32 → Int32 → Int32 → hf_V → Option (Int32 × hf_V)) (hk4 : ∀ (l1 : Int32) (l2 : Int32) (l3 : Int32) (V0 : hf_V), hf_J C (hf_dMI om b) (k4 l1 l2 l3 V0) (hf_M om b V0) 4 [(0, .ref om), (1, .int l1), (2, .int l2), (3, .int l3)] []) (l1 : Int32) (l2 : Int32) (l3 : Int32) (V0 : hf_V) : hf_J C (hf_dMI om b) (ndX4_atStall_4 k4 l1 l2 l3 V0) (hf_M om b V0) 4 [(0, .ref om), (1, .int l1), (2, .int l2), (3, .int l3)] [] := by
  refine hr_iload_n o 3 dX4_atStall_4 rfl ?_
  refine hr_aload_n o 0 dX4_atStall_5 rfl ?_
  refine mr_get o flX4_39 dX4_atStall_6 (.ref (om + 10)) rfl ?_
  refine hr_iconst o (1 : Int32) dX4_atStall_9 (by decide) ?_
  refine mr_iald o 20 10 123 rfl (by decide) rfl dX4_atStall_10 (fun x1 => ?_)
  refine hr_icmp_ge o 40 dX4_atStall_11 (by decide) (fun _ => ?_) (fun _ => ?_)
  · refine hr_iload_n o 2 dX4_atStall_40 rfl ?_
    exact hr_iret o dX4_atStall_41 rfl rfl
  refine hr_iload_n o 2 dX4_atStall_14 rfl ?_
  refine hr_aload_n o 0 dX4_atStall_15 rfl ?_
  refine hr_iload_n o 3 dX4_atStall_16 rfl ?_
  refine hr_iconst o (3 : Int32) dX4_atStall_17 (by decide) ?_
  refine mr_callI o mvX4_301 dX4_atStall_18 [.int l3, .int (3 : Int32)] (fun zr zV ze => mtX4_halfOf l3 (3 : Int32) V0 zr zV ze) rfl rfl (Nat.le_of_ble_eq_true rfl) ⟨by decide, by decide⟩ (fun x3 V2 => ?_)
  refine hr_iload_n o 1 dX4_atStall_21 rfl ?_
  refine hr_icmp_ne o 31 dX4_atStall_22 (by decide) (fun _ => ?_) (fun _ => ?_)
  · refine hr_iconst o (1 : Int32) dX4_atStall_25 (by decide) ?_
    refine hr_iload_n o 3 dX4_atStall_26 rfl ?_
    refine hr_ishl o dX4_atStall_27 ?_
    refine hr_goto o 32 dX4_atStall_28 (by decide) ?_
    refine hr_sub [0, 1, 3] rfl ?_
    exact nlX4_atStall_32 o k4 hk4 l1 l3 l2 ((1 : Int32) <<< (l3 &&& 31)) V2
  refine hr_iconst o (0 : Int32) dX4_atStall_31 (by decide) ?_
  refine hr_sub [0, 1, 3] rfl ?_
  exact nlX4_atStall_32 o k4 hk4 l1 l3 l2 (0 : Int32) V2
def lpX4_atStall_4  : Nat → Int32 → Int32 → Int32 → hf_V → Option (Int32 × hf_V)
  | 0 => fun _ _ _ _ => none
  | n + 1 => fun l1 l2 l3 V0 => ndX4_atStall_4  (lpX4_atStall_4  n) l1 l2 l3 V0
theorem llX4_atStall_4 {C : hf_X} {om : Nat} {b : hf_H} (o : hf_In C cX4_atStall RX4 4 (some .int) 1 22)   (n : Nat) : ∀ (l1 : Int32) (l2 : Int32) (l3 : Int32) (V0 : hf_V), hf_J C (hf_dMI om b) ((lpX4_atStall_4  n) l1 l2 l3 V0) (hf_M om b V0) 4 [(0, .ref om), (1, .int l1), (2, .int l2), (3, .int l3)] [] := by
  induction n with
  | zero => exact fun _ _ _ _ => hr_none
  | succ n ih => exact fun l1 l2 l3 V0 => nlX4_atStall_4 o  (lpX4_atStall_4  n)  ih l1 l2 l3 V0
def spX4_atStall (l1 : Int32) (V0 : hf_V) : Option (Int32 × hf_V) :=
  lpX4_atStall_4 hf_N l1 (0 : Int32) (0 : Int32) V0
theorem jtX4_atStall {C : hf_X} {om : Nat} {b : hf_H} (o : hf_In C cX4_atStall RX4 4 (some .int) 1 22) (l1 : Int32) (V0 : hf_V) : hf_J C (hf_dMI om b) (spX4_atStall l1 V0) (hf_M om b V0) 0 [(0, .ref om), (1, .int l1)] [] := by
  refine hr_iconst o (0 : Int32) dX4_atStall_0 (by decide) ?_
  refine hr_istore_n o [(2, .int (0 : Int32)), (0, .ref om), (1, .int l1)] dX4_atStall_1 (by decide) rfl ?_
  refine hr_iconst o (0 : Int32) dX4_atStall_2 (by decide) ?_
  refine hr_istore_n o [(3, .int (0 : Int32)), (2, .int (0 : Int32)), (0, .ref om), (1, .int l1)] dX4_atStall_3 (by decide) rfl ?_
  refine hr_sub [2, 3, 1, 0] rfl ?_
  exact llX4_atStall_4 o hf_N l1 (0 : Int32) (0 : Int32) V0
theorem mtX4_atStall {om : Nat} {b : hf_H} (l1 : Int32) (V0 : hf_V) (r : Int32) (V1 : hf_V) (e : spX4_atStall l1 V0 = some (r, V1)) : hf_Con yX4_atStall cX4_atStall 4 (some .int) 1 22 [.ref om, .int l1] (hf_M om b V0) (.returned (some (.int r)), hf_M om b V1) := hf_entry (dec := hf_dMI om b) (by decide) [.ref om, .int l1] (Nat.le_of_ble_eq_true rfl) [(0, .ref om), (1, .int l1)] rfl e (fun C o _ => jtX4_atStall o l1 V0)

/-! buyerOf -/
def spX4_buyerOf (l1 : Int32) (l2 : Int32) (V0 : hf_V) : Option (Int32 × hf_V) :=
  (hf_ld 123 (V0.2.2.2.1 20) (((70 : Int32) + ((4 : Int32) * l1)) + l2)).bind fun x1 =>
  some (x1, V0)
theorem jtX4_buyerOf {C : hf_X} {om : Nat} {b : hf_H} (o : hf_In C cX4_buyerOf RX4 3 (some .int) 0 0) (l1 : Int32) (l2 : Int32) (V0 : hf_V) : hf_J C (hf_dMI om b) (spX4_buyerOf l1 l2 V0) (hf_M om b V0) 0 [(0, .ref om), (1, .int l1), (2, .int l2)] [] := by
  refine hr_aload_n o 0 dX4_buyerOf_0 rfl ?_
  refine mr_get o flX4_39 dX4_buyerOf_1 (.ref (om + 10)) rfl ?_
  refine hr_bipush o (70 : Int32) dX4_buyerOf_4 (by decide) ?_
  refine hr_iconst o (4 : Int32) dX4_buyerOf_6 (by decide) ?_
  refine hr_iload_n o 1 dX4_buyerOf_7 rfl ?_
  refine hr_imul o dX4_buyerOf_8 ?_
  refine hr_iadd o dX4_buyerOf_9 ?_
  refine hr_iload_n o 2 dX4_buyerOf_10 rfl ?_
  refine hr_iadd o dX4_buyerOf_11 ?_
  refine mr_iald o 20 10 123 rfl (by decide) rfl dX4_buyerOf_12 (fun x1 => ?_)
  exact hr_iret o dX4_buyerOf_13 rfl rfl
theorem mtX4_buyerOf {om : Nat} {b : hf_H} (l1 : Int32) (l2 : Int32) (V0 : hf_V) (r : Int32) (V1 : hf_V) (e : spX4_buyerOf l1 l2 V0 = some (r, V1)) : hf_Con yX4_buyerOf cX4_buyerOf 3 (some .int) 0 0 [.ref om, .int l1, .int l2] (hf_M om b V0) (.returned (some (.int r)), hf_M om b V1) := hf_entry (dec := hf_dMI om b) (by decide) [.ref om, .int l1, .int l2] (Nat.le_of_ble_eq_true rfl) [(0, .ref om), (1, .int l1), (2, .int l2)] rfl e (fun C o _ => jtX4_buyerOf o l1 l2 V0)

/-! spotAt -/
def spX4_spotAt (l1 : Int32) (l2 : Int32) (V0 : hf_V) : Option (Int32 × hf_V) :=
  (hf_ld 123 (V0.2.2.2.1 20) (4 : Int32)).bind fun x1 =>
  (hf_ld 123 (V0.2.2.2.1 20) (0 : Int32)).bind fun x2 =>
  if x2 = 0 then none else
  some (((l1 + (l2 * x1)) - (l1 + (l2 * x1)) / x2 * x2), V0)
theorem jtX4_spotAt {C : hf_X} {om : Nat} {b : hf_H} (o : hf_In C cX4_spotAt RX4 3 (some .int) 0 0) (l1 : Int32) (l2 : Int32) (V0 : hf_V) : hf_J C (hf_dMI om b) (spX4_spotAt l1 l2 V0) (hf_M om b V0) 0 [(0, .ref om), (1, .int l1), (2, .int l2)] [] := by
  refine hr_iload_n o 1 dX4_spotAt_0 rfl ?_
  refine hr_iload_n o 2 dX4_spotAt_1 rfl ?_
  refine hr_aload_n o 0 dX4_spotAt_2 rfl ?_
  refine mr_get o flX4_39 dX4_spotAt_3 (.ref (om + 10)) rfl ?_
  refine hr_iconst o (4 : Int32) dX4_spotAt_6 (by decide) ?_
  refine mr_iald o 20 10 123 rfl (by decide) rfl dX4_spotAt_7 (fun x1 => ?_)
  refine hr_imul o dX4_spotAt_8 ?_
  refine hr_iadd o dX4_spotAt_9 ?_
  refine hr_aload_n o 0 dX4_spotAt_10 rfl ?_
  refine mr_get o flX4_39 dX4_spotAt_11 (.ref (om + 10)) rfl ?_
  refine hr_iconst o (0 : Int32) dX4_spotAt_14 (by decide) ?_
  refine mr_iald o 20 10 123 rfl (by decide) rfl dX4_spotAt_15 (fun x2 => ?_)
  refine hr_irem o dX4_spotAt_16 (fun _ => ?_)
  exact hr_iret o dX4_spotAt_17 rfl rfl
theorem mtX4_spotAt {om : Nat} {b : hf_H} (l1 : Int32) (l2 : Int32) (V0 : hf_V) (r : Int32) (V1 : hf_V) (e : spX4_spotAt l1 l2 V0 = some (r, V1)) : hf_Con yX4_spotAt cX4_spotAt 3 (some .int) 0 0 [.ref om, .int l1, .int l2] (hf_M om b V0) (.returned (some (.int r)), hf_M om b V1) := hf_entry (dec := hf_dMI om b) (by decide) [.ref om, .int l1, .int l2] (Nat.le_of_ble_eq_true rfl) [(0, .ref om), (1, .int l1), (2, .int l2)] rfl e (fun C o _ => jtX4_spotAt o l1 l2 V0)

/-! stallAt -/
theorem mvX4_305 : hf_MV RX4 305 RX4 yX4_spotAt cX4_spotAt 3 (some .int) 2 := ⟨lw_V q1711 q1713 qs101 q162 q1714, by decide +kernel⟩
def ndX4_stallAt_2 (k2 : Int32 → Int32 → Int32 → hf_V → Option (Int32 × hf_V)) (l1 : Int32) (l2 : Int32) (l3 : Int32) (V0 : hf_V) : Option (Int32 × hf_V) :=
  hf_b2 (spX4_spotAt l3 l2 V0) fun x2 V1 =>
  if x2 = l1 then (some (l3, V1)) else
  hf_let (l3 + (1 : Int32)) fun x3 =>
  k2 l1 l2 x3 V1
theorem nlX4_stallAt_2 {C : hf_X} {om : Nat} {b : hf_H} (o : hf_In C cX4_stallAt RX4 4 (some .int) 1 22) (k2 : Int32 → Int32 → Int32 → hf_V → Option (Int32 × hf_V)) (hk2 : ∀ (l1 : Int32) (l2 : Int32) (l3 : Int32) (V0 : hf_V), hf_J C (hf_dMI om b) (k2 l1 l2 l3 V0) (hf_M om b V0) 2 [(0, .ref om), (1, .int l1), (2, .int l2), (3, .int l3)] []) (l1 : Int32) (l2 : Int32) (l3 : Int32) (V0 : hf_V) : hf_J C (hf_dMI om b) (ndX4_stallAt_2 k2 l1 l2 l3 V0) (hf_M om b V0) 2 [(0, .ref om), (1, .int l1), (2, .int l2), (3, .int l3)] [] := by
  refine hr_aload_n o 0 dX4_stallAt_2 rfl ?_
  refine hr_iload_n o 3 dX4_stallAt_3 rfl ?_
  refine hr_iload_n o 2 dX4_stallAt_4 rfl ?_
  refine mr_callI o mvX4_305 dX4_stallAt_5 [.int l3, .int l2] (fun zr zV ze => mtX4_spotAt l3 l2 V0 zr zV ze) rfl rfl (Nat.le_of_ble_eq_true rfl) ⟨by decide, by decide⟩ (fun x2 V1 => ?_)
  refine hr_iload_n o 1 dX4_stallAt_8 rfl ?_
  refine hr_icmp_eq o 18 dX4_stallAt_9 (by decide) (fun _ => ?_) (fun _ => ?_)
  · refine hr_iload_n o 3 dX4_stallAt_18 rfl ?_
    exact hr_iret o dX4_stallAt_19 rfl rfl
  refine hr_iincN o (1 : Int32) 3 (fun y => [(3, .int y), (0, .ref om), (1, .int l1), (2, .int l2)]) dX4_stallAt_12 rfl (by decide) (by decide) (fun y => rfl) (fun x3 => ?_)
  refine hr_goto o 2 dX4_stallAt_15 (by decide) ?_
  refine hr_sub [1, 2, 3, 0] rfl ?_
  exact hk2 l1 l2 x3 V1
def lpX4_stallAt_2  : Nat → Int32 → Int32 → Int32 → hf_V → Option (Int32 × hf_V)
  | 0 => fun _ _ _ _ => none
  | n + 1 => fun l1 l2 l3 V0 => ndX4_stallAt_2  (lpX4_stallAt_2  n) l1 l2 l3 V0
theorem llX4_stallAt_2 {C : hf_X} {om : Nat} {b : hf_H} (o : hf_In C cX4_stallAt RX4 4 (some .int) 1 22)   (n : Nat) : ∀ (l1 : Int32) (l2 : Int32) (l3 : Int32) (V0 : hf_V), hf_J C (hf_dMI om b) ((lpX4_stallAt_2  n) l1 l2 l3 V0) (hf_M om b V0) 2 [(0, .ref om), (1, .int l1), (2, .int l2), (3, .int l3)] [] := by
  induction n with
  | zero => exact fun _ _ _ _ => hr_none
  | succ n ih => exact fun l1 l2 l3 V0 => nlX4_stallAt_2 o  (lpX4_stallAt_2  n)  ih l1 l2 l3 V0
def spX4_stallAt (l1 : Int32) (l2 : Int32) (V0 : hf_V) : Option (Int32 × hf_V) :=
  lpX4_stallAt_2 hf_N l1 l2 (0 : Int32) V0
theorem jtX4_stallAt {C : hf_X} {om : Nat} {b : hf_H} (o : hf_In C cX4_stallAt RX4 4 (some .int) 1 22) (l1 : Int32) (l2 : Int32) (V0 : hf_V) : hf_J C (hf_dMI om b) (spX4_stallAt l1 l2 V0) (hf_M om b V0) 0 [(0, .ref om), (1, .int l1), (2, .int l2)] [] := by
  refine hr_iconst o (0 : Int32) dX4_stallAt_0 (by decide) ?_
  refine hr_istore_n o [(3, .int (0 : Int32)), (0, .ref om), (1, .int l1), (2, .int l2)] dX4_stallAt_1 (by decide) rfl ?_
  refine hr_sub [1, 2, 3, 0] rfl ?_
  exact llX4_stallAt_2 o hf_N l1 l2 (0 : Int32) V0
theorem mtX4_stallAt {om : Nat} {b : hf_H} (l1 : Int32) (l2 : Int32) (V0 : hf_V) (r : Int32) (V1 : hf_V) (e : spX4_stallAt l1 l2 V0 = some (r, V1)) : hf_Con yX4_stallAt cX4_stallAt 4 (some .int) 1 22 [.ref om, .int l1, .int l2] (hf_M om b V0) (.returned (some (.int r)), hf_M om b V1) := hf_entry (dec := hf_dMI om b) (by decide) [.ref om, .int l1, .int l2] (Nat.le_of_ble_eq_true rfl) [(0, .ref om), (1, .int l1), (2, .int l2)] rfl e (fun C o _ => jtX4_stallAt o l1 l2 V0)

/-! allSee -/
theorem mvX4_314 : hf_MV RX4 314 RX4 yX4_buyerOf cX4_buyerOf 3 (some .int) 2 := ⟨lw_V q1703 q1705 qs99 q162 q1706, by decide +kernel⟩
theorem mvX4_317 : hf_MV RX4 317 RX4 yX4_stallAt cX4_stallAt 4 (some .int) 2 := ⟨lw_V q1707 q1709 qs100 q162 q1710, by decide +kernel⟩
theorem mvX4_320 : hf_MV RX4 320 RX4 yX4_atStall cX4_atStall 4 (some .int) 1 := ⟨lw_V q1715 q1717 qs102 q162 q1718, by decide +kernel⟩
def ndX4_allSee_2 (k2 : Int32 → hf_V → Option hf_V) (l1 : Int32) (V0 : hf_V) : Option hf_V :=
  (hf_ld 123 (V0.2.2.2.1 20) (2 : Int32)).bind fun x1 =>
  if x1 ≤ l1 then (some V0) else
  hf_let (((70 : Int32) + ((4 : Int32) * l1)) + (2 : Int32)) fun x2 =>
  (hf_ld 123 (V0.2.2.2.1 20) x2).bind fun x3 =>
  hf_b2 (spX4_buyerOf l1 (1 : Int32) V0) fun x5 V4 =>
  (hf_ld 123 (V4.2.2.2.1 20) (3 : Int32)).bind fun x6 =>
  hf_b2 (spX4_stallAt x5 x6 V4) fun x8 V7 =>
  hf_b2 (spX4_atStall x8 V7) fun x10 V9 =>
  hf_sd 123 x2 (fun j => hf_ua V9 20 j (x3 ||| x10)) fun V11 =>
  hf_let (l1 + (1 : Int32)) fun x12 =>
  k2 x12 V11
theorem nlX4_allSee_2 {C : hf_X} {om : Nat} {b : hf_H} (o : hf_In C cX4_allSee RX4 2 (none) 2 45) (k2 : Int32 → hf_V → Option hf_V) (hk2 : ∀ (l1 : Int32) (V0 : hf_V), hf_J C (hf_dMV om b) (k2 l1 V0) (hf_M om b V0) 2 [(0, .ref om), (1, .int l1)] []) (l1 : Int32) (V0 : hf_V) : hf_J C (hf_dMV om b) (ndX4_allSee_2 k2 l1 V0) (hf_M om b V0) 2 [(0, .ref om), (1, .int l1)] [] := by
  refine hr_iload_n o 1 dX4_allSee_2 rfl ?_
  refine hr_aload_n o 0 dX4_allSee_3 rfl ?_
  refine mr_get o flX4_39 dX4_allSee_4 (.ref (om + 10)) rfl ?_
  refine hr_iconst o (2 : Int32) dX4_allSee_7 (by decide) ?_
  refine mr_iald o 20 10 123 rfl (by decide) rfl dX4_allSee_8 (fun x1 => ?_)
  refine hr_icmp_ge o 54 dX4_allSee_9 (by decide) (fun _ => ?_) (fun _ => ?_)
  · exact hr_vret o dX4_allSee_54 rfl
  refine hr_aload_n o 0 dX4_allSee_12 rfl ?_
  refine mr_get o flX4_39 dX4_allSee_13 (.ref (om + 10)) rfl ?_
  refine hr_bipush o (70 : Int32) dX4_allSee_16 (by decide) ?_
  refine hr_iconst o (4 : Int32) dX4_allSee_18 (by decide) ?_
  refine hr_iload_n o 1 dX4_allSee_19 rfl ?_
  refine hr_imul o dX4_allSee_20 ?_
  refine hr_iadd o dX4_allSee_21 ?_
  refine hr_iconst o (2 : Int32) dX4_allSee_22 (by decide) ?_
  refine hr_iadd o dX4_allSee_23 ?_
  refine hr_nmI (fun x2 => ?_)
  refine hr_dup2 o dX4_allSee_24 rfl rfl ?_
  refine mr_iald o 20 10 123 rfl (by decide) rfl dX4_allSee_25 (fun x3 => ?_)
  refine hr_aload_n o 0 dX4_allSee_26 rfl ?_
  refine hr_aload_n o 0 dX4_allSee_27 rfl ?_
  refine hr_aload_n o 0 dX4_allSee_28 rfl ?_
  refine hr_iload_n o 1 dX4_allSee_29 rfl ?_
  refine hr_iconst o (1 : Int32) dX4_allSee_30 (by decide) ?_
  refine mr_callI o mvX4_314 dX4_allSee_31 [.int l1, .int (1 : Int32)] (fun zr zV ze => mtX4_buyerOf l1 (1 : Int32) V0 zr zV ze) rfl rfl (Nat.le_of_ble_eq_true rfl) ⟨by decide, by decide⟩ (fun x5 V4 => ?_)
  refine hr_aload_n o 0 dX4_allSee_34 rfl ?_
  refine mr_get o flX4_39 dX4_allSee_35 (.ref (om + 10)) rfl ?_
  refine hr_iconst o (3 : Int32) dX4_allSee_38 (by decide) ?_
  refine mr_iald o 20 10 123 rfl (by decide) rfl dX4_allSee_39 (fun x6 => ?_)
  refine mr_callI o mvX4_317 dX4_allSee_40 [.int x5, .int x6] (fun zr zV ze => mtX4_stallAt x5 x6 V4 zr zV ze) rfl rfl (Nat.le_of_ble_eq_true rfl) ⟨by decide, by decide⟩ (fun x8 V7 => ?_)
  refine mr_callI o mvX4_320 dX4_allSee_43 [.int x8] (fun zr zV ze => mtX4_atStall x8 V7 zr zV ze) rfl rfl (Nat.le_of_ble_eq_true rfl) ⟨by decide, by decide⟩ (fun x10 V9 => ?_)
  refine hr_ior o dX4_allSee_46 ?_
  refine mr_iast o 20 10 123 rfl (by decide) rfl dX4_allSee_47 (fun V11 => ?_)
  refine hr_iincN o (1 : Int32) 1 (fun y => [(1, .int y), (0, .ref om)]) dX4_allSee_48 rfl (by decide) (by decide) (fun y => rfl) (fun x12 => ?_)
  refine hr_goto o 2 dX4_allSee_51 (by decide) ?_
  refine hr_sub [1, 0] rfl ?_
  exact hk2 x12 V11
def lpX4_allSee_2  : Nat → Int32 → hf_V → Option hf_V
  | 0 => fun _ _ => none
  | n + 1 => fun l1 V0 => ndX4_allSee_2  (lpX4_allSee_2  n) l1 V0
theorem llX4_allSee_2 {C : hf_X} {om : Nat} {b : hf_H} (o : hf_In C cX4_allSee RX4 2 (none) 2 45)   (n : Nat) : ∀ (l1 : Int32) (V0 : hf_V), hf_J C (hf_dMV om b) ((lpX4_allSee_2  n) l1 V0) (hf_M om b V0) 2 [(0, .ref om), (1, .int l1)] [] := by
  induction n with
  | zero => exact fun _ _ => hr_none
  | succ n ih => exact fun l1 V0 => nlX4_allSee_2 o  (lpX4_allSee_2  n)  ih l1 V0
def spX4_allSee  (V0 : hf_V) : Option hf_V :=
  lpX4_allSee_2 hf_N (0 : Int32) V0
theorem jtX4_allSee {C : hf_X} {om : Nat} {b : hf_H} (o : hf_In C cX4_allSee RX4 2 (none) 2 45)  (V0 : hf_V) : hf_J C (hf_dMV om b) (spX4_allSee V0) (hf_M om b V0) 0 [(0, .ref om)] [] := by
  refine hr_iconst o (0 : Int32) dX4_allSee_0 (by decide) ?_
  refine hr_istore_n o [(1, .int (0 : Int32)), (0, .ref om)] dX4_allSee_1 (by decide) rfl ?_
  refine hr_sub [1, 0] rfl ?_
  exact llX4_allSee_2 o hf_N (0 : Int32) V0
theorem mtX4_allSee {om : Nat} {b : hf_H}  (V0 V1 : hf_V) (e : spX4_allSee V0 = some V1) : hf_Con yX4_allSee cX4_allSee 2 (none) 2 45 [.ref om] (hf_M om b V0) (.returned none, hf_M om b V1) := hf_entry (dec := hf_dMV om b) (by decide) [.ref om] (Nat.le_of_ble_eq_true rfl) [(0, .ref om)] rfl e (fun C o _ => jtX4_allSee o V0)

/-! apart -/
def spX4_apart (l1 : Int32) (l2 : Int32) (V0 : hf_V) : Option (Int32 × hf_V) :=
  if l1 ≤ l2 then (some ((l2 - l1), V0)) else
  some ((l1 - l2), V0)
theorem jtX4_apart {C : hf_X} {om : Nat} {b : hf_H} (o : hf_In C cX4_apart RX4 3 (some .int) 0 0) (l1 : Int32) (l2 : Int32) (V0 : hf_V) : hf_J C (hf_dMI om b) (spX4_apart l1 l2 V0) (hf_M om b V0) 0 [(0, .ref om), (1, .int l1), (2, .int l2)] [] := by
  refine hr_iload_n o 1 dX4_apart_0 rfl ?_
  refine hr_iload_n o 2 dX4_apart_1 rfl ?_
  refine hr_icmp_le o 11 dX4_apart_2 (by decide) (fun _ => ?_) (fun _ => ?_)
  · refine hr_iload_n o 2 dX4_apart_11 rfl ?_
    refine hr_iload_n o 1 dX4_apart_12 rfl ?_
    refine hr_isub o dX4_apart_13 ?_
    exact hr_iret o dX4_apart_14 rfl rfl
  refine hr_iload_n o 1 dX4_apart_5 rfl ?_
  refine hr_iload_n o 2 dX4_apart_6 rfl ?_
  refine hr_isub o dX4_apart_7 ?_
  refine hr_goto o 14 dX4_apart_8 (by decide) ?_
  exact hr_iret o dX4_apart_14 rfl rfl
theorem mtX4_apart {om : Nat} {b : hf_H} (l1 : Int32) (l2 : Int32) (V0 : hf_V) (r : Int32) (V1 : hf_V) (e : spX4_apart l1 l2 V0 = some (r, V1)) : hf_Con yX4_apart cX4_apart 3 (some .int) 0 0 [.ref om, .int l1, .int l2] (hf_M om b V0) (.returned (some (.int r)), hf_M om b V1) := hf_entry (dec := hf_dMI om b) (by decide) [.ref om, .int l1, .int l2] (Nat.le_of_ble_eq_true rfl) [(0, .ref om), (1, .int l1), (2, .int l2)] rfl e (fun C o _ => jtX4_apart o l1 l2 V0)

/-! fitTold -/
theorem mvX4_308 : hf_MV RX4 308 RX4 yX4_apart cX4_apart 3 (some .int) 2 := ⟨lw_V q1739 q1741 qs108 q162 q1742, by decide +kernel⟩
def spX4_fitTold (l1 : Int32) (l2 : Int32) (V0 : hf_V) : Option (Int32 × hf_V) :=
  hf_b2 (spX4_halfOf l1 (1 : Int32) V0) fun x2 V1 =>
  hf_b2 (spX4_halfOf l2 (1 : Int32) V1) fun x4 V3 =>
  if x2 = x4 then (some ((0 : Int32), V3)) else
  hf_b2 (spX4_halfOf l1 (0 : Int32) V3) fun x6 V5 =>
  hf_b2 (spX4_halfOf l2 (0 : Int32) V5) fun x8 V7 =>
  hf_b2 (spX4_apart x6 x8 V7) fun x10 V9 =>
  if x10 = 0 then (some ((2 : Int32), V9)) else
  (hf_ld 123 (V9.2.2.2.1 20) (5 : Int32)).bind fun x11 =>
  if x11 < x10 then (some ((0 : Int32), V9)) else
  some ((1 : Int32), V9)
theorem jtX4_fitTold {C : hf_X} {om : Nat} {b : hf_H} (o : hf_In C cX4_fitTold RX4 4 (some .int) 1 22) (l1 : Int32) (l2 : Int32) (V0 : hf_V) : hf_J C (hf_dMI om b) (spX4_fitTold l1 l2 V0) (hf_M om b V0) 0 [(0, .ref om), (1, .int l1), (2, .int l2)] [] := by
  refine hr_aload_n o 0 dX4_fitTold_0 rfl ?_
  refine hr_iload_n o 1 dX4_fitTold_1 rfl ?_
  refine hr_iconst o (1 : Int32) dX4_fitTold_2 (by decide) ?_
  refine mr_callI o mvX4_301 dX4_fitTold_3 [.int l1, .int (1 : Int32)] (fun zr zV ze => mtX4_halfOf l1 (1 : Int32) V0 zr zV ze) rfl rfl (Nat.le_of_ble_eq_true rfl) ⟨by decide, by decide⟩ (fun x2 V1 => ?_)
  refine hr_aload_n o 0 dX4_fitTold_6 rfl ?_
  refine hr_iload_n o 2 dX4_fitTold_7 rfl ?_
  refine hr_iconst o (1 : Int32) dX4_fitTold_8 (by decide) ?_
  refine mr_callI o mvX4_301 dX4_fitTold_9 [.int l2, .int (1 : Int32)] (fun zr zV ze => mtX4_halfOf l2 (1 : Int32) V1 zr zV ze) rfl rfl (Nat.le_of_ble_eq_true rfl) ⟨by decide, by decide⟩ (fun x4 V3 => ?_)
  refine hr_icmp_ne o 17 dX4_fitTold_12 (by decide) (fun _ => ?_) (fun _ => ?_)
  · refine hr_iconst o (0 : Int32) dX4_fitTold_15 (by decide) ?_
    exact hr_iret o dX4_fitTold_16 rfl rfl
  refine hr_aload_n o 0 dX4_fitTold_17 rfl ?_
  refine hr_aload_n o 0 dX4_fitTold_18 rfl ?_
  refine hr_iload_n o 1 dX4_fitTold_19 rfl ?_
  refine hr_iconst o (0 : Int32) dX4_fitTold_20 (by decide) ?_
  refine mr_callI o mvX4_301 dX4_fitTold_21 [.int l1, .int (0 : Int32)] (fun zr zV ze => mtX4_halfOf l1 (0 : Int32) V3 zr zV ze) rfl rfl (Nat.le_of_ble_eq_true rfl) ⟨by decide, by decide⟩ (fun x6 V5 => ?_)
  refine hr_aload_n o 0 dX4_fitTold_24 rfl ?_
  refine hr_iload_n o 2 dX4_fitTold_25 rfl ?_
  refine hr_iconst o (0 : Int32) dX4_fitTold_26 (by decide) ?_
  refine mr_callI o mvX4_301 dX4_fitTold_27 [.int l2, .int (0 : Int32)] (fun zr zV ze => mtX4_halfOf l2 (0 : Int32) V5 zr zV ze) rfl rfl (Nat.le_of_ble_eq_true rfl) ⟨by decide, by decide⟩ (fun x8 V7 => ?_)
  refine mr_callI o mvX4_308 dX4_fitTold_30 [.int x6, .int x8] (fun zr zV ze => mtX4_apart x6 x8 V7 zr zV ze) rfl rfl (Nat.le_of_ble_eq_true rfl) ⟨by decide, by decide⟩ (fun x10 V9 => ?_)
  refine hr_istore_n o [(3, .int x10), (0, .ref om), (1, .int l1), (2, .int l2)] dX4_fitTold_33 (by decide) rfl ?_
  refine hr_iload_n o 0 dX4_fitTold_34 rfl ?_
  refine hr_if_ne o 42 dX4_fitTold_35 (by decide) (fun _ => ?_) (fun _ => ?_)
  · refine hr_iconst o (2 : Int32) dX4_fitTold_38 (by decide) ?_
    refine hr_goto o 57 dX4_fitTold_39 (by decide) ?_
    exact hr_iret o dX4_fitTold_57 rfl rfl
  refine hr_iload_n o 0 dX4_fitTold_42 rfl ?_
  refine hr_aload_n o 1 dX4_fitTold_43 rfl ?_
  refine mr_get o flX4_39 dX4_fitTold_44 (.ref (om + 10)) rfl ?_
  refine hr_iconst o (5 : Int32) dX4_fitTold_47 (by decide) ?_
  refine mr_iald o 20 10 123 rfl (by decide) rfl dX4_fitTold_48 (fun x11 => ?_)
  refine hr_icmp_gt o 56 dX4_fitTold_49 (by decide) (fun _ => ?_) (fun _ => ?_)
  · refine hr_iconst o (0 : Int32) dX4_fitTold_56 (by decide) ?_
    exact hr_iret o dX4_fitTold_57 rfl rfl
  refine hr_iconst o (1 : Int32) dX4_fitTold_52 (by decide) ?_
  refine hr_goto o 57 dX4_fitTold_53 (by decide) ?_
  exact hr_iret o dX4_fitTold_57 rfl rfl
theorem mtX4_fitTold {om : Nat} {b : hf_H} (l1 : Int32) (l2 : Int32) (V0 : hf_V) (r : Int32) (V1 : hf_V) (e : spX4_fitTold l1 l2 V0 = some (r, V1)) : hf_Con yX4_fitTold cX4_fitTold 4 (some .int) 1 22 [.ref om, .int l1, .int l2] (hf_M om b V0) (.returned (some (.int r)), hf_M om b V1) := hf_entry (dec := hf_dMI om b) (by decide) [.ref om, .int l1, .int l2] (Nat.le_of_ble_eq_true rfl) [(0, .ref om), (1, .int l1), (2, .int l2)] rfl e (fun C o _ => jtX4_fitTold o l1 l2 V0)

/-! fitOf -/
theorem mvX4_311 : hf_MV RX4 311 RX4 yX4_fitTold cX4_fitTold 4 (some .int) 2 := ⟨lw_V q1735 q1737 qs107 q162 q1738, by decide +kernel⟩
def spX4_fitOf (l1 : Int32) (l2 : Int32) (V0 : hf_V) : Option (Int32 × hf_V) :=
  hf_b2 (spX4_halfOf l1 (4 : Int32) V0) fun x2 V1 =>
  if x2 = (1 : Int32) then (some ((2 : Int32), V1)) else
  hf_b2 (spX4_halfOf l2 (4 : Int32) V1) fun x4 V3 =>
  if x4 = (1 : Int32) then (some ((2 : Int32), V3)) else
  hf_b2 (spX4_fitTold l1 l2 V3) fun x6 V5 =>
  some (x6, V5)
theorem jtX4_fitOf {C : hf_X} {om : Nat} {b : hf_H} (o : hf_In C cX4_fitOf RX4 3 (some .int) 2 45) (l1 : Int32) (l2 : Int32) (V0 : hf_V) : hf_J C (hf_dMI om b) (spX4_fitOf l1 l2 V0) (hf_M om b V0) 0 [(0, .ref om), (1, .int l1), (2, .int l2)] [] := by
  refine hr_aload_n o 0 dX4_fitOf_0 rfl ?_
  refine hr_iload_n o 1 dX4_fitOf_1 rfl ?_
  refine hr_iconst o (4 : Int32) dX4_fitOf_2 (by decide) ?_
  refine mr_callI o mvX4_301 dX4_fitOf_3 [.int l1, .int (4 : Int32)] (fun zr zV ze => mtX4_halfOf l1 (4 : Int32) V0 zr zV ze) rfl rfl (Nat.le_of_ble_eq_true rfl) ⟨by decide, by decide⟩ (fun x2 V1 => ?_)
  refine hr_iconst o (1 : Int32) dX4_fitOf_6 (by decide) ?_
  refine hr_icmp_eq o 20 dX4_fitOf_7 (by decide) (fun _ => ?_) (fun _ => ?_)
  · refine hr_iconst o (2 : Int32) dX4_fitOf_20 (by decide) ?_
    refine hr_goto o 30 dX4_fitOf_21 (by decide) ?_
    exact hr_iret o dX4_fitOf_30 rfl rfl
  refine hr_aload_n o 0 dX4_fitOf_10 rfl ?_
  refine hr_iload_n o 2 dX4_fitOf_11 rfl ?_
  refine hr_iconst o (4 : Int32) dX4_fitOf_12 (by decide) ?_
  refine mr_callI o mvX4_301 dX4_fitOf_13 [.int l2, .int (4 : Int32)] (fun zr zV ze => mtX4_halfOf l2 (4 : Int32) V1 zr zV ze) rfl rfl (Nat.le_of_ble_eq_true rfl) ⟨by decide, by decide⟩ (fun x4 V3 => ?_)
  refine hr_iconst o (1 : Int32) dX4_fitOf_16 (by decide) ?_
  refine hr_icmp_ne o 24 dX4_fitOf_17 (by decide) (fun _ => ?_) (fun _ => ?_)
  · refine hr_iconst o (2 : Int32) dX4_fitOf_20 (by decide) ?_
    refine hr_goto o 30 dX4_fitOf_21 (by decide) ?_
    exact hr_iret o dX4_fitOf_30 rfl rfl
  refine hr_aload_n o 0 dX4_fitOf_24 rfl ?_
  refine hr_iload_n o 1 dX4_fitOf_25 rfl ?_
  refine hr_iload_n o 2 dX4_fitOf_26 rfl ?_
  refine mr_callI o mvX4_311 dX4_fitOf_27 [.int l1, .int l2] (fun zr zV ze => mtX4_fitTold l1 l2 V3 zr zV ze) rfl rfl (Nat.le_of_ble_eq_true rfl) ⟨by decide, by decide⟩ (fun x6 V5 => ?_)
  exact hr_iret o dX4_fitOf_30 rfl rfl
theorem mtX4_fitOf {om : Nat} {b : hf_H} (l1 : Int32) (l2 : Int32) (V0 : hf_V) (r : Int32) (V1 : hf_V) (e : spX4_fitOf l1 l2 V0 = some (r, V1)) : hf_Con yX4_fitOf cX4_fitOf 3 (some .int) 2 45 [.ref om, .int l1, .int l2] (hf_M om b V0) (.returned (some (.int r)), hf_M om b V1) := hf_entry (dec := hf_dMI om b) (by decide) [.ref om, .int l1, .int l2] (Nat.le_of_ble_eq_true rfl) [(0, .ref om), (1, .int l1), (2, .int l2)] rfl e (fun C o _ => jtX4_fitOf o l1 l2 V0)

/-! leastOf -/
def ndX4_leastOf_2 (k2 : Int32 → Int32 → hf_V → Option (Int32 × hf_V)) (l1 : Int32) (l2 : Int32) (V0 : hf_V) : Option (Int32 × hf_V) :=
  (spX4_isOf l1 l2).bind fun x1 =>
  if x1 = 0 then (hf_let (l2 + (1 : Int32)) fun x2 =>
  k2 l1 x2 V0) else
  some (l2, V0)
theorem nlX4_leastOf_2 {C : hf_X} {om : Nat} {b : hf_H} (o : hf_In C cX4_leastOf RX4 3 (some .int) 1 21) (k2 : Int32 → Int32 → hf_V → Option (Int32 × hf_V)) (hk2 : ∀ (l1 : Int32) (l2 : Int32) (V0 : hf_V), hf_J C (hf_dMI om b) (k2 l1 l2 V0) (hf_M om b V0) 2 [(1, .int l1), (2, .int l2)] []) (l1 : Int32) (l2 : Int32) (V0 : hf_V) : hf_J C (hf_dMI om b) (ndX4_leastOf_2 k2 l1 l2 V0) (hf_M om b V0) 2 [(1, .int l1), (2, .int l2)] [] := by
  refine hr_iload_n o 0 dX4_leastOf_2 rfl ?_
  refine hr_iload_n o 1 dX4_leastOf_3 rfl ?_
  refine pr_callI o msX4_215 dX4_leastOf_4 [.int l1, .int l2] (fun zr ze => mtX4_isOf l1 l2 zr ze) rfl rfl (Nat.le_of_ble_eq_true rfl) ⟨by decide, by decide⟩ (fun x1 => ?_)
  refine hr_if_ne o 16 dX4_leastOf_7 (by decide) (fun _ => ?_) (fun _ => ?_)
  · refine hr_iincN o (1 : Int32) 1 (fun y => [(2, .int y), (1, .int l1)]) dX4_leastOf_10 rfl (by decide) (by decide) (fun y => rfl) (fun x2 => ?_)
    refine hr_goto o 2 dX4_leastOf_13 (by decide) ?_
    refine hr_sub [1, 0] rfl ?_
    exact hk2 l1 x2 V0
  refine hr_iload_n o 1 dX4_leastOf_16 rfl ?_
  exact hr_iret o dX4_leastOf_17 rfl rfl
def lpX4_leastOf_2  : Nat → Int32 → Int32 → hf_V → Option (Int32 × hf_V)
  | 0 => fun _ _ _ => none
  | n + 1 => fun l1 l2 V0 => ndX4_leastOf_2  (lpX4_leastOf_2  n) l1 l2 V0
theorem llX4_leastOf_2 {C : hf_X} {om : Nat} {b : hf_H} (o : hf_In C cX4_leastOf RX4 3 (some .int) 1 21)   (n : Nat) : ∀ (l1 : Int32) (l2 : Int32) (V0 : hf_V), hf_J C (hf_dMI om b) ((lpX4_leastOf_2  n) l1 l2 V0) (hf_M om b V0) 2 [(1, .int l1), (2, .int l2)] [] := by
  induction n with
  | zero => exact fun _ _ _ => hr_none
  | succ n ih => exact fun l1 l2 V0 => nlX4_leastOf_2 o  (lpX4_leastOf_2  n)  ih l1 l2 V0
def spX4_leastOf (l1 : Int32) (V0 : hf_V) : Option (Int32 × hf_V) :=
  lpX4_leastOf_2 hf_N l1 (0 : Int32) V0
theorem jtX4_leastOf {C : hf_X} {om : Nat} {b : hf_H} (o : hf_In C cX4_leastOf RX4 3 (some .int) 1 21) (l1 : Int32) (V0 : hf_V) : hf_J C (hf_dMI om b) (spX4_leastOf l1 V0) (hf_M om b V0) 0 [(0, .ref om), (1, .int l1)] [] := by
  refine hr_iconst o (0 : Int32) dX4_leastOf_0 (by decide) ?_
  refine hr_istore_n o [(2, .int (0 : Int32)), (0, .ref om), (1, .int l1)] dX4_leastOf_1 (by decide) rfl ?_
  refine hr_sub [2, 0] rfl ?_
  exact llX4_leastOf_2 o hf_N l1 (0 : Int32) V0
theorem mtX4_leastOf {om : Nat} {b : hf_H} (l1 : Int32) (V0 : hf_V) (r : Int32) (V1 : hf_V) (e : spX4_leastOf l1 V0 = some (r, V1)) : hf_Con yX4_leastOf cX4_leastOf 3 (some .int) 1 21 [.ref om, .int l1] (hf_M om b V0) (.returned (some (.int r)), hf_M om b V1) := hf_entry (dec := hf_dMI om b) (by decide) [.ref om, .int l1] (Nat.le_of_ble_eq_true rfl) [(0, .ref om), (1, .int l1)] rfl e (fun C o _ => jtX4_leastOf o l1 V0)

/-! fillsWorth -/
theorem flX4_42 : hf_Fl RX4 42 4 22 := ⟨(RX4, TX4, 37), RX4, rfl, by decide, in_X4, tyX4_ok, nmX4, Or.inl q1422, Or.inl rfl⟩
theorem flX4_45 : hf_Fl RX4 45 4 23 := ⟨(RX4, TX4, 37), RX4, rfl, by decide, in_X4, tyX4_ok, nmX4, Or.inl q1423, Or.inl rfl⟩
theorem mvX4_326 : hf_MV RX4 326 RX4 yX4_fitOf cX4_fitOf 3 (some .int) 2 := ⟨lw_V q1731 q1733 qs106 q162 q1734, by decide +kernel⟩
theorem mvX4_323 : hf_MV RX4 323 RX4 yX4_leastOf cX4_leastOf 3 (some .int) 1 := ⟨lw_V q1727 q1729 qs105 q162 q1730, by decide +kernel⟩
def ndX4_fillsWorth_162 (k9 : Int32 → hf_V → Option hf_V) (k62 : Int32 → Int32 → Int32 → Int32 → hf_V → Option hf_V) (l1 : Int32) (l2 : Int32) (l3 : Int32) (l4 : Int32) (V0 : hf_V) : Option hf_V :=
  hf_let (l4 + (1 : Int32)) fun x1 =>
  k62 l1 l2 l3 x1 V0
theorem nlX4_fillsWorth_162 {C : hf_X} {om : Nat} {b : hf_H} (o : hf_In C cX4_fillsWorth RX4 7 (none) 3 67) (k9 : Int32 → hf_V → Option hf_V) (k62 : Int32 → Int32 → Int32 → Int32 → hf_V → Option hf_V) (hk9 : ∀ (l1 : Int32) (V0 : hf_V), hf_J C (hf_dMV om b) (k9 l1 V0) (hf_M om b V0) 9 [(0, .ref om), (1, .int l1)] []) (hk62 : ∀ (l1 : Int32) (l2 : Int32) (l3 : Int32) (l4 : Int32) (V0 : hf_V), hf_J C (hf_dMV om b) (k62 l1 l2 l3 l4 V0) (hf_M om b V0) 62 [(0, .ref om), (1, .int l1), (2, .int l2), (3, .int l3), (4, .int l4)] []) (l1 : Int32) (l2 : Int32) (l3 : Int32) (l4 : Int32) (V0 : hf_V) : hf_J C (hf_dMV om b) (ndX4_fillsWorth_162 k9 k62 l1 l2 l3 l4 V0) (hf_M om b V0) 162 [(0, .ref om), (1, .int l1), (2, .int l2), (3, .int l3), (4, .int l4)] [] := by
  refine hr_iincN o (1 : Int32) 4 (fun y => [(4, .int y), (0, .ref om), (1, .int l1), (2, .int l2), (3, .int l3)]) dX4_fillsWorth_162 rfl (by decide) (by decide) (fun y => rfl) (fun x1 => ?_)
  refine hr_goto o 62 dX4_fillsWorth_165 (by decide) ?_
  refine hr_sub [1, 2, 3, 4, 0] rfl ?_
  exact hk62 l1 l2 l3 x1 V0
def ndX4_fillsWorth_116 (k9 : Int32 → hf_V → Option hf_V) (k62 : Int32 → Int32 → Int32 → Int32 → hf_V → Option hf_V) (l1 : Int32) (l2 : Int32) (l3 : Int32) (l4 : Int32) (s0 : Int32) (V0 : hf_V) : Option hf_V :=
  (hf_ld 4096 (V0.2.2.2.1 22) (l3 &&& (((1 : Int32) <<< (l4 &&& 31)) ^^^ (-1 : Int32)))).bind fun x1 =>
  hf_let (s0 + x1) fun x2 =>
  (hf_ld 4096 (V0.2.2.2.1 22) l1).bind fun x3 =>
  if x3 < x2 then (hf_sd 4096 l1 (fun j => hf_ua V0 22 j x2) fun V4 =>
  hf_sd 4096 l1 (fun j => hf_ua V4 23 j l4) fun V5 =>
  ndX4_fillsWorth_162 k9 k62 l1 l2 l3 l4 V5) else
  ndX4_fillsWorth_162 k9 k62 l1 l2 l3 l4 V0
theorem nlX4_fillsWorth_116 {C : hf_X} {om : Nat} {b : hf_H} (o : hf_In C cX4_fillsWorth RX4 7 (none) 3 67) (k9 : Int32 → hf_V → Option hf_V) (k62 : Int32 → Int32 → Int32 → Int32 → hf_V → Option hf_V) (hk9 : ∀ (l1 : Int32) (V0 : hf_V), hf_J C (hf_dMV om b) (k9 l1 V0) (hf_M om b V0) 9 [(0, .ref om), (1, .int l1)] []) (hk62 : ∀ (l1 : Int32) (l2 : Int32) (l3 : Int32) (l4 : Int32) (V0 : hf_V), hf_J C (hf_dMV om b) (k62 l1 l2 l3 l4 V0) (hf_M om b V0) 62 [(0, .ref om), (1, .int l1), (2, .int l2), (3, .int l3), (4, .int l4)] []) (l1 : Int32) (l2 : Int32) (l3 : Int32) (l4 : Int32) (s0 : Int32) (V0 : hf_V) : hf_J C (hf_dMV om b) (ndX4_fillsWorth_116 k9 k62 l1 l2 l3 l4 s0 V0) (hf_M om b V0) 116 [(0, .ref om), (1, .int l1), (2, .int l2), (3, .int l3), (4, .int l4)] [.int s0] := by
  refine hr_aload_n o 0 dX4_fillsWorth_116 rfl ?_
  refine mr_get o flX4_42 dX4_fillsWorth_117 (.ref (om + 11)) rfl ?_
  refine hr_iload_n o 3 dX4_fillsWorth_120 rfl ?_
  refine hr_iconst o (1 : Int32) dX4_fillsWorth_121 (by decide) ?_
  refine hr_iload o 4 dX4_fillsWorth_122 rfl ?_
  refine hr_ishl o dX4_fillsWorth_124 ?_
  refine hr_iconst o (-1 : Int32) dX4_fillsWorth_125 (by decide) ?_
  refine hr_ixor o dX4_fillsWorth_126 ?_
  refine hr_iand o dX4_fillsWorth_127 ?_
  refine mr_iald o 22 11 4096 rfl (by decide) rfl dX4_fillsWorth_128 (fun x1 => ?_)
  refine hr_iadd o dX4_fillsWorth_129 ?_
  refine hr_nmI (fun x2 => ?_)
  refine hr_istore o [(6, .int x2), (0, .ref om), (1, .int l1), (2, .int l2), (3, .int l3), (4, .int l4)] dX4_fillsWorth_130 (by decide) rfl ?_
  refine hr_iload o 0 dX4_fillsWorth_132 rfl ?_
  refine hr_aload_n o 1 dX4_fillsWorth_134 rfl ?_
  refine mr_get o flX4_42 dX4_fillsWorth_135 (.ref (om + 11)) rfl ?_
  refine hr_iload_n o 2 dX4_fillsWorth_138 rfl ?_
  refine mr_iald o 22 11 4096 rfl (by decide) rfl dX4_fillsWorth_139 (fun x3 => ?_)
  refine hr_icmp_gt o 146 dX4_fillsWorth_140 (by decide) (fun _ => ?_) (fun _ => ?_)
  · refine hr_aload_n o 1 dX4_fillsWorth_146 rfl ?_
    refine mr_get o flX4_42 dX4_fillsWorth_147 (.ref (om + 11)) rfl ?_
    refine hr_iload_n o 2 dX4_fillsWorth_150 rfl ?_
    refine hr_iload o 0 dX4_fillsWorth_151 rfl ?_
    refine mr_iast o 22 11 4096 rfl (by decide) rfl dX4_fillsWorth_153 (fun V4 => ?_)
    refine hr_aload_n o 1 dX4_fillsWorth_154 rfl ?_
    refine mr_get o flX4_45 dX4_fillsWorth_155 (.ref (om + 12)) rfl ?_
    refine hr_iload_n o 2 dX4_fillsWorth_158 rfl ?_
    refine hr_iload o 5 dX4_fillsWorth_159 rfl ?_
    refine mr_iast o 23 12 4096 rfl (by decide) rfl dX4_fillsWorth_161 (fun V5 => ?_)
    refine hr_sub [1, 2, 3, 4, 5] rfl ?_
    exact nlX4_fillsWorth_162 o k9 k62 hk9 hk62 l1 l2 l3 l4 V5
  refine hr_goto o 162 dX4_fillsWorth_143 (by decide) ?_
  refine hr_sub [1, 2, 3, 4, 5] rfl ?_
  exact nlX4_fillsWorth_162 o k9 k62 hk9 hk62 l1 l2 l3 l4 V0
def ndX4_fillsWorth_93 (k9 : Int32 → hf_V → Option hf_V) (k62 : Int32 → Int32 → Int32 → Int32 → hf_V → Option hf_V) (l1 : Int32) (l2 : Int32) (l3 : Int32) (l4 : Int32) (s0 : Int32) (V0 : hf_V) : Option hf_V :=
  if s0 = 0 then (ndX4_fillsWorth_162 k9 k62 l1 l2 l3 l4 V0) else
  if s0 = (2 : Int32) then (ndX4_fillsWorth_116 k9 k62 l1 l2 l3 l4 (40 : Int32) V0) else
  ndX4_fillsWorth_116 k9 k62 l1 l2 l3 l4 (20 : Int32) V0
theorem nlX4_fillsWorth_93 {C : hf_X} {om : Nat} {b : hf_H} (o : hf_In C cX4_fillsWorth RX4 7 (none) 3 67) (k9 : Int32 → hf_V → Option hf_V) (k62 : Int32 → Int32 → Int32 → Int32 → hf_V → Option hf_V) (hk9 : ∀ (l1 : Int32) (V0 : hf_V), hf_J C (hf_dMV om b) (k9 l1 V0) (hf_M om b V0) 9 [(0, .ref om), (1, .int l1)] []) (hk62 : ∀ (l1 : Int32) (l2 : Int32) (l3 : Int32) (l4 : Int32) (V0 : hf_V), hf_J C (hf_dMV om b) (k62 l1 l2 l3 l4 V0) (hf_M om b V0) 62 [(0, .ref om), (1, .int l1), (2, .int l2), (3, .int l3), (4, .int l4)] []) (l1 : Int32) (l2 : Int32) (l3 : Int32) (l4 : Int32) (s0 : Int32) (V0 : hf_V) : hf_J C (hf_dMV om b) (ndX4_fillsWorth_93 k9 k62 l1 l2 l3 l4 s0 V0) (hf_M om b V0) 93 [(0, .ref om), (1, .int l1), (2, .int l2), (3, .int l3), (4, .int l4)] [.int s0] := by
  refine hr_istore o [(5, .int s0), (0, .ref om), (1, .int l1), (2, .int l2), (3, .int l3), (4, .int l4)] dX4_fillsWorth_93 (by decide) rfl ?_
  refine hr_iload o 0 dX4_fillsWorth_95 rfl ?_
  refine hr_if_ne o 103 dX4_fillsWorth_97 (by decide) (fun _ => ?_) (fun _ => ?_)
  · refine hr_goto o 162 dX4_fillsWorth_100 (by decide) ?_
    refine hr_sub [1, 2, 3, 4, 5] rfl ?_
    exact nlX4_fillsWorth_162 o k9 k62 hk9 hk62 l1 l2 l3 l4 V0
  refine hr_iload o 0 dX4_fillsWorth_103 rfl ?_
  refine hr_iconst o (2 : Int32) dX4_fillsWorth_105 (by decide) ?_
  refine hr_icmp_ne o 114 dX4_fillsWorth_106 (by decide) (fun _ => ?_) (fun _ => ?_)
  · refine hr_bipush o (40 : Int32) dX4_fillsWorth_109 (by decide) ?_
    refine hr_goto o 116 dX4_fillsWorth_111 (by decide) ?_
    refine hr_sub [1, 2, 3, 4, 5] rfl ?_
    exact nlX4_fillsWorth_116 o k9 k62 hk9 hk62 l1 l2 l3 l4 (40 : Int32) V0
  refine hr_bipush o (20 : Int32) dX4_fillsWorth_114 (by decide) ?_
  refine hr_sub [1, 2, 3, 4, 5] rfl ?_
  exact nlX4_fillsWorth_116 o k9 k62 hk9 hk62 l1 l2 l3 l4 (20 : Int32) V0
def ndX4_fillsWorth_62 (k9 : Int32 → hf_V → Option hf_V) (k62 : Int32 → Int32 → Int32 → Int32 → hf_V → Option hf_V) (l1 : Int32) (l2 : Int32) (l3 : Int32) (l4 : Int32) (V0 : hf_V) : Option hf_V :=
  (hf_ld 123 (V0.2.2.2.1 20) (1 : Int32)).bind fun x1 =>
  if x1 ≤ l4 then (hf_let (l1 + (1 : Int32)) fun x2 =>
  k9 x2 V0) else
  (spX4_isOf l3 l4).bind fun x3 =>
  if x3 = 0 then (ndX4_fillsWorth_93 k9 k62 l1 l2 l3 l4 (0 : Int32) V0) else
  hf_b2 (spX4_fitOf l2 l4 V0) fun x5 V4 =>
  ndX4_fillsWorth_93 k9 k62 l1 l2 l3 l4 x5 V4
theorem nlX4_fillsWorth_62 {C : hf_X} {om : Nat} {b : hf_H} (o : hf_In C cX4_fillsWorth RX4 7 (none) 3 67) (k9 : Int32 → hf_V → Option hf_V) (k62 : Int32 → Int32 → Int32 → Int32 → hf_V → Option hf_V) (hk9 : ∀ (l1 : Int32) (V0 : hf_V), hf_J C (hf_dMV om b) (k9 l1 V0) (hf_M om b V0) 9 [(0, .ref om), (1, .int l1)] []) (hk62 : ∀ (l1 : Int32) (l2 : Int32) (l3 : Int32) (l4 : Int32) (V0 : hf_V), hf_J C (hf_dMV om b) (k62 l1 l2 l3 l4 V0) (hf_M om b V0) 62 [(0, .ref om), (1, .int l1), (2, .int l2), (3, .int l3), (4, .int l4)] []) (l1 : Int32) (l2 : Int32) (l3 : Int32) (l4 : Int32) (V0 : hf_V) : hf_J C (hf_dMV om b) (ndX4_fillsWorth_62 k9 k62 l1 l2 l3 l4 V0) (hf_M om b V0) 62 [(0, .ref om), (1, .int l1), (2, .int l2), (3, .int l3), (4, .int l4)] [] := by
  refine hr_iload o 4 dX4_fillsWorth_62 rfl ?_
  refine hr_aload_n o 0 dX4_fillsWorth_64 rfl ?_
  refine mr_get o flX4_39 dX4_fillsWorth_65 (.ref (om + 10)) rfl ?_
  refine hr_iconst o (1 : Int32) dX4_fillsWorth_68 (by decide) ?_
  refine mr_iald o 20 10 123 rfl (by decide) rfl dX4_fillsWorth_69 (fun x1 => ?_)
  refine hr_icmp_ge o 168 dX4_fillsWorth_70 (by decide) (fun _ => ?_) (fun _ => ?_)
  · refine hr_iincN o (1 : Int32) 1 (fun y => [(1, .int y), (0, .ref om), (2, .int l2), (3, .int l3), (4, .int l4)]) dX4_fillsWorth_168 rfl (by decide) (by decide) (fun y => rfl) (fun x2 => ?_)
    refine hr_goto o 9 dX4_fillsWorth_171 (by decide) ?_
    refine hr_sub [1, 0] rfl ?_
    exact hk9 x2 V0
  refine hr_iload_n o 3 dX4_fillsWorth_73 rfl ?_
  refine hr_iload o 4 dX4_fillsWorth_74 rfl ?_
  refine pr_callI o msX4_215 dX4_fillsWorth_76 [.int l3, .int l4] (fun zr ze => mtX4_isOf l3 l4 zr ze) rfl rfl (Nat.le_of_ble_eq_true rfl) ⟨by decide, by decide⟩ (fun x3 => ?_)
  refine hr_if_eq o 92 dX4_fillsWorth_79 (by decide) (fun _ => ?_) (fun _ => ?_)
  · refine hr_iconst o (0 : Int32) dX4_fillsWorth_92 (by decide) ?_
    exact nlX4_fillsWorth_93 o k9 k62 hk9 hk62 l1 l2 l3 l4 (0 : Int32) V0
  refine hr_aload_n o 0 dX4_fillsWorth_82 rfl ?_
  refine hr_iload_n o 2 dX4_fillsWorth_83 rfl ?_
  refine hr_iload o 4 dX4_fillsWorth_84 rfl ?_
  refine mr_callI o mvX4_326 dX4_fillsWorth_86 [.int l2, .int l4] (fun zr zV ze => mtX4_fitOf l2 l4 V0 zr zV ze) rfl rfl (Nat.le_of_ble_eq_true rfl) ⟨by decide, by decide⟩ (fun x5 V4 => ?_)
  refine hr_goto o 93 dX4_fillsWorth_89 (by decide) ?_
  exact nlX4_fillsWorth_93 o k9 k62 hk9 hk62 l1 l2 l3 l4 x5 V4
def lpX4_fillsWorth_62 (k9 : Int32 → hf_V → Option hf_V) : Nat → Int32 → Int32 → Int32 → Int32 → hf_V → Option hf_V
  | 0 => fun _ _ _ _ _ => none
  | n + 1 => fun l1 l2 l3 l4 V0 => ndX4_fillsWorth_62 k9 (lpX4_fillsWorth_62 k9 n) l1 l2 l3 l4 V0
theorem llX4_fillsWorth_62 {C : hf_X} {om : Nat} {b : hf_H} (o : hf_In C cX4_fillsWorth RX4 7 (none) 3 67) (k9 : Int32 → hf_V → Option hf_V) (hk9 : ∀ (l1 : Int32) (V0 : hf_V), hf_J C (hf_dMV om b) (k9 l1 V0) (hf_M om b V0) 9 [(0, .ref om), (1, .int l1)] []) (n : Nat) : ∀ (l1 : Int32) (l2 : Int32) (l3 : Int32) (l4 : Int32) (V0 : hf_V), hf_J C (hf_dMV om b) ((lpX4_fillsWorth_62 k9 n) l1 l2 l3 l4 V0) (hf_M om b V0) 62 [(0, .ref om), (1, .int l1), (2, .int l2), (3, .int l3), (4, .int l4)] [] := by
  induction n with
  | zero => exact fun _ _ _ _ _ => hr_none
  | succ n ih => exact fun l1 l2 l3 l4 V0 => nlX4_fillsWorth_62 o k9 (lpX4_fillsWorth_62 k9 n) hk9 ih l1 l2 l3 l4 V0
def ndX4_fillsWorth_9 (k9 : Int32 → hf_V → Option hf_V) (l1 : Int32) (V0 : hf_V) : Option hf_V :=
  (hf_ld 123 (V0.2.2.2.1 20) (1 : Int32)).bind fun x1 =>
  if ((1 : Int32) <<< (x1 &&& 31)) ≤ l1 then (some V0) else
  hf_b2 (spX4_leastOf l1 V0) fun x3 V2 =>
  hf_let (l1 &&& (((1 : Int32) <<< (x3 &&& 31)) ^^^ (-1 : Int32))) fun x4 =>
  (hf_ld 4096 (V2.2.2.2.1 22) x4).bind fun x5 =>
  hf_sd 4096 l1 (fun j => hf_ua V2 22 j ((9 : Int32) + x5)) fun V6 =>
  hf_sd 4096 l1 (fun j => hf_ua V6 23 j (-1 : Int32)) fun V7 =>
  hf_let (x3 + (1 : Int32)) fun x8 =>
  lpX4_fillsWorth_62 k9 hf_N l1 x3 x4 x8 V7
theorem nlX4_fillsWorth_9 {C : hf_X} {om : Nat} {b : hf_H} (o : hf_In C cX4_fillsWorth RX4 7 (none) 3 67) (k9 : Int32 → hf_V → Option hf_V) (hk9 : ∀ (l1 : Int32) (V0 : hf_V), hf_J C (hf_dMV om b) (k9 l1 V0) (hf_M om b V0) 9 [(0, .ref om), (1, .int l1)] []) (l1 : Int32) (V0 : hf_V) : hf_J C (hf_dMV om b) (ndX4_fillsWorth_9 k9 l1 V0) (hf_M om b V0) 9 [(0, .ref om), (1, .int l1)] [] := by
  refine hr_iload_n o 1 dX4_fillsWorth_9 rfl ?_
  refine hr_iconst o (1 : Int32) dX4_fillsWorth_10 (by decide) ?_
  refine hr_aload_n o 0 dX4_fillsWorth_11 rfl ?_
  refine mr_get o flX4_39 dX4_fillsWorth_12 (.ref (om + 10)) rfl ?_
  refine hr_iconst o (1 : Int32) dX4_fillsWorth_15 (by decide) ?_
  refine mr_iald o 20 10 123 rfl (by decide) rfl dX4_fillsWorth_16 (fun x1 => ?_)
  refine hr_ishl o dX4_fillsWorth_17 ?_
  refine hr_icmp_ge o 174 dX4_fillsWorth_18 (by decide) (fun _ => ?_) (fun _ => ?_)
  · exact hr_vret o dX4_fillsWorth_174 rfl
  refine hr_aload_n o 0 dX4_fillsWorth_21 rfl ?_
  refine hr_iload_n o 1 dX4_fillsWorth_22 rfl ?_
  refine mr_callI o mvX4_323 dX4_fillsWorth_23 [.int l1] (fun zr zV ze => mtX4_leastOf l1 V0 zr zV ze) rfl rfl (Nat.le_of_ble_eq_true rfl) ⟨by decide, by decide⟩ (fun x3 V2 => ?_)
  refine hr_istore_n o [(2, .int x3), (0, .ref om), (1, .int l1)] dX4_fillsWorth_26 (by decide) rfl ?_
  refine hr_iload_n o 2 dX4_fillsWorth_27 rfl ?_
  refine hr_iconst o (1 : Int32) dX4_fillsWorth_28 (by decide) ?_
  refine hr_iload_n o 0 dX4_fillsWorth_29 rfl ?_
  refine hr_ishl o dX4_fillsWorth_30 ?_
  refine hr_iconst o (-1 : Int32) dX4_fillsWorth_31 (by decide) ?_
  refine hr_ixor o dX4_fillsWorth_32 ?_
  refine hr_iand o dX4_fillsWorth_33 ?_
  refine hr_nmI (fun x4 => ?_)
  refine hr_istore_n o [(3, .int x4), (2, .int x3), (0, .ref om), (1, .int l1)] dX4_fillsWorth_34 (by decide) rfl ?_
  refine hr_aload_n o 2 dX4_fillsWorth_35 rfl ?_
  refine mr_get o flX4_42 dX4_fillsWorth_36 (.ref (om + 11)) rfl ?_
  refine hr_iload_n o 3 dX4_fillsWorth_39 rfl ?_
  refine hr_bipush o (9 : Int32) dX4_fillsWorth_40 (by decide) ?_
  refine hr_aload_n o 2 dX4_fillsWorth_42 rfl ?_
  refine mr_get o flX4_42 dX4_fillsWorth_43 (.ref (om + 11)) rfl ?_
  refine hr_iload_n o 0 dX4_fillsWorth_46 rfl ?_
  refine mr_iald o 22 11 4096 rfl (by decide) rfl dX4_fillsWorth_47 (fun x5 => ?_)
  refine hr_iadd o dX4_fillsWorth_48 ?_
  refine mr_iast o 22 11 4096 rfl (by decide) rfl dX4_fillsWorth_49 (fun V6 => ?_)
  refine hr_aload_n o 2 dX4_fillsWorth_50 rfl ?_
  refine mr_get o flX4_45 dX4_fillsWorth_51 (.ref (om + 12)) rfl ?_
  refine hr_iload_n o 3 dX4_fillsWorth_54 rfl ?_
  refine hr_iconst o (-1 : Int32) dX4_fillsWorth_55 (by decide) ?_
  refine mr_iast o 23 12 4096 rfl (by decide) rfl dX4_fillsWorth_56 (fun V7 => ?_)
  refine hr_iload_n o 1 dX4_fillsWorth_57 rfl ?_
  refine hr_iconst o (1 : Int32) dX4_fillsWorth_58 (by decide) ?_
  refine hr_iadd o dX4_fillsWorth_59 ?_
  refine hr_nmI (fun x8 => ?_)
  refine hr_istore o [(4, .int x8), (3, .int x4), (2, .int x3), (0, .ref om), (1, .int l1)] dX4_fillsWorth_60 (by decide) rfl ?_
  refine hr_sub [3, 4, 2, 1, 0] rfl ?_
  exact llX4_fillsWorth_62 o k9 hk9 hf_N l1 x3 x4 x8 V7
def lpX4_fillsWorth_9  : Nat → Int32 → hf_V → Option hf_V
  | 0 => fun _ _ => none
  | n + 1 => fun l1 V0 => ndX4_fillsWorth_9  (lpX4_fillsWorth_9  n) l1 V0
theorem llX4_fillsWorth_9 {C : hf_X} {om : Nat} {b : hf_H} (o : hf_In C cX4_fillsWorth RX4 7 (none) 3 67)   (n : Nat) : ∀ (l1 : Int32) (V0 : hf_V), hf_J C (hf_dMV om b) ((lpX4_fillsWorth_9  n) l1 V0) (hf_M om b V0) 9 [(0, .ref om), (1, .int l1)] [] := by
  induction n with
  | zero => exact fun _ _ => hr_none
  | succ n ih => exact fun l1 V0 => nlX4_fillsWorth_9 o  (lpX4_fillsWorth_9  n)  ih l1 V0
def spX4_fillsWorth  (V0 : hf_V) : Option hf_V :=
  hf_sd 4096 (0 : Int32) (fun j => hf_ua V0 22 j (0 : Int32)) fun V1 =>
  lpX4_fillsWorth_9 hf_N (1 : Int32) V1
theorem jtX4_fillsWorth {C : hf_X} {om : Nat} {b : hf_H} (o : hf_In C cX4_fillsWorth RX4 7 (none) 3 67)  (V0 : hf_V) : hf_J C (hf_dMV om b) (spX4_fillsWorth V0) (hf_M om b V0) 0 [(0, .ref om)] [] := by
  refine hr_aload_n o 0 dX4_fillsWorth_0 rfl ?_
  refine mr_get o flX4_42 dX4_fillsWorth_1 (.ref (om + 11)) rfl ?_
  refine hr_iconst o (0 : Int32) dX4_fillsWorth_4 (by decide) ?_
  refine hr_iconst o (0 : Int32) dX4_fillsWorth_5 (by decide) ?_
  refine mr_iast o 22 11 4096 rfl (by decide) rfl dX4_fillsWorth_6 (fun V1 => ?_)
  refine hr_iconst o (1 : Int32) dX4_fillsWorth_7 (by decide) ?_
  refine hr_istore_n o [(1, .int (1 : Int32)), (0, .ref om)] dX4_fillsWorth_8 (by decide) rfl ?_
  refine hr_sub [1, 0] rfl ?_
  exact llX4_fillsWorth_9 o hf_N (1 : Int32) V1
theorem mtX4_fillsWorth {om : Nat} {b : hf_H}  (V0 V1 : hf_V) (e : spX4_fillsWorth V0 = some V1) : hf_Con yX4_fillsWorth cX4_fillsWorth 7 (none) 3 67 [.ref om] (hf_M om b V0) (.returned none, hf_M om b V1) := hf_entry (dec := hf_dMV om b) (by decide) [.ref om] (Nat.le_of_ble_eq_true rfl) [(0, .ref om)] rfl e (fun C o _ => jtX4_fillsWorth o V0)

/-! fair -/
theorem flX4_274 : hf_Fl RX4 274 4 25 := ⟨(RX4, TX4, 37), RX4, rfl, by decide, in_X4, tyX4_ok, nmX4, Or.inl q1425, Or.inl rfl⟩
theorem nf_4_25 : hf_Nf 4 25 := ⟨(RX4, TX4, 37), rfl, rfl⟩
theorem mvX4_277 : hf_MV RX4 277 RX4 yX4_allSee cX4_allSee 2 (none) 0 := ⟨lw_V q1699 q1701 qs98 q162 q1702, by decide +kernel⟩
theorem mvX4_280 : hf_MV RX4 280 RX4 yX4_fillsWorth cX4_fillsWorth 7 (none) 0 := ⟨lw_V q1723 q1725 qs104 q162 q1726, by decide +kernel⟩
def ndX4_fair_91 (k64 : Int32 → hf_V → Option (Int32 × hf_V)) (l1 : Int32) (s1 : Int32) (s2 : Int32) (V0 : hf_V) : Option (Int32 × hf_V) :=
  hf_sd 123 s1 (fun j => hf_ua V0 20 j s2) fun V1 =>
  hf_let (l1 + (1 : Int32)) fun x2 =>
  k64 x2 V1
theorem nlX4_fair_91 {C : hf_X} {om : Nat} {b : hf_H} (o : hf_In C cX4_fair RX4 2 (some .int) 12 263) (k64 : Int32 → hf_V → Option (Int32 × hf_V)) (hk64 : ∀ (l1 : Int32) (V0 : hf_V), hf_J C (hf_dMI om b) (k64 l1 V0) (hf_M om b V0) 64 [(0, .ref om), (1, .int l1)] []) (l1 : Int32) (s1 : Int32) (s2 : Int32) (V0 : hf_V) : hf_J C (hf_dMI om b) (ndX4_fair_91 k64 l1 s1 s2 V0) (hf_M om b V0) 91 [(0, .ref om), (1, .int l1)] [.int s2, .int s1, .ref (om + 10)] := by
  refine mr_iast o 20 10 123 rfl (by decide) rfl dX4_fair_91 (fun V1 => ?_)
  refine hr_iincN o (1 : Int32) 1 (fun y => [(1, .int y), (0, .ref om)]) dX4_fair_92 rfl (by decide) (by decide) (fun y => rfl) (fun x2 => ?_)
  refine hr_goto o 64 dX4_fair_95 (by decide) ?_
  refine hr_sub [1, 0] rfl ?_
  exact hk64 x2 V1
def ndX4_fair_159   (V0 : hf_V) : Option (Int32 × hf_V) :=
  hf_let (hf_ui V0 25 (0 : Int32)) fun V1 =>
  (spX4_allSee V1).bind fun V2 =>
  (spX4_fillsWorth V2).bind fun V3 =>
  (hf_ld 123 (V3.2.2.2.1 20) (1 : Int32)).bind fun x4 =>
  some (x4, V3)
theorem nlX4_fair_159 {C : hf_X} {om : Nat} {b : hf_H} (o : hf_In C cX4_fair RX4 2 (some .int) 12 263)    (V0 : hf_V) : hf_J C (hf_dMI om b) (ndX4_fair_159 V0) (hf_M om b V0) 159 [(0, .ref om)] [] := by
  refine hr_aload_n o 0 dX4_fair_159 rfl ?_
  refine hr_iconst o (0 : Int32) dX4_fair_160 (by decide) ?_
  refine mr_putI o flX4_274 dX4_fair_161 nf_4_25 rfl rfl (fun V1 => ?_)
  refine hr_aload_n o 0 dX4_fair_164 rfl ?_
  refine mr_callV o mvX4_277 dX4_fair_165 [] (fun zV ze => mtX4_allSee  V1 zV ze) rfl rfl (Nat.le_of_ble_eq_true rfl) ⟨by decide, by decide⟩ (fun V2 => ?_)
  refine hr_aload_n o 0 dX4_fair_168 rfl ?_
  refine mr_callV o mvX4_280 dX4_fair_169 [] (fun zV ze => mtX4_fillsWorth  V2 zV ze) rfl rfl (Nat.le_of_ble_eq_true rfl) ⟨by decide, by decide⟩ (fun V3 => ?_)
  refine hr_aload_n o 0 dX4_fair_172 rfl ?_
  refine mr_get o flX4_39 dX4_fair_173 (.ref (om + 10)) rfl ?_
  refine hr_iconst o (1 : Int32) dX4_fair_176 (by decide) ?_
  refine mr_iald o 20 10 123 rfl (by decide) rfl dX4_fair_177 (fun x4 => ?_)
  exact hr_iret o dX4_fair_178 rfl rfl
def ndX4_fair_141   (V0 : hf_V) : Option (Int32 × hf_V) :=
  (hf_ld 123 (V0.2.2.2.1 20) (8 : Int32)).bind fun x1 =>
  if 0 ≤ x1 then (ndX4_fair_159 V0) else
  hf_sd 123 (8 : Int32) (fun j => hf_ua V0 20 j (1 : Int32)) fun V2 =>
  ndX4_fair_159 V2
theorem nlX4_fair_141 {C : hf_X} {om : Nat} {b : hf_H} (o : hf_In C cX4_fair RX4 2 (some .int) 12 263)    (V0 : hf_V) : hf_J C (hf_dMI om b) (ndX4_fair_141 V0) (hf_M om b V0) 141 [(0, .ref om)] [] := by
  refine hr_aload_n o 0 dX4_fair_141 rfl ?_
  refine mr_get o flX4_39 dX4_fair_142 (.ref (om + 10)) rfl ?_
  refine hr_bipush o (8 : Int32) dX4_fair_145 (by decide) ?_
  refine mr_iald o 20 10 123 rfl (by decide) rfl dX4_fair_147 (fun x1 => ?_)
  refine hr_if_ge o 159 dX4_fair_148 (by decide) (fun _ => ?_) (fun _ => ?_)
  · exact nlX4_fair_159 o V0
  refine hr_aload_n o 0 dX4_fair_151 rfl ?_
  refine mr_get o flX4_39 dX4_fair_152 (.ref (om + 10)) rfl ?_
  refine hr_bipush o (8 : Int32) dX4_fair_155 (by decide) ?_
  refine hr_iconst o (1 : Int32) dX4_fair_157 (by decide) ?_
  refine mr_iast o 20 10 123 rfl (by decide) rfl dX4_fair_158 (fun V2 => ?_)
  exact nlX4_fair_159 o V2
def ndX4_fair_114   (V0 : hf_V) : Option (Int32 × hf_V) :=
  (hf_ld 123 (V0.2.2.2.1 20) (6 : Int32)).bind fun x1 =>
  if 0 ≤ x1 then (ndX4_fair_141 V0) else
  hf_sd 123 (6 : Int32) (fun j => hf_ua V0 20 j (12 : Int32)) fun V2 =>
  hf_sd 123 (7 : Int32) (fun j => hf_ua V2 20 j (5 : Int32)) fun V3 =>
  ndX4_fair_141 V3
theorem nlX4_fair_114 {C : hf_X} {om : Nat} {b : hf_H} (o : hf_In C cX4_fair RX4 2 (some .int) 12 263)    (V0 : hf_V) : hf_J C (hf_dMI om b) (ndX4_fair_114 V0) (hf_M om b V0) 114 [(0, .ref om)] [] := by
  refine hr_aload_n o 0 dX4_fair_114 rfl ?_
  refine mr_get o flX4_39 dX4_fair_115 (.ref (om + 10)) rfl ?_
  refine hr_bipush o (6 : Int32) dX4_fair_118 (by decide) ?_
  refine mr_iald o 20 10 123 rfl (by decide) rfl dX4_fair_120 (fun x1 => ?_)
  refine hr_if_ge o 141 dX4_fair_121 (by decide) (fun _ => ?_) (fun _ => ?_)
  · exact nlX4_fair_141 o V0
  refine hr_aload_n o 0 dX4_fair_124 rfl ?_
  refine mr_get o flX4_39 dX4_fair_125 (.ref (om + 10)) rfl ?_
  refine hr_bipush o (6 : Int32) dX4_fair_128 (by decide) ?_
  refine hr_bipush o (12 : Int32) dX4_fair_130 (by decide) ?_
  refine mr_iast o 20 10 123 rfl (by decide) rfl dX4_fair_132 (fun V2 => ?_)
  refine hr_aload_n o 0 dX4_fair_133 rfl ?_
  refine mr_get o flX4_39 dX4_fair_134 (.ref (om + 10)) rfl ?_
  refine hr_bipush o (7 : Int32) dX4_fair_137 (by decide) ?_
  refine hr_iconst o (5 : Int32) dX4_fair_139 (by decide) ?_
  refine mr_iast o 20 10 123 rfl (by decide) rfl dX4_fair_140 (fun V3 => ?_)
  exact nlX4_fair_141 o V3
def ndX4_fair_64 (k64 : Int32 → hf_V → Option (Int32 × hf_V)) (l1 : Int32) (V0 : hf_V) : Option (Int32 × hf_V) :=
  if (123 : Int32) ≤ l1 then ((hf_ld 123 (V0.2.2.2.1 20) (5 : Int32)).bind fun x1 =>
  if 0 ≤ x1 then (ndX4_fair_114 V0) else
  hf_sd 123 (5 : Int32) (fun j => hf_ua V0 20 j (0 : Int32)) fun V2 =>
  ndX4_fair_114 V2) else
  if (86 : Int32) ≤ l1 then (ndX4_fair_91 k64 l1 l1 (0 : Int32) V0) else
  (hf_ld 86 (V0.2.2.2.1 7) l1).bind fun x3 =>
  ndX4_fair_91 k64 l1 l1 x3 V0
theorem nlX4_fair_64 {C : hf_X} {om : Nat} {b : hf_H} (o : hf_In C cX4_fair RX4 2 (some .int) 12 263) (k64 : Int32 → hf_V → Option (Int32 × hf_V)) (hk64 : ∀ (l1 : Int32) (V0 : hf_V), hf_J C (hf_dMI om b) (k64 l1 V0) (hf_M om b V0) 64 [(0, .ref om), (1, .int l1)] []) (l1 : Int32) (V0 : hf_V) : hf_J C (hf_dMI om b) (ndX4_fair_64 k64 l1 V0) (hf_M om b V0) 64 [(0, .ref om), (1, .int l1)] [] := by
  refine hr_iload_n o 1 dX4_fair_64 rfl ?_
  refine hr_bipush o (123 : Int32) dX4_fair_65 (by decide) ?_
  refine hr_icmp_ge o 98 dX4_fair_67 (by decide) (fun _ => ?_) (fun _ => ?_)
  · refine hr_aload_n o 0 dX4_fair_98 rfl ?_
    refine mr_get o flX4_39 dX4_fair_99 (.ref (om + 10)) rfl ?_
    refine hr_iconst o (5 : Int32) dX4_fair_102 (by decide) ?_
    refine mr_iald o 20 10 123 rfl (by decide) rfl dX4_fair_103 (fun x1 => ?_)
    refine hr_if_ge o 114 dX4_fair_104 (by decide) (fun _ => ?_) (fun _ => ?_)
    · refine hr_sub [0] rfl ?_
      exact nlX4_fair_114 o V0
    refine hr_aload_n o 0 dX4_fair_107 rfl ?_
    refine mr_get o flX4_39 dX4_fair_108 (.ref (om + 10)) rfl ?_
    refine hr_iconst o (5 : Int32) dX4_fair_111 (by decide) ?_
    refine hr_iconst o (0 : Int32) dX4_fair_112 (by decide) ?_
    refine mr_iast o 20 10 123 rfl (by decide) rfl dX4_fair_113 (fun V2 => ?_)
    refine hr_sub [0] rfl ?_
    exact nlX4_fair_114 o V2
  refine hr_aload_n o 0 dX4_fair_70 rfl ?_
  refine mr_get o flX4_39 dX4_fair_71 (.ref (om + 10)) rfl ?_
  refine hr_iload_n o 1 dX4_fair_74 rfl ?_
  refine hr_iload_n o 1 dX4_fair_75 rfl ?_
  refine hr_bipush o (86 : Int32) dX4_fair_76 (by decide) ?_
  refine hr_icmp_ge o 90 dX4_fair_78 (by decide) (fun _ => ?_) (fun _ => ?_)
  · refine hr_iconst o (0 : Int32) dX4_fair_90 (by decide) ?_
    exact nlX4_fair_91 o k64 hk64 l1 l1 (0 : Int32) V0
  refine hr_aload_n o 0 dX4_fair_81 rfl ?_
  refine mr_get o flX4_26 dX4_fair_82 (.ref (om + 6)) rfl ?_
  refine hr_iload_n o 1 dX4_fair_85 rfl ?_
  refine mr_iald o 7 6 86 rfl (by decide) rfl dX4_fair_86 (fun x3 => ?_)
  refine hr_goto o 91 dX4_fair_87 (by decide) ?_
  exact nlX4_fair_91 o k64 hk64 l1 l1 x3 V0
def lpX4_fair_64  : Nat → Int32 → hf_V → Option (Int32 × hf_V)
  | 0 => fun _ _ => none
  | n + 1 => fun l1 V0 => ndX4_fair_64  (lpX4_fair_64  n) l1 V0
theorem llX4_fair_64 {C : hf_X} {om : Nat} {b : hf_H} (o : hf_In C cX4_fair RX4 2 (some .int) 12 263)   (n : Nat) : ∀ (l1 : Int32) (V0 : hf_V), hf_J C (hf_dMI om b) ((lpX4_fair_64  n) l1 V0) (hf_M om b V0) 64 [(0, .ref om), (1, .int l1)] [] := by
  induction n with
  | zero => exact fun _ _ => hr_none
  | succ n ih => exact fun l1 V0 => nlX4_fair_64 o  (lpX4_fair_64  n)  ih l1 V0
def ndX4_fair_28 (k28 : Int32 → hf_V → Option (Int32 × hf_V)) (l1 : Int32) (V0 : hf_V) : Option (Int32 × hf_V) :=
  if (9 : Int32) ≤ l1 then (hf_b2 (spX4_readsAll V0) fun x2 V1 =>
  if x2 = 0 then (some (((-2 : Int32) - (V1.1 9)), V1)) else
  lpX4_fair_64 hf_N (0 : Int32) V1) else
  hf_sd 86 l1 (fun j => hf_ua V0 7 j (-1 : Int32)) fun V3 =>
  hf_let (l1 + (1 : Int32)) fun x4 =>
  k28 x4 V3
theorem nlX4_fair_28 {C : hf_X} {om : Nat} {b : hf_H} (o : hf_In C cX4_fair RX4 2 (some .int) 12 263) (k28 : Int32 → hf_V → Option (Int32 × hf_V)) (hk28 : ∀ (l1 : Int32) (V0 : hf_V), hf_J C (hf_dMI om b) (k28 l1 V0) (hf_M om b V0) 28 [(0, .ref om), (1, .int l1)] []) (l1 : Int32) (V0 : hf_V) : hf_J C (hf_dMI om b) (ndX4_fair_28 k28 l1 V0) (hf_M om b V0) 28 [(0, .ref om), (1, .int l1)] [] := by
  refine hr_iload_n o 1 dX4_fair_28 rfl ?_
  refine hr_bipush o (9 : Int32) dX4_fair_29 (by decide) ?_
  refine hr_icmp_ge o 47 dX4_fair_31 (by decide) (fun _ => ?_) (fun _ => ?_)
  · refine hr_aload_n o 0 dX4_fair_47 rfl ?_
    refine mr_callI o mvX4_271 dX4_fair_48 [] (fun zr zV ze => mtX4_readsAll  V0 zr zV ze) rfl rfl (Nat.le_of_ble_eq_true rfl) ⟨by decide, by decide⟩ (fun x2 V1 => ?_)
    refine hr_if_ne o 62 dX4_fair_51 (by decide) (fun _ => ?_) (fun _ => ?_)
    · refine hr_bipush o (-2 : Int32) dX4_fair_54 (by decide) ?_
      refine hr_aload_n o 0 dX4_fair_56 rfl ?_
      refine mr_get o flX4_78 dX4_fair_57 (.int (V1.1 9)) rfl ?_
      refine hr_isub o dX4_fair_60 ?_
      exact hr_iret o dX4_fair_61 rfl rfl
    refine hr_iconst o (0 : Int32) dX4_fair_62 (by decide) ?_
    refine hr_istore_n o [(1, .int (0 : Int32)), (0, .ref om)] dX4_fair_63 (by decide) rfl ?_
    refine hr_sub [1, 0] rfl ?_
    exact llX4_fair_64 o hf_N (0 : Int32) V1
  refine hr_aload_n o 0 dX4_fair_34 rfl ?_
  refine mr_get o flX4_26 dX4_fair_35 (.ref (om + 6)) rfl ?_
  refine hr_iload_n o 1 dX4_fair_38 rfl ?_
  refine hr_iconst o (-1 : Int32) dX4_fair_39 (by decide) ?_
  refine mr_iast o 7 6 86 rfl (by decide) rfl dX4_fair_40 (fun V3 => ?_)
  refine hr_iincN o (1 : Int32) 1 (fun y => [(1, .int y), (0, .ref om)]) dX4_fair_41 rfl (by decide) (by decide) (fun y => rfl) (fun x4 => ?_)
  refine hr_goto o 28 dX4_fair_44 (by decide) ?_
  refine hr_sub [1, 0] rfl ?_
  exact hk28 x4 V3
def lpX4_fair_28  : Nat → Int32 → hf_V → Option (Int32 × hf_V)
  | 0 => fun _ _ => none
  | n + 1 => fun l1 V0 => ndX4_fair_28  (lpX4_fair_28  n) l1 V0
theorem llX4_fair_28 {C : hf_X} {om : Nat} {b : hf_H} (o : hf_In C cX4_fair RX4 2 (some .int) 12 263)   (n : Nat) : ∀ (l1 : Int32) (V0 : hf_V), hf_J C (hf_dMI om b) ((lpX4_fair_28  n) l1 V0) (hf_M om b V0) 28 [(0, .ref om), (1, .int l1)] [] := by
  induction n with
  | zero => exact fun _ _ => hr_none
  | succ n ih => exact fun l1 V0 => nlX4_fair_28 o  (lpX4_fair_28  n)  ih l1 V0
def ndX4_fair_8 (k8 : Int32 → hf_V → Option (Int32 × hf_V)) (l1 : Int32) (V0 : hf_V) : Option (Int32 × hf_V) :=
  if (5 : Int32) ≤ l1 then (lpX4_fair_28 hf_N (5 : Int32) V0) else
  hf_sd 86 l1 (fun j => hf_ua V0 7 j (0 : Int32)) fun V1 =>
  hf_let (l1 + (1 : Int32)) fun x2 =>
  k8 x2 V1
theorem nlX4_fair_8 {C : hf_X} {om : Nat} {b : hf_H} (o : hf_In C cX4_fair RX4 2 (some .int) 12 263) (k8 : Int32 → hf_V → Option (Int32 × hf_V)) (hk8 : ∀ (l1 : Int32) (V0 : hf_V), hf_J C (hf_dMI om b) (k8 l1 V0) (hf_M om b V0) 8 [(0, .ref om), (1, .int l1)] []) (l1 : Int32) (V0 : hf_V) : hf_J C (hf_dMI om b) (ndX4_fair_8 k8 l1 V0) (hf_M om b V0) 8 [(0, .ref om), (1, .int l1)] [] := by
  refine hr_iload_n o 1 dX4_fair_8 rfl ?_
  refine hr_iconst o (5 : Int32) dX4_fair_9 (by decide) ?_
  refine hr_icmp_ge o 26 dX4_fair_10 (by decide) (fun _ => ?_) (fun _ => ?_)
  · refine hr_iconst o (5 : Int32) dX4_fair_26 (by decide) ?_
    refine hr_istore_n o [(1, .int (5 : Int32)), (0, .ref om)] dX4_fair_27 (by decide) rfl ?_
    refine hr_sub [1, 0] rfl ?_
    exact llX4_fair_28 o hf_N (5 : Int32) V0
  refine hr_aload_n o 0 dX4_fair_13 rfl ?_
  refine mr_get o flX4_26 dX4_fair_14 (.ref (om + 6)) rfl ?_
  refine hr_iload_n o 1 dX4_fair_17 rfl ?_
  refine hr_iconst o (0 : Int32) dX4_fair_18 (by decide) ?_
  refine mr_iast o 7 6 86 rfl (by decide) rfl dX4_fair_19 (fun V1 => ?_)
  refine hr_iincN o (1 : Int32) 1 (fun y => [(1, .int y), (0, .ref om)]) dX4_fair_20 rfl (by decide) (by decide) (fun y => rfl) (fun x2 => ?_)
  refine hr_goto o 8 dX4_fair_23 (by decide) ?_
  refine hr_sub [1, 0] rfl ?_
  exact hk8 x2 V1
def lpX4_fair_8  : Nat → Int32 → hf_V → Option (Int32 × hf_V)
  | 0 => fun _ _ => none
  | n + 1 => fun l1 V0 => ndX4_fair_8  (lpX4_fair_8  n) l1 V0
theorem llX4_fair_8 {C : hf_X} {om : Nat} {b : hf_H} (o : hf_In C cX4_fair RX4 2 (some .int) 12 263)   (n : Nat) : ∀ (l1 : Int32) (V0 : hf_V), hf_J C (hf_dMI om b) ((lpX4_fair_8  n) l1 V0) (hf_M om b V0) 8 [(0, .ref om), (1, .int l1)] [] := by
  induction n with
  | zero => exact fun _ _ => hr_none
  | succ n ih => exact fun l1 V0 => nlX4_fair_8 o  (lpX4_fair_8  n)  ih l1 V0
def spX4_fair  (V0 : hf_V) : Option (Int32 × hf_V) :=
  hf_let (hf_ui V0 11 (6 : Int32)) fun V1 =>
  lpX4_fair_8 hf_N (0 : Int32) V1
theorem jtX4_fair {C : hf_X} {om : Nat} {b : hf_H} (o : hf_In C cX4_fair RX4 2 (some .int) 12 263)  (V0 : hf_V) : hf_J C (hf_dMI om b) (spX4_fair V0) (hf_M om b V0) 0 [(0, .ref om)] [] := by
  refine hr_aload_n o 0 dX4_fair_0 rfl ?_
  refine hr_bipush o (6 : Int32) dX4_fair_1 (by decide) ?_
  refine mr_putI o flX4_139 dX4_fair_3 nf_4_11 rfl rfl (fun V1 => ?_)
  refine hr_iconst o (0 : Int32) dX4_fair_6 (by decide) ?_
  refine hr_istore_n o [(1, .int (0 : Int32)), (0, .ref om)] dX4_fair_7 (by decide) rfl ?_
  refine hr_sub [1, 0] rfl ?_
  exact llX4_fair_8 o hf_N (0 : Int32) V1
theorem mtX4_fair {om : Nat} {b : hf_H}  (V0 : hf_V) (r : Int32) (V1 : hf_V) (e : spX4_fair V0 = some (r, V1)) : hf_Con yX4_fair cX4_fair 2 (some .int) 12 263 [.ref om] (hf_M om b V0) (.returned (some (.int r)), hf_M om b V1) := hf_entry (dec := hf_dMI om b) (by decide) [.ref om] (Nat.le_of_ble_eq_true rfl) [(0, .ref om)] rfl e (fun C o _ => jtX4_fair o V0)

/-! isFair -/
def spX4_isFair  (V0 : hf_V) : Option (Int32 × hf_V) :=
  (hf_ld 123 (V0.2.2.2.1 20) (0 : Int32)).bind fun x1 =>
  if x1 ≤ 0 then (some ((0 : Int32), V0)) else
  some ((1 : Int32), V0)
theorem jtX4_isFair {C : hf_X} {om : Nat} {b : hf_H} (o : hf_In C cX4_isFair RX4 1 (some .boolean) 0 0)  (V0 : hf_V) : hf_J C (hf_dMI om b) (spX4_isFair V0) (hf_M om b V0) 0 [(0, .ref om)] [] := by
  refine hr_aload_n o 0 dX4_isFair_0 rfl ?_
  refine mr_get o flX4_39 dX4_isFair_1 (.ref (om + 10)) rfl ?_
  refine hr_iconst o (0 : Int32) dX4_isFair_4 (by decide) ?_
  refine mr_iald o 20 10 123 rfl (by decide) rfl dX4_isFair_5 (fun x1 => ?_)
  refine hr_if_le o 13 dX4_isFair_6 (by decide) (fun _ => ?_) (fun _ => ?_)
  · refine hr_iconst o (0 : Int32) dX4_isFair_13 (by decide) ?_
    exact hr_iret o dX4_isFair_14 rfl (by decide)
  refine hr_iconst o (1 : Int32) dX4_isFair_9 (by decide) ?_
  refine hr_goto o 14 dX4_isFair_10 (by decide) ?_
  exact hr_iret o dX4_isFair_14 rfl (by decide)
theorem mtX4_isFair {om : Nat} {b : hf_H}  (V0 : hf_V) (r : Int32) (V1 : hf_V) (e : spX4_isFair V0 = some (r, V1)) : hf_Con yX4_isFair cX4_isFair 1 (some .boolean) 0 0 [.ref om] (hf_M om b V0) (.returned (some (.int r)), hf_M om b V1) := hf_entry (dec := hf_dMI om b) (by decide) [.ref om] (Nat.le_of_ble_eq_true rfl) [(0, .ref om)] rfl e (fun C o _ => jtX4_isFair o V0)

/-! isSet -/
theorem mvX4_329 : hf_MV RX4 329 RX4 yX4_isFair cX4_isFair 1 (some .boolean) 0 := ⟨lw_V q1751 q1753 qs110 q162 q1754, by decide +kernel⟩
def spX4_isSet (l1 : Int32) (V0 : hf_V) : Option (Int32 × hf_V) :=
  hf_b2 (spX4_isFair V0) fun x2 V1 =>
  if x2 = 0 then (some ((0 : Int32), V1)) else
  if l1 < 0 then (some ((0 : Int32), V1)) else
  (hf_ld 123 (V1.2.2.2.1 20) (1 : Int32)).bind fun x3 =>
  if ((1 : Int32) <<< (x3 &&& 31)) ≤ l1 then (some ((0 : Int32), V1)) else
  some ((1 : Int32), V1)
theorem jtX4_isSet {C : hf_X} {om : Nat} {b : hf_H} (o : hf_In C cX4_isSet RX4 2 (some .boolean) 1 20) (l1 : Int32) (V0 : hf_V) : hf_J C (hf_dMI om b) (spX4_isSet l1 V0) (hf_M om b V0) 0 [(0, .ref om), (1, .int l1)] [] := by
  refine hr_aload_n o 0 dX4_isSet_0 rfl ?_
  refine mr_callI o mvX4_329 dX4_isSet_1 [] (fun zr zV ze => mtX4_isFair  V0 zr zV ze) rfl rfl (Nat.le_of_ble_eq_true rfl) ⟨by decide, by decide⟩ (fun x2 V1 => ?_)
  refine hr_if_eq o 27 dX4_isSet_4 (by decide) (fun _ => ?_) (fun _ => ?_)
  · refine hr_iconst o (0 : Int32) dX4_isSet_27 (by decide) ?_
    exact hr_iret o dX4_isSet_28 rfl (by decide)
  refine hr_iload_n o 1 dX4_isSet_7 rfl ?_
  refine hr_if_lt o 27 dX4_isSet_8 (by decide) (fun _ => ?_) (fun _ => ?_)
  · refine hr_iconst o (0 : Int32) dX4_isSet_27 (by decide) ?_
    exact hr_iret o dX4_isSet_28 rfl (by decide)
  refine hr_iload_n o 1 dX4_isSet_11 rfl ?_
  refine hr_iconst o (1 : Int32) dX4_isSet_12 (by decide) ?_
  refine hr_aload_n o 0 dX4_isSet_13 rfl ?_
  refine mr_get o flX4_39 dX4_isSet_14 (.ref (om + 10)) rfl ?_
  refine hr_iconst o (1 : Int32) dX4_isSet_17 (by decide) ?_
  refine mr_iald o 20 10 123 rfl (by decide) rfl dX4_isSet_18 (fun x3 => ?_)
  refine hr_ishl o dX4_isSet_19 ?_
  refine hr_icmp_ge o 27 dX4_isSet_20 (by decide) (fun _ => ?_) (fun _ => ?_)
  · refine hr_iconst o (0 : Int32) dX4_isSet_27 (by decide) ?_
    exact hr_iret o dX4_isSet_28 rfl (by decide)
  refine hr_iconst o (1 : Int32) dX4_isSet_23 (by decide) ?_
  refine hr_goto o 28 dX4_isSet_24 (by decide) ?_
  exact hr_iret o dX4_isSet_28 rfl (by decide)
theorem mtX4_isSet {om : Nat} {b : hf_H} (l1 : Int32) (V0 : hf_V) (r : Int32) (V1 : hf_V) (e : spX4_isSet l1 V0 = some (r, V1)) : hf_Con yX4_isSet cX4_isSet 2 (some .boolean) 1 20 [.ref om, .int l1] (hf_M om b V0) (.returned (some (.int r)), hf_M om b V1) := hf_entry (dec := hf_dMI om b) (by decide) [.ref om, .int l1] (Nat.le_of_ble_eq_true rfl) [(0, .ref om), (1, .int l1)] rfl e (fun C o _ => jtX4_isSet o l1 V0)

/-! worth -/
theorem mvX4_332 : hf_MV RX4 332 RX4 yX4_isSet cX4_isSet 2 (some .boolean) 1 := ⟨lw_V q1747 q1749 qs109 q162 q1750, by decide +kernel⟩
def spX4_worth (l1 : Int32) (V0 : hf_V) : Option (Int32 × hf_V) :=
  hf_b2 (spX4_isSet l1 V0) fun x2 V1 =>
  if x2 = 0 then (some ((-1 : Int32), V1)) else
  (hf_ld 4096 (V1.2.2.2.1 22) l1).bind fun x3 =>
  some (x3, V1)
theorem jtX4_worth {C : hf_X} {om : Nat} {b : hf_H} (o : hf_In C cX4_worth RX4 2 (some .int) 2 41) (l1 : Int32) (V0 : hf_V) : hf_J C (hf_dMI om b) (spX4_worth l1 V0) (hf_M om b V0) 0 [(0, .ref om), (1, .int l1)] [] := by
  refine hr_aload_n o 0 dX4_worth_0 rfl ?_
  refine hr_iload_n o 1 dX4_worth_1 rfl ?_
  refine mr_callI o mvX4_332 dX4_worth_2 [.int l1] (fun zr zV ze => mtX4_isSet l1 V0 zr zV ze) rfl rfl (Nat.le_of_ble_eq_true rfl) ⟨by decide, by decide⟩ (fun x2 V1 => ?_)
  refine hr_if_eq o 17 dX4_worth_5 (by decide) (fun _ => ?_) (fun _ => ?_)
  · refine hr_iconst o (-1 : Int32) dX4_worth_17 (by decide) ?_
    exact hr_iret o dX4_worth_18 rfl rfl
  refine hr_aload_n o 0 dX4_worth_8 rfl ?_
  refine mr_get o flX4_42 dX4_worth_9 (.ref (om + 11)) rfl ?_
  refine hr_iload_n o 1 dX4_worth_12 rfl ?_
  refine mr_iald o 22 11 4096 rfl (by decide) rfl dX4_worth_13 (fun x3 => ?_)
  refine hr_goto o 18 dX4_worth_14 (by decide) ?_
  exact hr_iret o dX4_worth_18 rfl rfl
theorem mtX4_worth {om : Nat} {b : hf_H} (l1 : Int32) (V0 : hf_V) (r : Int32) (V1 : hf_V) (e : spX4_worth l1 V0 = some (r, V1)) : hf_Con yX4_worth cX4_worth 2 (some .int) 2 41 [.ref om, .int l1] (hf_M om b V0) (.returned (some (.int r)), hf_M om b V1) := hf_entry (dec := hf_dMI om b) (by decide) [.ref om, .int l1] (Nat.le_of_ble_eq_true rfl) [(0, .ref om), (1, .int l1)] rfl e (fun C o _ => jtX4_worth o l1 V0)

/-! isHalf -/
def spX4_isHalf (l1 : Int32) (V0 : hf_V) : Option (Int32 × hf_V) :=
  if l1 < 0 then (some ((0 : Int32), V0)) else
  (hf_ld 123 (V0.2.2.2.1 20) (1 : Int32)).bind fun x1 =>
  if x1 ≤ l1 then (some ((0 : Int32), V0)) else
  some ((1 : Int32), V0)
theorem jtX4_isHalf {C : hf_X} {om : Nat} {b : hf_H} (o : hf_In C cX4_isHalf RX4 2 (some .boolean) 0 0) (l1 : Int32) (V0 : hf_V) : hf_J C (hf_dMI om b) (spX4_isHalf l1 V0) (hf_M om b V0) 0 [(0, .ref om), (1, .int l1)] [] := by
  refine hr_iload_n o 1 dX4_isHalf_0 rfl ?_
  refine hr_if_lt o 18 dX4_isHalf_1 (by decide) (fun _ => ?_) (fun _ => ?_)
  · refine hr_iconst o (0 : Int32) dX4_isHalf_18 (by decide) ?_
    exact hr_iret o dX4_isHalf_19 rfl (by decide)
  refine hr_iload_n o 1 dX4_isHalf_4 rfl ?_
  refine hr_aload_n o 0 dX4_isHalf_5 rfl ?_
  refine mr_get o flX4_39 dX4_isHalf_6 (.ref (om + 10)) rfl ?_
  refine hr_iconst o (1 : Int32) dX4_isHalf_9 (by decide) ?_
  refine mr_iald o 20 10 123 rfl (by decide) rfl dX4_isHalf_10 (fun x1 => ?_)
  refine hr_icmp_ge o 18 dX4_isHalf_11 (by decide) (fun _ => ?_) (fun _ => ?_)
  · refine hr_iconst o (0 : Int32) dX4_isHalf_18 (by decide) ?_
    exact hr_iret o dX4_isHalf_19 rfl (by decide)
  refine hr_iconst o (1 : Int32) dX4_isHalf_14 (by decide) ?_
  refine hr_goto o 19 dX4_isHalf_15 (by decide) ?_
  exact hr_iret o dX4_isHalf_19 rfl (by decide)
theorem mtX4_isHalf {om : Nat} {b : hf_H} (l1 : Int32) (V0 : hf_V) (r : Int32) (V1 : hf_V) (e : spX4_isHalf l1 V0 = some (r, V1)) : hf_Con yX4_isHalf cX4_isHalf 2 (some .boolean) 0 0 [.ref om, .int l1] (hf_M om b V0) (.returned (some (.int r)), hf_M om b V1) := hf_entry (dec := hf_dMI om b) (by decide) [.ref om, .int l1] (Nat.le_of_ble_eq_true rfl) [(0, .ref om), (1, .int l1)] rfl e (fun C o _ => jtX4_isHalf o l1 V0)

/-! with -/
theorem mvX4_335 : hf_MV RX4 335 RX4 yX4_isHalf cX4_isHalf 2 (some .boolean) 1 := ⟨lw_V q1759 q1761 qs111 q162 q1762, by decide +kernel⟩
def ndX4_with_80 (k29 : Int32 → Int32 → hf_V → Option (Int32 × hf_V)) (l2 : Int32) (s0 : Int32) (s1 : Int32) (s2 : Int32) (V0 : hf_V) : Option (Int32 × hf_V) :=
  hf_let (s0 &&& ((s1 ||| s2) ^^^ (-1 : Int32))) fun x1 =>
  k29 l2 x1 V0
theorem nlX4_with_80 {C : hf_X} {om : Nat} {b : hf_H} (o : hf_In C cX4_with RX4 6 (some .int) 2 43) (k29 : Int32 → Int32 → hf_V → Option (Int32 × hf_V)) (hk29 : ∀ (l2 : Int32) (l3 : Int32) (V0 : hf_V), hf_J C (hf_dMI om b) (k29 l2 l3 V0) (hf_M om b V0) 29 [(0, .ref om), (2, .int l2), (3, .int l3)] []) (l2 : Int32) (s0 : Int32) (s1 : Int32) (s2 : Int32) (V0 : hf_V) : hf_J C (hf_dMI om b) (ndX4_with_80 k29 l2 s0 s1 s2 V0) (hf_M om b V0) 80 [(0, .ref om), (2, .int l2)] [.int s2, .int s1, .int s0] := by
  refine hr_ior o dX4_with_80 ?_
  refine hr_iconst o (-1 : Int32) dX4_with_81 (by decide) ?_
  refine hr_ixor o dX4_with_82 ?_
  refine hr_iand o dX4_with_83 ?_
  refine hr_nmI (fun x1 => ?_)
  refine hr_istore_n o [(3, .int x1), (0, .ref om), (2, .int l2)] dX4_with_84 (by decide) rfl ?_
  refine hr_goto o 29 dX4_with_85 (by decide) ?_
  refine hr_sub [1, 2, 0] rfl ?_
  exact hk29 l2 x1 V0
def ndX4_with_29 (k29 : Int32 → Int32 → hf_V → Option (Int32 × hf_V)) (l2 : Int32) (l3 : Int32) (V0 : hf_V) : Option (Int32 × hf_V) :=
  hf_b2 (spX4_leastOf l3 V0) fun x2 V1 =>
  (hf_ld 4096 (V1.2.2.2.1 23) l3).bind fun x3 =>
  if x2 = l2 then (some (x3, V1)) else
  if x3 = l2 then (some (x2, V1)) else
  if 0 ≤ x3 then (ndX4_with_80 k29 l2 l3 ((1 : Int32) <<< (x2 &&& 31)) ((1 : Int32) <<< (x3 &&& 31)) V1) else
  ndX4_with_80 k29 l2 l3 ((1 : Int32) <<< (x2 &&& 31)) (0 : Int32) V1
theorem nlX4_with_29 {C : hf_X} {om : Nat} {b : hf_H} (o : hf_In C cX4_with RX4 6 (some .int) 2 43) (k29 : Int32 → Int32 → hf_V → Option (Int32 × hf_V)) (hk29 : ∀ (l2 : Int32) (l3 : Int32) (V0 : hf_V), hf_J C (hf_dMI om b) (k29 l2 l3 V0) (hf_M om b V0) 29 [(0, .ref om), (2, .int l2), (3, .int l3)] []) (l2 : Int32) (l3 : Int32) (V0 : hf_V) : hf_J C (hf_dMI om b) (ndX4_with_29 k29 l2 l3 V0) (hf_M om b V0) 29 [(0, .ref om), (2, .int l2), (3, .int l3)] [] := by
  refine hr_aload_n o 0 dX4_with_29 rfl ?_
  refine hr_iload_n o 2 dX4_with_30 rfl ?_
  refine mr_callI o mvX4_323 dX4_with_31 [.int l3] (fun zr zV ze => mtX4_leastOf l3 V0 zr zV ze) rfl rfl (Nat.le_of_ble_eq_true rfl) ⟨by decide, by decide⟩ (fun x2 V1 => ?_)
  refine hr_istore o [(4, .int x2), (0, .ref om), (2, .int l2), (3, .int l3)] dX4_with_34 (by decide) rfl ?_
  refine hr_aload_n o 1 dX4_with_36 rfl ?_
  refine mr_get o flX4_45 dX4_with_37 (.ref (om + 12)) rfl ?_
  refine hr_iload_n o 3 dX4_with_40 rfl ?_
  refine mr_iald o 23 12 4096 rfl (by decide) rfl dX4_with_41 (fun x3 => ?_)
  refine hr_istore o [(5, .int x3), (4, .int x2), (0, .ref om), (2, .int l2), (3, .int l3)] dX4_with_42 (by decide) rfl ?_
  refine hr_iload o 1 dX4_with_44 rfl ?_
  refine hr_iload_n o 3 dX4_with_46 rfl ?_
  refine hr_icmp_ne o 53 dX4_with_47 (by decide) (fun _ => ?_) (fun _ => ?_)
  · refine hr_iload o 0 dX4_with_50 rfl ?_
    exact hr_iret o dX4_with_52 rfl rfl
  refine hr_iload o 0 dX4_with_53 rfl ?_
  refine hr_iload_n o 3 dX4_with_55 rfl ?_
  refine hr_icmp_ne o 62 dX4_with_56 (by decide) (fun _ => ?_) (fun _ => ?_)
  · refine hr_iload o 1 dX4_with_59 rfl ?_
    exact hr_iret o dX4_with_61 rfl rfl
  refine hr_iload_n o 4 dX4_with_62 rfl ?_
  refine hr_iconst o (1 : Int32) dX4_with_63 (by decide) ?_
  refine hr_iload o 1 dX4_with_64 rfl ?_
  refine hr_ishl o dX4_with_66 ?_
  refine hr_iload o 0 dX4_with_67 rfl ?_
  refine hr_if_ge o 76 dX4_with_69 (by decide) (fun _ => ?_) (fun _ => ?_)
  · refine hr_iconst o (1 : Int32) dX4_with_76 (by decide) ?_
    refine hr_iload o 0 dX4_with_77 rfl ?_
    refine hr_ishl o dX4_with_79 ?_
    refine hr_sub [2, 3] rfl ?_
    exact nlX4_with_80 o k29 hk29 l2 l3 ((1 : Int32) <<< (x2 &&& 31)) ((1 : Int32) <<< (x3 &&& 31)) V1
  refine hr_iconst o (0 : Int32) dX4_with_72 (by decide) ?_
  refine hr_goto o 80 dX4_with_73 (by decide) ?_
  refine hr_sub [2, 3] rfl ?_
  exact nlX4_with_80 o k29 hk29 l2 l3 ((1 : Int32) <<< (x2 &&& 31)) (0 : Int32) V1
def lpX4_with_29  : Nat → Int32 → Int32 → hf_V → Option (Int32 × hf_V)
  | 0 => fun _ _ _ => none
  | n + 1 => fun l2 l3 V0 => ndX4_with_29  (lpX4_with_29  n) l2 l3 V0
theorem llX4_with_29 {C : hf_X} {om : Nat} {b : hf_H} (o : hf_In C cX4_with RX4 6 (some .int) 2 43)   (n : Nat) : ∀ (l2 : Int32) (l3 : Int32) (V0 : hf_V), hf_J C (hf_dMI om b) ((lpX4_with_29  n) l2 l3 V0) (hf_M om b V0) 29 [(0, .ref om), (2, .int l2), (3, .int l3)] [] := by
  induction n with
  | zero => exact fun _ _ _ => hr_none
  | succ n ih => exact fun l2 l3 V0 => nlX4_with_29 o  (lpX4_with_29  n)  ih l2 l3 V0
def spX4_with (l1 : Int32) (l2 : Int32) (V0 : hf_V) : Option (Int32 × hf_V) :=
  hf_b2 (spX4_isSet l1 V0) fun x2 V1 =>
  if x2 = 0 then (some ((-2 : Int32), V1)) else
  hf_b2 (spX4_isHalf l2 V1) fun x4 V3 =>
  if x4 = 0 then (some ((-2 : Int32), V3)) else
  (spX4_isOf l1 l2).bind fun x5 =>
  if x5 = 0 then (some ((-2 : Int32), V3)) else
  lpX4_with_29 hf_N l2 l1 V3
theorem jtX4_with {C : hf_X} {om : Nat} {b : hf_H} (o : hf_In C cX4_with RX4 6 (some .int) 2 43) (l1 : Int32) (l2 : Int32) (V0 : hf_V) : hf_J C (hf_dMI om b) (spX4_with l1 l2 V0) (hf_M om b V0) 0 [(0, .ref om), (1, .int l1), (2, .int l2)] [] := by
  refine hr_aload_n o 0 dX4_with_0 rfl ?_
  refine hr_iload_n o 1 dX4_with_1 rfl ?_
  refine mr_callI o mvX4_332 dX4_with_2 [.int l1] (fun zr zV ze => mtX4_isSet l1 V0 zr zV ze) rfl rfl (Nat.le_of_ble_eq_true rfl) ⟨by decide, by decide⟩ (fun x2 V1 => ?_)
  refine hr_if_eq o 24 dX4_with_5 (by decide) (fun _ => ?_) (fun _ => ?_)
  · refine hr_bipush o (-2 : Int32) dX4_with_24 (by decide) ?_
    exact hr_iret o dX4_with_26 rfl rfl
  refine hr_aload_n o 0 dX4_with_8 rfl ?_
  refine hr_iload_n o 2 dX4_with_9 rfl ?_
  refine mr_callI o mvX4_335 dX4_with_10 [.int l2] (fun zr zV ze => mtX4_isHalf l2 V1 zr zV ze) rfl rfl (Nat.le_of_ble_eq_true rfl) ⟨by decide, by decide⟩ (fun x4 V3 => ?_)
  refine hr_if_eq o 24 dX4_with_13 (by decide) (fun _ => ?_) (fun _ => ?_)
  · refine hr_bipush o (-2 : Int32) dX4_with_24 (by decide) ?_
    exact hr_iret o dX4_with_26 rfl rfl
  refine hr_iload_n o 1 dX4_with_16 rfl ?_
  refine hr_iload_n o 2 dX4_with_17 rfl ?_
  refine pr_callI o msX4_215 dX4_with_18 [.int l1, .int l2] (fun zr ze => mtX4_isOf l1 l2 zr ze) rfl rfl (Nat.le_of_ble_eq_true rfl) ⟨by decide, by decide⟩ (fun x5 => ?_)
  refine hr_if_ne o 27 dX4_with_21 (by decide) (fun _ => ?_) (fun _ => ?_)
  · refine hr_bipush o (-2 : Int32) dX4_with_24 (by decide) ?_
    exact hr_iret o dX4_with_26 rfl rfl
  refine hr_iload_n o 1 dX4_with_27 rfl ?_
  refine hr_istore_n o [(3, .int l1), (0, .ref om), (1, .int l1), (2, .int l2)] dX4_with_28 (by decide) rfl ?_
  refine hr_sub [1, 3, 0] rfl ?_
  exact llX4_with_29 o hf_N l2 l1 V3
theorem mtX4_with {om : Nat} {b : hf_H} (l1 : Int32) (l2 : Int32) (V0 : hf_V) (r : Int32) (V1 : hf_V) (e : spX4_with l1 l2 V0 = some (r, V1)) : hf_Con yX4_with cX4_with 6 (some .int) 2 43 [.ref om, .int l1, .int l2] (hf_M om b V0) (.returned (some (.int r)), hf_M om b V1) := hf_entry (dec := hf_dMI om b) (by decide) [.ref om, .int l1, .int l2] (Nat.le_of_ble_eq_true rfl) [(0, .ref om), (1, .int l1), (2, .int l2)] rfl e (fun C o _ => jtX4_with o l1 l2 V0)

/-! isDusk -/
def spX4_isDusk  (V0 : hf_V) : Option (Int32 × hf_V) :=
  (hf_ld 123 (V0.2.2.2.1 20) (3 : Int32)).bind fun x1 =>
  (hf_ld 123 (V0.2.2.2.1 20) (6 : Int32)).bind fun x2 =>
  if x1 < x2 then (some ((0 : Int32), V0)) else
  some ((1 : Int32), V0)
theorem jtX4_isDusk {C : hf_X} {om : Nat} {b : hf_H} (o : hf_In C cX4_isDusk RX4 1 (some .boolean) 0 0)  (V0 : hf_V) : hf_J C (hf_dMI om b) (spX4_isDusk V0) (hf_M om b V0) 0 [(0, .ref om)] [] := by
  refine hr_aload_n o 0 dX4_isDusk_0 rfl ?_
  refine mr_get o flX4_39 dX4_isDusk_1 (.ref (om + 10)) rfl ?_
  refine hr_iconst o (3 : Int32) dX4_isDusk_4 (by decide) ?_
  refine mr_iald o 20 10 123 rfl (by decide) rfl dX4_isDusk_5 (fun x1 => ?_)
  refine hr_aload_n o 0 dX4_isDusk_6 rfl ?_
  refine mr_get o flX4_39 dX4_isDusk_7 (.ref (om + 10)) rfl ?_
  refine hr_bipush o (6 : Int32) dX4_isDusk_10 (by decide) ?_
  refine mr_iald o 20 10 123 rfl (by decide) rfl dX4_isDusk_12 (fun x2 => ?_)
  refine hr_icmp_lt o 20 dX4_isDusk_13 (by decide) (fun _ => ?_) (fun _ => ?_)
  · refine hr_iconst o (0 : Int32) dX4_isDusk_20 (by decide) ?_
    exact hr_iret o dX4_isDusk_21 rfl (by decide)
  refine hr_iconst o (1 : Int32) dX4_isDusk_16 (by decide) ?_
  refine hr_goto o 21 dX4_isDusk_17 (by decide) ?_
  exact hr_iret o dX4_isDusk_21 rfl (by decide)
theorem mtX4_isDusk {om : Nat} {b : hf_H}  (V0 : hf_V) (r : Int32) (V1 : hf_V) (e : spX4_isDusk V0 = some (r, V1)) : hf_Con yX4_isDusk cX4_isDusk 1 (some .boolean) 0 0 [.ref om] (hf_M om b V0) (.returned (some (.int r)), hf_M om b V1) := hf_entry (dec := hf_dMI om b) (by decide) [.ref om] (Nat.le_of_ble_eq_true rfl) [(0, .ref om)] rfl e (fun C o _ => jtX4_isDusk o V0)

/-! priceOf -/
theorem mvX4_298 : hf_MV RX4 298 RX4 yX4_isDusk cX4_isDusk 1 (some .boolean) 0 := ⟨lw_V q1772 q1774 qs113 q162 q1775, by decide +kernel⟩
def spX4_priceOf (l1 : Int32) (V0 : hf_V) : Option (Int32 × hf_V) :=
  hf_b2 (spX4_isDusk V0) fun x2 V1 =>
  if x2 = 0 then (hf_b2 (spX4_halfOf l1 (2 : Int32) V1) fun x4 V3 =>
  some (x4, V3)) else
  (hf_ld 123 (V1.2.2.2.1 20) (7 : Int32)).bind fun x5 =>
  some (x5, V1)
theorem jtX4_priceOf {C : hf_X} {om : Nat} {b : hf_H} (o : hf_In C cX4_priceOf RX4 2 (some .int) 1 22) (l1 : Int32) (V0 : hf_V) : hf_J C (hf_dMI om b) (spX4_priceOf l1 V0) (hf_M om b V0) 0 [(0, .ref om), (1, .int l1)] [] := by
  refine hr_aload_n o 0 dX4_priceOf_0 rfl ?_
  refine mr_callI o mvX4_298 dX4_priceOf_1 [] (fun zr zV ze => mtX4_isDusk  V0 zr zV ze) rfl rfl (Nat.le_of_ble_eq_true rfl) ⟨by decide, by decide⟩ (fun x2 V1 => ?_)
  refine hr_if_eq o 17 dX4_priceOf_4 (by decide) (fun _ => ?_) (fun _ => ?_)
  · refine hr_aload_n o 0 dX4_priceOf_17 rfl ?_
    refine hr_iload_n o 1 dX4_priceOf_18 rfl ?_
    refine hr_iconst o (2 : Int32) dX4_priceOf_19 (by decide) ?_
    refine mr_callI o mvX4_301 dX4_priceOf_20 [.int l1, .int (2 : Int32)] (fun zr zV ze => mtX4_halfOf l1 (2 : Int32) V1 zr zV ze) rfl rfl (Nat.le_of_ble_eq_true rfl) ⟨by decide, by decide⟩ (fun x4 V3 => ?_)
    exact hr_iret o dX4_priceOf_23 rfl rfl
  refine hr_aload_n o 0 dX4_priceOf_7 rfl ?_
  refine mr_get o flX4_39 dX4_priceOf_8 (.ref (om + 10)) rfl ?_
  refine hr_bipush o (7 : Int32) dX4_priceOf_11 (by decide) ?_
  refine mr_iald o 20 10 123 rfl (by decide) rfl dX4_priceOf_13 (fun x5 => ?_)
  refine hr_goto o 23 dX4_priceOf_14 (by decide) ?_
  exact hr_iret o dX4_priceOf_23 rfl rfl
theorem mtX4_priceOf {om : Nat} {b : hf_H} (l1 : Int32) (V0 : hf_V) (r : Int32) (V1 : hf_V) (e : spX4_priceOf l1 V0 = some (r, V1)) : hf_Con yX4_priceOf cX4_priceOf 2 (some .int) 1 22 [.ref om, .int l1] (hf_M om b V0) (.returned (some (.int r)), hf_M om b V1) := hf_entry (dec := hf_dMI om b) (by decide) [.ref om, .int l1] (Nat.le_of_ble_eq_true rfl) [(0, .ref om), (1, .int l1)] rfl e (fun C o _ => jtX4_priceOf o l1 V0)

/-! half -/
theorem mvX4_340 : hf_MV RX4 340 RX4 yX4_priceOf cX4_priceOf 2 (some .int) 1 := ⟨lw_V q1768 q1770 qs112 q162 q1771, by decide +kernel⟩
def spX4_half (l1 : Int32) (l2 : Int32) (V0 : hf_V) : Option (Int32 × hf_V) :=
  hf_b2 (spX4_isHalf l1 V0) fun x2 V1 =>
  if x2 = 0 then (some ((-1 : Int32), V1)) else
  (spX4_in (Int32.toInt64 l2) (0 : Int64) (4 : Int64)).bind fun x3 =>
  if x3 = 0 then (some ((-1 : Int32), V1)) else
  if l2 = (2 : Int32) then (hf_b2 (spX4_priceOf l1 V1) fun x7 V6 =>
  some (x7, V6)) else
  hf_b2 (spX4_halfOf l1 l2 V1) fun x5 V4 =>
  some (x5, V4)
theorem jtX4_half {C : hf_X} {om : Nat} {b : hf_H} (o : hf_In C cX4_half RX4 3 (some .int) 2 43) (l1 : Int32) (l2 : Int32) (V0 : hf_V) : hf_J C (hf_dMI om b) (spX4_half l1 l2 V0) (hf_M om b V0) 0 [(0, .ref om), (1, .int l1), (2, .int l2)] [] := by
  refine hr_aload_n o 0 dX4_half_0 rfl ?_
  refine hr_iload_n o 1 dX4_half_1 rfl ?_
  refine mr_callI o mvX4_335 dX4_half_2 [.int l1] (fun zr zV ze => mtX4_isHalf l1 V0 zr zV ze) rfl rfl (Nat.le_of_ble_eq_true rfl) ⟨by decide, by decide⟩ (fun x2 V1 => ?_)
  refine hr_if_eq o 20 dX4_half_5 (by decide) (fun _ => ?_) (fun _ => ?_)
  · refine hr_iconst o (-1 : Int32) dX4_half_20 (by decide) ?_
    exact hr_iret o dX4_half_21 rfl rfl
  refine hr_iload_n o 2 dX4_half_8 rfl ?_
  refine hr_i2l o dX4_half_9 ?_
  refine hr_lconst o (0 : Int64) dX4_half_10 (by decide) ?_
  refine hr_ldc2 o (4 : Int64) q1767 dX4_half_11 ?_
  refine pr_callI o msX4_109 dX4_half_14 [.long (Int32.toInt64 l2), .long (0 : Int64), .long (4 : Int64)] (fun zr ze => mtX4_in (Int32.toInt64 l2) (0 : Int64) (4 : Int64) zr ze) rfl rfl (Nat.le_of_ble_eq_true rfl) ⟨by decide, by decide⟩ (fun x3 => ?_)
  refine hr_if_ne o 22 dX4_half_17 (by decide) (fun _ => ?_) (fun _ => ?_)
  · refine hr_iconst o (-1 : Int32) dX4_half_20 (by decide) ?_
    exact hr_iret o dX4_half_21 rfl rfl
  refine hr_iload_n o 2 dX4_half_22 rfl ?_
  refine hr_iconst o (2 : Int32) dX4_half_23 (by decide) ?_
  refine hr_icmp_ne o 35 dX4_half_24 (by decide) (fun _ => ?_) (fun _ => ?_)
  · refine hr_aload_n o 0 dX4_half_27 rfl ?_
    refine hr_iload_n o 1 dX4_half_28 rfl ?_
    refine mr_callI o mvX4_340 dX4_half_29 [.int l1] (fun zr zV ze => mtX4_priceOf l1 V1 zr zV ze) rfl rfl (Nat.le_of_ble_eq_true rfl) ⟨by decide, by decide⟩ (fun x7 V6 => ?_)
    refine hr_goto o 41 dX4_half_32 (by decide) ?_
    exact hr_iret o dX4_half_41 rfl rfl
  refine hr_aload_n o 0 dX4_half_35 rfl ?_
  refine hr_iload_n o 1 dX4_half_36 rfl ?_
  refine hr_iload_n o 2 dX4_half_37 rfl ?_
  refine mr_callI o mvX4_301 dX4_half_38 [.int l1, .int l2] (fun zr zV ze => mtX4_halfOf l1 l2 V1 zr zV ze) rfl rfl (Nat.le_of_ble_eq_true rfl) ⟨by decide, by decide⟩ (fun x5 V4 => ?_)
  exact hr_iret o dX4_half_41 rfl rfl
theorem mtX4_half {om : Nat} {b : hf_H} (l1 : Int32) (l2 : Int32) (V0 : hf_V) (r : Int32) (V1 : hf_V) (e : spX4_half l1 l2 V0 = some (r, V1)) : hf_Con yX4_half cX4_half 3 (some .int) 2 43 [.ref om, .int l1, .int l2] (hf_M om b V0) (.returned (some (.int r)), hf_M om b V1) := hf_entry (dec := hf_dMI om b) (by decide) [.ref om, .int l1, .int l2] (Nat.le_of_ble_eq_true rfl) [(0, .ref om), (1, .int l1), (2, .int l2)] rfl e (fun C o _ => jtX4_half o l1 l2 V0)

/-! fit -/
def spX4_fit (l1 : Int32) (l2 : Int32) (V0 : hf_V) : Option (Int32 × hf_V) :=
  hf_b2 (spX4_isHalf l1 V0) fun x2 V1 =>
  if x2 = 0 then (some ((-1 : Int32), V1)) else
  hf_b2 (spX4_isHalf l2 V1) fun x4 V3 =>
  if x4 = 0 then (some ((-1 : Int32), V3)) else
  if l1 = l2 then (some ((-1 : Int32), V3)) else
  hf_b2 (spX4_fitOf l1 l2 V3) fun x6 V5 =>
  some (x6, V5)
theorem jtX4_fit {C : hf_X} {om : Nat} {b : hf_H} (o : hf_In C cX4_fit RX4 3 (some .int) 3 67) (l1 : Int32) (l2 : Int32) (V0 : hf_V) : hf_J C (hf_dMI om b) (spX4_fit l1 l2 V0) (hf_M om b V0) 0 [(0, .ref om), (1, .int l1), (2, .int l2)] [] := by
  refine hr_aload_n o 0 dX4_fit_0 rfl ?_
  refine hr_iload_n o 1 dX4_fit_1 rfl ?_
  refine mr_callI o mvX4_335 dX4_fit_2 [.int l1] (fun zr zV ze => mtX4_isHalf l1 V0 zr zV ze) rfl rfl (Nat.le_of_ble_eq_true rfl) ⟨by decide, by decide⟩ (fun x2 V1 => ?_)
  refine hr_if_eq o 30 dX4_fit_5 (by decide) (fun _ => ?_) (fun _ => ?_)
  · refine hr_iconst o (-1 : Int32) dX4_fit_30 (by decide) ?_
    exact hr_iret o dX4_fit_31 rfl rfl
  refine hr_aload_n o 0 dX4_fit_8 rfl ?_
  refine hr_iload_n o 2 dX4_fit_9 rfl ?_
  refine mr_callI o mvX4_335 dX4_fit_10 [.int l2] (fun zr zV ze => mtX4_isHalf l2 V1 zr zV ze) rfl rfl (Nat.le_of_ble_eq_true rfl) ⟨by decide, by decide⟩ (fun x4 V3 => ?_)
  refine hr_if_eq o 30 dX4_fit_13 (by decide) (fun _ => ?_) (fun _ => ?_)
  · refine hr_iconst o (-1 : Int32) dX4_fit_30 (by decide) ?_
    exact hr_iret o dX4_fit_31 rfl rfl
  refine hr_iload_n o 1 dX4_fit_16 rfl ?_
  refine hr_iload_n o 2 dX4_fit_17 rfl ?_
  refine hr_icmp_eq o 30 dX4_fit_18 (by decide) (fun _ => ?_) (fun _ => ?_)
  · refine hr_iconst o (-1 : Int32) dX4_fit_30 (by decide) ?_
    exact hr_iret o dX4_fit_31 rfl rfl
  refine hr_aload_n o 0 dX4_fit_21 rfl ?_
  refine hr_iload_n o 1 dX4_fit_22 rfl ?_
  refine hr_iload_n o 2 dX4_fit_23 rfl ?_
  refine mr_callI o mvX4_326 dX4_fit_24 [.int l1, .int l2] (fun zr zV ze => mtX4_fitOf l1 l2 V3 zr zV ze) rfl rfl (Nat.le_of_ble_eq_true rfl) ⟨by decide, by decide⟩ (fun x6 V5 => ?_)
  refine hr_goto o 31 dX4_fit_27 (by decide) ?_
  exact hr_iret o dX4_fit_31 rfl rfl
theorem mtX4_fit {om : Nat} {b : hf_H} (l1 : Int32) (l2 : Int32) (V0 : hf_V) (r : Int32) (V1 : hf_V) (e : spX4_fit l1 l2 V0 = some (r, V1)) : hf_Con yX4_fit cX4_fit 3 (some .int) 3 67 [.ref om, .int l1, .int l2] (hf_M om b V0) (.returned (some (.int r)), hf_M om b V1) := hf_entry (dec := hf_dMI om b) (by decide) [.ref om, .int l1, .int l2] (Nat.le_of_ble_eq_true rfl) [(0, .ref om), (1, .int l1), (2, .int l2)] rfl e (fun C o _ => jtX4_fit o l1 l2 V0)

/-! hasOf -/
def ndX4_hasOf_35 (k4 : Int32 → Int32 → Int32 → hf_V → Option (Int32 × hf_V)) (l1 : Int32) (l3 : Int32) (s0 : Int32) (s1 : Int32) (V0 : hf_V) : Option (Int32 × hf_V) :=
  hf_let (s0 ||| s1) fun x1 =>
  hf_let (l3 + (1 : Int32)) fun x2 =>
  k4 l1 x1 x2 V0
theorem nlX4_hasOf_35 {C : hf_X} {om : Nat} {b : hf_H} (o : hf_In C cX4_hasOf RX4 4 (some .int) 1 22) (k4 : Int32 → Int32 → Int32 → hf_V → Option (Int32 × hf_V)) (hk4 : ∀ (l1 : Int32) (l2 : Int32) (l3 : Int32) (V0 : hf_V), hf_J C (hf_dMI om b) (k4 l1 l2 l3 V0) (hf_M om b V0) 4 [(0, .ref om), (1, .int l1), (2, .int l2), (3, .int l3)] []) (l1 : Int32) (l3 : Int32) (s0 : Int32) (s1 : Int32) (V0 : hf_V) : hf_J C (hf_dMI om b) (ndX4_hasOf_35 k4 l1 l3 s0 s1 V0) (hf_M om b V0) 35 [(0, .ref om), (1, .int l1), (3, .int l3)] [.int s1, .int s0] := by
  refine hr_ior o dX4_hasOf_35 ?_
  refine hr_nmI (fun x1 => ?_)
  refine hr_istore_n o [(2, .int x1), (0, .ref om), (1, .int l1), (3, .int l3)] dX4_hasOf_36 (by decide) rfl ?_
  refine hr_iincN o (1 : Int32) 3 (fun y => [(3, .int y), (2, .int x1), (0, .ref om), (1, .int l1)]) dX4_hasOf_37 rfl (by decide) (by decide) (fun y => rfl) (fun x2 => ?_)
  refine hr_goto o 4 dX4_hasOf_40 (by decide) ?_
  refine hr_sub [2, 3, 1, 0] rfl ?_
  exact hk4 l1 x1 x2 V0
def ndX4_hasOf_4 (k4 : Int32 → Int32 → Int32 → hf_V → Option (Int32 × hf_V)) (l1 : Int32) (l2 : Int32) (l3 : Int32) (V0 : hf_V) : Option (Int32 × hf_V) :=
  (hf_ld 123 (V0.2.2.2.1 20) (1 : Int32)).bind fun x1 =>
  if x1 ≤ l3 then (some (l2, V0)) else
  hf_b2 (spX4_halfOf l3 (3 : Int32) V0) fun x3 V2 =>
  if x3 = ((100 : Int32) + l1) then (ndX4_hasOf_35 k4 l1 l3 l2 ((1 : Int32) <<< (l3 &&& 31)) V2) else
  ndX4_hasOf_35 k4 l1 l3 l2 (0 : Int32) V2
theorem nlX4_hasOf_4 {C : hf_X} {om : Nat} {b : hf_H} (o : hf_In C cX4_hasOf RX4 4 (some .int) 1 22) (k4 : Int32 → Int32 → Int32 → hf_V → Option (Int32 × hf_V)) (hk4 : ∀ (l1 : Int32) (l2 : Int32) (l3 : Int32) (V0 : hf_V), hf_J C (hf_dMI om b) (k4 l1 l2 l3 V0) (hf_M om b V0) 4 [(0, .ref om), (1, .int l1), (2, .int l2), (3, .int l3)] []) (l1 : Int32) (l2 : Int32) (l3 : Int32) (V0 : hf_V) : hf_J C (hf_dMI om b) (ndX4_hasOf_4 k4 l1 l2 l3 V0) (hf_M om b V0) 4 [(0, .ref om), (1, .int l1), (2, .int l2), (3, .int l3)] [] := by
  refine hr_iload_n o 3 dX4_hasOf_4 rfl ?_
  refine hr_aload_n o 0 dX4_hasOf_5 rfl ?_
  refine mr_get o flX4_39 dX4_hasOf_6 (.ref (om + 10)) rfl ?_
  refine hr_iconst o (1 : Int32) dX4_hasOf_9 (by decide) ?_
  refine mr_iald o 20 10 123 rfl (by decide) rfl dX4_hasOf_10 (fun x1 => ?_)
  refine hr_icmp_ge o 43 dX4_hasOf_11 (by decide) (fun _ => ?_) (fun _ => ?_)
  · refine hr_iload_n o 2 dX4_hasOf_43 rfl ?_
    exact hr_iret o dX4_hasOf_44 rfl rfl
  refine hr_iload_n o 2 dX4_hasOf_14 rfl ?_
  refine hr_aload_n o 0 dX4_hasOf_15 rfl ?_
  refine hr_iload_n o 3 dX4_hasOf_16 rfl ?_
  refine hr_iconst o (3 : Int32) dX4_hasOf_17 (by decide) ?_
  refine mr_callI o mvX4_301 dX4_hasOf_18 [.int l3, .int (3 : Int32)] (fun zr zV ze => mtX4_halfOf l3 (3 : Int32) V0 zr zV ze) rfl rfl (Nat.le_of_ble_eq_true rfl) ⟨by decide, by decide⟩ (fun x3 V2 => ?_)
  refine hr_bipush o (100 : Int32) dX4_hasOf_21 (by decide) ?_
  refine hr_iload_n o 1 dX4_hasOf_23 rfl ?_
  refine hr_iadd o dX4_hasOf_24 ?_
  refine hr_icmp_ne o 34 dX4_hasOf_25 (by decide) (fun _ => ?_) (fun _ => ?_)
  · refine hr_iconst o (1 : Int32) dX4_hasOf_28 (by decide) ?_
    refine hr_iload_n o 3 dX4_hasOf_29 rfl ?_
    refine hr_ishl o dX4_hasOf_30 ?_
    refine hr_goto o 35 dX4_hasOf_31 (by decide) ?_
    refine hr_sub [0, 1, 3] rfl ?_
    exact nlX4_hasOf_35 o k4 hk4 l1 l3 l2 ((1 : Int32) <<< (l3 &&& 31)) V2
  refine hr_iconst o (0 : Int32) dX4_hasOf_34 (by decide) ?_
  refine hr_sub [0, 1, 3] rfl ?_
  exact nlX4_hasOf_35 o k4 hk4 l1 l3 l2 (0 : Int32) V2
def lpX4_hasOf_4  : Nat → Int32 → Int32 → Int32 → hf_V → Option (Int32 × hf_V)
  | 0 => fun _ _ _ _ => none
  | n + 1 => fun l1 l2 l3 V0 => ndX4_hasOf_4  (lpX4_hasOf_4  n) l1 l2 l3 V0
theorem llX4_hasOf_4 {C : hf_X} {om : Nat} {b : hf_H} (o : hf_In C cX4_hasOf RX4 4 (some .int) 1 22)   (n : Nat) : ∀ (l1 : Int32) (l2 : Int32) (l3 : Int32) (V0 : hf_V), hf_J C (hf_dMI om b) ((lpX4_hasOf_4  n) l1 l2 l3 V0) (hf_M om b V0) 4 [(0, .ref om), (1, .int l1), (2, .int l2), (3, .int l3)] [] := by
  induction n with
  | zero => exact fun _ _ _ _ => hr_none
  | succ n ih => exact fun l1 l2 l3 V0 => nlX4_hasOf_4 o  (lpX4_hasOf_4  n)  ih l1 l2 l3 V0
def spX4_hasOf (l1 : Int32) (V0 : hf_V) : Option (Int32 × hf_V) :=
  lpX4_hasOf_4 hf_N l1 (0 : Int32) (0 : Int32) V0
theorem jtX4_hasOf {C : hf_X} {om : Nat} {b : hf_H} (o : hf_In C cX4_hasOf RX4 4 (some .int) 1 22) (l1 : Int32) (V0 : hf_V) : hf_J C (hf_dMI om b) (spX4_hasOf l1 V0) (hf_M om b V0) 0 [(0, .ref om), (1, .int l1)] [] := by
  refine hr_iconst o (0 : Int32) dX4_hasOf_0 (by decide) ?_
  refine hr_istore_n o [(2, .int (0 : Int32)), (0, .ref om), (1, .int l1)] dX4_hasOf_1 (by decide) rfl ?_
  refine hr_iconst o (0 : Int32) dX4_hasOf_2 (by decide) ?_
  refine hr_istore_n o [(3, .int (0 : Int32)), (2, .int (0 : Int32)), (0, .ref om), (1, .int l1)] dX4_hasOf_3 (by decide) rfl ?_
  refine hr_sub [2, 3, 1, 0] rfl ?_
  exact llX4_hasOf_4 o hf_N l1 (0 : Int32) (0 : Int32) V0
theorem mtX4_hasOf {om : Nat} {b : hf_H} (l1 : Int32) (V0 : hf_V) (r : Int32) (V1 : hf_V) (e : spX4_hasOf l1 V0 = some (r, V1)) : hf_Con yX4_hasOf cX4_hasOf 4 (some .int) 1 22 [.ref om, .int l1] (hf_M om b V0) (.returned (some (.int r)), hf_M om b V1) := hf_entry (dec := hf_dMI om b) (by decide) [.ref om, .int l1] (Nat.le_of_ble_eq_true rfl) [(0, .ref om), (1, .int l1)] rfl e (fun C o _ => jtX4_hasOf o l1 V0)

/-! isBuyer -/
def spX4_isBuyer (l1 : Int32) (V0 : hf_V) : Option (Int32 × hf_V) :=
  if l1 < 0 then (some ((0 : Int32), V0)) else
  (hf_ld 123 (V0.2.2.2.1 20) (2 : Int32)).bind fun x1 =>
  if x1 ≤ l1 then (some ((0 : Int32), V0)) else
  some ((1 : Int32), V0)
theorem jtX4_isBuyer {C : hf_X} {om : Nat} {b : hf_H} (o : hf_In C cX4_isBuyer RX4 2 (some .boolean) 0 0) (l1 : Int32) (V0 : hf_V) : hf_J C (hf_dMI om b) (spX4_isBuyer l1 V0) (hf_M om b V0) 0 [(0, .ref om), (1, .int l1)] [] := by
  refine hr_iload_n o 1 dX4_isBuyer_0 rfl ?_
  refine hr_if_lt o 18 dX4_isBuyer_1 (by decide) (fun _ => ?_) (fun _ => ?_)
  · refine hr_iconst o (0 : Int32) dX4_isBuyer_18 (by decide) ?_
    exact hr_iret o dX4_isBuyer_19 rfl (by decide)
  refine hr_iload_n o 1 dX4_isBuyer_4 rfl ?_
  refine hr_aload_n o 0 dX4_isBuyer_5 rfl ?_
  refine mr_get o flX4_39 dX4_isBuyer_6 (.ref (om + 10)) rfl ?_
  refine hr_iconst o (2 : Int32) dX4_isBuyer_9 (by decide) ?_
  refine mr_iald o 20 10 123 rfl (by decide) rfl dX4_isBuyer_10 (fun x1 => ?_)
  refine hr_icmp_ge o 18 dX4_isBuyer_11 (by decide) (fun _ => ?_) (fun _ => ?_)
  · refine hr_iconst o (0 : Int32) dX4_isBuyer_18 (by decide) ?_
    exact hr_iret o dX4_isBuyer_19 rfl (by decide)
  refine hr_iconst o (1 : Int32) dX4_isBuyer_14 (by decide) ?_
  refine hr_goto o 19 dX4_isBuyer_15 (by decide) ?_
  exact hr_iret o dX4_isBuyer_19 rfl (by decide)
theorem mtX4_isBuyer {om : Nat} {b : hf_H} (l1 : Int32) (V0 : hf_V) (r : Int32) (V1 : hf_V) (e : spX4_isBuyer l1 V0 = some (r, V1)) : hf_Con yX4_isBuyer cX4_isBuyer 2 (some .boolean) 0 0 [.ref om, .int l1] (hf_M om b V0) (.returned (some (.int r)), hf_M om b V1) := hf_entry (dec := hf_dMI om b) (by decide) [.ref om, .int l1] (Nat.le_of_ble_eq_true rfl) [(0, .ref om), (1, .int l1)] rfl e (fun C o _ => jtX4_isBuyer o l1 V0)

/-! sawOf -/
def ndX4_sawOf_38 (k4 : Int32 → Int32 → Int32 → hf_V → Option (Int32 × hf_V)) (l1 : Int32) (l3 : Int32) (s0 : Int32) (s1 : Int32) (V0 : hf_V) : Option (Int32 × hf_V) :=
  hf_let (s0 ||| s1) fun x1 =>
  hf_let (l3 + (1 : Int32)) fun x2 =>
  k4 l1 x1 x2 V0
theorem nlX4_sawOf_38 {C : hf_X} {om : Nat} {b : hf_H} (o : hf_In C cX4_sawOf RX4 4 (some .int) 1 22) (k4 : Int32 → Int32 → Int32 → hf_V → Option (Int32 × hf_V)) (hk4 : ∀ (l1 : Int32) (l2 : Int32) (l3 : Int32) (V0 : hf_V), hf_J C (hf_dMI om b) (k4 l1 l2 l3 V0) (hf_M om b V0) 4 [(0, .ref om), (1, .int l1), (2, .int l2), (3, .int l3)] []) (l1 : Int32) (l3 : Int32) (s0 : Int32) (s1 : Int32) (V0 : hf_V) : hf_J C (hf_dMI om b) (ndX4_sawOf_38 k4 l1 l3 s0 s1 V0) (hf_M om b V0) 38 [(0, .ref om), (1, .int l1), (3, .int l3)] [.int s1, .int s0] := by
  refine hr_ior o dX4_sawOf_38 ?_
  refine hr_nmI (fun x1 => ?_)
  refine hr_istore_n o [(2, .int x1), (0, .ref om), (1, .int l1), (3, .int l3)] dX4_sawOf_39 (by decide) rfl ?_
  refine hr_iincN o (1 : Int32) 3 (fun y => [(3, .int y), (2, .int x1), (0, .ref om), (1, .int l1)]) dX4_sawOf_40 rfl (by decide) (by decide) (fun y => rfl) (fun x2 => ?_)
  refine hr_goto o 4 dX4_sawOf_43 (by decide) ?_
  refine hr_sub [2, 3, 1, 0] rfl ?_
  exact hk4 l1 x1 x2 V0
def ndX4_sawOf_4 (k4 : Int32 → Int32 → Int32 → hf_V → Option (Int32 × hf_V)) (l1 : Int32) (l2 : Int32) (l3 : Int32) (V0 : hf_V) : Option (Int32 × hf_V) :=
  (hf_ld 123 (V0.2.2.2.1 20) (2 : Int32)).bind fun x1 =>
  if x1 ≤ l3 then (some (l2, V0)) else
  hf_b2 (spX4_buyerOf l1 (3 : Int32) V0) fun x3 V2 =>
  (spX4_isOf x3 l3).bind fun x4 =>
  if x4 = 0 then (ndX4_sawOf_38 k4 l1 l3 l2 (0 : Int32) V2) else
  hf_b2 (spX4_buyerOf l3 (2 : Int32) V2) fun x6 V5 =>
  ndX4_sawOf_38 k4 l1 l3 l2 x6 V5
theorem nlX4_sawOf_4 {C : hf_X} {om : Nat} {b : hf_H} (o : hf_In C cX4_sawOf RX4 4 (some .int) 1 22) (k4 : Int32 → Int32 → Int32 → hf_V → Option (Int32 × hf_V)) (hk4 : ∀ (l1 : Int32) (l2 : Int32) (l3 : Int32) (V0 : hf_V), hf_J C (hf_dMI om b) (k4 l1 l2 l3 V0) (hf_M om b V0) 4 [(0, .ref om), (1, .int l1), (2, .int l2), (3, .int l3)] []) (l1 : Int32) (l2 : Int32) (l3 : Int32) (V0 : hf_V) : hf_J C (hf_dMI om b) (ndX4_sawOf_4 k4 l1 l2 l3 V0) (hf_M om b V0) 4 [(0, .ref om), (1, .int l1), (2, .int l2), (3, .int l3)] [] := by
  refine hr_iload_n o 3 dX4_sawOf_4 rfl ?_
  refine hr_aload_n o 0 dX4_sawOf_5 rfl ?_
  refine mr_get o flX4_39 dX4_sawOf_6 (.ref (om + 10)) rfl ?_
  refine hr_iconst o (2 : Int32) dX4_sawOf_9 (by decide) ?_
  refine mr_iald o 20 10 123 rfl (by decide) rfl dX4_sawOf_10 (fun x1 => ?_)
  refine hr_icmp_ge o 46 dX4_sawOf_11 (by decide) (fun _ => ?_) (fun _ => ?_)
  · refine hr_iload_n o 2 dX4_sawOf_46 rfl ?_
    exact hr_iret o dX4_sawOf_47 rfl rfl
  refine hr_iload_n o 2 dX4_sawOf_14 rfl ?_
  refine hr_aload_n o 0 dX4_sawOf_15 rfl ?_
  refine hr_iload_n o 1 dX4_sawOf_16 rfl ?_
  refine hr_iconst o (3 : Int32) dX4_sawOf_17 (by decide) ?_
  refine mr_callI o mvX4_314 dX4_sawOf_18 [.int l1, .int (3 : Int32)] (fun zr zV ze => mtX4_buyerOf l1 (3 : Int32) V0 zr zV ze) rfl rfl (Nat.le_of_ble_eq_true rfl) ⟨by decide, by decide⟩ (fun x3 V2 => ?_)
  refine hr_iload_n o 3 dX4_sawOf_21 rfl ?_
  refine pr_callI o msX4_215 dX4_sawOf_22 [.int x3, .int l3] (fun zr ze => mtX4_isOf x3 l3 zr ze) rfl rfl (Nat.le_of_ble_eq_true rfl) ⟨by decide, by decide⟩ (fun x4 => ?_)
  refine hr_if_eq o 37 dX4_sawOf_25 (by decide) (fun _ => ?_) (fun _ => ?_)
  · refine hr_iconst o (0 : Int32) dX4_sawOf_37 (by decide) ?_
    refine hr_sub [0, 1, 3] rfl ?_
    exact nlX4_sawOf_38 o k4 hk4 l1 l3 l2 (0 : Int32) V2
  refine hr_aload_n o 0 dX4_sawOf_28 rfl ?_
  refine hr_iload_n o 3 dX4_sawOf_29 rfl ?_
  refine hr_iconst o (2 : Int32) dX4_sawOf_30 (by decide) ?_
  refine mr_callI o mvX4_314 dX4_sawOf_31 [.int l3, .int (2 : Int32)] (fun zr zV ze => mtX4_buyerOf l3 (2 : Int32) V2 zr zV ze) rfl rfl (Nat.le_of_ble_eq_true rfl) ⟨by decide, by decide⟩ (fun x6 V5 => ?_)
  refine hr_goto o 38 dX4_sawOf_34 (by decide) ?_
  refine hr_sub [0, 1, 3] rfl ?_
  exact nlX4_sawOf_38 o k4 hk4 l1 l3 l2 x6 V5
def lpX4_sawOf_4  : Nat → Int32 → Int32 → Int32 → hf_V → Option (Int32 × hf_V)
  | 0 => fun _ _ _ _ => none
  | n + 1 => fun l1 l2 l3 V0 => ndX4_sawOf_4  (lpX4_sawOf_4  n) l1 l2 l3 V0
theorem llX4_sawOf_4 {C : hf_X} {om : Nat} {b : hf_H} (o : hf_In C cX4_sawOf RX4 4 (some .int) 1 22)   (n : Nat) : ∀ (l1 : Int32) (l2 : Int32) (l3 : Int32) (V0 : hf_V), hf_J C (hf_dMI om b) ((lpX4_sawOf_4  n) l1 l2 l3 V0) (hf_M om b V0) 4 [(0, .ref om), (1, .int l1), (2, .int l2), (3, .int l3)] [] := by
  induction n with
  | zero => exact fun _ _ _ _ => hr_none
  | succ n ih => exact fun l1 l2 l3 V0 => nlX4_sawOf_4 o  (lpX4_sawOf_4  n)  ih l1 l2 l3 V0
def spX4_sawOf (l1 : Int32) (V0 : hf_V) : Option (Int32 × hf_V) :=
  lpX4_sawOf_4 hf_N l1 (0 : Int32) (0 : Int32) V0
theorem jtX4_sawOf {C : hf_X} {om : Nat} {b : hf_H} (o : hf_In C cX4_sawOf RX4 4 (some .int) 1 22) (l1 : Int32) (V0 : hf_V) : hf_J C (hf_dMI om b) (spX4_sawOf l1 V0) (hf_M om b V0) 0 [(0, .ref om), (1, .int l1)] [] := by
  refine hr_iconst o (0 : Int32) dX4_sawOf_0 (by decide) ?_
  refine hr_istore_n o [(2, .int (0 : Int32)), (0, .ref om), (1, .int l1)] dX4_sawOf_1 (by decide) rfl ?_
  refine hr_iconst o (0 : Int32) dX4_sawOf_2 (by decide) ?_
  refine hr_istore_n o [(3, .int (0 : Int32)), (2, .int (0 : Int32)), (0, .ref om), (1, .int l1)] dX4_sawOf_3 (by decide) rfl ?_
  refine hr_sub [2, 3, 1, 0] rfl ?_
  exact llX4_sawOf_4 o hf_N l1 (0 : Int32) (0 : Int32) V0
theorem mtX4_sawOf {om : Nat} {b : hf_H} (l1 : Int32) (V0 : hf_V) (r : Int32) (V1 : hf_V) (e : spX4_sawOf l1 V0 = some (r, V1)) : hf_Con yX4_sawOf cX4_sawOf 4 (some .int) 1 22 [.ref om, .int l1] (hf_M om b V0) (.returned (some (.int r)), hf_M om b V1) := hf_entry (dec := hf_dMI om b) (by decide) [.ref om, .int l1] (Nat.le_of_ble_eq_true rfl) [(0, .ref om), (1, .int l1)] rfl e (fun C o _ => jtX4_sawOf o l1 V0)
