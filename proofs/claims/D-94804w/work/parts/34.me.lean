set_option maxRecDepth 100000
set_option maxHeartbeats 4000000
/-! trial -/
def ndX4_trial_100  (s1 : Int32) (s2 : Int32) (V0 : hf_V) : Option (Int32 × hf_V) :=
  hf_sd 123 s1 (fun j => hf_ua V0 20 j s2) fun V1 =>
  (hf_ld 123 (V1.2.2.2.1 20) (122 : Int32)).bind fun x2 =>
  hf_sd 123 (122 : Int32) (fun j => hf_ua V1 20 j (x2 + (1 : Int32))) fun V3 =>
  (hf_ld 123 (V3.2.2.2.1 20) (122 : Int32)).bind fun x4 =>
  some (x4, V3)
theorem nlX4_trial_100 {C : hf_X} {om : Nat} {b : hf_H} (o : hf_In C cX4_trial RX4 5 (some .int) 1 21)   (s1 : Int32) (s2 : Int32) (V0 : hf_V) : hf_J C (hf_dMI om b) (ndX4_trial_100 s1 s2 V0) (hf_M om b V0) 100 [(0, .ref om)] [.int s2, .int s1, .ref (om + 10)] := by
  refine mr_iast o 20 10 123 rfl (by decide) rfl dX4_trial_100 (fun V1 => ?_)
  refine hr_aload_n o 0 dX4_trial_101 rfl ?_
  refine mr_get o flX4_39 dX4_trial_102 (.ref (om + 10)) rfl ?_
  refine hr_bipush o (122 : Int32) dX4_trial_105 (by decide) ?_
  refine hr_dup2 o dX4_trial_107 rfl rfl ?_
  refine mr_iald o 20 10 123 rfl (by decide) rfl dX4_trial_108 (fun x2 => ?_)
  refine hr_iconst o (1 : Int32) dX4_trial_109 (by decide) ?_
  refine hr_iadd o dX4_trial_110 ?_
  refine mr_iast o 20 10 123 rfl (by decide) rfl dX4_trial_111 (fun V3 => ?_)
  refine hr_aload_n o 0 dX4_trial_112 rfl ?_
  refine mr_get o flX4_39 dX4_trial_113 (.ref (om + 10)) rfl ?_
  refine hr_bipush o (122 : Int32) dX4_trial_116 (by decide) ?_
  refine mr_iald o 20 10 123 rfl (by decide) rfl dX4_trial_118 (fun x4 => ?_)
  exact hr_iret o dX4_trial_119 rfl rfl
def spX4_trial (l1 : Int32) (l2 : Int32) (l3 : Int32) (V0 : hf_V) : Option (Int32 × hf_V) :=
  if l1 = (-1 : Int32) then (hf_sd 123 (122 : Int32) (fun j => hf_ua V0 20 j (0 : Int32)) fun V10 =>
  some ((0 : Int32), V10)) else
  hf_b2 (spX4_isHalf l1 V0) fun x2 V1 =>
  if x2 = 0 then (some ((-2 : Int32), V1)) else
  hf_b2 (spX4_isHalf l2 V1) fun x4 V3 =>
  if x4 = 0 then (some ((-2 : Int32), V3)) else
  if l1 = l2 then (some ((-2 : Int32), V3)) else
  (hf_ld 123 (V3.2.2.2.1 20) (122 : Int32)).bind fun x5 =>
  if x5 = (12 : Int32) then (some ((-2 : Int32), V3)) else
  (hf_ld 123 (V3.2.2.2.1 20) (122 : Int32)).bind fun x6 =>
  hf_let ((86 : Int32) + ((3 : Int32) * x6)) fun x7 =>
  hf_sd 123 x7 (fun j => hf_ua V3 20 j l1) fun V8 =>
  hf_sd 123 (x7 + (1 : Int32)) (fun j => hf_ua V8 20 j l2) fun V9 =>
  if l3 = 0 then (ndX4_trial_100 (x7 + (2 : Int32)) (0 : Int32) V9) else
  ndX4_trial_100 (x7 + (2 : Int32)) (1 : Int32) V9
theorem jtX4_trial {C : hf_X} {om : Nat} {b : hf_H} (o : hf_In C cX4_trial RX4 5 (some .int) 1 21) (l1 : Int32) (l2 : Int32) (l3 : Int32) (V0 : hf_V) : hf_J C (hf_dMI om b) (spX4_trial l1 l2 l3 V0) (hf_M om b V0) 0 [(0, .ref om), (1, .int l1), (2, .int l2), (3, .int l3)] [] := by
  refine hr_iload_n o 1 dX4_trial_0 rfl ?_
  refine hr_iconst o (-1 : Int32) dX4_trial_1 (by decide) ?_
  refine hr_icmp_ne o 15 dX4_trial_2 (by decide) (fun _ => ?_) (fun _ => ?_)
  · refine hr_aload_n o 0 dX4_trial_5 rfl ?_
    refine mr_get o flX4_39 dX4_trial_6 (.ref (om + 10)) rfl ?_
    refine hr_bipush o (122 : Int32) dX4_trial_9 (by decide) ?_
    refine hr_iconst o (0 : Int32) dX4_trial_11 (by decide) ?_
    refine mr_iast o 20 10 123 rfl (by decide) rfl dX4_trial_12 (fun V10 => ?_)
    refine hr_iconst o (0 : Int32) dX4_trial_13 (by decide) ?_
    exact hr_iret o dX4_trial_14 rfl rfl
  refine hr_aload_n o 0 dX4_trial_15 rfl ?_
  refine hr_iload_n o 1 dX4_trial_16 rfl ?_
  refine mr_callI o mvX4_335 dX4_trial_17 [.int l1] (fun zr zV ze => mtX4_isHalf l1 V0 zr zV ze) rfl rfl (Nat.le_of_ble_eq_true rfl) ⟨by decide, by decide⟩ (fun x2 V1 => ?_)
  refine hr_if_eq o 48 dX4_trial_20 (by decide) (fun _ => ?_) (fun _ => ?_)
  · refine hr_bipush o (-2 : Int32) dX4_trial_48 (by decide) ?_
    exact hr_iret o dX4_trial_50 rfl rfl
  refine hr_aload_n o 0 dX4_trial_23 rfl ?_
  refine hr_iload_n o 2 dX4_trial_24 rfl ?_
  refine mr_callI o mvX4_335 dX4_trial_25 [.int l2] (fun zr zV ze => mtX4_isHalf l2 V1 zr zV ze) rfl rfl (Nat.le_of_ble_eq_true rfl) ⟨by decide, by decide⟩ (fun x4 V3 => ?_)
  refine hr_if_eq o 48 dX4_trial_28 (by decide) (fun _ => ?_) (fun _ => ?_)
  · refine hr_bipush o (-2 : Int32) dX4_trial_48 (by decide) ?_
    exact hr_iret o dX4_trial_50 rfl rfl
  refine hr_iload_n o 1 dX4_trial_31 rfl ?_
  refine hr_iload_n o 2 dX4_trial_32 rfl ?_
  refine hr_icmp_eq o 48 dX4_trial_33 (by decide) (fun _ => ?_) (fun _ => ?_)
  · refine hr_bipush o (-2 : Int32) dX4_trial_48 (by decide) ?_
    exact hr_iret o dX4_trial_50 rfl rfl
  refine hr_aload_n o 0 dX4_trial_36 rfl ?_
  refine mr_get o flX4_39 dX4_trial_37 (.ref (om + 10)) rfl ?_
  refine hr_bipush o (122 : Int32) dX4_trial_40 (by decide) ?_
  refine mr_iald o 20 10 123 rfl (by decide) rfl dX4_trial_42 (fun x5 => ?_)
  refine hr_bipush o (12 : Int32) dX4_trial_43 (by decide) ?_
  refine hr_icmp_ne o 51 dX4_trial_45 (by decide) (fun _ => ?_) (fun _ => ?_)
  · refine hr_bipush o (-2 : Int32) dX4_trial_48 (by decide) ?_
    exact hr_iret o dX4_trial_50 rfl rfl
  refine hr_bipush o (86 : Int32) dX4_trial_51 (by decide) ?_
  refine hr_iconst o (3 : Int32) dX4_trial_53 (by decide) ?_
  refine hr_aload_n o 0 dX4_trial_54 rfl ?_
  refine mr_get o flX4_39 dX4_trial_55 (.ref (om + 10)) rfl ?_
  refine hr_bipush o (122 : Int32) dX4_trial_58 (by decide) ?_
  refine mr_iald o 20 10 123 rfl (by decide) rfl dX4_trial_60 (fun x6 => ?_)
  refine hr_imul o dX4_trial_61 ?_
  refine hr_iadd o dX4_trial_62 ?_
  refine hr_nmI (fun x7 => ?_)
  refine hr_istore o [(4, .int x7), (0, .ref om), (1, .int l1), (2, .int l2), (3, .int l3)] dX4_trial_63 (by decide) rfl ?_
  refine hr_aload_n o 1 dX4_trial_65 rfl ?_
  refine mr_get o flX4_39 dX4_trial_66 (.ref (om + 10)) rfl ?_
  refine hr_iload o 0 dX4_trial_69 rfl ?_
  refine hr_iload_n o 2 dX4_trial_71 rfl ?_
  refine mr_iast o 20 10 123 rfl (by decide) rfl dX4_trial_72 (fun V8 => ?_)
  refine hr_aload_n o 1 dX4_trial_73 rfl ?_
  refine mr_get o flX4_39 dX4_trial_74 (.ref (om + 10)) rfl ?_
  refine hr_iload o 0 dX4_trial_77 rfl ?_
  refine hr_iconst o (1 : Int32) dX4_trial_79 (by decide) ?_
  refine hr_iadd o dX4_trial_80 ?_
  refine hr_iload_n o 3 dX4_trial_81 rfl ?_
  refine mr_iast o 20 10 123 rfl (by decide) rfl dX4_trial_82 (fun V9 => ?_)
  refine hr_aload_n o 1 dX4_trial_83 rfl ?_
  refine mr_get o flX4_39 dX4_trial_84 (.ref (om + 10)) rfl ?_
  refine hr_iload o 0 dX4_trial_87 rfl ?_
  refine hr_iconst o (2 : Int32) dX4_trial_89 (by decide) ?_
  refine hr_iadd o dX4_trial_90 ?_
  refine hr_iload_n o 4 dX4_trial_91 rfl ?_
  refine hr_if_eq o 99 dX4_trial_92 (by decide) (fun _ => ?_) (fun _ => ?_)
  · refine hr_iconst o (0 : Int32) dX4_trial_99 (by decide) ?_
    refine hr_sub [1] rfl ?_
    exact nlX4_trial_100 o (x7 + (2 : Int32)) (0 : Int32) V9
  refine hr_iconst o (1 : Int32) dX4_trial_95 (by decide) ?_
  refine hr_goto o 100 dX4_trial_96 (by decide) ?_
  refine hr_sub [1] rfl ?_
  exact nlX4_trial_100 o (x7 + (2 : Int32)) (1 : Int32) V9
theorem mtX4_trial {om : Nat} {b : hf_H} (l1 : Int32) (l2 : Int32) (l3 : Int32) (V0 : hf_V) (r : Int32) (V1 : hf_V) (e : spX4_trial l1 l2 l3 V0 = some (r, V1)) : hf_Con yX4_trial cX4_trial 5 (some .int) 1 21 [.ref om, .int l1, .int l2, .int l3] (hf_M om b V0) (.returned (some (.int r)), hf_M om b V1) := hf_entry (dec := hf_dMI om b) (by decide) [.ref om, .int l1, .int l2, .int l3] (Nat.le_of_ble_eq_true rfl) [(0, .ref om), (1, .int l1), (2, .int l2), (3, .int l3)] rfl e (fun C o _ => jtX4_trial o l1 l2 l3 V0)

/-! isTried -/
def ndX4_isTried_99 (k2 : Int32 → Int32 → hf_V → Option (Int32 × hf_V)) (l1 : Int32) (l2 : Int32) (s0 : Int32) (s1 : Int32) (V0 : hf_V) : Option (Int32 × hf_V) :=
  if s0 = s1 then (hf_let (l2 + (1 : Int32)) fun x1 =>
  k2 l1 x1 V0) else
  some ((0 : Int32), V0)
theorem nlX4_isTried_99 {C : hf_X} {om : Nat} {b : hf_H} (o : hf_In C cX4_isTried RX4 6 (some .boolean) 2 45) (k2 : Int32 → Int32 → hf_V → Option (Int32 × hf_V)) (hk2 : ∀ (l1 : Int32) (l2 : Int32) (V0 : hf_V), hf_J C (hf_dMI om b) (k2 l1 l2 V0) (hf_M om b V0) 2 [(0, .ref om), (1, .int l1), (2, .int l2)] []) (l1 : Int32) (l2 : Int32) (s0 : Int32) (s1 : Int32) (V0 : hf_V) : hf_J C (hf_dMI om b) (ndX4_isTried_99 k2 l1 l2 s0 s1 V0) (hf_M om b V0) 99 [(0, .ref om), (1, .int l1), (2, .int l2)] [.int s1, .int s0] := by
  refine hr_icmp_eq o 104 dX4_isTried_99 (by decide) (fun _ => ?_) (fun _ => ?_)
  · refine hr_iincN o (1 : Int32) 2 (fun y => [(2, .int y), (0, .ref om), (1, .int l1)]) dX4_isTried_104 rfl (by decide) (by decide) (fun y => rfl) (fun x1 => ?_)
    refine hr_goto o 2 dX4_isTried_107 (by decide) ?_
    refine hr_sub [1, 2, 0] rfl ?_
    exact hk2 l1 x1 V0
  refine hr_iconst o (0 : Int32) dX4_isTried_102 (by decide) ?_
  exact hr_iret o dX4_isTried_103 rfl (by decide)
def ndX4_isTried_73 (k2 : Int32 → Int32 → hf_V → Option (Int32 × hf_V)) (l1 : Int32) (l2 : Int32) (s0 : Int32) (V0 : hf_V) : Option (Int32 × hf_V) :=
  (hf_ld 123 (V0.2.2.2.1 20) (((86 : Int32) + ((3 : Int32) * l2)) + (2 : Int32))).bind fun x1 =>
  if x1 = (1 : Int32) then (ndX4_isTried_99 k2 l1 l2 s0 (1 : Int32) V0) else
  ndX4_isTried_99 k2 l1 l2 s0 (0 : Int32) V0
theorem nlX4_isTried_73 {C : hf_X} {om : Nat} {b : hf_H} (o : hf_In C cX4_isTried RX4 6 (some .boolean) 2 45) (k2 : Int32 → Int32 → hf_V → Option (Int32 × hf_V)) (hk2 : ∀ (l1 : Int32) (l2 : Int32) (V0 : hf_V), hf_J C (hf_dMI om b) (k2 l1 l2 V0) (hf_M om b V0) 2 [(0, .ref om), (1, .int l1), (2, .int l2)] []) (l1 : Int32) (l2 : Int32) (s0 : Int32) (V0 : hf_V) : hf_J C (hf_dMI om b) (ndX4_isTried_73 k2 l1 l2 s0 V0) (hf_M om b V0) 73 [(0, .ref om), (1, .int l1), (2, .int l2)] [.int s0] := by
  refine hr_istore o [(5, .int s0), (0, .ref om), (1, .int l1), (2, .int l2)] dX4_isTried_73 (by decide) rfl ?_
  refine hr_iload o 0 dX4_isTried_75 rfl ?_
  refine hr_aload_n o 1 dX4_isTried_77 rfl ?_
  refine mr_get o flX4_39 dX4_isTried_78 (.ref (om + 10)) rfl ?_
  refine hr_bipush o (86 : Int32) dX4_isTried_81 (by decide) ?_
  refine hr_iconst o (3 : Int32) dX4_isTried_83 (by decide) ?_
  refine hr_iload_n o 3 dX4_isTried_84 rfl ?_
  refine hr_imul o dX4_isTried_85 ?_
  refine hr_iadd o dX4_isTried_86 ?_
  refine hr_iconst o (2 : Int32) dX4_isTried_87 (by decide) ?_
  refine hr_iadd o dX4_isTried_88 ?_
  refine mr_iald o 20 10 123 rfl (by decide) rfl dX4_isTried_89 (fun x1 => ?_)
  refine hr_iconst o (1 : Int32) dX4_isTried_90 (by decide) ?_
  refine hr_icmp_ne o 98 dX4_isTried_91 (by decide) (fun _ => ?_) (fun _ => ?_)
  · refine hr_iconst o (1 : Int32) dX4_isTried_94 (by decide) ?_
    refine hr_goto o 99 dX4_isTried_95 (by decide) ?_
    refine hr_sub [1, 2, 3] rfl ?_
    exact nlX4_isTried_99 o k2 hk2 l1 l2 s0 (1 : Int32) V0
  refine hr_iconst o (0 : Int32) dX4_isTried_98 (by decide) ?_
  refine hr_sub [1, 2, 3] rfl ?_
  exact nlX4_isTried_99 o k2 hk2 l1 l2 s0 (0 : Int32) V0
def ndX4_isTried_68 (k2 : Int32 → Int32 → hf_V → Option (Int32 × hf_V)) (l1 : Int32) (l2 : Int32) (V0 : hf_V) : Option (Int32 × hf_V) :=
  ndX4_isTried_73 k2 l1 l2 (1 : Int32) V0
theorem nlX4_isTried_68 {C : hf_X} {om : Nat} {b : hf_H} (o : hf_In C cX4_isTried RX4 6 (some .boolean) 2 45) (k2 : Int32 → Int32 → hf_V → Option (Int32 × hf_V)) (hk2 : ∀ (l1 : Int32) (l2 : Int32) (V0 : hf_V), hf_J C (hf_dMI om b) (k2 l1 l2 V0) (hf_M om b V0) 2 [(0, .ref om), (1, .int l1), (2, .int l2)] []) (l1 : Int32) (l2 : Int32) (V0 : hf_V) : hf_J C (hf_dMI om b) (ndX4_isTried_68 k2 l1 l2 V0) (hf_M om b V0) 68 [(0, .ref om), (1, .int l1), (2, .int l2)] [] := by
  refine hr_iconst o (1 : Int32) dX4_isTried_68 (by decide) ?_
  refine hr_goto o 73 dX4_isTried_69 (by decide) ?_
  exact nlX4_isTried_73 o k2 hk2 l1 l2 (1 : Int32) V0
def ndX4_isTried_2 (k2 : Int32 → Int32 → hf_V → Option (Int32 × hf_V)) (l1 : Int32) (l2 : Int32) (V0 : hf_V) : Option (Int32 × hf_V) :=
  (hf_ld 123 (V0.2.2.2.1 20) (122 : Int32)).bind fun x1 =>
  if x1 ≤ l2 then (some ((1 : Int32), V0)) else
  (hf_ld 123 (V0.2.2.2.1 20) ((86 : Int32) + ((3 : Int32) * l2))).bind fun x2 =>
  (hf_ld 123 (V0.2.2.2.1 20) (((86 : Int32) + ((3 : Int32) * l2)) + (1 : Int32))).bind fun x3 =>
  (spX4_isOf l1 x2).bind fun x4 =>
  if x4 = 0 then ((spX4_isOf l1 x3).bind fun x5 =>
  if x5 = 0 then (hf_b2 (spX4_fitTold x2 x3 V0) fun x7 V6 =>
  if x7 = (2 : Int32) then (ndX4_isTried_68 k2 l1 l2 V6) else
  ndX4_isTried_73 k2 l1 l2 (0 : Int32) V6) else
  ndX4_isTried_68 k2 l1 l2 V0) else
  ndX4_isTried_68 k2 l1 l2 V0
theorem nlX4_isTried_2 {C : hf_X} {om : Nat} {b : hf_H} (o : hf_In C cX4_isTried RX4 6 (some .boolean) 2 45) (k2 : Int32 → Int32 → hf_V → Option (Int32 × hf_V)) (hk2 : ∀ (l1 : Int32) (l2 : Int32) (V0 : hf_V), hf_J C (hf_dMI om b) (k2 l1 l2 V0) (hf_M om b V0) 2 [(0, .ref om), (1, .int l1), (2, .int l2)] []) (l1 : Int32) (l2 : Int32) (V0 : hf_V) : hf_J C (hf_dMI om b) (ndX4_isTried_2 k2 l1 l2 V0) (hf_M om b V0) 2 [(0, .ref om), (1, .int l1), (2, .int l2)] [] := by
  refine hr_iload_n o 2 dX4_isTried_2 rfl ?_
  refine hr_aload_n o 0 dX4_isTried_3 rfl ?_
  refine mr_get o flX4_39 dX4_isTried_4 (.ref (om + 10)) rfl ?_
  refine hr_bipush o (122 : Int32) dX4_isTried_7 (by decide) ?_
  refine mr_iald o 20 10 123 rfl (by decide) rfl dX4_isTried_9 (fun x1 => ?_)
  refine hr_icmp_ge o 110 dX4_isTried_10 (by decide) (fun _ => ?_) (fun _ => ?_)
  · refine hr_iconst o (1 : Int32) dX4_isTried_110 (by decide) ?_
    exact hr_iret o dX4_isTried_111 rfl (by decide)
  refine hr_aload_n o 0 dX4_isTried_13 rfl ?_
  refine mr_get o flX4_39 dX4_isTried_14 (.ref (om + 10)) rfl ?_
  refine hr_bipush o (86 : Int32) dX4_isTried_17 (by decide) ?_
  refine hr_iconst o (3 : Int32) dX4_isTried_19 (by decide) ?_
  refine hr_iload_n o 2 dX4_isTried_20 rfl ?_
  refine hr_imul o dX4_isTried_21 ?_
  refine hr_iadd o dX4_isTried_22 ?_
  refine mr_iald o 20 10 123 rfl (by decide) rfl dX4_isTried_23 (fun x2 => ?_)
  refine hr_istore_n o [(3, .int x2), (0, .ref om), (1, .int l1), (2, .int l2)] dX4_isTried_24 (by decide) rfl ?_
  refine hr_aload_n o 1 dX4_isTried_25 rfl ?_
  refine mr_get o flX4_39 dX4_isTried_26 (.ref (om + 10)) rfl ?_
  refine hr_bipush o (86 : Int32) dX4_isTried_29 (by decide) ?_
  refine hr_iconst o (3 : Int32) dX4_isTried_31 (by decide) ?_
  refine hr_iload_n o 3 dX4_isTried_32 rfl ?_
  refine hr_imul o dX4_isTried_33 ?_
  refine hr_iadd o dX4_isTried_34 ?_
  refine hr_iconst o (1 : Int32) dX4_isTried_35 (by decide) ?_
  refine hr_iadd o dX4_isTried_36 ?_
  refine mr_iald o 20 10 123 rfl (by decide) rfl dX4_isTried_37 (fun x3 => ?_)
  refine hr_istore o [(4, .int x3), (3, .int x2), (0, .ref om), (1, .int l1), (2, .int l2)] dX4_isTried_38 (by decide) rfl ?_
  refine hr_iload_n o 3 dX4_isTried_40 rfl ?_
  refine hr_iload_n o 1 dX4_isTried_41 rfl ?_
  refine pr_callI o msX4_215 dX4_isTried_42 [.int l1, .int x2] (fun zr ze => mtX4_isOf l1 x2 zr ze) rfl rfl (Nat.le_of_ble_eq_true rfl) ⟨by decide, by decide⟩ (fun x4 => ?_)
  refine hr_if_ne o 68 dX4_isTried_45 (by decide) (fun _ => ?_) (fun _ => ?_)
  · refine hr_iload_n o 3 dX4_isTried_48 rfl ?_
    refine hr_iload o 0 dX4_isTried_49 rfl ?_
    refine pr_callI o msX4_215 dX4_isTried_51 [.int l1, .int x3] (fun zr ze => mtX4_isOf l1 x3 zr ze) rfl rfl (Nat.le_of_ble_eq_true rfl) ⟨by decide, by decide⟩ (fun x5 => ?_)
    refine hr_if_ne o 68 dX4_isTried_54 (by decide) (fun _ => ?_) (fun _ => ?_)
    · refine hr_aload_n o 2 dX4_isTried_57 rfl ?_
      refine hr_iload_n o 1 dX4_isTried_58 rfl ?_
      refine hr_iload o 0 dX4_isTried_59 rfl ?_
      refine mr_callI o mvX4_311 dX4_isTried_61 [.int x2, .int x3] (fun zr zV ze => mtX4_fitTold x2 x3 V0 zr zV ze) rfl rfl (Nat.le_of_ble_eq_true rfl) ⟨by decide, by decide⟩ (fun x7 V6 => ?_)
      refine hr_iconst o (2 : Int32) dX4_isTried_64 (by decide) ?_
      refine hr_icmp_ne o 72 dX4_isTried_65 (by decide) (fun _ => ?_) (fun _ => ?_)
      · refine hr_sub [2, 3, 4] rfl ?_
        exact nlX4_isTried_68 o k2 hk2 l1 l2 V6
      refine hr_iconst o (0 : Int32) dX4_isTried_72 (by decide) ?_
      refine hr_sub [2, 3, 4] rfl ?_
      exact nlX4_isTried_73 o k2 hk2 l1 l2 (0 : Int32) V6
    refine hr_sub [2, 3, 4] rfl ?_
    exact nlX4_isTried_68 o k2 hk2 l1 l2 V0
  refine hr_sub [2, 3, 4] rfl ?_
  exact nlX4_isTried_68 o k2 hk2 l1 l2 V0
def lpX4_isTried_2  : Nat → Int32 → Int32 → hf_V → Option (Int32 × hf_V)
  | 0 => fun _ _ _ => none
  | n + 1 => fun l1 l2 V0 => ndX4_isTried_2  (lpX4_isTried_2  n) l1 l2 V0
theorem llX4_isTried_2 {C : hf_X} {om : Nat} {b : hf_H} (o : hf_In C cX4_isTried RX4 6 (some .boolean) 2 45)   (n : Nat) : ∀ (l1 : Int32) (l2 : Int32) (V0 : hf_V), hf_J C (hf_dMI om b) ((lpX4_isTried_2  n) l1 l2 V0) (hf_M om b V0) 2 [(0, .ref om), (1, .int l1), (2, .int l2)] [] := by
  induction n with
  | zero => exact fun _ _ _ => hr_none
  | succ n ih => exact fun l1 l2 V0 => nlX4_isTried_2 o  (lpX4_isTried_2  n)  ih l1 l2 V0
def spX4_isTried (l1 : Int32) (V0 : hf_V) : Option (Int32 × hf_V) :=
  lpX4_isTried_2 hf_N l1 (0 : Int32) V0
theorem jtX4_isTried {C : hf_X} {om : Nat} {b : hf_H} (o : hf_In C cX4_isTried RX4 6 (some .boolean) 2 45) (l1 : Int32) (V0 : hf_V) : hf_J C (hf_dMI om b) (spX4_isTried l1 V0) (hf_M om b V0) 0 [(0, .ref om), (1, .int l1)] [] := by
  refine hr_iconst o (0 : Int32) dX4_isTried_0 (by decide) ?_
  refine hr_istore_n o [(2, .int (0 : Int32)), (0, .ref om), (1, .int l1)] dX4_isTried_1 (by decide) rfl ?_
  refine hr_sub [1, 2, 0] rfl ?_
  exact llX4_isTried_2 o hf_N l1 (0 : Int32) V0
theorem mtX4_isTried {om : Nat} {b : hf_H} (l1 : Int32) (V0 : hf_V) (r : Int32) (V1 : hf_V) (e : spX4_isTried l1 V0 = some (r, V1)) : hf_Con yX4_isTried cX4_isTried 6 (some .boolean) 2 45 [.ref om, .int l1] (hf_M om b V0) (.returned (some (.int r)), hf_M om b V1) := hf_entry (dec := hf_dMI om b) (by decide) [.ref om, .int l1] (Nat.le_of_ble_eq_true rfl) [(0, .ref om), (1, .int l1)] rfl e (fun C o _ => jtX4_isTried o l1 V0)

/-! forgers -/
theorem mvX4_476 : hf_MV RX4 476 RX4 yX4_isTried cX4_isTried 6 (some .boolean) 1 := ⟨lw_V q2000 q2002 qs149 q162 q2003, by decide +kernel⟩
def ndX4_forgers_94 (k27 : Int32 → Int32 → Int32 → Int32 → hf_V → Option (Int32 × hf_V)) (l1 : Int32) (l2 : Int32) (l3 : Int32) (l4 : Int32) (V0 : hf_V) : Option (Int32 × hf_V) :=
  hf_let (l4 + (1 : Int32)) fun x1 =>
  k27 l1 l2 l3 x1 V0
theorem nlX4_forgers_94 {C : hf_X} {om : Nat} {b : hf_H} (o : hf_In C cX4_forgers RX4 5 (some .int) 3 70) (k27 : Int32 → Int32 → Int32 → Int32 → hf_V → Option (Int32 × hf_V)) (hk27 : ∀ (l1 : Int32) (l2 : Int32) (l3 : Int32) (l4 : Int32) (V0 : hf_V), hf_J C (hf_dMI om b) (k27 l1 l2 l3 l4 V0) (hf_M om b V0) 27 [(0, .ref om), (1, .int l1), (2, .int l2), (3, .int l3), (4, .int l4)] []) (l1 : Int32) (l2 : Int32) (l3 : Int32) (l4 : Int32) (V0 : hf_V) : hf_J C (hf_dMI om b) (ndX4_forgers_94 k27 l1 l2 l3 l4 V0) (hf_M om b V0) 94 [(0, .ref om), (1, .int l1), (2, .int l2), (3, .int l3), (4, .int l4)] [] := by
  refine hr_iincN o (1 : Int32) 4 (fun y => [(4, .int y), (0, .ref om), (1, .int l1), (2, .int l2), (3, .int l3)]) dX4_forgers_94 rfl (by decide) (by decide) (fun y => rfl) (fun x1 => ?_)
  refine hr_goto o 27 dX4_forgers_97 (by decide) ?_
  refine hr_sub [1, 2, 3, 4, 0] rfl ?_
  exact hk27 l1 l2 l3 x1 V0
def ndX4_forgers_89 (k27 : Int32 → Int32 → Int32 → Int32 → hf_V → Option (Int32 × hf_V)) (l1 : Int32) (l2 : Int32) (l3 : Int32) (l4 : Int32) (V0 : hf_V) : Option (Int32 × hf_V) :=
  hf_let (l3 ||| l4) fun x1 =>
  ndX4_forgers_94 k27 l1 l2 x1 l4 V0
theorem nlX4_forgers_89 {C : hf_X} {om : Nat} {b : hf_H} (o : hf_In C cX4_forgers RX4 5 (some .int) 3 70) (k27 : Int32 → Int32 → Int32 → Int32 → hf_V → Option (Int32 × hf_V)) (hk27 : ∀ (l1 : Int32) (l2 : Int32) (l3 : Int32) (l4 : Int32) (V0 : hf_V), hf_J C (hf_dMI om b) (k27 l1 l2 l3 l4 V0) (hf_M om b V0) 27 [(0, .ref om), (1, .int l1), (2, .int l2), (3, .int l3), (4, .int l4)] []) (l1 : Int32) (l2 : Int32) (l3 : Int32) (l4 : Int32) (V0 : hf_V) : hf_J C (hf_dMI om b) (ndX4_forgers_89 k27 l1 l2 l3 l4 V0) (hf_M om b V0) 89 [(0, .ref om), (1, .int l1), (2, .int l2), (3, .int l3), (4, .int l4)] [] := by
  refine hr_iload_n o 3 dX4_forgers_89 rfl ?_
  refine hr_iload o 4 dX4_forgers_90 rfl ?_
  refine hr_ior o dX4_forgers_92 ?_
  refine hr_nmI (fun x1 => ?_)
  refine hr_istore_n o [(3, .int x1), (0, .ref om), (1, .int l1), (2, .int l2), (4, .int l4)] dX4_forgers_93 (by decide) rfl ?_
  refine hr_sub [1, 2, 3, 0, 4] rfl ?_
  exact nlX4_forgers_94 o k27 hk27 l1 l2 x1 l4 V0
def ndX4_forgers_84 (k27 : Int32 → Int32 → Int32 → Int32 → hf_V → Option (Int32 × hf_V)) (l1 : Int32) (l4 : Int32) (V0 : hf_V) : Option (Int32 × hf_V) :=
  ndX4_forgers_89 k27 l1 l4 (0 : Int32) l4 V0
theorem nlX4_forgers_84 {C : hf_X} {om : Nat} {b : hf_H} (o : hf_In C cX4_forgers RX4 5 (some .int) 3 70) (k27 : Int32 → Int32 → Int32 → Int32 → hf_V → Option (Int32 × hf_V)) (hk27 : ∀ (l1 : Int32) (l2 : Int32) (l3 : Int32) (l4 : Int32) (V0 : hf_V), hf_J C (hf_dMI om b) (k27 l1 l2 l3 l4 V0) (hf_M om b V0) 27 [(0, .ref om), (1, .int l1), (2, .int l2), (3, .int l3), (4, .int l4)] []) (l1 : Int32) (l4 : Int32) (V0 : hf_V) : hf_J C (hf_dMI om b) (ndX4_forgers_84 k27 l1 l4 V0) (hf_M om b V0) 84 [(0, .ref om), (1, .int l1), (4, .int l4)] [] := by
  refine hr_iload o 2 dX4_forgers_84 rfl ?_
  refine hr_istore_n o [(2, .int l4), (0, .ref om), (1, .int l1), (4, .int l4)] dX4_forgers_86 (by decide) rfl ?_
  refine hr_iconst o (0 : Int32) dX4_forgers_87 (by decide) ?_
  refine hr_istore_n o [(3, .int (0 : Int32)), (2, .int l4), (0, .ref om), (1, .int l1), (4, .int l4)] dX4_forgers_88 (by decide) rfl ?_
  refine hr_sub [2, 3, 1, 0, 4] rfl ?_
  exact nlX4_forgers_89 o k27 hk27 l1 l4 (0 : Int32) l4 V0
def ndX4_forgers_56 (k27 : Int32 → Int32 → Int32 → Int32 → hf_V → Option (Int32 × hf_V)) (l1 : Int32) (l2 : Int32) (l3 : Int32) (l4 : Int32) (V0 : hf_V) : Option (Int32 × hf_V) :=
  hf_b2 (spX4_isTried l4 V0) fun x2 V1 =>
  if x2 = 0 then (ndX4_forgers_94 k27 l1 l2 l3 l4 V1) else
  if l2 < 0 then (ndX4_forgers_84 k27 l1 l4 V1) else
  (spX4_bits l4).bind fun x3 =>
  (spX4_bits l2).bind fun x4 =>
  if x4 ≤ x3 then (ndX4_forgers_89 k27 l1 l2 l3 l4 V1) else
  ndX4_forgers_84 k27 l1 l4 V1
theorem nlX4_forgers_56 {C : hf_X} {om : Nat} {b : hf_H} (o : hf_In C cX4_forgers RX4 5 (some .int) 3 70) (k27 : Int32 → Int32 → Int32 → Int32 → hf_V → Option (Int32 × hf_V)) (hk27 : ∀ (l1 : Int32) (l2 : Int32) (l3 : Int32) (l4 : Int32) (V0 : hf_V), hf_J C (hf_dMI om b) (k27 l1 l2 l3 l4 V0) (hf_M om b V0) 27 [(0, .ref om), (1, .int l1), (2, .int l2), (3, .int l3), (4, .int l4)] []) (l1 : Int32) (l2 : Int32) (l3 : Int32) (l4 : Int32) (V0 : hf_V) : hf_J C (hf_dMI om b) (ndX4_forgers_56 k27 l1 l2 l3 l4 V0) (hf_M om b V0) 56 [(0, .ref om), (1, .int l1), (2, .int l2), (3, .int l3), (4, .int l4)] [] := by
  refine hr_aload_n o 0 dX4_forgers_56 rfl ?_
  refine hr_iload o 4 dX4_forgers_57 rfl ?_
  refine mr_callI o mvX4_476 dX4_forgers_59 [.int l4] (fun zr zV ze => mtX4_isTried l4 V0 zr zV ze) rfl rfl (Nat.le_of_ble_eq_true rfl) ⟨by decide, by decide⟩ (fun x2 V1 => ?_)
  refine hr_if_ne o 68 dX4_forgers_62 (by decide) (fun _ => ?_) (fun _ => ?_)
  · refine hr_goto o 94 dX4_forgers_65 (by decide) ?_
    exact nlX4_forgers_94 o k27 hk27 l1 l2 l3 l4 V1
  refine hr_iload_n o 2 dX4_forgers_68 rfl ?_
  refine hr_if_lt o 84 dX4_forgers_69 (by decide) (fun _ => ?_) (fun _ => ?_)
  · refine hr_sub [0, 1, 4] rfl ?_
    exact nlX4_forgers_84 o k27 hk27 l1 l4 V1
  refine hr_iload o 4 dX4_forgers_72 rfl ?_
  refine pr_callI o msX4_374 dX4_forgers_74 [.int l4] (fun zr ze => mtX4_bits l4 zr ze) rfl rfl (Nat.le_of_ble_eq_true rfl) ⟨by decide, by decide⟩ (fun x3 => ?_)
  refine hr_iload_n o 2 dX4_forgers_77 rfl ?_
  refine pr_callI o msX4_374 dX4_forgers_78 [.int l2] (fun zr ze => mtX4_bits l2 zr ze) rfl rfl (Nat.le_of_ble_eq_true rfl) ⟨by decide, by decide⟩ (fun x4 => ?_)
  refine hr_icmp_ge o 89 dX4_forgers_81 (by decide) (fun _ => ?_) (fun _ => ?_)
  · exact nlX4_forgers_89 o k27 hk27 l1 l2 l3 l4 V1
  refine hr_sub [0, 1, 4] rfl ?_
  exact nlX4_forgers_84 o k27 hk27 l1 l4 V1
def ndX4_forgers_27 (k27 : Int32 → Int32 → Int32 → Int32 → hf_V → Option (Int32 × hf_V)) (l1 : Int32) (l2 : Int32) (l3 : Int32) (l4 : Int32) (V0 : hf_V) : Option (Int32 × hf_V) :=
  (hf_ld 123 (V0.2.2.2.1 20) (1 : Int32)).bind fun x1 =>
  if ((1 : Int32) <<< (x1 &&& 31)) ≤ l4 then (if l1 = 0 then (some (l2, V0)) else
  if 0 ≤ l2 then ((hf_ld 123 (V0.2.2.2.1 20) (1 : Int32)).bind fun x2 =>
  some (((((1 : Int32) <<< (x2 &&& 31)) - (1 : Int32)) &&& (l3 ^^^ (-1 : Int32))), V0)) else
  some ((0 : Int32), V0)) else
  if l2 < 0 then (ndX4_forgers_56 k27 l1 l2 l3 l4 V0) else
  (spX4_bits l4).bind fun x3 =>
  (spX4_bits l2).bind fun x4 =>
  if x4 < x3 then (ndX4_forgers_94 k27 l1 l2 l3 l4 V0) else
  ndX4_forgers_56 k27 l1 l2 l3 l4 V0
theorem nlX4_forgers_27 {C : hf_X} {om : Nat} {b : hf_H} (o : hf_In C cX4_forgers RX4 5 (some .int) 3 70) (k27 : Int32 → Int32 → Int32 → Int32 → hf_V → Option (Int32 × hf_V)) (hk27 : ∀ (l1 : Int32) (l2 : Int32) (l3 : Int32) (l4 : Int32) (V0 : hf_V), hf_J C (hf_dMI om b) (k27 l1 l2 l3 l4 V0) (hf_M om b V0) 27 [(0, .ref om), (1, .int l1), (2, .int l2), (3, .int l3), (4, .int l4)] []) (l1 : Int32) (l2 : Int32) (l3 : Int32) (l4 : Int32) (V0 : hf_V) : hf_J C (hf_dMI om b) (ndX4_forgers_27 k27 l1 l2 l3 l4 V0) (hf_M om b V0) 27 [(0, .ref om), (1, .int l1), (2, .int l2), (3, .int l3), (4, .int l4)] [] := by
  refine hr_iload o 4 dX4_forgers_27 rfl ?_
  refine hr_iconst o (1 : Int32) dX4_forgers_29 (by decide) ?_
  refine hr_aload_n o 0 dX4_forgers_30 rfl ?_
  refine mr_get o flX4_39 dX4_forgers_31 (.ref (om + 10)) rfl ?_
  refine hr_iconst o (1 : Int32) dX4_forgers_34 (by decide) ?_
  refine mr_iald o 20 10 123 rfl (by decide) rfl dX4_forgers_35 (fun x1 => ?_)
  refine hr_ishl o dX4_forgers_36 ?_
  refine hr_icmp_ge o 100 dX4_forgers_37 (by decide) (fun _ => ?_) (fun _ => ?_)
  · refine hr_iload_n o 1 dX4_forgers_100 rfl ?_
    refine hr_if_ne o 108 dX4_forgers_101 (by decide) (fun _ => ?_) (fun _ => ?_)
    · refine hr_iload_n o 2 dX4_forgers_104 rfl ?_
      refine hr_goto o 130 dX4_forgers_105 (by decide) ?_
      exact hr_iret o dX4_forgers_130 rfl rfl
    refine hr_iload_n o 2 dX4_forgers_108 rfl ?_
    refine hr_if_ge o 116 dX4_forgers_109 (by decide) (fun _ => ?_) (fun _ => ?_)
    · refine hr_iconst o (1 : Int32) dX4_forgers_116 (by decide) ?_
      refine hr_aload_n o 0 dX4_forgers_117 rfl ?_
      refine mr_get o flX4_39 dX4_forgers_118 (.ref (om + 10)) rfl ?_
      refine hr_iconst o (1 : Int32) dX4_forgers_121 (by decide) ?_
      refine mr_iald o 20 10 123 rfl (by decide) rfl dX4_forgers_122 (fun x2 => ?_)
      refine hr_ishl o dX4_forgers_123 ?_
      refine hr_iconst o (1 : Int32) dX4_forgers_124 (by decide) ?_
      refine hr_isub o dX4_forgers_125 ?_
      refine hr_iload_n o 3 dX4_forgers_126 rfl ?_
      refine hr_iconst o (-1 : Int32) dX4_forgers_127 (by decide) ?_
      refine hr_ixor o dX4_forgers_128 ?_
      refine hr_iand o dX4_forgers_129 ?_
      exact hr_iret o dX4_forgers_130 rfl rfl
    refine hr_iconst o (0 : Int32) dX4_forgers_112 (by decide) ?_
    refine hr_goto o 130 dX4_forgers_113 (by decide) ?_
    exact hr_iret o dX4_forgers_130 rfl rfl
  refine hr_iload_n o 2 dX4_forgers_40 rfl ?_
  refine hr_if_lt o 56 dX4_forgers_41 (by decide) (fun _ => ?_) (fun _ => ?_)
  · exact nlX4_forgers_56 o k27 hk27 l1 l2 l3 l4 V0
  refine hr_iload o 4 dX4_forgers_44 rfl ?_
  refine pr_callI o msX4_374 dX4_forgers_46 [.int l4] (fun zr ze => mtX4_bits l4 zr ze) rfl rfl (Nat.le_of_ble_eq_true rfl) ⟨by decide, by decide⟩ (fun x3 => ?_)
  refine hr_iload_n o 2 dX4_forgers_49 rfl ?_
  refine pr_callI o msX4_374 dX4_forgers_50 [.int l2] (fun zr ze => mtX4_bits l2 zr ze) rfl rfl (Nat.le_of_ble_eq_true rfl) ⟨by decide, by decide⟩ (fun x4 => ?_)
  refine hr_icmp_gt o 94 dX4_forgers_53 (by decide) (fun _ => ?_) (fun _ => ?_)
  · exact nlX4_forgers_94 o k27 hk27 l1 l2 l3 l4 V0
  exact nlX4_forgers_56 o k27 hk27 l1 l2 l3 l4 V0
def lpX4_forgers_27  : Nat → Int32 → Int32 → Int32 → Int32 → hf_V → Option (Int32 × hf_V)
  | 0 => fun _ _ _ _ _ => none
  | n + 1 => fun l1 l2 l3 l4 V0 => ndX4_forgers_27  (lpX4_forgers_27  n) l1 l2 l3 l4 V0
theorem llX4_forgers_27 {C : hf_X} {om : Nat} {b : hf_H} (o : hf_In C cX4_forgers RX4 5 (some .int) 3 70)   (n : Nat) : ∀ (l1 : Int32) (l2 : Int32) (l3 : Int32) (l4 : Int32) (V0 : hf_V), hf_J C (hf_dMI om b) ((lpX4_forgers_27  n) l1 l2 l3 l4 V0) (hf_M om b V0) 27 [(0, .ref om), (1, .int l1), (2, .int l2), (3, .int l3), (4, .int l4)] [] := by
  induction n with
  | zero => exact fun _ _ _ _ _ => hr_none
  | succ n ih => exact fun l1 l2 l3 l4 V0 => nlX4_forgers_27 o  (lpX4_forgers_27  n)  ih l1 l2 l3 l4 V0
def spX4_forgers (l1 : Int32) (V0 : hf_V) : Option (Int32 × hf_V) :=
  hf_b2 (spX4_isFair V0) fun x2 V1 =>
  if x2 = 0 then (some ((-1 : Int32), V1)) else
  (spX4_in (Int32.toInt64 l1) (0 : Int64) (1 : Int64)).bind fun x3 =>
  if x3 = 0 then (some ((-1 : Int32), V1)) else
  lpX4_forgers_27 hf_N l1 (-2 : Int32) (0 : Int32) (0 : Int32) V1
theorem jtX4_forgers {C : hf_X} {om : Nat} {b : hf_H} (o : hf_In C cX4_forgers RX4 5 (some .int) 3 70) (l1 : Int32) (V0 : hf_V) : hf_J C (hf_dMI om b) (spX4_forgers l1 V0) (hf_M om b V0) 0 [(0, .ref om), (1, .int l1)] [] := by
  refine hr_aload_n o 0 dX4_forgers_0 rfl ?_
  refine mr_callI o mvX4_329 dX4_forgers_1 [] (fun zr zV ze => mtX4_isFair  V0 zr zV ze) rfl rfl (Nat.le_of_ble_eq_true rfl) ⟨by decide, by decide⟩ (fun x2 V1 => ?_)
  refine hr_if_eq o 17 dX4_forgers_4 (by decide) (fun _ => ?_) (fun _ => ?_)
  · refine hr_iconst o (-1 : Int32) dX4_forgers_17 (by decide) ?_
    exact hr_iret o dX4_forgers_18 rfl rfl
  refine hr_iload_n o 1 dX4_forgers_7 rfl ?_
  refine hr_i2l o dX4_forgers_8 ?_
  refine hr_lconst o (0 : Int64) dX4_forgers_9 (by decide) ?_
  refine hr_lconst o (1 : Int64) dX4_forgers_10 (by decide) ?_
  refine pr_callI o msX4_109 dX4_forgers_11 [.long (Int32.toInt64 l1), .long (0 : Int64), .long (1 : Int64)] (fun zr ze => mtX4_in (Int32.toInt64 l1) (0 : Int64) (1 : Int64) zr ze) rfl rfl (Nat.le_of_ble_eq_true rfl) ⟨by decide, by decide⟩ (fun x3 => ?_)
  refine hr_if_ne o 19 dX4_forgers_14 (by decide) (fun _ => ?_) (fun _ => ?_)
  · refine hr_iconst o (-1 : Int32) dX4_forgers_17 (by decide) ?_
    exact hr_iret o dX4_forgers_18 rfl rfl
  refine hr_bipush o (-2 : Int32) dX4_forgers_19 (by decide) ?_
  refine hr_istore_n o [(2, .int (-2 : Int32)), (0, .ref om), (1, .int l1)] dX4_forgers_21 (by decide) rfl ?_
  refine hr_iconst o (0 : Int32) dX4_forgers_22 (by decide) ?_
  refine hr_istore_n o [(3, .int (0 : Int32)), (2, .int (-2 : Int32)), (0, .ref om), (1, .int l1)] dX4_forgers_23 (by decide) rfl ?_
  refine hr_iconst o (0 : Int32) dX4_forgers_24 (by decide) ?_
  refine hr_istore o [(4, .int (0 : Int32)), (3, .int (0 : Int32)), (2, .int (-2 : Int32)), (0, .ref om), (1, .int l1)] dX4_forgers_25 (by decide) rfl ?_
  refine hr_sub [3, 4, 2, 1, 0] rfl ?_
  exact llX4_forgers_27 o hf_N l1 (-2 : Int32) (0 : Int32) (0 : Int32) V1
theorem mtX4_forgers {om : Nat} {b : hf_H} (l1 : Int32) (V0 : hf_V) (r : Int32) (V1 : hf_V) (e : spX4_forgers l1 V0 = some (r, V1)) : hf_Con yX4_forgers cX4_forgers 5 (some .int) 3 70 [.ref om, .int l1] (hf_M om b V0) (.returned (some (.int r)), hf_M om b V1) := hf_entry (dec := hf_dMI om b) (by decide) [.ref om, .int l1] (Nat.le_of_ble_eq_true rfl) [(0, .ref om), (1, .int l1)] rfl e (fun C o _ => jtX4_forgers o l1 V0)

/-! seed -/
theorem flX4_479 : hf_Fl RX4 479 4 21 := ⟨(RX4, TX4, 37), RX4, rfl, by decide, in_X4, tyX4_ok, nmX4, Or.inl q1421, Or.inl rfl⟩
theorem nf_4_21 : hf_Nf 4 21 := ⟨(RX4, TX4, 37), rfl, rfl⟩
def spX4_seed (l1 : Int32) (V0 : hf_V) : Option (Int32 × hf_V) :=
  if 0 ≤ l1 then (hf_let (V0.1 21) fun x1 =>
  hf_let (hf_ui V0 21 l1) fun V2 =>
  some (x1, V2)) else
  some ((-1 : Int32), V0)
theorem jtX4_seed {C : hf_X} {om : Nat} {b : hf_H} (o : hf_In C cX4_seed RX4 3 (some .int) 0 0) (l1 : Int32) (V0 : hf_V) : hf_J C (hf_dMI om b) (spX4_seed l1 V0) (hf_M om b V0) 0 [(0, .ref om), (1, .int l1)] [] := by
  refine hr_iload_n o 1 dX4_seed_0 rfl ?_
  refine hr_if_ge o 6 dX4_seed_1 (by decide) (fun _ => ?_) (fun _ => ?_)
  · refine hr_aload_n o 0 dX4_seed_6 rfl ?_
    refine mr_get o flX4_479 dX4_seed_7 (.int (V0.1 21)) rfl ?_
    refine hr_nmI (fun x1 => ?_)
    refine hr_istore_n o [(2, .int x1), (0, .ref om), (1, .int l1)] dX4_seed_10 (by decide) rfl ?_
    refine hr_aload_n o 1 dX4_seed_11 rfl ?_
    refine hr_iload_n o 2 dX4_seed_12 rfl ?_
    refine mr_putI o flX4_479 dX4_seed_13 nf_4_21 rfl rfl (fun V2 => ?_)
    refine hr_iload_n o 0 dX4_seed_16 rfl ?_
    exact hr_iret o dX4_seed_17 rfl rfl
  refine hr_iconst o (-1 : Int32) dX4_seed_4 (by decide) ?_
  exact hr_iret o dX4_seed_5 rfl rfl
theorem mtX4_seed {om : Nat} {b : hf_H} (l1 : Int32) (V0 : hf_V) (r : Int32) (V1 : hf_V) (e : spX4_seed l1 V0 = some (r, V1)) : hf_Con yX4_seed cX4_seed 3 (some .int) 0 0 [.ref om, .int l1] (hf_M om b V0) (.returned (some (.int r)), hf_M om b V1) := hf_entry (dec := hf_dMI om b) (by decide) [.ref om, .int l1] (Nat.le_of_ble_eq_true rfl) [(0, .ref om), (1, .int l1)] rfl e (fun C o _ => jtX4_seed o l1 V0)

/-! draw -/
theorem flX4_482 : hf_Fl RX4 482 4 33 := ⟨(RX4, TX4, 37), RX4, rfl, by decide, in_X4, tyX4_ok, nmX4, Or.inl q1433, Or.inl rfl⟩
theorem nf_4_33 : hf_Nf 4 33 := ⟨(RX4, TX4, 37), rfl, rfl⟩
def spX4_draw (l1 : Int32) (V0 : hf_V) : Option (Int32 × hf_V) :=
  if (2147483648 : Int64) = 0 then none else
  hf_let (hf_ul V0 33 ((((V0.2.1 33) * (1103515245 : Int64)) + (12345 : Int64)) - (((V0.2.1 33) * (1103515245 : Int64)) + (12345 : Int64)) / (2147483648 : Int64) * (2147483648 : Int64))) fun V1 =>
  if (65536 : Int64) = 0 then none else
  if (Int32.toInt64 l1) = 0 then none else
  some ((Int64.toInt32 (((V1.2.1 33) / (65536 : Int64)) - ((V1.2.1 33) / (65536 : Int64)) / (Int32.toInt64 l1) * (Int32.toInt64 l1))), V1)
theorem jtX4_draw {C : hf_X} {om : Nat} {b : hf_H} (o : hf_In C cX4_draw RX4 2 (some .int) 0 0) (l1 : Int32) (V0 : hf_V) : hf_J C (hf_dMI om b) (spX4_draw l1 V0) (hf_M om b V0) 0 [(0, .ref om), (1, .int l1)] [] := by
  refine hr_aload_n o 0 dX4_draw_0 rfl ?_
  refine hr_aload_n o 0 dX4_draw_1 rfl ?_
  refine mr_get o flX4_482 dX4_draw_2 (.long (V0.2.1 33)) rfl ?_
  refine hr_ldc2 o (1103515245 : Int64) q2022 dX4_draw_5 ?_
  refine hr_lmul o dX4_draw_8 ?_
  refine hr_ldc2 o (12345 : Int64) q2023 dX4_draw_9 ?_
  refine hr_ladd o dX4_draw_12 ?_
  refine hr_ldc2 o (2147483648 : Int64) q2024 dX4_draw_13 ?_
  refine hr_lrem o dX4_draw_16 (fun _ => ?_)
  refine mr_putL o flX4_482 dX4_draw_17 nf_4_33 rfl rfl (fun V1 => ?_)
  refine hr_aload_n o 0 dX4_draw_20 rfl ?_
  refine mr_get o flX4_482 dX4_draw_21 (.long (V1.2.1 33)) rfl ?_
  refine hr_ldc2 o (65536 : Int64) q2025 dX4_draw_24 ?_
  refine hr_ldiv o dX4_draw_27 (fun _ => ?_)
  refine hr_iload_n o 1 dX4_draw_28 rfl ?_
  refine hr_i2l o dX4_draw_29 ?_
  refine hr_lrem o dX4_draw_30 (fun _ => ?_)
  refine hr_l2i o dX4_draw_31 ?_
  exact hr_iret o dX4_draw_32 rfl rfl
theorem mtX4_draw {om : Nat} {b : hf_H} (l1 : Int32) (V0 : hf_V) (r : Int32) (V1 : hf_V) (e : spX4_draw l1 V0 = some (r, V1)) : hf_Con yX4_draw cX4_draw 2 (some .int) 0 0 [.ref om, .int l1] (hf_M om b V0) (.returned (some (.int r)), hf_M om b V1) := hf_entry (dec := hf_dMI om b) (by decide) [.ref om, .int l1] (Nat.le_of_ble_eq_true rfl) [(0, .ref om), (1, .int l1)] rfl e (fun C o _ => jtX4_draw o l1 V0)

/-! drawsHour -/
theorem mvX4_494 : hf_MV RX4 494 RX4 yX4_draw cX4_draw 2 (some .int) 1 := ⟨lw_V q2018 q2020 qs151 q162 q2021, by decide +kernel⟩
def ndX4_drawsHour_71 (k2 : Int32 → Int32 → Int32 → hf_V → Option hf_V) (l1 : Int32) (l2 : Int32) (l3 : Int32) (s1 : Int32) (s2 : Int32) (V0 : hf_V) : Option hf_V :=
  (spX4_goes s1 s2 V0).bind fun V1 =>
  hf_let (l3 + (1 : Int32)) fun x2 =>
  k2 l1 l2 x2 V1
theorem nlX4_drawsHour_71 {C : hf_X} {om : Nat} {b : hf_H} (o : hf_In C cX4_drawsHour RX4 6 (none) 7 165) (k2 : Int32 → Int32 → Int32 → hf_V → Option hf_V) (hk2 : ∀ (l1 : Int32) (l2 : Int32) (l3 : Int32) (V0 : hf_V), hf_J C (hf_dMV om b) (k2 l1 l2 l3 V0) (hf_M om b V0) 2 [(0, .ref om), (1, .int l1), (2, .int l2), (3, .int l3)] []) (l1 : Int32) (l2 : Int32) (l3 : Int32) (s1 : Int32) (s2 : Int32) (V0 : hf_V) : hf_J C (hf_dMV om b) (ndX4_drawsHour_71 k2 l1 l2 l3 s1 s2 V0) (hf_M om b V0) 71 [(0, .ref om), (1, .int l1), (2, .int l2), (3, .int l3)] [.int s2, .int s1, .ref om] := by
  refine mr_callV o mvX4_359 dX4_drawsHour_71 [.int s1, .int s2] (fun zV ze => mtX4_goes s1 s2 V0 zV ze) rfl rfl (Nat.le_of_ble_eq_true rfl) ⟨by decide, by decide⟩ (fun V1 => ?_)
  refine hr_iincN o (1 : Int32) 3 (fun y => [(3, .int y), (0, .ref om), (1, .int l1), (2, .int l2)]) dX4_drawsHour_74 rfl (by decide) (by decide) (fun y => rfl) (fun x2 => ?_)
  refine hr_goto o 2 dX4_drawsHour_77 (by decide) ?_
  refine hr_sub [1, 2, 3, 0] rfl ?_
  exact hk2 l1 l2 x2 V1
def ndX4_drawsHour_45 (k2 : Int32 → Int32 → Int32 → hf_V → Option hf_V) (l1 : Int32) (l2 : Int32) (l3 : Int32) (l4 : Int32) (s0 : Int32) (V0 : hf_V) : Option hf_V :=
  (spX4_buysAll l1 l3 V0).bind fun V1 =>
  if l4 = 0 then (hf_b2 (spX4_goingBy l1 l3 V1) fun x3 V2 =>
  ndX4_drawsHour_71 k2 l1 l2 l3 l3 x3 V2) else
  ndX4_drawsHour_71 k2 l1 l2 l3 l3 s0 V1
theorem nlX4_drawsHour_45 {C : hf_X} {om : Nat} {b : hf_H} (o : hf_In C cX4_drawsHour RX4 6 (none) 7 165) (k2 : Int32 → Int32 → Int32 → hf_V → Option hf_V) (hk2 : ∀ (l1 : Int32) (l2 : Int32) (l3 : Int32) (V0 : hf_V), hf_J C (hf_dMV om b) (k2 l1 l2 l3 V0) (hf_M om b V0) 2 [(0, .ref om), (1, .int l1), (2, .int l2), (3, .int l3)] []) (l1 : Int32) (l2 : Int32) (l3 : Int32) (l4 : Int32) (s0 : Int32) (V0 : hf_V) : hf_J C (hf_dMV om b) (ndX4_drawsHour_45 k2 l1 l2 l3 l4 s0 V0) (hf_M om b V0) 45 [(0, .ref om), (1, .int l1), (2, .int l2), (3, .int l3), (4, .int l4)] [.int s0] := by
  refine hr_istore o [(5, .int s0), (0, .ref om), (1, .int l1), (2, .int l2), (3, .int l3), (4, .int l4)] dX4_drawsHour_45 (by decide) rfl ?_
  refine hr_aload_n o 1 dX4_drawsHour_47 rfl ?_
  refine hr_iload_n o 2 dX4_drawsHour_48 rfl ?_
  refine hr_iload_n o 4 dX4_drawsHour_49 rfl ?_
  refine mr_callV o mvX4_407 dX4_drawsHour_50 [.int l1, .int l3] (fun zV ze => mtX4_buysAll l1 l3 V0 zV ze) rfl rfl (Nat.le_of_ble_eq_true rfl) ⟨by decide, by decide⟩ (fun V1 => ?_)
  refine hr_aload_n o 1 dX4_drawsHour_53 rfl ?_
  refine hr_iload_n o 4 dX4_drawsHour_54 rfl ?_
  refine hr_iload o 5 dX4_drawsHour_55 rfl ?_
  refine hr_if_eq o 65 dX4_drawsHour_57 (by decide) (fun _ => ?_) (fun _ => ?_)
  · refine hr_aload_n o 1 dX4_drawsHour_65 rfl ?_
    refine hr_iload_n o 2 dX4_drawsHour_66 rfl ?_
    refine hr_iload_n o 4 dX4_drawsHour_67 rfl ?_
    refine mr_callI o mvX4_410 dX4_drawsHour_68 [.int l1, .int l3] (fun zr zV ze => mtX4_goingBy l1 l3 V1 zr zV ze) rfl rfl (Nat.le_of_ble_eq_true rfl) ⟨by decide, by decide⟩ (fun x3 V2 => ?_)
    refine hr_sub [1, 2, 3, 4] rfl ?_
    exact nlX4_drawsHour_71 o k2 hk2 l1 l2 l3 l3 x3 V2
  refine hr_iload o 0 dX4_drawsHour_60 rfl ?_
  refine hr_goto o 71 dX4_drawsHour_62 (by decide) ?_
  refine hr_sub [1, 2, 3, 4] rfl ?_
  exact nlX4_drawsHour_71 o k2 hk2 l1 l2 l3 l3 s0 V1
def ndX4_drawsHour_27 (k2 : Int32 → Int32 → Int32 → hf_V → Option hf_V) (l1 : Int32) (l2 : Int32) (l3 : Int32) (s0 : Int32) (V0 : hf_V) : Option hf_V :=
  if s0 = 0 then (ndX4_drawsHour_45 k2 l1 l2 l3 s0 (0 : Int32) V0) else
  hf_b2 (spX4_draw (3 : Int32) V0) fun x2 V1 =>
  ndX4_drawsHour_45 k2 l1 l2 l3 s0 (x2 - (1 : Int32)) V1
theorem nlX4_drawsHour_27 {C : hf_X} {om : Nat} {b : hf_H} (o : hf_In C cX4_drawsHour RX4 6 (none) 7 165) (k2 : Int32 → Int32 → Int32 → hf_V → Option hf_V) (hk2 : ∀ (l1 : Int32) (l2 : Int32) (l3 : Int32) (V0 : hf_V), hf_J C (hf_dMV om b) (k2 l1 l2 l3 V0) (hf_M om b V0) 2 [(0, .ref om), (1, .int l1), (2, .int l2), (3, .int l3)] []) (l1 : Int32) (l2 : Int32) (l3 : Int32) (s0 : Int32) (V0 : hf_V) : hf_J C (hf_dMV om b) (ndX4_drawsHour_27 k2 l1 l2 l3 s0 V0) (hf_M om b V0) 27 [(0, .ref om), (1, .int l1), (2, .int l2), (3, .int l3)] [.int s0] := by
  refine hr_istore o [(4, .int s0), (0, .ref om), (1, .int l1), (2, .int l2), (3, .int l3)] dX4_drawsHour_27 (by decide) rfl ?_
  refine hr_iload o 0 dX4_drawsHour_29 rfl ?_
  refine hr_if_eq o 44 dX4_drawsHour_31 (by decide) (fun _ => ?_) (fun _ => ?_)
  · refine hr_iconst o (0 : Int32) dX4_drawsHour_44 (by decide) ?_
    refine hr_sub [1, 2, 3, 4, 0] rfl ?_
    exact nlX4_drawsHour_45 o k2 hk2 l1 l2 l3 s0 (0 : Int32) V0
  refine hr_aload_n o 1 dX4_drawsHour_34 rfl ?_
  refine hr_iconst o (3 : Int32) dX4_drawsHour_35 (by decide) ?_
  refine mr_callI o mvX4_494 dX4_drawsHour_36 [.int (3 : Int32)] (fun zr zV ze => mtX4_draw (3 : Int32) V0 zr zV ze) rfl rfl (Nat.le_of_ble_eq_true rfl) ⟨by decide, by decide⟩ (fun x2 V1 => ?_)
  refine hr_iconst o (1 : Int32) dX4_drawsHour_39 (by decide) ?_
  refine hr_isub o dX4_drawsHour_40 ?_
  refine hr_goto o 45 dX4_drawsHour_41 (by decide) ?_
  refine hr_sub [1, 2, 3, 4, 0] rfl ?_
  exact nlX4_drawsHour_45 o k2 hk2 l1 l2 l3 s0 (x2 - (1 : Int32)) V1
def ndX4_drawsHour_2 (k2 : Int32 → Int32 → Int32 → hf_V → Option hf_V) (l1 : Int32) (l2 : Int32) (l3 : Int32) (V0 : hf_V) : Option hf_V :=
  (hf_ld 123 (V0.2.2.2.1 20) (2 : Int32)).bind fun x1 =>
  if x1 ≤ l3 then ((spX4_hourComes V0).bind fun V2 =>
  some V2) else
  hf_b2 (spX4_draw (100 : Int32) V0) fun x4 V3 =>
  if l2 ≤ x4 then (ndX4_drawsHour_27 k2 l1 l2 l3 (0 : Int32) V3) else
  ndX4_drawsHour_27 k2 l1 l2 l3 (1 : Int32) V3
theorem nlX4_drawsHour_2 {C : hf_X} {om : Nat} {b : hf_H} (o : hf_In C cX4_drawsHour RX4 6 (none) 7 165) (k2 : Int32 → Int32 → Int32 → hf_V → Option hf_V) (hk2 : ∀ (l1 : Int32) (l2 : Int32) (l3 : Int32) (V0 : hf_V), hf_J C (hf_dMV om b) (k2 l1 l2 l3 V0) (hf_M om b V0) 2 [(0, .ref om), (1, .int l1), (2, .int l2), (3, .int l3)] []) (l1 : Int32) (l2 : Int32) (l3 : Int32) (V0 : hf_V) : hf_J C (hf_dMV om b) (ndX4_drawsHour_2 k2 l1 l2 l3 V0) (hf_M om b V0) 2 [(0, .ref om), (1, .int l1), (2, .int l2), (3, .int l3)] [] := by
  refine hr_iload_n o 3 dX4_drawsHour_2 rfl ?_
  refine hr_aload_n o 0 dX4_drawsHour_3 rfl ?_
  refine mr_get o flX4_39 dX4_drawsHour_4 (.ref (om + 10)) rfl ?_
  refine hr_iconst o (2 : Int32) dX4_drawsHour_7 (by decide) ?_
  refine mr_iald o 20 10 123 rfl (by decide) rfl dX4_drawsHour_8 (fun x1 => ?_)
  refine hr_icmp_ge o 80 dX4_drawsHour_9 (by decide) (fun _ => ?_) (fun _ => ?_)
  · refine hr_aload_n o 0 dX4_drawsHour_80 rfl ?_
    refine mr_callV o mvX4_362 dX4_drawsHour_81 [] (fun zV ze => mtX4_hourComes  V0 zV ze) rfl rfl (Nat.le_of_ble_eq_true rfl) ⟨by decide, by decide⟩ (fun V2 => ?_)
    exact hr_vret o dX4_drawsHour_84 rfl
  refine hr_aload_n o 0 dX4_drawsHour_12 rfl ?_
  refine hr_bipush o (100 : Int32) dX4_drawsHour_13 (by decide) ?_
  refine mr_callI o mvX4_494 dX4_drawsHour_15 [.int (100 : Int32)] (fun zr zV ze => mtX4_draw (100 : Int32) V0 zr zV ze) rfl rfl (Nat.le_of_ble_eq_true rfl) ⟨by decide, by decide⟩ (fun x4 V3 => ?_)
  refine hr_iload_n o 2 dX4_drawsHour_18 rfl ?_
  refine hr_icmp_ge o 26 dX4_drawsHour_19 (by decide) (fun _ => ?_) (fun _ => ?_)
  · refine hr_iconst o (0 : Int32) dX4_drawsHour_26 (by decide) ?_
    exact nlX4_drawsHour_27 o k2 hk2 l1 l2 l3 (0 : Int32) V3
  refine hr_iconst o (1 : Int32) dX4_drawsHour_22 (by decide) ?_
  refine hr_goto o 27 dX4_drawsHour_23 (by decide) ?_
  exact nlX4_drawsHour_27 o k2 hk2 l1 l2 l3 (1 : Int32) V3
def lpX4_drawsHour_2  : Nat → Int32 → Int32 → Int32 → hf_V → Option hf_V
  | 0 => fun _ _ _ _ => none
  | n + 1 => fun l1 l2 l3 V0 => ndX4_drawsHour_2  (lpX4_drawsHour_2  n) l1 l2 l3 V0
theorem llX4_drawsHour_2 {C : hf_X} {om : Nat} {b : hf_H} (o : hf_In C cX4_drawsHour RX4 6 (none) 7 165)   (n : Nat) : ∀ (l1 : Int32) (l2 : Int32) (l3 : Int32) (V0 : hf_V), hf_J C (hf_dMV om b) ((lpX4_drawsHour_2  n) l1 l2 l3 V0) (hf_M om b V0) 2 [(0, .ref om), (1, .int l1), (2, .int l2), (3, .int l3)] [] := by
  induction n with
  | zero => exact fun _ _ _ _ => hr_none
  | succ n ih => exact fun l1 l2 l3 V0 => nlX4_drawsHour_2 o  (lpX4_drawsHour_2  n)  ih l1 l2 l3 V0
def spX4_drawsHour (l1 : Int32) (l2 : Int32) (V0 : hf_V) : Option hf_V :=
  lpX4_drawsHour_2 hf_N l1 l2 (0 : Int32) V0
theorem jtX4_drawsHour {C : hf_X} {om : Nat} {b : hf_H} (o : hf_In C cX4_drawsHour RX4 6 (none) 7 165) (l1 : Int32) (l2 : Int32) (V0 : hf_V) : hf_J C (hf_dMV om b) (spX4_drawsHour l1 l2 V0) (hf_M om b V0) 0 [(0, .ref om), (1, .int l1), (2, .int l2)] [] := by
  refine hr_iconst o (0 : Int32) dX4_drawsHour_0 (by decide) ?_
  refine hr_istore_n o [(3, .int (0 : Int32)), (0, .ref om), (1, .int l1), (2, .int l2)] dX4_drawsHour_1 (by decide) rfl ?_
  refine hr_sub [1, 2, 3, 0] rfl ?_
  exact llX4_drawsHour_2 o hf_N l1 l2 (0 : Int32) V0
theorem mtX4_drawsHour {om : Nat} {b : hf_H} (l1 : Int32) (l2 : Int32) (V0 V1 : hf_V) (e : spX4_drawsHour l1 l2 V0 = some V1) : hf_Con yX4_drawsHour cX4_drawsHour 6 (none) 7 165 [.ref om, .int l1, .int l2] (hf_M om b V0) (.returned none, hf_M om b V1) := hf_entry (dec := hf_dMV om b) (by decide) [.ref om, .int l1, .int l2] (Nat.le_of_ble_eq_true rfl) [(0, .ref om), (1, .int l1), (2, .int l2)] rfl e (fun C o _ => jtX4_drawsHour o l1 l2 V0)

/-! fairs -/
theorem mvX4_501 : hf_MV RX4 501 RX4 yX4_drawsHour cX4_drawsHour 6 (none) 2 := ⟨lw_V q2014 q2016 qs150 q162 q2017, by decide +kernel⟩
def ndX4_fairs_113 (k82 : Int32 → Int32 → Int32 → Int32 → Int32 → Int32 → Int32 → hf_V → Option (Int32 × hf_V)) (k113 : Int32 → Int32 → Int32 → Int32 → Int32 → Int32 → Int32 → Int32 → hf_V → Option (Int32 × hf_V)) (l1 : Int32) (l2 : Int32) (l3 : Int32) (l4 : Int32) (l5 : Int32) (l6 : Int32) (l7 : Int32) (l8 : Int32) (V0 : hf_V) : Option (Int32 × hf_V) :=
  (hf_ld 123 (V0.2.2.2.1 20) (2 : Int32)).bind fun x1 =>
  if x1 ≤ l8 then ((spX4_putsBack V0).bind fun V2 =>
  hf_let (l7 + (1 : Int32)) fun x3 =>
  k82 l1 l2 l3 l4 l5 l6 x3 V2) else
  hf_b2 (spX4_hasOf l8 V0) fun x5 V4 =>
  (hf_ld 4096 (V4.2.2.2.1 22) x5).bind fun x6 =>
  hf_let (l5 + x6) fun x7 =>
  hf_let (l8 + (1 : Int32)) fun x8 =>
  k113 l1 l2 l3 l4 x7 l6 l7 x8 V4
theorem nlX4_fairs_113 {C : hf_X} {om : Nat} {b : hf_H} (o : hf_In C cX4_fairs RX4 9 (some .int) 8 190) (k82 : Int32 → Int32 → Int32 → Int32 → Int32 → Int32 → Int32 → hf_V → Option (Int32 × hf_V)) (k113 : Int32 → Int32 → Int32 → Int32 → Int32 → Int32 → Int32 → Int32 → hf_V → Option (Int32 × hf_V)) (hk82 : ∀ (l1 : Int32) (l2 : Int32) (l3 : Int32) (l4 : Int32) (l5 : Int32) (l6 : Int32) (l7 : Int32) (V0 : hf_V), hf_J C (hf_dMI om b) (k82 l1 l2 l3 l4 l5 l6 l7 V0) (hf_M om b V0) 82 [(0, .ref om), (1, .int l1), (2, .int l2), (3, .int l3), (4, .int l4), (5, .int l5), (6, .int l6), (7, .int l7)] []) (hk113 : ∀ (l1 : Int32) (l2 : Int32) (l3 : Int32) (l4 : Int32) (l5 : Int32) (l6 : Int32) (l7 : Int32) (l8 : Int32) (V0 : hf_V), hf_J C (hf_dMI om b) (k113 l1 l2 l3 l4 l5 l6 l7 l8 V0) (hf_M om b V0) 113 [(0, .ref om), (1, .int l1), (2, .int l2), (3, .int l3), (4, .int l4), (5, .int l5), (6, .int l6), (7, .int l7), (8, .int l8)] []) (l1 : Int32) (l2 : Int32) (l3 : Int32) (l4 : Int32) (l5 : Int32) (l6 : Int32) (l7 : Int32) (l8 : Int32) (V0 : hf_V) : hf_J C (hf_dMI om b) (ndX4_fairs_113 k82 k113 l1 l2 l3 l4 l5 l6 l7 l8 V0) (hf_M om b V0) 113 [(0, .ref om), (1, .int l1), (2, .int l2), (3, .int l3), (4, .int l4), (5, .int l5), (6, .int l6), (7, .int l7), (8, .int l8)] [] := by
  refine hr_iload o 8 dX4_fairs_113 rfl ?_
  refine hr_aload_n o 0 dX4_fairs_115 rfl ?_
  refine mr_get o flX4_39 dX4_fairs_116 (.ref (om + 10)) rfl ?_
  refine hr_iconst o (2 : Int32) dX4_fairs_119 (by decide) ?_
  refine mr_iald o 20 10 123 rfl (by decide) rfl dX4_fairs_120 (fun x1 => ?_)
  refine hr_icmp_ge o 146 dX4_fairs_121 (by decide) (fun _ => ?_) (fun _ => ?_)
  · refine hr_aload_n o 0 dX4_fairs_146 rfl ?_
    refine mr_callV o mvX4_463 dX4_fairs_147 [] (fun zV ze => mtX4_putsBack  V0 zV ze) rfl rfl (Nat.le_of_ble_eq_true rfl) ⟨by decide, by decide⟩ (fun V2 => ?_)
    refine hr_iincN o (1 : Int32) 7 (fun y => [(7, .int y), (0, .ref om), (1, .int l1), (2, .int l2), (3, .int l3), (4, .int l4), (5, .int l5), (6, .int l6), (8, .int l8)]) dX4_fairs_150 rfl (by decide) (by decide) (fun y => rfl) (fun x3 => ?_)
    refine hr_goto o 82 dX4_fairs_153 (by decide) ?_
    refine hr_sub [1, 2, 3, 4, 5, 6, 7, 0] rfl ?_
    exact hk82 l1 l2 l3 l4 l5 l6 x3 V2
  refine hr_iload o 5 dX4_fairs_124 rfl ?_
  refine hr_aload_n o 0 dX4_fairs_126 rfl ?_
  refine mr_get o flX4_42 dX4_fairs_127 (.ref (om + 11)) rfl ?_
  refine hr_aload_n o 0 dX4_fairs_130 rfl ?_
  refine hr_iload o 8 dX4_fairs_131 rfl ?_
  refine mr_callI o mvX4_346 dX4_fairs_133 [.int l8] (fun zr zV ze => mtX4_hasOf l8 V0 zr zV ze) rfl rfl (Nat.le_of_ble_eq_true rfl) ⟨by decide, by decide⟩ (fun x5 V4 => ?_)
  refine mr_iald o 22 11 4096 rfl (by decide) rfl dX4_fairs_136 (fun x6 => ?_)
  refine hr_iadd o dX4_fairs_137 ?_
  refine hr_nmI (fun x7 => ?_)
  refine hr_istore o [(5, .int x7), (0, .ref om), (1, .int l1), (2, .int l2), (3, .int l3), (4, .int l4), (6, .int l6), (7, .int l7), (8, .int l8)] dX4_fairs_138 (by decide) rfl ?_
  refine hr_iincN o (1 : Int32) 8 (fun y => [(8, .int y), (5, .int x7), (0, .ref om), (1, .int l1), (2, .int l2), (3, .int l3), (4, .int l4), (6, .int l6), (7, .int l7)]) dX4_fairs_140 rfl (by decide) (by decide) (fun y => rfl) (fun x8 => ?_)
  refine hr_goto o 113 dX4_fairs_143 (by decide) ?_
  refine hr_sub [2, 3, 4, 5, 6, 1, 7, 8, 0] rfl ?_
  exact hk113 l1 l2 l3 l4 x7 l6 l7 x8 V4
def lpX4_fairs_113 (k82 : Int32 → Int32 → Int32 → Int32 → Int32 → Int32 → Int32 → hf_V → Option (Int32 × hf_V)) : Nat → Int32 → Int32 → Int32 → Int32 → Int32 → Int32 → Int32 → Int32 → hf_V → Option (Int32 × hf_V)
  | 0 => fun _ _ _ _ _ _ _ _ _ => none
  | n + 1 => fun l1 l2 l3 l4 l5 l6 l7 l8 V0 => ndX4_fairs_113 k82 (lpX4_fairs_113 k82 n) l1 l2 l3 l4 l5 l6 l7 l8 V0
theorem llX4_fairs_113 {C : hf_X} {om : Nat} {b : hf_H} (o : hf_In C cX4_fairs RX4 9 (some .int) 8 190) (k82 : Int32 → Int32 → Int32 → Int32 → Int32 → Int32 → Int32 → hf_V → Option (Int32 × hf_V)) (hk82 : ∀ (l1 : Int32) (l2 : Int32) (l3 : Int32) (l4 : Int32) (l5 : Int32) (l6 : Int32) (l7 : Int32) (V0 : hf_V), hf_J C (hf_dMI om b) (k82 l1 l2 l3 l4 l5 l6 l7 V0) (hf_M om b V0) 82 [(0, .ref om), (1, .int l1), (2, .int l2), (3, .int l3), (4, .int l4), (5, .int l5), (6, .int l6), (7, .int l7)] []) (n : Nat) : ∀ (l1 : Int32) (l2 : Int32) (l3 : Int32) (l4 : Int32) (l5 : Int32) (l6 : Int32) (l7 : Int32) (l8 : Int32) (V0 : hf_V), hf_J C (hf_dMI om b) ((lpX4_fairs_113 k82 n) l1 l2 l3 l4 l5 l6 l7 l8 V0) (hf_M om b V0) 113 [(0, .ref om), (1, .int l1), (2, .int l2), (3, .int l3), (4, .int l4), (5, .int l5), (6, .int l6), (7, .int l7), (8, .int l8)] [] := by
  induction n with
  | zero => exact fun _ _ _ _ _ _ _ _ _ => hr_none
  | succ n ih => exact fun l1 l2 l3 l4 l5 l6 l7 l8 V0 => nlX4_fairs_113 o k82 (lpX4_fairs_113 k82 n) hk82 ih l1 l2 l3 l4 l5 l6 l7 l8 V0
def ndX4_fairs_91 (k82 : Int32 → Int32 → Int32 → Int32 → Int32 → Int32 → Int32 → hf_V → Option (Int32 × hf_V)) (k91 : Int32 → Int32 → Int32 → Int32 → Int32 → Int32 → Int32 → Int32 → hf_V → Option (Int32 × hf_V)) (l1 : Int32) (l2 : Int32) (l3 : Int32) (l4 : Int32) (l5 : Int32) (l6 : Int32) (l7 : Int32) (l8 : Int32) (V0 : hf_V) : Option (Int32 × hf_V) :=
  if l6 ≤ l8 then (lpX4_fairs_113 k82 hf_N l1 l2 l3 l4 l5 l6 l7 (0 : Int32) V0) else
  (spX4_drawsHour l1 l3 V0).bind fun V1 =>
  hf_let (l8 + (1 : Int32)) fun x2 =>
  k91 l1 l2 l3 l4 l5 l6 l7 x2 V1
theorem nlX4_fairs_91 {C : hf_X} {om : Nat} {b : hf_H} (o : hf_In C cX4_fairs RX4 9 (some .int) 8 190) (k82 : Int32 → Int32 → Int32 → Int32 → Int32 → Int32 → Int32 → hf_V → Option (Int32 × hf_V)) (k91 : Int32 → Int32 → Int32 → Int32 → Int32 → Int32 → Int32 → Int32 → hf_V → Option (Int32 × hf_V)) (hk82 : ∀ (l1 : Int32) (l2 : Int32) (l3 : Int32) (l4 : Int32) (l5 : Int32) (l6 : Int32) (l7 : Int32) (V0 : hf_V), hf_J C (hf_dMI om b) (k82 l1 l2 l3 l4 l5 l6 l7 V0) (hf_M om b V0) 82 [(0, .ref om), (1, .int l1), (2, .int l2), (3, .int l3), (4, .int l4), (5, .int l5), (6, .int l6), (7, .int l7)] []) (hk91 : ∀ (l1 : Int32) (l2 : Int32) (l3 : Int32) (l4 : Int32) (l5 : Int32) (l6 : Int32) (l7 : Int32) (l8 : Int32) (V0 : hf_V), hf_J C (hf_dMI om b) (k91 l1 l2 l3 l4 l5 l6 l7 l8 V0) (hf_M om b V0) 91 [(0, .ref om), (1, .int l1), (2, .int l2), (3, .int l3), (4, .int l4), (5, .int l5), (6, .int l6), (7, .int l7), (8, .int l8)] []) (l1 : Int32) (l2 : Int32) (l3 : Int32) (l4 : Int32) (l5 : Int32) (l6 : Int32) (l7 : Int32) (l8 : Int32) (V0 : hf_V) : hf_J C (hf_dMI om b) (ndX4_fairs_91 k82 k91 l1 l2 l3 l4 l5 l6 l7 l8 V0) (hf_M om b V0) 91 [(0, .ref om), (1, .int l1), (2, .int l2), (3, .int l3), (4, .int l4), (5, .int l5), (6, .int l6), (7, .int l7), (8, .int l8)] [] := by
  refine hr_iload o 8 dX4_fairs_91 rfl ?_
  refine hr_iload o 6 dX4_fairs_93 rfl ?_
  refine hr_icmp_ge o 110 dX4_fairs_95 (by decide) (fun _ => ?_) (fun _ => ?_)
  · refine hr_iconst o (0 : Int32) dX4_fairs_110 (by decide) ?_
    refine hr_istore o [(8, .int (0 : Int32)), (0, .ref om), (1, .int l1), (2, .int l2), (3, .int l3), (4, .int l4), (5, .int l5), (6, .int l6), (7, .int l7)] dX4_fairs_111 (by decide) rfl ?_
    refine hr_sub [1, 2, 3, 4, 5, 6, 7, 8, 0] rfl ?_
    exact llX4_fairs_113 o k82 hk82 hf_N l1 l2 l3 l4 l5 l6 l7 (0 : Int32) V0
  refine hr_aload_n o 0 dX4_fairs_98 rfl ?_
  refine hr_iload_n o 1 dX4_fairs_99 rfl ?_
  refine hr_iload_n o 3 dX4_fairs_100 rfl ?_
  refine mr_callV o mvX4_501 dX4_fairs_101 [.int l1, .int l3] (fun zV ze => mtX4_drawsHour l1 l3 V0 zV ze) rfl rfl (Nat.le_of_ble_eq_true rfl) ⟨by decide, by decide⟩ (fun V1 => ?_)
  refine hr_iincN o (1 : Int32) 8 (fun y => [(8, .int y), (0, .ref om), (1, .int l1), (2, .int l2), (3, .int l3), (4, .int l4), (5, .int l5), (6, .int l6), (7, .int l7)]) dX4_fairs_104 rfl (by decide) (by decide) (fun y => rfl) (fun x2 => ?_)
  refine hr_goto o 91 dX4_fairs_107 (by decide) ?_
  refine hr_sub [1, 2, 3, 4, 5, 6, 7, 8, 0] rfl ?_
  exact hk91 l1 l2 l3 l4 l5 l6 l7 x2 V1
def lpX4_fairs_91 (k82 : Int32 → Int32 → Int32 → Int32 → Int32 → Int32 → Int32 → hf_V → Option (Int32 × hf_V)) : Nat → Int32 → Int32 → Int32 → Int32 → Int32 → Int32 → Int32 → Int32 → hf_V → Option (Int32 × hf_V)
  | 0 => fun _ _ _ _ _ _ _ _ _ => none
  | n + 1 => fun l1 l2 l3 l4 l5 l6 l7 l8 V0 => ndX4_fairs_91 k82 (lpX4_fairs_91 k82 n) l1 l2 l3 l4 l5 l6 l7 l8 V0
theorem llX4_fairs_91 {C : hf_X} {om : Nat} {b : hf_H} (o : hf_In C cX4_fairs RX4 9 (some .int) 8 190) (k82 : Int32 → Int32 → Int32 → Int32 → Int32 → Int32 → Int32 → hf_V → Option (Int32 × hf_V)) (hk82 : ∀ (l1 : Int32) (l2 : Int32) (l3 : Int32) (l4 : Int32) (l5 : Int32) (l6 : Int32) (l7 : Int32) (V0 : hf_V), hf_J C (hf_dMI om b) (k82 l1 l2 l3 l4 l5 l6 l7 V0) (hf_M om b V0) 82 [(0, .ref om), (1, .int l1), (2, .int l2), (3, .int l3), (4, .int l4), (5, .int l5), (6, .int l6), (7, .int l7)] []) (n : Nat) : ∀ (l1 : Int32) (l2 : Int32) (l3 : Int32) (l4 : Int32) (l5 : Int32) (l6 : Int32) (l7 : Int32) (l8 : Int32) (V0 : hf_V), hf_J C (hf_dMI om b) ((lpX4_fairs_91 k82 n) l1 l2 l3 l4 l5 l6 l7 l8 V0) (hf_M om b V0) 91 [(0, .ref om), (1, .int l1), (2, .int l2), (3, .int l3), (4, .int l4), (5, .int l5), (6, .int l6), (7, .int l7), (8, .int l8)] [] := by
  induction n with
  | zero => exact fun _ _ _ _ _ _ _ _ _ => hr_none
  | succ n ih => exact fun l1 l2 l3 l4 l5 l6 l7 l8 V0 => nlX4_fairs_91 o k82 (lpX4_fairs_91 k82 n) hk82 ih l1 l2 l3 l4 l5 l6 l7 l8 V0
def ndX4_fairs_82 (k82 : Int32 → Int32 → Int32 → Int32 → Int32 → Int32 → Int32 → hf_V → Option (Int32 × hf_V)) (l1 : Int32) (l2 : Int32) (l3 : Int32) (l4 : Int32) (l5 : Int32) (l6 : Int32) (l7 : Int32) (V0 : hf_V) : Option (Int32 × hf_V) :=
  if l2 ≤ l7 then (if l4 = 0 then (some ((V0.1 26), V0)) else
  some (l5, V0)) else
  lpX4_fairs_91 k82 hf_N l1 l2 l3 l4 l5 l6 l7 (0 : Int32) V0
theorem nlX4_fairs_82 {C : hf_X} {om : Nat} {b : hf_H} (o : hf_In C cX4_fairs RX4 9 (some .int) 8 190) (k82 : Int32 → Int32 → Int32 → Int32 → Int32 → Int32 → Int32 → hf_V → Option (Int32 × hf_V)) (hk82 : ∀ (l1 : Int32) (l2 : Int32) (l3 : Int32) (l4 : Int32) (l5 : Int32) (l6 : Int32) (l7 : Int32) (V0 : hf_V), hf_J C (hf_dMI om b) (k82 l1 l2 l3 l4 l5 l6 l7 V0) (hf_M om b V0) 82 [(0, .ref om), (1, .int l1), (2, .int l2), (3, .int l3), (4, .int l4), (5, .int l5), (6, .int l6), (7, .int l7)] []) (l1 : Int32) (l2 : Int32) (l3 : Int32) (l4 : Int32) (l5 : Int32) (l6 : Int32) (l7 : Int32) (V0 : hf_V) : hf_J C (hf_dMI om b) (ndX4_fairs_82 k82 l1 l2 l3 l4 l5 l6 l7 V0) (hf_M om b V0) 82 [(0, .ref om), (1, .int l1), (2, .int l2), (3, .int l3), (4, .int l4), (5, .int l5), (6, .int l6), (7, .int l7)] [] := by
  refine hr_iload o 7 dX4_fairs_82 rfl ?_
  refine hr_iload_n o 2 dX4_fairs_84 rfl ?_
  refine hr_icmp_ge o 156 dX4_fairs_85 (by decide) (fun _ => ?_) (fun _ => ?_)
  · refine hr_iload o 4 dX4_fairs_156 rfl ?_
    refine hr_if_ne o 168 dX4_fairs_158 (by decide) (fun _ => ?_) (fun _ => ?_)
    · refine hr_aload_n o 0 dX4_fairs_161 rfl ?_
      refine mr_get o flX4_404 dX4_fairs_162 (.int (V0.1 26)) rfl ?_
      refine hr_goto o 170 dX4_fairs_165 (by decide) ?_
      exact hr_iret o dX4_fairs_170 rfl rfl
    refine hr_iload o 5 dX4_fairs_168 rfl ?_
    exact hr_iret o dX4_fairs_170 rfl rfl
  refine hr_iconst o (0 : Int32) dX4_fairs_88 (by decide) ?_
  refine hr_istore o [(8, .int (0 : Int32)), (0, .ref om), (1, .int l1), (2, .int l2), (3, .int l3), (4, .int l4), (5, .int l5), (6, .int l6), (7, .int l7)] dX4_fairs_89 (by decide) rfl ?_
  refine hr_sub [1, 2, 3, 4, 5, 6, 7, 8, 0] rfl ?_
  exact llX4_fairs_91 o k82 hk82 hf_N l1 l2 l3 l4 l5 l6 l7 (0 : Int32) V0
def lpX4_fairs_82  : Nat → Int32 → Int32 → Int32 → Int32 → Int32 → Int32 → Int32 → hf_V → Option (Int32 × hf_V)
  | 0 => fun _ _ _ _ _ _ _ _ => none
  | n + 1 => fun l1 l2 l3 l4 l5 l6 l7 V0 => ndX4_fairs_82  (lpX4_fairs_82  n) l1 l2 l3 l4 l5 l6 l7 V0
theorem llX4_fairs_82 {C : hf_X} {om : Nat} {b : hf_H} (o : hf_In C cX4_fairs RX4 9 (some .int) 8 190)   (n : Nat) : ∀ (l1 : Int32) (l2 : Int32) (l3 : Int32) (l4 : Int32) (l5 : Int32) (l6 : Int32) (l7 : Int32) (V0 : hf_V), hf_J C (hf_dMI om b) ((lpX4_fairs_82  n) l1 l2 l3 l4 l5 l6 l7 V0) (hf_M om b V0) 82 [(0, .ref om), (1, .int l1), (2, .int l2), (3, .int l3), (4, .int l4), (5, .int l5), (6, .int l6), (7, .int l7)] [] := by
  induction n with
  | zero => exact fun _ _ _ _ _ _ _ _ => hr_none
  | succ n ih => exact fun l1 l2 l3 l4 l5 l6 l7 V0 => nlX4_fairs_82 o  (lpX4_fairs_82  n)  ih l1 l2 l3 l4 l5 l6 l7 V0
def spX4_fairs (l1 : Int32) (l2 : Int32) (l3 : Int32) (l4 : Int32) (V0 : hf_V) : Option (Int32 × hf_V) :=
  hf_b2 (spX4_isFair V0) fun x2 V1 =>
  if x2 = 0 then (some ((-1 : Int32), V1)) else
  hf_b2 (spX4_isRule l1 V1) fun x4 V3 =>
  if x4 = 0 then (some ((-1 : Int32), V3)) else
  (spX4_in (Int32.toInt64 l2) (1 : Int64) (10 : Int64)).bind fun x5 =>
  if x5 = 0 then (some ((-1 : Int32), V3)) else
  (spX4_in (Int32.toInt64 l3) (0 : Int64) (100 : Int64)).bind fun x6 =>
  if x6 = 0 then (some ((-1 : Int32), V3)) else
  (spX4_in (Int32.toInt64 l4) (0 : Int64) (1 : Int64)).bind fun x7 =>
  if x7 = 0 then (some ((-1 : Int32), V3)) else
  hf_let (hf_ul V3 33 (Int32.toInt64 (V3.1 21))) fun V8 =>
  hf_let (hf_ui V8 26 (0 : Int32)) fun V9 =>
  hf_b2 (spX4_hoursAhead V9) fun x11 V10 =>
  (spX4_keeps V10).bind fun V12 =>
  lpX4_fairs_82 hf_N l1 l2 l3 l4 (0 : Int32) x11 (0 : Int32) V12
theorem jtX4_fairs {C : hf_X} {om : Nat} {b : hf_H} (o : hf_In C cX4_fairs RX4 9 (some .int) 8 190) (l1 : Int32) (l2 : Int32) (l3 : Int32) (l4 : Int32) (V0 : hf_V) : hf_J C (hf_dMI om b) (spX4_fairs l1 l2 l3 l4 V0) (hf_M om b V0) 0 [(0, .ref om), (1, .int l1), (2, .int l2), (3, .int l3), (4, .int l4)] [] := by
  refine hr_aload_n o 0 dX4_fairs_0 rfl ?_
  refine mr_callI o mvX4_329 dX4_fairs_1 [] (fun zr zV ze => mtX4_isFair  V0 zr zV ze) rfl rfl (Nat.le_of_ble_eq_true rfl) ⟨by decide, by decide⟩ (fun x2 V1 => ?_)
  refine hr_if_eq o 50 dX4_fairs_4 (by decide) (fun _ => ?_) (fun _ => ?_)
  · refine hr_iconst o (-1 : Int32) dX4_fairs_50 (by decide) ?_
    exact hr_iret o dX4_fairs_51 rfl rfl
  refine hr_aload_n o 0 dX4_fairs_7 rfl ?_
  refine hr_iload_n o 1 dX4_fairs_8 rfl ?_
  refine mr_callI o mvX4_413 dX4_fairs_9 [.int l1] (fun zr zV ze => mtX4_isRule l1 V1 zr zV ze) rfl rfl (Nat.le_of_ble_eq_true rfl) ⟨by decide, by decide⟩ (fun x4 V3 => ?_)
  refine hr_if_eq o 50 dX4_fairs_12 (by decide) (fun _ => ?_) (fun _ => ?_)
  · refine hr_iconst o (-1 : Int32) dX4_fairs_50 (by decide) ?_
    exact hr_iret o dX4_fairs_51 rfl rfl
  refine hr_iload_n o 2 dX4_fairs_15 rfl ?_
  refine hr_i2l o dX4_fairs_16 ?_
  refine hr_lconst o (1 : Int64) dX4_fairs_17 (by decide) ?_
  refine hr_ldc2 o (10 : Int64) q2012 dX4_fairs_18 ?_
  refine pr_callI o msX4_109 dX4_fairs_21 [.long (Int32.toInt64 l2), .long (1 : Int64), .long (10 : Int64)] (fun zr ze => mtX4_in (Int32.toInt64 l2) (1 : Int64) (10 : Int64) zr ze) rfl rfl (Nat.le_of_ble_eq_true rfl) ⟨by decide, by decide⟩ (fun x5 => ?_)
  refine hr_if_eq o 50 dX4_fairs_24 (by decide) (fun _ => ?_) (fun _ => ?_)
  · refine hr_iconst o (-1 : Int32) dX4_fairs_50 (by decide) ?_
    exact hr_iret o dX4_fairs_51 rfl rfl
  refine hr_iload_n o 3 dX4_fairs_27 rfl ?_
  refine hr_i2l o dX4_fairs_28 ?_
  refine hr_lconst o (0 : Int64) dX4_fairs_29 (by decide) ?_
  refine hr_ldc2 o (100 : Int64) q2013 dX4_fairs_30 ?_
  refine pr_callI o msX4_109 dX4_fairs_33 [.long (Int32.toInt64 l3), .long (0 : Int64), .long (100 : Int64)] (fun zr ze => mtX4_in (Int32.toInt64 l3) (0 : Int64) (100 : Int64) zr ze) rfl rfl (Nat.le_of_ble_eq_true rfl) ⟨by decide, by decide⟩ (fun x6 => ?_)
  refine hr_if_eq o 50 dX4_fairs_36 (by decide) (fun _ => ?_) (fun _ => ?_)
  · refine hr_iconst o (-1 : Int32) dX4_fairs_50 (by decide) ?_
    exact hr_iret o dX4_fairs_51 rfl rfl
  refine hr_iload o 4 dX4_fairs_39 rfl ?_
  refine hr_i2l o dX4_fairs_41 ?_
  refine hr_lconst o (0 : Int64) dX4_fairs_42 (by decide) ?_
  refine hr_lconst o (1 : Int64) dX4_fairs_43 (by decide) ?_
  refine pr_callI o msX4_109 dX4_fairs_44 [.long (Int32.toInt64 l4), .long (0 : Int64), .long (1 : Int64)] (fun zr ze => mtX4_in (Int32.toInt64 l4) (0 : Int64) (1 : Int64) zr ze) rfl rfl (Nat.le_of_ble_eq_true rfl) ⟨by decide, by decide⟩ (fun x7 => ?_)
  refine hr_if_ne o 52 dX4_fairs_47 (by decide) (fun _ => ?_) (fun _ => ?_)
  · refine hr_iconst o (-1 : Int32) dX4_fairs_50 (by decide) ?_
    exact hr_iret o dX4_fairs_51 rfl rfl
  refine hr_aload_n o 0 dX4_fairs_52 rfl ?_
  refine hr_aload_n o 0 dX4_fairs_53 rfl ?_
  refine mr_get o flX4_479 dX4_fairs_54 (.int (V3.1 21)) rfl ?_
  refine hr_i2l o dX4_fairs_57 ?_
  refine mr_putL o flX4_482 dX4_fairs_58 nf_4_33 rfl rfl (fun V8 => ?_)
  refine hr_aload_n o 0 dX4_fairs_61 rfl ?_
  refine hr_iconst o (0 : Int32) dX4_fairs_62 (by decide) ?_
  refine mr_putI o flX4_404 dX4_fairs_63 nf_4_26 rfl rfl (fun V9 => ?_)
  refine hr_iconst o (0 : Int32) dX4_fairs_66 (by decide) ?_
  refine hr_istore o [(5, .int (0 : Int32)), (0, .ref om), (1, .int l1), (2, .int l2), (3, .int l3), (4, .int l4)] dX4_fairs_67 (by decide) rfl ?_
  refine hr_aload_n o 1 dX4_fairs_69 rfl ?_
  refine mr_callI o mvX4_466 dX4_fairs_70 [] (fun zr zV ze => mtX4_hoursAhead  V9 zr zV ze) rfl rfl (Nat.le_of_ble_eq_true rfl) ⟨by decide, by decide⟩ (fun x11 V10 => ?_)
  refine hr_istore o [(6, .int x11), (5, .int (0 : Int32)), (0, .ref om), (1, .int l1), (2, .int l2), (3, .int l3), (4, .int l4)] dX4_fairs_73 (by decide) rfl ?_
  refine hr_aload_n o 2 dX4_fairs_75 rfl ?_
  refine mr_callV o mvX4_469 dX4_fairs_76 [] (fun zV ze => mtX4_keeps  V10 zV ze) rfl rfl (Nat.le_of_ble_eq_true rfl) ⟨by decide, by decide⟩ (fun V12 => ?_)
  refine hr_iconst o (0 : Int32) dX4_fairs_79 (by decide) ?_
  refine hr_istore o [(7, .int (0 : Int32)), (6, .int x11), (5, .int (0 : Int32)), (0, .ref om), (1, .int l1), (2, .int l2), (3, .int l3), (4, .int l4)] dX4_fairs_80 (by decide) rfl ?_
  refine hr_sub [3, 4, 5, 6, 7, 2, 1, 0] rfl ?_
  exact llX4_fairs_82 o hf_N l1 l2 l3 l4 (0 : Int32) x11 (0 : Int32) V12
theorem mtX4_fairs {om : Nat} {b : hf_H} (l1 : Int32) (l2 : Int32) (l3 : Int32) (l4 : Int32) (V0 : hf_V) (r : Int32) (V1 : hf_V) (e : spX4_fairs l1 l2 l3 l4 V0 = some (r, V1)) : hf_Con yX4_fairs cX4_fairs 9 (some .int) 8 190 [.ref om, .int l1, .int l2, .int l3, .int l4] (hf_M om b V0) (.returned (some (.int r)), hf_M om b V1) := hf_entry (dec := hf_dMI om b) (by decide) [.ref om, .int l1, .int l2, .int l3, .int l4] (Nat.le_of_ble_eq_true rfl) [(0, .ref om), (1, .int l1), (2, .int l2), (3, .int l3), (4, .int l4)] rfl e (fun C o _ => jtX4_fairs o l1 l2 l3 l4 V0)

/-! count -/
def ndX4_count_60  (l1 : Int32) (V0 : hf_V) : Option (Int32 × hf_V) :=
  (hf_ld 123 (V0.2.2.2.1 20) l1).bind fun x1 =>
  some (x1, V0)
theorem nlX4_count_60 {C : hf_X} {om : Nat} {b : hf_H} (o : hf_In C cX4_count RX4 2 (some .int) 2 44)   (l1 : Int32) (V0 : hf_V) : hf_J C (hf_dMI om b) (ndX4_count_60 l1 V0) (hf_M om b V0) 60 [(0, .ref om), (1, .int l1)] [] := by
  refine hr_aload_n o 0 dX4_count_60 rfl ?_
  refine mr_get o flX4_39 dX4_count_61 (.ref (om + 10)) rfl ?_
  refine hr_iload_n o 1 dX4_count_64 rfl ?_
  refine mr_iald o 20 10 123 rfl (by decide) rfl dX4_count_65 (fun x1 => ?_)
  exact hr_iret o dX4_count_66 rfl rfl
def spX4_count (l1 : Int32) (V0 : hf_V) : Option (Int32 × hf_V) :=
  if l1 = (0 : Int32) then (ndX4_count_60 l1 V0) else
  if l1 = (1 : Int32) then (ndX4_count_60 l1 V0) else
  if l1 = (2 : Int32) then (ndX4_count_60 l1 V0) else
  if l1 = (3 : Int32) then (some ((V0.1 2), V0)) else
  if l1 = (4 : Int32) then ((hf_ld 123 (V0.2.2.2.1 20) (3 : Int32)).bind fun x1 =>
  some (x1, V0)) else
  if l1 = (5 : Int32) then (hf_b2 (spX4_isFair V0) fun x3 V2 =>
  if x3 = 0 then (some ((-1 : Int32), V2)) else
  hf_b2 (spX4_isDusk V2) fun x5 V4 =>
  if x5 = 0 then ((hf_ld 123 (V4.2.2.2.1 20) (6 : Int32)).bind fun x6 =>
  (hf_ld 123 (V4.2.2.2.1 20) (3 : Int32)).bind fun x7 =>
  some ((x6 - x7), V4)) else
  some ((0 : Int32), V4)) else
  if l1 = (6 : Int32) then (hf_b2 (spX4_atStalls V0) fun x9 V8 =>
  (spX4_bits x9).bind fun x10 =>
  some (x10, V8)) else
  if l1 = (7 : Int32) then ((hf_ld 123 (V0.2.2.2.1 20) (122 : Int32)).bind fun x11 =>
  some (x11, V0)) else
  if l1 = (8 : Int32) then (some ((V0.1 25), V0)) else
  if l1 = (9 : Int32) then (some ((V0.1 21), V0)) else
  if l1 = (10 : Int32) then (some ((V0.1 1), V0)) else
  some ((-1 : Int32), V0)
theorem jtX4_count {C : hf_X} {om : Nat} {b : hf_H} (o : hf_In C cX4_count RX4 2 (some .int) 2 44) (l1 : Int32) (V0 : hf_V) : hf_J C (hf_dMI om b) (spX4_count l1 V0) (hf_M om b V0) 0 [(0, .ref om), (1, .int l1)] [] := by
  refine hr_iload_n o 1 dX4_count_0 rfl ?_
  refine hr_tsw o (0 : Int32) 60 dX4_count_1 (by decide) (by decide) rfl (by decide) (fun c_1_0 => ?_) (fun c_1_0 => ?_)
  · exact nlX4_count_60 o l1 V0
  refine hr_tsw o (1 : Int32) 60 dX4_count_1 (by decide) (by decide) rfl (by decide) (fun c_1_1 => ?_) (fun c_1_1 => ?_)
  · exact nlX4_count_60 o l1 V0
  refine hr_tsw o (2 : Int32) 60 dX4_count_1 (by decide) (by decide) rfl (by decide) (fun c_1_2 => ?_) (fun c_1_2 => ?_)
  · exact nlX4_count_60 o l1 V0
  refine hr_tsw o (3 : Int32) 67 dX4_count_1 (by decide) (by decide) rfl (by decide) (fun c_1_3 => ?_) (fun c_1_3 => ?_)
  · refine hr_aload_n o 0 dX4_count_67 rfl ?_
    refine mr_get o flX4_268 dX4_count_68 (.int (V0.1 2)) rfl ?_
    exact hr_iret o dX4_count_71 rfl rfl
  refine hr_tsw o (4 : Int32) 72 dX4_count_1 (by decide) (by decide) rfl (by decide) (fun c_1_4 => ?_) (fun c_1_4 => ?_)
  · refine hr_aload_n o 0 dX4_count_72 rfl ?_
    refine mr_get o flX4_39 dX4_count_73 (.ref (om + 10)) rfl ?_
    refine hr_iconst o (3 : Int32) dX4_count_76 (by decide) ?_
    refine mr_iald o 20 10 123 rfl (by decide) rfl dX4_count_77 (fun x1 => ?_)
    exact hr_iret o dX4_count_78 rfl rfl
  refine hr_tsw o (5 : Int32) 79 dX4_count_1 (by decide) (by decide) rfl (by decide) (fun c_1_5 => ?_) (fun c_1_5 => ?_)
  · refine hr_aload_n o 0 dX4_count_79 rfl ?_
    refine mr_callI o mvX4_329 dX4_count_80 [] (fun zr zV ze => mtX4_isFair  V0 zr zV ze) rfl rfl (Nat.le_of_ble_eq_true rfl) ⟨by decide, by decide⟩ (fun x3 V2 => ?_)
    refine hr_if_ne o 90 dX4_count_83 (by decide) (fun _ => ?_) (fun _ => ?_)
    · refine hr_iconst o (-1 : Int32) dX4_count_86 (by decide) ?_
      refine hr_goto o 115 dX4_count_87 (by decide) ?_
      exact hr_iret o dX4_count_115 rfl rfl
    refine hr_aload_n o 0 dX4_count_90 rfl ?_
    refine mr_callI o mvX4_298 dX4_count_91 [] (fun zr zV ze => mtX4_isDusk  V2 zr zV ze) rfl rfl (Nat.le_of_ble_eq_true rfl) ⟨by decide, by decide⟩ (fun x5 V4 => ?_)
    refine hr_if_eq o 101 dX4_count_94 (by decide) (fun _ => ?_) (fun _ => ?_)
    · refine hr_aload_n o 0 dX4_count_101 rfl ?_
      refine mr_get o flX4_39 dX4_count_102 (.ref (om + 10)) rfl ?_
      refine hr_bipush o (6 : Int32) dX4_count_105 (by decide) ?_
      refine mr_iald o 20 10 123 rfl (by decide) rfl dX4_count_107 (fun x6 => ?_)
      refine hr_aload_n o 0 dX4_count_108 rfl ?_
      refine mr_get o flX4_39 dX4_count_109 (.ref (om + 10)) rfl ?_
      refine hr_iconst o (3 : Int32) dX4_count_112 (by decide) ?_
      refine mr_iald o 20 10 123 rfl (by decide) rfl dX4_count_113 (fun x7 => ?_)
      refine hr_isub o dX4_count_114 ?_
      exact hr_iret o dX4_count_115 rfl rfl
    refine hr_iconst o (0 : Int32) dX4_count_97 (by decide) ?_
    refine hr_goto o 115 dX4_count_98 (by decide) ?_
    exact hr_iret o dX4_count_115 rfl rfl
  refine hr_tsw o (6 : Int32) 116 dX4_count_1 (by decide) (by decide) rfl (by decide) (fun c_1_6 => ?_) (fun c_1_6 => ?_)
  · refine hr_aload_n o 0 dX4_count_116 rfl ?_
    refine mr_callI o mvX4_387 dX4_count_117 [] (fun zr zV ze => mtX4_atStalls  V0 zr zV ze) rfl rfl (Nat.le_of_ble_eq_true rfl) ⟨by decide, by decide⟩ (fun x9 V8 => ?_)
    refine pr_callI o msX4_374 dX4_count_120 [.int x9] (fun zr ze => mtX4_bits x9 zr ze) rfl rfl (Nat.le_of_ble_eq_true rfl) ⟨by decide, by decide⟩ (fun x10 => ?_)
    exact hr_iret o dX4_count_123 rfl rfl
  refine hr_tsw o (7 : Int32) 124 dX4_count_1 (by decide) (by decide) rfl (by decide) (fun c_1_7 => ?_) (fun c_1_7 => ?_)
  · refine hr_aload_n o 0 dX4_count_124 rfl ?_
    refine mr_get o flX4_39 dX4_count_125 (.ref (om + 10)) rfl ?_
    refine hr_bipush o (122 : Int32) dX4_count_128 (by decide) ?_
    refine mr_iald o 20 10 123 rfl (by decide) rfl dX4_count_130 (fun x11 => ?_)
    exact hr_iret o dX4_count_131 rfl rfl
  refine hr_tsw o (8 : Int32) 132 dX4_count_1 (by decide) (by decide) rfl (by decide) (fun c_1_8 => ?_) (fun c_1_8 => ?_)
  · refine hr_aload_n o 0 dX4_count_132 rfl ?_
    refine mr_get o flX4_274 dX4_count_133 (.int (V0.1 25)) rfl ?_
    exact hr_iret o dX4_count_136 rfl rfl
  refine hr_tsw o (9 : Int32) 137 dX4_count_1 (by decide) (by decide) rfl (by decide) (fun c_1_9 => ?_) (fun c_1_9 => ?_)
  · refine hr_aload_n o 0 dX4_count_137 rfl ?_
    refine mr_get o flX4_479 dX4_count_138 (.int (V0.1 21)) rfl ?_
    exact hr_iret o dX4_count_141 rfl rfl
  refine hr_tsw o (10 : Int32) 142 dX4_count_1 (by decide) (by decide) rfl (by decide) (fun c_1_10 => ?_) (fun c_1_10 => ?_)
  · refine hr_aload_n o 0 dX4_count_142 rfl ?_
    refine mr_get o flX4_70 dX4_count_143 (.int (V0.1 1)) rfl ?_
    exact hr_iret o dX4_count_146 rfl rfl
  refine hr_tswD o 147 dX4_count_1 (by have n0 := hf_nei (0) (by decide) c_1_0; have n1 := hf_nei (1) (by decide) c_1_1; have n2 := hf_nei (2) (by decide) c_1_2; have n3 := hf_nei (3) (by decide) c_1_3; have n4 := hf_nei (4) (by decide) c_1_4; have n5 := hf_nei (5) (by decide) c_1_5; have n6 := hf_nei (6) (by decide) c_1_6; have n7 := hf_nei (7) (by decide) c_1_7; have n8 := hf_nei (8) (by decide) c_1_8; have n9 := hf_nei (9) (by decide) c_1_9; have n10 := hf_nei (10) (by decide) c_1_10; omega) (by decide) ?_
  refine hr_iconst o (-1 : Int32) dX4_count_147 (by decide) ?_
  exact hr_iret o dX4_count_148 rfl rfl
theorem mtX4_count {om : Nat} {b : hf_H} (l1 : Int32) (V0 : hf_V) (r : Int32) (V1 : hf_V) (e : spX4_count l1 V0 = some (r, V1)) : hf_Con yX4_count cX4_count 2 (some .int) 2 44 [.ref om, .int l1] (hf_M om b V0) (.returned (some (.int r)), hf_M om b V1) := hf_entry (dec := hf_dMI om b) (by decide) [.ref om, .int l1] (Nat.le_of_ble_eq_true rfl) [(0, .ref om), (1, .int l1)] rfl e (fun C o _ => jtX4_count o l1 V0)

/-! image -/
theorem flX4_60 : hf_Fl RX4 60 4 34 := ⟨(RX4, TX4, 37), RX4, rfl, by decide, in_X4, tyX4_ok, nmX4, Or.inl q1434, Or.inl rfl⟩
theorem flX4_66 : hf_Fl RX4 66 4 36 := ⟨(RX4, TX4, 37), RX4, rfl, by decide, in_X4, tyX4_ok, nmX4, Or.inl q1436, Or.inl rfl⟩
theorem flX4_63 : hf_Fl RX4 63 4 35 := ⟨(RX4, TX4, 37), RX4, rfl, by decide, in_X4, tyX4_ok, nmX4, Or.inl q1435, Or.inl rfl⟩
def ndX4_image_33 (k33 : Int32 → Int32 → hf_V → Option (Int32 × hf_V)) (l1 : Int32) (l2 : Int32) (V0 : hf_V) : Option (Int32 × hf_V) :=
  if (123 : Int32) ≤ l2 then ((hf_ld 123 (V0.2.2.2.1 20) (3 : Int32)).bind fun x1 =>
  some (x1, V0)) else
  (hf_ld 123 (V0.2.2.2.1 20) l2).bind fun x2 =>
  hf_sd 492 (((123 : Int32) * l1) + l2) (fun j => hf_ua V0 34 j x2) fun V3 =>
  hf_let (l2 + (1 : Int32)) fun x4 =>
  k33 l1 x4 V3
theorem nlX4_image_33 {C : hf_X} {om : Nat} {b : hf_H} (o : hf_In C cX4_image RX4 3 (some .int) 1 25) (k33 : Int32 → Int32 → hf_V → Option (Int32 × hf_V)) (hk33 : ∀ (l1 : Int32) (l2 : Int32) (V0 : hf_V), hf_J C (hf_dMI om b) (k33 l1 l2 V0) (hf_M om b V0) 33 [(0, .ref om), (1, .int l1), (2, .int l2)] []) (l1 : Int32) (l2 : Int32) (V0 : hf_V) : hf_J C (hf_dMI om b) (ndX4_image_33 k33 l1 l2 V0) (hf_M om b V0) 33 [(0, .ref om), (1, .int l1), (2, .int l2)] [] := by
  refine hr_iload_n o 2 dX4_image_33 rfl ?_
  refine hr_bipush o (123 : Int32) dX4_image_34 (by decide) ?_
  refine hr_icmp_ge o 62 dX4_image_36 (by decide) (fun _ => ?_) (fun _ => ?_)
  · refine hr_aload_n o 0 dX4_image_62 rfl ?_
    refine mr_get o flX4_39 dX4_image_63 (.ref (om + 10)) rfl ?_
    refine hr_iconst o (3 : Int32) dX4_image_66 (by decide) ?_
    refine mr_iald o 20 10 123 rfl (by decide) rfl dX4_image_67 (fun x1 => ?_)
    exact hr_iret o dX4_image_68 rfl rfl
  refine hr_aload_n o 0 dX4_image_39 rfl ?_
  refine mr_get o flX4_60 dX4_image_40 (.ref (om + 17)) rfl ?_
  refine hr_bipush o (123 : Int32) dX4_image_43 (by decide) ?_
  refine hr_iload_n o 1 dX4_image_45 rfl ?_
  refine hr_imul o dX4_image_46 ?_
  refine hr_iload_n o 2 dX4_image_47 rfl ?_
  refine hr_iadd o dX4_image_48 ?_
  refine hr_aload_n o 0 dX4_image_49 rfl ?_
  refine mr_get o flX4_39 dX4_image_50 (.ref (om + 10)) rfl ?_
  refine hr_iload_n o 2 dX4_image_53 rfl ?_
  refine mr_iald o 20 10 123 rfl (by decide) rfl dX4_image_54 (fun x2 => ?_)
  refine mr_iast o 34 17 492 rfl (by decide) rfl dX4_image_55 (fun V3 => ?_)
  refine hr_iincN o (1 : Int32) 2 (fun y => [(2, .int y), (0, .ref om), (1, .int l1)]) dX4_image_56 rfl (by decide) (by decide) (fun y => rfl) (fun x4 => ?_)
  refine hr_goto o 33 dX4_image_59 (by decide) ?_
  refine hr_sub [1, 2, 0] rfl ?_
  exact hk33 l1 x4 V3
def lpX4_image_33  : Nat → Int32 → Int32 → hf_V → Option (Int32 × hf_V)
  | 0 => fun _ _ _ => none
  | n + 1 => fun l1 l2 V0 => ndX4_image_33  (lpX4_image_33  n) l1 l2 V0
theorem llX4_image_33 {C : hf_X} {om : Nat} {b : hf_H} (o : hf_In C cX4_image RX4 3 (some .int) 1 25)   (n : Nat) : ∀ (l1 : Int32) (l2 : Int32) (V0 : hf_V), hf_J C (hf_dMI om b) ((lpX4_image_33  n) l1 l2 V0) (hf_M om b V0) 33 [(0, .ref om), (1, .int l1), (2, .int l2)] [] := by
  induction n with
  | zero => exact fun _ _ _ => hr_none
  | succ n ih => exact fun l1 l2 V0 => nlX4_image_33 o  (lpX4_image_33  n)  ih l1 l2 V0
def spX4_image (l1 : Int32) (V0 : hf_V) : Option (Int32 × hf_V) :=
  (spX4_in (Int32.toInt64 l1) (0 : Int64) (3 : Int64)).bind fun x1 =>
  if x1 = 0 then (some ((-1 : Int32), V0)) else
  hf_sd 4 l1 (fun j => hf_ua V0 36 j (vp_nar .boolean (1 : Int32))) fun V2 =>
  hf_sd 4 l1 (fun j => hf_ua V2 35 j (V2.1 21)) fun V3 =>
  lpX4_image_33 hf_N l1 (0 : Int32) V3
theorem jtX4_image {C : hf_X} {om : Nat} {b : hf_H} (o : hf_In C cX4_image RX4 3 (some .int) 1 25) (l1 : Int32) (V0 : hf_V) : hf_J C (hf_dMI om b) (spX4_image l1 V0) (hf_M om b V0) 0 [(0, .ref om), (1, .int l1)] [] := by
  refine hr_iload_n o 1 dX4_image_0 rfl ?_
  refine hr_i2l o dX4_image_1 ?_
  refine hr_lconst o (0 : Int64) dX4_image_2 (by decide) ?_
  refine hr_ldc2 o (3 : Int64) q2034 dX4_image_3 ?_
  refine pr_callI o msX4_109 dX4_image_6 [.long (Int32.toInt64 l1), .long (0 : Int64), .long (3 : Int64)] (fun zr ze => mtX4_in (Int32.toInt64 l1) (0 : Int64) (3 : Int64) zr ze) rfl rfl (Nat.le_of_ble_eq_true rfl) ⟨by decide, by decide⟩ (fun x1 => ?_)
  refine hr_if_ne o 14 dX4_image_9 (by decide) (fun _ => ?_) (fun _ => ?_)
  · refine hr_iconst o (-1 : Int32) dX4_image_12 (by decide) ?_
    exact hr_iret o dX4_image_13 rfl rfl
  refine hr_aload_n o 0 dX4_image_14 rfl ?_
  refine mr_get o flX4_66 dX4_image_15 (.ref (om + 19)) rfl ?_
  refine hr_iload_n o 1 dX4_image_18 rfl ?_
  refine hr_iconst o (1 : Int32) dX4_image_19 (by decide) ?_
  refine mr_zast o 36 19 4 rfl (by decide) rfl dX4_image_20 (fun V2 => ?_)
  refine hr_aload_n o 0 dX4_image_21 rfl ?_
  refine mr_get o flX4_63 dX4_image_22 (.ref (om + 18)) rfl ?_
  refine hr_iload_n o 1 dX4_image_25 rfl ?_
  refine hr_aload_n o 0 dX4_image_26 rfl ?_
  refine mr_get o flX4_479 dX4_image_27 (.int (V2.1 21)) rfl ?_
  refine mr_iast o 35 18 4 rfl (by decide) rfl dX4_image_30 (fun V3 => ?_)
  refine hr_iconst o (0 : Int32) dX4_image_31 (by decide) ?_
  refine hr_istore_n o [(2, .int (0 : Int32)), (0, .ref om), (1, .int l1)] dX4_image_32 (by decide) rfl ?_
  refine hr_sub [1, 2, 0] rfl ?_
  exact llX4_image_33 o hf_N l1 (0 : Int32) V3
theorem mtX4_image {om : Nat} {b : hf_H} (l1 : Int32) (V0 : hf_V) (r : Int32) (V1 : hf_V) (e : spX4_image l1 V0 = some (r, V1)) : hf_Con yX4_image cX4_image 3 (some .int) 1 25 [.ref om, .int l1] (hf_M om b V0) (.returned (some (.int r)), hf_M om b V1) := hf_entry (dec := hf_dMI om b) (by decide) [.ref om, .int l1] (Nat.le_of_ble_eq_true rfl) [(0, .ref om), (1, .int l1)] rfl e (fun C o _ => jtX4_image o l1 V0)

/-! back -/
def ndX4_back_40 (k40 : Int32 → Int32 → hf_V → Option (Int32 × hf_V)) (l1 : Int32) (l2 : Int32) (V0 : hf_V) : Option (Int32 × hf_V) :=
  if (123 : Int32) ≤ l2 then ((spX4_fillsWorth V0).bind fun V1 =>
  (hf_ld 123 (V1.2.2.2.1 20) (3 : Int32)).bind fun x2 =>
  some (x2, V1)) else
  (hf_ld 492 (V0.2.2.2.1 34) (((123 : Int32) * l1) + l2)).bind fun x3 =>
  hf_sd 123 l2 (fun j => hf_ua V0 20 j x3) fun V4 =>
  hf_let (l2 + (1 : Int32)) fun x5 =>
  k40 l1 x5 V4
theorem nlX4_back_40 {C : hf_X} {om : Nat} {b : hf_H} (o : hf_In C cX4_back RX4 3 (some .int) 4 93) (k40 : Int32 → Int32 → hf_V → Option (Int32 × hf_V)) (hk40 : ∀ (l1 : Int32) (l2 : Int32) (V0 : hf_V), hf_J C (hf_dMI om b) (k40 l1 l2 V0) (hf_M om b V0) 40 [(0, .ref om), (1, .int l1), (2, .int l2)] []) (l1 : Int32) (l2 : Int32) (V0 : hf_V) : hf_J C (hf_dMI om b) (ndX4_back_40 k40 l1 l2 V0) (hf_M om b V0) 40 [(0, .ref om), (1, .int l1), (2, .int l2)] [] := by
  refine hr_iload_n o 2 dX4_back_40 rfl ?_
  refine hr_bipush o (123 : Int32) dX4_back_41 (by decide) ?_
  refine hr_icmp_ge o 69 dX4_back_43 (by decide) (fun _ => ?_) (fun _ => ?_)
  · refine hr_aload_n o 0 dX4_back_69 rfl ?_
    refine mr_callV o mvX4_280 dX4_back_70 [] (fun zV ze => mtX4_fillsWorth  V0 zV ze) rfl rfl (Nat.le_of_ble_eq_true rfl) ⟨by decide, by decide⟩ (fun V1 => ?_)
    refine hr_aload_n o 0 dX4_back_73 rfl ?_
    refine mr_get o flX4_39 dX4_back_74 (.ref (om + 10)) rfl ?_
    refine hr_iconst o (3 : Int32) dX4_back_77 (by decide) ?_
    refine mr_iald o 20 10 123 rfl (by decide) rfl dX4_back_78 (fun x2 => ?_)
    exact hr_iret o dX4_back_79 rfl rfl
  refine hr_aload_n o 0 dX4_back_46 rfl ?_
  refine mr_get o flX4_39 dX4_back_47 (.ref (om + 10)) rfl ?_
  refine hr_iload_n o 2 dX4_back_50 rfl ?_
  refine hr_aload_n o 0 dX4_back_51 rfl ?_
  refine mr_get o flX4_60 dX4_back_52 (.ref (om + 17)) rfl ?_
  refine hr_bipush o (123 : Int32) dX4_back_55 (by decide) ?_
  refine hr_iload_n o 1 dX4_back_57 rfl ?_
  refine hr_imul o dX4_back_58 ?_
  refine hr_iload_n o 2 dX4_back_59 rfl ?_
  refine hr_iadd o dX4_back_60 ?_
  refine mr_iald o 34 17 492 rfl (by decide) rfl dX4_back_61 (fun x3 => ?_)
  refine mr_iast o 20 10 123 rfl (by decide) rfl dX4_back_62 (fun V4 => ?_)
  refine hr_iincN o (1 : Int32) 2 (fun y => [(2, .int y), (0, .ref om), (1, .int l1)]) dX4_back_63 rfl (by decide) (by decide) (fun y => rfl) (fun x5 => ?_)
  refine hr_goto o 40 dX4_back_66 (by decide) ?_
  refine hr_sub [1, 2, 0] rfl ?_
  exact hk40 l1 x5 V4
def lpX4_back_40  : Nat → Int32 → Int32 → hf_V → Option (Int32 × hf_V)
  | 0 => fun _ _ _ => none
  | n + 1 => fun l1 l2 V0 => ndX4_back_40  (lpX4_back_40  n) l1 l2 V0
theorem llX4_back_40 {C : hf_X} {om : Nat} {b : hf_H} (o : hf_In C cX4_back RX4 3 (some .int) 4 93)   (n : Nat) : ∀ (l1 : Int32) (l2 : Int32) (V0 : hf_V), hf_J C (hf_dMI om b) ((lpX4_back_40  n) l1 l2 V0) (hf_M om b V0) 40 [(0, .ref om), (1, .int l1), (2, .int l2)] [] := by
  induction n with
  | zero => exact fun _ _ _ => hr_none
  | succ n ih => exact fun l1 l2 V0 => nlX4_back_40 o  (lpX4_back_40  n)  ih l1 l2 V0
def spX4_back (l1 : Int32) (V0 : hf_V) : Option (Int32 × hf_V) :=
  (spX4_in (Int32.toInt64 l1) (0 : Int64) (3 : Int64)).bind fun x1 =>
  if x1 = 0 then (some ((-1 : Int32), V0)) else
  (hf_ld 4 (V0.2.2.2.1 36) l1).bind fun x2 =>
  if x2 = 0 then (some ((-1 : Int32), V0)) else
  (hf_ld 4 (V0.2.2.2.1 35) l1).bind fun x3 =>
  hf_let (hf_ui V0 21 x3) fun V4 =>
  hf_let (hf_ui V4 25 (0 : Int32)) fun V5 =>
  lpX4_back_40 hf_N l1 (0 : Int32) V5
theorem jtX4_back {C : hf_X} {om : Nat} {b : hf_H} (o : hf_In C cX4_back RX4 3 (some .int) 4 93) (l1 : Int32) (V0 : hf_V) : hf_J C (hf_dMI om b) (spX4_back l1 V0) (hf_M om b V0) 0 [(0, .ref om), (1, .int l1)] [] := by
  refine hr_iload_n o 1 dX4_back_0 rfl ?_
  refine hr_i2l o dX4_back_1 ?_
  refine hr_lconst o (0 : Int64) dX4_back_2 (by decide) ?_
  refine hr_ldc2 o (3 : Int64) q2034 dX4_back_3 ?_
  refine pr_callI o msX4_109 dX4_back_6 [.long (Int32.toInt64 l1), .long (0 : Int64), .long (3 : Int64)] (fun zr ze => mtX4_in (Int32.toInt64 l1) (0 : Int64) (3 : Int64) zr ze) rfl rfl (Nat.le_of_ble_eq_true rfl) ⟨by decide, by decide⟩ (fun x1 => ?_)
  refine hr_if_eq o 21 dX4_back_9 (by decide) (fun _ => ?_) (fun _ => ?_)
  · refine hr_iconst o (-1 : Int32) dX4_back_21 (by decide) ?_
    exact hr_iret o dX4_back_22 rfl rfl
  refine hr_aload_n o 0 dX4_back_12 rfl ?_
  refine mr_get o flX4_66 dX4_back_13 (.ref (om + 19)) rfl ?_
  refine hr_iload_n o 1 dX4_back_16 rfl ?_
  refine mr_zald o 36 19 4 rfl (by decide) rfl dX4_back_17 (fun x2 => ?_)
  refine hr_if_ne o 23 dX4_back_18 (by decide) (fun _ => ?_) (fun _ => ?_)
  · refine hr_iconst o (-1 : Int32) dX4_back_21 (by decide) ?_
    exact hr_iret o dX4_back_22 rfl rfl
  refine hr_aload_n o 0 dX4_back_23 rfl ?_
  refine hr_aload_n o 0 dX4_back_24 rfl ?_
  refine mr_get o flX4_63 dX4_back_25 (.ref (om + 18)) rfl ?_
  refine hr_iload_n o 1 dX4_back_28 rfl ?_
  refine mr_iald o 35 18 4 rfl (by decide) rfl dX4_back_29 (fun x3 => ?_)
  refine mr_putI o flX4_479 dX4_back_30 nf_4_21 rfl rfl (fun V4 => ?_)
  refine hr_aload_n o 0 dX4_back_33 rfl ?_
  refine hr_iconst o (0 : Int32) dX4_back_34 (by decide) ?_
  refine mr_putI o flX4_274 dX4_back_35 nf_4_25 rfl rfl (fun V5 => ?_)
  refine hr_iconst o (0 : Int32) dX4_back_38 (by decide) ?_
  refine hr_istore_n o [(2, .int (0 : Int32)), (0, .ref om), (1, .int l1)] dX4_back_39 (by decide) rfl ?_
  refine hr_sub [1, 2, 0] rfl ?_
  exact llX4_back_40 o hf_N l1 (0 : Int32) V5
theorem mtX4_back {om : Nat} {b : hf_H} (l1 : Int32) (V0 : hf_V) (r : Int32) (V1 : hf_V) (e : spX4_back l1 V0 = some (r, V1)) : hf_Con yX4_back cX4_back 3 (some .int) 4 93 [.ref om, .int l1] (hf_M om b V0) (.returned (some (.int r)), hf_M om b V1) := hf_entry (dec := hf_dMI om b) (by decide) [.ref om, .int l1] (Nat.le_of_ble_eq_true rfl) [(0, .ref om), (1, .int l1)] rfl e (fun C o _ => jtX4_back o l1 V0)
