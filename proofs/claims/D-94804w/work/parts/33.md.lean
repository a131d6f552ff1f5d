set_option maxRecDepth 100000
set_option maxHeartbeats 4000000
/-! run -/
theorem mvX4_418 : hf_MV RX4 418 RX4 yX4_passes cX4_passes 3 (none) 1 := ⟨lw_V q1866 q1868 qs125 q162 q1869, by decide +kernel⟩
theorem mvX4_413 : hf_MV RX4 413 RX4 yX4_isRule cX4_isRule 2 (some .boolean) 1 := ⟨lw_V q1861 q1863 qs124 q162 q1864, by decide +kernel⟩
def ndX4_run_49 (k49 : Int32 → Int32 → Int32 → hf_V → Option (Int32 × hf_V)) (l1 : Int32) (l2 : Int32) (l3 : Int32) (V0 : hf_V) : Option (Int32 × hf_V) :=
  if l2 ≤ l3 then ((hf_ld 123 (V0.2.2.2.1 20) (3 : Int32)).bind fun x1 =>
  some (x1, V0)) else
  (spX4_passes l1 V0).bind fun V2 =>
  hf_let (l3 + (1 : Int32)) fun x3 =>
  k49 l1 l2 x3 V2
theorem nlX4_run_49 {C : hf_X} {om : Nat} {b : hf_H} (o : hf_In C cX4_run RX4 4 (some .int) 8 187) (k49 : Int32 → Int32 → Int32 → hf_V → Option (Int32 × hf_V)) (hk49 : ∀ (l1 : Int32) (l2 : Int32) (l3 : Int32) (V0 : hf_V), hf_J C (hf_dMI om b) (k49 l1 l2 l3 V0) (hf_M om b V0) 49 [(0, .ref om), (1, .int l1), (2, .int l2), (3, .int l3)] []) (l1 : Int32) (l2 : Int32) (l3 : Int32) (V0 : hf_V) : hf_J C (hf_dMI om b) (ndX4_run_49 k49 l1 l2 l3 V0) (hf_M om b V0) 49 [(0, .ref om), (1, .int l1), (2, .int l2), (3, .int l3)] [] := by
  refine hr_iload_n o 3 dX4_run_49 rfl ?_
  refine hr_iload_n o 2 dX4_run_50 rfl ?_
  refine hr_icmp_ge o 65 dX4_run_51 (by decide) (fun _ => ?_) (fun _ => ?_)
  · refine hr_aload_n o 0 dX4_run_65 rfl ?_
    refine mr_get o flX4_39 dX4_run_66 (.ref (om + 10)) rfl ?_
    refine hr_iconst o (3 : Int32) dX4_run_69 (by decide) ?_
    refine mr_iald o 20 10 123 rfl (by decide) rfl dX4_run_70 (fun x1 => ?_)
    exact hr_iret o dX4_run_71 rfl rfl
  refine hr_aload_n o 0 dX4_run_54 rfl ?_
  refine hr_iload_n o 1 dX4_run_55 rfl ?_
  refine mr_callV o mvX4_418 dX4_run_56 [.int l1] (fun zV ze => mtX4_passes l1 V0 zV ze) rfl rfl (Nat.le_of_ble_eq_true rfl) ⟨by decide, by decide⟩ (fun V2 => ?_)
  refine hr_iincN o (1 : Int32) 3 (fun y => [(3, .int y), (0, .ref om), (1, .int l1), (2, .int l2)]) dX4_run_59 rfl (by decide) (by decide) (fun y => rfl) (fun x3 => ?_)
  refine hr_goto o 49 dX4_run_62 (by decide) ?_
  refine hr_sub [1, 2, 3, 0] rfl ?_
  exact hk49 l1 l2 x3 V2
def lpX4_run_49  : Nat → Int32 → Int32 → Int32 → hf_V → Option (Int32 × hf_V)
  | 0 => fun _ _ _ _ => none
  | n + 1 => fun l1 l2 l3 V0 => ndX4_run_49  (lpX4_run_49  n) l1 l2 l3 V0
theorem llX4_run_49 {C : hf_X} {om : Nat} {b : hf_H} (o : hf_In C cX4_run RX4 4 (some .int) 8 187)   (n : Nat) : ∀ (l1 : Int32) (l2 : Int32) (l3 : Int32) (V0 : hf_V), hf_J C (hf_dMI om b) ((lpX4_run_49  n) l1 l2 l3 V0) (hf_M om b V0) 49 [(0, .ref om), (1, .int l1), (2, .int l2), (3, .int l3)] [] := by
  induction n with
  | zero => exact fun _ _ _ _ => hr_none
  | succ n ih => exact fun l1 l2 l3 V0 => nlX4_run_49 o  (lpX4_run_49  n)  ih l1 l2 l3 V0
def spX4_run (l1 : Int32) (l2 : Int32) (V0 : hf_V) : Option (Int32 × hf_V) :=
  hf_b2 (spX4_isFair V0) fun x2 V1 =>
  if x2 = 0 then (some ((-1 : Int32), V1)) else
  hf_b2 (spX4_isRule l1 V1) fun x4 V3 =>
  if x4 = 0 then (some ((-1 : Int32), V3)) else
  (spX4_in (Int32.toInt64 l2) (1 : Int64) (48 : Int64)).bind fun x5 =>
  if x5 = 0 then (some ((-1 : Int32), V3)) else
  (hf_ld 123 (V3.2.2.2.1 20) (3 : Int32)).bind fun x6 =>
  if (x6 + l2) ≤ (99 : Int32) then (hf_let (hf_ui V3 25 (0 : Int32)) fun V7 =>
  lpX4_run_49 hf_N l1 l2 (0 : Int32) V7) else
  some ((-1 : Int32), V3)
theorem jtX4_run {C : hf_X} {om : Nat} {b : hf_H} (o : hf_In C cX4_run RX4 4 (some .int) 8 187) (l1 : Int32) (l2 : Int32) (V0 : hf_V) : hf_J C (hf_dMI om b) (spX4_run l1 l2 V0) (hf_M om b V0) 0 [(0, .ref om), (1, .int l1), (2, .int l2)] [] := by
  refine hr_aload_n o 0 dX4_run_0 rfl ?_
  refine mr_callI o mvX4_329 dX4_run_1 [] (fun zr zV ze => mtX4_isFair  V0 zr zV ze) rfl rfl (Nat.le_of_ble_eq_true rfl) ⟨by decide, by decide⟩ (fun x2 V1 => ?_)
  refine hr_if_eq o 40 dX4_run_4 (by decide) (fun _ => ?_) (fun _ => ?_)
  · refine hr_iconst o (-1 : Int32) dX4_run_40 (by decide) ?_
    exact hr_iret o dX4_run_41 rfl rfl
  refine hr_aload_n o 0 dX4_run_7 rfl ?_
  refine hr_iload_n o 1 dX4_run_8 rfl ?_
  refine mr_callI o mvX4_413 dX4_run_9 [.int l1] (fun zr zV ze => mtX4_isRule l1 V1 zr zV ze) rfl rfl (Nat.le_of_ble_eq_true rfl) ⟨by decide, by decide⟩ (fun x4 V3 => ?_)
  refine hr_if_eq o 40 dX4_run_12 (by decide) (fun _ => ?_) (fun _ => ?_)
  · refine hr_iconst o (-1 : Int32) dX4_run_40 (by decide) ?_
    exact hr_iret o dX4_run_41 rfl rfl
  refine hr_iload_n o 2 dX4_run_15 rfl ?_
  refine hr_i2l o dX4_run_16 ?_
  refine hr_lconst o (1 : Int64) dX4_run_17 (by decide) ?_
  refine hr_ldc2 o (48 : Int64) q1865 dX4_run_18 ?_
  refine pr_callI o msX4_109 dX4_run_21 [.long (Int32.toInt64 l2), .long (1 : Int64), .long (48 : Int64)] (fun zr ze => mtX4_in (Int32.toInt64 l2) (1 : Int64) (48 : Int64) zr ze) rfl rfl (Nat.le_of_ble_eq_true rfl) ⟨by decide, by decide⟩ (fun x5 => ?_)
  refine hr_if_eq o 40 dX4_run_24 (by decide) (fun _ => ?_) (fun _ => ?_)
  · refine hr_iconst o (-1 : Int32) dX4_run_40 (by decide) ?_
    exact hr_iret o dX4_run_41 rfl rfl
  refine hr_aload_n o 0 dX4_run_27 rfl ?_
  refine mr_get o flX4_39 dX4_run_28 (.ref (om + 10)) rfl ?_
  refine hr_iconst o (3 : Int32) dX4_run_31 (by decide) ?_
  refine mr_iald o 20 10 123 rfl (by decide) rfl dX4_run_32 (fun x6 => ?_)
  refine hr_iload_n o 2 dX4_run_33 rfl ?_
  refine hr_iadd o dX4_run_34 ?_
  refine hr_bipush o (99 : Int32) dX4_run_35 (by decide) ?_
  refine hr_icmp_le o 42 dX4_run_37 (by decide) (fun _ => ?_) (fun _ => ?_)
  · refine hr_aload_n o 0 dX4_run_42 rfl ?_
    refine hr_iconst o (0 : Int32) dX4_run_43 (by decide) ?_
    refine mr_putI o flX4_274 dX4_run_44 nf_4_25 rfl rfl (fun V7 => ?_)
    refine hr_iconst o (0 : Int32) dX4_run_47 (by decide) ?_
    refine hr_istore_n o [(3, .int (0 : Int32)), (0, .ref om), (1, .int l1), (2, .int l2)] dX4_run_48 (by decide) rfl ?_
    refine hr_sub [1, 2, 3, 0] rfl ?_
    exact llX4_run_49 o hf_N l1 l2 (0 : Int32) V7
  refine hr_iconst o (-1 : Int32) dX4_run_40 (by decide) ?_
  exact hr_iret o dX4_run_41 rfl rfl
theorem mtX4_run {om : Nat} {b : hf_H} (l1 : Int32) (l2 : Int32) (V0 : hf_V) (r : Int32) (V1 : hf_V) (e : spX4_run l1 l2 V0 = some (r, V1)) : hf_Con yX4_run cX4_run 4 (some .int) 8 187 [.ref om, .int l1, .int l2] (hf_M om b V0) (.returned (some (.int r)), hf_M om b V1) := hf_entry (dec := hf_dMI om b) (by decide) [.ref om, .int l1, .int l2] (Nat.le_of_ble_eq_true rfl) [(0, .ref om), (1, .int l1), (2, .int l2)] rfl e (fun C o _ => jtX4_run o l1 l2 V0)

/-! goingsFor -/
theorem flX4_51 : hf_Fl RX4 51 4 27 := ⟨(RX4, TX4, 37), RX4, rfl, by decide, in_X4, tyX4_ok, nmX4, Or.inl q1427, Or.inl rfl⟩
def ndX4_goingsFor_31 (k4 : Int32 → Int32 → Int32 → hf_V → Option (Int32 × hf_V)) (l1 : Int32) (l2 : Int32) (l3 : Int32) (V0 : hf_V) : Option (Int32 × hf_V) :=
  hf_let (l3 + (1 : Int32)) fun x1 =>
  k4 l1 l2 x1 V0
theorem nlX4_goingsFor_31 {C : hf_X} {om : Nat} {b : hf_H} (o : hf_In C cX4_goingsFor RX4 4 (some .int) 0 0) (k4 : Int32 → Int32 → Int32 → hf_V → Option (Int32 × hf_V)) (hk4 : ∀ (l1 : Int32) (l2 : Int32) (l3 : Int32) (V0 : hf_V), hf_J C (hf_dMI om b) (k4 l1 l2 l3 V0) (hf_M om b V0) 4 [(0, .ref om), (1, .int l1), (2, .int l2), (3, .int l3)] []) (l1 : Int32) (l2 : Int32) (l3 : Int32) (V0 : hf_V) : hf_J C (hf_dMI om b) (ndX4_goingsFor_31 k4 l1 l2 l3 V0) (hf_M om b V0) 31 [(0, .ref om), (1, .int l1), (2, .int l2), (3, .int l3)] [] := by
  refine hr_iincN o (1 : Int32) 3 (fun y => [(3, .int y), (0, .ref om), (1, .int l1), (2, .int l2)]) dX4_goingsFor_31 rfl (by decide) (by decide) (fun y => rfl) (fun x1 => ?_)
  refine hr_goto o 4 dX4_goingsFor_34 (by decide) ?_
  refine hr_sub [1, 2, 3, 0] rfl ?_
  exact hk4 l1 l2 x1 V0
def ndX4_goingsFor_4 (k4 : Int32 → Int32 → Int32 → hf_V → Option (Int32 × hf_V)) (l1 : Int32) (l2 : Int32) (l3 : Int32) (V0 : hf_V) : Option (Int32 × hf_V) :=
  if (2048 : Int32) ≤ l3 then (some (l2, V0)) else
  if (256 : Int32) = 0 then none else
  if ((l3 - l3 / (256 : Int32) * (256 : Int32)) &&& l1) = l1 then ((hf_ld 2048 (V0.2.2.2.1 27) l3).bind fun x1 =>
  hf_let (l2 ||| x1) fun x2 =>
  ndX4_goingsFor_31 k4 l1 x2 l3 V0) else
  ndX4_goingsFor_31 k4 l1 l2 l3 V0
theorem nlX4_goingsFor_4 {C : hf_X} {om : Nat} {b : hf_H} (o : hf_In C cX4_goingsFor RX4 4 (some .int) 0 0) (k4 : Int32 → Int32 → Int32 → hf_V → Option (Int32 × hf_V)) (hk4 : ∀ (l1 : Int32) (l2 : Int32) (l3 : Int32) (V0 : hf_V), hf_J C (hf_dMI om b) (k4 l1 l2 l3 V0) (hf_M om b V0) 4 [(0, .ref om), (1, .int l1), (2, .int l2), (3, .int l3)] []) (l1 : Int32) (l2 : Int32) (l3 : Int32) (V0 : hf_V) : hf_J C (hf_dMI om b) (ndX4_goingsFor_4 k4 l1 l2 l3 V0) (hf_M om b V0) 4 [(0, .ref om), (1, .int l1), (2, .int l2), (3, .int l3)] [] := by
  refine hr_iload_n o 3 dX4_goingsFor_4 rfl ?_
  refine hr_sipush o (2048 : Int32) dX4_goingsFor_5 (by decide) ?_
  refine hr_icmp_ge o 37 dX4_goingsFor_8 (by decide) (fun _ => ?_) (fun _ => ?_)
  · refine hr_iload_n o 2 dX4_goingsFor_37 rfl ?_
    exact hr_iret o dX4_goingsFor_38 rfl rfl
  refine hr_iload_n o 3 dX4_goingsFor_11 rfl ?_
  refine hr_sipush o (256 : Int32) dX4_goingsFor_12 (by decide) ?_
  refine hr_irem o dX4_goingsFor_15 (fun _ => ?_)
  refine hr_iload_n o 1 dX4_goingsFor_16 rfl ?_
  refine hr_iand o dX4_goingsFor_17 ?_
  refine hr_iload_n o 1 dX4_goingsFor_18 rfl ?_
  refine hr_icmp_ne o 31 dX4_goingsFor_19 (by decide) (fun _ => ?_) (fun _ => ?_)
  · refine hr_iload_n o 2 dX4_goingsFor_22 rfl ?_
    refine hr_aload_n o 0 dX4_goingsFor_23 rfl ?_
    refine mr_get o flX4_51 dX4_goingsFor_24 (.ref (om + 14)) rfl ?_
    refine hr_iload_n o 3 dX4_goingsFor_27 rfl ?_
    refine mr_iald o 27 14 2048 rfl (by decide) rfl dX4_goingsFor_28 (fun x1 => ?_)
    refine hr_ior o dX4_goingsFor_29 ?_
    refine hr_nmI (fun x2 => ?_)
    refine hr_istore_n o [(2, .int x2), (0, .ref om), (1, .int l1), (3, .int l3)] dX4_goingsFor_30 (by decide) rfl ?_
    refine hr_sub [1, 2, 0, 3] rfl ?_
    exact nlX4_goingsFor_31 o k4 hk4 l1 x2 l3 V0
  exact nlX4_goingsFor_31 o k4 hk4 l1 l2 l3 V0
def lpX4_goingsFor_4  : Nat → Int32 → Int32 → Int32 → hf_V → Option (Int32 × hf_V)
  | 0 => fun _ _ _ _ => none
  | n + 1 => fun l1 l2 l3 V0 => ndX4_goingsFor_4  (lpX4_goingsFor_4  n) l1 l2 l3 V0
theorem llX4_goingsFor_4 {C : hf_X} {om : Nat} {b : hf_H} (o : hf_In C cX4_goingsFor RX4 4 (some .int) 0 0)   (n : Nat) : ∀ (l1 : Int32) (l2 : Int32) (l3 : Int32) (V0 : hf_V), hf_J C (hf_dMI om b) ((lpX4_goingsFor_4  n) l1 l2 l3 V0) (hf_M om b V0) 4 [(0, .ref om), (1, .int l1), (2, .int l2), (3, .int l3)] [] := by
  induction n with
  | zero => exact fun _ _ _ _ => hr_none
  | succ n ih => exact fun l1 l2 l3 V0 => nlX4_goingsFor_4 o  (lpX4_goingsFor_4  n)  ih l1 l2 l3 V0
def spX4_goingsFor (l1 : Int32) (V0 : hf_V) : Option (Int32 × hf_V) :=
  lpX4_goingsFor_4 hf_N l1 (0 : Int32) (0 : Int32) V0
theorem jtX4_goingsFor {C : hf_X} {om : Nat} {b : hf_H} (o : hf_In C cX4_goingsFor RX4 4 (some .int) 0 0) (l1 : Int32) (V0 : hf_V) : hf_J C (hf_dMI om b) (spX4_goingsFor l1 V0) (hf_M om b V0) 0 [(0, .ref om), (1, .int l1)] [] := by
  refine hr_iconst o (0 : Int32) dX4_goingsFor_0 (by decide) ?_
  refine hr_istore_n o [(2, .int (0 : Int32)), (0, .ref om), (1, .int l1)] dX4_goingsFor_1 (by decide) rfl ?_
  refine hr_iconst o (0 : Int32) dX4_goingsFor_2 (by decide) ?_
  refine hr_istore_n o [(3, .int (0 : Int32)), (2, .int (0 : Int32)), (0, .ref om), (1, .int l1)] dX4_goingsFor_3 (by decide) rfl ?_
  refine hr_sub [2, 3, 1, 0] rfl ?_
  exact llX4_goingsFor_4 o hf_N l1 (0 : Int32) (0 : Int32) V0
theorem mtX4_goingsFor {om : Nat} {b : hf_H} (l1 : Int32) (V0 : hf_V) (r : Int32) (V1 : hf_V) (e : spX4_goingsFor l1 V0 = some (r, V1)) : hf_Con yX4_goingsFor cX4_goingsFor 4 (some .int) 0 0 [.ref om, .int l1] (hf_M om b V0) (.returned (some (.int r)), hf_M om b V1) := hf_entry (dec := hf_dMI om b) (by decide) [.ref om, .int l1] (Nat.le_of_ble_eq_true rfl) [(0, .ref om), (1, .int l1)] rfl e (fun C o _ => jtX4_goingsFor o l1 V0)

/-! offers -/
theorem flX4_434 : hf_Fl RX4 434 4 30 := ⟨(RX4, TX4, 37), RX4, rfl, by decide, in_X4, tyX4_ok, nmX4, Or.inl q1430, Or.inl rfl⟩
theorem nf_4_30 : hf_Nf 4 30 := ⟨(RX4, TX4, 37), rfl, rfl⟩
theorem flX4_428 : hf_Fl RX4 428 4 29 := ⟨(RX4, TX4, 37), RX4, rfl, by decide, in_X4, tyX4_ok, nmX4, Or.inl q1429, Or.inl rfl⟩
theorem nf_4_29 : hf_Nf 4 29 := ⟨(RX4, TX4, 37), rfl, rfl⟩
theorem flX4_437 : hf_Fl RX4 437 4 31 := ⟨(RX4, TX4, 37), RX4, rfl, by decide, in_X4, tyX4_ok, nmX4, Or.inl q1431, Or.inl rfl⟩
theorem nf_4_31 : hf_Nf 4 31 := ⟨(RX4, TX4, 37), rfl, rfl⟩
theorem mvX4_431 : hf_MV RX4 431 RX4 yX4_goingsFor cX4_goingsFor 4 (some .int) 1 := ⟨lw_V q1937 q1939 qs140 q162 q1940, by decide +kernel⟩
def ndX4_offers_55 (k8 : Int32 → Int32 → Int32 → Int32 → Int32 → hf_V → Option hf_V) (l1 : Int32) (l2 : Int32) (l3 : Int32) (l4 : Int32) (l5 : Int32) (V0 : hf_V) : Option hf_V :=
  hf_let (l5 + (1 : Int32)) fun x1 =>
  k8 l1 l2 l3 l4 x1 V0
theorem nlX4_offers_55 {C : hf_X} {om : Nat} {b : hf_H} (o : hf_In C cX4_offers RX4 8 (none) 2 45) (k8 : Int32 → Int32 → Int32 → Int32 → Int32 → hf_V → Option hf_V) (hk8 : ∀ (l1 : Int32) (l2 : Int32) (l3 : Int32) (l4 : Int32) (l5 : Int32) (V0 : hf_V), hf_J C (hf_dMV om b) (k8 l1 l2 l3 l4 l5 V0) (hf_M om b V0) 8 [(0, .ref om), (1, .int l1), (2, .int l2), (3, .int l3), (4, .int l4), (5, .int l5)] []) (l1 : Int32) (l2 : Int32) (l3 : Int32) (l4 : Int32) (l5 : Int32) (V0 : hf_V) : hf_J C (hf_dMV om b) (ndX4_offers_55 k8 l1 l2 l3 l4 l5 V0) (hf_M om b V0) 55 [(0, .ref om), (1, .int l1), (2, .int l2), (3, .int l3), (4, .int l4), (5, .int l5)] [] := by
  refine hr_iincN o (1 : Int32) 5 (fun y => [(5, .int y), (0, .ref om), (1, .int l1), (2, .int l2), (3, .int l3), (4, .int l4)]) dX4_offers_55 rfl (by decide) (by decide) (fun y => rfl) (fun x1 => ?_)
  refine hr_goto o 8 dX4_offers_58 (by decide) ?_
  refine hr_sub [1, 2, 3, 4, 5, 0] rfl ?_
  exact hk8 l1 l2 l3 l4 x1 V0
def ndX4_offers_192  (s1 : Int32) (V0 : hf_V) : Option hf_V :=
  hf_let (hf_ui V0 30 s1) fun V1 =>
  some V1
theorem nlX4_offers_192 {C : hf_X} {om : Nat} {b : hf_H} (o : hf_In C cX4_offers RX4 8 (none) 2 45)   (s1 : Int32) (V0 : hf_V) : hf_J C (hf_dMV om b) (ndX4_offers_192 s1 V0) (hf_M om b V0) 192 [] [.int s1, .ref om] := by
  refine mr_putI o flX4_434 dX4_offers_192 nf_4_30 rfl rfl (fun V1 => ?_)
  exact hr_vret o dX4_offers_195 rfl
def ndX4_offers_173  (l7 : Int32) (V0 : hf_V) : Option hf_V :=
  if (V0.1 30) ≤ l7 then (ndX4_offers_192 (V0.1 30) V0) else
  ndX4_offers_192 l7 V0
theorem nlX4_offers_173 {C : hf_X} {om : Nat} {b : hf_H} (o : hf_In C cX4_offers RX4 8 (none) 2 45)   (l7 : Int32) (V0 : hf_V) : hf_J C (hf_dMV om b) (ndX4_offers_173 l7 V0) (hf_M om b V0) 173 [(0, .ref om), (7, .int l7)] [] := by
  refine hr_aload_n o 0 dX4_offers_173 rfl ?_
  refine hr_iload o 1 dX4_offers_174 rfl ?_
  refine hr_aload_n o 0 dX4_offers_176 rfl ?_
  refine mr_get o flX4_434 dX4_offers_177 (.int (V0.1 30)) rfl ?_
  refine hr_icmp_ge o 188 dX4_offers_180 (by decide) (fun _ => ?_) (fun _ => ?_)
  · refine hr_aload_n o 0 dX4_offers_188 rfl ?_
    refine mr_get o flX4_434 dX4_offers_189 (.int (V0.1 30)) rfl ?_
    refine hr_sub [] rfl ?_
    exact nlX4_offers_192 o (V0.1 30) V0
  refine hr_iload o 1 dX4_offers_183 rfl ?_
  refine hr_goto o 192 dX4_offers_185 (by decide) ?_
  refine hr_sub [] rfl ?_
  exact nlX4_offers_192 o l7 V0
def ndX4_offers_145  (l2 : Int32) (l5 : Int32) (s0 : Int32) (V0 : hf_V) : Option hf_V :=
  if l5 ≤ (V0.1 29) then (ndX4_offers_173 s0 V0) else
  hf_let (hf_ui V0 29 l5) fun V1 =>
  hf_let (hf_ui V1 30 s0) fun V2 =>
  hf_let (hf_ui V2 31 l2) fun V3 =>
  ndX4_offers_173 s0 V3
theorem nlX4_offers_145 {C : hf_X} {om : Nat} {b : hf_H} (o : hf_In C cX4_offers RX4 8 (none) 2 45)   (l2 : Int32) (l5 : Int32) (s0 : Int32) (V0 : hf_V) : hf_J C (hf_dMV om b) (ndX4_offers_145 l2 l5 s0 V0) (hf_M om b V0) 145 [(0, .ref om), (2, .int l2), (5, .int l5)] [.int s0] := by
  refine hr_istore o [(7, .int s0), (0, .ref om), (2, .int l2), (5, .int l5)] dX4_offers_145 (by decide) rfl ?_
  refine hr_iload o 3 dX4_offers_147 rfl ?_
  refine hr_aload_n o 1 dX4_offers_149 rfl ?_
  refine mr_get o flX4_428 dX4_offers_150 (.int (V0.1 29)) rfl ?_
  refine hr_icmp_le o 173 dX4_offers_153 (by decide) (fun _ => ?_) (fun _ => ?_)
  · refine hr_sub [1, 0] rfl ?_
    exact nlX4_offers_173 o s0 V0
  refine hr_aload_n o 1 dX4_offers_156 rfl ?_
  refine hr_iload o 3 dX4_offers_157 rfl ?_
  refine mr_putI o flX4_428 dX4_offers_159 nf_4_29 rfl rfl (fun V1 => ?_)
  refine hr_aload_n o 1 dX4_offers_162 rfl ?_
  refine hr_iload o 0 dX4_offers_163 rfl ?_
  refine mr_putI o flX4_434 dX4_offers_165 nf_4_30 rfl rfl (fun V2 => ?_)
  refine hr_aload_n o 1 dX4_offers_168 rfl ?_
  refine hr_iload_n o 2 dX4_offers_169 rfl ?_
  refine mr_putI o flX4_437 dX4_offers_170 nf_4_31 rfl rfl (fun V3 => ?_)
  refine hr_sub [1, 0] rfl ?_
  exact nlX4_offers_173 o s0 V3
def ndX4_offers_8 (k8 : Int32 → Int32 → Int32 → Int32 → Int32 → hf_V → Option hf_V) (l1 : Int32) (l2 : Int32) (l3 : Int32) (l4 : Int32) (l5 : Int32) (V0 : hf_V) : Option hf_V :=
  (hf_ld 123 (V0.2.2.2.1 20) (1 : Int32)).bind fun x1 =>
  if x1 ≤ l5 then (hf_b2 (spX4_hasOf l1 V0) fun x3 V2 =>
  (hf_ld 4096 (V2.2.2.2.1 22) (x3 ||| l2)).bind fun x4 =>
  hf_b2 (spX4_buyerOf l1 (0 : Int32) V2) fun x6 V5 =>
  hf_let ((x4 + x6) - l3) fun x7 =>
  hf_b2 (spX4_buyerOf l1 (0 : Int32) V5) fun x9 V8 =>
  if x9 < l3 then (some V8) else
  if (V8.1 29) ≤ x7 then (hf_b2 (spX4_goingsFor l4 V8) fun x11 V10 =>
  if x11 = 0 then (some V10) else
  (spX4_isOf x11 (0 : Int32)).bind fun x12 =>
  if x12 = 0 then ((spX4_isOf x11 (1 : Int32)).bind fun x13 =>
  if x13 = 0 then (ndX4_offers_145 l2 x7 (1 : Int32) V10) else
  ndX4_offers_145 l2 x7 (0 : Int32) V10) else
  ndX4_offers_145 l2 x7 (-1 : Int32) V10) else
  some V8) else
  (spX4_isOf l2 l5).bind fun x14 =>
  if x14 = 0 then (ndX4_offers_55 k8 l1 l2 l3 l4 l5 V0) else
  hf_b2 (spX4_halfOf l5 (2 : Int32) V0) fun x16 V15 =>
  hf_let (l3 + x16) fun x17 =>
  hf_b2 (spX4_halfOf l5 (3 : Int32) V15) fun x19 V18 =>
  hf_let (l4 ||| ((1 : Int32) <<< (x19 &&& 31))) fun x20 =>
  ndX4_offers_55 k8 l1 l2 x17 x20 l5 V18
theorem nlX4_offers_8 {C : hf_X} {om : Nat} {b : hf_H} (o : hf_In C cX4_offers RX4 8 (none) 2 45) (k8 : Int32 → Int32 → Int32 → Int32 → Int32 → hf_V → Option hf_V) (hk8 : ∀ (l1 : Int32) (l2 : Int32) (l3 : Int32) (l4 : Int32) (l5 : Int32) (V0 : hf_V), hf_J C (hf_dMV om b) (k8 l1 l2 l3 l4 l5 V0) (hf_M om b V0) 8 [(0, .ref om), (1, .int l1), (2, .int l2), (3, .int l3), (4, .int l4), (5, .int l5)] []) (l1 : Int32) (l2 : Int32) (l3 : Int32) (l4 : Int32) (l5 : Int32) (V0 : hf_V) : hf_J C (hf_dMV om b) (ndX4_offers_8 k8 l1 l2 l3 l4 l5 V0) (hf_M om b V0) 8 [(0, .ref om), (1, .int l1), (2, .int l2), (3, .int l3), (4, .int l4), (5, .int l5)] [] := by
  refine hr_iload o 5 dX4_offers_8 rfl ?_
  refine hr_aload_n o 0 dX4_offers_10 rfl ?_
  refine mr_get o flX4_39 dX4_offers_11 (.ref (om + 10)) rfl ?_
  refine hr_iconst o (1 : Int32) dX4_offers_14 (by decide) ?_
  refine mr_iald o 20 10 123 rfl (by decide) rfl dX4_offers_15 (fun x1 => ?_)
  refine hr_icmp_ge o 61 dX4_offers_16 (by decide) (fun _ => ?_) (fun _ => ?_)
  · refine hr_aload_n o 0 dX4_offers_61 rfl ?_
    refine mr_get o flX4_42 dX4_offers_62 (.ref (om + 11)) rfl ?_
    refine hr_aload_n o 0 dX4_offers_65 rfl ?_
    refine hr_iload_n o 1 dX4_offers_66 rfl ?_
    refine mr_callI o mvX4_346 dX4_offers_67 [.int l1] (fun zr zV ze => mtX4_hasOf l1 V0 zr zV ze) rfl rfl (Nat.le_of_ble_eq_true rfl) ⟨by decide, by decide⟩ (fun x3 V2 => ?_)
    refine hr_iload_n o 2 dX4_offers_70 rfl ?_
    refine hr_ior o dX4_offers_71 ?_
    refine mr_iald o 22 11 4096 rfl (by decide) rfl dX4_offers_72 (fun x4 => ?_)
    refine hr_aload_n o 0 dX4_offers_73 rfl ?_
    refine hr_iload_n o 1 dX4_offers_74 rfl ?_
    refine hr_iconst o (0 : Int32) dX4_offers_75 (by decide) ?_
    refine mr_callI o mvX4_314 dX4_offers_76 [.int l1, .int (0 : Int32)] (fun zr zV ze => mtX4_buyerOf l1 (0 : Int32) V2 zr zV ze) rfl rfl (Nat.le_of_ble_eq_true rfl) ⟨by decide, by decide⟩ (fun x6 V5 => ?_)
    refine hr_iadd o dX4_offers_79 ?_
    refine hr_iload_n o 3 dX4_offers_80 rfl ?_
    refine hr_isub o dX4_offers_81 ?_
    refine hr_nmI (fun x7 => ?_)
    refine hr_istore o [(5, .int x7), (0, .ref om), (1, .int l1), (2, .int l2), (3, .int l3), (4, .int l4)] dX4_offers_82 (by decide) rfl ?_
    refine hr_iload_n o 4 dX4_offers_84 rfl ?_
    refine hr_aload_n o 1 dX4_offers_85 rfl ?_
    refine hr_iload_n o 2 dX4_offers_86 rfl ?_
    refine hr_iconst o (0 : Int32) dX4_offers_87 (by decide) ?_
    refine mr_callI o mvX4_314 dX4_offers_88 [.int l1, .int (0 : Int32)] (fun zr zV ze => mtX4_buyerOf l1 (0 : Int32) V5 zr zV ze) rfl rfl (Nat.le_of_ble_eq_true rfl) ⟨by decide, by decide⟩ (fun x9 V8 => ?_)
    refine hr_icmp_gt o 103 dX4_offers_91 (by decide) (fun _ => ?_) (fun _ => ?_)
    · exact hr_vret o dX4_offers_103 rfl
    refine hr_iload o 0 dX4_offers_94 rfl ?_
    refine hr_aload_n o 1 dX4_offers_96 rfl ?_
    refine mr_get o flX4_428 dX4_offers_97 (.int (V8.1 29)) rfl ?_
    refine hr_icmp_ge o 104 dX4_offers_100 (by decide) (fun _ => ?_) (fun _ => ?_)
    · refine hr_aload_n o 1 dX4_offers_104 rfl ?_
      refine hr_iload o 5 dX4_offers_105 rfl ?_
      refine mr_callI o mvX4_431 dX4_offers_107 [.int l4] (fun zr zV ze => mtX4_goingsFor l4 V8 zr zV ze) rfl rfl (Nat.le_of_ble_eq_true rfl) ⟨by decide, by decide⟩ (fun x11 V10 => ?_)
      refine hr_istore o [(6, .int x11), (5, .int x7), (0, .ref om), (1, .int l1), (2, .int l2), (3, .int l3), (4, .int l4)] dX4_offers_110 (by decide) rfl ?_
      refine hr_iload o 0 dX4_offers_112 rfl ?_
      refine hr_if_ne o 118 dX4_offers_114 (by decide) (fun _ => ?_) (fun _ => ?_)
      · exact hr_vret o dX4_offers_117 rfl
      refine hr_iload o 0 dX4_offers_118 rfl ?_
      refine hr_iconst o (0 : Int32) dX4_offers_120 (by decide) ?_
      refine pr_callI o msX4_215 dX4_offers_121 [.int x11, .int (0 : Int32)] (fun zr ze => mtX4_isOf x11 (0 : Int32) zr ze) rfl rfl (Nat.le_of_ble_eq_true rfl) ⟨by decide, by decide⟩ (fun x12 => ?_)
      refine hr_if_eq o 131 dX4_offers_124 (by decide) (fun _ => ?_) (fun _ => ?_)
      · refine hr_iload o 0 dX4_offers_131 rfl ?_
        refine hr_iconst o (1 : Int32) dX4_offers_133 (by decide) ?_
        refine pr_callI o msX4_215 dX4_offers_134 [.int x11, .int (1 : Int32)] (fun zr ze => mtX4_isOf x11 (1 : Int32) zr ze) rfl rfl (Nat.le_of_ble_eq_true rfl) ⟨by decide, by decide⟩ (fun x13 => ?_)
        refine hr_if_eq o 144 dX4_offers_137 (by decide) (fun _ => ?_) (fun _ => ?_)
        · refine hr_iconst o (1 : Int32) dX4_offers_144 (by decide) ?_
          refine hr_sub [2, 4, 1] rfl ?_
          exact nlX4_offers_145 o l2 x7 (1 : Int32) V10
        refine hr_iconst o (0 : Int32) dX4_offers_140 (by decide) ?_
        refine hr_goto o 145 dX4_offers_141 (by decide) ?_
        refine hr_sub [2, 4, 1] rfl ?_
        exact nlX4_offers_145 o l2 x7 (0 : Int32) V10
      refine hr_iconst o (-1 : Int32) dX4_offers_127 (by decide) ?_
      refine hr_goto o 145 dX4_offers_128 (by decide) ?_
      refine hr_sub [2, 4, 1] rfl ?_
      exact nlX4_offers_145 o l2 x7 (-1 : Int32) V10
    exact hr_vret o dX4_offers_103 rfl
  refine hr_iload_n o 2 dX4_offers_19 rfl ?_
  refine hr_iload o 5 dX4_offers_20 rfl ?_
  refine pr_callI o msX4_215 dX4_offers_22 [.int l2, .int l5] (fun zr ze => mtX4_isOf l2 l5 zr ze) rfl rfl (Nat.le_of_ble_eq_true rfl) ⟨by decide, by decide⟩ (fun x14 => ?_)
  refine hr_if_ne o 31 dX4_offers_25 (by decide) (fun _ => ?_) (fun _ => ?_)
  · refine hr_goto o 55 dX4_offers_28 (by decide) ?_
    exact nlX4_offers_55 o k8 hk8 l1 l2 l3 l4 l5 V0
  refine hr_iload_n o 3 dX4_offers_31 rfl ?_
  refine hr_aload_n o 0 dX4_offers_32 rfl ?_
  refine hr_iload o 5 dX4_offers_33 rfl ?_
  refine hr_iconst o (2 : Int32) dX4_offers_35 (by decide) ?_
  refine mr_callI o mvX4_301 dX4_offers_36 [.int l5, .int (2 : Int32)] (fun zr zV ze => mtX4_halfOf l5 (2 : Int32) V0 zr zV ze) rfl rfl (Nat.le_of_ble_eq_true rfl) ⟨by decide, by decide⟩ (fun x16 V15 => ?_)
  refine hr_iadd o dX4_offers_39 ?_
  refine hr_nmI (fun x17 => ?_)
  refine hr_istore_n o [(3, .int x17), (0, .ref om), (1, .int l1), (2, .int l2), (4, .int l4), (5, .int l5)] dX4_offers_40 (by decide) rfl ?_
  refine hr_iload o 4 dX4_offers_41 rfl ?_
  refine hr_iconst o (1 : Int32) dX4_offers_43 (by decide) ?_
  refine hr_aload_n o 1 dX4_offers_44 rfl ?_
  refine hr_iload o 5 dX4_offers_45 rfl ?_
  refine hr_iconst o (3 : Int32) dX4_offers_47 (by decide) ?_
  refine mr_callI o mvX4_301 dX4_offers_48 [.int l5, .int (3 : Int32)] (fun zr zV ze => mtX4_halfOf l5 (3 : Int32) V15 zr zV ze) rfl rfl (Nat.le_of_ble_eq_true rfl) ⟨by decide, by decide⟩ (fun x19 V18 => ?_)
  refine hr_ishl o dX4_offers_51 ?_
  refine hr_ior o dX4_offers_52 ?_
  refine hr_nmI (fun x20 => ?_)
  refine hr_istore o [(4, .int x20), (3, .int x17), (0, .ref om), (1, .int l1), (2, .int l2), (5, .int l5)] dX4_offers_53 (by decide) rfl ?_
  refine hr_sub [2, 3, 4, 1, 0, 5] rfl ?_
  exact nlX4_offers_55 o k8 hk8 l1 l2 x17 x20 l5 V18
def lpX4_offers_8  : Nat → Int32 → Int32 → Int32 → Int32 → Int32 → hf_V → Option hf_V
  | 0 => fun _ _ _ _ _ _ => none
  | n + 1 => fun l1 l2 l3 l4 l5 V0 => ndX4_offers_8  (lpX4_offers_8  n) l1 l2 l3 l4 l5 V0
theorem llX4_offers_8 {C : hf_X} {om : Nat} {b : hf_H} (o : hf_In C cX4_offers RX4 8 (none) 2 45)   (n : Nat) : ∀ (l1 : Int32) (l2 : Int32) (l3 : Int32) (l4 : Int32) (l5 : Int32) (V0 : hf_V), hf_J C (hf_dMV om b) ((lpX4_offers_8  n) l1 l2 l3 l4 l5 V0) (hf_M om b V0) 8 [(0, .ref om), (1, .int l1), (2, .int l2), (3, .int l3), (4, .int l4), (5, .int l5)] [] := by
  induction n with
  | zero => exact fun _ _ _ _ _ _ => hr_none
  | succ n ih => exact fun l1 l2 l3 l4 l5 V0 => nlX4_offers_8 o  (lpX4_offers_8  n)  ih l1 l2 l3 l4 l5 V0
def spX4_offers (l1 : Int32) (l2 : Int32) (V0 : hf_V) : Option hf_V :=
  lpX4_offers_8 hf_N l1 l2 (0 : Int32) (0 : Int32) (0 : Int32) V0
theorem jtX4_offers {C : hf_X} {om : Nat} {b : hf_H} (o : hf_In C cX4_offers RX4 8 (none) 2 45) (l1 : Int32) (l2 : Int32) (V0 : hf_V) : hf_J C (hf_dMV om b) (spX4_offers l1 l2 V0) (hf_M om b V0) 0 [(0, .ref om), (1, .int l1), (2, .int l2)] [] := by
  refine hr_iconst o (0 : Int32) dX4_offers_0 (by decide) ?_
  refine hr_istore_n o [(3, .int (0 : Int32)), (0, .ref om), (1, .int l1), (2, .int l2)] dX4_offers_1 (by decide) rfl ?_
  refine hr_iconst o (0 : Int32) dX4_offers_2 (by decide) ?_
  refine hr_istore o [(4, .int (0 : Int32)), (3, .int (0 : Int32)), (0, .ref om), (1, .int l1), (2, .int l2)] dX4_offers_3 (by decide) rfl ?_
  refine hr_iconst o (0 : Int32) dX4_offers_5 (by decide) ?_
  refine hr_istore o [(5, .int (0 : Int32)), (4, .int (0 : Int32)), (3, .int (0 : Int32)), (0, .ref om), (1, .int l1), (2, .int l2)] dX4_offers_6 (by decide) rfl ?_
  refine hr_sub [3, 4, 5, 2, 1, 0] rfl ?_
  exact llX4_offers_8 o hf_N l1 l2 (0 : Int32) (0 : Int32) (0 : Int32) V0
theorem mtX4_offers {om : Nat} {b : hf_H} (l1 : Int32) (l2 : Int32) (V0 V1 : hf_V) (e : spX4_offers l1 l2 V0 = some V1) : hf_Con yX4_offers cX4_offers 8 (none) 2 45 [.ref om, .int l1, .int l2] (hf_M om b V0) (.returned none, hf_M om b V1) := hf_entry (dec := hf_dMV om b) (by decide) [.ref om, .int l1, .int l2] (Nat.le_of_ble_eq_true rfl) [(0, .ref om), (1, .int l1), (2, .int l2)] rfl e (fun C o _ => jtX4_offers o l1 l2 V0)

/-! placeOf -/
def spX4_placeOf (l0 : Int32) (l1 : Int32) : Option Int32 :=
  some ((l0 * (256 : Int32)) + l1)
theorem jtX4_placeOf {C : hf_X} {h : hf_H} (o : hf_In C cX4_placeOf RX4 2 (some .int) 0 0) (l0 : Int32) (l1 : Int32) : hf_J C (hf_dPI h) (spX4_placeOf l0 l1) h 0 [(0, .int l0), (1, .int l1)] [] := by
  refine hr_iload_n o 0 dX4_placeOf_0 rfl ?_
  refine hr_sipush o (256 : Int32) dX4_placeOf_1 (by decide) ?_
  refine hr_imul o dX4_placeOf_4 ?_
  refine hr_iload_n o 1 dX4_placeOf_5 rfl ?_
  refine hr_iadd o dX4_placeOf_6 ?_
  exact hr_iret o dX4_placeOf_7 rfl rfl
theorem mtX4_placeOf {h : hf_H} (l0 : Int32) (l1 : Int32) (r : Int32) (e : spX4_placeOf l0 l1 = some r) : hf_Con yX4_placeOf cX4_placeOf 2 (some .int) 0 0 [.int l0, .int l1] h (.returned (some (.int r)), h) := hf_entry (dec := hf_dPI h) (by decide) [.int l0, .int l1] (Nat.le_of_ble_eq_true rfl) [(0, .int l0), (1, .int l1)] rfl e (fun C o _ => jtX4_placeOf o l0 l1)

/-! walksOn -/
theorem flX4_54 : hf_Fl RX4 54 4 28 := ⟨(RX4, TX4, 37), RX4, rfl, by decide, in_X4, tyX4_ok, nmX4, Or.inl q1428, Or.inl rfl⟩
theorem msX4_421 : hf_MS RX4 421 yX4_placeOf cX4_placeOf 2 (some .int) 2 := ⟨lw_S q1926 q1927 q162 q1928, by decide +kernel⟩
def ndX4_walksOn_133 (k24 : Int32 → Int32 → Int32 → hf_V → Option hf_V) (k37 : Int32 → Int32 → Int32 → Int32 → hf_V → Option hf_V) (k69 : Int32 → Int32 → Int32 → Int32 → Int32 → Int32 → hf_V → Option hf_V) (l1 : Int32) (l2 : Int32) (l3 : Int32) (l4 : Int32) (l5 : Int32) (l6 : Int32) (s1 : Int32) (s2 : Int32) (s3 : Int32) (V0 : hf_V) : Option hf_V :=
  hf_sd 2048 s1 (fun j => hf_ua V0 28 j (s2 ||| s3)) fun V1 =>
  hf_let (l6 + (1 : Int32)) fun x2 =>
  k69 l1 l2 l3 l4 l5 x2 V1
theorem nlX4_walksOn_133 {C : hf_X} {om : Nat} {b : hf_H} (o : hf_In C cX4_walksOn RX4 8 (none) 2 45) (k24 : Int32 → Int32 → Int32 → hf_V → Option hf_V) (k37 : Int32 → Int32 → Int32 → Int32 → hf_V → Option hf_V) (k69 : Int32 → Int32 → Int32 → Int32 → Int32 → Int32 → hf_V → Option hf_V) (hk24 : ∀ (l1 : Int32) (l2 : Int32) (l3 : Int32) (V0 : hf_V), hf_J C (hf_dMV om b) (k24 l1 l2 l3 V0) (hf_M om b V0) 24 [(0, .ref om), (1, .int l1), (2, .int l2), (3, .int l3)] []) (hk37 : ∀ (l1 : Int32) (l2 : Int32) (l3 : Int32) (l4 : Int32) (V0 : hf_V), hf_J C (hf_dMV om b) (k37 l1 l2 l3 l4 V0) (hf_M om b V0) 37 [(0, .ref om), (1, .int l1), (2, .int l2), (3, .int l3), (4, .int l4)] []) (hk69 : ∀ (l1 : Int32) (l2 : Int32) (l3 : Int32) (l4 : Int32) (l5 : Int32) (l6 : Int32) (V0 : hf_V), hf_J C (hf_dMV om b) (k69 l1 l2 l3 l4 l5 l6 V0) (hf_M om b V0) 69 [(0, .ref om), (1, .int l1), (2, .int l2), (3, .int l3), (4, .int l4), (5, .int l5), (6, .int l6)] []) (l1 : Int32) (l2 : Int32) (l3 : Int32) (l4 : Int32) (l5 : Int32) (l6 : Int32) (s1 : Int32) (s2 : Int32) (s3 : Int32) (V0 : hf_V) : hf_J C (hf_dMV om b) (ndX4_walksOn_133 k24 k37 k69 l1 l2 l3 l4 l5 l6 s1 s2 s3 V0) (hf_M om b V0) 133 [(0, .ref om), (1, .int l1), (2, .int l2), (3, .int l3), (4, .int l4), (5, .int l5), (6, .int l6)] [.int s3, .int s2, .int s1, .ref (om + 15)] := by
  refine hr_ior o dX4_walksOn_133 ?_
  refine mr_iast o 28 15 2048 rfl (by decide) rfl dX4_walksOn_134 (fun V1 => ?_)
  refine hr_iincN o (1 : Int32) 6 (fun y => [(6, .int y), (0, .ref om), (1, .int l1), (2, .int l2), (3, .int l3), (4, .int l4), (5, .int l5)]) dX4_walksOn_135 rfl (by decide) (by decide) (fun y => rfl) (fun x2 => ?_)
  refine hr_goto o 69 dX4_walksOn_138 (by decide) ?_
  refine hr_sub [1, 2, 3, 4, 5, 6, 0] rfl ?_
  exact hk69 l1 l2 l3 l4 l5 x2 V1
def ndX4_walksOn_141 (k24 : Int32 → Int32 → Int32 → hf_V → Option hf_V) (k37 : Int32 → Int32 → Int32 → Int32 → hf_V → Option hf_V) (l1 : Int32) (l2 : Int32) (l3 : Int32) (l4 : Int32) (V0 : hf_V) : Option hf_V :=
  hf_let (l4 + (1 : Int32)) fun x1 =>
  k37 l1 l2 l3 x1 V0
theorem nlX4_walksOn_141 {C : hf_X} {om : Nat} {b : hf_H} (o : hf_In C cX4_walksOn RX4 8 (none) 2 45) (k24 : Int32 → Int32 → Int32 → hf_V → Option hf_V) (k37 : Int32 → Int32 → Int32 → Int32 → hf_V → Option hf_V) (hk24 : ∀ (l1 : Int32) (l2 : Int32) (l3 : Int32) (V0 : hf_V), hf_J C (hf_dMV om b) (k24 l1 l2 l3 V0) (hf_M om b V0) 24 [(0, .ref om), (1, .int l1), (2, .int l2), (3, .int l3)] []) (hk37 : ∀ (l1 : Int32) (l2 : Int32) (l3 : Int32) (l4 : Int32) (V0 : hf_V), hf_J C (hf_dMV om b) (k37 l1 l2 l3 l4 V0) (hf_M om b V0) 37 [(0, .ref om), (1, .int l1), (2, .int l2), (3, .int l3), (4, .int l4)] []) (l1 : Int32) (l2 : Int32) (l3 : Int32) (l4 : Int32) (V0 : hf_V) : hf_J C (hf_dMV om b) (ndX4_walksOn_141 k24 k37 l1 l2 l3 l4 V0) (hf_M om b V0) 141 [(0, .ref om), (1, .int l1), (2, .int l2), (3, .int l3), (4, .int l4)] [] := by
  refine hr_iincN o (1 : Int32) 4 (fun y => [(4, .int y), (0, .ref om), (1, .int l1), (2, .int l2), (3, .int l3)]) dX4_walksOn_141 rfl (by decide) (by decide) (fun y => rfl) (fun x1 => ?_)
  refine hr_goto o 37 dX4_walksOn_144 (by decide) ?_
  refine hr_sub [1, 2, 3, 4, 0] rfl ?_
  exact hk37 l1 l2 l3 x1 V0
def ndX4_walksOn_69 (k24 : Int32 → Int32 → Int32 → hf_V → Option hf_V) (k37 : Int32 → Int32 → Int32 → Int32 → hf_V → Option hf_V) (k69 : Int32 → Int32 → Int32 → Int32 → Int32 → Int32 → hf_V → Option hf_V) (l1 : Int32) (l2 : Int32) (l3 : Int32) (l4 : Int32) (l5 : Int32) (l6 : Int32) (V0 : hf_V) : Option hf_V :=
  if (2 : Int32) ≤ l6 then (ndX4_walksOn_141 k24 k37 l1 l2 l3 l4 V0) else
  (hf_ld 123 (V0.2.2.2.1 20) (0 : Int32)).bind fun x1 =>
  (hf_ld 123 (V0.2.2.2.1 20) (0 : Int32)).bind fun x2 =>
  if x2 = 0 then none else
  hf_let (((l3 + l6) + x1) - ((l3 + l6) + x1) / x2 * x2) fun x3 =>
  hf_b2 (spX4_stallAt x3 l1 V0) fun x5 V4 =>
  (spX4_placeOf x3 (l4 ||| ((1 : Int32) <<< (x5 &&& 31)))).bind fun x6 =>
  (hf_ld 2048 (V4.2.2.2.1 28) x6).bind fun x7 =>
  if l2 = 0 then (ndX4_walksOn_133 k24 k37 k69 l1 l2 l3 l4 l5 l6 x6 x7 l5 V4) else
  ndX4_walksOn_133 k24 k37 k69 l1 l2 l3 l4 l5 l6 x6 x7 ((1 : Int32) <<< ((l6 + (1 : Int32)) &&& 31)) V4
theorem nlX4_walksOn_69 {C : hf_X} {om : Nat} {b : hf_H} (o : hf_In C cX4_walksOn RX4 8 (none) 2 45) (k24 : Int32 → Int32 → Int32 → hf_V → Option hf_V) (k37 : Int32 → Int32 → Int32 → Int32 → hf_V → Option hf_V) (k69 : Int32 → Int32 → Int32 → Int32 → Int32 → Int32 → hf_V → Option hf_V) (hk24 : ∀ (l1 : Int32) (l2 : Int32) (l3 : Int32) (V0 : hf_V), hf_J C (hf_dMV om b) (k24 l1 l2 l3 V0) (hf_M om b V0) 24 [(0, .ref om), (1, .int l1), (2, .int l2), (3, .int l3)] []) (hk37 : ∀ (l1 : Int32) (l2 : Int32) (l3 : Int32) (l4 : Int32) (V0 : hf_V), hf_J C (hf_dMV om b) (k37 l1 l2 l3 l4 V0) (hf_M om b V0) 37 [(0, .ref om), (1, .int l1), (2, .int l2), (3, .int l3), (4, .int l4)] []) (hk69 : ∀ (l1 : Int32) (l2 : Int32) (l3 : Int32) (l4 : Int32) (l5 : Int32) (l6 : Int32) (V0 : hf_V), hf_J C (hf_dMV om b) (k69 l1 l2 l3 l4 l5 l6 V0) (hf_M om b V0) 69 [(0, .ref om), (1, .int l1), (2, .int l2), (3, .int l3), (4, .int l4), (5, .int l5), (6, .int l6)] []) (l1 : Int32) (l2 : Int32) (l3 : Int32) (l4 : Int32) (l5 : Int32) (l6 : Int32) (V0 : hf_V) : hf_J C (hf_dMV om b) (ndX4_walksOn_69 k24 k37 k69 l1 l2 l3 l4 l5 l6 V0) (hf_M om b V0) 69 [(0, .ref om), (1, .int l1), (2, .int l2), (3, .int l3), (4, .int l4), (5, .int l5), (6, .int l6)] [] := by
  refine hr_iload o 6 dX4_walksOn_69 rfl ?_
  refine hr_iconst o (2 : Int32) dX4_walksOn_71 (by decide) ?_
  refine hr_icmp_ge o 141 dX4_walksOn_72 (by decide) (fun _ => ?_) (fun _ => ?_)
  · refine hr_sub [0, 1, 2, 3, 4] rfl ?_
    exact nlX4_walksOn_141 o k24 k37 hk24 hk37 l1 l2 l3 l4 V0
  refine hr_iload_n o 3 dX4_walksOn_75 rfl ?_
  refine hr_iload o 6 dX4_walksOn_76 rfl ?_
  refine hr_iadd o dX4_walksOn_78 ?_
  refine hr_aload_n o 0 dX4_walksOn_79 rfl ?_
  refine mr_get o flX4_39 dX4_walksOn_80 (.ref (om + 10)) rfl ?_
  refine hr_iconst o (0 : Int32) dX4_walksOn_83 (by decide) ?_
  refine mr_iald o 20 10 123 rfl (by decide) rfl dX4_walksOn_84 (fun x1 => ?_)
  refine hr_iadd o dX4_walksOn_85 ?_
  refine hr_aload_n o 0 dX4_walksOn_86 rfl ?_
  refine mr_get o flX4_39 dX4_walksOn_87 (.ref (om + 10)) rfl ?_
  refine hr_iconst o (0 : Int32) dX4_walksOn_90 (by decide) ?_
  refine mr_iald o 20 10 123 rfl (by decide) rfl dX4_walksOn_91 (fun x2 => ?_)
  refine hr_irem o dX4_walksOn_92 (fun _ => ?_)
  refine hr_nmI (fun x3 => ?_)
  refine hr_istore o [(7, .int x3), (0, .ref om), (1, .int l1), (2, .int l2), (3, .int l3), (4, .int l4), (5, .int l5), (6, .int l6)] dX4_walksOn_93 (by decide) rfl ?_
  refine hr_aload_n o 1 dX4_walksOn_95 rfl ?_
  refine mr_get o flX4_54 dX4_walksOn_96 (.ref (om + 15)) rfl ?_
  refine hr_iload o 0 dX4_walksOn_99 rfl ?_
  refine hr_iload o 5 dX4_walksOn_101 rfl ?_
  refine hr_iconst o (1 : Int32) dX4_walksOn_103 (by decide) ?_
  refine hr_aload_n o 1 dX4_walksOn_104 rfl ?_
  refine hr_iload o 0 dX4_walksOn_105 rfl ?_
  refine hr_iload_n o 2 dX4_walksOn_107 rfl ?_
  refine mr_callI o mvX4_317 dX4_walksOn_108 [.int x3, .int l1] (fun zr zV ze => mtX4_stallAt x3 l1 V0 zr zV ze) rfl rfl (Nat.le_of_ble_eq_true rfl) ⟨by decide, by decide⟩ (fun x5 V4 => ?_)
  refine hr_ishl o dX4_walksOn_111 ?_
  refine hr_ior o dX4_walksOn_112 ?_
  refine pr_callI o msX4_421 dX4_walksOn_113 [.int x3, .int (l4 ||| ((1 : Int32) <<< (x5 &&& 31)))] (fun zr ze => mtX4_placeOf x3 (l4 ||| ((1 : Int32) <<< (x5 &&& 31))) zr ze) rfl rfl (Nat.le_of_ble_eq_true rfl) ⟨by decide, by decide⟩ (fun x6 => ?_)
  refine hr_dup2 o dX4_walksOn_116 rfl rfl ?_
  refine mr_iald o 28 15 2048 rfl (by decide) rfl dX4_walksOn_117 (fun x7 => ?_)
  refine hr_iload_n o 3 dX4_walksOn_118 rfl ?_
  refine hr_if_eq o 131 dX4_walksOn_119 (by decide) (fun _ => ?_) (fun _ => ?_)
  · refine hr_iload o 6 dX4_walksOn_131 rfl ?_
    refine hr_sub [1, 2, 3, 4, 5, 6, 7] rfl ?_
    exact nlX4_walksOn_133 o k24 k37 k69 hk24 hk37 hk69 l1 l2 l3 l4 l5 l6 x6 x7 l5 V4
  refine hr_iconst o (1 : Int32) dX4_walksOn_122 (by decide) ?_
  refine hr_iload o 7 dX4_walksOn_123 rfl ?_
  refine hr_iconst o (1 : Int32) dX4_walksOn_125 (by decide) ?_
  refine hr_iadd o dX4_walksOn_126 ?_
  refine hr_ishl o dX4_walksOn_127 ?_
  refine hr_goto o 133 dX4_walksOn_128 (by decide) ?_
  refine hr_sub [1, 2, 3, 4, 5, 6, 7] rfl ?_
  exact nlX4_walksOn_133 o k24 k37 k69 hk24 hk37 hk69 l1 l2 l3 l4 l5 l6 x6 x7 ((1 : Int32) <<< ((l6 + (1 : Int32)) &&& 31)) V4
def lpX4_walksOn_69 (k24 : Int32 → Int32 → Int32 → hf_V → Option hf_V) (k37 : Int32 → Int32 → Int32 → Int32 → hf_V → Option hf_V) : Nat → Int32 → Int32 → Int32 → Int32 → Int32 → Int32 → hf_V → Option hf_V
  | 0 => fun _ _ _ _ _ _ _ => none
  | n + 1 => fun l1 l2 l3 l4 l5 l6 V0 => ndX4_walksOn_69 k24 k37 (lpX4_walksOn_69 k24 k37 n) l1 l2 l3 l4 l5 l6 V0
theorem llX4_walksOn_69 {C : hf_X} {om : Nat} {b : hf_H} (o : hf_In C cX4_walksOn RX4 8 (none) 2 45) (k24 : Int32 → Int32 → Int32 → hf_V → Option hf_V) (k37 : Int32 → Int32 → Int32 → Int32 → hf_V → Option hf_V) (hk24 : ∀ (l1 : Int32) (l2 : Int32) (l3 : Int32) (V0 : hf_V), hf_J C (hf_dMV om b) (k24 l1 l2 l3 V0) (hf_M om b V0) 24 [(0, .ref om), (1, .int l1), (2, .int l2), (3, .int l3)] []) (hk37 : ∀ (l1 : Int32) (l2 : Int32) (l3 : Int32) (l4 : Int32) (V0 : hf_V), hf_J C (hf_dMV om b) (k37 l1 l2 l3 l4 V0) (hf_M om b V0) 37 [(0, .ref om), (1, .int l1), (2, .int l2), (3, .int l3), (4, .int l4)] []) (n : Nat) : ∀ (l1 : Int32) (l2 : Int32) (l3 : Int32) (l4 : Int32) (l5 : Int32) (l6 : Int32) (V0 : hf_V), hf_J C (hf_dMV om b) ((lpX4_walksOn_69 k24 k37 n) l1 l2 l3 l4 l5 l6 V0) (hf_M om b V0) 69 [(0, .ref om), (1, .int l1), (2, .int l2), (3, .int l3), (4, .int l4), (5, .int l5), (6, .int l6)] [] := by
  induction n with
  | zero => exact fun _ _ _ _ _ _ _ => hr_none
  | succ n ih => exact fun l1 l2 l3 l4 l5 l6 V0 => nlX4_walksOn_69 o k24 k37 (lpX4_walksOn_69 k24 k37 n) hk24 hk37 ih l1 l2 l3 l4 l5 l6 V0
def ndX4_walksOn_37 (k24 : Int32 → Int32 → Int32 → hf_V → Option hf_V) (k37 : Int32 → Int32 → Int32 → Int32 → hf_V → Option hf_V) (l1 : Int32) (l2 : Int32) (l3 : Int32) (l4 : Int32) (V0 : hf_V) : Option hf_V :=
  if (256 : Int32) ≤ l4 then (hf_let (l3 + (1 : Int32)) fun x1 =>
  k24 l1 l2 x1 V0) else
  (spX4_placeOf l3 l4).bind fun x2 =>
  (hf_ld 2048 (V0.2.2.2.1 27) x2).bind fun x3 =>
  if x3 = 0 then (ndX4_walksOn_141 k24 k37 l1 l2 l3 l4 V0) else
  lpX4_walksOn_69 k24 k37 hf_N l1 l2 l3 l4 x3 (-1 : Int32) V0
theorem nlX4_walksOn_37 {C : hf_X} {om : Nat} {b : hf_H} (o : hf_In C cX4_walksOn RX4 8 (none) 2 45) (k24 : Int32 → Int32 → Int32 → hf_V → Option hf_V) (k37 : Int32 → Int32 → Int32 → Int32 → hf_V → Option hf_V) (hk24 : ∀ (l1 : Int32) (l2 : Int32) (l3 : Int32) (V0 : hf_V), hf_J C (hf_dMV om b) (k24 l1 l2 l3 V0) (hf_M om b V0) 24 [(0, .ref om), (1, .int l1), (2, .int l2), (3, .int l3)] []) (hk37 : ∀ (l1 : Int32) (l2 : Int32) (l3 : Int32) (l4 : Int32) (V0 : hf_V), hf_J C (hf_dMV om b) (k37 l1 l2 l3 l4 V0) (hf_M om b V0) 37 [(0, .ref om), (1, .int l1), (2, .int l2), (3, .int l3), (4, .int l4)] []) (l1 : Int32) (l2 : Int32) (l3 : Int32) (l4 : Int32) (V0 : hf_V) : hf_J C (hf_dMV om b) (ndX4_walksOn_37 k24 k37 l1 l2 l3 l4 V0) (hf_M om b V0) 37 [(0, .ref om), (1, .int l1), (2, .int l2), (3, .int l3), (4, .int l4)] [] := by
  refine hr_iload o 4 dX4_walksOn_37 rfl ?_
  refine hr_sipush o (256 : Int32) dX4_walksOn_39 (by decide) ?_
  refine hr_icmp_ge o 147 dX4_walksOn_42 (by decide) (fun _ => ?_) (fun _ => ?_)
  · refine hr_iincN o (1 : Int32) 3 (fun y => [(3, .int y), (0, .ref om), (1, .int l1), (2, .int l2), (4, .int l4)]) dX4_walksOn_147 rfl (by decide) (by decide) (fun y => rfl) (fun x1 => ?_)
    refine hr_goto o 24 dX4_walksOn_150 (by decide) ?_
    refine hr_sub [1, 2, 3, 0] rfl ?_
    exact hk24 l1 l2 x1 V0
  refine hr_aload_n o 0 dX4_walksOn_45 rfl ?_
  refine mr_get o flX4_51 dX4_walksOn_46 (.ref (om + 14)) rfl ?_
  refine hr_iload_n o 3 dX4_walksOn_49 rfl ?_
  refine hr_iload o 4 dX4_walksOn_50 rfl ?_
  refine pr_callI o msX4_421 dX4_walksOn_52 [.int l3, .int l4] (fun zr ze => mtX4_placeOf l3 l4 zr ze) rfl rfl (Nat.le_of_ble_eq_true rfl) ⟨by decide, by decide⟩ (fun x2 => ?_)
  refine mr_iald o 27 14 2048 rfl (by decide) rfl dX4_walksOn_55 (fun x3 => ?_)
  refine hr_istore o [(5, .int x3), (0, .ref om), (1, .int l1), (2, .int l2), (3, .int l3), (4, .int l4)] dX4_walksOn_56 (by decide) rfl ?_
  refine hr_iload o 0 dX4_walksOn_58 rfl ?_
  refine hr_if_ne o 66 dX4_walksOn_60 (by decide) (fun _ => ?_) (fun _ => ?_)
  · refine hr_goto o 141 dX4_walksOn_63 (by decide) ?_
    refine hr_sub [1, 2, 3, 4, 5] rfl ?_
    exact nlX4_walksOn_141 o k24 k37 hk24 hk37 l1 l2 l3 l4 V0
  refine hr_iconst o (-1 : Int32) dX4_walksOn_66 (by decide) ?_
  refine hr_istore o [(6, .int (-1 : Int32)), (5, .int x3), (0, .ref om), (1, .int l1), (2, .int l2), (3, .int l3), (4, .int l4)] dX4_walksOn_67 (by decide) rfl ?_
  refine hr_sub [2, 3, 4, 5, 6, 1, 0] rfl ?_
  exact llX4_walksOn_69 o k24 k37 hk24 hk37 hf_N l1 l2 l3 l4 x3 (-1 : Int32) V0
def lpX4_walksOn_37 (k24 : Int32 → Int32 → Int32 → hf_V → Option hf_V) : Nat → Int32 → Int32 → Int32 → Int32 → hf_V → Option hf_V
  | 0 => fun _ _ _ _ _ => none
  | n + 1 => fun l1 l2 l3 l4 V0 => ndX4_walksOn_37 k24 (lpX4_walksOn_37 k24 n) l1 l2 l3 l4 V0
theorem llX4_walksOn_37 {C : hf_X} {om : Nat} {b : hf_H} (o : hf_In C cX4_walksOn RX4 8 (none) 2 45) (k24 : Int32 → Int32 → Int32 → hf_V → Option hf_V) (hk24 : ∀ (l1 : Int32) (l2 : Int32) (l3 : Int32) (V0 : hf_V), hf_J C (hf_dMV om b) (k24 l1 l2 l3 V0) (hf_M om b V0) 24 [(0, .ref om), (1, .int l1), (2, .int l2), (3, .int l3)] []) (n : Nat) : ∀ (l1 : Int32) (l2 : Int32) (l3 : Int32) (l4 : Int32) (V0 : hf_V), hf_J C (hf_dMV om b) ((lpX4_walksOn_37 k24 n) l1 l2 l3 l4 V0) (hf_M om b V0) 37 [(0, .ref om), (1, .int l1), (2, .int l2), (3, .int l3), (4, .int l4)] [] := by
  induction n with
  | zero => exact fun _ _ _ _ _ => hr_none
  | succ n ih => exact fun l1 l2 l3 l4 V0 => nlX4_walksOn_37 o k24 (lpX4_walksOn_37 k24 n) hk24 ih l1 l2 l3 l4 V0
def ndX4_walksOn_155 (k155 : Int32 → hf_V → Option hf_V) (l3 : Int32) (V0 : hf_V) : Option hf_V :=
  if (2048 : Int32) ≤ l3 then (some V0) else
  (hf_ld 2048 (V0.2.2.2.1 28) l3).bind fun x1 =>
  hf_sd 2048 l3 (fun j => hf_ua V0 27 j x1) fun V2 =>
  hf_let (l3 + (1 : Int32)) fun x3 =>
  k155 x3 V2
theorem nlX4_walksOn_155 {C : hf_X} {om : Nat} {b : hf_H} (o : hf_In C cX4_walksOn RX4 8 (none) 2 45) (k155 : Int32 → hf_V → Option hf_V) (hk155 : ∀ (l3 : Int32) (V0 : hf_V), hf_J C (hf_dMV om b) (k155 l3 V0) (hf_M om b V0) 155 [(0, .ref om), (3, .int l3)] []) (l3 : Int32) (V0 : hf_V) : hf_J C (hf_dMV om b) (ndX4_walksOn_155 k155 l3 V0) (hf_M om b V0) 155 [(0, .ref om), (3, .int l3)] [] := by
  refine hr_iload_n o 1 dX4_walksOn_155 rfl ?_
  refine hr_sipush o (2048 : Int32) dX4_walksOn_156 (by decide) ?_
  refine hr_icmp_ge o 180 dX4_walksOn_159 (by decide) (fun _ => ?_) (fun _ => ?_)
  · exact hr_vret o dX4_walksOn_180 rfl
  refine hr_aload_n o 0 dX4_walksOn_162 rfl ?_
  refine mr_get o flX4_51 dX4_walksOn_163 (.ref (om + 14)) rfl ?_
  refine hr_iload_n o 1 dX4_walksOn_166 rfl ?_
  refine hr_aload_n o 0 dX4_walksOn_167 rfl ?_
  refine mr_get o flX4_54 dX4_walksOn_168 (.ref (om + 15)) rfl ?_
  refine hr_iload_n o 1 dX4_walksOn_171 rfl ?_
  refine mr_iald o 28 15 2048 rfl (by decide) rfl dX4_walksOn_172 (fun x1 => ?_)
  refine mr_iast o 27 14 2048 rfl (by decide) rfl dX4_walksOn_173 (fun V2 => ?_)
  refine hr_iincN o (1 : Int32) 1 (fun y => [(3, .int y), (0, .ref om)]) dX4_walksOn_174 rfl (by decide) (by decide) (fun y => rfl) (fun x3 => ?_)
  refine hr_goto o 155 dX4_walksOn_177 (by decide) ?_
  refine hr_sub [1, 0] rfl ?_
  exact hk155 x3 V2
def lpX4_walksOn_155  : Nat → Int32 → hf_V → Option hf_V
  | 0 => fun _ _ => none
  | n + 1 => fun l3 V0 => ndX4_walksOn_155  (lpX4_walksOn_155  n) l3 V0
theorem llX4_walksOn_155 {C : hf_X} {om : Nat} {b : hf_H} (o : hf_In C cX4_walksOn RX4 8 (none) 2 45)   (n : Nat) : ∀ (l3 : Int32) (V0 : hf_V), hf_J C (hf_dMV om b) ((lpX4_walksOn_155  n) l3 V0) (hf_M om b V0) 155 [(0, .ref om), (3, .int l3)] [] := by
  induction n with
  | zero => exact fun _ _ => hr_none
  | succ n ih => exact fun l3 V0 => nlX4_walksOn_155 o  (lpX4_walksOn_155  n)  ih l3 V0
def ndX4_walksOn_24 (k24 : Int32 → Int32 → Int32 → hf_V → Option hf_V) (l1 : Int32) (l2 : Int32) (l3 : Int32) (V0 : hf_V) : Option hf_V :=
  (hf_ld 123 (V0.2.2.2.1 20) (0 : Int32)).bind fun x1 =>
  if x1 ≤ l3 then (lpX4_walksOn_155 hf_N (0 : Int32) V0) else
  lpX4_walksOn_37 k24 hf_N l1 l2 l3 (0 : Int32) V0
theorem nlX4_walksOn_24 {C : hf_X} {om : Nat} {b : hf_H} (o : hf_In C cX4_walksOn RX4 8 (none) 2 45) (k24 : Int32 → Int32 → Int32 → hf_V → Option hf_V) (hk24 : ∀ (l1 : Int32) (l2 : Int32) (l3 : Int32) (V0 : hf_V), hf_J C (hf_dMV om b) (k24 l1 l2 l3 V0) (hf_M om b V0) 24 [(0, .ref om), (1, .int l1), (2, .int l2), (3, .int l3)] []) (l1 : Int32) (l2 : Int32) (l3 : Int32) (V0 : hf_V) : hf_J C (hf_dMV om b) (ndX4_walksOn_24 k24 l1 l2 l3 V0) (hf_M om b V0) 24 [(0, .ref om), (1, .int l1), (2, .int l2), (3, .int l3)] [] := by
  refine hr_iload_n o 3 dX4_walksOn_24 rfl ?_
  refine hr_aload_n o 0 dX4_walksOn_25 rfl ?_
  refine mr_get o flX4_39 dX4_walksOn_26 (.ref (om + 10)) rfl ?_
  refine hr_iconst o (0 : Int32) dX4_walksOn_29 (by decide) ?_
  refine mr_iald o 20 10 123 rfl (by decide) rfl dX4_walksOn_30 (fun x1 => ?_)
  refine hr_icmp_ge o 153 dX4_walksOn_31 (by decide) (fun _ => ?_) (fun _ => ?_)
  · refine hr_iconst o (0 : Int32) dX4_walksOn_153 (by decide) ?_
    refine hr_istore_n o [(3, .int (0 : Int32)), (0, .ref om), (1, .int l1), (2, .int l2)] dX4_walksOn_154 (by decide) rfl ?_
    refine hr_sub [1, 0] rfl ?_
    exact llX4_walksOn_155 o hf_N (0 : Int32) V0
  refine hr_iconst o (0 : Int32) dX4_walksOn_34 (by decide) ?_
  refine hr_istore o [(4, .int (0 : Int32)), (0, .ref om), (1, .int l1), (2, .int l2), (3, .int l3)] dX4_walksOn_35 (by decide) rfl ?_
  refine hr_sub [1, 2, 3, 4, 0] rfl ?_
  exact llX4_walksOn_37 o k24 hk24 hf_N l1 l2 l3 (0 : Int32) V0
def lpX4_walksOn_24  : Nat → Int32 → Int32 → Int32 → hf_V → Option hf_V
  | 0 => fun _ _ _ _ => none
  | n + 1 => fun l1 l2 l3 V0 => ndX4_walksOn_24  (lpX4_walksOn_24  n) l1 l2 l3 V0
theorem llX4_walksOn_24 {C : hf_X} {om : Nat} {b : hf_H} (o : hf_In C cX4_walksOn RX4 8 (none) 2 45)   (n : Nat) : ∀ (l1 : Int32) (l2 : Int32) (l3 : Int32) (V0 : hf_V), hf_J C (hf_dMV om b) ((lpX4_walksOn_24  n) l1 l2 l3 V0) (hf_M om b V0) 24 [(0, .ref om), (1, .int l1), (2, .int l2), (3, .int l3)] [] := by
  induction n with
  | zero => exact fun _ _ _ _ => hr_none
  | succ n ih => exact fun l1 l2 l3 V0 => nlX4_walksOn_24 o  (lpX4_walksOn_24  n)  ih l1 l2 l3 V0
def ndX4_walksOn_2 (k2 : Int32 → Int32 → Int32 → hf_V → Option hf_V) (l1 : Int32) (l2 : Int32) (l3 : Int32) (V0 : hf_V) : Option hf_V :=
  if (2048 : Int32) ≤ l3 then (lpX4_walksOn_24 hf_N l1 l2 (0 : Int32) V0) else
  hf_sd 2048 l3 (fun j => hf_ua V0 28 j (0 : Int32)) fun V1 =>
  hf_let (l3 + (1 : Int32)) fun x2 =>
  k2 l1 l2 x2 V1
theorem nlX4_walksOn_2 {C : hf_X} {om : Nat} {b : hf_H} (o : hf_In C cX4_walksOn RX4 8 (none) 2 45) (k2 : Int32 → Int32 → Int32 → hf_V → Option hf_V) (hk2 : ∀ (l1 : Int32) (l2 : Int32) (l3 : Int32) (V0 : hf_V), hf_J C (hf_dMV om b) (k2 l1 l2 l3 V0) (hf_M om b V0) 2 [(0, .ref om), (1, .int l1), (2, .int l2), (3, .int l3)] []) (l1 : Int32) (l2 : Int32) (l3 : Int32) (V0 : hf_V) : hf_J C (hf_dMV om b) (ndX4_walksOn_2 k2 l1 l2 l3 V0) (hf_M om b V0) 2 [(0, .ref om), (1, .int l1), (2, .int l2), (3, .int l3)] [] := by
  refine hr_iload_n o 3 dX4_walksOn_2 rfl ?_
  refine hr_sipush o (2048 : Int32) dX4_walksOn_3 (by decide) ?_
  refine hr_icmp_ge o 22 dX4_walksOn_6 (by decide) (fun _ => ?_) (fun _ => ?_)
  · refine hr_iconst o (0 : Int32) dX4_walksOn_22 (by decide) ?_
    refine hr_istore_n o [(3, .int (0 : Int32)), (0, .ref om), (1, .int l1), (2, .int l2)] dX4_walksOn_23 (by decide) rfl ?_
    refine hr_sub [1, 2, 3, 0] rfl ?_
    exact llX4_walksOn_24 o hf_N l1 l2 (0 : Int32) V0
  refine hr_aload_n o 0 dX4_walksOn_9 rfl ?_
  refine mr_get o flX4_54 dX4_walksOn_10 (.ref (om + 15)) rfl ?_
  refine hr_iload_n o 3 dX4_walksOn_13 rfl ?_
  refine hr_iconst o (0 : Int32) dX4_walksOn_14 (by decide) ?_
  refine mr_iast o 28 15 2048 rfl (by decide) rfl dX4_walksOn_15 (fun V1 => ?_)
  refine hr_iincN o (1 : Int32) 3 (fun y => [(3, .int y), (0, .ref om), (1, .int l1), (2, .int l2)]) dX4_walksOn_16 rfl (by decide) (by decide) (fun y => rfl) (fun x2 => ?_)
  refine hr_goto o 2 dX4_walksOn_19 (by decide) ?_
  refine hr_sub [1, 2, 3, 0] rfl ?_
  exact hk2 l1 l2 x2 V1
def lpX4_walksOn_2  : Nat → Int32 → Int32 → Int32 → hf_V → Option hf_V
  | 0 => fun _ _ _ _ => none
  | n + 1 => fun l1 l2 l3 V0 => ndX4_walksOn_2  (lpX4_walksOn_2  n) l1 l2 l3 V0
theorem llX4_walksOn_2 {C : hf_X} {om : Nat} {b : hf_H} (o : hf_In C cX4_walksOn RX4 8 (none) 2 45)   (n : Nat) : ∀ (l1 : Int32) (l2 : Int32) (l3 : Int32) (V0 : hf_V), hf_J C (hf_dMV om b) ((lpX4_walksOn_2  n) l1 l2 l3 V0) (hf_M om b V0) 2 [(0, .ref om), (1, .int l1), (2, .int l2), (3, .int l3)] [] := by
  induction n with
  | zero => exact fun _ _ _ _ => hr_none
  | succ n ih => exact fun l1 l2 l3 V0 => nlX4_walksOn_2 o  (lpX4_walksOn_2  n)  ih l1 l2 l3 V0
def spX4_walksOn (l1 : Int32) (l2 : Int32) (V0 : hf_V) : Option hf_V :=
  lpX4_walksOn_2 hf_N l1 l2 (0 : Int32) V0
theorem jtX4_walksOn {C : hf_X} {om : Nat} {b : hf_H} (o : hf_In C cX4_walksOn RX4 8 (none) 2 45) (l1 : Int32) (l2 : Int32) (V0 : hf_V) : hf_J C (hf_dMV om b) (spX4_walksOn l1 l2 V0) (hf_M om b V0) 0 [(0, .ref om), (1, .int l1), (2, .int l2)] [] := by
  refine hr_iconst o (0 : Int32) dX4_walksOn_0 (by decide) ?_
  refine hr_istore_n o [(3, .int (0 : Int32)), (0, .ref om), (1, .int l1), (2, .int l2)] dX4_walksOn_1 (by decide) rfl ?_
  refine hr_sub [1, 2, 3, 0] rfl ?_
  exact llX4_walksOn_2 o hf_N l1 l2 (0 : Int32) V0
theorem mtX4_walksOn {om : Nat} {b : hf_H} (l1 : Int32) (l2 : Int32) (V0 V1 : hf_V) (e : spX4_walksOn l1 l2 V0 = some V1) : hf_Con yX4_walksOn cX4_walksOn 8 (none) 2 45 [.ref om, .int l1, .int l2] (hf_M om b V0) (.returned none, hf_M om b V1) := hf_entry (dec := hf_dMV om b) (by decide) [.ref om, .int l1, .int l2] (Nat.le_of_ble_eq_true rfl) [(0, .ref om), (1, .int l1), (2, .int l2)] rfl e (fun C o _ => jtX4_walksOn o l1 l2 V0)

/-! walksTill -/
theorem mvX4_424 : hf_MV RX4 424 RX4 yX4_walksOn cX4_walksOn 8 (none) 2 := ⟨lw_V q1929 q1931 qs138 q162 q1932, by decide +kernel⟩
def ndX4_walksTill_83 (k56 : Int32 → Int32 → hf_V → Option hf_V) (l2 : Int32) (l4 : Int32) (s1 : Int32) (s2 : Int32) (V0 : hf_V) : Option hf_V :=
  (spX4_walksOn s1 s2 V0).bind fun V1 =>
  hf_let (l4 + (1 : Int32)) fun x2 =>
  k56 l2 x2 V1
theorem nlX4_walksTill_83 {C : hf_X} {om : Nat} {b : hf_H} (o : hf_In C cX4_walksTill RX4 5 (none) 3 72) (k56 : Int32 → Int32 → hf_V → Option hf_V) (hk56 : ∀ (l2 : Int32) (l4 : Int32) (V0 : hf_V), hf_J C (hf_dMV om b) (k56 l2 l4 V0) (hf_M om b V0) 56 [(0, .ref om), (2, .int l2), (4, .int l4)] []) (l2 : Int32) (l4 : Int32) (s1 : Int32) (s2 : Int32) (V0 : hf_V) : hf_J C (hf_dMV om b) (ndX4_walksTill_83 k56 l2 l4 s1 s2 V0) (hf_M om b V0) 83 [(0, .ref om), (2, .int l2), (4, .int l4)] [.int s2, .int s1, .ref om] := by
  refine mr_callV o mvX4_424 dX4_walksTill_83 [.int s1, .int s2] (fun zV ze => mtX4_walksOn s1 s2 V0 zV ze) rfl rfl (Nat.le_of_ble_eq_true rfl) ⟨by decide, by decide⟩ (fun V1 => ?_)
  refine hr_iincN o (1 : Int32) 2 (fun y => [(4, .int y), (0, .ref om), (2, .int l2)]) dX4_walksTill_86 rfl (by decide) (by decide) (fun y => rfl) (fun x2 => ?_)
  refine hr_goto o 56 dX4_walksTill_89 (by decide) ?_
  refine hr_sub [1, 2, 0] rfl ?_
  exact hk56 l2 x2 V1
def ndX4_walksTill_56 (k56 : Int32 → Int32 → hf_V → Option hf_V) (l2 : Int32) (l4 : Int32) (V0 : hf_V) : Option hf_V :=
  if l2 ≤ l4 then (some V0) else
  (hf_ld 123 (V0.2.2.2.1 20) (3 : Int32)).bind fun x1 =>
  if l4 = (1 : Int32) then (ndX4_walksTill_83 k56 l2 l4 (x1 + l4) (1 : Int32) V0) else
  ndX4_walksTill_83 k56 l2 l4 (x1 + l4) (0 : Int32) V0
theorem nlX4_walksTill_56 {C : hf_X} {om : Nat} {b : hf_H} (o : hf_In C cX4_walksTill RX4 5 (none) 3 72) (k56 : Int32 → Int32 → hf_V → Option hf_V) (hk56 : ∀ (l2 : Int32) (l4 : Int32) (V0 : hf_V), hf_J C (hf_dMV om b) (k56 l2 l4 V0) (hf_M om b V0) 56 [(0, .ref om), (2, .int l2), (4, .int l4)] []) (l2 : Int32) (l4 : Int32) (V0 : hf_V) : hf_J C (hf_dMV om b) (ndX4_walksTill_56 k56 l2 l4 V0) (hf_M om b V0) 56 [(0, .ref om), (2, .int l2), (4, .int l4)] [] := by
  refine hr_iload o 2 dX4_walksTill_56 rfl ?_
  refine hr_iload_n o 1 dX4_walksTill_58 rfl ?_
  refine hr_icmp_ge o 92 dX4_walksTill_59 (by decide) (fun _ => ?_) (fun _ => ?_)
  · exact hr_vret o dX4_walksTill_92 rfl
  refine hr_aload_n o 0 dX4_walksTill_62 rfl ?_
  refine hr_aload_n o 0 dX4_walksTill_63 rfl ?_
  refine mr_get o flX4_39 dX4_walksTill_64 (.ref (om + 10)) rfl ?_
  refine hr_iconst o (3 : Int32) dX4_walksTill_67 (by decide) ?_
  refine mr_iald o 20 10 123 rfl (by decide) rfl dX4_walksTill_68 (fun x1 => ?_)
  refine hr_iload o 2 dX4_walksTill_69 rfl ?_
  refine hr_iadd o dX4_walksTill_71 ?_
  refine hr_iload o 2 dX4_walksTill_72 rfl ?_
  refine hr_iconst o (1 : Int32) dX4_walksTill_74 (by decide) ?_
  refine hr_icmp_ne o 82 dX4_walksTill_75 (by decide) (fun _ => ?_) (fun _ => ?_)
  · refine hr_iconst o (1 : Int32) dX4_walksTill_78 (by decide) ?_
    refine hr_goto o 83 dX4_walksTill_79 (by decide) ?_
    exact nlX4_walksTill_83 o k56 hk56 l2 l4 (x1 + l4) (1 : Int32) V0
  refine hr_iconst o (0 : Int32) dX4_walksTill_82 (by decide) ?_
  exact nlX4_walksTill_83 o k56 hk56 l2 l4 (x1 + l4) (0 : Int32) V0
def lpX4_walksTill_56  : Nat → Int32 → Int32 → hf_V → Option hf_V
  | 0 => fun _ _ _ => none
  | n + 1 => fun l2 l4 V0 => ndX4_walksTill_56  (lpX4_walksTill_56  n) l2 l4 V0
theorem llX4_walksTill_56 {C : hf_X} {om : Nat} {b : hf_H} (o : hf_In C cX4_walksTill RX4 5 (none) 3 72)   (n : Nat) : ∀ (l2 : Int32) (l4 : Int32) (V0 : hf_V), hf_J C (hf_dMV om b) ((lpX4_walksTill_56  n) l2 l4 V0) (hf_M om b V0) 56 [(0, .ref om), (2, .int l2), (4, .int l4)] [] := by
  induction n with
  | zero => exact fun _ _ _ => hr_none
  | succ n ih => exact fun l2 l4 V0 => nlX4_walksTill_56 o  (lpX4_walksTill_56  n)  ih l2 l4 V0
def ndX4_walksTill_2 (k2 : Int32 → Int32 → Int32 → hf_V → Option hf_V) (l1 : Int32) (l2 : Int32) (l3 : Int32) (V0 : hf_V) : Option hf_V :=
  if (2048 : Int32) ≤ l3 then (hf_b2 (spX4_buyerOf l1 (1 : Int32) V0) fun x2 V1 =>
  (hf_ld 123 (V1.2.2.2.1 20) (3 : Int32)).bind fun x3 =>
  hf_b2 (spX4_stallAt x2 x3 V1) fun x5 V4 =>
  (spX4_placeOf x2 ((1 : Int32) <<< (x5 &&& 31))).bind fun x6 =>
  hf_sd 2048 x6 (fun j => hf_ua V4 27 j (7 : Int32)) fun V7 =>
  lpX4_walksTill_56 hf_N l2 (1 : Int32) V7) else
  hf_sd 2048 l3 (fun j => hf_ua V0 27 j (0 : Int32)) fun V8 =>
  hf_let (l3 + (1 : Int32)) fun x9 =>
  k2 l1 l2 x9 V8
theorem nlX4_walksTill_2 {C : hf_X} {om : Nat} {b : hf_H} (o : hf_In C cX4_walksTill RX4 5 (none) 3 72) (k2 : Int32 → Int32 → Int32 → hf_V → Option hf_V) (hk2 : ∀ (l1 : Int32) (l2 : Int32) (l3 : Int32) (V0 : hf_V), hf_J C (hf_dMV om b) (k2 l1 l2 l3 V0) (hf_M om b V0) 2 [(0, .ref om), (1, .int l1), (2, .int l2), (3, .int l3)] []) (l1 : Int32) (l2 : Int32) (l3 : Int32) (V0 : hf_V) : hf_J C (hf_dMV om b) (ndX4_walksTill_2 k2 l1 l2 l3 V0) (hf_M om b V0) 2 [(0, .ref om), (1, .int l1), (2, .int l2), (3, .int l3)] [] := by
  refine hr_iload_n o 3 dX4_walksTill_2 rfl ?_
  refine hr_sipush o (2048 : Int32) dX4_walksTill_3 (by decide) ?_
  refine hr_icmp_ge o 22 dX4_walksTill_6 (by decide) (fun _ => ?_) (fun _ => ?_)
  · refine hr_aload_n o 0 dX4_walksTill_22 rfl ?_
    refine hr_iload_n o 1 dX4_walksTill_23 rfl ?_
    refine hr_iconst o (1 : Int32) dX4_walksTill_24 (by decide) ?_
    refine mr_callI o mvX4_314 dX4_walksTill_25 [.int l1, .int (1 : Int32)] (fun zr zV ze => mtX4_buyerOf l1 (1 : Int32) V0 zr zV ze) rfl rfl (Nat.le_of_ble_eq_true rfl) ⟨by decide, by decide⟩ (fun x2 V1 => ?_)
    refine hr_istore_n o [(3, .int x2), (0, .ref om), (1, .int l1), (2, .int l2)] dX4_walksTill_28 (by decide) rfl ?_
    refine hr_aload_n o 1 dX4_walksTill_29 rfl ?_
    refine mr_get o flX4_51 dX4_walksTill_30 (.ref (om + 14)) rfl ?_
    refine hr_iload_n o 0 dX4_walksTill_33 rfl ?_
    refine hr_iconst o (1 : Int32) dX4_walksTill_34 (by decide) ?_
    refine hr_aload_n o 1 dX4_walksTill_35 rfl ?_
    refine hr_iload_n o 0 dX4_walksTill_36 rfl ?_
    refine hr_aload_n o 1 dX4_walksTill_37 rfl ?_
    refine mr_get o flX4_39 dX4_walksTill_38 (.ref (om + 10)) rfl ?_
    refine hr_iconst o (3 : Int32) dX4_walksTill_41 (by decide) ?_
    refine mr_iald o 20 10 123 rfl (by decide) rfl dX4_walksTill_42 (fun x3 => ?_)
    refine mr_callI o mvX4_317 dX4_walksTill_43 [.int x2, .int x3] (fun zr zV ze => mtX4_stallAt x2 x3 V1 zr zV ze) rfl rfl (Nat.le_of_ble_eq_true rfl) ⟨by decide, by decide⟩ (fun x5 V4 => ?_)
    refine hr_ishl o dX4_walksTill_46 ?_
    refine pr_callI o msX4_421 dX4_walksTill_47 [.int x2, .int ((1 : Int32) <<< (x5 &&& 31))] (fun zr ze => mtX4_placeOf x2 ((1 : Int32) <<< (x5 &&& 31)) zr ze) rfl rfl (Nat.le_of_ble_eq_true rfl) ⟨by decide, by decide⟩ (fun x6 => ?_)
    refine hr_bipush o (7 : Int32) dX4_walksTill_50 (by decide) ?_
    refine mr_iast o 27 14 2048 rfl (by decide) rfl dX4_walksTill_52 (fun V7 => ?_)
    refine hr_iconst o (1 : Int32) dX4_walksTill_53 (by decide) ?_
    refine hr_istore o [(4, .int (1 : Int32)), (3, .int x2), (0, .ref om), (1, .int l1), (2, .int l2)] dX4_walksTill_54 (by decide) rfl ?_
    refine hr_sub [2, 4, 0] rfl ?_
    exact llX4_walksTill_56 o hf_N l2 (1 : Int32) V7
  refine hr_aload_n o 0 dX4_walksTill_9 rfl ?_
  refine mr_get o flX4_51 dX4_walksTill_10 (.ref (om + 14)) rfl ?_
  refine hr_iload_n o 3 dX4_walksTill_13 rfl ?_
  refine hr_iconst o (0 : Int32) dX4_walksTill_14 (by decide) ?_
  refine mr_iast o 27 14 2048 rfl (by decide) rfl dX4_walksTill_15 (fun V8 => ?_)
  refine hr_iincN o (1 : Int32) 3 (fun y => [(3, .int y), (0, .ref om), (1, .int l1), (2, .int l2)]) dX4_walksTill_16 rfl (by decide) (by decide) (fun y => rfl) (fun x9 => ?_)
  refine hr_goto o 2 dX4_walksTill_19 (by decide) ?_
  refine hr_sub [1, 2, 3, 0] rfl ?_
  exact hk2 l1 l2 x9 V8
def lpX4_walksTill_2  : Nat → Int32 → Int32 → Int32 → hf_V → Option hf_V
  | 0 => fun _ _ _ _ => none
  | n + 1 => fun l1 l2 l3 V0 => ndX4_walksTill_2  (lpX4_walksTill_2  n) l1 l2 l3 V0
theorem llX4_walksTill_2 {C : hf_X} {om : Nat} {b : hf_H} (o : hf_In C cX4_walksTill RX4 5 (none) 3 72)   (n : Nat) : ∀ (l1 : Int32) (l2 : Int32) (l3 : Int32) (V0 : hf_V), hf_J C (hf_dMV om b) ((lpX4_walksTill_2  n) l1 l2 l3 V0) (hf_M om b V0) 2 [(0, .ref om), (1, .int l1), (2, .int l2), (3, .int l3)] [] := by
  induction n with
  | zero => exact fun _ _ _ _ => hr_none
  | succ n ih => exact fun l1 l2 l3 V0 => nlX4_walksTill_2 o  (lpX4_walksTill_2  n)  ih l1 l2 l3 V0
def spX4_walksTill (l1 : Int32) (l2 : Int32) (V0 : hf_V) : Option hf_V :=
  lpX4_walksTill_2 hf_N l1 l2 (0 : Int32) V0
theorem jtX4_walksTill {C : hf_X} {om : Nat} {b : hf_H} (o : hf_In C cX4_walksTill RX4 5 (none) 3 72) (l1 : Int32) (l2 : Int32) (V0 : hf_V) : hf_J C (hf_dMV om b) (spX4_walksTill l1 l2 V0) (hf_M om b V0) 0 [(0, .ref om), (1, .int l1), (2, .int l2)] [] := by
  refine hr_iconst o (0 : Int32) dX4_walksTill_0 (by decide) ?_
  refine hr_istore_n o [(3, .int (0 : Int32)), (0, .ref om), (1, .int l1), (2, .int l2)] dX4_walksTill_1 (by decide) rfl ?_
  refine hr_sub [1, 2, 3, 0] rfl ?_
  exact llX4_walksTill_2 o hf_N l1 l2 (0 : Int32) V0
theorem mtX4_walksTill {om : Nat} {b : hf_H} (l1 : Int32) (l2 : Int32) (V0 V1 : hf_V) (e : spX4_walksTill l1 l2 V0 = some V1) : hf_Con yX4_walksTill cX4_walksTill 5 (none) 3 72 [.ref om, .int l1, .int l2] (hf_M om b V0) (.returned none, hf_M om b V1) := hf_entry (dec := hf_dMV om b) (by decide) [.ref om, .int l1, .int l2] (Nat.le_of_ble_eq_true rfl) [(0, .ref om), (1, .int l1), (2, .int l2)] rfl e (fun C o _ => jtX4_walksTill o l1 l2 V0)

/-! walk -/
theorem mvX4_445 : hf_MV RX4 445 RX4 yX4_offers cX4_offers 8 (none) 2 := ⟨lw_V q1933 q1935 qs139 q162 q1936, by decide +kernel⟩
theorem mvX4_442 : hf_MV RX4 442 RX4 yX4_walksTill cX4_walksTill 5 (none) 2 := ⟨lw_V q1922 q1924 qs137 q162 q1925, by decide +kernel⟩
def ndX4_walk_148 (k118 : Int32 → Int32 → Int32 → Int32 → hf_V → Option (Int32 × hf_V)) (l1 : Int32) (l2 : Int32) (l4 : Int32) (l5 : Int32) (V0 : hf_V) : Option (Int32 × hf_V) :=
  hf_let (l5 + (1 : Int32)) fun x1 =>
  k118 l1 l2 l4 x1 V0
theorem nlX4_walk_148 {C : hf_X} {om : Nat} {b : hf_H} (o : hf_In C cX4_walk RX4 6 (some .int) 4 96) (k118 : Int32 → Int32 → Int32 → Int32 → hf_V → Option (Int32 × hf_V)) (hk118 : ∀ (l1 : Int32) (l2 : Int32) (l4 : Int32) (l5 : Int32) (V0 : hf_V), hf_J C (hf_dMI om b) (k118 l1 l2 l4 l5 V0) (hf_M om b V0) 118 [(0, .ref om), (1, .int l1), (2, .int l2), (4, .int l4), (5, .int l5)] []) (l1 : Int32) (l2 : Int32) (l4 : Int32) (l5 : Int32) (V0 : hf_V) : hf_J C (hf_dMI om b) (ndX4_walk_148 k118 l1 l2 l4 l5 V0) (hf_M om b V0) 148 [(0, .ref om), (1, .int l1), (2, .int l2), (4, .int l4), (5, .int l5)] [] := by
  refine hr_iincN o (1 : Int32) 4 (fun y => [(5, .int y), (0, .ref om), (1, .int l1), (2, .int l2), (4, .int l4)]) dX4_walk_148 rfl (by decide) (by decide) (fun y => rfl) (fun x1 => ?_)
  refine hr_goto o 118 dX4_walk_151 (by decide) ?_
  refine hr_sub [1, 2, 3, 4, 0] rfl ?_
  exact hk118 l1 l2 l4 x1 V0
def ndX4_walk_118 (k118 : Int32 → Int32 → Int32 → Int32 → hf_V → Option (Int32 × hf_V)) (l1 : Int32) (l2 : Int32) (l4 : Int32) (l5 : Int32) (V0 : hf_V) : Option (Int32 × hf_V) :=
  (hf_ld 123 (V0.2.2.2.1 20) (1 : Int32)).bind fun x1 =>
  if ((1 : Int32) <<< (x1 &&& 31)) ≤ l5 then (if l2 = 0 then (some ((V0.1 29), V0)) else
  if l2 = (1 : Int32) then (some ((V0.1 30), V0)) else
  some ((V0.1 31), V0)) else
  if (l5 &&& (l4 ^^^ (-1 : Int32))) = 0 then ((spX4_offers l1 l5 V0).bind fun V2 =>
  ndX4_walk_148 k118 l1 l2 l4 l5 V2) else
  ndX4_walk_148 k118 l1 l2 l4 l5 V0
theorem nlX4_walk_118 {C : hf_X} {om : Nat} {b : hf_H} (o : hf_In C cX4_walk RX4 6 (some .int) 4 96) (k118 : Int32 → Int32 → Int32 → Int32 → hf_V → Option (Int32 × hf_V)) (hk118 : ∀ (l1 : Int32) (l2 : Int32) (l4 : Int32) (l5 : Int32) (V0 : hf_V), hf_J C (hf_dMI om b) (k118 l1 l2 l4 l5 V0) (hf_M om b V0) 118 [(0, .ref om), (1, .int l1), (2, .int l2), (4, .int l4), (5, .int l5)] []) (l1 : Int32) (l2 : Int32) (l4 : Int32) (l5 : Int32) (V0 : hf_V) : hf_J C (hf_dMI om b) (ndX4_walk_118 k118 l1 l2 l4 l5 V0) (hf_M om b V0) 118 [(0, .ref om), (1, .int l1), (2, .int l2), (4, .int l4), (5, .int l5)] [] := by
  refine hr_iload o 4 dX4_walk_118 rfl ?_
  refine hr_iconst o (1 : Int32) dX4_walk_120 (by decide) ?_
  refine hr_aload_n o 0 dX4_walk_121 rfl ?_
  refine mr_get o flX4_39 dX4_walk_122 (.ref (om + 10)) rfl ?_
  refine hr_iconst o (1 : Int32) dX4_walk_125 (by decide) ?_
  refine mr_iald o 20 10 123 rfl (by decide) rfl dX4_walk_126 (fun x1 => ?_)
  refine hr_ishl o dX4_walk_127 ?_
  refine hr_icmp_ge o 154 dX4_walk_128 (by decide) (fun _ => ?_) (fun _ => ?_)
  · refine hr_iload_n o 2 dX4_walk_154 rfl ?_
    refine hr_if_ne o 165 dX4_walk_155 (by decide) (fun _ => ?_) (fun _ => ?_)
    · refine hr_aload_n o 0 dX4_walk_158 rfl ?_
      refine mr_get o flX4_428 dX4_walk_159 (.int (V0.1 29)) rfl ?_
      refine hr_goto o 181 dX4_walk_162 (by decide) ?_
      exact hr_iret o dX4_walk_181 rfl rfl
    refine hr_iload_n o 2 dX4_walk_165 rfl ?_
    refine hr_iconst o (1 : Int32) dX4_walk_166 (by decide) ?_
    refine hr_icmp_ne o 177 dX4_walk_167 (by decide) (fun _ => ?_) (fun _ => ?_)
    · refine hr_aload_n o 0 dX4_walk_170 rfl ?_
      refine mr_get o flX4_434 dX4_walk_171 (.int (V0.1 30)) rfl ?_
      refine hr_goto o 181 dX4_walk_174 (by decide) ?_
      exact hr_iret o dX4_walk_181 rfl rfl
    refine hr_aload_n o 0 dX4_walk_177 rfl ?_
    refine mr_get o flX4_437 dX4_walk_178 (.int (V0.1 31)) rfl ?_
    exact hr_iret o dX4_walk_181 rfl rfl
  refine hr_iload o 4 dX4_walk_131 rfl ?_
  refine hr_iload o 3 dX4_walk_133 rfl ?_
  refine hr_iconst o (-1 : Int32) dX4_walk_135 (by decide) ?_
  refine hr_ixor o dX4_walk_136 ?_
  refine hr_iand o dX4_walk_137 ?_
  refine hr_if_ne o 148 dX4_walk_138 (by decide) (fun _ => ?_) (fun _ => ?_)
  · refine hr_aload_n o 0 dX4_walk_141 rfl ?_
    refine hr_iload_n o 1 dX4_walk_142 rfl ?_
    refine hr_iload o 4 dX4_walk_143 rfl ?_
    refine mr_callV o mvX4_445 dX4_walk_145 [.int l1, .int l5] (fun zV ze => mtX4_offers l1 l5 V0 zV ze) rfl rfl (Nat.le_of_ble_eq_true rfl) ⟨by decide, by decide⟩ (fun V2 => ?_)
    exact nlX4_walk_148 o k118 hk118 l1 l2 l4 l5 V2
  exact nlX4_walk_148 o k118 hk118 l1 l2 l4 l5 V0
def lpX4_walk_118  : Nat → Int32 → Int32 → Int32 → Int32 → hf_V → Option (Int32 × hf_V)
  | 0 => fun _ _ _ _ _ => none
  | n + 1 => fun l1 l2 l4 l5 V0 => ndX4_walk_118  (lpX4_walk_118  n) l1 l2 l4 l5 V0
theorem llX4_walk_118 {C : hf_X} {om : Nat} {b : hf_H} (o : hf_In C cX4_walk RX4 6 (some .int) 4 96)   (n : Nat) : ∀ (l1 : Int32) (l2 : Int32) (l4 : Int32) (l5 : Int32) (V0 : hf_V), hf_J C (hf_dMI om b) ((lpX4_walk_118  n) l1 l2 l4 l5 V0) (hf_M om b V0) 118 [(0, .ref om), (1, .int l1), (2, .int l2), (4, .int l4), (5, .int l5)] [] := by
  induction n with
  | zero => exact fun _ _ _ _ _ => hr_none
  | succ n ih => exact fun l1 l2 l4 l5 V0 => nlX4_walk_118 o  (lpX4_walk_118  n)  ih l1 l2 l4 l5 V0
def ndX4_walk_48  (l1 : Int32) (l2 : Int32) (s0 : Int32) (V0 : hf_V) : Option (Int32 × hf_V) :=
  if s0 ≤ (12 : Int32) then (if s0 = 0 then (if l2 = 0 then (hf_b2 (spX4_hasOf l1 V0) fun x6 V5 =>
  (hf_ld 4096 (V5.2.2.2.1 22) x6).bind fun x7 =>
  hf_b2 (spX4_buyerOf l1 (0 : Int32) V5) fun x9 V8 =>
  some ((x7 + x9), V8)) else
  if l2 = (1 : Int32) then (some ((-2 : Int32), V0)) else
  some ((0 : Int32), V0)) else
  (spX4_walksTill l1 s0 V0).bind fun V1 =>
  hf_let (hf_ui V1 29 (-1 : Int32)) fun V2 =>
  hf_b2 (spX4_atStalls V2) fun x4 V3 =>
  lpX4_walk_118 hf_N l1 l2 x4 (0 : Int32) V3) else
  some ((-4 : Int32), V0)
theorem nlX4_walk_48 {C : hf_X} {om : Nat} {b : hf_H} (o : hf_In C cX4_walk RX4 6 (some .int) 4 96)   (l1 : Int32) (l2 : Int32) (s0 : Int32) (V0 : hf_V) : hf_J C (hf_dMI om b) (ndX4_walk_48 l1 l2 s0 V0) (hf_M om b V0) 48 [(0, .ref om), (1, .int l1), (2, .int l2)] [.int s0] := by
  refine hr_istore_n o [(3, .int s0), (0, .ref om), (1, .int l1), (2, .int l2)] dX4_walk_48 (by decide) rfl ?_
  refine hr_iload_n o 0 dX4_walk_49 rfl ?_
  refine hr_bipush o (12 : Int32) dX4_walk_50 (by decide) ?_
  refine hr_icmp_le o 58 dX4_walk_52 (by decide) (fun _ => ?_) (fun _ => ?_)
  · refine hr_iload_n o 0 dX4_walk_58 rfl ?_
    refine hr_if_ne o 98 dX4_walk_59 (by decide) (fun _ => ?_) (fun _ => ?_)
    · refine hr_iload_n o 3 dX4_walk_62 rfl ?_
      refine hr_if_ne o 86 dX4_walk_63 (by decide) (fun _ => ?_) (fun _ => ?_)
      · refine hr_aload_n o 1 dX4_walk_66 rfl ?_
        refine mr_get o flX4_42 dX4_walk_67 (.ref (om + 11)) rfl ?_
        refine hr_aload_n o 1 dX4_walk_70 rfl ?_
        refine hr_iload_n o 2 dX4_walk_71 rfl ?_
        refine mr_callI o mvX4_346 dX4_walk_72 [.int l1] (fun zr zV ze => mtX4_hasOf l1 V0 zr zV ze) rfl rfl (Nat.le_of_ble_eq_true rfl) ⟨by decide, by decide⟩ (fun x6 V5 => ?_)
        refine mr_iald o 22 11 4096 rfl (by decide) rfl dX4_walk_75 (fun x7 => ?_)
        refine hr_aload_n o 1 dX4_walk_76 rfl ?_
        refine hr_iload_n o 2 dX4_walk_77 rfl ?_
        refine hr_iconst o (0 : Int32) dX4_walk_78 (by decide) ?_
        refine mr_callI o mvX4_314 dX4_walk_79 [.int l1, .int (0 : Int32)] (fun zr zV ze => mtX4_buyerOf l1 (0 : Int32) V5 zr zV ze) rfl rfl (Nat.le_of_ble_eq_true rfl) ⟨by decide, by decide⟩ (fun x9 V8 => ?_)
        refine hr_iadd o dX4_walk_82 ?_
        refine hr_goto o 97 dX4_walk_83 (by decide) ?_
        exact hr_iret o dX4_walk_97 rfl rfl
      refine hr_iload_n o 3 dX4_walk_86 rfl ?_
      refine hr_iconst o (1 : Int32) dX4_walk_87 (by decide) ?_
      refine hr_icmp_ne o 96 dX4_walk_88 (by decide) (fun _ => ?_) (fun _ => ?_)
      · refine hr_bipush o (-2 : Int32) dX4_walk_91 (by decide) ?_
        refine hr_goto o 97 dX4_walk_93 (by decide) ?_
        exact hr_iret o dX4_walk_97 rfl rfl
      refine hr_iconst o (0 : Int32) dX4_walk_96 (by decide) ?_
      exact hr_iret o dX4_walk_97 rfl rfl
    refine hr_aload_n o 1 dX4_walk_98 rfl ?_
    refine hr_iload_n o 2 dX4_walk_99 rfl ?_
    refine hr_iload_n o 0 dX4_walk_100 rfl ?_
    refine mr_callV o mvX4_442 dX4_walk_101 [.int l1, .int s0] (fun zV ze => mtX4_walksTill l1 s0 V0 zV ze) rfl rfl (Nat.le_of_ble_eq_true rfl) ⟨by decide, by decide⟩ (fun V1 => ?_)
    refine hr_aload_n o 1 dX4_walk_104 rfl ?_
    refine hr_iconst o (-1 : Int32) dX4_walk_105 (by decide) ?_
    refine mr_putI o flX4_428 dX4_walk_106 nf_4_29 rfl rfl (fun V2 => ?_)
    refine hr_aload_n o 1 dX4_walk_109 rfl ?_
    refine mr_callI o mvX4_387 dX4_walk_110 [] (fun zr zV ze => mtX4_atStalls  V2 zr zV ze) rfl rfl (Nat.le_of_ble_eq_true rfl) ⟨by decide, by decide⟩ (fun x4 V3 => ?_)
    refine hr_istore o [(4, .int x4), (3, .int s0), (0, .ref om), (1, .int l1), (2, .int l2)] dX4_walk_113 (by decide) rfl ?_
    refine hr_iconst o (0 : Int32) dX4_walk_115 (by decide) ?_
    refine hr_istore o [(5, .int (0 : Int32)), (4, .int x4), (3, .int s0), (0, .ref om), (1, .int l1), (2, .int l2)] dX4_walk_116 (by decide) rfl ?_
    refine hr_sub [3, 4, 5, 1, 0] rfl ?_
    exact llX4_walk_118 o hf_N l1 l2 x4 (0 : Int32) V3
  refine hr_bipush o (-4 : Int32) dX4_walk_55 (by decide) ?_
  exact hr_iret o dX4_walk_57 rfl rfl
def spX4_walk (l1 : Int32) (l2 : Int32) (V0 : hf_V) : Option (Int32 × hf_V) :=
  hf_b2 (spX4_isBuyer l1 V0) fun x2 V1 =>
  if x2 = 0 then (some ((-3 : Int32), V1)) else
  (spX4_in (Int32.toInt64 l2) (0 : Int64) (2 : Int64)).bind fun x3 =>
  if x3 = 0 then (some ((-3 : Int32), V1)) else
  hf_b2 (spX4_isDusk V1) fun x5 V4 =>
  if x5 = 0 then ((hf_ld 123 (V4.2.2.2.1 20) (6 : Int32)).bind fun x6 =>
  (hf_ld 123 (V4.2.2.2.1 20) (3 : Int32)).bind fun x7 =>
  ndX4_walk_48 l1 l2 (x6 - x7) V4) else
  ndX4_walk_48 l1 l2 (0 : Int32) V4
theorem jtX4_walk {C : hf_X} {om : Nat} {b : hf_H} (o : hf_In C cX4_walk RX4 6 (some .int) 4 96) (l1 : Int32) (l2 : Int32) (V0 : hf_V) : hf_J C (hf_dMI om b) (spX4_walk l1 l2 V0) (hf_M om b V0) 0 [(0, .ref om), (1, .int l1), (2, .int l2)] [] := by
  refine hr_aload_n o 0 dX4_walk_0 rfl ?_
  refine hr_iload_n o 1 dX4_walk_1 rfl ?_
  refine mr_callI o mvX4_343 dX4_walk_2 [.int l1] (fun zr zV ze => mtX4_isBuyer l1 V0 zr zV ze) rfl rfl (Nat.le_of_ble_eq_true rfl) ⟨by decide, by decide⟩ (fun x2 V1 => ?_)
  refine hr_if_eq o 20 dX4_walk_5 (by decide) (fun _ => ?_) (fun _ => ?_)
  · refine hr_bipush o (-3 : Int32) dX4_walk_20 (by decide) ?_
    exact hr_iret o dX4_walk_22 rfl rfl
  refine hr_iload_n o 2 dX4_walk_8 rfl ?_
  refine hr_i2l o dX4_walk_9 ?_
  refine hr_lconst o (0 : Int64) dX4_walk_10 (by decide) ?_
  refine hr_ldc2 o (2 : Int64) q1921 dX4_walk_11 ?_
  refine pr_callI o msX4_109 dX4_walk_14 [.long (Int32.toInt64 l2), .long (0 : Int64), .long (2 : Int64)] (fun zr ze => mtX4_in (Int32.toInt64 l2) (0 : Int64) (2 : Int64) zr ze) rfl rfl (Nat.le_of_ble_eq_true rfl) ⟨by decide, by decide⟩ (fun x3 => ?_)
  refine hr_if_ne o 23 dX4_walk_17 (by decide) (fun _ => ?_) (fun _ => ?_)
  · refine hr_bipush o (-3 : Int32) dX4_walk_20 (by decide) ?_
    exact hr_iret o dX4_walk_22 rfl rfl
  refine hr_aload_n o 0 dX4_walk_23 rfl ?_
  refine mr_callI o mvX4_298 dX4_walk_24 [] (fun zr zV ze => mtX4_isDusk  V1 zr zV ze) rfl rfl (Nat.le_of_ble_eq_true rfl) ⟨by decide, by decide⟩ (fun x5 V4 => ?_)
  refine hr_if_eq o 34 dX4_walk_27 (by decide) (fun _ => ?_) (fun _ => ?_)
  · refine hr_aload_n o 0 dX4_walk_34 rfl ?_
    refine mr_get o flX4_39 dX4_walk_35 (.ref (om + 10)) rfl ?_
    refine hr_bipush o (6 : Int32) dX4_walk_38 (by decide) ?_
    refine mr_iald o 20 10 123 rfl (by decide) rfl dX4_walk_40 (fun x6 => ?_)
    refine hr_aload_n o 0 dX4_walk_41 rfl ?_
    refine mr_get o flX4_39 dX4_walk_42 (.ref (om + 10)) rfl ?_
    refine hr_iconst o (3 : Int32) dX4_walk_45 (by decide) ?_
    refine mr_iald o 20 10 123 rfl (by decide) rfl dX4_walk_46 (fun x7 => ?_)
    refine hr_isub o dX4_walk_47 ?_
    exact nlX4_walk_48 o l1 l2 (x6 - x7) V4
  refine hr_iconst o (0 : Int32) dX4_walk_30 (by decide) ?_
  refine hr_goto o 48 dX4_walk_31 (by decide) ?_
  exact nlX4_walk_48 o l1 l2 (0 : Int32) V4
theorem mtX4_walk {om : Nat} {b : hf_H} (l1 : Int32) (l2 : Int32) (V0 : hf_V) (r : Int32) (V1 : hf_V) (e : spX4_walk l1 l2 V0 = some (r, V1)) : hf_Con yX4_walk cX4_walk 6 (some .int) 4 96 [.ref om, .int l1, .int l2] (hf_M om b V0) (.returned (some (.int r)), hf_M om b V1) := hf_entry (dec := hf_dMI om b) (by decide) [.ref om, .int l1, .int l2] (Nat.le_of_ble_eq_true rfl) [(0, .ref om), (1, .int l1), (2, .int l2)] rfl e (fun C o _ => jtX4_walk o l1 l2 V0)

/-! divisor -/
def ndX4_divisor_4 (k4 : Int32 → Int32 → Option Int32) (l2 : Int32) (l3 : Int32) : Option Int32 :=
  if l3 = 0 then (some l2) else
  if l3 = 0 then none else
  hf_let (l2 - l2 / l3 * l3) fun x1 =>
  k4 l3 x1
theorem nlX4_divisor_4 {C : hf_X} {h : hf_H} (o : hf_In C cX4_divisor RX4 5 (some .int) 0 0) (k4 : Int32 → Int32 → Option Int32) (hk4 : ∀ (l2 : Int32) (l3 : Int32), hf_J C (hf_dPI h) (k4 l2 l3) h 4 [(2, .int l2), (3, .int l3)] []) (l2 : Int32) (l3 : Int32) : hf_J C (hf_dPI h) (ndX4_divisor_4 k4 l2 l3) h 4 [(2, .int l2), (3, .int l3)] [] := by
  refine hr_iload_n o 1 dX4_divisor_4 rfl ?_
  refine hr_if_eq o 21 dX4_divisor_5 (by decide) (fun _ => ?_) (fun _ => ?_)
  · refine hr_iload_n o 0 dX4_divisor_21 rfl ?_
    exact hr_iret o dX4_divisor_22 rfl rfl
  refine hr_iload_n o 0 dX4_divisor_8 rfl ?_
  refine hr_iload_n o 1 dX4_divisor_9 rfl ?_
  refine hr_irem o dX4_divisor_10 (fun _ => ?_)
  refine hr_nmI (fun x1 => ?_)
  refine hr_istore o [(4, .int x1), (2, .int l2), (3, .int l3)] dX4_divisor_11 (by decide) rfl ?_
  refine hr_iload_n o 2 dX4_divisor_13 rfl ?_
  refine hr_istore_n o [(2, .int l3), (4, .int x1), (3, .int l3)] dX4_divisor_14 (by decide) rfl ?_
  refine hr_iload o 1 dX4_divisor_15 rfl ?_
  refine hr_istore_n o [(3, .int x1), (2, .int l3), (4, .int x1)] dX4_divisor_17 (by decide) rfl ?_
  refine hr_goto o 4 dX4_divisor_18 (by decide) ?_
  refine hr_sub [1, 0] rfl ?_
  exact hk4 l3 x1
def lpX4_divisor_4  : Nat → Int32 → Int32 → Option Int32
  | 0 => fun _ _ => none
  | n + 1 => fun l2 l3 => ndX4_divisor_4  (lpX4_divisor_4  n) l2 l3
theorem llX4_divisor_4 {C : hf_X} {h : hf_H} (o : hf_In C cX4_divisor RX4 5 (some .int) 0 0)   (n : Nat) : ∀ (l2 : Int32) (l3 : Int32), hf_J C (hf_dPI h) ((lpX4_divisor_4  n) l2 l3) h 4 [(2, .int l2), (3, .int l3)] [] := by
  induction n with
  | zero => exact fun _ _ => hr_none
  | succ n ih => exact fun l2 l3 => nlX4_divisor_4 o  (lpX4_divisor_4  n)  ih l2 l3
def spX4_divisor (l0 : Int32) (l1 : Int32) : Option Int32 :=
  lpX4_divisor_4 hf_N l0 l1
theorem jtX4_divisor {C : hf_X} {h : hf_H} (o : hf_In C cX4_divisor RX4 5 (some .int) 0 0) (l0 : Int32) (l1 : Int32) : hf_J C (hf_dPI h) (spX4_divisor l0 l1) h 0 [(0, .int l0), (1, .int l1)] [] := by
  refine hr_iload_n o 0 dX4_divisor_0 rfl ?_
  refine hr_istore_n o [(2, .int l0), (0, .int l0), (1, .int l1)] dX4_divisor_1 (by decide) rfl ?_
  refine hr_iload_n o 2 dX4_divisor_2 rfl ?_
  refine hr_istore_n o [(3, .int l1), (2, .int l0), (0, .int l0), (1, .int l1)] dX4_divisor_3 (by decide) rfl ?_
  refine hr_sub [1, 0] rfl ?_
  exact llX4_divisor_4 o hf_N l0 l1
theorem mtX4_divisor {h : hf_H} (l0 : Int32) (l1 : Int32) (r : Int32) (e : spX4_divisor l0 l1 = some r) : hf_Con yX4_divisor cX4_divisor 5 (some .int) 0 0 [.int l0, .int l1] h (.returned (some (.int r)), h) := hf_entry (dec := hf_dPI h) (by decide) [.int l0, .int l1] (Nat.le_of_ble_eq_true rfl) [(0, .int l0), (1, .int l1)] rfl e (fun C o _ => jtX4_divisor o l0 l1)

/-! unseen -/
def spX4_unseen (l1 : Int32) (V0 : hf_V) : Option (Int32 × hf_V) :=
  hf_b2 (spX4_atStalls V0) fun x2 V1 =>
  hf_b2 (spX4_sawOf l1 V1) fun x4 V3 =>
  some ((x2 &&& (x4 ^^^ (-1 : Int32))), V3)
theorem jtX4_unseen {C : hf_X} {om : Nat} {b : hf_H} (o : hf_In C cX4_unseen RX4 2 (some .int) 2 45) (l1 : Int32) (V0 : hf_V) : hf_J C (hf_dMI om b) (spX4_unseen l1 V0) (hf_M om b V0) 0 [(0, .ref om), (1, .int l1)] [] := by
  refine hr_aload_n o 0 dX4_unseen_0 rfl ?_
  refine mr_callI o mvX4_387 dX4_unseen_1 [] (fun zr zV ze => mtX4_atStalls  V0 zr zV ze) rfl rfl (Nat.le_of_ble_eq_true rfl) ⟨by decide, by decide⟩ (fun x2 V1 => ?_)
  refine hr_aload_n o 0 dX4_unseen_4 rfl ?_
  refine hr_iload_n o 1 dX4_unseen_5 rfl ?_
  refine mr_callI o mvX4_349 dX4_unseen_6 [.int l1] (fun zr zV ze => mtX4_sawOf l1 V1 zr zV ze) rfl rfl (Nat.le_of_ble_eq_true rfl) ⟨by decide, by decide⟩ (fun x4 V3 => ?_)
  refine hr_iconst o (-1 : Int32) dX4_unseen_9 (by decide) ?_
  refine hr_ixor o dX4_unseen_10 ?_
  refine hr_iand o dX4_unseen_11 ?_
  exact hr_iret o dX4_unseen_12 rfl rfl
theorem mtX4_unseen {om : Nat} {b : hf_H} (l1 : Int32) (V0 : hf_V) (r : Int32) (V1 : hf_V) (e : spX4_unseen l1 V0 = some (r, V1)) : hf_Con yX4_unseen cX4_unseen 2 (some .int) 2 45 [.ref om, .int l1] (hf_M om b V0) (.returned (some (.int r)), hf_M om b V1) := hf_entry (dec := hf_dMI om b) (by decide) [.ref om, .int l1] (Nat.le_of_ble_eq_true rfl) [(0, .ref om), (1, .int l1)] rfl e (fun C o _ => jtX4_unseen o l1 V0)

/-! chance -/
theorem msX4_451 : hf_MS RX4 451 yX4_divisor cX4_divisor 5 (some .int) 2 := ⟨lw_S q1949 q1950 q162 q1951, by decide +kernel⟩
theorem mvX4_448 : hf_MV RX4 448 RX4 yX4_unseen cX4_unseen 2 (some .int) 1 := ⟨lw_V q1945 q1947 qs141 q162 q1948, by decide +kernel⟩
def ndX4_chance_69  (l4 : Int32) (l5 : Int32) (s0 : Int32) (V0 : hf_V) : Option (Int32 × hf_V) :=
  (spX4_divisor l4 l5).bind fun x1 =>
  if x1 = 0 then none else
  some ((s0 / x1), V0)
theorem nlX4_chance_69 {C : hf_X} {om : Nat} {b : hf_H} (o : hf_In C cX4_chance RX4 6 (some .int) 4 92)   (l4 : Int32) (l5 : Int32) (s0 : Int32) (V0 : hf_V) : hf_J C (hf_dMI om b) (ndX4_chance_69 l4 l5 s0 V0) (hf_M om b V0) 69 [(4, .int l4), (5, .int l5)] [.int s0] := by
  refine hr_iload o 0 dX4_chance_69 rfl ?_
  refine hr_iload o 1 dX4_chance_71 rfl ?_
  refine pr_callI o msX4_451 dX4_chance_73 [.int l4, .int l5] (fun zr ze => mtX4_divisor l4 l5 zr ze) rfl rfl (Nat.le_of_ble_eq_true rfl) ⟨by decide, by decide⟩ (fun x1 => ?_)
  refine hr_idiv o dX4_chance_76 (fun _ => ?_)
  exact hr_iret o dX4_chance_77 rfl rfl
def spX4_chance (l1 : Int32) (l2 : Int32) (l3 : Int32) (V0 : hf_V) : Option (Int32 × hf_V) :=
  hf_b2 (spX4_isBuyer l1 V0) fun x2 V1 =>
  if x2 = 0 then (some ((-1 : Int32), V1)) else
  hf_b2 (spX4_isHalf l2 V1) fun x4 V3 =>
  if x4 = 0 then (some ((-1 : Int32), V3)) else
  (spX4_in (Int32.toInt64 l3) (0 : Int64) (1 : Int64)).bind fun x5 =>
  if x5 = 0 then (some ((-1 : Int32), V3)) else
  hf_b2 (spX4_unseen l1 V3) fun x7 V6 =>
  (spX4_bits x7).bind fun x8 =>
  hf_b2 (spX4_unseen l1 V6) fun x10 V9 =>
  hf_b2 (spX4_fitting x10 l2 (2 : Int32) V9) fun x12 V11 =>
  if x8 = 0 then (some (l3, V11)) else
  if l3 = 0 then (ndX4_chance_69 x8 x12 x12 V11) else
  ndX4_chance_69 x8 x12 x8 V11
theorem jtX4_chance {C : hf_X} {om : Nat} {b : hf_H} (o : hf_In C cX4_chance RX4 6 (some .int) 4 92) (l1 : Int32) (l2 : Int32) (l3 : Int32) (V0 : hf_V) : hf_J C (hf_dMI om b) (spX4_chance l1 l2 l3 V0) (hf_M om b V0) 0 [(0, .ref om), (1, .int l1), (2, .int l2), (3, .int l3)] [] := by
  refine hr_aload_n o 0 dX4_chance_0 rfl ?_
  refine hr_iload_n o 1 dX4_chance_1 rfl ?_
  refine mr_callI o mvX4_343 dX4_chance_2 [.int l1] (fun zr zV ze => mtX4_isBuyer l1 V0 zr zV ze) rfl rfl (Nat.le_of_ble_eq_true rfl) ⟨by decide, by decide⟩ (fun x2 V1 => ?_)
  refine hr_if_eq o 26 dX4_chance_5 (by decide) (fun _ => ?_) (fun _ => ?_)
  · refine hr_iconst o (-1 : Int32) dX4_chance_26 (by decide) ?_
    exact hr_iret o dX4_chance_27 rfl rfl
  refine hr_aload_n o 0 dX4_chance_8 rfl ?_
  refine hr_iload_n o 2 dX4_chance_9 rfl ?_
  refine mr_callI o mvX4_335 dX4_chance_10 [.int l2] (fun zr zV ze => mtX4_isHalf l2 V1 zr zV ze) rfl rfl (Nat.le_of_ble_eq_true rfl) ⟨by decide, by decide⟩ (fun x4 V3 => ?_)
  refine hr_if_eq o 26 dX4_chance_13 (by decide) (fun _ => ?_) (fun _ => ?_)
  · refine hr_iconst o (-1 : Int32) dX4_chance_26 (by decide) ?_
    exact hr_iret o dX4_chance_27 rfl rfl
  refine hr_iload_n o 3 dX4_chance_16 rfl ?_
  refine hr_i2l o dX4_chance_17 ?_
  refine hr_lconst o (0 : Int64) dX4_chance_18 (by decide) ?_
  refine hr_lconst o (1 : Int64) dX4_chance_19 (by decide) ?_
  refine pr_callI o msX4_109 dX4_chance_20 [.long (Int32.toInt64 l3), .long (0 : Int64), .long (1 : Int64)] (fun zr ze => mtX4_in (Int32.toInt64 l3) (0 : Int64) (1 : Int64) zr ze) rfl rfl (Nat.le_of_ble_eq_true rfl) ⟨by decide, by decide⟩ (fun x5 => ?_)
  refine hr_if_ne o 28 dX4_chance_23 (by decide) (fun _ => ?_) (fun _ => ?_)
  · refine hr_iconst o (-1 : Int32) dX4_chance_26 (by decide) ?_
    exact hr_iret o dX4_chance_27 rfl rfl
  refine hr_aload_n o 0 dX4_chance_28 rfl ?_
  refine hr_iload_n o 1 dX4_chance_29 rfl ?_
  refine mr_callI o mvX4_448 dX4_chance_30 [.int l1] (fun zr zV ze => mtX4_unseen l1 V3 zr zV ze) rfl rfl (Nat.le_of_ble_eq_true rfl) ⟨by decide, by decide⟩ (fun x7 V6 => ?_)
  refine pr_callI o msX4_374 dX4_chance_33 [.int x7] (fun zr ze => mtX4_bits x7 zr ze) rfl rfl (Nat.le_of_ble_eq_true rfl) ⟨by decide, by decide⟩ (fun x8 => ?_)
  refine hr_istore o [(4, .int x8), (0, .ref om), (1, .int l1), (2, .int l2), (3, .int l3)] dX4_chance_36 (by decide) rfl ?_
  refine hr_aload_n o 1 dX4_chance_38 rfl ?_
  refine hr_aload_n o 1 dX4_chance_39 rfl ?_
  refine hr_iload_n o 2 dX4_chance_40 rfl ?_
  refine mr_callI o mvX4_448 dX4_chance_41 [.int l1] (fun zr zV ze => mtX4_unseen l1 V6 zr zV ze) rfl rfl (Nat.le_of_ble_eq_true rfl) ⟨by decide, by decide⟩ (fun x10 V9 => ?_)
  refine hr_iload_n o 3 dX4_chance_44 rfl ?_
  refine hr_iconst o (2 : Int32) dX4_chance_45 (by decide) ?_
  refine mr_callI o mvX4_383 dX4_chance_46 [.int x10, .int l2, .int (2 : Int32)] (fun zr zV ze => mtX4_fitting x10 l2 (2 : Int32) V9 zr zV ze) rfl rfl (Nat.le_of_ble_eq_true rfl) ⟨by decide, by decide⟩ (fun x12 V11 => ?_)
  refine hr_istore o [(5, .int x12), (4, .int x8), (0, .ref om), (1, .int l1), (2, .int l2), (3, .int l3)] dX4_chance_49 (by decide) rfl ?_
  refine hr_iload o 1 dX4_chance_51 rfl ?_
  refine hr_if_ne o 58 dX4_chance_53 (by decide) (fun _ => ?_) (fun _ => ?_)
  · refine hr_iload_n o 5 dX4_chance_56 rfl ?_
    exact hr_iret o dX4_chance_57 rfl rfl
  refine hr_iload_n o 5 dX4_chance_58 rfl ?_
  refine hr_if_ne o 67 dX4_chance_59 (by decide) (fun _ => ?_) (fun _ => ?_)
  · refine hr_iload o 0 dX4_chance_62 rfl ?_
    refine hr_goto o 69 dX4_chance_64 (by decide) ?_
    refine hr_sub [1, 0] rfl ?_
    exact nlX4_chance_69 o x8 x12 x12 V11
  refine hr_iload o 1 dX4_chance_67 rfl ?_
  refine hr_sub [1, 0] rfl ?_
  exact nlX4_chance_69 o x8 x12 x8 V11
theorem mtX4_chance {om : Nat} {b : hf_H} (l1 : Int32) (l2 : Int32) (l3 : Int32) (V0 : hf_V) (r : Int32) (V1 : hf_V) (e : spX4_chance l1 l2 l3 V0 = some (r, V1)) : hf_Con yX4_chance cX4_chance 6 (some .int) 4 92 [.ref om, .int l1, .int l2, .int l3] (hf_M om b V0) (.returned (some (.int r)), hf_M om b V1) := hf_entry (dec := hf_dMI om b) (by decide) [.ref om, .int l1, .int l2, .int l3] (Nat.le_of_ble_eq_true rfl) [(0, .ref om), (1, .int l1), (2, .int l2), (3, .int l3)] rfl e (fun C o _ => jtX4_chance o l1 l2 l3 V0)

/-! givesFor -/
def spX4_givesFor (l1 : Int32) (l2 : Int32) (V0 : hf_V) : Option (Int32 × hf_V) :=
  hf_b2 (spX4_hasOf l1 V0) fun x2 V1 =>
  (hf_ld 4096 (V1.2.2.2.1 22) (x2 ||| ((1 : Int32) <<< (l2 &&& 31)))).bind fun x3 =>
  hf_b2 (spX4_hasOf l1 V1) fun x5 V4 =>
  (hf_ld 4096 (V4.2.2.2.1 22) x5).bind fun x6 =>
  some ((x3 - x6), V4)
theorem jtX4_givesFor {C : hf_X} {om : Nat} {b : hf_H} (o : hf_In C cX4_givesFor RX4 3 (some .int) 2 45) (l1 : Int32) (l2 : Int32) (V0 : hf_V) : hf_J C (hf_dMI om b) (spX4_givesFor l1 l2 V0) (hf_M om b V0) 0 [(0, .ref om), (1, .int l1), (2, .int l2)] [] := by
  refine hr_aload_n o 0 dX4_givesFor_0 rfl ?_
  refine mr_get o flX4_42 dX4_givesFor_1 (.ref (om + 11)) rfl ?_
  refine hr_aload_n o 0 dX4_givesFor_4 rfl ?_
  refine hr_iload_n o 1 dX4_givesFor_5 rfl ?_
  refine mr_callI o mvX4_346 dX4_givesFor_6 [.int l1] (fun zr zV ze => mtX4_hasOf l1 V0 zr zV ze) rfl rfl (Nat.le_of_ble_eq_true rfl) ⟨by decide, by decide⟩ (fun x2 V1 => ?_)
  refine hr_iconst o (1 : Int32) dX4_givesFor_9 (by decide) ?_
  refine hr_iload_n o 2 dX4_givesFor_10 rfl ?_
  refine hr_ishl o dX4_givesFor_11 ?_
  refine hr_ior o dX4_givesFor_12 ?_
  refine mr_iald o 22 11 4096 rfl (by decide) rfl dX4_givesFor_13 (fun x3 => ?_)
  refine hr_aload_n o 0 dX4_givesFor_14 rfl ?_
  refine mr_get o flX4_42 dX4_givesFor_15 (.ref (om + 11)) rfl ?_
  refine hr_aload_n o 0 dX4_givesFor_18 rfl ?_
  refine hr_iload_n o 1 dX4_givesFor_19 rfl ?_
  refine mr_callI o mvX4_346 dX4_givesFor_20 [.int l1] (fun zr zV ze => mtX4_hasOf l1 V1 zr zV ze) rfl rfl (Nat.le_of_ble_eq_true rfl) ⟨by decide, by decide⟩ (fun x5 V4 => ?_)
  refine mr_iald o 22 11 4096 rfl (by decide) rfl dX4_givesFor_23 (fun x6 => ?_)
  refine hr_isub o dX4_givesFor_24 ?_
  exact hr_iret o dX4_givesFor_25 rfl rfl
theorem mtX4_givesFor {om : Nat} {b : hf_H} (l1 : Int32) (l2 : Int32) (V0 : hf_V) (r : Int32) (V1 : hf_V) (e : spX4_givesFor l1 l2 V0 = some (r, V1)) : hf_Con yX4_givesFor cX4_givesFor 3 (some .int) 2 45 [.ref om, .int l1, .int l2] (hf_M om b V0) (.returned (some (.int r)), hf_M om b V1) := hf_entry (dec := hf_dMI om b) (by decide) [.ref om, .int l1, .int l2] (Nat.le_of_ble_eq_true rfl) [(0, .ref om), (1, .int l1), (2, .int l2)] rfl e (fun C o _ => jtX4_givesFor o l1 l2 V0)

/-! yields -/
theorem mvX4_454 : hf_MV RX4 454 RX4 yX4_givesFor cX4_givesFor 3 (some .int) 2 := ⟨lw_V q1956 q1958 qs142 q162 q1959, by decide +kernel⟩
def spX4_yields (l1 : Int32) (l2 : Int32) (l3 : Int32) (l4 : Int32) (l5 : Int32) (V0 : hf_V) : Option (Int32 × hf_V) :=
  hf_b2 (spX4_areTheirs l1 l2 l3 l4 V0) fun x2 V1 =>
  if x2 = 0 then (some ((-1 : Int32), V1)) else
  hf_b2 (spX4_fitOf l2 l4 V1) fun x4 V3 =>
  if x4 = 0 then (some ((-1 : Int32), V3)) else
  (spX4_in (Int32.toInt64 l5) (0 : Int64) (1 : Int64)).bind fun x5 =>
  if x5 = 0 then (some ((-1 : Int32), V3)) else
  hf_b2 (spX4_givesFor l1 l4 V3) fun x7 V6 =>
  hf_b2 (spX4_givesFor l3 l2 V6) fun x9 V8 =>
  if l5 = (1 : Int32) then (if (2 : Int32) = 0 then none else
  some (((x7 + x9) / (2 : Int32)), V8)) else
  if x9 ≤ x7 then (if x7 ≤ x9 then (if l3 ≤ l1 then (some (l3, V8)) else
  some (l1, V8)) else
  some (l3, V8)) else
  some (l1, V8)
theorem jtX4_yields {C : hf_X} {om : Nat} {b : hf_H} (o : hf_In C cX4_yields RX4 8 (some .int) 3 67) (l1 : Int32) (l2 : Int32) (l3 : Int32) (l4 : Int32) (l5 : Int32) (V0 : hf_V) : hf_J C (hf_dMI om b) (spX4_yields l1 l2 l3 l4 l5 V0) (hf_M om b V0) 0 [(0, .ref om), (1, .int l1), (2, .int l2), (3, .int l3), (4, .int l4), (5, .int l5)] [] := by
  refine hr_aload_n o 0 dX4_yields_0 rfl ?_
  refine hr_iload_n o 1 dX4_yields_1 rfl ?_
  refine hr_iload_n o 2 dX4_yields_2 rfl ?_
  refine hr_iload_n o 3 dX4_yields_3 rfl ?_
  refine hr_iload o 4 dX4_yields_4 rfl ?_
  refine mr_callI o mvX4_377 dX4_yields_6 [.int l1, .int l2, .int l3, .int l4] (fun zr zV ze => mtX4_areTheirs l1 l2 l3 l4 V0 zr zV ze) rfl rfl (Nat.le_of_ble_eq_true rfl) ⟨by decide, by decide⟩ (fun x2 V1 => ?_)
  refine hr_if_eq o 33 dX4_yields_9 (by decide) (fun _ => ?_) (fun _ => ?_)
  · refine hr_iconst o (-1 : Int32) dX4_yields_33 (by decide) ?_
    exact hr_iret o dX4_yields_34 rfl rfl
  refine hr_aload_n o 0 dX4_yields_12 rfl ?_
  refine hr_iload_n o 2 dX4_yields_13 rfl ?_
  refine hr_iload o 4 dX4_yields_14 rfl ?_
  refine mr_callI o mvX4_326 dX4_yields_16 [.int l2, .int l4] (fun zr zV ze => mtX4_fitOf l2 l4 V1 zr zV ze) rfl rfl (Nat.le_of_ble_eq_true rfl) ⟨by decide, by decide⟩ (fun x4 V3 => ?_)
  refine hr_if_eq o 33 dX4_yields_19 (by decide) (fun _ => ?_) (fun _ => ?_)
  · refine hr_iconst o (-1 : Int32) dX4_yields_33 (by decide) ?_
    exact hr_iret o dX4_yields_34 rfl rfl
  refine hr_iload o 5 dX4_yields_22 rfl ?_
  refine hr_i2l o dX4_yields_24 ?_
  refine hr_lconst o (0 : Int64) dX4_yields_25 (by decide) ?_
  refine hr_lconst o (1 : Int64) dX4_yields_26 (by decide) ?_
  refine pr_callI o msX4_109 dX4_yields_27 [.long (Int32.toInt64 l5), .long (0 : Int64), .long (1 : Int64)] (fun zr ze => mtX4_in (Int32.toInt64 l5) (0 : Int64) (1 : Int64) zr ze) rfl rfl (Nat.le_of_ble_eq_true rfl) ⟨by decide, by decide⟩ (fun x5 => ?_)
  refine hr_if_ne o 35 dX4_yields_30 (by decide) (fun _ => ?_) (fun _ => ?_)
  · refine hr_iconst o (-1 : Int32) dX4_yields_33 (by decide) ?_
    exact hr_iret o dX4_yields_34 rfl rfl
  refine hr_aload_n o 0 dX4_yields_35 rfl ?_
  refine hr_iload_n o 1 dX4_yields_36 rfl ?_
  refine hr_iload o 4 dX4_yields_37 rfl ?_
  refine mr_callI o mvX4_454 dX4_yields_39 [.int l1, .int l4] (fun zr zV ze => mtX4_givesFor l1 l4 V3 zr zV ze) rfl rfl (Nat.le_of_ble_eq_true rfl) ⟨by decide, by decide⟩ (fun x7 V6 => ?_)
  refine hr_istore o [(6, .int x7), (0, .ref om), (1, .int l1), (2, .int l2), (3, .int l3), (4, .int l4), (5, .int l5)] dX4_yields_42 (by decide) rfl ?_
  refine hr_aload_n o 1 dX4_yields_44 rfl ?_
  refine hr_iload_n o 4 dX4_yields_45 rfl ?_
  refine hr_iload_n o 3 dX4_yields_46 rfl ?_
  refine mr_callI o mvX4_454 dX4_yields_47 [.int l3, .int l2] (fun zr zV ze => mtX4_givesFor l3 l2 V6 zr zV ze) rfl rfl (Nat.le_of_ble_eq_true rfl) ⟨by decide, by decide⟩ (fun x9 V8 => ?_)
  refine hr_istore o [(7, .int x9), (6, .int x7), (0, .ref om), (1, .int l1), (2, .int l2), (3, .int l3), (4, .int l4), (5, .int l5)] dX4_yields_50 (by decide) rfl ?_
  refine hr_iload o 7 dX4_yields_52 rfl ?_
  refine hr_iconst o (1 : Int32) dX4_yields_54 (by decide) ?_
  refine hr_icmp_ne o 66 dX4_yields_55 (by decide) (fun _ => ?_) (fun _ => ?_)
  · refine hr_iload o 1 dX4_yields_58 rfl ?_
    refine hr_iload o 0 dX4_yields_60 rfl ?_
    refine hr_iadd o dX4_yields_62 ?_
    refine hr_iconst o (2 : Int32) dX4_yields_63 (by decide) ?_
    refine hr_idiv o dX4_yields_64 (fun _ => ?_)
    exact hr_iret o dX4_yields_65 rfl rfl
  refine hr_iload o 1 dX4_yields_66 rfl ?_
  refine hr_iload o 0 dX4_yields_68 rfl ?_
  refine hr_icmp_ge o 77 dX4_yields_70 (by decide) (fun _ => ?_) (fun _ => ?_)
  · refine hr_iload o 0 dX4_yields_77 rfl ?_
    refine hr_iload o 1 dX4_yields_79 rfl ?_
    refine hr_icmp_ge o 88 dX4_yields_81 (by decide) (fun _ => ?_) (fun _ => ?_)
    · refine hr_iload_n o 3 dX4_yields_88 rfl ?_
      refine hr_iload_n o 5 dX4_yields_89 rfl ?_
      refine hr_icmp_ge o 97 dX4_yields_90 (by decide) (fun _ => ?_) (fun _ => ?_)
      · refine hr_iload_n o 5 dX4_yields_97 rfl ?_
        exact hr_iret o dX4_yields_98 rfl rfl
      refine hr_iload_n o 3 dX4_yields_93 rfl ?_
      refine hr_goto o 98 dX4_yields_94 (by decide) ?_
      exact hr_iret o dX4_yields_98 rfl rfl
    refine hr_iload_n o 5 dX4_yields_84 rfl ?_
    refine hr_goto o 98 dX4_yields_85 (by decide) ?_
    exact hr_iret o dX4_yields_98 rfl rfl
  refine hr_iload_n o 3 dX4_yields_73 rfl ?_
  refine hr_goto o 98 dX4_yields_74 (by decide) ?_
  exact hr_iret o dX4_yields_98 rfl rfl
theorem mtX4_yields {om : Nat} {b : hf_H} (l1 : Int32) (l2 : Int32) (l3 : Int32) (l4 : Int32) (l5 : Int32) (V0 : hf_V) (r : Int32) (V1 : hf_V) (e : spX4_yields l1 l2 l3 l4 l5 V0 = some (r, V1)) : hf_Con yX4_yields cX4_yields 8 (some .int) 3 67 [.ref om, .int l1, .int l2, .int l3, .int l4, .int l5] (hf_M om b V0) (.returned (some (.int r)), hf_M om b V1) := hf_entry (dec := hf_dMI om b) (by decide) [.ref om, .int l1, .int l2, .int l3, .int l4, .int l5] (Nat.le_of_ble_eq_true rfl) [(0, .ref om), (1, .int l1), (2, .int l2), (3, .int l3), (4, .int l4), (5, .int l5)] rfl e (fun C o _ => jtX4_yields o l1 l2 l3 l4 l5 V0)

/-! isOwnShape -/
def spX4_isOwnShape (l1 : Int32) (l2 : Int32) (l3 : Int32) (V0 : hf_V) : Option (Int32 × hf_V) :=
  hf_b2 (spX4_hasOf l1 V0) fun x2 V1 =>
  (spX4_isOf x2 l2).bind fun x3 =>
  if x3 = 0 then (some ((0 : Int32), V1)) else
  hf_b2 (spX4_halfOf l2 (4 : Int32) V1) fun x5 V4 =>
  if x5 = 0 then (hf_b2 (spX4_halfOf l2 (0 : Int32) V4) fun x7 V6 =>
  if x7 = l3 then (some ((1 : Int32), V6)) else
  some ((0 : Int32), V6)) else
  some ((0 : Int32), V4)
theorem jtX4_isOwnShape {C : hf_X} {om : Nat} {b : hf_H} (o : hf_In C cX4_isOwnShape RX4 4 (some .boolean) 2 45) (l1 : Int32) (l2 : Int32) (l3 : Int32) (V0 : hf_V) : hf_J C (hf_dMI om b) (spX4_isOwnShape l1 l2 l3 V0) (hf_M om b V0) 0 [(0, .ref om), (1, .int l1), (2, .int l2), (3, .int l3)] [] := by
  refine hr_aload_n o 0 dX4_isOwnShape_0 rfl ?_
  refine hr_iload_n o 1 dX4_isOwnShape_1 rfl ?_
  refine mr_callI o mvX4_346 dX4_isOwnShape_2 [.int l1] (fun zr zV ze => mtX4_hasOf l1 V0 zr zV ze) rfl rfl (Nat.le_of_ble_eq_true rfl) ⟨by decide, by decide⟩ (fun x2 V1 => ?_)
  refine hr_iload_n o 2 dX4_isOwnShape_5 rfl ?_
  refine pr_callI o msX4_215 dX4_isOwnShape_6 [.int x2, .int l2] (fun zr ze => mtX4_isOf x2 l2 zr ze) rfl rfl (Nat.le_of_ble_eq_true rfl) ⟨by decide, by decide⟩ (fun x3 => ?_)
  refine hr_if_eq o 35 dX4_isOwnShape_9 (by decide) (fun _ => ?_) (fun _ => ?_)
  · refine hr_iconst o (0 : Int32) dX4_isOwnShape_35 (by decide) ?_
    exact hr_iret o dX4_isOwnShape_36 rfl (by decide)
  refine hr_aload_n o 0 dX4_isOwnShape_12 rfl ?_
  refine hr_iload_n o 2 dX4_isOwnShape_13 rfl ?_
  refine hr_iconst o (4 : Int32) dX4_isOwnShape_14 (by decide) ?_
  refine mr_callI o mvX4_301 dX4_isOwnShape_15 [.int l2, .int (4 : Int32)] (fun zr zV ze => mtX4_halfOf l2 (4 : Int32) V1 zr zV ze) rfl rfl (Nat.le_of_ble_eq_true rfl) ⟨by decide, by decide⟩ (fun x5 V4 => ?_)
  refine hr_if_ne o 35 dX4_isOwnShape_18 (by decide) (fun _ => ?_) (fun _ => ?_)
  · refine hr_aload_n o 0 dX4_isOwnShape_21 rfl ?_
    refine hr_iload_n o 2 dX4_isOwnShape_22 rfl ?_
    refine hr_iconst o (0 : Int32) dX4_isOwnShape_23 (by decide) ?_
    refine mr_callI o mvX4_301 dX4_isOwnShape_24 [.int l2, .int (0 : Int32)] (fun zr zV ze => mtX4_halfOf l2 (0 : Int32) V4 zr zV ze) rfl rfl (Nat.le_of_ble_eq_true rfl) ⟨by decide, by decide⟩ (fun x7 V6 => ?_)
    refine hr_iload_n o 3 dX4_isOwnShape_27 rfl ?_
    refine hr_icmp_ne o 35 dX4_isOwnShape_28 (by decide) (fun _ => ?_) (fun _ => ?_)
    · refine hr_iconst o (1 : Int32) dX4_isOwnShape_31 (by decide) ?_
      refine hr_goto o 36 dX4_isOwnShape_32 (by decide) ?_
      exact hr_iret o dX4_isOwnShape_36 rfl (by decide)
    refine hr_iconst o (0 : Int32) dX4_isOwnShape_35 (by decide) ?_
    exact hr_iret o dX4_isOwnShape_36 rfl (by decide)
  refine hr_iconst o (0 : Int32) dX4_isOwnShape_35 (by decide) ?_
  exact hr_iret o dX4_isOwnShape_36 rfl (by decide)
theorem mtX4_isOwnShape {om : Nat} {b : hf_H} (l1 : Int32) (l2 : Int32) (l3 : Int32) (V0 : hf_V) (r : Int32) (V1 : hf_V) (e : spX4_isOwnShape l1 l2 l3 V0 = some (r, V1)) : hf_Con yX4_isOwnShape cX4_isOwnShape 4 (some .boolean) 2 45 [.ref om, .int l1, .int l2, .int l3] (hf_M om b V0) (.returned (some (.int r)), hf_M om b V1) := hf_entry (dec := hf_dMI om b) (by decide) [.ref om, .int l1, .int l2, .int l3] (Nat.le_of_ble_eq_true rfl) [(0, .ref om), (1, .int l1), (2, .int l2), (3, .int l3)] rfl e (fun C o _ => jtX4_isOwnShape o l1 l2 l3 V0)

/-! criedFor -/
theorem mvX4_457 : hf_MV RX4 457 RX4 yX4_isOwnShape cX4_isOwnShape 4 (some .boolean) 3 := ⟨lw_V q1968 q1970 qs144 q162 q1971, by decide +kernel⟩
def ndX4_criedFor_40 (k8 : Int32 → Int32 → Int32 → Int32 → Int32 → hf_V → Option (Int32 × hf_V)) (l1 : Int32) (l2 : Int32) (l3 : Int32) (l5 : Int32) (s0 : Int32) (V0 : hf_V) : Option (Int32 × hf_V) :=
  hf_let (l5 + (1 : Int32)) fun x1 =>
  k8 l1 l2 l3 s0 x1 V0
theorem nlX4_criedFor_40 {C : hf_X} {om : Nat} {b : hf_H} (o : hf_In C cX4_criedFor RX4 8 (some .int) 3 68) (k8 : Int32 → Int32 → Int32 → Int32 → Int32 → hf_V → Option (Int32 × hf_V)) (hk8 : ∀ (l1 : Int32) (l2 : Int32) (l3 : Int32) (l4 : Int32) (l5 : Int32) (V0 : hf_V), hf_J C (hf_dMI om b) (k8 l1 l2 l3 l4 l5 V0) (hf_M om b V0) 8 [(0, .ref om), (1, .int l1), (2, .int l2), (3, .int l3), (4, .int l4), (5, .int l5)] []) (l1 : Int32) (l2 : Int32) (l3 : Int32) (l5 : Int32) (s0 : Int32) (V0 : hf_V) : hf_J C (hf_dMI om b) (ndX4_criedFor_40 k8 l1 l2 l3 l5 s0 V0) (hf_M om b V0) 40 [(0, .ref om), (1, .int l1), (2, .int l2), (3, .int l3), (5, .int l5)] [.int s0] := by
  refine hr_istore o [(4, .int s0), (0, .ref om), (1, .int l1), (2, .int l2), (3, .int l3), (5, .int l5)] dX4_criedFor_40 (by decide) rfl ?_
  refine hr_iincN o (1 : Int32) 5 (fun y => [(5, .int y), (4, .int s0), (0, .ref om), (1, .int l1), (2, .int l2), (3, .int l3)]) dX4_criedFor_42 rfl (by decide) (by decide) (fun y => rfl) (fun x1 => ?_)
  refine hr_goto o 8 dX4_criedFor_45 (by decide) ?_
  refine hr_sub [2, 3, 4, 5, 1, 0] rfl ?_
  exact hk8 l1 l2 l3 s0 x1 V0
def ndX4_criedFor_35 (k8 : Int32 → Int32 → Int32 → Int32 → Int32 → hf_V → Option (Int32 × hf_V)) (l1 : Int32) (l2 : Int32) (l3 : Int32) (l5 : Int32) (V0 : hf_V) : Option (Int32 × hf_V) :=
  ndX4_criedFor_40 k8 l1 l2 l3 l5 (1 : Int32) V0
theorem nlX4_criedFor_35 {C : hf_X} {om : Nat} {b : hf_H} (o : hf_In C cX4_criedFor RX4 8 (some .int) 3 68) (k8 : Int32 → Int32 → Int32 → Int32 → Int32 → hf_V → Option (Int32 × hf_V)) (hk8 : ∀ (l1 : Int32) (l2 : Int32) (l3 : Int32) (l4 : Int32) (l5 : Int32) (V0 : hf_V), hf_J C (hf_dMI om b) (k8 l1 l2 l3 l4 l5 V0) (hf_M om b V0) 8 [(0, .ref om), (1, .int l1), (2, .int l2), (3, .int l3), (4, .int l4), (5, .int l5)] []) (l1 : Int32) (l2 : Int32) (l3 : Int32) (l5 : Int32) (V0 : hf_V) : hf_J C (hf_dMI om b) (ndX4_criedFor_35 k8 l1 l2 l3 l5 V0) (hf_M om b V0) 35 [(0, .ref om), (1, .int l1), (2, .int l2), (3, .int l3), (5, .int l5)] [] := by
  refine hr_iconst o (1 : Int32) dX4_criedFor_35 (by decide) ?_
  refine hr_goto o 40 dX4_criedFor_36 (by decide) ?_
  exact nlX4_criedFor_40 o k8 hk8 l1 l2 l3 l5 (1 : Int32) V0
def ndX4_criedFor_112 (k51 : Int32 → Int32 → Int32 → Int32 → Int32 → hf_V → Option (Int32 × hf_V)) (k68 : Int32 → Int32 → Int32 → Int32 → Int32 → Int32 → Int32 → hf_V → Option (Int32 × hf_V)) (l1 : Int32) (l2 : Int32) (l3 : Int32) (l4 : Int32) (l5 : Int32) (l7 : Int32) (s0 : Int32) (V0 : hf_V) : Option (Int32 × hf_V) :=
  hf_let (l7 + (1 : Int32)) fun x1 =>
  k68 l1 l2 l3 l4 l5 s0 x1 V0
theorem nlX4_criedFor_112 {C : hf_X} {om : Nat} {b : hf_H} (o : hf_In C cX4_criedFor RX4 8 (some .int) 3 68) (k51 : Int32 → Int32 → Int32 → Int32 → Int32 → hf_V → Option (Int32 × hf_V)) (k68 : Int32 → Int32 → Int32 → Int32 → Int32 → Int32 → Int32 → hf_V → Option (Int32 × hf_V)) (hk51 : ∀ (l1 : Int32) (l2 : Int32) (l3 : Int32) (l4 : Int32) (l5 : Int32) (V0 : hf_V), hf_J C (hf_dMI om b) (k51 l1 l2 l3 l4 l5 V0) (hf_M om b V0) 51 [(0, .ref om), (1, .int l1), (2, .int l2), (3, .int l3), (4, .int l4), (5, .int l5)] []) (hk68 : ∀ (l1 : Int32) (l2 : Int32) (l3 : Int32) (l4 : Int32) (l5 : Int32) (l6 : Int32) (l7 : Int32) (V0 : hf_V), hf_J C (hf_dMI om b) (k68 l1 l2 l3 l4 l5 l6 l7 V0) (hf_M om b V0) 68 [(0, .ref om), (1, .int l1), (2, .int l2), (3, .int l3), (4, .int l4), (5, .int l5), (6, .int l6), (7, .int l7)] []) (l1 : Int32) (l2 : Int32) (l3 : Int32) (l4 : Int32) (l5 : Int32) (l7 : Int32) (s0 : Int32) (V0 : hf_V) : hf_J C (hf_dMI om b) (ndX4_criedFor_112 k51 k68 l1 l2 l3 l4 l5 l7 s0 V0) (hf_M om b V0) 112 [(0, .ref om), (1, .int l1), (2, .int l2), (3, .int l3), (4, .int l4), (5, .int l5), (7, .int l7)] [.int s0] := by
  refine hr_istore o [(6, .int s0), (0, .ref om), (1, .int l1), (2, .int l2), (3, .int l3), (4, .int l4), (5, .int l5), (7, .int l7)] dX4_criedFor_112 (by decide) rfl ?_
  refine hr_iincN o (1 : Int32) 7 (fun y => [(7, .int y), (6, .int s0), (0, .ref om), (1, .int l1), (2, .int l2), (3, .int l3), (4, .int l4), (5, .int l5)]) dX4_criedFor_114 rfl (by decide) (by decide) (fun y => rfl) (fun x1 => ?_)
  refine hr_goto o 68 dX4_criedFor_117 (by decide) ?_
  refine hr_sub [2, 3, 4, 5, 6, 7, 1, 0] rfl ?_
  exact hk68 l1 l2 l3 l4 l5 s0 x1 V0
def ndX4_criedFor_107 (k51 : Int32 → Int32 → Int32 → Int32 → Int32 → hf_V → Option (Int32 × hf_V)) (k68 : Int32 → Int32 → Int32 → Int32 → Int32 → Int32 → Int32 → hf_V → Option (Int32 × hf_V)) (l1 : Int32) (l2 : Int32) (l3 : Int32) (l4 : Int32) (l5 : Int32) (l7 : Int32) (V0 : hf_V) : Option (Int32 × hf_V) :=
  ndX4_criedFor_112 k51 k68 l1 l2 l3 l4 l5 l7 (1 : Int32) V0
theorem nlX4_criedFor_107 {C : hf_X} {om : Nat} {b : hf_H} (o : hf_In C cX4_criedFor RX4 8 (some .int) 3 68) (k51 : Int32 → Int32 → Int32 → Int32 → Int32 → hf_V → Option (Int32 × hf_V)) (k68 : Int32 → Int32 → Int32 → Int32 → Int32 → Int32 → Int32 → hf_V → Option (Int32 × hf_V)) (hk51 : ∀ (l1 : Int32) (l2 : Int32) (l3 : Int32) (l4 : Int32) (l5 : Int32) (V0 : hf_V), hf_J C (hf_dMI om b) (k51 l1 l2 l3 l4 l5 V0) (hf_M om b V0) 51 [(0, .ref om), (1, .int l1), (2, .int l2), (3, .int l3), (4, .int l4), (5, .int l5)] []) (hk68 : ∀ (l1 : Int32) (l2 : Int32) (l3 : Int32) (l4 : Int32) (l5 : Int32) (l6 : Int32) (l7 : Int32) (V0 : hf_V), hf_J C (hf_dMI om b) (k68 l1 l2 l3 l4 l5 l6 l7 V0) (hf_M om b V0) 68 [(0, .ref om), (1, .int l1), (2, .int l2), (3, .int l3), (4, .int l4), (5, .int l5), (6, .int l6), (7, .int l7)] []) (l1 : Int32) (l2 : Int32) (l3 : Int32) (l4 : Int32) (l5 : Int32) (l7 : Int32) (V0 : hf_V) : hf_J C (hf_dMI om b) (ndX4_criedFor_107 k51 k68 l1 l2 l3 l4 l5 l7 V0) (hf_M om b V0) 107 [(0, .ref om), (1, .int l1), (2, .int l2), (3, .int l3), (4, .int l4), (5, .int l5), (7, .int l7)] [] := by
  refine hr_iconst o (1 : Int32) dX4_criedFor_107 (by decide) ?_
  refine hr_goto o 112 dX4_criedFor_108 (by decide) ?_
  exact nlX4_criedFor_112 o k51 k68 hk51 hk68 l1 l2 l3 l4 l5 l7 (1 : Int32) V0
def ndX4_criedFor_111 (k51 : Int32 → Int32 → Int32 → Int32 → Int32 → hf_V → Option (Int32 × hf_V)) (k68 : Int32 → Int32 → Int32 → Int32 → Int32 → Int32 → Int32 → hf_V → Option (Int32 × hf_V)) (l1 : Int32) (l2 : Int32) (l3 : Int32) (l4 : Int32) (l5 : Int32) (l7 : Int32) (V0 : hf_V) : Option (Int32 × hf_V) :=
  ndX4_criedFor_112 k51 k68 l1 l2 l3 l4 l5 l7 (0 : Int32) V0
theorem nlX4_criedFor_111 {C : hf_X} {om : Nat} {b : hf_H} (o : hf_In C cX4_criedFor RX4 8 (some .int) 3 68) (k51 : Int32 → Int32 → Int32 → Int32 → Int32 → hf_V → Option (Int32 × hf_V)) (k68 : Int32 → Int32 → Int32 → Int32 → Int32 → Int32 → Int32 → hf_V → Option (Int32 × hf_V)) (hk51 : ∀ (l1 : Int32) (l2 : Int32) (l3 : Int32) (l4 : Int32) (l5 : Int32) (V0 : hf_V), hf_J C (hf_dMI om b) (k51 l1 l2 l3 l4 l5 V0) (hf_M om b V0) 51 [(0, .ref om), (1, .int l1), (2, .int l2), (3, .int l3), (4, .int l4), (5, .int l5)] []) (hk68 : ∀ (l1 : Int32) (l2 : Int32) (l3 : Int32) (l4 : Int32) (l5 : Int32) (l6 : Int32) (l7 : Int32) (V0 : hf_V), hf_J C (hf_dMI om b) (k68 l1 l2 l3 l4 l5 l6 l7 V0) (hf_M om b V0) 68 [(0, .ref om), (1, .int l1), (2, .int l2), (3, .int l3), (4, .int l4), (5, .int l5), (6, .int l6), (7, .int l7)] []) (l1 : Int32) (l2 : Int32) (l3 : Int32) (l4 : Int32) (l5 : Int32) (l7 : Int32) (V0 : hf_V) : hf_J C (hf_dMI om b) (ndX4_criedFor_111 k51 k68 l1 l2 l3 l4 l5 l7 V0) (hf_M om b V0) 111 [(0, .ref om), (1, .int l1), (2, .int l2), (3, .int l3), (4, .int l4), (5, .int l5), (7, .int l7)] [] := by
  refine hr_iconst o (0 : Int32) dX4_criedFor_111 (by decide) ?_
  exact nlX4_criedFor_112 o k51 k68 hk51 hk68 l1 l2 l3 l4 l5 l7 (0 : Int32) V0
def ndX4_criedFor_144 (k51 : Int32 → Int32 → Int32 → Int32 → Int32 → hf_V → Option (Int32 × hf_V)) (l1 : Int32) (l2 : Int32) (l4 : Int32) (l5 : Int32) (s0 : Int32) (s1 : Int32) (V0 : hf_V) : Option (Int32 × hf_V) :=
  hf_let (s0 + s1) fun x1 =>
  hf_let (l5 + (1 : Int32)) fun x2 =>
  k51 l1 l2 x1 l4 x2 V0
theorem nlX4_criedFor_144 {C : hf_X} {om : Nat} {b : hf_H} (o : hf_In C cX4_criedFor RX4 8 (some .int) 3 68) (k51 : Int32 → Int32 → Int32 → Int32 → Int32 → hf_V → Option (Int32 × hf_V)) (hk51 : ∀ (l1 : Int32) (l2 : Int32) (l3 : Int32) (l4 : Int32) (l5 : Int32) (V0 : hf_V), hf_J C (hf_dMI om b) (k51 l1 l2 l3 l4 l5 V0) (hf_M om b V0) 51 [(0, .ref om), (1, .int l1), (2, .int l2), (3, .int l3), (4, .int l4), (5, .int l5)] []) (l1 : Int32) (l2 : Int32) (l4 : Int32) (l5 : Int32) (s0 : Int32) (s1 : Int32) (V0 : hf_V) : hf_J C (hf_dMI om b) (ndX4_criedFor_144 k51 l1 l2 l4 l5 s0 s1 V0) (hf_M om b V0) 144 [(0, .ref om), (1, .int l1), (2, .int l2), (4, .int l4), (5, .int l5)] [.int s1, .int s0] := by
  refine hr_iadd o dX4_criedFor_144 ?_
  refine hr_nmI (fun x1 => ?_)
  refine hr_istore_n o [(3, .int x1), (0, .ref om), (1, .int l1), (2, .int l2), (4, .int l4), (5, .int l5)] dX4_criedFor_145 (by decide) rfl ?_
  refine hr_iincN o (1 : Int32) 5 (fun y => [(5, .int y), (3, .int x1), (0, .ref om), (1, .int l1), (2, .int l2), (4, .int l4)]) dX4_criedFor_146 rfl (by decide) (by decide) (fun y => rfl) (fun x2 => ?_)
  refine hr_goto o 51 dX4_criedFor_149 (by decide) ?_
  refine hr_sub [2, 3, 4, 1, 5, 0] rfl ?_
  exact hk51 l1 l2 x1 l4 x2 V0
def ndX4_criedFor_143 (k51 : Int32 → Int32 → Int32 → Int32 → Int32 → hf_V → Option (Int32 × hf_V)) (l1 : Int32) (l2 : Int32) (l4 : Int32) (l5 : Int32) (s0 : Int32) (V0 : hf_V) : Option (Int32 × hf_V) :=
  ndX4_criedFor_144 k51 l1 l2 l4 l5 s0 (0 : Int32) V0
theorem nlX4_criedFor_143 {C : hf_X} {om : Nat} {b : hf_H} (o : hf_In C cX4_criedFor RX4 8 (some .int) 3 68) (k51 : Int32 → Int32 → Int32 → Int32 → Int32 → hf_V → Option (Int32 × hf_V)) (hk51 : ∀ (l1 : Int32) (l2 : Int32) (l3 : Int32) (l4 : Int32) (l5 : Int32) (V0 : hf_V), hf_J C (hf_dMI om b) (k51 l1 l2 l3 l4 l5 V0) (hf_M om b V0) 51 [(0, .ref om), (1, .int l1), (2, .int l2), (3, .int l3), (4, .int l4), (5, .int l5)] []) (l1 : Int32) (l2 : Int32) (l4 : Int32) (l5 : Int32) (s0 : Int32) (V0 : hf_V) : hf_J C (hf_dMI om b) (ndX4_criedFor_143 k51 l1 l2 l4 l5 s0 V0) (hf_M om b V0) 143 [(0, .ref om), (1, .int l1), (2, .int l2), (4, .int l4), (5, .int l5)] [.int s0] := by
  refine hr_iconst o (0 : Int32) dX4_criedFor_143 (by decide) ?_
  exact nlX4_criedFor_144 o k51 hk51 l1 l2 l4 l5 s0 (0 : Int32) V0
def ndX4_criedFor_68 (k51 : Int32 → Int32 → Int32 → Int32 → Int32 → hf_V → Option (Int32 × hf_V)) (k68 : Int32 → Int32 → Int32 → Int32 → Int32 → Int32 → Int32 → hf_V → Option (Int32 × hf_V)) (l1 : Int32) (l2 : Int32) (l3 : Int32) (l4 : Int32) (l5 : Int32) (l6 : Int32) (l7 : Int32) (V0 : hf_V) : Option (Int32 × hf_V) :=
  (hf_ld 123 (V0.2.2.2.1 20) (1 : Int32)).bind fun x1 =>
  if x1 ≤ l7 then (if l6 = 0 then (ndX4_criedFor_143 k51 l1 l2 l4 l5 l3 V0) else
  hf_b2 (spX4_unseen l1 V0) fun x3 V2 =>
  (spX4_isOf x3 l5).bind fun x4 =>
  if x4 = 0 then (ndX4_criedFor_143 k51 l1 l2 l4 l5 l3 V2) else
  ndX4_criedFor_144 k51 l1 l2 l4 l5 l3 (1 : Int32) V2) else
  if l6 = 0 then (hf_b2 (spX4_isOwnShape l1 l7 l2 V0) fun x6 V5 =>
  if x6 = 0 then (ndX4_criedFor_111 k51 k68 l1 l2 l3 l4 l5 l7 V5) else
  hf_b2 (spX4_fitOf l7 l5 V5) fun x8 V7 =>
  if x8 = (2 : Int32) then (ndX4_criedFor_107 k51 k68 l1 l2 l3 l4 l5 l7 V7) else
  ndX4_criedFor_111 k51 k68 l1 l2 l3 l4 l5 l7 V7) else
  ndX4_criedFor_107 k51 k68 l1 l2 l3 l4 l5 l7 V0
theorem nlX4_criedFor_68 {C : hf_X} {om : Nat} {b : hf_H} (o : hf_In C cX4_criedFor RX4 8 (some .int) 3 68) (k51 : Int32 → Int32 → Int32 → Int32 → Int32 → hf_V → Option (Int32 × hf_V)) (k68 : Int32 → Int32 → Int32 → Int32 → Int32 → Int32 → Int32 → hf_V → Option (Int32 × hf_V)) (hk51 : ∀ (l1 : Int32) (l2 : Int32) (l3 : Int32) (l4 : Int32) (l5 : Int32) (V0 : hf_V), hf_J C (hf_dMI om b) (k51 l1 l2 l3 l4 l5 V0) (hf_M om b V0) 51 [(0, .ref om), (1, .int l1), (2, .int l2), (3, .int l3), (4, .int l4), (5, .int l5)] []) (hk68 : ∀ (l1 : Int32) (l2 : Int32) (l3 : Int32) (l4 : Int32) (l5 : Int32) (l6 : Int32) (l7 : Int32) (V0 : hf_V), hf_J C (hf_dMI om b) (k68 l1 l2 l3 l4 l5 l6 l7 V0) (hf_M om b V0) 68 [(0, .ref om), (1, .int l1), (2, .int l2), (3, .int l3), (4, .int l4), (5, .int l5), (6, .int l6), (7, .int l7)] []) (l1 : Int32) (l2 : Int32) (l3 : Int32) (l4 : Int32) (l5 : Int32) (l6 : Int32) (l7 : Int32) (V0 : hf_V) : hf_J C (hf_dMI om b) (ndX4_criedFor_68 k51 k68 l1 l2 l3 l4 l5 l6 l7 V0) (hf_M om b V0) 68 [(0, .ref om), (1, .int l1), (2, .int l2), (3, .int l3), (4, .int l4), (5, .int l5), (6, .int l6), (7, .int l7)] [] := by
  refine hr_iload o 7 dX4_criedFor_68 rfl ?_
  refine hr_aload_n o 0 dX4_criedFor_70 rfl ?_
  refine mr_get o flX4_39 dX4_criedFor_71 (.ref (om + 10)) rfl ?_
  refine hr_iconst o (1 : Int32) dX4_criedFor_74 (by decide) ?_
  refine mr_iald o 20 10 123 rfl (by decide) rfl dX4_criedFor_75 (fun x1 => ?_)
  refine hr_icmp_ge o 120 dX4_criedFor_76 (by decide) (fun _ => ?_) (fun _ => ?_)
  · refine hr_iload_n o 3 dX4_criedFor_120 rfl ?_
    refine hr_iload o 6 dX4_criedFor_121 rfl ?_
    refine hr_if_eq o 143 dX4_criedFor_123 (by decide) (fun _ => ?_) (fun _ => ?_)
    · refine hr_sub [0, 1, 2, 4, 5] rfl ?_
      exact nlX4_criedFor_143 o k51 hk51 l1 l2 l4 l5 l3 V0
    refine hr_aload_n o 0 dX4_criedFor_126 rfl ?_
    refine hr_iload_n o 1 dX4_criedFor_127 rfl ?_
    refine mr_callI o mvX4_448 dX4_criedFor_128 [.int l1] (fun zr zV ze => mtX4_unseen l1 V0 zr zV ze) rfl rfl (Nat.le_of_ble_eq_true rfl) ⟨by decide, by decide⟩ (fun x3 V2 => ?_)
    refine hr_iload o 5 dX4_criedFor_131 rfl ?_
    refine pr_callI o msX4_215 dX4_criedFor_133 [.int x3, .int l5] (fun zr ze => mtX4_isOf x3 l5 zr ze) rfl rfl (Nat.le_of_ble_eq_true rfl) ⟨by decide, by decide⟩ (fun x4 => ?_)
    refine hr_if_eq o 143 dX4_criedFor_136 (by decide) (fun _ => ?_) (fun _ => ?_)
    · refine hr_sub [0, 1, 2, 4, 5] rfl ?_
      exact nlX4_criedFor_143 o k51 hk51 l1 l2 l4 l5 l3 V2
    refine hr_iconst o (1 : Int32) dX4_criedFor_139 (by decide) ?_
    refine hr_goto o 144 dX4_criedFor_140 (by decide) ?_
    refine hr_sub [0, 1, 2, 4, 5] rfl ?_
    exact nlX4_criedFor_144 o k51 hk51 l1 l2 l4 l5 l3 (1 : Int32) V2
  refine hr_iload o 6 dX4_criedFor_79 rfl ?_
  refine hr_if_ne o 107 dX4_criedFor_81 (by decide) (fun _ => ?_) (fun _ => ?_)
  · refine hr_aload_n o 0 dX4_criedFor_84 rfl ?_
    refine hr_iload_n o 1 dX4_criedFor_85 rfl ?_
    refine hr_iload o 7 dX4_criedFor_86 rfl ?_
    refine hr_iload_n o 2 dX4_criedFor_88 rfl ?_
    refine mr_callI o mvX4_457 dX4_criedFor_89 [.int l1, .int l7, .int l2] (fun zr zV ze => mtX4_isOwnShape l1 l7 l2 V0 zr zV ze) rfl rfl (Nat.le_of_ble_eq_true rfl) ⟨by decide, by decide⟩ (fun x6 V5 => ?_)
    refine hr_if_eq o 111 dX4_criedFor_92 (by decide) (fun _ => ?_) (fun _ => ?_)
    · refine hr_sub [0, 1, 2, 3, 4, 5, 7] rfl ?_
      exact nlX4_criedFor_111 o k51 k68 hk51 hk68 l1 l2 l3 l4 l5 l7 V5
    refine hr_aload_n o 0 dX4_criedFor_95 rfl ?_
    refine hr_iload o 7 dX4_criedFor_96 rfl ?_
    refine hr_iload o 5 dX4_criedFor_98 rfl ?_
    refine mr_callI o mvX4_326 dX4_criedFor_100 [.int l7, .int l5] (fun zr zV ze => mtX4_fitOf l7 l5 V5 zr zV ze) rfl rfl (Nat.le_of_ble_eq_true rfl) ⟨by decide, by decide⟩ (fun x8 V7 => ?_)
    refine hr_iconst o (2 : Int32) dX4_criedFor_103 (by decide) ?_
    refine hr_icmp_ne o 111 dX4_criedFor_104 (by decide) (fun _ => ?_) (fun _ => ?_)
    · refine hr_sub [0, 1, 2, 3, 4, 5, 7] rfl ?_
      exact nlX4_criedFor_107 o k51 k68 hk51 hk68 l1 l2 l3 l4 l5 l7 V7
    refine hr_sub [0, 1, 2, 3, 4, 5, 7] rfl ?_
    exact nlX4_criedFor_111 o k51 k68 hk51 hk68 l1 l2 l3 l4 l5 l7 V7
  refine hr_sub [0, 1, 2, 3, 4, 5, 7] rfl ?_
  exact nlX4_criedFor_107 o k51 k68 hk51 hk68 l1 l2 l3 l4 l5 l7 V0
def lpX4_criedFor_68 (k51 : Int32 → Int32 → Int32 → Int32 → Int32 → hf_V → Option (Int32 × hf_V)) : Nat → Int32 → Int32 → Int32 → Int32 → Int32 → Int32 → Int32 → hf_V → Option (Int32 × hf_V)
  | 0 => fun _ _ _ _ _ _ _ _ => none
  | n + 1 => fun l1 l2 l3 l4 l5 l6 l7 V0 => ndX4_criedFor_68 k51 (lpX4_criedFor_68 k51 n) l1 l2 l3 l4 l5 l6 l7 V0
theorem llX4_criedFor_68 {C : hf_X} {om : Nat} {b : hf_H} (o : hf_In C cX4_criedFor RX4 8 (some .int) 3 68) (k51 : Int32 → Int32 → Int32 → Int32 → Int32 → hf_V → Option (Int32 × hf_V)) (hk51 : ∀ (l1 : Int32) (l2 : Int32) (l3 : Int32) (l4 : Int32) (l5 : Int32) (V0 : hf_V), hf_J C (hf_dMI om b) (k51 l1 l2 l3 l4 l5 V0) (hf_M om b V0) 51 [(0, .ref om), (1, .int l1), (2, .int l2), (3, .int l3), (4, .int l4), (5, .int l5)] []) (n : Nat) : ∀ (l1 : Int32) (l2 : Int32) (l3 : Int32) (l4 : Int32) (l5 : Int32) (l6 : Int32) (l7 : Int32) (V0 : hf_V), hf_J C (hf_dMI om b) ((lpX4_criedFor_68 k51 n) l1 l2 l3 l4 l5 l6 l7 V0) (hf_M om b V0) 68 [(0, .ref om), (1, .int l1), (2, .int l2), (3, .int l3), (4, .int l4), (5, .int l5), (6, .int l6), (7, .int l7)] [] := by
  induction n with
  | zero => exact fun _ _ _ _ _ _ _ _ => hr_none
  | succ n ih => exact fun l1 l2 l3 l4 l5 l6 l7 V0 => nlX4_criedFor_68 o k51 (lpX4_criedFor_68 k51 n) hk51 ih l1 l2 l3 l4 l5 l6 l7 V0
def ndX4_criedFor_51 (k51 : Int32 → Int32 → Int32 → Int32 → Int32 → hf_V → Option (Int32 × hf_V)) (l1 : Int32) (l2 : Int32) (l3 : Int32) (l4 : Int32) (l5 : Int32) (V0 : hf_V) : Option (Int32 × hf_V) :=
  (hf_ld 123 (V0.2.2.2.1 20) (1 : Int32)).bind fun x1 =>
  if x1 ≤ l5 then (if l4 = 0 then (some ((-1 : Int32), V0)) else
  some (l3, V0)) else
  lpX4_criedFor_68 k51 hf_N l1 l2 l3 l4 l5 (0 : Int32) (0 : Int32) V0
theorem nlX4_criedFor_51 {C : hf_X} {om : Nat} {b : hf_H} (o : hf_In C cX4_criedFor RX4 8 (some .int) 3 68) (k51 : Int32 → Int32 → Int32 → Int32 → Int32 → hf_V → Option (Int32 × hf_V)) (hk51 : ∀ (l1 : Int32) (l2 : Int32) (l3 : Int32) (l4 : Int32) (l5 : Int32) (V0 : hf_V), hf_J C (hf_dMI om b) (k51 l1 l2 l3 l4 l5 V0) (hf_M om b V0) 51 [(0, .ref om), (1, .int l1), (2, .int l2), (3, .int l3), (4, .int l4), (5, .int l5)] []) (l1 : Int32) (l2 : Int32) (l3 : Int32) (l4 : Int32) (l5 : Int32) (V0 : hf_V) : hf_J C (hf_dMI om b) (ndX4_criedFor_51 k51 l1 l2 l3 l4 l5 V0) (hf_M om b V0) 51 [(0, .ref om), (1, .int l1), (2, .int l2), (3, .int l3), (4, .int l4), (5, .int l5)] [] := by
  refine hr_iload o 5 dX4_criedFor_51 rfl ?_
  refine hr_aload_n o 0 dX4_criedFor_53 rfl ?_
  refine mr_get o flX4_39 dX4_criedFor_54 (.ref (om + 10)) rfl ?_
  refine hr_iconst o (1 : Int32) dX4_criedFor_57 (by decide) ?_
  refine mr_iald o 20 10 123 rfl (by decide) rfl dX4_criedFor_58 (fun x1 => ?_)
  refine hr_icmp_ge o 152 dX4_criedFor_59 (by decide) (fun _ => ?_) (fun _ => ?_)
  · refine hr_iload o 4 dX4_criedFor_152 rfl ?_
    refine hr_if_eq o 161 dX4_criedFor_154 (by decide) (fun _ => ?_) (fun _ => ?_)
    · refine hr_iconst o (-1 : Int32) dX4_criedFor_161 (by decide) ?_
      exact hr_iret o dX4_criedFor_162 rfl rfl
    refine hr_iload_n o 3 dX4_criedFor_157 rfl ?_
    refine hr_goto o 162 dX4_criedFor_158 (by decide) ?_
    exact hr_iret o dX4_criedFor_162 rfl rfl
  refine hr_iconst o (0 : Int32) dX4_criedFor_62 (by decide) ?_
  refine hr_istore o [(6, .int (0 : Int32)), (0, .ref om), (1, .int l1), (2, .int l2), (3, .int l3), (4, .int l4), (5, .int l5)] dX4_criedFor_63 (by decide) rfl ?_
  refine hr_iconst o (0 : Int32) dX4_criedFor_65 (by decide) ?_
  refine hr_istore o [(7, .int (0 : Int32)), (6, .int (0 : Int32)), (0, .ref om), (1, .int l1), (2, .int l2), (3, .int l3), (4, .int l4), (5, .int l5)] dX4_criedFor_66 (by decide) rfl ?_
  refine hr_sub [2, 3, 4, 5, 6, 7, 1, 0] rfl ?_
  exact llX4_criedFor_68 o k51 hk51 hf_N l1 l2 l3 l4 l5 (0 : Int32) (0 : Int32) V0
def lpX4_criedFor_51  : Nat → Int32 → Int32 → Int32 → Int32 → Int32 → hf_V → Option (Int32 × hf_V)
  | 0 => fun _ _ _ _ _ _ => none
  | n + 1 => fun l1 l2 l3 l4 l5 V0 => ndX4_criedFor_51  (lpX4_criedFor_51  n) l1 l2 l3 l4 l5 V0
theorem llX4_criedFor_51 {C : hf_X} {om : Nat} {b : hf_H} (o : hf_In C cX4_criedFor RX4 8 (some .int) 3 68)   (n : Nat) : ∀ (l1 : Int32) (l2 : Int32) (l3 : Int32) (l4 : Int32) (l5 : Int32) (V0 : hf_V), hf_J C (hf_dMI om b) ((lpX4_criedFor_51  n) l1 l2 l3 l4 l5 V0) (hf_M om b V0) 51 [(0, .ref om), (1, .int l1), (2, .int l2), (3, .int l3), (4, .int l4), (5, .int l5)] [] := by
  induction n with
  | zero => exact fun _ _ _ _ _ _ => hr_none
  | succ n ih => exact fun l1 l2 l3 l4 l5 V0 => nlX4_criedFor_51 o  (lpX4_criedFor_51  n)  ih l1 l2 l3 l4 l5 V0
def ndX4_criedFor_8 (k8 : Int32 → Int32 → Int32 → Int32 → Int32 → hf_V → Option (Int32 × hf_V)) (l1 : Int32) (l2 : Int32) (l3 : Int32) (l4 : Int32) (l5 : Int32) (V0 : hf_V) : Option (Int32 × hf_V) :=
  (hf_ld 123 (V0.2.2.2.1 20) (1 : Int32)).bind fun x1 =>
  if x1 ≤ l5 then (lpX4_criedFor_51 hf_N l1 l2 l3 l4 (0 : Int32) V0) else
  if l4 = 0 then (hf_b2 (spX4_isOwnShape l1 l5 l2 V0) fun x3 V2 =>
  if x3 = 0 then (ndX4_criedFor_40 k8 l1 l2 l3 l5 (0 : Int32) V2) else
  ndX4_criedFor_35 k8 l1 l2 l3 l5 V2) else
  ndX4_criedFor_35 k8 l1 l2 l3 l5 V0
theorem nlX4_criedFor_8 {C : hf_X} {om : Nat} {b : hf_H} (o : hf_In C cX4_criedFor RX4 8 (some .int) 3 68) (k8 : Int32 → Int32 → Int32 → Int32 → Int32 → hf_V → Option (Int32 × hf_V)) (hk8 : ∀ (l1 : Int32) (l2 : Int32) (l3 : Int32) (l4 : Int32) (l5 : Int32) (V0 : hf_V), hf_J C (hf_dMI om b) (k8 l1 l2 l3 l4 l5 V0) (hf_M om b V0) 8 [(0, .ref om), (1, .int l1), (2, .int l2), (3, .int l3), (4, .int l4), (5, .int l5)] []) (l1 : Int32) (l2 : Int32) (l3 : Int32) (l4 : Int32) (l5 : Int32) (V0 : hf_V) : hf_J C (hf_dMI om b) (ndX4_criedFor_8 k8 l1 l2 l3 l4 l5 V0) (hf_M om b V0) 8 [(0, .ref om), (1, .int l1), (2, .int l2), (3, .int l3), (4, .int l4), (5, .int l5)] [] := by
  refine hr_iload o 5 dX4_criedFor_8 rfl ?_
  refine hr_aload_n o 0 dX4_criedFor_10 rfl ?_
  refine mr_get o flX4_39 dX4_criedFor_11 (.ref (om + 10)) rfl ?_
  refine hr_iconst o (1 : Int32) dX4_criedFor_14 (by decide) ?_
  refine mr_iald o 20 10 123 rfl (by decide) rfl dX4_criedFor_15 (fun x1 => ?_)
  refine hr_icmp_ge o 48 dX4_criedFor_16 (by decide) (fun _ => ?_) (fun _ => ?_)
  · refine hr_iconst o (0 : Int32) dX4_criedFor_48 (by decide) ?_
    refine hr_istore o [(5, .int (0 : Int32)), (0, .ref om), (1, .int l1), (2, .int l2), (3, .int l3), (4, .int l4)] dX4_criedFor_49 (by decide) rfl ?_
    refine hr_sub [1, 2, 3, 4, 5, 0] rfl ?_
    exact llX4_criedFor_51 o hf_N l1 l2 l3 l4 (0 : Int32) V0
  refine hr_iload o 4 dX4_criedFor_19 rfl ?_
  refine hr_if_ne o 35 dX4_criedFor_21 (by decide) (fun _ => ?_) (fun _ => ?_)
  · refine hr_aload_n o 0 dX4_criedFor_24 rfl ?_
    refine hr_iload_n o 1 dX4_criedFor_25 rfl ?_
    refine hr_iload o 5 dX4_criedFor_26 rfl ?_
    refine hr_iload_n o 2 dX4_criedFor_28 rfl ?_
    refine mr_callI o mvX4_457 dX4_criedFor_29 [.int l1, .int l5, .int l2] (fun zr zV ze => mtX4_isOwnShape l1 l5 l2 V0 zr zV ze) rfl rfl (Nat.le_of_ble_eq_true rfl) ⟨by decide, by decide⟩ (fun x3 V2 => ?_)
    refine hr_if_eq o 39 dX4_criedFor_32 (by decide) (fun _ => ?_) (fun _ => ?_)
    · refine hr_iconst o (0 : Int32) dX4_criedFor_39 (by decide) ?_
      refine hr_sub [0, 1, 2, 3, 5] rfl ?_
      exact nlX4_criedFor_40 o k8 hk8 l1 l2 l3 l5 (0 : Int32) V2
    refine hr_sub [0, 1, 2, 3, 5] rfl ?_
    exact nlX4_criedFor_35 o k8 hk8 l1 l2 l3 l5 V2
  refine hr_sub [0, 1, 2, 3, 5] rfl ?_
  exact nlX4_criedFor_35 o k8 hk8 l1 l2 l3 l5 V0
def lpX4_criedFor_8  : Nat → Int32 → Int32 → Int32 → Int32 → Int32 → hf_V → Option (Int32 × hf_V)
  | 0 => fun _ _ _ _ _ _ => none
  | n + 1 => fun l1 l2 l3 l4 l5 V0 => ndX4_criedFor_8  (lpX4_criedFor_8  n) l1 l2 l3 l4 l5 V0
theorem llX4_criedFor_8 {C : hf_X} {om : Nat} {b : hf_H} (o : hf_In C cX4_criedFor RX4 8 (some .int) 3 68)   (n : Nat) : ∀ (l1 : Int32) (l2 : Int32) (l3 : Int32) (l4 : Int32) (l5 : Int32) (V0 : hf_V), hf_J C (hf_dMI om b) ((lpX4_criedFor_8  n) l1 l2 l3 l4 l5 V0) (hf_M om b V0) 8 [(0, .ref om), (1, .int l1), (2, .int l2), (3, .int l3), (4, .int l4), (5, .int l5)] [] := by
  induction n with
  | zero => exact fun _ _ _ _ _ _ => hr_none
  | succ n ih => exact fun l1 l2 l3 l4 l5 V0 => nlX4_criedFor_8 o  (lpX4_criedFor_8  n)  ih l1 l2 l3 l4 l5 V0
def spX4_criedFor (l1 : Int32) (l2 : Int32) (V0 : hf_V) : Option (Int32 × hf_V) :=
  lpX4_criedFor_8 hf_N l1 l2 (0 : Int32) (0 : Int32) (0 : Int32) V0
theorem jtX4_criedFor {C : hf_X} {om : Nat} {b : hf_H} (o : hf_In C cX4_criedFor RX4 8 (some .int) 3 68) (l1 : Int32) (l2 : Int32) (V0 : hf_V) : hf_J C (hf_dMI om b) (spX4_criedFor l1 l2 V0) (hf_M om b V0) 0 [(0, .ref om), (1, .int l1), (2, .int l2)] [] := by
  refine hr_iconst o (0 : Int32) dX4_criedFor_0 (by decide) ?_
  refine hr_istore_n o [(3, .int (0 : Int32)), (0, .ref om), (1, .int l1), (2, .int l2)] dX4_criedFor_1 (by decide) rfl ?_
  refine hr_iconst o (0 : Int32) dX4_criedFor_2 (by decide) ?_
  refine hr_istore o [(4, .int (0 : Int32)), (3, .int (0 : Int32)), (0, .ref om), (1, .int l1), (2, .int l2)] dX4_criedFor_3 (by decide) rfl ?_
  refine hr_iconst o (0 : Int32) dX4_criedFor_5 (by decide) ?_
  refine hr_istore o [(5, .int (0 : Int32)), (4, .int (0 : Int32)), (3, .int (0 : Int32)), (0, .ref om), (1, .int l1), (2, .int l2)] dX4_criedFor_6 (by decide) rfl ?_
  refine hr_sub [3, 4, 5, 2, 1, 0] rfl ?_
  exact llX4_criedFor_8 o hf_N l1 l2 (0 : Int32) (0 : Int32) (0 : Int32) V0
theorem mtX4_criedFor {om : Nat} {b : hf_H} (l1 : Int32) (l2 : Int32) (V0 : hf_V) (r : Int32) (V1 : hf_V) (e : spX4_criedFor l1 l2 V0 = some (r, V1)) : hf_Con yX4_criedFor cX4_criedFor 8 (some .int) 3 68 [.ref om, .int l1, .int l2] (hf_M om b V0) (.returned (some (.int r)), hf_M om b V1) := hf_entry (dec := hf_dMI om b) (by decide) [.ref om, .int l1, .int l2] (Nat.le_of_ble_eq_true rfl) [(0, .ref om), (1, .int l1), (2, .int l2)] rfl e (fun C o _ => jtX4_criedFor o l1 l2 V0)

/-! cry -/
theorem mvX4_460 : hf_MV RX4 460 RX4 yX4_criedFor cX4_criedFor 8 (some .int) 2 := ⟨lw_V q1964 q1966 qs143 q162 q1967, by decide +kernel⟩
def ndX4_cry_62 (k29 : Int32 → Int32 → Int32 → Int32 → Int32 → hf_V → Option (Int32 × hf_V)) (l1 : Int32) (l2 : Int32) (l3 : Int32) (l4 : Int32) (l5 : Int32) (V0 : hf_V) : Option (Int32 × hf_V) :=
  hf_let (l5 + (1 : Int32)) fun x1 =>
  k29 l1 l2 l3 l4 x1 V0
theorem nlX4_cry_62 {C : hf_X} {om : Nat} {b : hf_H} (o : hf_In C cX4_cry RX4 7 (some .int) 4 95) (k29 : Int32 → Int32 → Int32 → Int32 → Int32 → hf_V → Option (Int32 × hf_V)) (hk29 : ∀ (l1 : Int32) (l2 : Int32) (l3 : Int32) (l4 : Int32) (l5 : Int32) (V0 : hf_V), hf_J C (hf_dMI om b) (k29 l1 l2 l3 l4 l5 V0) (hf_M om b V0) 29 [(0, .ref om), (1, .int l1), (2, .int l2), (3, .int l3), (4, .int l4), (5, .int l5)] []) (l1 : Int32) (l2 : Int32) (l3 : Int32) (l4 : Int32) (l5 : Int32) (V0 : hf_V) : hf_J C (hf_dMI om b) (ndX4_cry_62 k29 l1 l2 l3 l4 l5 V0) (hf_M om b V0) 62 [(0, .ref om), (1, .int l1), (2, .int l2), (3, .int l3), (4, .int l4), (5, .int l5)] [] := by
  refine hr_iincN o (1 : Int32) 5 (fun y => [(5, .int y), (0, .ref om), (1, .int l1), (2, .int l2), (3, .int l3), (4, .int l4)]) dX4_cry_62 rfl (by decide) (by decide) (fun y => rfl) (fun x1 => ?_)
  refine hr_goto o 29 dX4_cry_65 (by decide) ?_
  refine hr_sub [1, 2, 3, 4, 5, 0] rfl ?_
  exact hk29 l1 l2 l3 l4 x1 V0
def ndX4_cry_29 (k29 : Int32 → Int32 → Int32 → Int32 → Int32 → hf_V → Option (Int32 × hf_V)) (l1 : Int32) (l2 : Int32) (l3 : Int32) (l4 : Int32) (l5 : Int32) (V0 : hf_V) : Option (Int32 × hf_V) :=
  if (100 : Int32) ≤ l5 then (if l2 = 0 then (some (l3, V0)) else
  if 0 ≤ l4 then (some (l4, V0)) else
  some ((0 : Int32), V0)) else
  hf_b2 (spX4_criedFor l1 l5 V0) fun x2 V1 =>
  if l4 < x2 then (ndX4_cry_62 k29 l1 l2 l5 x2 l5 V1) else
  ndX4_cry_62 k29 l1 l2 l3 l4 l5 V1
theorem nlX4_cry_29 {C : hf_X} {om : Nat} {b : hf_H} (o : hf_In C cX4_cry RX4 7 (some .int) 4 95) (k29 : Int32 → Int32 → Int32 → Int32 → Int32 → hf_V → Option (Int32 × hf_V)) (hk29 : ∀ (l1 : Int32) (l2 : Int32) (l3 : Int32) (l4 : Int32) (l5 : Int32) (V0 : hf_V), hf_J C (hf_dMI om b) (k29 l1 l2 l3 l4 l5 V0) (hf_M om b V0) 29 [(0, .ref om), (1, .int l1), (2, .int l2), (3, .int l3), (4, .int l4), (5, .int l5)] []) (l1 : Int32) (l2 : Int32) (l3 : Int32) (l4 : Int32) (l5 : Int32) (V0 : hf_V) : hf_J C (hf_dMI om b) (ndX4_cry_29 k29 l1 l2 l3 l4 l5 V0) (hf_M om b V0) 29 [(0, .ref om), (1, .int l1), (2, .int l2), (3, .int l3), (4, .int l4), (5, .int l5)] [] := by
  refine hr_iload o 5 dX4_cry_29 rfl ?_
  refine hr_bipush o (100 : Int32) dX4_cry_31 (by decide) ?_
  refine hr_icmp_ge o 68 dX4_cry_33 (by decide) (fun _ => ?_) (fun _ => ?_)
  · refine hr_iload_n o 2 dX4_cry_68 rfl ?_
    refine hr_if_ne o 76 dX4_cry_69 (by decide) (fun _ => ?_) (fun _ => ?_)
    · refine hr_iload_n o 3 dX4_cry_72 rfl ?_
      refine hr_goto o 87 dX4_cry_73 (by decide) ?_
      exact hr_iret o dX4_cry_87 rfl rfl
    refine hr_iload o 4 dX4_cry_76 rfl ?_
    refine hr_if_ge o 85 dX4_cry_78 (by decide) (fun _ => ?_) (fun _ => ?_)
    · refine hr_iload o 4 dX4_cry_85 rfl ?_
      exact hr_iret o dX4_cry_87 rfl rfl
    refine hr_iconst o (0 : Int32) dX4_cry_81 (by decide) ?_
    refine hr_goto o 87 dX4_cry_82 (by decide) ?_
    exact hr_iret o dX4_cry_87 rfl rfl
  refine hr_aload_n o 0 dX4_cry_36 rfl ?_
  refine hr_iload_n o 1 dX4_cry_37 rfl ?_
  refine hr_iload o 5 dX4_cry_38 rfl ?_
  refine mr_callI o mvX4_460 dX4_cry_40 [.int l1, .int l5] (fun zr zV ze => mtX4_criedFor l1 l5 V0 zr zV ze) rfl rfl (Nat.le_of_ble_eq_true rfl) ⟨by decide, by decide⟩ (fun x2 V1 => ?_)
  refine hr_istore o [(6, .int x2), (0, .ref om), (1, .int l1), (2, .int l2), (3, .int l3), (4, .int l4), (5, .int l5)] dX4_cry_43 (by decide) rfl ?_
  refine hr_iload o 0 dX4_cry_45 rfl ?_
  refine hr_iload o 5 dX4_cry_47 rfl ?_
  refine hr_icmp_gt o 55 dX4_cry_49 (by decide) (fun _ => ?_) (fun _ => ?_)
  · refine hr_iload o 6 dX4_cry_55 rfl ?_
    refine hr_istore_n o [(3, .int l5), (6, .int x2), (0, .ref om), (1, .int l1), (2, .int l2), (4, .int l4), (5, .int l5)] dX4_cry_57 (by decide) rfl ?_
    refine hr_iload o 1 dX4_cry_58 rfl ?_
    refine hr_istore o [(4, .int x2), (3, .int l5), (6, .int x2), (0, .ref om), (1, .int l1), (2, .int l2), (5, .int l5)] dX4_cry_60 (by decide) rfl ?_
    refine hr_sub [3, 4, 5, 1, 0, 6] rfl ?_
    exact nlX4_cry_62 o k29 hk29 l1 l2 l5 x2 l5 V1
  refine hr_goto o 62 dX4_cry_52 (by decide) ?_
  refine hr_sub [1, 2, 3, 4, 5, 6] rfl ?_
  exact nlX4_cry_62 o k29 hk29 l1 l2 l3 l4 l5 V1
def lpX4_cry_29  : Nat → Int32 → Int32 → Int32 → Int32 → Int32 → hf_V → Option (Int32 × hf_V)
  | 0 => fun _ _ _ _ _ _ => none
  | n + 1 => fun l1 l2 l3 l4 l5 V0 => ndX4_cry_29  (lpX4_cry_29  n) l1 l2 l3 l4 l5 V0
theorem llX4_cry_29 {C : hf_X} {om : Nat} {b : hf_H} (o : hf_In C cX4_cry RX4 7 (some .int) 4 95)   (n : Nat) : ∀ (l1 : Int32) (l2 : Int32) (l3 : Int32) (l4 : Int32) (l5 : Int32) (V0 : hf_V), hf_J C (hf_dMI om b) ((lpX4_cry_29  n) l1 l2 l3 l4 l5 V0) (hf_M om b V0) 29 [(0, .ref om), (1, .int l1), (2, .int l2), (3, .int l3), (4, .int l4), (5, .int l5)] [] := by
  induction n with
  | zero => exact fun _ _ _ _ _ _ => hr_none
  | succ n ih => exact fun l1 l2 l3 l4 l5 V0 => nlX4_cry_29 o  (lpX4_cry_29  n)  ih l1 l2 l3 l4 l5 V0
def spX4_cry (l1 : Int32) (l2 : Int32) (V0 : hf_V) : Option (Int32 × hf_V) :=
  hf_b2 (spX4_isBuyer l1 V0) fun x2 V1 =>
  if x2 = 0 then (some ((-1 : Int32), V1)) else
  (spX4_in (Int32.toInt64 l2) (0 : Int64) (1 : Int64)).bind fun x3 =>
  if x3 = 0 then (some ((-1 : Int32), V1)) else
  lpX4_cry_29 hf_N l1 l2 (-2 : Int32) (-1 : Int32) (0 : Int32) V1
theorem jtX4_cry {C : hf_X} {om : Nat} {b : hf_H} (o : hf_In C cX4_cry RX4 7 (some .int) 4 95) (l1 : Int32) (l2 : Int32) (V0 : hf_V) : hf_J C (hf_dMI om b) (spX4_cry l1 l2 V0) (hf_M om b V0) 0 [(0, .ref om), (1, .int l1), (2, .int l2)] [] := by
  refine hr_aload_n o 0 dX4_cry_0 rfl ?_
  refine hr_iload_n o 1 dX4_cry_1 rfl ?_
  refine mr_callI o mvX4_343 dX4_cry_2 [.int l1] (fun zr zV ze => mtX4_isBuyer l1 V0 zr zV ze) rfl rfl (Nat.le_of_ble_eq_true rfl) ⟨by decide, by decide⟩ (fun x2 V1 => ?_)
  refine hr_if_eq o 18 dX4_cry_5 (by decide) (fun _ => ?_) (fun _ => ?_)
  · refine hr_iconst o (-1 : Int32) dX4_cry_18 (by decide) ?_
    exact hr_iret o dX4_cry_19 rfl rfl
  refine hr_iload_n o 2 dX4_cry_8 rfl ?_
  refine hr_i2l o dX4_cry_9 ?_
  refine hr_lconst o (0 : Int64) dX4_cry_10 (by decide) ?_
  refine hr_lconst o (1 : Int64) dX4_cry_11 (by decide) ?_
  refine pr_callI o msX4_109 dX4_cry_12 [.long (Int32.toInt64 l2), .long (0 : Int64), .long (1 : Int64)] (fun zr ze => mtX4_in (Int32.toInt64 l2) (0 : Int64) (1 : Int64) zr ze) rfl rfl (Nat.le_of_ble_eq_true rfl) ⟨by decide, by decide⟩ (fun x3 => ?_)
  refine hr_if_ne o 20 dX4_cry_15 (by decide) (fun _ => ?_) (fun _ => ?_)
  · refine hr_iconst o (-1 : Int32) dX4_cry_18 (by decide) ?_
    exact hr_iret o dX4_cry_19 rfl rfl
  refine hr_bipush o (-2 : Int32) dX4_cry_20 (by decide) ?_
  refine hr_istore_n o [(3, .int (-2 : Int32)), (0, .ref om), (1, .int l1), (2, .int l2)] dX4_cry_22 (by decide) rfl ?_
  refine hr_iconst o (-1 : Int32) dX4_cry_23 (by decide) ?_
  refine hr_istore o [(4, .int (-1 : Int32)), (3, .int (-2 : Int32)), (0, .ref om), (1, .int l1), (2, .int l2)] dX4_cry_24 (by decide) rfl ?_
  refine hr_iconst o (0 : Int32) dX4_cry_26 (by decide) ?_
  refine hr_istore o [(5, .int (0 : Int32)), (4, .int (-1 : Int32)), (3, .int (-2 : Int32)), (0, .ref om), (1, .int l1), (2, .int l2)] dX4_cry_27 (by decide) rfl ?_
  refine hr_sub [3, 4, 5, 2, 1, 0] rfl ?_
  exact llX4_cry_29 o hf_N l1 l2 (-2 : Int32) (-1 : Int32) (0 : Int32) V1
theorem mtX4_cry {om : Nat} {b : hf_H} (l1 : Int32) (l2 : Int32) (V0 : hf_V) (r : Int32) (V1 : hf_V) (e : spX4_cry l1 l2 V0 = some (r, V1)) : hf_Con yX4_cry cX4_cry 7 (some .int) 4 95 [.ref om, .int l1, .int l2] (hf_M om b V0) (.returned (some (.int r)), hf_M om b V1) := hf_entry (dec := hf_dMI om b) (by decide) [.ref om, .int l1, .int l2] (Nat.le_of_ble_eq_true rfl) [(0, .ref om), (1, .int l1), (2, .int l2)] rfl e (fun C o _ => jtX4_cry o l1 l2 V0)

/-! hoursAhead -/
def ndX4_hoursAhead_25  (s0 : Int32) (V0 : hf_V) : Option (Int32 × hf_V) :=
  if s0 ≤ (24 : Int32) then (some (s0, V0)) else
  some ((24 : Int32), V0)
theorem nlX4_hoursAhead_25 {C : hf_X} {om : Nat} {b : hf_H} (o : hf_In C cX4_hoursAhead RX4 2 (some .int) 1 20)   (s0 : Int32) (V0 : hf_V) : hf_J C (hf_dMI om b) (ndX4_hoursAhead_25 s0 V0) (hf_M om b V0) 25 [] [.int s0] := by
  refine hr_istore_n o [(1, .int s0)] dX4_hoursAhead_25 (by decide) rfl ?_
  refine hr_iload_n o 0 dX4_hoursAhead_26 rfl ?_
  refine hr_bipush o (24 : Int32) dX4_hoursAhead_27 (by decide) ?_
  refine hr_icmp_le o 37 dX4_hoursAhead_29 (by decide) (fun _ => ?_) (fun _ => ?_)
  · refine hr_iload_n o 0 dX4_hoursAhead_37 rfl ?_
    exact hr_iret o dX4_hoursAhead_38 rfl rfl
  refine hr_bipush o (24 : Int32) dX4_hoursAhead_32 (by decide) ?_
  refine hr_goto o 38 dX4_hoursAhead_34 (by decide) ?_
  exact hr_iret o dX4_hoursAhead_38 rfl rfl
def spX4_hoursAhead  (V0 : hf_V) : Option (Int32 × hf_V) :=
  hf_b2 (spX4_isDusk V0) fun x2 V1 =>
  if x2 = 0 then ((hf_ld 123 (V1.2.2.2.1 20) (6 : Int32)).bind fun x3 =>
  (hf_ld 123 (V1.2.2.2.1 20) (3 : Int32)).bind fun x4 =>
  ndX4_hoursAhead_25 (x3 - x4) V1) else
  ndX4_hoursAhead_25 (0 : Int32) V1
theorem jtX4_hoursAhead {C : hf_X} {om : Nat} {b : hf_H} (o : hf_In C cX4_hoursAhead RX4 2 (some .int) 1 20)  (V0 : hf_V) : hf_J C (hf_dMI om b) (spX4_hoursAhead V0) (hf_M om b V0) 0 [(0, .ref om)] [] := by
  refine hr_aload_n o 0 dX4_hoursAhead_0 rfl ?_
  refine mr_callI o mvX4_298 dX4_hoursAhead_1 [] (fun zr zV ze => mtX4_isDusk  V0 zr zV ze) rfl rfl (Nat.le_of_ble_eq_true rfl) ⟨by decide, by decide⟩ (fun x2 V1 => ?_)
  refine hr_if_eq o 11 dX4_hoursAhead_4 (by decide) (fun _ => ?_) (fun _ => ?_)
  · refine hr_aload_n o 0 dX4_hoursAhead_11 rfl ?_
    refine mr_get o flX4_39 dX4_hoursAhead_12 (.ref (om + 10)) rfl ?_
    refine hr_bipush o (6 : Int32) dX4_hoursAhead_15 (by decide) ?_
    refine mr_iald o 20 10 123 rfl (by decide) rfl dX4_hoursAhead_17 (fun x3 => ?_)
    refine hr_aload_n o 0 dX4_hoursAhead_18 rfl ?_
    refine mr_get o flX4_39 dX4_hoursAhead_19 (.ref (om + 10)) rfl ?_
    refine hr_iconst o (3 : Int32) dX4_hoursAhead_22 (by decide) ?_
    refine mr_iald o 20 10 123 rfl (by decide) rfl dX4_hoursAhead_23 (fun x4 => ?_)
    refine hr_isub o dX4_hoursAhead_24 ?_
    refine hr_sub [] rfl ?_
    exact nlX4_hoursAhead_25 o (x3 - x4) V1
  refine hr_iconst o (0 : Int32) dX4_hoursAhead_7 (by decide) ?_
  refine hr_goto o 25 dX4_hoursAhead_8 (by decide) ?_
  refine hr_sub [] rfl ?_
  exact nlX4_hoursAhead_25 o (0 : Int32) V1
theorem mtX4_hoursAhead {om : Nat} {b : hf_H}  (V0 : hf_V) (r : Int32) (V1 : hf_V) (e : spX4_hoursAhead V0 = some (r, V1)) : hf_Con yX4_hoursAhead cX4_hoursAhead 2 (some .int) 1 20 [.ref om] (hf_M om b V0) (.returned (some (.int r)), hf_M om b V1) := hf_entry (dec := hf_dMI om b) (by decide) [.ref om] (Nat.le_of_ble_eq_true rfl) [(0, .ref om)] rfl e (fun C o _ => jtX4_hoursAhead o V0)

/-! keeps -/
theorem flX4_57 : hf_Fl RX4 57 4 32 := ⟨(RX4, TX4, 37), RX4, rfl, by decide, in_X4, tyX4_ok, nmX4, Or.inl q1432, Or.inl rfl⟩
def ndX4_keeps_2 (k2 : Int32 → hf_V → Option hf_V) (l1 : Int32) (V0 : hf_V) : Option hf_V :=
  if (86 : Int32) ≤ l1 then (some V0) else
  (hf_ld 123 (V0.2.2.2.1 20) l1).bind fun x1 =>
  hf_sd 86 l1 (fun j => hf_ua V0 32 j x1) fun V2 =>
  hf_let (l1 + (1 : Int32)) fun x3 =>
  k2 x3 V2
theorem nlX4_keeps_2 {C : hf_X} {om : Nat} {b : hf_H} (o : hf_In C cX4_keeps RX4 2 (none) 0 0) (k2 : Int32 → hf_V → Option hf_V) (hk2 : ∀ (l1 : Int32) (V0 : hf_V), hf_J C (hf_dMV om b) (k2 l1 V0) (hf_M om b V0) 2 [(0, .ref om), (1, .int l1)] []) (l1 : Int32) (V0 : hf_V) : hf_J C (hf_dMV om b) (ndX4_keeps_2 k2 l1 V0) (hf_M om b V0) 2 [(0, .ref om), (1, .int l1)] [] := by
  refine hr_iload_n o 1 dX4_keeps_2 rfl ?_
  refine hr_bipush o (86 : Int32) dX4_keeps_3 (by decide) ?_
  refine hr_icmp_ge o 26 dX4_keeps_5 (by decide) (fun _ => ?_) (fun _ => ?_)
  · exact hr_vret o dX4_keeps_26 rfl
  refine hr_aload_n o 0 dX4_keeps_8 rfl ?_
  refine mr_get o flX4_57 dX4_keeps_9 (.ref (om + 16)) rfl ?_
  refine hr_iload_n o 1 dX4_keeps_12 rfl ?_
  refine hr_aload_n o 0 dX4_keeps_13 rfl ?_
  refine mr_get o flX4_39 dX4_keeps_14 (.ref (om + 10)) rfl ?_
  refine hr_iload_n o 1 dX4_keeps_17 rfl ?_
  refine mr_iald o 20 10 123 rfl (by decide) rfl dX4_keeps_18 (fun x1 => ?_)
  refine mr_iast o 32 16 86 rfl (by decide) rfl dX4_keeps_19 (fun V2 => ?_)
  refine hr_iincN o (1 : Int32) 1 (fun y => [(1, .int y), (0, .ref om)]) dX4_keeps_20 rfl (by decide) (by decide) (fun y => rfl) (fun x3 => ?_)
  refine hr_goto o 2 dX4_keeps_23 (by decide) ?_
  refine hr_sub [1, 0] rfl ?_
  exact hk2 x3 V2
def lpX4_keeps_2  : Nat → Int32 → hf_V → Option hf_V
  | 0 => fun _ _ => none
  | n + 1 => fun l1 V0 => ndX4_keeps_2  (lpX4_keeps_2  n) l1 V0
theorem llX4_keeps_2 {C : hf_X} {om : Nat} {b : hf_H} (o : hf_In C cX4_keeps RX4 2 (none) 0 0)   (n : Nat) : ∀ (l1 : Int32) (V0 : hf_V), hf_J C (hf_dMV om b) ((lpX4_keeps_2  n) l1 V0) (hf_M om b V0) 2 [(0, .ref om), (1, .int l1)] [] := by
  induction n with
  | zero => exact fun _ _ => hr_none
  | succ n ih => exact fun l1 V0 => nlX4_keeps_2 o  (lpX4_keeps_2  n)  ih l1 V0
def spX4_keeps  (V0 : hf_V) : Option hf_V :=
  lpX4_keeps_2 hf_N (0 : Int32) V0
theorem jtX4_keeps {C : hf_X} {om : Nat} {b : hf_H} (o : hf_In C cX4_keeps RX4 2 (none) 0 0)  (V0 : hf_V) : hf_J C (hf_dMV om b) (spX4_keeps V0) (hf_M om b V0) 0 [(0, .ref om)] [] := by
  refine hr_iconst o (0 : Int32) dX4_keeps_0 (by decide) ?_
  refine hr_istore_n o [(1, .int (0 : Int32)), (0, .ref om)] dX4_keeps_1 (by decide) rfl ?_
  refine hr_sub [1, 0] rfl ?_
  exact llX4_keeps_2 o hf_N (0 : Int32) V0
theorem mtX4_keeps {om : Nat} {b : hf_H}  (V0 V1 : hf_V) (e : spX4_keeps V0 = some V1) : hf_Con yX4_keeps cX4_keeps 2 (none) 0 0 [.ref om] (hf_M om b V0) (.returned none, hf_M om b V1) := hf_entry (dec := hf_dMV om b) (by decide) [.ref om] (Nat.le_of_ble_eq_true rfl) [(0, .ref om)] rfl e (fun C o _ => jtX4_keeps o V0)

/-! putsBack -/
def ndX4_putsBack_2 (k2 : Int32 → hf_V → Option hf_V) (l1 : Int32) (V0 : hf_V) : Option hf_V :=
  if (86 : Int32) ≤ l1 then (some V0) else
  (hf_ld 86 (V0.2.2.2.1 32) l1).bind fun x1 =>
  hf_sd 123 l1 (fun j => hf_ua V0 20 j x1) fun V2 =>
  hf_let (l1 + (1 : Int32)) fun x3 =>
  k2 x3 V2
theorem nlX4_putsBack_2 {C : hf_X} {om : Nat} {b : hf_H} (o : hf_In C cX4_putsBack RX4 2 (none) 0 0) (k2 : Int32 → hf_V → Option hf_V) (hk2 : ∀ (l1 : Int32) (V0 : hf_V), hf_J C (hf_dMV om b) (k2 l1 V0) (hf_M om b V0) 2 [(0, .ref om), (1, .int l1)] []) (l1 : Int32) (V0 : hf_V) : hf_J C (hf_dMV om b) (ndX4_putsBack_2 k2 l1 V0) (hf_M om b V0) 2 [(0, .ref om), (1, .int l1)] [] := by
  refine hr_iload_n o 1 dX4_putsBack_2 rfl ?_
  refine hr_bipush o (86 : Int32) dX4_putsBack_3 (by decide) ?_
  refine hr_icmp_ge o 26 dX4_putsBack_5 (by decide) (fun _ => ?_) (fun _ => ?_)
  · exact hr_vret o dX4_putsBack_26 rfl
  refine hr_aload_n o 0 dX4_putsBack_8 rfl ?_
  refine mr_get o flX4_39 dX4_putsBack_9 (.ref (om + 10)) rfl ?_
  refine hr_iload_n o 1 dX4_putsBack_12 rfl ?_
  refine hr_aload_n o 0 dX4_putsBack_13 rfl ?_
  refine mr_get o flX4_57 dX4_putsBack_14 (.ref (om + 16)) rfl ?_
  refine hr_iload_n o 1 dX4_putsBack_17 rfl ?_
  refine mr_iald o 32 16 86 rfl (by decide) rfl dX4_putsBack_18 (fun x1 => ?_)
  refine mr_iast o 20 10 123 rfl (by decide) rfl dX4_putsBack_19 (fun V2 => ?_)
  refine hr_iincN o (1 : Int32) 1 (fun y => [(1, .int y), (0, .ref om)]) dX4_putsBack_20 rfl (by decide) (by decide) (fun y => rfl) (fun x3 => ?_)
  refine hr_goto o 2 dX4_putsBack_23 (by decide) ?_
  refine hr_sub [1, 0] rfl ?_
  exact hk2 x3 V2
def lpX4_putsBack_2  : Nat → Int32 → hf_V → Option hf_V
  | 0 => fun _ _ => none
  | n + 1 => fun l1 V0 => ndX4_putsBack_2  (lpX4_putsBack_2  n) l1 V0
theorem llX4_putsBack_2 {C : hf_X} {om : Nat} {b : hf_H} (o : hf_In C cX4_putsBack RX4 2 (none) 0 0)   (n : Nat) : ∀ (l1 : Int32) (V0 : hf_V), hf_J C (hf_dMV om b) ((lpX4_putsBack_2  n) l1 V0) (hf_M om b V0) 2 [(0, .ref om), (1, .int l1)] [] := by
  induction n with
  | zero => exact fun _ _ => hr_none
  | succ n ih => exact fun l1 V0 => nlX4_putsBack_2 o  (lpX4_putsBack_2  n)  ih l1 V0
def spX4_putsBack  (V0 : hf_V) : Option hf_V :=
  lpX4_putsBack_2 hf_N (0 : Int32) V0
theorem jtX4_putsBack {C : hf_X} {om : Nat} {b : hf_H} (o : hf_In C cX4_putsBack RX4 2 (none) 0 0)  (V0 : hf_V) : hf_J C (hf_dMV om b) (spX4_putsBack V0) (hf_M om b V0) 0 [(0, .ref om)] [] := by
  refine hr_iconst o (0 : Int32) dX4_putsBack_0 (by decide) ?_
  refine hr_istore_n o [(1, .int (0 : Int32)), (0, .ref om)] dX4_putsBack_1 (by decide) rfl ?_
  refine hr_sub [1, 0] rfl ?_
  exact llX4_putsBack_2 o hf_N (0 : Int32) V0
theorem mtX4_putsBack {om : Nat} {b : hf_H}  (V0 V1 : hf_V) (e : spX4_putsBack V0 = some V1) : hf_Con yX4_putsBack cX4_putsBack 2 (none) 0 0 [.ref om] (hf_M om b V0) (.returned none, hf_M om b V1) := hf_entry (dec := hf_dMV om b) (by decide) [.ref om] (Nat.le_of_ble_eq_true rfl) [(0, .ref om)] rfl e (fun C o _ => jtX4_putsBack o V0)

/-! soldFrom -/
theorem mvX4_463 : hf_MV RX4 463 RX4 yX4_putsBack cX4_putsBack 2 (none) 0 := ⟨lw_V q1988 q1990 qs148 q162 q1991, by decide +kernel⟩
def ndX4_soldFrom_60 (k20 : Int32 → Int32 → Int32 → Int32 → Int32 → hf_V → Option (Int32 × hf_V)) (l1 : Int32) (l2 : Int32) (l4 : Int32) (l5 : Int32) (l6 : Int32) (V0 : hf_V) : Option (Int32 × hf_V) :=
  hf_let (l6 + (1 : Int32)) fun x1 =>
  k20 l1 l2 l4 l5 x1 V0
theorem nlX4_soldFrom_60 {C : hf_X} {om : Nat} {b : hf_H} (o : hf_In C cX4_soldFrom RX4 8 (some .int) 8 187) (k20 : Int32 → Int32 → Int32 → Int32 → Int32 → hf_V → Option (Int32 × hf_V)) (hk20 : ∀ (l1 : Int32) (l2 : Int32) (l4 : Int32) (l5 : Int32) (l6 : Int32) (V0 : hf_V), hf_J C (hf_dMI om b) (k20 l1 l2 l4 l5 l6 V0) (hf_M om b V0) 20 [(0, .ref om), (1, .int l1), (2, .int l2), (4, .int l4), (5, .int l5), (6, .int l6)] []) (l1 : Int32) (l2 : Int32) (l4 : Int32) (l5 : Int32) (l6 : Int32) (V0 : hf_V) : hf_J C (hf_dMI om b) (ndX4_soldFrom_60 k20 l1 l2 l4 l5 l6 V0) (hf_M om b V0) 60 [(0, .ref om), (1, .int l1), (2, .int l2), (4, .int l4), (5, .int l5), (6, .int l6)] [] := by
  refine hr_iincN o (1 : Int32) 5 (fun y => [(6, .int y), (0, .ref om), (1, .int l1), (2, .int l2), (4, .int l4), (5, .int l5)]) dX4_soldFrom_60 rfl (by decide) (by decide) (fun y => rfl) (fun x1 => ?_)
  refine hr_goto o 20 dX4_soldFrom_63 (by decide) ?_
  refine hr_sub [1, 2, 3, 4, 5, 0] rfl ?_
  exact hk20 l1 l2 l4 l5 x1 V0
def ndX4_soldFrom_66  (l5 : Int32) (V0 : hf_V) : Option (Int32 × hf_V) :=
  (spX4_putsBack V0).bind fun V1 =>
  some (l5, V1)
theorem nlX4_soldFrom_66 {C : hf_X} {om : Nat} {b : hf_H} (o : hf_In C cX4_soldFrom RX4 8 (some .int) 8 187)   (l5 : Int32) (V0 : hf_V) : hf_J C (hf_dMI om b) (ndX4_soldFrom_66 l5 V0) (hf_M om b V0) 66 [(0, .ref om), (5, .int l5)] [] := by
  refine hr_aload_n o 0 dX4_soldFrom_66 rfl ?_
  refine mr_callV o mvX4_463 dX4_soldFrom_67 [] (fun zV ze => mtX4_putsBack  V0 zV ze) rfl rfl (Nat.le_of_ble_eq_true rfl) ⟨by decide, by decide⟩ (fun V1 => ?_)
  refine hr_iload o 1 dX4_soldFrom_70 rfl ?_
  exact hr_iret o dX4_soldFrom_72 rfl rfl
def ndX4_soldFrom_20 (k20 : Int32 → Int32 → Int32 → Int32 → Int32 → hf_V → Option (Int32 × hf_V)) (l1 : Int32) (l2 : Int32) (l4 : Int32) (l5 : Int32) (l6 : Int32) (V0 : hf_V) : Option (Int32 × hf_V) :=
  if l4 ≤ l6 then (ndX4_soldFrom_66 l5 V0) else
  if 0 ≤ l5 then (ndX4_soldFrom_66 l5 V0) else
  (hf_ld 123 (V0.2.2.2.1 20) (3 : Int32)).bind fun x1 =>
  (spX4_passes l1 V0).bind fun V2 =>
  hf_b2 (spX4_halfOf l2 (3 : Int32) V2) fun x4 V3 =>
  if x4 < (100 : Int32) then (ndX4_soldFrom_60 k20 l1 l2 l4 l5 l6 V3) else
  ndX4_soldFrom_60 k20 l1 l2 l4 x1 l6 V3
theorem nlX4_soldFrom_20 {C : hf_X} {om : Nat} {b : hf_H} (o : hf_In C cX4_soldFrom RX4 8 (some .int) 8 187) (k20 : Int32 → Int32 → Int32 → Int32 → Int32 → hf_V → Option (Int32 × hf_V)) (hk20 : ∀ (l1 : Int32) (l2 : Int32) (l4 : Int32) (l5 : Int32) (l6 : Int32) (V0 : hf_V), hf_J C (hf_dMI om b) (k20 l1 l2 l4 l5 l6 V0) (hf_M om b V0) 20 [(0, .ref om), (1, .int l1), (2, .int l2), (4, .int l4), (5, .int l5), (6, .int l6)] []) (l1 : Int32) (l2 : Int32) (l4 : Int32) (l5 : Int32) (l6 : Int32) (V0 : hf_V) : hf_J C (hf_dMI om b) (ndX4_soldFrom_20 k20 l1 l2 l4 l5 l6 V0) (hf_M om b V0) 20 [(0, .ref om), (1, .int l1), (2, .int l2), (4, .int l4), (5, .int l5), (6, .int l6)] [] := by
  refine hr_iload o 5 dX4_soldFrom_20 rfl ?_
  refine hr_iload o 3 dX4_soldFrom_22 rfl ?_
  refine hr_icmp_ge o 66 dX4_soldFrom_24 (by decide) (fun _ => ?_) (fun _ => ?_)
  · refine hr_sub [0, 4] rfl ?_
    exact nlX4_soldFrom_66 o l5 V0
  refine hr_iload o 4 dX4_soldFrom_27 rfl ?_
  refine hr_if_ge o 66 dX4_soldFrom_29 (by decide) (fun _ => ?_) (fun _ => ?_)
  · refine hr_sub [0, 4] rfl ?_
    exact nlX4_soldFrom_66 o l5 V0
  refine hr_aload_n o 0 dX4_soldFrom_32 rfl ?_
  refine mr_get o flX4_39 dX4_soldFrom_33 (.ref (om + 10)) rfl ?_
  refine hr_iconst o (3 : Int32) dX4_soldFrom_36 (by decide) ?_
  refine mr_iald o 20 10 123 rfl (by decide) rfl dX4_soldFrom_37 (fun x1 => ?_)
  refine hr_istore o [(7, .int x1), (0, .ref om), (1, .int l1), (2, .int l2), (4, .int l4), (5, .int l5), (6, .int l6)] dX4_soldFrom_38 (by decide) rfl ?_
  refine hr_aload_n o 1 dX4_soldFrom_40 rfl ?_
  refine hr_iload_n o 2 dX4_soldFrom_41 rfl ?_
  refine mr_callV o mvX4_418 dX4_soldFrom_42 [.int l1] (fun zV ze => mtX4_passes l1 V0 zV ze) rfl rfl (Nat.le_of_ble_eq_true rfl) ⟨by decide, by decide⟩ (fun V2 => ?_)
  refine hr_aload_n o 1 dX4_soldFrom_45 rfl ?_
  refine hr_iload_n o 3 dX4_soldFrom_46 rfl ?_
  refine hr_iconst o (3 : Int32) dX4_soldFrom_47 (by decide) ?_
  refine mr_callI o mvX4_301 dX4_soldFrom_48 [.int l2, .int (3 : Int32)] (fun zr zV ze => mtX4_halfOf l2 (3 : Int32) V2 zr zV ze) rfl rfl (Nat.le_of_ble_eq_true rfl) ⟨by decide, by decide⟩ (fun x4 V3 => ?_)
  refine hr_bipush o (100 : Int32) dX4_soldFrom_51 (by decide) ?_
  refine hr_icmp_lt o 60 dX4_soldFrom_53 (by decide) (fun _ => ?_) (fun _ => ?_)
  · refine hr_sub [1, 2, 3, 4, 5, 6] rfl ?_
    exact nlX4_soldFrom_60 o k20 hk20 l1 l2 l4 l5 l6 V3
  refine hr_iload o 0 dX4_soldFrom_56 rfl ?_
  refine hr_istore o [(5, .int x1), (7, .int x1), (0, .ref om), (1, .int l1), (2, .int l2), (4, .int l4), (6, .int l6)] dX4_soldFrom_58 (by decide) rfl ?_
  refine hr_sub [2, 3, 4, 5, 0, 6] rfl ?_
  exact nlX4_soldFrom_60 o k20 hk20 l1 l2 l4 x1 l6 V3
def lpX4_soldFrom_20  : Nat → Int32 → Int32 → Int32 → Int32 → Int32 → hf_V → Option (Int32 × hf_V)
  | 0 => fun _ _ _ _ _ _ => none
  | n + 1 => fun l1 l2 l4 l5 l6 V0 => ndX4_soldFrom_20  (lpX4_soldFrom_20  n) l1 l2 l4 l5 l6 V0
theorem llX4_soldFrom_20 {C : hf_X} {om : Nat} {b : hf_H} (o : hf_In C cX4_soldFrom RX4 8 (some .int) 8 187)   (n : Nat) : ∀ (l1 : Int32) (l2 : Int32) (l4 : Int32) (l5 : Int32) (l6 : Int32) (V0 : hf_V), hf_J C (hf_dMI om b) ((lpX4_soldFrom_20  n) l1 l2 l4 l5 l6 V0) (hf_M om b V0) 20 [(0, .ref om), (1, .int l1), (2, .int l2), (4, .int l4), (5, .int l5), (6, .int l6)] [] := by
  induction n with
  | zero => exact fun _ _ _ _ _ _ => hr_none
  | succ n ih => exact fun l1 l2 l4 l5 l6 V0 => nlX4_soldFrom_20 o  (lpX4_soldFrom_20  n)  ih l1 l2 l4 l5 l6 V0
def spX4_soldFrom (l1 : Int32) (l2 : Int32) (l3 : Int32) (l4 : Int32) (V0 : hf_V) : Option (Int32 × hf_V) :=
  hf_sd 123 (((10 : Int32) + ((5 : Int32) * l2)) + (3 : Int32)) (fun j => hf_ua V0 20 j l3) fun V1 =>
  lpX4_soldFrom_20 hf_N l1 l2 l4 (-1 : Int32) (0 : Int32) V1
theorem jtX4_soldFrom {C : hf_X} {om : Nat} {b : hf_H} (o : hf_In C cX4_soldFrom RX4 8 (some .int) 8 187) (l1 : Int32) (l2 : Int32) (l3 : Int32) (l4 : Int32) (V0 : hf_V) : hf_J C (hf_dMI om b) (spX4_soldFrom l1 l2 l3 l4 V0) (hf_M om b V0) 0 [(0, .ref om), (1, .int l1), (2, .int l2), (3, .int l3), (4, .int l4)] [] := by
  refine hr_aload_n o 0 dX4_soldFrom_0 rfl ?_
  refine mr_get o flX4_39 dX4_soldFrom_1 (.ref (om + 10)) rfl ?_
  refine hr_bipush o (10 : Int32) dX4_soldFrom_4 (by decide) ?_
  refine hr_iconst o (5 : Int32) dX4_soldFrom_6 (by decide) ?_
  refine hr_iload_n o 2 dX4_soldFrom_7 rfl ?_
  refine hr_imul o dX4_soldFrom_8 ?_
  refine hr_iadd o dX4_soldFrom_9 ?_
  refine hr_iconst o (3 : Int32) dX4_soldFrom_10 (by decide) ?_
  refine hr_iadd o dX4_soldFrom_11 ?_
  refine hr_iload_n o 3 dX4_soldFrom_12 rfl ?_
  refine mr_iast o 20 10 123 rfl (by decide) rfl dX4_soldFrom_13 (fun V1 => ?_)
  refine hr_iconst o (-1 : Int32) dX4_soldFrom_14 (by decide) ?_
  refine hr_istore o [(5, .int (-1 : Int32)), (0, .ref om), (1, .int l1), (2, .int l2), (3, .int l3), (4, .int l4)] dX4_soldFrom_15 (by decide) rfl ?_
  refine hr_iconst o (0 : Int32) dX4_soldFrom_17 (by decide) ?_
  refine hr_istore o [(6, .int (0 : Int32)), (5, .int (-1 : Int32)), (0, .ref om), (1, .int l1), (2, .int l2), (3, .int l3), (4, .int l4)] dX4_soldFrom_18 (by decide) rfl ?_
  refine hr_sub [2, 3, 4, 6, 1, 0] rfl ?_
  exact llX4_soldFrom_20 o hf_N l1 l2 l4 (-1 : Int32) (0 : Int32) V1
theorem mtX4_soldFrom {om : Nat} {b : hf_H} (l1 : Int32) (l2 : Int32) (l3 : Int32) (l4 : Int32) (V0 : hf_V) (r : Int32) (V1 : hf_V) (e : spX4_soldFrom l1 l2 l3 l4 V0 = some (r, V1)) : hf_Con yX4_soldFrom cX4_soldFrom 8 (some .int) 8 187 [.ref om, .int l1, .int l2, .int l3, .int l4] (hf_M om b V0) (.returned (some (.int r)), hf_M om b V1) := hf_entry (dec := hf_dMI om b) (by decide) [.ref om, .int l1, .int l2, .int l3, .int l4] (Nat.le_of_ble_eq_true rfl) [(0, .ref om), (1, .int l1), (2, .int l2), (3, .int l3), (4, .int l4)] rfl e (fun C o _ => jtX4_soldFrom o l1 l2 l3 l4 V0)

/-! bring -/
theorem mvX4_472 : hf_MV RX4 472 RX4 yX4_soldFrom cX4_soldFrom 8 (some .int) 4 := ⟨lw_V q1984 q1986 qs147 q162 q1987, by decide +kernel⟩
theorem mvX4_466 : hf_MV RX4 466 RX4 yX4_hoursAhead cX4_hoursAhead 2 (some .int) 0 := ⟨lw_V q1976 q1978 qs145 q162 q1979, by decide +kernel⟩
theorem mvX4_469 : hf_MV RX4 469 RX4 yX4_keeps cX4_keeps 2 (none) 0 := ⟨lw_V q1980 q1982 qs146 q162 q1983, by decide +kernel⟩
def ndX4_bring_121 (k49 : Int32 → Int32 → Int32 → Int32 → Int32 → Int32 → Int32 → hf_V → Option (Int32 × hf_V)) (l1 : Int32) (l2 : Int32) (l3 : Int32) (l4 : Int32) (l5 : Int32) (l6 : Int32) (l7 : Int32) (V0 : hf_V) : Option (Int32 × hf_V) :=
  hf_let (l7 + (1 : Int32)) fun x1 =>
  k49 l1 l2 l3 l4 l5 l6 x1 V0
theorem nlX4_bring_121 {C : hf_X} {om : Nat} {b : hf_H} (o : hf_In C cX4_bring RX4 9 (some .int) 9 214) (k49 : Int32 → Int32 → Int32 → Int32 → Int32 → Int32 → Int32 → hf_V → Option (Int32 × hf_V)) (hk49 : ∀ (l1 : Int32) (l2 : Int32) (l3 : Int32) (l4 : Int32) (l5 : Int32) (l6 : Int32) (l7 : Int32) (V0 : hf_V), hf_J C (hf_dMI om b) (k49 l1 l2 l3 l4 l5 l6 l7 V0) (hf_M om b V0) 49 [(0, .ref om), (1, .int l1), (2, .int l2), (3, .int l3), (4, .int l4), (5, .int l5), (6, .int l6), (7, .int l7)] []) (l1 : Int32) (l2 : Int32) (l3 : Int32) (l4 : Int32) (l5 : Int32) (l6 : Int32) (l7 : Int32) (V0 : hf_V) : hf_J C (hf_dMI om b) (ndX4_bring_121 k49 l1 l2 l3 l4 l5 l6 l7 V0) (hf_M om b V0) 121 [(0, .ref om), (1, .int l1), (2, .int l2), (3, .int l3), (4, .int l4), (5, .int l5), (6, .int l6), (7, .int l7)] [] := by
  refine hr_iincN o (1 : Int32) 7 (fun y => [(7, .int y), (0, .ref om), (1, .int l1), (2, .int l2), (3, .int l3), (4, .int l4), (5, .int l5), (6, .int l6)]) dX4_bring_121 rfl (by decide) (by decide) (fun y => rfl) (fun x1 => ?_)
  refine hr_goto o 49 dX4_bring_124 (by decide) ?_
  refine hr_sub [1, 2, 3, 4, 5, 6, 7, 0] rfl ?_
  exact hk49 l1 l2 l3 l4 l5 l6 x1 V0
def ndX4_bring_113 (k49 : Int32 → Int32 → Int32 → Int32 → Int32 → Int32 → Int32 → hf_V → Option (Int32 × hf_V)) (l1 : Int32) (l2 : Int32) (l3 : Int32) (l4 : Int32) (l7 : Int32) (l8 : Int32) (V0 : hf_V) : Option (Int32 × hf_V) :=
  ndX4_bring_121 k49 l1 l2 l3 l4 l7 l8 l7 V0
theorem nlX4_bring_113 {C : hf_X} {om : Nat} {b : hf_H} (o : hf_In C cX4_bring RX4 9 (some .int) 9 214) (k49 : Int32 → Int32 → Int32 → Int32 → Int32 → Int32 → Int32 → hf_V → Option (Int32 × hf_V)) (hk49 : ∀ (l1 : Int32) (l2 : Int32) (l3 : Int32) (l4 : Int32) (l5 : Int32) (l6 : Int32) (l7 : Int32) (V0 : hf_V), hf_J C (hf_dMI om b) (k49 l1 l2 l3 l4 l5 l6 l7 V0) (hf_M om b V0) 49 [(0, .ref om), (1, .int l1), (2, .int l2), (3, .int l3), (4, .int l4), (5, .int l5), (6, .int l6), (7, .int l7)] []) (l1 : Int32) (l2 : Int32) (l3 : Int32) (l4 : Int32) (l7 : Int32) (l8 : Int32) (V0 : hf_V) : hf_J C (hf_dMI om b) (ndX4_bring_113 k49 l1 l2 l3 l4 l7 l8 V0) (hf_M om b V0) 113 [(0, .ref om), (1, .int l1), (2, .int l2), (3, .int l3), (4, .int l4), (7, .int l7), (8, .int l8)] [] := by
  refine hr_iload o 5 dX4_bring_113 rfl ?_
  refine hr_istore o [(5, .int l7), (0, .ref om), (1, .int l1), (2, .int l2), (3, .int l3), (4, .int l4), (7, .int l7), (8, .int l8)] dX4_bring_115 (by decide) rfl ?_
  refine hr_iload o 7 dX4_bring_117 rfl ?_
  refine hr_istore o [(6, .int l8), (5, .int l7), (0, .ref om), (1, .int l1), (2, .int l2), (3, .int l3), (4, .int l4), (7, .int l7), (8, .int l8)] dX4_bring_119 (by decide) rfl ?_
  refine hr_sub [2, 3, 4, 5, 6, 1, 0, 7] rfl ?_
  exact nlX4_bring_121 o k49 hk49 l1 l2 l3 l4 l7 l8 l7 V0
def ndX4_bring_49 (k49 : Int32 → Int32 → Int32 → Int32 → Int32 → Int32 → Int32 → hf_V → Option (Int32 × hf_V)) (l1 : Int32) (l2 : Int32) (l3 : Int32) (l4 : Int32) (l5 : Int32) (l6 : Int32) (l7 : Int32) (V0 : hf_V) : Option (Int32 × hf_V) :=
  (hf_ld 123 (V0.2.2.2.1 20) (0 : Int32)).bind fun x1 =>
  if x1 ≤ l7 then (if l3 = 0 then (some (l5, V0)) else
  some (l6, V0)) else
  (hf_ld 86 (V0.2.2.2.1 32) (((10 : Int32) + ((5 : Int32) * l2)) + (3 : Int32))).bind fun x2 =>
  if l7 = x2 then (ndX4_bring_121 k49 l1 l2 l3 l4 l5 l6 l7 V0) else
  hf_b2 (spX4_soldFrom l1 l2 l7 l4 V0) fun x4 V3 =>
  if x4 < 0 then (ndX4_bring_121 k49 l1 l2 l3 l4 l5 l6 l7 V3) else
  if l5 < 0 then (ndX4_bring_113 k49 l1 l2 l3 l4 l7 x4 V3) else
  if x4 < l6 then (ndX4_bring_113 k49 l1 l2 l3 l4 l7 x4 V3) else
  ndX4_bring_121 k49 l1 l2 l3 l4 l5 l6 l7 V3
theorem nlX4_bring_49 {C : hf_X} {om : Nat} {b : hf_H} (o : hf_In C cX4_bring RX4 9 (some .int) 9 214) (k49 : Int32 → Int32 → Int32 → Int32 → Int32 → Int32 → Int32 → hf_V → Option (Int32 × hf_V)) (hk49 : ∀ (l1 : Int32) (l2 : Int32) (l3 : Int32) (l4 : Int32) (l5 : Int32) (l6 : Int32) (l7 : Int32) (V0 : hf_V), hf_J C (hf_dMI om b) (k49 l1 l2 l3 l4 l5 l6 l7 V0) (hf_M om b V0) 49 [(0, .ref om), (1, .int l1), (2, .int l2), (3, .int l3), (4, .int l4), (5, .int l5), (6, .int l6), (7, .int l7)] []) (l1 : Int32) (l2 : Int32) (l3 : Int32) (l4 : Int32) (l5 : Int32) (l6 : Int32) (l7 : Int32) (V0 : hf_V) : hf_J C (hf_dMI om b) (ndX4_bring_49 k49 l1 l2 l3 l4 l5 l6 l7 V0) (hf_M om b V0) 49 [(0, .ref om), (1, .int l1), (2, .int l2), (3, .int l3), (4, .int l4), (5, .int l5), (6, .int l6), (7, .int l7)] [] := by
  refine hr_iload o 7 dX4_bring_49 rfl ?_
  refine hr_aload_n o 0 dX4_bring_51 rfl ?_
  refine mr_get o flX4_39 dX4_bring_52 (.ref (om + 10)) rfl ?_
  refine hr_iconst o (0 : Int32) dX4_bring_55 (by decide) ?_
  refine mr_iald o 20 10 123 rfl (by decide) rfl dX4_bring_56 (fun x1 => ?_)
  refine hr_icmp_ge o 127 dX4_bring_57 (by decide) (fun _ => ?_) (fun _ => ?_)
  · refine hr_iload_n o 3 dX4_bring_127 rfl ?_
    refine hr_if_ne o 136 dX4_bring_128 (by decide) (fun _ => ?_) (fun _ => ?_)
    · refine hr_iload o 5 dX4_bring_131 rfl ?_
      refine hr_goto o 138 dX4_bring_133 (by decide) ?_
      exact hr_iret o dX4_bring_138 rfl rfl
    refine hr_iload o 6 dX4_bring_136 rfl ?_
    exact hr_iret o dX4_bring_138 rfl rfl
  refine hr_iload o 7 dX4_bring_60 rfl ?_
  refine hr_aload_n o 0 dX4_bring_62 rfl ?_
  refine mr_get o flX4_57 dX4_bring_63 (.ref (om + 16)) rfl ?_
  refine hr_bipush o (10 : Int32) dX4_bring_66 (by decide) ?_
  refine hr_iconst o (5 : Int32) dX4_bring_68 (by decide) ?_
  refine hr_iload_n o 2 dX4_bring_69 rfl ?_
  refine hr_imul o dX4_bring_70 ?_
  refine hr_iadd o dX4_bring_71 ?_
  refine hr_iconst o (3 : Int32) dX4_bring_72 (by decide) ?_
  refine hr_iadd o dX4_bring_73 ?_
  refine mr_iald o 32 16 86 rfl (by decide) rfl dX4_bring_74 (fun x2 => ?_)
  refine hr_icmp_ne o 81 dX4_bring_75 (by decide) (fun _ => ?_) (fun _ => ?_)
  · refine hr_goto o 121 dX4_bring_78 (by decide) ?_
    exact nlX4_bring_121 o k49 hk49 l1 l2 l3 l4 l5 l6 l7 V0
  refine hr_aload_n o 0 dX4_bring_81 rfl ?_
  refine hr_iload_n o 1 dX4_bring_82 rfl ?_
  refine hr_iload_n o 2 dX4_bring_83 rfl ?_
  refine hr_iload o 7 dX4_bring_84 rfl ?_
  refine hr_iload o 4 dX4_bring_86 rfl ?_
  refine mr_callI o mvX4_472 dX4_bring_88 [.int l1, .int l2, .int l7, .int l4] (fun zr zV ze => mtX4_soldFrom l1 l2 l7 l4 V0 zr zV ze) rfl rfl (Nat.le_of_ble_eq_true rfl) ⟨by decide, by decide⟩ (fun x4 V3 => ?_)
  refine hr_istore o [(8, .int x4), (0, .ref om), (1, .int l1), (2, .int l2), (3, .int l3), (4, .int l4), (5, .int l5), (6, .int l6), (7, .int l7)] dX4_bring_91 (by decide) rfl ?_
  refine hr_iload o 0 dX4_bring_93 rfl ?_
  refine hr_if_lt o 121 dX4_bring_95 (by decide) (fun _ => ?_) (fun _ => ?_)
  · refine hr_sub [1, 2, 3, 4, 5, 6, 7, 8] rfl ?_
    exact nlX4_bring_121 o k49 hk49 l1 l2 l3 l4 l5 l6 l7 V3
  refine hr_iload o 6 dX4_bring_98 rfl ?_
  refine hr_if_lt o 113 dX4_bring_100 (by decide) (fun _ => ?_) (fun _ => ?_)
  · refine hr_sub [1, 2, 3, 4, 5, 8, 0] rfl ?_
    exact nlX4_bring_113 o k49 hk49 l1 l2 l3 l4 l7 x4 V3
  refine hr_iload o 0 dX4_bring_103 rfl ?_
  refine hr_iload o 7 dX4_bring_105 rfl ?_
  refine hr_icmp_lt o 113 dX4_bring_107 (by decide) (fun _ => ?_) (fun _ => ?_)
  · refine hr_sub [1, 2, 3, 4, 5, 8, 0] rfl ?_
    exact nlX4_bring_113 o k49 hk49 l1 l2 l3 l4 l7 x4 V3
  refine hr_goto o 121 dX4_bring_110 (by decide) ?_
  refine hr_sub [1, 2, 3, 4, 5, 6, 7, 8] rfl ?_
  exact nlX4_bring_121 o k49 hk49 l1 l2 l3 l4 l5 l6 l7 V3
def lpX4_bring_49  : Nat → Int32 → Int32 → Int32 → Int32 → Int32 → Int32 → Int32 → hf_V → Option (Int32 × hf_V)
  | 0 => fun _ _ _ _ _ _ _ _ => none
  | n + 1 => fun l1 l2 l3 l4 l5 l6 l7 V0 => ndX4_bring_49  (lpX4_bring_49  n) l1 l2 l3 l4 l5 l6 l7 V0
theorem llX4_bring_49 {C : hf_X} {om : Nat} {b : hf_H} (o : hf_In C cX4_bring RX4 9 (some .int) 9 214)   (n : Nat) : ∀ (l1 : Int32) (l2 : Int32) (l3 : Int32) (l4 : Int32) (l5 : Int32) (l6 : Int32) (l7 : Int32) (V0 : hf_V), hf_J C (hf_dMI om b) ((lpX4_bring_49  n) l1 l2 l3 l4 l5 l6 l7 V0) (hf_M om b V0) 49 [(0, .ref om), (1, .int l1), (2, .int l2), (3, .int l3), (4, .int l4), (5, .int l5), (6, .int l6), (7, .int l7)] [] := by
  induction n with
  | zero => exact fun _ _ _ _ _ _ _ _ => hr_none
  | succ n ih => exact fun l1 l2 l3 l4 l5 l6 l7 V0 => nlX4_bring_49 o  (lpX4_bring_49  n)  ih l1 l2 l3 l4 l5 l6 l7 V0
def spX4_bring (l1 : Int32) (l2 : Int32) (l3 : Int32) (V0 : hf_V) : Option (Int32 × hf_V) :=
  hf_b2 (spX4_isRule l1 V0) fun x2 V1 =>
  if x2 = 0 then (some ((-1 : Int32), V1)) else
  hf_b2 (spX4_isHalf l2 V1) fun x4 V3 =>
  if x4 = 0 then (some ((-1 : Int32), V3)) else
  (spX4_in (Int32.toInt64 l3) (0 : Int64) (1 : Int64)).bind fun x5 =>
  if x5 = 0 then (some ((-1 : Int32), V3)) else
  hf_b2 (spX4_hoursAhead V3) fun x7 V6 =>
  (spX4_keeps V6).bind fun V8 =>
  lpX4_bring_49 hf_N l1 l2 l3 x7 (-2 : Int32) (-2 : Int32) (0 : Int32) V8
theorem jtX4_bring {C : hf_X} {om : Nat} {b : hf_H} (o : hf_In C cX4_bring RX4 9 (some .int) 9 214) (l1 : Int32) (l2 : Int32) (l3 : Int32) (V0 : hf_V) : hf_J C (hf_dMI om b) (spX4_bring l1 l2 l3 V0) (hf_M om b V0) 0 [(0, .ref om), (1, .int l1), (2, .int l2), (3, .int l3)] [] := by
  refine hr_aload_n o 0 dX4_bring_0 rfl ?_
  refine hr_iload_n o 1 dX4_bring_1 rfl ?_
  refine mr_callI o mvX4_413 dX4_bring_2 [.int l1] (fun zr zV ze => mtX4_isRule l1 V0 zr zV ze) rfl rfl (Nat.le_of_ble_eq_true rfl) ⟨by decide, by decide⟩ (fun x2 V1 => ?_)
  refine hr_if_eq o 26 dX4_bring_5 (by decide) (fun _ => ?_) (fun _ => ?_)
  · refine hr_iconst o (-1 : Int32) dX4_bring_26 (by decide) ?_
    exact hr_iret o dX4_bring_27 rfl rfl
  refine hr_aload_n o 0 dX4_bring_8 rfl ?_
  refine hr_iload_n o 2 dX4_bring_9 rfl ?_
  refine mr_callI o mvX4_335 dX4_bring_10 [.int l2] (fun zr zV ze => mtX4_isHalf l2 V1 zr zV ze) rfl rfl (Nat.le_of_ble_eq_true rfl) ⟨by decide, by decide⟩ (fun x4 V3 => ?_)
  refine hr_if_eq o 26 dX4_bring_13 (by decide) (fun _ => ?_) (fun _ => ?_)
  · refine hr_iconst o (-1 : Int32) dX4_bring_26 (by decide) ?_
    exact hr_iret o dX4_bring_27 rfl rfl
  refine hr_iload_n o 3 dX4_bring_16 rfl ?_
  refine hr_i2l o dX4_bring_17 ?_
  refine hr_lconst o (0 : Int64) dX4_bring_18 (by decide) ?_
  refine hr_lconst o (1 : Int64) dX4_bring_19 (by decide) ?_
  refine pr_callI o msX4_109 dX4_bring_20 [.long (Int32.toInt64 l3), .long (0 : Int64), .long (1 : Int64)] (fun zr ze => mtX4_in (Int32.toInt64 l3) (0 : Int64) (1 : Int64) zr ze) rfl rfl (Nat.le_of_ble_eq_true rfl) ⟨by decide, by decide⟩ (fun x5 => ?_)
  refine hr_if_ne o 28 dX4_bring_23 (by decide) (fun _ => ?_) (fun _ => ?_)
  · refine hr_iconst o (-1 : Int32) dX4_bring_26 (by decide) ?_
    exact hr_iret o dX4_bring_27 rfl rfl
  refine hr_aload_n o 0 dX4_bring_28 rfl ?_
  refine mr_callI o mvX4_466 dX4_bring_29 [] (fun zr zV ze => mtX4_hoursAhead  V3 zr zV ze) rfl rfl (Nat.le_of_ble_eq_true rfl) ⟨by decide, by decide⟩ (fun x7 V6 => ?_)
  refine hr_istore o [(4, .int x7), (0, .ref om), (1, .int l1), (2, .int l2), (3, .int l3)] dX4_bring_32 (by decide) rfl ?_
  refine hr_bipush o (-2 : Int32) dX4_bring_34 (by decide) ?_
  refine hr_istore o [(5, .int (-2 : Int32)), (4, .int x7), (0, .ref om), (1, .int l1), (2, .int l2), (3, .int l3)] dX4_bring_36 (by decide) rfl ?_
  refine hr_bipush o (-2 : Int32) dX4_bring_38 (by decide) ?_
  refine hr_istore o [(6, .int (-2 : Int32)), (5, .int (-2 : Int32)), (4, .int x7), (0, .ref om), (1, .int l1), (2, .int l2), (3, .int l3)] dX4_bring_40 (by decide) rfl ?_
  refine hr_aload_n o 3 dX4_bring_42 rfl ?_
  refine mr_callV o mvX4_469 dX4_bring_43 [] (fun zV ze => mtX4_keeps  V6 zV ze) rfl rfl (Nat.le_of_ble_eq_true rfl) ⟨by decide, by decide⟩ (fun V8 => ?_)
  refine hr_iconst o (0 : Int32) dX4_bring_46 (by decide) ?_
  refine hr_istore o [(7, .int (0 : Int32)), (6, .int (-2 : Int32)), (5, .int (-2 : Int32)), (4, .int x7), (0, .ref om), (1, .int l1), (2, .int l2), (3, .int l3)] dX4_bring_47 (by decide) rfl ?_
  refine hr_sub [4, 5, 6, 7, 3, 2, 1, 0] rfl ?_
  exact llX4_bring_49 o hf_N l1 l2 l3 x7 (-2 : Int32) (-2 : Int32) (0 : Int32) V8
theorem mtX4_bring {om : Nat} {b : hf_H} (l1 : Int32) (l2 : Int32) (l3 : Int32) (V0 : hf_V) (r : Int32) (V1 : hf_V) (e : spX4_bring l1 l2 l3 V0 = some (r, V1)) : hf_Con yX4_bring cX4_bring 9 (some .int) 9 214 [.ref om, .int l1, .int l2, .int l3] (hf_M om b V0) (.returned (some (.int r)), hf_M om b V1) := hf_entry (dec := hf_dMI om b) (by decide) [.ref om, .int l1, .int l2, .int l3] (Nat.le_of_ble_eq_true rfl) [(0, .ref om), (1, .int l1), (2, .int l2), (3, .int l3)] rfl e (fun C o _ => jtX4_bring o l1 l2 l3 V0)
