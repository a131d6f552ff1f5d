set_option maxRecDepth 100000
set_option maxHeartbeats 4000000
/-! four -/
theorem flX4_7 : hf_Fl RX4 7 4 0 := ⟨(RX4, TX4, 37), RX4, rfl, by decide, in_X4, tyX4_ok, nmX4, Or.inl q1400, Or.inl rfl⟩
theorem flX4_70 : hf_Fl RX4 70 4 1 := ⟨(RX4, TX4, 37), RX4, rfl, by decide, in_X4, tyX4_ok, nmX4, Or.inl q1401, Or.inl rfl⟩
theorem nf_4_1 : hf_Nf 4 1 := ⟨(RX4, TX4, 37), rfl, rfl⟩
def ndX4_four_3 (k3 : Int32 → Int32 → hf_V → Option hf_V) (l1 : Int32) (l2 : Int32) (V0 : hf_V) : Option hf_V :=
  if l2 < 0 then (some V0) else
  hf_sd 400 (V0.1 1) (fun j => hf_ua V0 0 j (vp_nar .byte (Int8.toInt32 (Int32.toInt8 (l1 >>> (l2 &&& 31)))))) fun V1 =>
  hf_let (hf_ui V1 1 ((V1.1 1) + (1 : Int32))) fun V2 =>
  hf_let (l2 + (-8 : Int32)) fun x3 =>
  k3 l1 x3 V2
theorem nlX4_four_3 {C : hf_X} {om : Nat} {b : hf_H} (o : hf_In C cX4_four RX4 3 (none) 0 0) (k3 : Int32 → Int32 → hf_V → Option hf_V) (hk3 : ∀ (l1 : Int32) (l2 : Int32) (V0 : hf_V), hf_J C (hf_dMV om b) (k3 l1 l2 V0) (hf_M om b V0) 3 [(0, .ref om), (1, .int l1), (2, .int l2)] []) (l1 : Int32) (l2 : Int32) (V0 : hf_V) : hf_J C (hf_dMV om b) (ndX4_four_3 k3 l1 l2 V0) (hf_M om b V0) 3 [(0, .ref om), (1, .int l1), (2, .int l2)] [] := by
  refine hr_iload_n o 2 dX4_four_3 rfl ?_
  refine hr_if_lt o 36 dX4_four_4 (by decide) (fun _ => ?_) (fun _ => ?_)
  · exact hr_vret o dX4_four_36 rfl
  refine hr_aload_n o 0 dX4_four_7 rfl ?_
  refine mr_get o flX4_7 dX4_four_8 (.ref (om + 1)) rfl ?_
  refine hr_aload_n o 0 dX4_four_11 rfl ?_
  refine mr_get o flX4_70 dX4_four_12 (.int (V0.1 1)) rfl ?_
  refine hr_iload_n o 1 dX4_four_15 rfl ?_
  refine hr_iload_n o 2 dX4_four_16 rfl ?_
  refine hr_ishr o dX4_four_17 ?_
  refine hr_i2b o dX4_four_18 ?_
  refine mr_bast o 0 1 400 rfl (by decide) rfl dX4_four_19 (fun V1 => ?_)
  refine hr_aload_n o 0 dX4_four_20 rfl ?_
  refine hr_dup o dX4_four_21 rfl ?_
  refine mr_get o flX4_70 dX4_four_22 (.int (V1.1 1)) rfl ?_
  refine hr_iconst o (1 : Int32) dX4_four_25 (by decide) ?_
  refine hr_iadd o dX4_four_26 ?_
  refine mr_putI o flX4_70 dX4_four_27 nf_4_1 rfl rfl (fun V2 => ?_)
  refine hr_iincN o (-8 : Int32) 2 (fun y => [(2, .int y), (0, .ref om), (1, .int l1)]) dX4_four_30 rfl (by decide) (by decide) (fun y => rfl) (fun x3 => ?_)
  refine hr_goto o 3 dX4_four_33 (by decide) ?_
  refine hr_sub [1, 2, 0] rfl ?_
  exact hk3 l1 x3 V2
def lpX4_four_3  : Nat → Int32 → Int32 → hf_V → Option hf_V
  | 0 => fun _ _ _ => none
  | n + 1 => fun l1 l2 V0 => ndX4_four_3  (lpX4_four_3  n) l1 l2 V0
theorem llX4_four_3 {C : hf_X} {om : Nat} {b : hf_H} (o : hf_In C cX4_four RX4 3 (none) 0 0)   (n : Nat) : ∀ (l1 : Int32) (l2 : Int32) (V0 : hf_V), hf_J C (hf_dMV om b) ((lpX4_four_3  n) l1 l2 V0) (hf_M om b V0) 3 [(0, .ref om), (1, .int l1), (2, .int l2)] [] := by
  induction n with
  | zero => exact fun _ _ _ => hr_none
  | succ n ih => exact fun l1 l2 V0 => nlX4_four_3 o  (lpX4_four_3  n)  ih l1 l2 V0
def spX4_four (l1 : Int32) (V0 : hf_V) : Option hf_V :=
  lpX4_four_3 hf_N l1 (24 : Int32) V0
theorem jtX4_four {C : hf_X} {om : Nat} {b : hf_H} (o : hf_In C cX4_four RX4 3 (none) 0 0) (l1 : Int32) (V0 : hf_V) : hf_J C (hf_dMV om b) (spX4_four l1 V0) (hf_M om b V0) 0 [(0, .ref om), (1, .int l1)] [] := by
  refine hr_bipush o (24 : Int32) dX4_four_0 (by decide) ?_
  refine hr_istore_n o [(2, .int (24 : Int32)), (0, .ref om), (1, .int l1)] dX4_four_2 (by decide) rfl ?_
  refine hr_sub [1, 2, 0] rfl ?_
  exact llX4_four_3 o hf_N l1 (24 : Int32) V0
theorem mtX4_four {om : Nat} {b : hf_H} (l1 : Int32) (V0 V1 : hf_V) (e : spX4_four l1 V0 = some V1) : hf_Con yX4_four cX4_four 3 (none) 0 0 [.ref om, .int l1] (hf_M om b V0) (.returned none, hf_M om b V1) := hf_entry (dec := hf_dMV om b) (by decide) [.ref om, .int l1] (Nat.le_of_ble_eq_true rfl) [(0, .ref om), (1, .int l1)] rfl e (fun C o _ => jtX4_four o l1 V0)

/-! feed -/
theorem mvX4_74 : hf_MV RX4 74 RX4 yX4_four cX4_four 3 (none) 1 := ⟨lw_V q1516 q1518 qs64 q162 q1519, by decide +kernel⟩
def spX4_feed (l1 : Int32) (l2 : Int32) (l3 : Int32) (l4 : Int32) (l5 : Int32) (V0 : hf_V) : Option (Int32 × hf_V) :=
  if ((V0.1 1) + (20 : Int32)) ≤ (400 : Int32) then ((spX4_four l1 V0).bind fun V1 =>
  (spX4_four l2 V1).bind fun V2 =>
  (spX4_four l3 V2).bind fun V3 =>
  (spX4_four l4 V3).bind fun V4 =>
  (spX4_four l5 V4).bind fun V5 =>
  some ((V5.1 1), V5)) else
  some ((-1 : Int32), V0)
theorem jtX4_feed {C : hf_X} {om : Nat} {b : hf_H} (o : hf_In C cX4_feed RX4 6 (some .int) 1 22) (l1 : Int32) (l2 : Int32) (l3 : Int32) (l4 : Int32) (l5 : Int32) (V0 : hf_V) : hf_J C (hf_dMI om b) (spX4_feed l1 l2 l3 l4 l5 V0) (hf_M om b V0) 0 [(0, .ref om), (1, .int l1), (2, .int l2), (3, .int l3), (4, .int l4), (5, .int l5)] [] := by
  refine hr_aload_n o 0 dX4_feed_0 rfl ?_
  refine mr_get o flX4_70 dX4_feed_1 (.int (V0.1 1)) rfl ?_
  refine hr_bipush o (20 : Int32) dX4_feed_4 (by decide) ?_
  refine hr_iadd o dX4_feed_6 ?_
  refine hr_sipush o (400 : Int32) dX4_feed_7 (by decide) ?_
  refine hr_icmp_le o 15 dX4_feed_10 (by decide) (fun _ => ?_) (fun _ => ?_)
  · refine hr_aload_n o 0 dX4_feed_15 rfl ?_
    refine hr_iload_n o 1 dX4_feed_16 rfl ?_
    refine mr_callV o mvX4_74 dX4_feed_17 [.int l1] (fun zV ze => mtX4_four l1 V0 zV ze) rfl rfl (Nat.le_of_ble_eq_true rfl) ⟨by decide, by decide⟩ (fun V1 => ?_)
    refine hr_aload_n o 0 dX4_feed_20 rfl ?_
    refine hr_iload_n o 2 dX4_feed_21 rfl ?_
    refine mr_callV o mvX4_74 dX4_feed_22 [.int l2] (fun zV ze => mtX4_four l2 V1 zV ze) rfl rfl (Nat.le_of_ble_eq_true rfl) ⟨by decide, by decide⟩ (fun V2 => ?_)
    refine hr_aload_n o 0 dX4_feed_25 rfl ?_
    refine hr_iload_n o 3 dX4_feed_26 rfl ?_
    refine mr_callV o mvX4_74 dX4_feed_27 [.int l3] (fun zV ze => mtX4_four l3 V2 zV ze) rfl rfl (Nat.le_of_ble_eq_true rfl) ⟨by decide, by decide⟩ (fun V3 => ?_)
    refine hr_aload_n o 0 dX4_feed_30 rfl ?_
    refine hr_iload o 4 dX4_feed_31 rfl ?_
    refine mr_callV o mvX4_74 dX4_feed_33 [.int l4] (fun zV ze => mtX4_four l4 V3 zV ze) rfl rfl (Nat.le_of_ble_eq_true rfl) ⟨by decide, by decide⟩ (fun V4 => ?_)
    refine hr_aload_n o 0 dX4_feed_36 rfl ?_
    refine hr_iload o 5 dX4_feed_37 rfl ?_
    refine mr_callV o mvX4_74 dX4_feed_39 [.int l5] (fun zV ze => mtX4_four l5 V4 zV ze) rfl rfl (Nat.le_of_ble_eq_true rfl) ⟨by decide, by decide⟩ (fun V5 => ?_)
    refine hr_aload_n o 0 dX4_feed_42 rfl ?_
    refine mr_get o flX4_70 dX4_feed_43 (.int (V5.1 1)) rfl ?_
    exact hr_iret o dX4_feed_46 rfl rfl
  refine hr_iconst o (-1 : Int32) dX4_feed_13 (by decide) ?_
  exact hr_iret o dX4_feed_14 rfl rfl
theorem mtX4_feed {om : Nat} {b : hf_H} (l1 : Int32) (l2 : Int32) (l3 : Int32) (l4 : Int32) (l5 : Int32) (V0 : hf_V) (r : Int32) (V1 : hf_V) (e : spX4_feed l1 l2 l3 l4 l5 V0 = some (r, V1)) : hf_Con yX4_feed cX4_feed 6 (some .int) 1 22 [.ref om, .int l1, .int l2, .int l3, .int l4, .int l5] (hf_M om b V0) (.returned (some (.int r)), hf_M om b V1) := hf_entry (dec := hf_dMI om b) (by decide) [.ref om, .int l1, .int l2, .int l3, .int l4, .int l5] (Nat.le_of_ble_eq_true rfl) [(0, .ref om), (1, .int l1), (2, .int l2), (3, .int l3), (4, .int l4), (5, .int l5)] rfl e (fun C o _ => jtX4_feed o l1 l2 l3 l4 l5 V0)

/-! end -/
def spX4_end (l1 : Int32) (V0 : hf_V) : Option (Int32 × hf_V) :=
  if l1 < 0 then (some ((-1 : Int32), V0)) else
  if l1 ≤ (V0.1 1) then (hf_let (hf_ui V0 1 l1) fun V1 =>
  some (l1, V1)) else
  some ((-1 : Int32), V0)
theorem jtX4_end {C : hf_X} {om : Nat} {b : hf_H} (o : hf_In C cX4_end RX4 2 (some .int) 0 0) (l1 : Int32) (V0 : hf_V) : hf_J C (hf_dMI om b) (spX4_end l1 V0) (hf_M om b V0) 0 [(0, .ref om), (1, .int l1)] [] := by
  refine hr_iload_n o 1 dX4_end_0 rfl ?_
  refine hr_if_lt o 12 dX4_end_1 (by decide) (fun _ => ?_) (fun _ => ?_)
  · refine hr_iconst o (-1 : Int32) dX4_end_12 (by decide) ?_
    exact hr_iret o dX4_end_13 rfl rfl
  refine hr_iload_n o 1 dX4_end_4 rfl ?_
  refine hr_aload_n o 0 dX4_end_5 rfl ?_
  refine mr_get o flX4_70 dX4_end_6 (.int (V0.1 1)) rfl ?_
  refine hr_icmp_le o 14 dX4_end_9 (by decide) (fun _ => ?_) (fun _ => ?_)
  · refine hr_aload_n o 0 dX4_end_14 rfl ?_
    refine hr_iload_n o 1 dX4_end_15 rfl ?_
    refine mr_putI o flX4_70 dX4_end_16 nf_4_1 rfl rfl (fun V1 => ?_)
    refine hr_iload_n o 1 dX4_end_19 rfl ?_
    exact hr_iret o dX4_end_20 rfl rfl
  refine hr_iconst o (-1 : Int32) dX4_end_12 (by decide) ?_
  exact hr_iret o dX4_end_13 rfl rfl
theorem mtX4_end {om : Nat} {b : hf_H} (l1 : Int32) (V0 : hf_V) (r : Int32) (V1 : hf_V) (e : spX4_end l1 V0 = some (r, V1)) : hf_Con yX4_end cX4_end 2 (some .int) 0 0 [.ref om, .int l1] (hf_M om b V0) (.returned (some (.int r)), hf_M om b V1) := hf_entry (dec := hf_dMI om b) (by decide) [.ref om, .int l1] (Nat.le_of_ble_eq_true rfl) [(0, .ref om), (1, .int l1)] rfl e (fun C o _ => jtX4_end o l1 V0)

/-! fails -/
theorem flX4_78 : hf_Fl RX4 78 4 9 := ⟨(RX4, TX4, 37), RX4, rfl, by decide, in_X4, tyX4_ok, nmX4, Or.inl q1409, Or.inl rfl⟩
theorem nf_4_9 : hf_Nf 4 9 := ⟨(RX4, TX4, 37), rfl, rfl⟩
def spX4_fails (l1 : Int32) (l2 : Int32) (V0 : hf_V) : Option (Int32 × hf_V) :=
  if (V0.1 9) = 0 then (hf_let (hf_ui V0 9 (((1 : Int32) + ((8 : Int32) * l2)) + l1)) fun V1 =>
  some ((0 : Int32), V1)) else
  some ((0 : Int32), V0)
theorem jtX4_fails {C : hf_X} {om : Nat} {b : hf_H} (o : hf_In C cX4_fails RX4 3 (some .boolean) 0 0) (l1 : Int32) (l2 : Int32) (V0 : hf_V) : hf_J C (hf_dMI om b) (spX4_fails l1 l2 V0) (hf_M om b V0) 0 [(0, .ref om), (1, .int l1), (2, .int l2)] [] := by
  refine hr_aload_n o 0 dX4_fails_0 rfl ?_
  refine mr_get o flX4_78 dX4_fails_1 (.int (V0.1 9)) rfl ?_
  refine hr_if_ne o 19 dX4_fails_4 (by decide) (fun _ => ?_) (fun _ => ?_)
  · refine hr_aload_n o 0 dX4_fails_7 rfl ?_
    refine hr_iconst o (1 : Int32) dX4_fails_8 (by decide) ?_
    refine hr_bipush o (8 : Int32) dX4_fails_9 (by decide) ?_
    refine hr_iload_n o 2 dX4_fails_11 rfl ?_
    refine hr_imul o dX4_fails_12 ?_
    refine hr_iadd o dX4_fails_13 ?_
    refine hr_iload_n o 1 dX4_fails_14 rfl ?_
    refine hr_iadd o dX4_fails_15 ?_
    refine mr_putI o flX4_78 dX4_fails_16 nf_4_9 rfl rfl (fun V1 => ?_)
    refine hr_iconst o (0 : Int32) dX4_fails_19 (by decide) ?_
    exact hr_iret o dX4_fails_20 rfl (by decide)
  refine hr_iconst o (0 : Int32) dX4_fails_19 (by decide) ?_
  exact hr_iret o dX4_fails_20 rfl (by decide)
theorem mtX4_fails {om : Nat} {b : hf_H} (l1 : Int32) (l2 : Int32) (V0 : hf_V) (r : Int32) (V1 : hf_V) (e : spX4_fails l1 l2 V0 = some (r, V1)) : hf_Con yX4_fails cX4_fails 3 (some .boolean) 0 0 [.ref om, .int l1, .int l2] (hf_M om b V0) (.returned (some (.int r)), hf_M om b V1) := hf_entry (dec := hf_dMI om b) (by decide) [.ref om, .int l1, .int l2] (Nat.le_of_ble_eq_true rfl) [(0, .ref om), (1, .int l1), (2, .int l2)] rfl e (fun C o _ => jtX4_fails o l1 l2 V0)

/-! in -/
def spX4_in (l0 : Int64) (l2 : Int64) (l4 : Int64) : Option Int32 :=
  if (lg_cmp l0 l2) < 0 then (some (0 : Int32)) else
  if 0 < (lg_cmp l0 l4) then (some (0 : Int32)) else
  some (1 : Int32)
theorem jtX4_in {C : hf_X} {h : hf_H} (o : hf_In C cX4_in RX4 6 (some .boolean) 0 0) (l0 : Int64) (l2 : Int64) (l4 : Int64) : hf_J C (hf_dPI h) (spX4_in l0 l2 l4) h 0 [(0, .long l0), (2, .long l2), (4, .long l4)] [] := by
  refine hr_lload_n o 0 dX4_in_0 rfl ?_
  refine hr_lload_n o 1 dX4_in_1 rfl ?_
  refine hr_lcmp o dX4_in_2 ?_
  refine hr_if_lt o 17 dX4_in_3 (by decide) (fun _ => ?_) (fun _ => ?_)
  · refine hr_iconst o (0 : Int32) dX4_in_17 (by decide) ?_
    exact hr_iret o dX4_in_18 rfl (by decide)
  refine hr_lload_n o 0 dX4_in_6 rfl ?_
  refine hr_lload o 2 dX4_in_7 rfl ?_
  refine hr_lcmp o dX4_in_9 ?_
  refine hr_if_gt o 17 dX4_in_10 (by decide) (fun _ => ?_) (fun _ => ?_)
  · refine hr_iconst o (0 : Int32) dX4_in_17 (by decide) ?_
    exact hr_iret o dX4_in_18 rfl (by decide)
  refine hr_iconst o (1 : Int32) dX4_in_13 (by decide) ?_
  refine hr_goto o 18 dX4_in_14 (by decide) ?_
  exact hr_iret o dX4_in_18 rfl (by decide)
theorem mtX4_in {h : hf_H} (l0 : Int64) (l2 : Int64) (l4 : Int64) (r : Int32) (e : spX4_in l0 l2 l4 = some r) : hf_Con yX4_in cX4_in 6 (some .boolean) 0 0 [.long l0, .long l2, .long l4] h (.returned (some (.int r)), h) := hf_entry (dec := hf_dPI h) (by decide) [.long l0, .long l2, .long l4] (Nat.le_of_ble_eq_true rfl) [(0, .long l0), (2, .long l2), (4, .long l4)] rfl e (fun C o _ => jtX4_in o l0 l2 l4)

/-! isDigit -/
def spX4_isDigit (l1 : Int32) (V0 : hf_V) : Option (Int32 × hf_V) :=
  if (V0.1 1) ≤ l1 then (some ((0 : Int32), V0)) else
  (hf_ld 400 (V0.2.2.2.1 0) l1).bind fun x1 =>
  if x1 < (48 : Int32) then (some ((0 : Int32), V0)) else
  (hf_ld 400 (V0.2.2.2.1 0) l1).bind fun x2 =>
  if (57 : Int32) < x2 then (some ((0 : Int32), V0)) else
  some ((1 : Int32), V0)
theorem jtX4_isDigit {C : hf_X} {om : Nat} {b : hf_H} (o : hf_In C cX4_isDigit RX4 2 (some .boolean) 0 0) (l1 : Int32) (V0 : hf_V) : hf_J C (hf_dMI om b) (spX4_isDigit l1 V0) (hf_M om b V0) 0 [(0, .ref om), (1, .int l1)] [] := by
  refine hr_iload_n o 1 dX4_isDigit_0 rfl ?_
  refine hr_aload_n o 0 dX4_isDigit_1 rfl ?_
  refine mr_get o flX4_70 dX4_isDigit_2 (.int (V0.1 1)) rfl ?_
  refine hr_icmp_ge o 34 dX4_isDigit_5 (by decide) (fun _ => ?_) (fun _ => ?_)
  · refine hr_iconst o (0 : Int32) dX4_isDigit_34 (by decide) ?_
    exact hr_iret o dX4_isDigit_35 rfl (by decide)
  refine hr_aload_n o 0 dX4_isDigit_8 rfl ?_
  refine mr_get o flX4_7 dX4_isDigit_9 (.ref (om + 1)) rfl ?_
  refine hr_iload_n o 1 dX4_isDigit_12 rfl ?_
  refine mr_bald o 0 1 400 rfl (by decide) rfl dX4_isDigit_13 (fun x1 => ?_)
  refine hr_bipush o (48 : Int32) dX4_isDigit_14 (by decide) ?_
  refine hr_icmp_lt o 34 dX4_isDigit_16 (by decide) (fun _ => ?_) (fun _ => ?_)
  · refine hr_iconst o (0 : Int32) dX4_isDigit_34 (by decide) ?_
    exact hr_iret o dX4_isDigit_35 rfl (by decide)
  refine hr_aload_n o 0 dX4_isDigit_19 rfl ?_
  refine mr_get o flX4_7 dX4_isDigit_20 (.ref (om + 1)) rfl ?_
  refine hr_iload_n o 1 dX4_isDigit_23 rfl ?_
  refine mr_bald o 0 1 400 rfl (by decide) rfl dX4_isDigit_24 (fun x2 => ?_)
  refine hr_bipush o (57 : Int32) dX4_isDigit_25 (by decide) ?_
  refine hr_icmp_gt o 34 dX4_isDigit_27 (by decide) (fun _ => ?_) (fun _ => ?_)
  · refine hr_iconst o (0 : Int32) dX4_isDigit_34 (by decide) ?_
    exact hr_iret o dX4_isDigit_35 rfl (by decide)
  refine hr_iconst o (1 : Int32) dX4_isDigit_30 (by decide) ?_
  refine hr_goto o 35 dX4_isDigit_31 (by decide) ?_
  exact hr_iret o dX4_isDigit_35 rfl (by decide)
theorem mtX4_isDigit {om : Nat} {b : hf_H} (l1 : Int32) (V0 : hf_V) (r : Int32) (V1 : hf_V) (e : spX4_isDigit l1 V0 = some (r, V1)) : hf_Con yX4_isDigit cX4_isDigit 2 (some .boolean) 0 0 [.ref om, .int l1] (hf_M om b V0) (.returned (some (.int r)), hf_M om b V1) := hf_entry (dec := hf_dMI om b) (by decide) [.ref om, .int l1] (Nat.le_of_ble_eq_true rfl) [(0, .ref om), (1, .int l1)] rfl e (fun C o _ => jtX4_isDigit o l1 V0)

/-! see -/
theorem flX4_81 : hf_Fl RX4 81 4 8 := ⟨(RX4, TX4, 37), RX4, rfl, by decide, in_X4, tyX4_ok, nmX4, Or.inl q1408, Or.inl rfl⟩
theorem nf_4_8 : hf_Nf 4 8 := ⟨(RX4, TX4, 37), rfl, rfl⟩
def ndX4_see_38   (V0 : hf_V) : Option (Int32 × hf_V) :=
  if (V0.1 1) ≤ (V0.1 8) then (some ((-1 : Int32), V0)) else
  (hf_ld 400 (V0.2.2.2.1 0) (V0.1 8)).bind fun x1 =>
  some ((x1 &&& (255 : Int32)), V0)
theorem nlX4_see_38 {C : hf_X} {om : Nat} {b : hf_H} (o : hf_In C cX4_see RX4 1 (some .int) 0 0)    (V0 : hf_V) : hf_J C (hf_dMI om b) (ndX4_see_38 V0) (hf_M om b V0) 38 [(0, .ref om)] [] := by
  refine hr_aload_n o 0 dX4_see_38 rfl ?_
  refine mr_get o flX4_81 dX4_see_39 (.int (V0.1 8)) rfl ?_
  refine hr_aload_n o 0 dX4_see_42 rfl ?_
  refine mr_get o flX4_70 dX4_see_43 (.int (V0.1 1)) rfl ?_
  refine hr_icmp_ge o 65 dX4_see_46 (by decide) (fun _ => ?_) (fun _ => ?_)
  · refine hr_iconst o (-1 : Int32) dX4_see_65 (by decide) ?_
    exact hr_iret o dX4_see_66 rfl rfl
  refine hr_aload_n o 0 dX4_see_49 rfl ?_
  refine mr_get o flX4_7 dX4_see_50 (.ref (om + 1)) rfl ?_
  refine hr_aload_n o 0 dX4_see_53 rfl ?_
  refine mr_get o flX4_81 dX4_see_54 (.int (V0.1 8)) rfl ?_
  refine mr_bald o 0 1 400 rfl (by decide) rfl dX4_see_57 (fun x1 => ?_)
  refine hr_sipush o (255 : Int32) dX4_see_58 (by decide) ?_
  refine hr_iand o dX4_see_61 ?_
  refine hr_goto o 66 dX4_see_62 (by decide) ?_
  exact hr_iret o dX4_see_66 rfl rfl
def ndX4_see_0 (k0 : hf_V → Option (Int32 × hf_V))  (V0 : hf_V) : Option (Int32 × hf_V) :=
  if (V0.1 1) ≤ (V0.1 8) then (ndX4_see_38 V0) else
  (hf_ld 400 (V0.2.2.2.1 0) (V0.1 8)).bind fun x1 =>
  if x1 = (32 : Int32) then (hf_let (hf_ui V0 8 ((V0.1 8) + (1 : Int32))) fun V2 =>
  k0 V2) else
  ndX4_see_38 V0
theorem nlX4_see_0 {C : hf_X} {om : Nat} {b : hf_H} (o : hf_In C cX4_see RX4 1 (some .int) 0 0) (k0 : hf_V → Option (Int32 × hf_V)) (hk0 : ∀ (V0 : hf_V), hf_J C (hf_dMI om b) (k0 V0) (hf_M om b V0) 0 [(0, .ref om)] [])  (V0 : hf_V) : hf_J C (hf_dMI om b) (ndX4_see_0 k0 V0) (hf_M om b V0) 0 [(0, .ref om)] [] := by
  refine hr_aload_n o 0 dX4_see_0 rfl ?_
  refine mr_get o flX4_81 dX4_see_1 (.int (V0.1 8)) rfl ?_
  refine hr_aload_n o 0 dX4_see_4 rfl ?_
  refine mr_get o flX4_70 dX4_see_5 (.int (V0.1 1)) rfl ?_
  refine hr_icmp_ge o 38 dX4_see_8 (by decide) (fun _ => ?_) (fun _ => ?_)
  · exact nlX4_see_38 o V0
  refine hr_aload_n o 0 dX4_see_11 rfl ?_
  refine mr_get o flX4_7 dX4_see_12 (.ref (om + 1)) rfl ?_
  refine hr_aload_n o 0 dX4_see_15 rfl ?_
  refine mr_get o flX4_81 dX4_see_16 (.int (V0.1 8)) rfl ?_
  refine mr_bald o 0 1 400 rfl (by decide) rfl dX4_see_19 (fun x1 => ?_)
  refine hr_bipush o (32 : Int32) dX4_see_20 (by decide) ?_
  refine hr_icmp_ne o 38 dX4_see_22 (by decide) (fun _ => ?_) (fun _ => ?_)
  · refine hr_aload_n o 0 dX4_see_25 rfl ?_
    refine hr_dup o dX4_see_26 rfl ?_
    refine mr_get o flX4_81 dX4_see_27 (.int (V0.1 8)) rfl ?_
    refine hr_iconst o (1 : Int32) dX4_see_30 (by decide) ?_
    refine hr_iadd o dX4_see_31 ?_
    refine mr_putI o flX4_81 dX4_see_32 nf_4_8 rfl rfl (fun V2 => ?_)
    refine hr_goto o 0 dX4_see_35 (by decide) ?_
    exact hk0 V2
  exact nlX4_see_38 o V0
def lpX4_see_0  : Nat → hf_V → Option (Int32 × hf_V)
  | 0 => fun _ => none
  | n + 1 => fun V0 => ndX4_see_0  (lpX4_see_0  n) V0
theorem llX4_see_0 {C : hf_X} {om : Nat} {b : hf_H} (o : hf_In C cX4_see RX4 1 (some .int) 0 0)   (n : Nat) : ∀ (V0 : hf_V), hf_J C (hf_dMI om b) ((lpX4_see_0  n) V0) (hf_M om b V0) 0 [(0, .ref om)] [] := by
  induction n with
  | zero => exact fun _ => hr_none
  | succ n ih => exact fun V0 => nlX4_see_0 o  (lpX4_see_0  n)  ih V0
def spX4_see  (V0 : hf_V) : Option (Int32 × hf_V) :=
  lpX4_see_0 hf_N V0
theorem jtX4_see {C : hf_X} {om : Nat} {b : hf_H} (o : hf_In C cX4_see RX4 1 (some .int) 0 0)  (V0 : hf_V) : hf_J C (hf_dMI om b) (spX4_see V0) (hf_M om b V0) 0 [(0, .ref om)] [] := by
  exact llX4_see_0 o hf_N V0
theorem mtX4_see {om : Nat} {b : hf_H}  (V0 : hf_V) (r : Int32) (V1 : hf_V) (e : spX4_see V0 = some (r, V1)) : hf_Con yX4_see cX4_see 1 (some .int) 0 0 [.ref om] (hf_M om b V0) (.returned (some (.int r)), hf_M om b V1) := hf_entry (dec := hf_dMI om b) (by decide) [.ref om] (Nat.le_of_ble_eq_true rfl) [(0, .ref om)] rfl e (fun C o _ => jtX4_see o V0)

/-! numberHere -/
theorem mvX4_102 : hf_MV RX4 102 RX4 yX4_fails cX4_fails 3 (some .boolean) 2 := ⟨lw_V q1562 q1564 qs71 q162 q1565, by decide +kernel⟩
theorem mvX4_99 : hf_MV RX4 99 RX4 yX4_isDigit cX4_isDigit 2 (some .boolean) 1 := ⟨lw_V q1586 q1588 qs77 q162 q1589, by decide +kernel⟩
theorem flX4_106 : hf_Fl RX4 106 4 10 := ⟨(RX4, TX4, 37), RX4, rfl, by decide, in_X4, tyX4_ok, nmX4, Or.inl q1410, Or.inl rfl⟩
theorem nf_4_10 : hf_Nf 4 10 := ⟨(RX4, TX4, 37), rfl, rfl⟩
theorem msX4_109 : hf_MS RX4 109 yX4_in cX4_in 6 (some .boolean) 3 := ⟨lw_S q1590 q1591 q162 q1592, by decide +kernel⟩
theorem mvX4_84 : hf_MV RX4 84 RX4 yX4_see cX4_see 1 (some .int) 0 := ⟨lw_V q1536 q1538 qs67 q162 q1539, by decide +kernel⟩
def ndX4_numberHere_75 (k34 : Int32 → Int32 → Int32 → Int32 → hf_V → Option (Int32 × hf_V)) (l1 : Int32) (l2 : Int32) (l3 : Int32) (l4 : Int32) (V0 : hf_V) : Option (Int32 × hf_V) :=
  hf_let (hf_ui V0 8 ((V0.1 8) + (1 : Int32))) fun V1 =>
  k34 l1 l2 l3 l4 V1
theorem nlX4_numberHere_75 {C : hf_X} {om : Nat} {b : hf_H} (o : hf_In C cX4_numberHere RX4 5 (some .boolean) 1 25) (k34 : Int32 → Int32 → Int32 → Int32 → hf_V → Option (Int32 × hf_V)) (hk34 : ∀ (l1 : Int32) (l2 : Int32) (l3 : Int32) (l4 : Int32) (V0 : hf_V), hf_J C (hf_dMI om b) (k34 l1 l2 l3 l4 V0) (hf_M om b V0) 34 [(0, .ref om), (1, .int l1), (2, .int l2), (3, .int l3), (4, .int l4)] []) (l1 : Int32) (l2 : Int32) (l3 : Int32) (l4 : Int32) (V0 : hf_V) : hf_J C (hf_dMI om b) (ndX4_numberHere_75 k34 l1 l2 l3 l4 V0) (hf_M om b V0) 75 [(0, .ref om), (1, .int l1), (2, .int l2), (3, .int l3), (4, .int l4)] [] := by
  refine hr_aload_n o 0 dX4_numberHere_75 rfl ?_
  refine hr_dup o dX4_numberHere_76 rfl ?_
  refine mr_get o flX4_81 dX4_numberHere_77 (.int (V0.1 8)) rfl ?_
  refine hr_iconst o (1 : Int32) dX4_numberHere_80 (by decide) ?_
  refine hr_iadd o dX4_numberHere_81 ?_
  refine mr_putI o flX4_81 dX4_numberHere_82 nf_4_8 rfl rfl (fun V1 => ?_)
  refine hr_goto o 34 dX4_numberHere_85 (by decide) ?_
  exact hk34 l1 l2 l3 l4 V1
def ndX4_numberHere_117  (l3 : Int32) (V0 : hf_V) : Option (Int32 × hf_V) :=
  hf_b2 (spX4_fails (1 : Int32) l3 V0) fun x2 V1 =>
  if x2 = 0 then (some ((0 : Int32), V1)) else
  some ((1 : Int32), V1)
theorem nlX4_numberHere_117 {C : hf_X} {om : Nat} {b : hf_H} (o : hf_In C cX4_numberHere RX4 5 (some .boolean) 1 25)   (l3 : Int32) (V0 : hf_V) : hf_J C (hf_dMI om b) (ndX4_numberHere_117 l3 V0) (hf_M om b V0) 117 [(0, .ref om), (3, .int l3)] [] := by
  refine hr_aload_n o 0 dX4_numberHere_117 rfl ?_
  refine hr_iconst o (1 : Int32) dX4_numberHere_118 (by decide) ?_
  refine hr_iload_n o 1 dX4_numberHere_119 rfl ?_
  refine mr_callI o mvX4_102 dX4_numberHere_120 [.int (1 : Int32), .int l3] (fun zr zV ze => mtX4_fails (1 : Int32) l3 V0 zr zV ze) rfl rfl (Nat.le_of_ble_eq_true rfl) ⟨by decide, by decide⟩ (fun x2 V1 => ?_)
  refine hr_if_eq o 130 dX4_numberHere_123 (by decide) (fun _ => ?_) (fun _ => ?_)
  · refine hr_iconst o (0 : Int32) dX4_numberHere_130 (by decide) ?_
    exact hr_iret o dX4_numberHere_131 rfl (by decide)
  refine hr_iconst o (1 : Int32) dX4_numberHere_126 (by decide) ?_
  refine hr_goto o 131 dX4_numberHere_127 (by decide) ?_
  exact hr_iret o dX4_numberHere_131 rfl (by decide)
def ndX4_numberHere_34 (k34 : Int32 → Int32 → Int32 → Int32 → hf_V → Option (Int32 × hf_V)) (l1 : Int32) (l2 : Int32) (l3 : Int32) (l4 : Int32) (V0 : hf_V) : Option (Int32 × hf_V) :=
  hf_b2 (spX4_isDigit (V0.1 8) V0) fun x2 V1 =>
  if x2 = 0 then (hf_let (hf_ui V1 10 l4) fun V3 =>
  if (5 : Int32) < ((V3.1 8) - l3) then (ndX4_numberHere_117 l3 V3) else
  (spX4_in (Int32.toInt64 l4) (Int32.toInt64 l1) (Int32.toInt64 l2)).bind fun x4 =>
  if x4 = 0 then (ndX4_numberHere_117 l3 V3) else
  some ((1 : Int32), V3)) else
  if (5 : Int32) ≤ ((V1.1 8) - l3) then (ndX4_numberHere_75 k34 l1 l2 l3 l4 V1) else
  (hf_ld 400 (V1.2.2.2.1 0) (V1.1 8)).bind fun x5 =>
  hf_let ((((10 : Int32) * l4) + x5) - (48 : Int32)) fun x6 =>
  ndX4_numberHere_75 k34 l1 l2 l3 x6 V1
theorem nlX4_numberHere_34 {C : hf_X} {om : Nat} {b : hf_H} (o : hf_In C cX4_numberHere RX4 5 (some .boolean) 1 25) (k34 : Int32 → Int32 → Int32 → Int32 → hf_V → Option (Int32 × hf_V)) (hk34 : ∀ (l1 : Int32) (l2 : Int32) (l3 : Int32) (l4 : Int32) (V0 : hf_V), hf_J C (hf_dMI om b) (k34 l1 l2 l3 l4 V0) (hf_M om b V0) 34 [(0, .ref om), (1, .int l1), (2, .int l2), (3, .int l3), (4, .int l4)] []) (l1 : Int32) (l2 : Int32) (l3 : Int32) (l4 : Int32) (V0 : hf_V) : hf_J C (hf_dMI om b) (ndX4_numberHere_34 k34 l1 l2 l3 l4 V0) (hf_M om b V0) 34 [(0, .ref om), (1, .int l1), (2, .int l2), (3, .int l3), (4, .int l4)] [] := by
  refine hr_aload_n o 0 dX4_numberHere_34 rfl ?_
  refine hr_aload_n o 0 dX4_numberHere_35 rfl ?_
  refine mr_get o flX4_81 dX4_numberHere_36 (.int (V0.1 8)) rfl ?_
  refine mr_callI o mvX4_99 dX4_numberHere_39 [.int (V0.1 8)] (fun zr zV ze => mtX4_isDigit (V0.1 8) V0 zr zV ze) rfl rfl (Nat.le_of_ble_eq_true rfl) ⟨by decide, by decide⟩ (fun x2 V1 => ?_)
  refine hr_if_eq o 88 dX4_numberHere_42 (by decide) (fun _ => ?_) (fun _ => ?_)
  · refine hr_aload_n o 0 dX4_numberHere_88 rfl ?_
    refine hr_iload o 4 dX4_numberHere_89 rfl ?_
    refine mr_putI o flX4_106 dX4_numberHere_91 nf_4_10 rfl rfl (fun V3 => ?_)
    refine hr_aload_n o 0 dX4_numberHere_94 rfl ?_
    refine mr_get o flX4_81 dX4_numberHere_95 (.int (V3.1 8)) rfl ?_
    refine hr_iload_n o 3 dX4_numberHere_98 rfl ?_
    refine hr_isub o dX4_numberHere_99 ?_
    refine hr_iconst o (5 : Int32) dX4_numberHere_100 (by decide) ?_
    refine hr_icmp_gt o 117 dX4_numberHere_101 (by decide) (fun _ => ?_) (fun _ => ?_)
    · refine hr_sub [0, 3] rfl ?_
      exact nlX4_numberHere_117 o l3 V3
    refine hr_iload o 4 dX4_numberHere_104 rfl ?_
    refine hr_i2l o dX4_numberHere_106 ?_
    refine hr_iload_n o 1 dX4_numberHere_107 rfl ?_
    refine hr_i2l o dX4_numberHere_108 ?_
    refine hr_iload_n o 2 dX4_numberHere_109 rfl ?_
    refine hr_i2l o dX4_numberHere_110 ?_
    refine pr_callI o msX4_109 dX4_numberHere_111 [.long (Int32.toInt64 l4), .long (Int32.toInt64 l1), .long (Int32.toInt64 l2)] (fun zr ze => mtX4_in (Int32.toInt64 l4) (Int32.toInt64 l1) (Int32.toInt64 l2) zr ze) rfl rfl (Nat.le_of_ble_eq_true rfl) ⟨by decide, by decide⟩ (fun x4 => ?_)
    refine hr_if_ne o 126 dX4_numberHere_114 (by decide) (fun _ => ?_) (fun _ => ?_)
    · refine hr_sub [0, 3] rfl ?_
      exact nlX4_numberHere_117 o l3 V3
    refine hr_iconst o (1 : Int32) dX4_numberHere_126 (by decide) ?_
    refine hr_goto o 131 dX4_numberHere_127 (by decide) ?_
    exact hr_iret o dX4_numberHere_131 rfl (by decide)
  refine hr_aload_n o 0 dX4_numberHere_45 rfl ?_
  refine mr_get o flX4_81 dX4_numberHere_46 (.int (V1.1 8)) rfl ?_
  refine hr_iload_n o 3 dX4_numberHere_49 rfl ?_
  refine hr_isub o dX4_numberHere_50 ?_
  refine hr_iconst o (5 : Int32) dX4_numberHere_51 (by decide) ?_
  refine hr_icmp_ge o 75 dX4_numberHere_52 (by decide) (fun _ => ?_) (fun _ => ?_)
  · exact nlX4_numberHere_75 o k34 hk34 l1 l2 l3 l4 V1
  refine hr_bipush o (10 : Int32) dX4_numberHere_55 (by decide) ?_
  refine hr_iload o 4 dX4_numberHere_57 rfl ?_
  refine hr_imul o dX4_numberHere_59 ?_
  refine hr_aload_n o 0 dX4_numberHere_60 rfl ?_
  refine mr_get o flX4_7 dX4_numberHere_61 (.ref (om + 1)) rfl ?_
  refine hr_aload_n o 0 dX4_numberHere_64 rfl ?_
  refine mr_get o flX4_81 dX4_numberHere_65 (.int (V1.1 8)) rfl ?_
  refine mr_bald o 0 1 400 rfl (by decide) rfl dX4_numberHere_68 (fun x5 => ?_)
  refine hr_iadd o dX4_numberHere_69 ?_
  refine hr_bipush o (48 : Int32) dX4_numberHere_70 (by decide) ?_
  refine hr_isub o dX4_numberHere_72 ?_
  refine hr_nmI (fun x6 => ?_)
  refine hr_istore o [(4, .int x6), (0, .ref om), (1, .int l1), (2, .int l2), (3, .int l3)] dX4_numberHere_73 (by decide) rfl ?_
  refine hr_sub [1, 2, 3, 4, 0] rfl ?_
  exact nlX4_numberHere_75 o k34 hk34 l1 l2 l3 x6 V1
def lpX4_numberHere_34  : Nat → Int32 → Int32 → Int32 → Int32 → hf_V → Option (Int32 × hf_V)
  | 0 => fun _ _ _ _ _ => none
  | n + 1 => fun l1 l2 l3 l4 V0 => ndX4_numberHere_34  (lpX4_numberHere_34  n) l1 l2 l3 l4 V0
theorem llX4_numberHere_34 {C : hf_X} {om : Nat} {b : hf_H} (o : hf_In C cX4_numberHere RX4 5 (some .boolean) 1 25)   (n : Nat) : ∀ (l1 : Int32) (l2 : Int32) (l3 : Int32) (l4 : Int32) (V0 : hf_V), hf_J C (hf_dMI om b) ((lpX4_numberHere_34  n) l1 l2 l3 l4 V0) (hf_M om b V0) 34 [(0, .ref om), (1, .int l1), (2, .int l2), (3, .int l3), (4, .int l4)] [] := by
  induction n with
  | zero => exact fun _ _ _ _ _ => hr_none
  | succ n ih => exact fun l1 l2 l3 l4 V0 => nlX4_numberHere_34 o  (lpX4_numberHere_34  n)  ih l1 l2 l3 l4 V0
def spX4_numberHere (l1 : Int32) (l2 : Int32) (V0 : hf_V) : Option (Int32 × hf_V) :=
  hf_b2 (spX4_see V0) fun x2 V1 =>
  hf_b2 (spX4_isDigit (V1.1 8) V1) fun x4 V3 =>
  if x4 = 0 then (hf_b2 (spX4_fails (0 : Int32) (V3.1 8) V3) fun x7 V6 =>
  if x7 = 0 ∨ x7 = 1 then some (x7, V6) else none) else
  hf_let (V3.1 8) fun x5 =>
  lpX4_numberHere_34 hf_N l1 l2 x5 (0 : Int32) V3
theorem jtX4_numberHere {C : hf_X} {om : Nat} {b : hf_H} (o : hf_In C cX4_numberHere RX4 5 (some .boolean) 1 25) (l1 : Int32) (l2 : Int32) (V0 : hf_V) : hf_J C (hf_dMI om b) (spX4_numberHere l1 l2 V0) (hf_M om b V0) 0 [(0, .ref om), (1, .int l1), (2, .int l2)] [] := by
  refine hr_aload_n o 0 dX4_numberHere_0 rfl ?_
  refine mr_callI o mvX4_84 dX4_numberHere_1 [] (fun zr zV ze => mtX4_see  V0 zr zV ze) rfl rfl (Nat.le_of_ble_eq_true rfl) ⟨by decide, by decide⟩ (fun x2 V1 => ?_)
  refine hr_pop o dX4_numberHere_4 rfl ?_
  refine hr_aload_n o 0 dX4_numberHere_5 rfl ?_
  refine hr_aload_n o 0 dX4_numberHere_6 rfl ?_
  refine mr_get o flX4_81 dX4_numberHere_7 (.int (V1.1 8)) rfl ?_
  refine mr_callI o mvX4_99 dX4_numberHere_10 [.int (V1.1 8)] (fun zr zV ze => mtX4_isDigit (V1.1 8) V1 zr zV ze) rfl rfl (Nat.le_of_ble_eq_true rfl) ⟨by decide, by decide⟩ (fun x4 V3 => ?_)
  refine hr_if_ne o 26 dX4_numberHere_13 (by decide) (fun _ => ?_) (fun _ => ?_)
  · refine hr_aload_n o 0 dX4_numberHere_16 rfl ?_
    refine hr_iconst o (0 : Int32) dX4_numberHere_17 (by decide) ?_
    refine hr_aload_n o 0 dX4_numberHere_18 rfl ?_
    refine mr_get o flX4_81 dX4_numberHere_19 (.int (V3.1 8)) rfl ?_
    refine mr_callI o mvX4_102 dX4_numberHere_22 [.int (0 : Int32), .int (V3.1 8)] (fun zr zV ze => mtX4_fails (0 : Int32) (V3.1 8) V3 zr zV ze) rfl rfl (Nat.le_of_ble_eq_true rfl) ⟨by decide, by decide⟩ (fun x7 V6 => ?_)
    refine hr_ck (fun hz => ?_)
    exact hr_iret o dX4_numberHere_25 rfl (hf_nz hz)
  refine hr_aload_n o 0 dX4_numberHere_26 rfl ?_
  refine mr_get o flX4_81 dX4_numberHere_27 (.int (V3.1 8)) rfl ?_
  refine hr_nmI (fun x5 => ?_)
  refine hr_istore_n o [(3, .int x5), (0, .ref om), (1, .int l1), (2, .int l2)] dX4_numberHere_30 (by decide) rfl ?_
  refine hr_iconst o (0 : Int32) dX4_numberHere_31 (by decide) ?_
  refine hr_istore o [(4, .int (0 : Int32)), (3, .int x5), (0, .ref om), (1, .int l1), (2, .int l2)] dX4_numberHere_32 (by decide) rfl ?_
  refine hr_sub [2, 3, 4, 1, 0] rfl ?_
  exact llX4_numberHere_34 o hf_N l1 l2 x5 (0 : Int32) V3
theorem mtX4_numberHere {om : Nat} {b : hf_H} (l1 : Int32) (l2 : Int32) (V0 : hf_V) (r : Int32) (V1 : hf_V) (e : spX4_numberHere l1 l2 V0 = some (r, V1)) : hf_Con yX4_numberHere cX4_numberHere 5 (some .boolean) 1 25 [.ref om, .int l1, .int l2] (hf_M om b V0) (.returned (some (.int r)), hf_M om b V1) := hf_entry (dec := hf_dMI om b) (by decide) [.ref om, .int l1, .int l2] (Nat.le_of_ble_eq_true rfl) [(0, .ref om), (1, .int l1), (2, .int l2)] rfl e (fun C o _ => jtX4_numberHere o l1 l2 V0)

/-! cellHere -/
theorem mvX4_160 : hf_MV RX4 160 RX4 yX4_numberHere cX4_numberHere 5 (some .boolean) 2 := ⟨lw_V q1582 q1584 qs76 q162 q1585, by decide +kernel⟩
theorem flX4_26 : hf_Fl RX4 26 4 7 := ⟨(RX4, TX4, 37), RX4, rfl, by decide, in_X4, tyX4_ok, nmX4, Or.inl q1407, Or.inl rfl⟩
def spX4_cellHere (l1 : Int32) (l2 : Int32) (l3 : Int32) (V0 : hf_V) : Option (Int32 × hf_V) :=
  hf_b2 (spX4_numberHere l2 l3 V0) fun x2 V1 =>
  if x2 = 0 then (some ((0 : Int32), V1)) else
  hf_sd 86 l1 (fun j => hf_ua V1 7 j (V1.1 10)) fun V3 =>
  some ((1 : Int32), V3)
theorem jtX4_cellHere {C : hf_X} {om : Nat} {b : hf_H} (o : hf_In C cX4_cellHere RX4 4 (some .boolean) 2 49) (l1 : Int32) (l2 : Int32) (l3 : Int32) (V0 : hf_V) : hf_J C (hf_dMI om b) (spX4_cellHere l1 l2 l3 V0) (hf_M om b V0) 0 [(0, .ref om), (1, .int l1), (2, .int l2), (3, .int l3)] [] := by
  refine hr_aload_n o 0 dX4_cellHere_0 rfl ?_
  refine hr_iload_n o 2 dX4_cellHere_1 rfl ?_
  refine hr_iload_n o 3 dX4_cellHere_2 rfl ?_
  refine mr_callI o mvX4_160 dX4_cellHere_3 [.int l2, .int l3] (fun zr zV ze => mtX4_numberHere l2 l3 V0 zr zV ze) rfl rfl (Nat.le_of_ble_eq_true rfl) ⟨by decide, by decide⟩ (fun x2 V1 => ?_)
  refine hr_if_ne o 11 dX4_cellHere_6 (by decide) (fun _ => ?_) (fun _ => ?_)
  · refine hr_iconst o (0 : Int32) dX4_cellHere_9 (by decide) ?_
    exact hr_iret o dX4_cellHere_10 rfl (by decide)
  refine hr_aload_n o 0 dX4_cellHere_11 rfl ?_
  refine mr_get o flX4_26 dX4_cellHere_12 (.ref (om + 6)) rfl ?_
  refine hr_iload_n o 1 dX4_cellHere_15 rfl ?_
  refine hr_aload_n o 0 dX4_cellHere_16 rfl ?_
  refine mr_get o flX4_106 dX4_cellHere_17 (.int (V1.1 10)) rfl ?_
  refine mr_iast o 7 6 86 rfl (by decide) rfl dX4_cellHere_20 (fun V3 => ?_)
  refine hr_iconst o (1 : Int32) dX4_cellHere_21 (by decide) ?_
  exact hr_iret o dX4_cellHere_22 rfl (by decide)
theorem mtX4_cellHere {om : Nat} {b : hf_H} (l1 : Int32) (l2 : Int32) (l3 : Int32) (V0 : hf_V) (r : Int32) (V1 : hf_V) (e : spX4_cellHere l1 l2 l3 V0 = some (r, V1)) : hf_Con yX4_cellHere cX4_cellHere 4 (some .boolean) 2 49 [.ref om, .int l1, .int l2, .int l3] (hf_M om b V0) (.returned (some (.int r)), hf_M om b V1) := hf_entry (dec := hf_dMI om b) (by decide) [.ref om, .int l1, .int l2, .int l3] (Nat.le_of_ble_eq_true rfl) [(0, .ref om), (1, .int l1), (2, .int l2), (3, .int l3)] rfl e (fun C o _ => jtX4_cellHere o l1 l2 l3 V0)

/-! isLetter -/
def spX4_isLetter (l1 : Int32) (V0 : hf_V) : Option (Int32 × hf_V) :=
  if (V0.1 1) ≤ l1 then (some ((0 : Int32), V0)) else
  (hf_ld 400 (V0.2.2.2.1 0) l1).bind fun x1 =>
  if x1 < (97 : Int32) then (some ((0 : Int32), V0)) else
  (hf_ld 400 (V0.2.2.2.1 0) l1).bind fun x2 =>
  if (122 : Int32) < x2 then (some ((0 : Int32), V0)) else
  some ((1 : Int32), V0)
theorem jtX4_isLetter {C : hf_X} {om : Nat} {b : hf_H} (o : hf_In C cX4_isLetter RX4 2 (some .boolean) 0 0) (l1 : Int32) (V0 : hf_V) : hf_J C (hf_dMI om b) (spX4_isLetter l1 V0) (hf_M om b V0) 0 [(0, .ref om), (1, .int l1)] [] := by
  refine hr_iload_n o 1 dX4_isLetter_0 rfl ?_
  refine hr_aload_n o 0 dX4_isLetter_1 rfl ?_
  refine mr_get o flX4_70 dX4_isLetter_2 (.int (V0.1 1)) rfl ?_
  refine hr_icmp_ge o 34 dX4_isLetter_5 (by decide) (fun _ => ?_) (fun _ => ?_)
  · refine hr_iconst o (0 : Int32) dX4_isLetter_34 (by decide) ?_
    exact hr_iret o dX4_isLetter_35 rfl (by decide)
  refine hr_aload_n o 0 dX4_isLetter_8 rfl ?_
  refine mr_get o flX4_7 dX4_isLetter_9 (.ref (om + 1)) rfl ?_
  refine hr_iload_n o 1 dX4_isLetter_12 rfl ?_
  refine mr_bald o 0 1 400 rfl (by decide) rfl dX4_isLetter_13 (fun x1 => ?_)
  refine hr_bipush o (97 : Int32) dX4_isLetter_14 (by decide) ?_
  refine hr_icmp_lt o 34 dX4_isLetter_16 (by decide) (fun _ => ?_) (fun _ => ?_)
  · refine hr_iconst o (0 : Int32) dX4_isLetter_34 (by decide) ?_
    exact hr_iret o dX4_isLetter_35 rfl (by decide)
  refine hr_aload_n o 0 dX4_isLetter_19 rfl ?_
  refine mr_get o flX4_7 dX4_isLetter_20 (.ref (om + 1)) rfl ?_
  refine hr_iload_n o 1 dX4_isLetter_23 rfl ?_
  refine mr_bald o 0 1 400 rfl (by decide) rfl dX4_isLetter_24 (fun x2 => ?_)
  refine hr_bipush o (122 : Int32) dX4_isLetter_25 (by decide) ?_
  refine hr_icmp_gt o 34 dX4_isLetter_27 (by decide) (fun _ => ?_) (fun _ => ?_)
  · refine hr_iconst o (0 : Int32) dX4_isLetter_34 (by decide) ?_
    exact hr_iret o dX4_isLetter_35 rfl (by decide)
  refine hr_iconst o (1 : Int32) dX4_isLetter_30 (by decide) ?_
  refine hr_goto o 35 dX4_isLetter_31 (by decide) ?_
  exact hr_iret o dX4_isLetter_35 rfl (by decide)
theorem mtX4_isLetter {om : Nat} {b : hf_H} (l1 : Int32) (V0 : hf_V) (r : Int32) (V1 : hf_V) (e : spX4_isLetter l1 V0 = some (r, V1)) : hf_Con yX4_isLetter cX4_isLetter 2 (some .boolean) 0 0 [.ref om, .int l1] (hf_M om b V0) (.returned (some (.int r)), hf_M om b V1) := hf_entry (dec := hf_dMI om b) (by decide) [.ref om, .int l1] (Nat.le_of_ble_eq_true rfl) [(0, .ref om), (1, .int l1)] rfl e (fun C o _ => jtX4_isLetter o l1 V0)

/-! passWord -/
theorem mvX4_88 : hf_MV RX4 88 RX4 yX4_isLetter cX4_isLetter 2 (some .boolean) 1 := ⟨lw_V q1549 q1551 qs70 q162 q1552, by decide +kernel⟩
def ndX4_passWord_0 (k0 : hf_V → Option hf_V)  (V0 : hf_V) : Option hf_V :=
  hf_b2 (spX4_isLetter (V0.1 8) V0) fun x2 V1 =>
  if x2 = 0 then (some V1) else
  hf_let (hf_ui V1 8 ((V1.1 8) + (1 : Int32))) fun V3 =>
  k0 V3
theorem nlX4_passWord_0 {C : hf_X} {om : Nat} {b : hf_H} (o : hf_In C cX4_passWord RX4 1 (none) 1 21) (k0 : hf_V → Option hf_V) (hk0 : ∀ (V0 : hf_V), hf_J C (hf_dMV om b) (k0 V0) (hf_M om b V0) 0 [(0, .ref om)] [])  (V0 : hf_V) : hf_J C (hf_dMV om b) (ndX4_passWord_0 k0 V0) (hf_M om b V0) 0 [(0, .ref om)] [] := by
  refine hr_aload_n o 0 dX4_passWord_0 rfl ?_
  refine hr_aload_n o 0 dX4_passWord_1 rfl ?_
  refine mr_get o flX4_81 dX4_passWord_2 (.int (V0.1 8)) rfl ?_
  refine mr_callI o mvX4_88 dX4_passWord_5 [.int (V0.1 8)] (fun zr zV ze => mtX4_isLetter (V0.1 8) V0 zr zV ze) rfl rfl (Nat.le_of_ble_eq_true rfl) ⟨by decide, by decide⟩ (fun x2 V1 => ?_)
  refine hr_if_eq o 24 dX4_passWord_8 (by decide) (fun _ => ?_) (fun _ => ?_)
  · exact hr_vret o dX4_passWord_24 rfl
  refine hr_aload_n o 0 dX4_passWord_11 rfl ?_
  refine hr_dup o dX4_passWord_12 rfl ?_
  refine mr_get o flX4_81 dX4_passWord_13 (.int (V1.1 8)) rfl ?_
  refine hr_iconst o (1 : Int32) dX4_passWord_16 (by decide) ?_
  refine hr_iadd o dX4_passWord_17 ?_
  refine mr_putI o flX4_81 dX4_passWord_18 nf_4_8 rfl rfl (fun V3 => ?_)
  refine hr_goto o 0 dX4_passWord_21 (by decide) ?_
  exact hk0 V3
def lpX4_passWord_0  : Nat → hf_V → Option hf_V
  | 0 => fun _ => none
  | n + 1 => fun V0 => ndX4_passWord_0  (lpX4_passWord_0  n) V0
theorem llX4_passWord_0 {C : hf_X} {om : Nat} {b : hf_H} (o : hf_In C cX4_passWord RX4 1 (none) 1 21)   (n : Nat) : ∀ (V0 : hf_V), hf_J C (hf_dMV om b) ((lpX4_passWord_0  n) V0) (hf_M om b V0) 0 [(0, .ref om)] [] := by
  induction n with
  | zero => exact fun _ => hr_none
  | succ n ih => exact fun V0 => nlX4_passWord_0 o  (lpX4_passWord_0  n)  ih V0
def spX4_passWord  (V0 : hf_V) : Option hf_V :=
  lpX4_passWord_0 hf_N V0
theorem jtX4_passWord {C : hf_X} {om : Nat} {b : hf_H} (o : hf_In C cX4_passWord RX4 1 (none) 1 21)  (V0 : hf_V) : hf_J C (hf_dMV om b) (spX4_passWord V0) (hf_M om b V0) 0 [(0, .ref om)] [] := by
  exact llX4_passWord_0 o hf_N V0
theorem mtX4_passWord {om : Nat} {b : hf_H}  (V0 V1 : hf_V) (e : spX4_passWord V0 = some V1) : hf_Con yX4_passWord cX4_passWord 1 (none) 1 21 [.ref om] (hf_M om b V0) (.returned none, hf_M om b V1) := hf_entry (dec := hf_dMV om b) (by decide) [.ref om] (Nat.le_of_ble_eq_true rfl) [(0, .ref om)] rfl e (fun C o _ => jtX4_passWord o V0)

/-! areStallsHere -/
theorem mvX4_96 : hf_MV RX4 96 RX4 yX4_passWord cX4_passWord 1 (none) 0 := ⟨lw_V q1574 q1576 qs74 q162 q1577, by decide +kernel⟩
theorem mvX4_211 : hf_MV RX4 211 RX4 yX4_cellHere cX4_cellHere 4 (some .boolean) 3 := ⟨lw_V q1578 q1580 qs75 q162 q1581, by decide +kernel⟩
def spX4_areStallsHere (l1 : Int32) (V0 : hf_V) : Option (Int32 × hf_V) :=
  (hf_ld 86 (V0.2.2.2.1 7) (0 : Int32)).bind fun x1 =>
  if x1 ≤ 0 then ((spX4_passWord V0).bind fun V2 =>
  hf_b2 (spX4_cellHere (0 : Int32) (2 : Int32) (8 : Int32) V2) fun x4 V3 =>
  if x4 = 0 then (some ((0 : Int32), V3)) else
  hf_b2 (spX4_cellHere (4 : Int32) (0 : Int32) (7 : Int32) V3) fun x6 V5 =>
  if x6 = 0 then (some ((0 : Int32), V5)) else
  some ((1 : Int32), V5)) else
  hf_b2 (spX4_fails (4 : Int32) l1 V0) fun x8 V7 =>
  if x8 = 0 ∨ x8 = 1 then some (x8, V7) else none
theorem jtX4_areStallsHere {C : hf_X} {om : Nat} {b : hf_H} (o : hf_In C cX4_areStallsHere RX4 2 (some .boolean) 3 72) (l1 : Int32) (V0 : hf_V) : hf_J C (hf_dMI om b) (spX4_areStallsHere l1 V0) (hf_M om b V0) 0 [(0, .ref om), (1, .int l1)] [] := by
  refine hr_aload_n o 0 dX4_areStallsHere_0 rfl ?_
  refine mr_get o flX4_26 dX4_areStallsHere_1 (.ref (om + 6)) rfl ?_
  refine hr_iconst o (0 : Int32) dX4_areStallsHere_4 (by decide) ?_
  refine mr_iald o 7 6 86 rfl (by decide) rfl dX4_areStallsHere_5 (fun x1 => ?_)
  refine hr_if_le o 16 dX4_areStallsHere_6 (by decide) (fun _ => ?_) (fun _ => ?_)
  · refine hr_aload_n o 0 dX4_areStallsHere_16 rfl ?_
    refine mr_callV o mvX4_96 dX4_areStallsHere_17 [] (fun zV ze => mtX4_passWord  V0 zV ze) rfl rfl (Nat.le_of_ble_eq_true rfl) ⟨by decide, by decide⟩ (fun V2 => ?_)
    refine hr_aload_n o 0 dX4_areStallsHere_20 rfl ?_
    refine hr_iconst o (0 : Int32) dX4_areStallsHere_21 (by decide) ?_
    refine hr_iconst o (2 : Int32) dX4_areStallsHere_22 (by decide) ?_
    refine hr_bipush o (8 : Int32) dX4_areStallsHere_23 (by decide) ?_
    refine mr_callI o mvX4_211 dX4_areStallsHere_25 [.int (0 : Int32), .int (2 : Int32), .int (8 : Int32)] (fun zr zV ze => mtX4_cellHere (0 : Int32) (2 : Int32) (8 : Int32) V2 zr zV ze) rfl rfl (Nat.le_of_ble_eq_true rfl) ⟨by decide, by decide⟩ (fun x4 V3 => ?_)
    refine hr_if_eq o 46 dX4_areStallsHere_28 (by decide) (fun _ => ?_) (fun _ => ?_)
    · refine hr_iconst o (0 : Int32) dX4_areStallsHere_46 (by decide) ?_
      exact hr_iret o dX4_areStallsHere_47 rfl (by decide)
    refine hr_aload_n o 0 dX4_areStallsHere_31 rfl ?_
    refine hr_iconst o (4 : Int32) dX4_areStallsHere_32 (by decide) ?_
    refine hr_iconst o (0 : Int32) dX4_areStallsHere_33 (by decide) ?_
    refine hr_bipush o (7 : Int32) dX4_areStallsHere_34 (by decide) ?_
    refine mr_callI o mvX4_211 dX4_areStallsHere_36 [.int (4 : Int32), .int (0 : Int32), .int (7 : Int32)] (fun zr zV ze => mtX4_cellHere (4 : Int32) (0 : Int32) (7 : Int32) V3 zr zV ze) rfl rfl (Nat.le_of_ble_eq_true rfl) ⟨by decide, by decide⟩ (fun x6 V5 => ?_)
    refine hr_if_eq o 46 dX4_areStallsHere_39 (by decide) (fun _ => ?_) (fun _ => ?_)
    · refine hr_iconst o (0 : Int32) dX4_areStallsHere_46 (by decide) ?_
      exact hr_iret o dX4_areStallsHere_47 rfl (by decide)
    refine hr_iconst o (1 : Int32) dX4_areStallsHere_42 (by decide) ?_
    refine hr_goto o 47 dX4_areStallsHere_43 (by decide) ?_
    exact hr_iret o dX4_areStallsHere_47 rfl (by decide)
  refine hr_aload_n o 0 dX4_areStallsHere_9 rfl ?_
  refine hr_iconst o (4 : Int32) dX4_areStallsHere_10 (by decide) ?_
  refine hr_iload_n o 1 dX4_areStallsHere_11 rfl ?_
  refine mr_callI o mvX4_102 dX4_areStallsHere_12 [.int (4 : Int32), .int l1] (fun zr zV ze => mtX4_fails (4 : Int32) l1 V0 zr zV ze) rfl rfl (Nat.le_of_ble_eq_true rfl) ⟨by decide, by decide⟩ (fun x8 V7 => ?_)
  refine hr_ck (fun hz => ?_)
  exact hr_iret o dX4_areStallsHere_15 rfl (hf_nz hz)
theorem mtX4_areStallsHere {om : Nat} {b : hf_H} (l1 : Int32) (V0 : hf_V) (r : Int32) (V1 : hf_V) (e : spX4_areStallsHere l1 V0 = some (r, V1)) : hf_Con yX4_areStallsHere cX4_areStallsHere 2 (some .boolean) 3 72 [.ref om, .int l1] (hf_M om b V0) (.returned (some (.int r)), hf_M om b V1) := hf_entry (dec := hf_dMI om b) (by decide) [.ref om, .int l1] (Nat.le_of_ble_eq_true rfl) [(0, .ref om), (1, .int l1)] rfl e (fun C o _ => jtX4_areStallsHere o l1 V0)

/-! isBuyerHere -/
def spX4_isBuyerHere (l1 : Int32) (V0 : hf_V) : Option (Int32 × hf_V) :=
  (hf_ld 86 (V0.2.2.2.1 7) (2 : Int32)).bind fun x1 =>
  if x1 = (4 : Int32) then (hf_b2 (spX4_fails (4 : Int32) l1 V0) fun x16 V15 =>
  if x16 = 0 ∨ x16 = 1 then some (x16, V15) else none) else
  (spX4_passWord V0).bind fun V2 =>
  (hf_ld 86 (V2.2.2.2.1 7) (2 : Int32)).bind fun x3 =>
  hf_let ((70 : Int32) + ((4 : Int32) * x3)) fun x4 =>
  hf_b2 (spX4_cellHere x4 (0 : Int32) (999 : Int32) V2) fun x6 V5 =>
  if x6 = 0 then (some ((0 : Int32), V5)) else
  (hf_ld 86 (V5.2.2.2.1 7) (0 : Int32)).bind fun x7 =>
  hf_b2 (spX4_cellHere (x4 + (1 : Int32)) (0 : Int32) (x7 - (1 : Int32)) V5) fun x9 V8 =>
  if x9 = 0 then (some ((0 : Int32), V8)) else
  hf_sd 86 (x4 + (2 : Int32)) (fun j => hf_ua V8 7 j (0 : Int32)) fun V10 =>
  (hf_ld 86 (V10.2.2.2.1 7) (2 : Int32)).bind fun x11 =>
  hf_sd 86 (x4 + (3 : Int32)) (fun j => hf_ua V10 7 j ((1 : Int32) <<< (x11 &&& 31))) fun V12 =>
  (hf_ld 86 (V12.2.2.2.1 7) (2 : Int32)).bind fun x13 =>
  hf_sd 86 (2 : Int32) (fun j => hf_ua V12 7 j (x13 + (1 : Int32))) fun V14 =>
  some ((1 : Int32), V14)
theorem jtX4_isBuyerHere {C : hf_X} {om : Nat} {b : hf_H} (o : hf_In C cX4_isBuyerHere RX4 3 (some .boolean) 3 72) (l1 : Int32) (V0 : hf_V) : hf_J C (hf_dMI om b) (spX4_isBuyerHere l1 V0) (hf_M om b V0) 0 [(0, .ref om), (1, .int l1)] [] := by
  refine hr_aload_n o 0 dX4_isBuyerHere_0 rfl ?_
  refine mr_get o flX4_26 dX4_isBuyerHere_1 (.ref (om + 6)) rfl ?_
  refine hr_iconst o (2 : Int32) dX4_isBuyerHere_4 (by decide) ?_
  refine mr_iald o 7 6 86 rfl (by decide) rfl dX4_isBuyerHere_5 (fun x1 => ?_)
  refine hr_iconst o (4 : Int32) dX4_isBuyerHere_6 (by decide) ?_
  refine hr_icmp_ne o 17 dX4_isBuyerHere_7 (by decide) (fun _ => ?_) (fun _ => ?_)
  · refine hr_aload_n o 0 dX4_isBuyerHere_10 rfl ?_
    refine hr_iconst o (4 : Int32) dX4_isBuyerHere_11 (by decide) ?_
    refine hr_iload_n o 1 dX4_isBuyerHere_12 rfl ?_
    refine mr_callI o mvX4_102 dX4_isBuyerHere_13 [.int (4 : Int32), .int l1] (fun zr zV ze => mtX4_fails (4 : Int32) l1 V0 zr zV ze) rfl rfl (Nat.le_of_ble_eq_true rfl) ⟨by decide, by decide⟩ (fun x16 V15 => ?_)
    refine hr_ck (fun hz => ?_)
    exact hr_iret o dX4_isBuyerHere_16 rfl (hf_nz hz)
  refine hr_aload_n o 0 dX4_isBuyerHere_17 rfl ?_
  refine mr_callV o mvX4_96 dX4_isBuyerHere_18 [] (fun zV ze => mtX4_passWord  V0 zV ze) rfl rfl (Nat.le_of_ble_eq_true rfl) ⟨by decide, by decide⟩ (fun V2 => ?_)
  refine hr_bipush o (70 : Int32) dX4_isBuyerHere_21 (by decide) ?_
  refine hr_iconst o (4 : Int32) dX4_isBuyerHere_23 (by decide) ?_
  refine hr_aload_n o 0 dX4_isBuyerHere_24 rfl ?_
  refine mr_get o flX4_26 dX4_isBuyerHere_25 (.ref (om + 6)) rfl ?_
  refine hr_iconst o (2 : Int32) dX4_isBuyerHere_28 (by decide) ?_
  refine mr_iald o 7 6 86 rfl (by decide) rfl dX4_isBuyerHere_29 (fun x3 => ?_)
  refine hr_imul o dX4_isBuyerHere_30 ?_
  refine hr_iadd o dX4_isBuyerHere_31 ?_
  refine hr_nmI (fun x4 => ?_)
  refine hr_istore_n o [(2, .int x4), (0, .ref om), (1, .int l1)] dX4_isBuyerHere_32 (by decide) rfl ?_
  refine hr_aload_n o 1 dX4_isBuyerHere_33 rfl ?_
  refine hr_iload_n o 0 dX4_isBuyerHere_34 rfl ?_
  refine hr_iconst o (0 : Int32) dX4_isBuyerHere_35 (by decide) ?_
  refine hr_sipush o (999 : Int32) dX4_isBuyerHere_36 (by decide) ?_
  refine mr_callI o mvX4_211 dX4_isBuyerHere_39 [.int x4, .int (0 : Int32), .int (999 : Int32)] (fun zr zV ze => mtX4_cellHere x4 (0 : Int32) (999 : Int32) V2 zr zV ze) rfl rfl (Nat.le_of_ble_eq_true rfl) ⟨by decide, by decide⟩ (fun x6 V5 => ?_)
  refine hr_if_eq o 64 dX4_isBuyerHere_42 (by decide) (fun _ => ?_) (fun _ => ?_)
  · refine hr_iconst o (0 : Int32) dX4_isBuyerHere_64 (by decide) ?_
    exact hr_iret o dX4_isBuyerHere_65 rfl (by decide)
  refine hr_aload_n o 1 dX4_isBuyerHere_45 rfl ?_
  refine hr_iload_n o 0 dX4_isBuyerHere_46 rfl ?_
  refine hr_iconst o (1 : Int32) dX4_isBuyerHere_47 (by decide) ?_
  refine hr_iadd o dX4_isBuyerHere_48 ?_
  refine hr_iconst o (0 : Int32) dX4_isBuyerHere_49 (by decide) ?_
  refine hr_aload_n o 1 dX4_isBuyerHere_50 rfl ?_
  refine mr_get o flX4_26 dX4_isBuyerHere_51 (.ref (om + 6)) rfl ?_
  refine hr_iconst o (0 : Int32) dX4_isBuyerHere_54 (by decide) ?_
  refine mr_iald o 7 6 86 rfl (by decide) rfl dX4_isBuyerHere_55 (fun x7 => ?_)
  refine hr_iconst o (1 : Int32) dX4_isBuyerHere_56 (by decide) ?_
  refine hr_isub o dX4_isBuyerHere_57 ?_
  refine mr_callI o mvX4_211 dX4_isBuyerHere_58 [.int (x4 + (1 : Int32)), .int (0 : Int32), .int (x7 - (1 : Int32))] (fun zr zV ze => mtX4_cellHere (x4 + (1 : Int32)) (0 : Int32) (x7 - (1 : Int32)) V5 zr zV ze) rfl rfl (Nat.le_of_ble_eq_true rfl) ⟨by decide, by decide⟩ (fun x9 V8 => ?_)
  refine hr_if_ne o 66 dX4_isBuyerHere_61 (by decide) (fun _ => ?_) (fun _ => ?_)
  · refine hr_iconst o (0 : Int32) dX4_isBuyerHere_64 (by decide) ?_
    exact hr_iret o dX4_isBuyerHere_65 rfl (by decide)
  refine hr_aload_n o 1 dX4_isBuyerHere_66 rfl ?_
  refine mr_get o flX4_26 dX4_isBuyerHere_67 (.ref (om + 6)) rfl ?_
  refine hr_iload_n o 0 dX4_isBuyerHere_70 rfl ?_
  refine hr_iconst o (2 : Int32) dX4_isBuyerHere_71 (by decide) ?_
  refine hr_iadd o dX4_isBuyerHere_72 ?_
  refine hr_iconst o (0 : Int32) dX4_isBuyerHere_73 (by decide) ?_
  refine mr_iast o 7 6 86 rfl (by decide) rfl dX4_isBuyerHere_74 (fun V10 => ?_)
  refine hr_aload_n o 1 dX4_isBuyerHere_75 rfl ?_
  refine mr_get o flX4_26 dX4_isBuyerHere_76 (.ref (om + 6)) rfl ?_
  refine hr_iload_n o 0 dX4_isBuyerHere_79 rfl ?_
  refine hr_iconst o (3 : Int32) dX4_isBuyerHere_80 (by decide) ?_
  refine hr_iadd o dX4_isBuyerHere_81 ?_
  refine hr_iconst o (1 : Int32) dX4_isBuyerHere_82 (by decide) ?_
  refine hr_aload_n o 1 dX4_isBuyerHere_83 rfl ?_
  refine mr_get o flX4_26 dX4_isBuyerHere_84 (.ref (om + 6)) rfl ?_
  refine hr_iconst o (2 : Int32) dX4_isBuyerHere_87 (by decide) ?_
  refine mr_iald o 7 6 86 rfl (by decide) rfl dX4_isBuyerHere_88 (fun x11 => ?_)
  refine hr_ishl o dX4_isBuyerHere_89 ?_
  refine mr_iast o 7 6 86 rfl (by decide) rfl dX4_isBuyerHere_90 (fun V12 => ?_)
  refine hr_aload_n o 1 dX4_isBuyerHere_91 rfl ?_
  refine mr_get o flX4_26 dX4_isBuyerHere_92 (.ref (om + 6)) rfl ?_
  refine hr_iconst o (2 : Int32) dX4_isBuyerHere_95 (by decide) ?_
  refine hr_dup2 o dX4_isBuyerHere_96 rfl rfl ?_
  refine mr_iald o 7 6 86 rfl (by decide) rfl dX4_isBuyerHere_97 (fun x13 => ?_)
  refine hr_iconst o (1 : Int32) dX4_isBuyerHere_98 (by decide) ?_
  refine hr_iadd o dX4_isBuyerHere_99 ?_
  refine mr_iast o 7 6 86 rfl (by decide) rfl dX4_isBuyerHere_100 (fun V14 => ?_)
  refine hr_iconst o (1 : Int32) dX4_isBuyerHere_101 (by decide) ?_
  exact hr_iret o dX4_isBuyerHere_102 rfl (by decide)
theorem mtX4_isBuyerHere {om : Nat} {b : hf_H} (l1 : Int32) (V0 : hf_V) (r : Int32) (V1 : hf_V) (e : spX4_isBuyerHere l1 V0 = some (r, V1)) : hf_Con yX4_isBuyerHere cX4_isBuyerHere 3 (some .boolean) 3 72 [.ref om, .int l1] (hf_M om b V0) (.returned (some (.int r)), hf_M om b V1) := hf_entry (dec := hf_dMI om b) (by decide) [.ref om, .int l1] (Nat.le_of_ble_eq_true rfl) [(0, .ref om), (1, .int l1)] rfl e (fun C o _ => jtX4_isBuyerHere o l1 V0)

/-! isOf -/
def spX4_isOf (l0 : Int32) (l1 : Int32) : Option Int32 :=
  if ((l0 >>> (l1 &&& 31)) &&& (1 : Int32)) = (1 : Int32) then (some (1 : Int32)) else
  some (0 : Int32)
theorem jtX4_isOf {C : hf_X} {h : hf_H} (o : hf_In C cX4_isOf RX4 2 (some .boolean) 0 0) (l0 : Int32) (l1 : Int32) : hf_J C (hf_dPI h) (spX4_isOf l0 l1) h 0 [(0, .int l0), (1, .int l1)] [] := by
  refine hr_iload_n o 0 dX4_isOf_0 rfl ?_
  refine hr_iload_n o 1 dX4_isOf_1 rfl ?_
  refine hr_ishr o dX4_isOf_2 ?_
  refine hr_iconst o (1 : Int32) dX4_isOf_3 (by decide) ?_
  refine hr_iand o dX4_isOf_4 ?_
  refine hr_iconst o (1 : Int32) dX4_isOf_5 (by decide) ?_
  refine hr_icmp_ne o 13 dX4_isOf_6 (by decide) (fun _ => ?_) (fun _ => ?_)
  · refine hr_iconst o (1 : Int32) dX4_isOf_9 (by decide) ?_
    refine hr_goto o 14 dX4_isOf_10 (by decide) ?_
    exact hr_iret o dX4_isOf_14 rfl (by decide)
  refine hr_iconst o (0 : Int32) dX4_isOf_13 (by decide) ?_
  exact hr_iret o dX4_isOf_14 rfl (by decide)
theorem mtX4_isOf {h : hf_H} (l0 : Int32) (l1 : Int32) (r : Int32) (e : spX4_isOf l0 l1 = some r) : hf_Con yX4_isOf cX4_isOf 2 (some .boolean) 0 0 [.int l0, .int l1] h (.returned (some (.int r)), h) := hf_entry (dec := hf_dPI h) (by decide) [.int l0, .int l1] (Nat.le_of_ble_eq_true rfl) [(0, .int l0), (1, .int l1)] rfl e (fun C o _ => jtX4_isOf o l0 l1)

/-! isClubHere -/
theorem msX4_215 : hf_MS RX4 215 yX4_isOf cX4_isOf 2 (some .boolean) 2 := ⟨lw_S q1609 q1610 q162 q1611, by decide +kernel⟩
def ndX4_isClubHere_139 (k104 : Int32 → Int32 → hf_V → Option (Int32 × hf_V)) (l3 : Int32) (l4 : Int32) (V0 : hf_V) : Option (Int32 × hf_V) :=
  hf_let (l4 + (1 : Int32)) fun x1 =>
  k104 l3 x1 V0
theorem nlX4_isClubHere_139 {C : hf_X} {om : Nat} {b : hf_H} (o : hf_In C cX4_isClubHere RX4 5 (some .boolean) 2 49) (k104 : Int32 → Int32 → hf_V → Option (Int32 × hf_V)) (hk104 : ∀ (l3 : Int32) (l4 : Int32) (V0 : hf_V), hf_J C (hf_dMI om b) (k104 l3 l4 V0) (hf_M om b V0) 104 [(0, .ref om), (3, .int l3), (4, .int l4)] []) (l3 : Int32) (l4 : Int32) (V0 : hf_V) : hf_J C (hf_dMI om b) (ndX4_isClubHere_139 k104 l3 l4 V0) (hf_M om b V0) 139 [(0, .ref om), (3, .int l3), (4, .int l4)] [] := by
  refine hr_iincN o (1 : Int32) 2 (fun y => [(4, .int y), (0, .ref om), (3, .int l3)]) dX4_isClubHere_139 rfl (by decide) (by decide) (fun y => rfl) (fun x1 => ?_)
  refine hr_goto o 104 dX4_isClubHere_142 (by decide) ?_
  refine hr_sub [1, 2, 0] rfl ?_
  exact hk104 l3 x1 V0
def ndX4_isClubHere_104 (k104 : Int32 → Int32 → hf_V → Option (Int32 × hf_V)) (l3 : Int32) (l4 : Int32) (V0 : hf_V) : Option (Int32 × hf_V) :=
  (hf_ld 86 (V0.2.2.2.1 7) (2 : Int32)).bind fun x1 =>
  if x1 ≤ l4 then (some ((1 : Int32), V0)) else
  (spX4_isOf l3 l4).bind fun x2 =>
  if x2 = 0 then (ndX4_isClubHere_139 k104 l3 l4 V0) else
  hf_sd 86 (((70 : Int32) + ((4 : Int32) * l4)) + (3 : Int32)) (fun j => hf_ua V0 7 j l3) fun V3 =>
  ndX4_isClubHere_139 k104 l3 l4 V3
theorem nlX4_isClubHere_104 {C : hf_X} {om : Nat} {b : hf_H} (o : hf_In C cX4_isClubHere RX4 5 (some .boolean) 2 49) (k104 : Int32 → Int32 → hf_V → Option (Int32 × hf_V)) (hk104 : ∀ (l3 : Int32) (l4 : Int32) (V0 : hf_V), hf_J C (hf_dMI om b) (k104 l3 l4 V0) (hf_M om b V0) 104 [(0, .ref om), (3, .int l3), (4, .int l4)] []) (l3 : Int32) (l4 : Int32) (V0 : hf_V) : hf_J C (hf_dMI om b) (ndX4_isClubHere_104 k104 l3 l4 V0) (hf_M om b V0) 104 [(0, .ref om), (3, .int l3), (4, .int l4)] [] := by
  refine hr_iload o 2 dX4_isClubHere_104 rfl ?_
  refine hr_aload_n o 0 dX4_isClubHere_106 rfl ?_
  refine mr_get o flX4_26 dX4_isClubHere_107 (.ref (om + 6)) rfl ?_
  refine hr_iconst o (2 : Int32) dX4_isClubHere_110 (by decide) ?_
  refine mr_iald o 7 6 86 rfl (by decide) rfl dX4_isClubHere_111 (fun x1 => ?_)
  refine hr_icmp_ge o 145 dX4_isClubHere_112 (by decide) (fun _ => ?_) (fun _ => ?_)
  · refine hr_iconst o (1 : Int32) dX4_isClubHere_145 (by decide) ?_
    exact hr_iret o dX4_isClubHere_146 rfl (by decide)
  refine hr_iload_n o 1 dX4_isClubHere_115 rfl ?_
  refine hr_iload o 2 dX4_isClubHere_116 rfl ?_
  refine pr_callI o msX4_215 dX4_isClubHere_118 [.int l3, .int l4] (fun zr ze => mtX4_isOf l3 l4 zr ze) rfl rfl (Nat.le_of_ble_eq_true rfl) ⟨by decide, by decide⟩ (fun x2 => ?_)
  refine hr_if_eq o 139 dX4_isClubHere_121 (by decide) (fun _ => ?_) (fun _ => ?_)
  · exact nlX4_isClubHere_139 o k104 hk104 l3 l4 V0
  refine hr_aload_n o 0 dX4_isClubHere_124 rfl ?_
  refine mr_get o flX4_26 dX4_isClubHere_125 (.ref (om + 6)) rfl ?_
  refine hr_bipush o (70 : Int32) dX4_isClubHere_128 (by decide) ?_
  refine hr_iconst o (4 : Int32) dX4_isClubHere_130 (by decide) ?_
  refine hr_iload o 2 dX4_isClubHere_131 rfl ?_
  refine hr_imul o dX4_isClubHere_133 ?_
  refine hr_iadd o dX4_isClubHere_134 ?_
  refine hr_iconst o (3 : Int32) dX4_isClubHere_135 (by decide) ?_
  refine hr_iadd o dX4_isClubHere_136 ?_
  refine hr_iload_n o 1 dX4_isClubHere_137 rfl ?_
  refine mr_iast o 7 6 86 rfl (by decide) rfl dX4_isClubHere_138 (fun V3 => ?_)
  exact nlX4_isClubHere_139 o k104 hk104 l3 l4 V3
def lpX4_isClubHere_104  : Nat → Int32 → Int32 → hf_V → Option (Int32 × hf_V)
  | 0 => fun _ _ _ => none
  | n + 1 => fun l3 l4 V0 => ndX4_isClubHere_104  (lpX4_isClubHere_104  n) l3 l4 V0
theorem llX4_isClubHere_104 {C : hf_X} {om : Nat} {b : hf_H} (o : hf_In C cX4_isClubHere RX4 5 (some .boolean) 2 49)   (n : Nat) : ∀ (l3 : Int32) (l4 : Int32) (V0 : hf_V), hf_J C (hf_dMI om b) ((lpX4_isClubHere_104  n) l3 l4 V0) (hf_M om b V0) 104 [(0, .ref om), (3, .int l3), (4, .int l4)] [] := by
  induction n with
  | zero => exact fun _ _ _ => hr_none
  | succ n ih => exact fun l3 l4 V0 => nlX4_isClubHere_104 o  (lpX4_isClubHere_104  n)  ih l3 l4 V0
def spX4_isClubHere  (V0 : hf_V) : Option (Int32 × hf_V) :=
  (spX4_passWord V0).bind fun V1 =>
  (hf_ld 86 (V1.2.2.2.1 7) (2 : Int32)).bind fun x2 =>
  hf_b2 (spX4_numberHere (0 : Int32) (x2 - (1 : Int32)) V1) fun x4 V3 =>
  if x4 = 0 then (some ((0 : Int32), V3)) else
  hf_let (V3.1 10) fun x5 =>
  hf_b2 (spX4_see V3) fun x7 V6 =>
  hf_let (V6.1 8) fun x8 =>
  (hf_ld 86 (V6.2.2.2.1 7) (2 : Int32)).bind fun x9 =>
  hf_b2 (spX4_numberHere (0 : Int32) (x9 - (1 : Int32)) V6) fun x11 V10 =>
  if x11 = 0 then (some ((0 : Int32), V10)) else
  if (V10.1 10) = x5 then (hf_b2 (spX4_fails (1 : Int32) x8 V10) fun x16 V15 =>
  if x16 = 0 ∨ x16 = 1 then some (x16, V15) else none) else
  (hf_ld 86 (V10.2.2.2.1 7) (((70 : Int32) + ((4 : Int32) * x5)) + (3 : Int32))).bind fun x12 =>
  (hf_ld 86 (V10.2.2.2.1 7) (((70 : Int32) + ((4 : Int32) * (V10.1 10))) + (3 : Int32))).bind fun x13 =>
  hf_let (x12 ||| x13) fun x14 =>
  lpX4_isClubHere_104 hf_N x14 (0 : Int32) V10
theorem jtX4_isClubHere {C : hf_X} {om : Nat} {b : hf_H} (o : hf_In C cX4_isClubHere RX4 5 (some .boolean) 2 49)  (V0 : hf_V) : hf_J C (hf_dMI om b) (spX4_isClubHere V0) (hf_M om b V0) 0 [(0, .ref om)] [] := by
  refine hr_aload_n o 0 dX4_isClubHere_0 rfl ?_
  refine mr_callV o mvX4_96 dX4_isClubHere_1 [] (fun zV ze => mtX4_passWord  V0 zV ze) rfl rfl (Nat.le_of_ble_eq_true rfl) ⟨by decide, by decide⟩ (fun V1 => ?_)
  refine hr_aload_n o 0 dX4_isClubHere_4 rfl ?_
  refine hr_iconst o (0 : Int32) dX4_isClubHere_5 (by decide) ?_
  refine hr_aload_n o 0 dX4_isClubHere_6 rfl ?_
  refine mr_get o flX4_26 dX4_isClubHere_7 (.ref (om + 6)) rfl ?_
  refine hr_iconst o (2 : Int32) dX4_isClubHere_10 (by decide) ?_
  refine mr_iald o 7 6 86 rfl (by decide) rfl dX4_isClubHere_11 (fun x2 => ?_)
  refine hr_iconst o (1 : Int32) dX4_isClubHere_12 (by decide) ?_
  refine hr_isub o dX4_isClubHere_13 ?_
  refine mr_callI o mvX4_160 dX4_isClubHere_14 [.int (0 : Int32), .int (x2 - (1 : Int32))] (fun zr zV ze => mtX4_numberHere (0 : Int32) (x2 - (1 : Int32)) V1 zr zV ze) rfl rfl (Nat.le_of_ble_eq_true rfl) ⟨by decide, by decide⟩ (fun x4 V3 => ?_)
  refine hr_if_ne o 22 dX4_isClubHere_17 (by decide) (fun _ => ?_) (fun _ => ?_)
  · refine hr_iconst o (0 : Int32) dX4_isClubHere_20 (by decide) ?_
    exact hr_iret o dX4_isClubHere_21 rfl (by decide)
  refine hr_aload_n o 0 dX4_isClubHere_22 rfl ?_
  refine mr_get o flX4_106 dX4_isClubHere_23 (.int (V3.1 10)) rfl ?_
  refine hr_nmI (fun x5 => ?_)
  refine hr_istore_n o [(1, .int x5), (0, .ref om)] dX4_isClubHere_26 (by decide) rfl ?_
  refine hr_aload_n o 1 dX4_isClubHere_27 rfl ?_
  refine mr_callI o mvX4_84 dX4_isClubHere_28 [] (fun zr zV ze => mtX4_see  V3 zr zV ze) rfl rfl (Nat.le_of_ble_eq_true rfl) ⟨by decide, by decide⟩ (fun x7 V6 => ?_)
  refine hr_pop o dX4_isClubHere_31 rfl ?_
  refine hr_aload_n o 1 dX4_isClubHere_32 rfl ?_
  refine mr_get o flX4_81 dX4_isClubHere_33 (.int (V6.1 8)) rfl ?_
  refine hr_nmI (fun x8 => ?_)
  refine hr_istore_n o [(2, .int x8), (1, .int x5), (0, .ref om)] dX4_isClubHere_36 (by decide) rfl ?_
  refine hr_aload_n o 2 dX4_isClubHere_37 rfl ?_
  refine hr_iconst o (0 : Int32) dX4_isClubHere_38 (by decide) ?_
  refine hr_aload_n o 2 dX4_isClubHere_39 rfl ?_
  refine mr_get o flX4_26 dX4_isClubHere_40 (.ref (om + 6)) rfl ?_
  refine hr_iconst o (2 : Int32) dX4_isClubHere_43 (by decide) ?_
  refine mr_iald o 7 6 86 rfl (by decide) rfl dX4_isClubHere_44 (fun x9 => ?_)
  refine hr_iconst o (1 : Int32) dX4_isClubHere_45 (by decide) ?_
  refine hr_isub o dX4_isClubHere_46 ?_
  refine mr_callI o mvX4_160 dX4_isClubHere_47 [.int (0 : Int32), .int (x9 - (1 : Int32))] (fun zr zV ze => mtX4_numberHere (0 : Int32) (x9 - (1 : Int32)) V6 zr zV ze) rfl rfl (Nat.le_of_ble_eq_true rfl) ⟨by decide, by decide⟩ (fun x11 V10 => ?_)
  refine hr_if_ne o 55 dX4_isClubHere_50 (by decide) (fun _ => ?_) (fun _ => ?_)
  · refine hr_iconst o (0 : Int32) dX4_isClubHere_53 (by decide) ?_
    exact hr_iret o dX4_isClubHere_54 rfl (by decide)
  refine hr_aload_n o 2 dX4_isClubHere_55 rfl ?_
  refine mr_get o flX4_106 dX4_isClubHere_56 (.int (V10.1 10)) rfl ?_
  refine hr_iload_n o 1 dX4_isClubHere_59 rfl ?_
  refine hr_icmp_ne o 70 dX4_isClubHere_60 (by decide) (fun _ => ?_) (fun _ => ?_)
  · refine hr_aload_n o 2 dX4_isClubHere_63 rfl ?_
    refine hr_iconst o (1 : Int32) dX4_isClubHere_64 (by decide) ?_
    refine hr_iload_n o 0 dX4_isClubHere_65 rfl ?_
    refine mr_callI o mvX4_102 dX4_isClubHere_66 [.int (1 : Int32), .int x8] (fun zr zV ze => mtX4_fails (1 : Int32) x8 V10 zr zV ze) rfl rfl (Nat.le_of_ble_eq_true rfl) ⟨by decide, by decide⟩ (fun x16 V15 => ?_)
    refine hr_ck (fun hz => ?_)
    exact hr_iret o dX4_isClubHere_69 rfl (hf_nz hz)
  refine hr_aload_n o 2 dX4_isClubHere_70 rfl ?_
  refine mr_get o flX4_26 dX4_isClubHere_71 (.ref (om + 6)) rfl ?_
  refine hr_bipush o (70 : Int32) dX4_isClubHere_74 (by decide) ?_
  refine hr_iconst o (4 : Int32) dX4_isClubHere_76 (by decide) ?_
  refine hr_iload_n o 1 dX4_isClubHere_77 rfl ?_
  refine hr_imul o dX4_isClubHere_78 ?_
  refine hr_iadd o dX4_isClubHere_79 ?_
  refine hr_iconst o (3 : Int32) dX4_isClubHere_80 (by decide) ?_
  refine hr_iadd o dX4_isClubHere_81 ?_
  refine mr_iald o 7 6 86 rfl (by decide) rfl dX4_isClubHere_82 (fun x12 => ?_)
  refine hr_aload_n o 2 dX4_isClubHere_83 rfl ?_
  refine mr_get o flX4_26 dX4_isClubHere_84 (.ref (om + 6)) rfl ?_
  refine hr_bipush o (70 : Int32) dX4_isClubHere_87 (by decide) ?_
  refine hr_iconst o (4 : Int32) dX4_isClubHere_89 (by decide) ?_
  refine hr_aload_n o 2 dX4_isClubHere_90 rfl ?_
  refine mr_get o flX4_106 dX4_isClubHere_91 (.int (V10.1 10)) rfl ?_
  refine hr_imul o dX4_isClubHere_94 ?_
  refine hr_iadd o dX4_isClubHere_95 ?_
  refine hr_iconst o (3 : Int32) dX4_isClubHere_96 (by decide) ?_
  refine hr_iadd o dX4_isClubHere_97 ?_
  refine mr_iald o 7 6 86 rfl (by decide) rfl dX4_isClubHere_98 (fun x13 => ?_)
  refine hr_ior o dX4_isClubHere_99 ?_
  refine hr_nmI (fun x14 => ?_)
  refine hr_istore_n o [(3, .int x14), (2, .int x8), (1, .int x5), (0, .ref om)] dX4_isClubHere_100 (by decide) rfl ?_
  refine hr_iconst o (0 : Int32) dX4_isClubHere_101 (by decide) ?_
  refine hr_istore o [(4, .int (0 : Int32)), (3, .int x14), (2, .int x8), (1, .int x5), (0, .ref om)] dX4_isClubHere_102 (by decide) rfl ?_
  refine hr_sub [4, 1, 0] rfl ?_
  exact llX4_isClubHere_104 o hf_N x14 (0 : Int32) V10
theorem mtX4_isClubHere {om : Nat} {b : hf_H}  (V0 : hf_V) (r : Int32) (V1 : hf_V) (e : spX4_isClubHere V0 = some (r, V1)) : hf_Con yX4_isClubHere cX4_isClubHere 5 (some .boolean) 2 49 [.ref om] (hf_M om b V0) (.returned (some (.int r)), hf_M om b V1) := hf_entry (dec := hf_dMI om b) (by decide) [.ref om] (Nat.le_of_ble_eq_true rfl) [(0, .ref om)] rfl e (fun C o _ => jtX4_isClubHere o V0)

/-! isForgedHere -/
def spX4_isForgedHere  (V0 : hf_V) : Option (Int32 × hf_V) :=
  (spX4_passWord V0).bind fun V1 =>
  (hf_ld 86 (V1.2.2.2.1 7) (1 : Int32)).bind fun x2 =>
  hf_b2 (spX4_numberHere (0 : Int32) (x2 - (1 : Int32)) V1) fun x4 V3 =>
  if x4 = 0 then (some ((0 : Int32), V3)) else
  hf_sd 86 (((10 : Int32) + ((5 : Int32) * (V3.1 10))) + (4 : Int32)) (fun j => hf_ua V3 7 j (1 : Int32)) fun V5 =>
  some ((1 : Int32), V5)
theorem jtX4_isForgedHere {C : hf_X} {om : Nat} {b : hf_H} (o : hf_In C cX4_isForgedHere RX4 1 (some .boolean) 2 49)  (V0 : hf_V) : hf_J C (hf_dMI om b) (spX4_isForgedHere V0) (hf_M om b V0) 0 [(0, .ref om)] [] := by
  refine hr_aload_n o 0 dX4_isForgedHere_0 rfl ?_
  refine mr_callV o mvX4_96 dX4_isForgedHere_1 [] (fun zV ze => mtX4_passWord  V0 zV ze) rfl rfl (Nat.le_of_ble_eq_true rfl) ⟨by decide, by decide⟩ (fun V1 => ?_)
  refine hr_aload_n o 0 dX4_isForgedHere_4 rfl ?_
  refine hr_iconst o (0 : Int32) dX4_isForgedHere_5 (by decide) ?_
  refine hr_aload_n o 0 dX4_isForgedHere_6 rfl ?_
  refine mr_get o flX4_26 dX4_isForgedHere_7 (.ref (om + 6)) rfl ?_
  refine hr_iconst o (1 : Int32) dX4_isForgedHere_10 (by decide) ?_
  refine mr_iald o 7 6 86 rfl (by decide) rfl dX4_isForgedHere_11 (fun x2 => ?_)
  refine hr_iconst o (1 : Int32) dX4_isForgedHere_12 (by decide) ?_
  refine hr_isub o dX4_isForgedHere_13 ?_
  refine mr_callI o mvX4_160 dX4_isForgedHere_14 [.int (0 : Int32), .int (x2 - (1 : Int32))] (fun zr zV ze => mtX4_numberHere (0 : Int32) (x2 - (1 : Int32)) V1 zr zV ze) rfl rfl (Nat.le_of_ble_eq_true rfl) ⟨by decide, by decide⟩ (fun x4 V3 => ?_)
  refine hr_if_ne o 22 dX4_isForgedHere_17 (by decide) (fun _ => ?_) (fun _ => ?_)
  · refine hr_iconst o (0 : Int32) dX4_isForgedHere_20 (by decide) ?_
    exact hr_iret o dX4_isForgedHere_21 rfl (by decide)
  refine hr_aload_n o 0 dX4_isForgedHere_22 rfl ?_
  refine mr_get o flX4_26 dX4_isForgedHere_23 (.ref (om + 6)) rfl ?_
  refine hr_bipush o (10 : Int32) dX4_isForgedHere_26 (by decide) ?_
  refine hr_iconst o (5 : Int32) dX4_isForgedHere_28 (by decide) ?_
  refine hr_aload_n o 0 dX4_isForgedHere_29 rfl ?_
  refine mr_get o flX4_106 dX4_isForgedHere_30 (.int (V3.1 10)) rfl ?_
  refine hr_imul o dX4_isForgedHere_33 ?_
  refine hr_iadd o dX4_isForgedHere_34 ?_
  refine hr_iconst o (4 : Int32) dX4_isForgedHere_35 (by decide) ?_
  refine hr_iadd o dX4_isForgedHere_36 ?_
  refine hr_iconst o (1 : Int32) dX4_isForgedHere_37 (by decide) ?_
  refine mr_iast o 7 6 86 rfl (by decide) rfl dX4_isForgedHere_38 (fun V5 => ?_)
  refine hr_iconst o (1 : Int32) dX4_isForgedHere_39 (by decide) ?_
  exact hr_iret o dX4_isForgedHere_40 rfl (by decide)
theorem mtX4_isForgedHere {om : Nat} {b : hf_H}  (V0 : hf_V) (r : Int32) (V1 : hf_V) (e : spX4_isForgedHere V0 = some (r, V1)) : hf_Con yX4_isForgedHere cX4_isForgedHere 1 (some .boolean) 2 49 [.ref om] (hf_M om b V0) (.returned (some (.int r)), hf_M om b V1) := hf_entry (dec := hf_dMI om b) (by decide) [.ref om] (Nat.le_of_ble_eq_true rfl) [(0, .ref om)] rfl e (fun C o _ => jtX4_isForgedHere o V0)

/-! isHalfHere -/
def spX4_isHalfHere (l1 : Int32) (V0 : hf_V) : Option (Int32 × hf_V) :=
  (hf_ld 86 (V0.2.2.2.1 7) (1 : Int32)).bind fun x1 =>
  if x1 = (12 : Int32) then (hf_b2 (spX4_fails (4 : Int32) l1 V0) fun x18 V17 =>
  if x18 = 0 ∨ x18 = 1 then some (x18, V17) else none) else
  (spX4_passWord V0).bind fun V2 =>
  (hf_ld 86 (V2.2.2.2.1 7) (1 : Int32)).bind fun x3 =>
  hf_let ((10 : Int32) + ((5 : Int32) * x3)) fun x4 =>
  (hf_ld 86 (V2.2.2.2.1 7) (0 : Int32)).bind fun x5 =>
  hf_b2 (spX4_cellHere (x4 + (3 : Int32)) (0 : Int32) (x5 - (1 : Int32)) V2) fun x7 V6 =>
  if x7 = 0 then (some ((0 : Int32), V6)) else
  hf_b2 (spX4_cellHere x4 (0 : Int32) (99 : Int32) V6) fun x9 V8 =>
  if x9 = 0 then (some ((0 : Int32), V8)) else
  hf_b2 (spX4_cellHere (x4 + (1 : Int32)) (0 : Int32) (1 : Int32) V8) fun x11 V10 =>
  if x11 = 0 then (some ((0 : Int32), V10)) else
  hf_b2 (spX4_cellHere (x4 + (2 : Int32)) (1 : Int32) (99 : Int32) V10) fun x13 V12 =>
  if x13 = 0 then (some ((0 : Int32), V12)) else
  hf_sd 86 (x4 + (4 : Int32)) (fun j => hf_ua V12 7 j (0 : Int32)) fun V14 =>
  (hf_ld 86 (V14.2.2.2.1 7) (1 : Int32)).bind fun x15 =>
  hf_sd 86 (1 : Int32) (fun j => hf_ua V14 7 j (x15 + (1 : Int32))) fun V16 =>
  some ((1 : Int32), V16)
theorem jtX4_isHalfHere {C : hf_X} {om : Nat} {b : hf_H} (o : hf_In C cX4_isHalfHere RX4 3 (some .boolean) 3 72) (l1 : Int32) (V0 : hf_V) : hf_J C (hf_dMI om b) (spX4_isHalfHere l1 V0) (hf_M om b V0) 0 [(0, .ref om), (1, .int l1)] [] := by
  refine hr_aload_n o 0 dX4_isHalfHere_0 rfl ?_
  refine mr_get o flX4_26 dX4_isHalfHere_1 (.ref (om + 6)) rfl ?_
  refine hr_iconst o (1 : Int32) dX4_isHalfHere_4 (by decide) ?_
  refine mr_iald o 7 6 86 rfl (by decide) rfl dX4_isHalfHere_5 (fun x1 => ?_)
  refine hr_bipush o (12 : Int32) dX4_isHalfHere_6 (by decide) ?_
  refine hr_icmp_ne o 18 dX4_isHalfHere_8 (by decide) (fun _ => ?_) (fun _ => ?_)
  · refine hr_aload_n o 0 dX4_isHalfHere_11 rfl ?_
    refine hr_iconst o (4 : Int32) dX4_isHalfHere_12 (by decide) ?_
    refine hr_iload_n o 1 dX4_isHalfHere_13 rfl ?_
    refine mr_callI o mvX4_102 dX4_isHalfHere_14 [.int (4 : Int32), .int l1] (fun zr zV ze => mtX4_fails (4 : Int32) l1 V0 zr zV ze) rfl rfl (Nat.le_of_ble_eq_true rfl) ⟨by decide, by decide⟩ (fun x18 V17 => ?_)
    refine hr_ck (fun hz => ?_)
    exact hr_iret o dX4_isHalfHere_17 rfl (hf_nz hz)
  refine hr_aload_n o 0 dX4_isHalfHere_18 rfl ?_
  refine mr_callV o mvX4_96 dX4_isHalfHere_19 [] (fun zV ze => mtX4_passWord  V0 zV ze) rfl rfl (Nat.le_of_ble_eq_true rfl) ⟨by decide, by decide⟩ (fun V2 => ?_)
  refine hr_bipush o (10 : Int32) dX4_isHalfHere_22 (by decide) ?_
  refine hr_iconst o (5 : Int32) dX4_isHalfHere_24 (by decide) ?_
  refine hr_aload_n o 0 dX4_isHalfHere_25 rfl ?_
  refine mr_get o flX4_26 dX4_isHalfHere_26 (.ref (om + 6)) rfl ?_
  refine hr_iconst o (1 : Int32) dX4_isHalfHere_29 (by decide) ?_
  refine mr_iald o 7 6 86 rfl (by decide) rfl dX4_isHalfHere_30 (fun x3 => ?_)
  refine hr_imul o dX4_isHalfHere_31 ?_
  refine hr_iadd o dX4_isHalfHere_32 ?_
  refine hr_nmI (fun x4 => ?_)
  refine hr_istore_n o [(2, .int x4), (0, .ref om), (1, .int l1)] dX4_isHalfHere_33 (by decide) rfl ?_
  refine hr_aload_n o 1 dX4_isHalfHere_34 rfl ?_
  refine hr_iload_n o 0 dX4_isHalfHere_35 rfl ?_
  refine hr_iconst o (3 : Int32) dX4_isHalfHere_36 (by decide) ?_
  refine hr_iadd o dX4_isHalfHere_37 ?_
  refine hr_iconst o (0 : Int32) dX4_isHalfHere_38 (by decide) ?_
  refine hr_aload_n o 1 dX4_isHalfHere_39 rfl ?_
  refine mr_get o flX4_26 dX4_isHalfHere_40 (.ref (om + 6)) rfl ?_
  refine hr_iconst o (0 : Int32) dX4_isHalfHere_43 (by decide) ?_
  refine mr_iald o 7 6 86 rfl (by decide) rfl dX4_isHalfHere_44 (fun x5 => ?_)
  refine hr_iconst o (1 : Int32) dX4_isHalfHere_45 (by decide) ?_
  refine hr_isub o dX4_isHalfHere_46 ?_
  refine mr_callI o mvX4_211 dX4_isHalfHere_47 [.int (x4 + (3 : Int32)), .int (0 : Int32), .int (x5 - (1 : Int32))] (fun zr zV ze => mtX4_cellHere (x4 + (3 : Int32)) (0 : Int32) (x5 - (1 : Int32)) V2 zr zV ze) rfl rfl (Nat.le_of_ble_eq_true rfl) ⟨by decide, by decide⟩ (fun x7 V6 => ?_)
  refine hr_if_eq o 89 dX4_isHalfHere_50 (by decide) (fun _ => ?_) (fun _ => ?_)
  · refine hr_iconst o (0 : Int32) dX4_isHalfHere_89 (by decide) ?_
    exact hr_iret o dX4_isHalfHere_90 rfl (by decide)
  refine hr_aload_n o 1 dX4_isHalfHere_53 rfl ?_
  refine hr_iload_n o 0 dX4_isHalfHere_54 rfl ?_
  refine hr_iconst o (0 : Int32) dX4_isHalfHere_55 (by decide) ?_
  refine hr_bipush o (99 : Int32) dX4_isHalfHere_56 (by decide) ?_
  refine mr_callI o mvX4_211 dX4_isHalfHere_58 [.int x4, .int (0 : Int32), .int (99 : Int32)] (fun zr zV ze => mtX4_cellHere x4 (0 : Int32) (99 : Int32) V6 zr zV ze) rfl rfl (Nat.le_of_ble_eq_true rfl) ⟨by decide, by decide⟩ (fun x9 V8 => ?_)
  refine hr_if_eq o 89 dX4_isHalfHere_61 (by decide) (fun _ => ?_) (fun _ => ?_)
  · refine hr_iconst o (0 : Int32) dX4_isHalfHere_89 (by decide) ?_
    exact hr_iret o dX4_isHalfHere_90 rfl (by decide)
  refine hr_aload_n o 1 dX4_isHalfHere_64 rfl ?_
  refine hr_iload_n o 0 dX4_isHalfHere_65 rfl ?_
  refine hr_iconst o (1 : Int32) dX4_isHalfHere_66 (by decide) ?_
  refine hr_iadd o dX4_isHalfHere_67 ?_
  refine hr_iconst o (0 : Int32) dX4_isHalfHere_68 (by decide) ?_
  refine hr_iconst o (1 : Int32) dX4_isHalfHere_69 (by decide) ?_
  refine mr_callI o mvX4_211 dX4_isHalfHere_70 [.int (x4 + (1 : Int32)), .int (0 : Int32), .int (1 : Int32)] (fun zr zV ze => mtX4_cellHere (x4 + (1 : Int32)) (0 : Int32) (1 : Int32) V8 zr zV ze) rfl rfl (Nat.le_of_ble_eq_true rfl) ⟨by decide, by decide⟩ (fun x11 V10 => ?_)
  refine hr_if_eq o 89 dX4_isHalfHere_73 (by decide) (fun _ => ?_) (fun _ => ?_)
  · refine hr_iconst o (0 : Int32) dX4_isHalfHere_89 (by decide) ?_
    exact hr_iret o dX4_isHalfHere_90 rfl (by decide)
  refine hr_aload_n o 1 dX4_isHalfHere_76 rfl ?_
  refine hr_iload_n o 0 dX4_isHalfHere_77 rfl ?_
  refine hr_iconst o (2 : Int32) dX4_isHalfHere_78 (by decide) ?_
  refine hr_iadd o dX4_isHalfHere_79 ?_
  refine hr_iconst o (1 : Int32) dX4_isHalfHere_80 (by decide) ?_
  refine hr_bipush o (99 : Int32) dX4_isHalfHere_81 (by decide) ?_
  refine mr_callI o mvX4_211 dX4_isHalfHere_83 [.int (x4 + (2 : Int32)), .int (1 : Int32), .int (99 : Int32)] (fun zr zV ze => mtX4_cellHere (x4 + (2 : Int32)) (1 : Int32) (99 : Int32) V10 zr zV ze) rfl rfl (Nat.le_of_ble_eq_true rfl) ⟨by decide, by decide⟩ (fun x13 V12 => ?_)
  refine hr_if_ne o 91 dX4_isHalfHere_86 (by decide) (fun _ => ?_) (fun _ => ?_)
  · refine hr_iconst o (0 : Int32) dX4_isHalfHere_89 (by decide) ?_
    exact hr_iret o dX4_isHalfHere_90 rfl (by decide)
  refine hr_aload_n o 1 dX4_isHalfHere_91 rfl ?_
  refine mr_get o flX4_26 dX4_isHalfHere_92 (.ref (om + 6)) rfl ?_
  refine hr_iload_n o 0 dX4_isHalfHere_95 rfl ?_
  refine hr_iconst o (4 : Int32) dX4_isHalfHere_96 (by decide) ?_
  refine hr_iadd o dX4_isHalfHere_97 ?_
  refine hr_iconst o (0 : Int32) dX4_isHalfHere_98 (by decide) ?_
  refine mr_iast o 7 6 86 rfl (by decide) rfl dX4_isHalfHere_99 (fun V14 => ?_)
  refine hr_aload_n o 1 dX4_isHalfHere_100 rfl ?_
  refine mr_get o flX4_26 dX4_isHalfHere_101 (.ref (om + 6)) rfl ?_
  refine hr_iconst o (1 : Int32) dX4_isHalfHere_104 (by decide) ?_
  refine hr_dup2 o dX4_isHalfHere_105 rfl rfl ?_
  refine mr_iald o 7 6 86 rfl (by decide) rfl dX4_isHalfHere_106 (fun x15 => ?_)
  refine hr_iconst o (1 : Int32) dX4_isHalfHere_107 (by decide) ?_
  refine hr_iadd o dX4_isHalfHere_108 ?_
  refine mr_iast o 7 6 86 rfl (by decide) rfl dX4_isHalfHere_109 (fun V16 => ?_)
  refine hr_iconst o (1 : Int32) dX4_isHalfHere_110 (by decide) ?_
  exact hr_iret o dX4_isHalfHere_111 rfl (by decide)
theorem mtX4_isHalfHere {om : Nat} {b : hf_H} (l1 : Int32) (V0 : hf_V) (r : Int32) (V1 : hf_V) (e : spX4_isHalfHere l1 V0 = some (r, V1)) : hf_Con yX4_isHalfHere cX4_isHalfHere 3 (some .boolean) 3 72 [.ref om, .int l1] (hf_M om b V0) (.returned (some (.int r)), hf_M om b V1) := hf_entry (dec := hf_dMI om b) (by decide) [.ref om, .int l1] (Nat.le_of_ble_eq_true rfl) [(0, .ref om), (1, .int l1)] rfl e (fun C o _ => jtX4_isHalfHere o l1 V0)

/-! isOnceHere -/
def spX4_isOnceHere (l1 : Int32) (l2 : Int32) (l3 : Int32) (l4 : Int32) (V0 : hf_V) : Option (Int32 × hf_V) :=
  (hf_ld 86 (V0.2.2.2.1 7) l1).bind fun x1 =>
  if x1 < 0 then ((spX4_passWord V0).bind fun V2 =>
  hf_b2 (spX4_cellHere l1 l3 l4 V2) fun x4 V3 =>
  if x4 = 0 ∨ x4 = 1 then some (x4, V3) else none) else
  hf_b2 (spX4_fails (4 : Int32) l2 V0) fun x6 V5 =>
  if x6 = 0 ∨ x6 = 1 then some (x6, V5) else none
theorem jtX4_isOnceHere {C : hf_X} {om : Nat} {b : hf_H} (o : hf_In C cX4_isOnceHere RX4 5 (some .boolean) 3 72) (l1 : Int32) (l2 : Int32) (l3 : Int32) (l4 : Int32) (V0 : hf_V) : hf_J C (hf_dMI om b) (spX4_isOnceHere l1 l2 l3 l4 V0) (hf_M om b V0) 0 [(0, .ref om), (1, .int l1), (2, .int l2), (3, .int l3), (4, .int l4)] [] := by
  refine hr_aload_n o 0 dX4_isOnceHere_0 rfl ?_
  refine mr_get o flX4_26 dX4_isOnceHere_1 (.ref (om + 6)) rfl ?_
  refine hr_iload_n o 1 dX4_isOnceHere_4 rfl ?_
  refine mr_iald o 7 6 86 rfl (by decide) rfl dX4_isOnceHere_5 (fun x1 => ?_)
  refine hr_if_lt o 16 dX4_isOnceHere_6 (by decide) (fun _ => ?_) (fun _ => ?_)
  · refine hr_aload_n o 0 dX4_isOnceHere_16 rfl ?_
    refine mr_callV o mvX4_96 dX4_isOnceHere_17 [] (fun zV ze => mtX4_passWord  V0 zV ze) rfl rfl (Nat.le_of_ble_eq_true rfl) ⟨by decide, by decide⟩ (fun V2 => ?_)
    refine hr_aload_n o 0 dX4_isOnceHere_20 rfl ?_
    refine hr_iload_n o 1 dX4_isOnceHere_21 rfl ?_
    refine hr_iload_n o 3 dX4_isOnceHere_22 rfl ?_
    refine hr_iload o 4 dX4_isOnceHere_23 rfl ?_
    refine mr_callI o mvX4_211 dX4_isOnceHere_25 [.int l1, .int l3, .int l4] (fun zr zV ze => mtX4_cellHere l1 l3 l4 V2 zr zV ze) rfl rfl (Nat.le_of_ble_eq_true rfl) ⟨by decide, by decide⟩ (fun x4 V3 => ?_)
    refine hr_ck (fun hz => ?_)
    exact hr_iret o dX4_isOnceHere_28 rfl (hf_nz hz)
  refine hr_aload_n o 0 dX4_isOnceHere_9 rfl ?_
  refine hr_iconst o (4 : Int32) dX4_isOnceHere_10 (by decide) ?_
  refine hr_iload_n o 2 dX4_isOnceHere_11 rfl ?_
  refine mr_callI o mvX4_102 dX4_isOnceHere_12 [.int (4 : Int32), .int l2] (fun zr zV ze => mtX4_fails (4 : Int32) l2 V0 zr zV ze) rfl rfl (Nat.le_of_ble_eq_true rfl) ⟨by decide, by decide⟩ (fun x6 V5 => ?_)
  refine hr_ck (fun hz => ?_)
  exact hr_iret o dX4_isOnceHere_15 rfl (hf_nz hz)
theorem mtX4_isOnceHere {om : Nat} {b : hf_H} (l1 : Int32) (l2 : Int32) (l3 : Int32) (l4 : Int32) (V0 : hf_V) (r : Int32) (V1 : hf_V) (e : spX4_isOnceHere l1 l2 l3 l4 V0 = some (r, V1)) : hf_Con yX4_isOnceHere cX4_isOnceHere 5 (some .boolean) 3 72 [.ref om, .int l1, .int l2, .int l3, .int l4] (hf_M om b V0) (.returned (some (.int r)), hf_M om b V1) := hf_entry (dec := hf_dMI om b) (by decide) [.ref om, .int l1, .int l2, .int l3, .int l4] (Nat.le_of_ble_eq_true rfl) [(0, .ref om), (1, .int l1), (2, .int l2), (3, .int l3), (4, .int l4)] rfl e (fun C o _ => jtX4_isOnceHere o l1 l2 l3 l4 V0)

/-! isWord -/
def ndX4_isWord_50 (k10 : Int64 → Int64 → Int32 → hf_V → Option (Int32 × hf_V)) (l1 : Int64) (l3 : Int64) (l5 : Int32) (V0 : hf_V) : Option (Int32 × hf_V) :=
  hf_let (l5 + (1 : Int32)) fun x1 =>
  k10 l1 l3 x1 V0
theorem nlX4_isWord_50 {C : hf_X} {om : Nat} {b : hf_H} (o : hf_In C cX4_isWord RX4 6 (some .boolean) 1 21) (k10 : Int64 → Int64 → Int32 → hf_V → Option (Int32 × hf_V)) (hk10 : ∀ (l1 : Int64) (l3 : Int64) (l5 : Int32) (V0 : hf_V), hf_J C (hf_dMI om b) (k10 l1 l3 l5 V0) (hf_M om b V0) 10 [(0, .ref om), (1, .long l1), (3, .long l3), (5, .int l5)] []) (l1 : Int64) (l3 : Int64) (l5 : Int32) (V0 : hf_V) : hf_J C (hf_dMI om b) (ndX4_isWord_50 k10 l1 l3 l5 V0) (hf_M om b V0) 50 [(0, .ref om), (1, .long l1), (3, .long l3), (5, .int l5)] [] := by
  refine hr_iincN o (1 : Int32) 3 (fun y => [(5, .int y), (0, .ref om), (1, .long l1), (3, .long l3)]) dX4_isWord_50 rfl (by decide) (by decide) (fun y => rfl) (fun x1 => ?_)
  refine hr_goto o 10 dX4_isWord_53 (by decide) ?_
  refine hr_sub [1, 2, 3, 0] rfl ?_
  exact hk10 l1 l3 x1 V0
def ndX4_isWord_10 (k10 : Int64 → Int64 → Int32 → hf_V → Option (Int32 × hf_V)) (l1 : Int64) (l3 : Int64) (l5 : Int32) (V0 : hf_V) : Option (Int32 × hf_V) :=
  hf_b2 (spX4_isLetter ((V0.1 8) + l5) V0) fun x2 V1 =>
  if x2 = 0 then (if l5 ≤ 0 then (some ((0 : Int32), V1)) else
  if (8 : Int32) ≤ l5 then (some ((0 : Int32), V1)) else
  if (lg_cmp l3 l1) = 0 then (some ((1 : Int32), V1)) else
  some ((0 : Int32), V1)) else
  if (8 : Int32) ≤ l5 then (ndX4_isWord_50 k10 l1 l3 l5 V1) else
  (hf_ld 400 (V1.2.2.2.1 0) ((V1.1 8) + l5)).bind fun x3 =>
  hf_let ((l3 <<< (Int32.toInt64 (8 : Int32) &&& 63)) ||| (Int32.toInt64 x3)) fun x4 =>
  ndX4_isWord_50 k10 l1 x4 l5 V1
theorem nlX4_isWord_10 {C : hf_X} {om : Nat} {b : hf_H} (o : hf_In C cX4_isWord RX4 6 (some .boolean) 1 21) (k10 : Int64 → Int64 → Int32 → hf_V → Option (Int32 × hf_V)) (hk10 : ∀ (l1 : Int64) (l3 : Int64) (l5 : Int32) (V0 : hf_V), hf_J C (hf_dMI om b) (k10 l1 l3 l5 V0) (hf_M om b V0) 10 [(0, .ref om), (1, .long l1), (3, .long l3), (5, .int l5)] []) (l1 : Int64) (l3 : Int64) (l5 : Int32) (V0 : hf_V) : hf_J C (hf_dMI om b) (ndX4_isWord_10 k10 l1 l3 l5 V0) (hf_M om b V0) 10 [(0, .ref om), (1, .long l1), (3, .long l3), (5, .int l5)] [] := by
  refine hr_aload_n o 0 dX4_isWord_10 rfl ?_
  refine hr_aload_n o 0 dX4_isWord_11 rfl ?_
  refine mr_get o flX4_81 dX4_isWord_12 (.int (V0.1 8)) rfl ?_
  refine hr_iload o 3 dX4_isWord_15 rfl ?_
  refine hr_iadd o dX4_isWord_17 ?_
  refine mr_callI o mvX4_88 dX4_isWord_18 [.int ((V0.1 8) + l5)] (fun zr zV ze => mtX4_isLetter ((V0.1 8) + l5) V0 zr zV ze) rfl rfl (Nat.le_of_ble_eq_true rfl) ⟨by decide, by decide⟩ (fun x2 V1 => ?_)
  refine hr_if_eq o 56 dX4_isWord_21 (by decide) (fun _ => ?_) (fun _ => ?_)
  · refine hr_iload o 3 dX4_isWord_56 rfl ?_
    refine hr_if_le o 78 dX4_isWord_58 (by decide) (fun _ => ?_) (fun _ => ?_)
    · refine hr_iconst o (0 : Int32) dX4_isWord_78 (by decide) ?_
      exact hr_iret o dX4_isWord_79 rfl (by decide)
    refine hr_iload o 3 dX4_isWord_61 rfl ?_
    refine hr_bipush o (8 : Int32) dX4_isWord_63 (by decide) ?_
    refine hr_icmp_ge o 78 dX4_isWord_65 (by decide) (fun _ => ?_) (fun _ => ?_)
    · refine hr_iconst o (0 : Int32) dX4_isWord_78 (by decide) ?_
      exact hr_iret o dX4_isWord_79 rfl (by decide)
    refine hr_lload_n o 2 dX4_isWord_68 rfl ?_
    refine hr_lload_n o 1 dX4_isWord_69 rfl ?_
    refine hr_lcmp o dX4_isWord_70 ?_
    refine hr_if_ne o 78 dX4_isWord_71 (by decide) (fun _ => ?_) (fun _ => ?_)
    · refine hr_iconst o (1 : Int32) dX4_isWord_74 (by decide) ?_
      refine hr_goto o 79 dX4_isWord_75 (by decide) ?_
      exact hr_iret o dX4_isWord_79 rfl (by decide)
    refine hr_iconst o (0 : Int32) dX4_isWord_78 (by decide) ?_
    exact hr_iret o dX4_isWord_79 rfl (by decide)
  refine hr_iload o 3 dX4_isWord_24 rfl ?_
  refine hr_bipush o (8 : Int32) dX4_isWord_26 (by decide) ?_
  refine hr_icmp_ge o 50 dX4_isWord_28 (by decide) (fun _ => ?_) (fun _ => ?_)
  · exact nlX4_isWord_50 o k10 hk10 l1 l3 l5 V1
  refine hr_lload_n o 2 dX4_isWord_31 rfl ?_
  refine hr_bipush o (8 : Int32) dX4_isWord_32 (by decide) ?_
  refine hr_lshl o dX4_isWord_34 ?_
  refine hr_aload_n o 0 dX4_isWord_35 rfl ?_
  refine mr_get o flX4_7 dX4_isWord_36 (.ref (om + 1)) rfl ?_
  refine hr_aload_n o 0 dX4_isWord_39 rfl ?_
  refine mr_get o flX4_81 dX4_isWord_40 (.int (V1.1 8)) rfl ?_
  refine hr_iload o 3 dX4_isWord_43 rfl ?_
  refine hr_iadd o dX4_isWord_45 ?_
  refine mr_bald o 0 1 400 rfl (by decide) rfl dX4_isWord_46 (fun x3 => ?_)
  refine hr_i2l o dX4_isWord_47 ?_
  refine hr_lor o dX4_isWord_48 ?_
  refine hr_nmL (fun x4 => ?_)
  refine hr_lstore_n o [(3, .long x4), (0, .ref om), (1, .long l1), (5, .int l5)] dX4_isWord_49 (by decide) rfl ?_
  refine hr_sub [1, 2, 0, 3] rfl ?_
  exact nlX4_isWord_50 o k10 hk10 l1 x4 l5 V1
def lpX4_isWord_10  : Nat → Int64 → Int64 → Int32 → hf_V → Option (Int32 × hf_V)
  | 0 => fun _ _ _ _ => none
  | n + 1 => fun l1 l3 l5 V0 => ndX4_isWord_10  (lpX4_isWord_10  n) l1 l3 l5 V0
theorem llX4_isWord_10 {C : hf_X} {om : Nat} {b : hf_H} (o : hf_In C cX4_isWord RX4 6 (some .boolean) 1 21)   (n : Nat) : ∀ (l1 : Int64) (l3 : Int64) (l5 : Int32) (V0 : hf_V), hf_J C (hf_dMI om b) ((lpX4_isWord_10  n) l1 l3 l5 V0) (hf_M om b V0) 10 [(0, .ref om), (1, .long l1), (3, .long l3), (5, .int l5)] [] := by
  induction n with
  | zero => exact fun _ _ _ _ => hr_none
  | succ n ih => exact fun l1 l3 l5 V0 => nlX4_isWord_10 o  (lpX4_isWord_10  n)  ih l1 l3 l5 V0
def spX4_isWord (l1 : Int64) (V0 : hf_V) : Option (Int32 × hf_V) :=
  hf_b2 (spX4_see V0) fun x2 V1 =>
  lpX4_isWord_10 hf_N l1 (0 : Int64) (0 : Int32) V1
theorem jtX4_isWord {C : hf_X} {om : Nat} {b : hf_H} (o : hf_In C cX4_isWord RX4 6 (some .boolean) 1 21) (l1 : Int64) (V0 : hf_V) : hf_J C (hf_dMI om b) (spX4_isWord l1 V0) (hf_M om b V0) 0 [(0, .ref om), (1, .long l1)] [] := by
  refine hr_aload_n o 0 dX4_isWord_0 rfl ?_
  refine mr_callI o mvX4_84 dX4_isWord_1 [] (fun zr zV ze => mtX4_see  V0 zr zV ze) rfl rfl (Nat.le_of_ble_eq_true rfl) ⟨by decide, by decide⟩ (fun x2 V1 => ?_)
  refine hr_pop o dX4_isWord_4 rfl ?_
  refine hr_lconst o (0 : Int64) dX4_isWord_5 (by decide) ?_
  refine hr_lstore_n o [(3, .long (0 : Int64)), (0, .ref om), (1, .long l1)] dX4_isWord_6 (by decide) rfl ?_
  refine hr_iconst o (0 : Int32) dX4_isWord_7 (by decide) ?_
  refine hr_istore o [(5, .int (0 : Int32)), (3, .long (0 : Int64)), (0, .ref om), (1, .long l1)] dX4_isWord_8 (by decide) rfl ?_
  refine hr_sub [2, 3, 1, 0] rfl ?_
  exact llX4_isWord_10 o hf_N l1 (0 : Int64) (0 : Int32) V1
theorem mtX4_isWord {om : Nat} {b : hf_H} (l1 : Int64) (V0 : hf_V) (r : Int32) (V1 : hf_V) (e : spX4_isWord l1 V0 = some (r, V1)) : hf_Con yX4_isWord cX4_isWord 6 (some .boolean) 1 21 [.ref om, .long l1] (hf_M om b V0) (.returned (some (.int r)), hf_M om b V1) := hf_entry (dec := hf_dMI om b) (by decide) [.ref om, .long l1] (Nat.le_of_ble_eq_true rfl) [(0, .ref om), (1, .long l1)] rfl e (fun C o _ => jtX4_isWord o l1 V0)

/-! fairLineHere -/
theorem mvX4_92 : hf_MV RX4 92 RX4 yX4_isWord cX4_isWord 6 (some .boolean) 1 := ⟨lw_V q1545 q1547 qs69 q162 q1548, by decide +kernel⟩
theorem mvX4_241 : hf_MV RX4 241 RX4 yX4_isOnceHere cX4_isOnceHere 5 (some .boolean) 4 := ⟨lw_V q1612 q1614 qs82 q162 q1615, by decide +kernel⟩
theorem mvX4_236 : hf_MV RX4 236 RX4 yX4_isClubHere cX4_isClubHere 5 (some .boolean) 0 := ⟨lw_V q1605 q1607 qs81 q162 q1608, by decide +kernel⟩
theorem mvX4_231 : hf_MV RX4 231 RX4 yX4_isBuyerHere cX4_isBuyerHere 3 (some .boolean) 1 := ⟨lw_V q1601 q1603 qs80 q162 q1604, by decide +kernel⟩
theorem mvX4_228 : hf_MV RX4 228 RX4 yX4_isForgedHere cX4_isForgedHere 1 (some .boolean) 0 := ⟨lw_V q1597 q1599 qs79 q162 q1600, by decide +kernel⟩
theorem mvX4_223 : hf_MV RX4 223 RX4 yX4_isHalfHere cX4_isHalfHere 3 (some .boolean) 1 := ⟨lw_V q1593 q1595 qs78 q162 q1596, by decide +kernel⟩
theorem mvX4_220 : hf_MV RX4 220 RX4 yX4_areStallsHere cX4_areStallsHere 2 (some .boolean) 1 := ⟨lw_V q1570 q1572 qs73 q162 q1573, by decide +kernel⟩
def spX4_fairLineHere (l1 : Int32) (V0 : hf_V) : Option (Int32 × hf_V) :=
  hf_b2 (spX4_isWord (126943687896179 : Int64) V0) fun x2 V1 =>
  if x2 = 0 then ((hf_ld 86 (V1.2.2.2.1 7) (0 : Int32)).bind fun x3 =>
  if x3 = 0 then (hf_b2 (spX4_fails (4 : Int32) l1 V1) fun x33 V32 =>
  if x33 = 0 ∨ x33 = 1 then some (x33, V32) else none) else
  hf_b2 (spX4_isWord (1751215206 : Int64) V1) fun x5 V4 =>
  if x5 = 0 then (hf_b2 (spX4_isWord (112628846781796 : Int64) V4) fun x7 V6 =>
  if x7 = 0 then (hf_b2 (spX4_isWord (422877685106 : Int64) V6) fun x9 V8 =>
  if x9 = 0 then (hf_b2 (spX4_isWord (1668052322 : Int64) V8) fun x11 V10 =>
  if x11 = 0 then (hf_b2 (spX4_isWord (1852137842 : Int64) V10) fun x13 V12 =>
  if x13 = 0 then (hf_b2 (spX4_isWord (1751474546 : Int64) V12) fun x15 V14 =>
  if x15 = 0 then (hf_b2 (spX4_isOnceHere (6 : Int32) l1 (1 : Int32) (24 : Int32) V14) fun x17 V16 =>
  if x17 = 0 then (some ((0 : Int32), V16)) else
  hf_b2 (spX4_cellHere (7 : Int32) (1 : Int32) (99 : Int32) V16) fun x19 V18 =>
  if x19 = 0 then (some ((0 : Int32), V18)) else
  some ((1 : Int32), V18)) else
  hf_b2 (spX4_isOnceHere (8 : Int32) l1 (0 : Int32) (7 : Int32) V14) fun x21 V20 =>
  if x21 = 0 ∨ x21 = 1 then some (x21, V20) else none) else
  hf_b2 (spX4_isOnceHere (5 : Int32) l1 (0 : Int32) (9 : Int32) V12) fun x23 V22 =>
  if x23 = 0 ∨ x23 = 1 then some (x23, V22) else none) else
  hf_b2 (spX4_isClubHere V10) fun x25 V24 =>
  if x25 = 0 ∨ x25 = 1 then some (x25, V24) else none) else
  hf_b2 (spX4_isBuyerHere l1 V8) fun x27 V26 =>
  if x27 = 0 ∨ x27 = 1 then some (x27, V26) else none) else
  hf_b2 (spX4_isForgedHere V6) fun x29 V28 =>
  if x29 = 0 ∨ x29 = 1 then some (x29, V28) else none) else
  hf_b2 (spX4_isHalfHere l1 V4) fun x31 V30 =>
  if x31 = 0 ∨ x31 = 1 then some (x31, V30) else none) else
  hf_b2 (spX4_areStallsHere l1 V1) fun x35 V34 =>
  if x35 = 0 ∨ x35 = 1 then some (x35, V34) else none
theorem jtX4_fairLineHere {C : hf_X} {om : Nat} {b : hf_H} (o : hf_In C cX4_fairLineHere RX4 2 (some .boolean) 4 96) (l1 : Int32) (V0 : hf_V) : hf_J C (hf_dMI om b) (spX4_fairLineHere l1 V0) (hf_M om b V0) 0 [(0, .ref om), (1, .int l1)] [] := by
  refine hr_aload_n o 0 dX4_fairLineHere_0 rfl ?_
  refine hr_ldc2 o (126943687896179 : Int64) q1544 dX4_fairLineHere_1 ?_
  refine mr_callI o mvX4_92 dX4_fairLineHere_4 [.long (126943687896179 : Int64)] (fun zr zV ze => mtX4_isWord (126943687896179 : Int64) V0 zr zV ze) rfl rfl (Nat.le_of_ble_eq_true rfl) ⟨by decide, by decide⟩ (fun x2 V1 => ?_)
  refine hr_if_eq o 16 dX4_fairLineHere_7 (by decide) (fun _ => ?_) (fun _ => ?_)
  · refine hr_aload_n o 0 dX4_fairLineHere_16 rfl ?_
    refine mr_get o flX4_26 dX4_fairLineHere_17 (.ref (om + 6)) rfl ?_
    refine hr_iconst o (0 : Int32) dX4_fairLineHere_20 (by decide) ?_
    refine mr_iald o 7 6 86 rfl (by decide) rfl dX4_fairLineHere_21 (fun x3 => ?_)
    refine hr_if_ne o 32 dX4_fairLineHere_22 (by decide) (fun _ => ?_) (fun _ => ?_)
    · refine hr_aload_n o 0 dX4_fairLineHere_25 rfl ?_
      refine hr_iconst o (4 : Int32) dX4_fairLineHere_26 (by decide) ?_
      refine hr_iload_n o 1 dX4_fairLineHere_27 rfl ?_
      refine mr_callI o mvX4_102 dX4_fairLineHere_28 [.int (4 : Int32), .int l1] (fun zr zV ze => mtX4_fails (4 : Int32) l1 V1 zr zV ze) rfl rfl (Nat.le_of_ble_eq_true rfl) ⟨by decide, by decide⟩ (fun x33 V32 => ?_)
      refine hr_ck (fun hz => ?_)
      exact hr_iret o dX4_fairLineHere_31 rfl (hf_nz hz)
    refine hr_aload_n o 0 dX4_fairLineHere_32 rfl ?_
    refine hr_ldc2 o (1751215206 : Int64) q1553 dX4_fairLineHere_33 ?_
    refine mr_callI o mvX4_92 dX4_fairLineHere_36 [.long (1751215206 : Int64)] (fun zr zV ze => mtX4_isWord (1751215206 : Int64) V1 zr zV ze) rfl rfl (Nat.le_of_ble_eq_true rfl) ⟨by decide, by decide⟩ (fun x5 V4 => ?_)
    refine hr_if_eq o 48 dX4_fairLineHere_39 (by decide) (fun _ => ?_) (fun _ => ?_)
    · refine hr_aload_n o 0 dX4_fairLineHere_48 rfl ?_
      refine hr_ldc2 o (112628846781796 : Int64) q1554 dX4_fairLineHere_49 ?_
      refine mr_callI o mvX4_92 dX4_fairLineHere_52 [.long (112628846781796 : Int64)] (fun zr zV ze => mtX4_isWord (112628846781796 : Int64) V4 zr zV ze) rfl rfl (Nat.le_of_ble_eq_true rfl) ⟨by decide, by decide⟩ (fun x7 V6 => ?_)
      refine hr_if_eq o 63 dX4_fairLineHere_55 (by decide) (fun _ => ?_) (fun _ => ?_)
      · refine hr_aload_n o 0 dX4_fairLineHere_63 rfl ?_
        refine hr_ldc2 o (422877685106 : Int64) q1555 dX4_fairLineHere_64 ?_
        refine mr_callI o mvX4_92 dX4_fairLineHere_67 [.long (422877685106 : Int64)] (fun zr zV ze => mtX4_isWord (422877685106 : Int64) V6 zr zV ze) rfl rfl (Nat.le_of_ble_eq_true rfl) ⟨by decide, by decide⟩ (fun x9 V8 => ?_)
        refine hr_if_eq o 79 dX4_fairLineHere_70 (by decide) (fun _ => ?_) (fun _ => ?_)
        · refine hr_aload_n o 0 dX4_fairLineHere_79 rfl ?_
          refine hr_ldc2 o (1668052322 : Int64) q1556 dX4_fairLineHere_80 ?_
          refine mr_callI o mvX4_92 dX4_fairLineHere_83 [.long (1668052322 : Int64)] (fun zr zV ze => mtX4_isWord (1668052322 : Int64) V8 zr zV ze) rfl rfl (Nat.le_of_ble_eq_true rfl) ⟨by decide, by decide⟩ (fun x11 V10 => ?_)
          refine hr_if_eq o 94 dX4_fairLineHere_86 (by decide) (fun _ => ?_) (fun _ => ?_)
          · refine hr_aload_n o 0 dX4_fairLineHere_94 rfl ?_
            refine hr_ldc2 o (1852137842 : Int64) q1557 dX4_fairLineHere_95 ?_
            refine mr_callI o mvX4_92 dX4_fairLineHere_98 [.long (1852137842 : Int64)] (fun zr zV ze => mtX4_isWord (1852137842 : Int64) V10 zr zV ze) rfl rfl (Nat.le_of_ble_eq_true rfl) ⟨by decide, by decide⟩ (fun x13 V12 => ?_)
            refine hr_if_eq o 114 dX4_fairLineHere_101 (by decide) (fun _ => ?_) (fun _ => ?_)
            · refine hr_aload_n o 0 dX4_fairLineHere_114 rfl ?_
              refine hr_ldc2 o (1751474546 : Int64) q1559 dX4_fairLineHere_115 ?_
              refine mr_callI o mvX4_92 dX4_fairLineHere_118 [.long (1751474546 : Int64)] (fun zr zV ze => mtX4_isWord (1751474546 : Int64) V12 zr zV ze) rfl rfl (Nat.le_of_ble_eq_true rfl) ⟨by decide, by decide⟩ (fun x15 V14 => ?_)
              refine hr_if_eq o 137 dX4_fairLineHere_121 (by decide) (fun _ => ?_) (fun _ => ?_)
              · refine hr_aload_n o 0 dX4_fairLineHere_137 rfl ?_
                refine hr_bipush o (6 : Int32) dX4_fairLineHere_138 (by decide) ?_
                refine hr_iload_n o 1 dX4_fairLineHere_140 rfl ?_
                refine hr_iconst o (1 : Int32) dX4_fairLineHere_141 (by decide) ?_
                refine hr_bipush o (24 : Int32) dX4_fairLineHere_142 (by decide) ?_
                refine mr_callI o mvX4_241 dX4_fairLineHere_144 [.int (6 : Int32), .int l1, .int (1 : Int32), .int (24 : Int32)] (fun zr zV ze => mtX4_isOnceHere (6 : Int32) l1 (1 : Int32) (24 : Int32) V14 zr zV ze) rfl rfl (Nat.le_of_ble_eq_true rfl) ⟨by decide, by decide⟩ (fun x17 V16 => ?_)
                refine hr_if_eq o 166 dX4_fairLineHere_147 (by decide) (fun _ => ?_) (fun _ => ?_)
                · refine hr_iconst o (0 : Int32) dX4_fairLineHere_166 (by decide) ?_
                  exact hr_iret o dX4_fairLineHere_167 rfl (by decide)
                refine hr_aload_n o 0 dX4_fairLineHere_150 rfl ?_
                refine hr_bipush o (7 : Int32) dX4_fairLineHere_151 (by decide) ?_
                refine hr_iconst o (1 : Int32) dX4_fairLineHere_153 (by decide) ?_
                refine hr_bipush o (99 : Int32) dX4_fairLineHere_154 (by decide) ?_
                refine mr_callI o mvX4_211 dX4_fairLineHere_156 [.int (7 : Int32), .int (1 : Int32), .int (99 : Int32)] (fun zr zV ze => mtX4_cellHere (7 : Int32) (1 : Int32) (99 : Int32) V16 zr zV ze) rfl rfl (Nat.le_of_ble_eq_true rfl) ⟨by decide, by decide⟩ (fun x19 V18 => ?_)
                refine hr_if_eq o 166 dX4_fairLineHere_159 (by decide) (fun _ => ?_) (fun _ => ?_)
                · refine hr_iconst o (0 : Int32) dX4_fairLineHere_166 (by decide) ?_
                  exact hr_iret o dX4_fairLineHere_167 rfl (by decide)
                refine hr_iconst o (1 : Int32) dX4_fairLineHere_162 (by decide) ?_
                refine hr_goto o 167 dX4_fairLineHere_163 (by decide) ?_
                exact hr_iret o dX4_fairLineHere_167 rfl (by decide)
              refine hr_aload_n o 0 dX4_fairLineHere_124 rfl ?_
              refine hr_bipush o (8 : Int32) dX4_fairLineHere_125 (by decide) ?_
              refine hr_iload_n o 1 dX4_fairLineHere_127 rfl ?_
              refine hr_iconst o (0 : Int32) dX4_fairLineHere_128 (by decide) ?_
              refine hr_bipush o (7 : Int32) dX4_fairLineHere_129 (by decide) ?_
              refine mr_callI o mvX4_241 dX4_fairLineHere_131 [.int (8 : Int32), .int l1, .int (0 : Int32), .int (7 : Int32)] (fun zr zV ze => mtX4_isOnceHere (8 : Int32) l1 (0 : Int32) (7 : Int32) V14 zr zV ze) rfl rfl (Nat.le_of_ble_eq_true rfl) ⟨by decide, by decide⟩ (fun x21 V20 => ?_)
              refine hr_goto o 167 dX4_fairLineHere_134 (by decide) ?_
              refine hr_ck (fun hz => ?_)
              exact hr_iret o dX4_fairLineHere_167 rfl (hf_nz hz)
            refine hr_aload_n o 0 dX4_fairLineHere_104 rfl ?_
            refine hr_iconst o (5 : Int32) dX4_fairLineHere_105 (by decide) ?_
            refine hr_iload_n o 1 dX4_fairLineHere_106 rfl ?_
            refine hr_iconst o (0 : Int32) dX4_fairLineHere_107 (by decide) ?_
            refine hr_bipush o (9 : Int32) dX4_fairLineHere_108 (by decide) ?_
            refine mr_callI o mvX4_241 dX4_fairLineHere_110 [.int (5 : Int32), .int l1, .int (0 : Int32), .int (9 : Int32)] (fun zr zV ze => mtX4_isOnceHere (5 : Int32) l1 (0 : Int32) (9 : Int32) V12 zr zV ze) rfl rfl (Nat.le_of_ble_eq_true rfl) ⟨by decide, by decide⟩ (fun x23 V22 => ?_)
            refine hr_ck (fun hz => ?_)
            exact hr_iret o dX4_fairLineHere_113 rfl (hf_nz hz)
          refine hr_aload_n o 0 dX4_fairLineHere_89 rfl ?_
          refine mr_callI o mvX4_236 dX4_fairLineHere_90 [] (fun zr zV ze => mtX4_isClubHere  V10 zr zV ze) rfl rfl (Nat.le_of_ble_eq_true rfl) ⟨by decide, by decide⟩ (fun x25 V24 => ?_)
          refine hr_ck (fun hz => ?_)
          exact hr_iret o dX4_fairLineHere_93 rfl (hf_nz hz)
        refine hr_aload_n o 0 dX4_fairLineHere_73 rfl ?_
        refine hr_iload_n o 1 dX4_fairLineHere_74 rfl ?_
        refine mr_callI o mvX4_231 dX4_fairLineHere_75 [.int l1] (fun zr zV ze => mtX4_isBuyerHere l1 V8 zr zV ze) rfl rfl (Nat.le_of_ble_eq_true rfl) ⟨by decide, by decide⟩ (fun x27 V26 => ?_)
        refine hr_ck (fun hz => ?_)
        exact hr_iret o dX4_fairLineHere_78 rfl (hf_nz hz)
      refine hr_aload_n o 0 dX4_fairLineHere_58 rfl ?_
      refine mr_callI o mvX4_228 dX4_fairLineHere_59 [] (fun zr zV ze => mtX4_isForgedHere  V6 zr zV ze) rfl rfl (Nat.le_of_ble_eq_true rfl) ⟨by decide, by decide⟩ (fun x29 V28 => ?_)
      refine hr_ck (fun hz => ?_)
      exact hr_iret o dX4_fairLineHere_62 rfl (hf_nz hz)
    refine hr_aload_n o 0 dX4_fairLineHere_42 rfl ?_
    refine hr_iload_n o 1 dX4_fairLineHere_43 rfl ?_
    refine mr_callI o mvX4_223 dX4_fairLineHere_44 [.int l1] (fun zr zV ze => mtX4_isHalfHere l1 V4 zr zV ze) rfl rfl (Nat.le_of_ble_eq_true rfl) ⟨by decide, by decide⟩ (fun x31 V30 => ?_)
    refine hr_ck (fun hz => ?_)
    exact hr_iret o dX4_fairLineHere_47 rfl (hf_nz hz)
  refine hr_aload_n o 0 dX4_fairLineHere_10 rfl ?_
  refine hr_iload_n o 1 dX4_fairLineHere_11 rfl ?_
  refine mr_callI o mvX4_220 dX4_fairLineHere_12 [.int l1] (fun zr zV ze => mtX4_areStallsHere l1 V1 zr zV ze) rfl rfl (Nat.le_of_ble_eq_true rfl) ⟨by decide, by decide⟩ (fun x35 V34 => ?_)
  refine hr_ck (fun hz => ?_)
  exact hr_iret o dX4_fairLineHere_15 rfl (hf_nz hz)
theorem mtX4_fairLineHere {om : Nat} {b : hf_H} (l1 : Int32) (V0 : hf_V) (r : Int32) (V1 : hf_V) (e : spX4_fairLineHere l1 V0 = some (r, V1)) : hf_Con yX4_fairLineHere cX4_fairLineHere 2 (some .boolean) 4 96 [.ref om, .int l1] (hf_M om b V0) (.returned (some (.int r)), hf_M om b V1) := hf_entry (dec := hf_dMI om b) (by decide) [.ref om, .int l1] (Nat.le_of_ble_eq_true rfl) [(0, .ref om), (1, .int l1)] rfl e (fun C o _ => jtX4_fairLineHere o l1 V0)

/-! puts -/
theorem flX4_13 : hf_Fl RX4 13 4 3 := ⟨(RX4, TX4, 37), RX4, rfl, by decide, in_X4, tyX4_ok, nmX4, Or.inl q1403, Or.inl rfl⟩
theorem flX4_139 : hf_Fl RX4 139 4 11 := ⟨(RX4, TX4, 37), RX4, rfl, by decide, in_X4, tyX4_ok, nmX4, Or.inl q1411, Or.inl rfl⟩
theorem flX4_17 : hf_Fl RX4 17 4 4 := ⟨(RX4, TX4, 37), RX4, rfl, by decide, in_X4, tyX4_ok, nmX4, Or.inl q1404, Or.inl rfl⟩
def spX4_puts (l1 : Int32) (l2 : Int32) (V0 : hf_V) : Option hf_V :=
  (hf_ld 7 (V0.2.2.2.1 4) (V0.1 11)).bind fun x1 =>
  hf_sd 2400 (((400 : Int32) * (V0.1 11)) + x1) (fun j => hf_ua V0 3 j (l1 + ((16 : Int32) * l2))) fun V2 =>
  hf_let (V2.1 11) fun x3 =>
  (hf_ld 7 (V2.2.2.2.1 4) x3).bind fun x4 =>
  hf_sd 7 x3 (fun j => hf_ua V2 4 j (x4 + (1 : Int32))) fun V5 =>
  some V5
theorem jtX4_puts {C : hf_X} {om : Nat} {b : hf_H} (o : hf_In C cX4_puts RX4 3 (none) 0 0) (l1 : Int32) (l2 : Int32) (V0 : hf_V) : hf_J C (hf_dMV om b) (spX4_puts l1 l2 V0) (hf_M om b V0) 0 [(0, .ref om), (1, .int l1), (2, .int l2)] [] := by
  refine hr_aload_n o 0 dX4_puts_0 rfl ?_
  refine mr_get o flX4_13 dX4_puts_1 (.ref (om + 2)) rfl ?_
  refine hr_sipush o (400 : Int32) dX4_puts_4 (by decide) ?_
  refine hr_aload_n o 0 dX4_puts_7 rfl ?_
  refine mr_get o flX4_139 dX4_puts_8 (.int (V0.1 11)) rfl ?_
  refine hr_imul o dX4_puts_11 ?_
  refine hr_aload_n o 0 dX4_puts_12 rfl ?_
  refine mr_get o flX4_17 dX4_puts_13 (.ref (om + 3)) rfl ?_
  refine hr_aload_n o 0 dX4_puts_16 rfl ?_
  refine mr_get o flX4_139 dX4_puts_17 (.int (V0.1 11)) rfl ?_
  refine mr_iald o 4 3 7 rfl (by decide) rfl dX4_puts_20 (fun x1 => ?_)
  refine hr_iadd o dX4_puts_21 ?_
  refine hr_iload_n o 1 dX4_puts_22 rfl ?_
  refine hr_bipush o (16 : Int32) dX4_puts_23 (by decide) ?_
  refine hr_iload_n o 2 dX4_puts_25 rfl ?_
  refine hr_imul o dX4_puts_26 ?_
  refine hr_iadd o dX4_puts_27 ?_
  refine mr_iast o 3 2 2400 rfl (by decide) rfl dX4_puts_28 (fun V2 => ?_)
  refine hr_aload_n o 0 dX4_puts_29 rfl ?_
  refine mr_get o flX4_17 dX4_puts_30 (.ref (om + 3)) rfl ?_
  refine hr_aload_n o 0 dX4_puts_33 rfl ?_
  refine mr_get o flX4_139 dX4_puts_34 (.int (V2.1 11)) rfl ?_
  refine hr_nmI (fun x3 => ?_)
  refine hr_dup2 o dX4_puts_37 rfl rfl ?_
  refine mr_iald o 4 3 7 rfl (by decide) rfl dX4_puts_38 (fun x4 => ?_)
  refine hr_iconst o (1 : Int32) dX4_puts_39 (by decide) ?_
  refine hr_iadd o dX4_puts_40 ?_
  refine mr_iast o 4 3 7 rfl (by decide) rfl dX4_puts_41 (fun V5 => ?_)
  exact hr_vret o dX4_puts_42 rfl
theorem mtX4_puts {om : Nat} {b : hf_H} (l1 : Int32) (l2 : Int32) (V0 V1 : hf_V) (e : spX4_puts l1 l2 V0 = some V1) : hf_Con yX4_puts cX4_puts 3 (none) 0 0 [.ref om, .int l1, .int l2] (hf_M om b V0) (.returned none, hf_M om b V1) := hf_entry (dec := hf_dMV om b) (by decide) [.ref om, .int l1, .int l2] (Nat.le_of_ble_eq_true rfl) [(0, .ref om), (1, .int l1), (2, .int l2)] rfl e (fun C o _ => jtX4_puts o l1 l2 V0)

/-! makes -/
theorem flX4_142 : hf_Fl RX4 142 4 12 := ⟨(RX4, TX4, 37), RX4, rfl, by decide, in_X4, tyX4_ok, nmX4, Or.inl q1412, Or.inl rfl⟩
theorem nf_4_12 : hf_Nf 4 12 := ⟨(RX4, TX4, 37), rfl, rfl⟩
def spX4_makes (l1 : Int32) (V0 : hf_V) : Option (Int32 × hf_V) :=
  if (V0.1 12) = (60 : Int32) then (hf_b2 (spX4_fails (3 : Int32) l1 V0) fun x3 V2 =>
  if x3 = 0 ∨ x3 = 1 then some (x3, V2) else none) else
  hf_let (hf_ui V0 12 ((V0.1 12) + (1 : Int32))) fun V1 =>
  some ((1 : Int32), V1)
theorem jtX4_makes {C : hf_X} {om : Nat} {b : hf_H} (o : hf_In C cX4_makes RX4 2 (some .boolean) 1 22) (l1 : Int32) (V0 : hf_V) : hf_J C (hf_dMI om b) (spX4_makes l1 V0) (hf_M om b V0) 0 [(0, .ref om), (1, .int l1)] [] := by
  refine hr_aload_n o 0 dX4_makes_0 rfl ?_
  refine mr_get o flX4_142 dX4_makes_1 (.int (V0.1 12)) rfl ?_
  refine hr_bipush o (60 : Int32) dX4_makes_4 (by decide) ?_
  refine hr_icmp_ne o 16 dX4_makes_6 (by decide) (fun _ => ?_) (fun _ => ?_)
  · refine hr_aload_n o 0 dX4_makes_9 rfl ?_
    refine hr_iconst o (3 : Int32) dX4_makes_10 (by decide) ?_
    refine hr_iload_n o 1 dX4_makes_11 rfl ?_
    refine mr_callI o mvX4_102 dX4_makes_12 [.int (3 : Int32), .int l1] (fun zr zV ze => mtX4_fails (3 : Int32) l1 V0 zr zV ze) rfl rfl (Nat.le_of_ble_eq_true rfl) ⟨by decide, by decide⟩ (fun x3 V2 => ?_)
    refine hr_ck (fun hz => ?_)
    exact hr_iret o dX4_makes_15 rfl (hf_nz hz)
  refine hr_aload_n o 0 dX4_makes_16 rfl ?_
  refine hr_dup o dX4_makes_17 rfl ?_
  refine mr_get o flX4_142 dX4_makes_18 (.int (V0.1 12)) rfl ?_
  refine hr_iconst o (1 : Int32) dX4_makes_21 (by decide) ?_
  refine hr_iadd o dX4_makes_22 ?_
  refine mr_putI o flX4_142 dX4_makes_23 nf_4_12 rfl rfl (fun V1 => ?_)
  refine hr_iconst o (1 : Int32) dX4_makes_26 (by decide) ?_
  exact hr_iret o dX4_makes_27 rfl (by decide)
theorem mtX4_makes {om : Nat} {b : hf_H} (l1 : Int32) (V0 : hf_V) (r : Int32) (V1 : hf_V) (e : spX4_makes l1 V0 = some (r, V1)) : hf_Con yX4_makes cX4_makes 2 (some .boolean) 1 22 [.ref om, .int l1] (hf_M om b V0) (.returned (some (.int r)), hf_M om b V1) := hf_entry (dec := hf_dMI om b) (by decide) [.ref om, .int l1] (Nat.le_of_ble_eq_true rfl) [(0, .ref om), (1, .int l1)] rfl e (fun C o _ => jtX4_makes o l1 V0)

/-! wordHere -/
def spX4_wordHere  (V0 : hf_V) : Option (Int32 × hf_V) :=
  hf_b2 (spX4_isWord (422877685106 : Int64) V0) fun x2 V1 =>
  if x2 = 0 then (hf_b2 (spX4_isWord (483006772069 : Int64) V1) fun x4 V3 =>
  if x4 = 0 then (hf_b2 (spX4_isWord (1936748404 : Int64) V3) fun x6 V5 =>
  if x6 = 0 then (hf_b2 (spX4_isWord (1752135026 : Int64) V5) fun x8 V7 =>
  if x8 = 0 then (hf_b2 (spX4_isWord (1818584692 : Int64) V7) fun x10 V9 =>
  if x10 = 0 then (hf_b2 (spX4_isWord (6840691 : Int64) V9) fun x12 V11 =>
  if x12 = 0 then (hf_b2 (spX4_isWord (1751215206 : Int64) V11) fun x14 V13 =>
  if x14 = 0 then (hf_b2 (spX4_isWord (495672455269 : Int64) V13) fun x16 V15 =>
  if x16 = 0 then (hf_b2 (spX4_isWord (1936286821 : Int64) V15) fun x18 V17 =>
  if x18 = 0 then (hf_b2 (spX4_isWord (482955846501 : Int64) V17) fun x20 V19 =>
  if x20 = 0 then (hf_b2 (spX4_isWord (1718187123 : Int64) V19) fun x22 V21 =>
  if x22 = 0 then (hf_b2 (spX4_isWord (121381705641081 : Int64) V21) fun x24 V23 =>
  if x24 = 0 then (hf_b2 (spX4_isWord (461414299502 : Int64) V23) fun x26 V25 =>
  if x26 = 0 then (some ((-1 : Int32), V25)) else
  some ((12 : Int32), V25)) else
  some ((11 : Int32), V23)) else
  some ((10 : Int32), V21)) else
  some ((9 : Int32), V19)) else
  some ((8 : Int32), V17)) else
  some ((7 : Int32), V15)) else
  some ((6 : Int32), V13)) else
  some ((5 : Int32), V11)) else
  some ((4 : Int32), V9)) else
  some ((3 : Int32), V7)) else
  some ((2 : Int32), V5)) else
  some ((1 : Int32), V3)) else
  some ((0 : Int32), V1)
theorem jtX4_wordHere {C : hf_X} {om : Nat} {b : hf_H} (o : hf_In C cX4_wordHere RX4 1 (some .int) 2 46)  (V0 : hf_V) : hf_J C (hf_dMI om b) (spX4_wordHere V0) (hf_M om b V0) 0 [(0, .ref om)] [] := by
  refine hr_aload_n o 0 dX4_wordHere_0 rfl ?_
  refine hr_ldc2 o (422877685106 : Int64) q1555 dX4_wordHere_1 ?_
  refine mr_callI o mvX4_92 dX4_wordHere_4 [.long (422877685106 : Int64)] (fun zr zV ze => mtX4_isWord (422877685106 : Int64) V0 zr zV ze) rfl rfl (Nat.le_of_ble_eq_true rfl) ⟨by decide, by decide⟩ (fun x2 V1 => ?_)
  refine hr_if_eq o 12 dX4_wordHere_7 (by decide) (fun _ => ?_) (fun _ => ?_)
  · refine hr_aload_n o 0 dX4_wordHere_12 rfl ?_
    refine hr_ldc2 o (483006772069 : Int64) q1645 dX4_wordHere_13 ?_
    refine mr_callI o mvX4_92 dX4_wordHere_16 [.long (483006772069 : Int64)] (fun zr zV ze => mtX4_isWord (483006772069 : Int64) V1 zr zV ze) rfl rfl (Nat.le_of_ble_eq_true rfl) ⟨by decide, by decide⟩ (fun x4 V3 => ?_)
    refine hr_if_eq o 24 dX4_wordHere_19 (by decide) (fun _ => ?_) (fun _ => ?_)
    · refine hr_aload_n o 0 dX4_wordHere_24 rfl ?_
      refine hr_ldc2 o (1936748404 : Int64) q1646 dX4_wordHere_25 ?_
      refine mr_callI o mvX4_92 dX4_wordHere_28 [.long (1936748404 : Int64)] (fun zr zV ze => mtX4_isWord (1936748404 : Int64) V3 zr zV ze) rfl rfl (Nat.le_of_ble_eq_true rfl) ⟨by decide, by decide⟩ (fun x6 V5 => ?_)
      refine hr_if_eq o 36 dX4_wordHere_31 (by decide) (fun _ => ?_) (fun _ => ?_)
      · refine hr_aload_n o 0 dX4_wordHere_36 rfl ?_
        refine hr_ldc2 o (1752135026 : Int64) q1647 dX4_wordHere_37 ?_
        refine mr_callI o mvX4_92 dX4_wordHere_40 [.long (1752135026 : Int64)] (fun zr zV ze => mtX4_isWord (1752135026 : Int64) V5 zr zV ze) rfl rfl (Nat.le_of_ble_eq_true rfl) ⟨by decide, by decide⟩ (fun x8 V7 => ?_)
        refine hr_if_eq o 48 dX4_wordHere_43 (by decide) (fun _ => ?_) (fun _ => ?_)
        · refine hr_aload_n o 0 dX4_wordHere_48 rfl ?_
          refine hr_ldc2 o (1818584692 : Int64) q1648 dX4_wordHere_49 ?_
          refine mr_callI o mvX4_92 dX4_wordHere_52 [.long (1818584692 : Int64)] (fun zr zV ze => mtX4_isWord (1818584692 : Int64) V7 zr zV ze) rfl rfl (Nat.le_of_ble_eq_true rfl) ⟨by decide, by decide⟩ (fun x10 V9 => ?_)
          refine hr_if_eq o 60 dX4_wordHere_55 (by decide) (fun _ => ?_) (fun _ => ?_)
          · refine hr_aload_n o 0 dX4_wordHere_60 rfl ?_
            refine hr_ldc2 o (6840691 : Int64) q1649 dX4_wordHere_61 ?_
            refine mr_callI o mvX4_92 dX4_wordHere_64 [.long (6840691 : Int64)] (fun zr zV ze => mtX4_isWord (6840691 : Int64) V9 zr zV ze) rfl rfl (Nat.le_of_ble_eq_true rfl) ⟨by decide, by decide⟩ (fun x12 V11 => ?_)
            refine hr_if_eq o 72 dX4_wordHere_67 (by decide) (fun _ => ?_) (fun _ => ?_)
            · refine hr_aload_n o 0 dX4_wordHere_72 rfl ?_
              refine hr_ldc2 o (1751215206 : Int64) q1553 dX4_wordHere_73 ?_
              refine mr_callI o mvX4_92 dX4_wordHere_76 [.long (1751215206 : Int64)] (fun zr zV ze => mtX4_isWord (1751215206 : Int64) V11 zr zV ze) rfl rfl (Nat.le_of_ble_eq_true rfl) ⟨by decide, by decide⟩ (fun x14 V13 => ?_)
              refine hr_if_eq o 85 dX4_wordHere_79 (by decide) (fun _ => ?_) (fun _ => ?_)
              · refine hr_aload_n o 0 dX4_wordHere_85 rfl ?_
                refine hr_ldc2 o (495672455269 : Int64) q1650 dX4_wordHere_86 ?_
                refine mr_callI o mvX4_92 dX4_wordHere_89 [.long (495672455269 : Int64)] (fun zr zV ze => mtX4_isWord (495672455269 : Int64) V13 zr zV ze) rfl rfl (Nat.le_of_ble_eq_true rfl) ⟨by decide, by decide⟩ (fun x16 V15 => ?_)
                refine hr_if_eq o 98 dX4_wordHere_92 (by decide) (fun _ => ?_) (fun _ => ?_)
                · refine hr_aload_n o 0 dX4_wordHere_98 rfl ?_
                  refine hr_ldc2 o (1936286821 : Int64) q1651 dX4_wordHere_99 ?_
                  refine mr_callI o mvX4_92 dX4_wordHere_102 [.long (1936286821 : Int64)] (fun zr zV ze => mtX4_isWord (1936286821 : Int64) V15 zr zV ze) rfl rfl (Nat.le_of_ble_eq_true rfl) ⟨by decide, by decide⟩ (fun x18 V17 => ?_)
                  refine hr_if_eq o 111 dX4_wordHere_105 (by decide) (fun _ => ?_) (fun _ => ?_)
                  · refine hr_aload_n o 0 dX4_wordHere_111 rfl ?_
                    refine hr_ldc2 o (482955846501 : Int64) q1652 dX4_wordHere_112 ?_
                    refine mr_callI o mvX4_92 dX4_wordHere_115 [.long (482955846501 : Int64)] (fun zr zV ze => mtX4_isWord (482955846501 : Int64) V17 zr zV ze) rfl rfl (Nat.le_of_ble_eq_true rfl) ⟨by decide, by decide⟩ (fun x20 V19 => ?_)
                    refine hr_if_eq o 124 dX4_wordHere_118 (by decide) (fun _ => ?_) (fun _ => ?_)
                    · refine hr_aload_n o 0 dX4_wordHere_124 rfl ?_
                      refine hr_ldc2 o (1718187123 : Int64) q1653 dX4_wordHere_125 ?_
                      refine mr_callI o mvX4_92 dX4_wordHere_128 [.long (1718187123 : Int64)] (fun zr zV ze => mtX4_isWord (1718187123 : Int64) V19 zr zV ze) rfl rfl (Nat.le_of_ble_eq_true rfl) ⟨by decide, by decide⟩ (fun x22 V21 => ?_)
                      refine hr_if_eq o 137 dX4_wordHere_131 (by decide) (fun _ => ?_) (fun _ => ?_)
                      · refine hr_aload_n o 0 dX4_wordHere_137 rfl ?_
                        refine hr_ldc2 o (121381705641081 : Int64) q1654 dX4_wordHere_138 ?_
                        refine mr_callI o mvX4_92 dX4_wordHere_141 [.long (121381705641081 : Int64)] (fun zr zV ze => mtX4_isWord (121381705641081 : Int64) V21 zr zV ze) rfl rfl (Nat.le_of_ble_eq_true rfl) ⟨by decide, by decide⟩ (fun x24 V23 => ?_)
                        refine hr_if_eq o 152 dX4_wordHere_144 (by decide) (fun _ => ?_) (fun _ => ?_)
                        · refine hr_aload_n o 0 dX4_wordHere_152 rfl ?_
                          refine hr_ldc2 o (461414299502 : Int64) q1655 dX4_wordHere_153 ?_
                          refine mr_callI o mvX4_92 dX4_wordHere_156 [.long (461414299502 : Int64)] (fun zr zV ze => mtX4_isWord (461414299502 : Int64) V23 zr zV ze) rfl rfl (Nat.le_of_ble_eq_true rfl) ⟨by decide, by decide⟩ (fun x26 V25 => ?_)
                          refine hr_if_eq o 167 dX4_wordHere_159 (by decide) (fun _ => ?_) (fun _ => ?_)
                          · refine hr_iconst o (-1 : Int32) dX4_wordHere_167 (by decide) ?_
                            exact hr_iret o dX4_wordHere_168 rfl rfl
                          refine hr_bipush o (12 : Int32) dX4_wordHere_162 (by decide) ?_
                          refine hr_goto o 168 dX4_wordHere_164 (by decide) ?_
                          exact hr_iret o dX4_wordHere_168 rfl rfl
                        refine hr_bipush o (11 : Int32) dX4_wordHere_147 (by decide) ?_
                        refine hr_goto o 168 dX4_wordHere_149 (by decide) ?_
                        exact hr_iret o dX4_wordHere_168 rfl rfl
                      refine hr_bipush o (10 : Int32) dX4_wordHere_134 (by decide) ?_
                      exact hr_iret o dX4_wordHere_136 rfl rfl
                    refine hr_bipush o (9 : Int32) dX4_wordHere_121 (by decide) ?_
                    exact hr_iret o dX4_wordHere_123 rfl rfl
                  refine hr_bipush o (8 : Int32) dX4_wordHere_108 (by decide) ?_
                  exact hr_iret o dX4_wordHere_110 rfl rfl
                refine hr_bipush o (7 : Int32) dX4_wordHere_95 (by decide) ?_
                exact hr_iret o dX4_wordHere_97 rfl rfl
              refine hr_bipush o (6 : Int32) dX4_wordHere_82 (by decide) ?_
              exact hr_iret o dX4_wordHere_84 rfl rfl
            refine hr_iconst o (5 : Int32) dX4_wordHere_70 (by decide) ?_
            exact hr_iret o dX4_wordHere_71 rfl rfl
          refine hr_iconst o (4 : Int32) dX4_wordHere_58 (by decide) ?_
          exact hr_iret o dX4_wordHere_59 rfl rfl
        refine hr_iconst o (3 : Int32) dX4_wordHere_46 (by decide) ?_
        exact hr_iret o dX4_wordHere_47 rfl rfl
      refine hr_iconst o (2 : Int32) dX4_wordHere_34 (by decide) ?_
      exact hr_iret o dX4_wordHere_35 rfl rfl
    refine hr_iconst o (1 : Int32) dX4_wordHere_22 (by decide) ?_
    exact hr_iret o dX4_wordHere_23 rfl rfl
  refine hr_iconst o (0 : Int32) dX4_wordHere_10 (by decide) ?_
  exact hr_iret o dX4_wordHere_11 rfl rfl
theorem mtX4_wordHere {om : Nat} {b : hf_H}  (V0 : hf_V) (r : Int32) (V1 : hf_V) (e : spX4_wordHere V0 = some (r, V1)) : hf_Con yX4_wordHere cX4_wordHere 1 (some .int) 2 46 [.ref om] (hf_M om b V0) (.returned (some (.int r)), hf_M om b V1) := hf_entry (dec := hf_dMI om b) (by decide) [.ref om] (Nat.le_of_ble_eq_true rfl) [(0, .ref om)] rfl e (fun C o _ => jtX4_wordHere o V0)

/-! value -/
theorem mvX4_166 : hf_MV RX4 166 RX4 yX4_wordHere cX4_wordHere 1 (some .int) 0 := ⟨lw_V q1641 q1643 qs89 q162 q1644, by decide +kernel⟩
theorem mvX4_163 : hf_MV RX4 163 RX4 yX4_makes cX4_makes 2 (some .boolean) 1 := ⟨lw_V q1633 q1635 qs87 q162 q1636, by decide +kernel⟩
theorem mvX4_155 : hf_MV RX4 155 RX4 yX4_puts cX4_puts 3 (none) 2 := ⟨lw_V q1637 q1639 qs88 q162 q1640, by decide +kernel⟩
def spX4_value  (V0 : hf_V) : Option (Int32 × hf_V) :=
  hf_b2 (spX4_see V0) fun x2 V1 =>
  hf_let (V1.1 8) fun x3 =>
  hf_b2 (spX4_isDigit (V1.1 8) V1) fun x5 V4 =>
  if x5 = 0 then (hf_b2 (spX4_wordHere V4) fun x7 V6 =>
  if 0 ≤ x7 then (hf_b2 (spX4_makes x3 V6) fun x9 V8 =>
  if x9 = 0 then (some ((0 : Int32), V8)) else
  (spX4_passWord V8).bind fun V10 =>
  (spX4_puts (1 : Int32) x7 V10).bind fun V11 =>
  some ((1 : Int32), V11)) else
  hf_b2 (spX4_fails (0 : Int32) x3 V6) fun x13 V12 =>
  if x13 = 0 ∨ x13 = 1 then some (x13, V12) else none) else
  hf_b2 (spX4_numberHere (0 : Int32) (99999 : Int32) V4) fun x15 V14 =>
  if x15 = 0 then (some ((0 : Int32), V14)) else
  hf_b2 (spX4_makes x3 V14) fun x17 V16 =>
  if x17 = 0 then (some ((0 : Int32), V16)) else
  (spX4_puts (0 : Int32) (V16.1 10) V16).bind fun V18 =>
  some ((1 : Int32), V18)
theorem jtX4_value {C : hf_X} {om : Nat} {b : hf_H} (o : hf_In C cX4_value RX4 3 (some .boolean) 3 66)  (V0 : hf_V) : hf_J C (hf_dMI om b) (spX4_value V0) (hf_M om b V0) 0 [(0, .ref om)] [] := by
  refine hr_aload_n o 0 dX4_value_0 rfl ?_
  refine mr_callI o mvX4_84 dX4_value_1 [] (fun zr zV ze => mtX4_see  V0 zr zV ze) rfl rfl (Nat.le_of_ble_eq_true rfl) ⟨by decide, by decide⟩ (fun x2 V1 => ?_)
  refine hr_pop o dX4_value_4 rfl ?_
  refine hr_aload_n o 0 dX4_value_5 rfl ?_
  refine mr_get o flX4_81 dX4_value_6 (.int (V1.1 8)) rfl ?_
  refine hr_nmI (fun x3 => ?_)
  refine hr_istore_n o [(1, .int x3), (0, .ref om)] dX4_value_9 (by decide) rfl ?_
  refine hr_aload_n o 1 dX4_value_10 rfl ?_
  refine hr_aload_n o 1 dX4_value_11 rfl ?_
  refine mr_get o flX4_81 dX4_value_12 (.int (V1.1 8)) rfl ?_
  refine mr_callI o mvX4_99 dX4_value_15 [.int (V1.1 8)] (fun zr zV ze => mtX4_isDigit (V1.1 8) V1 zr zV ze) rfl rfl (Nat.le_of_ble_eq_true rfl) ⟨by decide, by decide⟩ (fun x5 V4 => ?_)
  refine hr_if_eq o 52 dX4_value_18 (by decide) (fun _ => ?_) (fun _ => ?_)
  · refine hr_aload_n o 1 dX4_value_52 rfl ?_
    refine mr_callI o mvX4_166 dX4_value_53 [] (fun zr zV ze => mtX4_wordHere  V4 zr zV ze) rfl rfl (Nat.le_of_ble_eq_true rfl) ⟨by decide, by decide⟩ (fun x7 V6 => ?_)
    refine hr_istore_n o [(2, .int x7), (1, .int x3), (0, .ref om)] dX4_value_56 (by decide) rfl ?_
    refine hr_iload_n o 0 dX4_value_57 rfl ?_
    refine hr_if_ge o 68 dX4_value_58 (by decide) (fun _ => ?_) (fun _ => ?_)
    · refine hr_aload_n o 2 dX4_value_68 rfl ?_
      refine hr_iload_n o 1 dX4_value_69 rfl ?_
      refine mr_callI o mvX4_163 dX4_value_70 [.int x3] (fun zr zV ze => mtX4_makes x3 V6 zr zV ze) rfl rfl (Nat.le_of_ble_eq_true rfl) ⟨by decide, by decide⟩ (fun x9 V8 => ?_)
      refine hr_if_ne o 78 dX4_value_73 (by decide) (fun _ => ?_) (fun _ => ?_)
      · refine hr_iconst o (0 : Int32) dX4_value_76 (by decide) ?_
        exact hr_iret o dX4_value_77 rfl (by decide)
      refine hr_aload_n o 2 dX4_value_78 rfl ?_
      refine mr_callV o mvX4_96 dX4_value_79 [] (fun zV ze => mtX4_passWord  V8 zV ze) rfl rfl (Nat.le_of_ble_eq_true rfl) ⟨by decide, by decide⟩ (fun V10 => ?_)
      refine hr_aload_n o 2 dX4_value_82 rfl ?_
      refine hr_iconst o (1 : Int32) dX4_value_83 (by decide) ?_
      refine hr_iload_n o 0 dX4_value_84 rfl ?_
      refine mr_callV o mvX4_155 dX4_value_85 [.int (1 : Int32), .int x7] (fun zV ze => mtX4_puts (1 : Int32) x7 V10 zV ze) rfl rfl (Nat.le_of_ble_eq_true rfl) ⟨by decide, by decide⟩ (fun V11 => ?_)
      refine hr_iconst o (1 : Int32) dX4_value_88 (by decide) ?_
      exact hr_iret o dX4_value_89 rfl (by decide)
    refine hr_aload_n o 2 dX4_value_61 rfl ?_
    refine hr_iconst o (0 : Int32) dX4_value_62 (by decide) ?_
    refine hr_iload_n o 1 dX4_value_63 rfl ?_
    refine mr_callI o mvX4_102 dX4_value_64 [.int (0 : Int32), .int x3] (fun zr zV ze => mtX4_fails (0 : Int32) x3 V6 zr zV ze) rfl rfl (Nat.le_of_ble_eq_true rfl) ⟨by decide, by decide⟩ (fun x13 V12 => ?_)
    refine hr_ck (fun hz => ?_)
    exact hr_iret o dX4_value_67 rfl (hf_nz hz)
  refine hr_aload_n o 1 dX4_value_21 rfl ?_
  refine hr_iconst o (0 : Int32) dX4_value_22 (by decide) ?_
  refine hr_ldc o (99999 : Int32) q1632 dX4_value_23 ?_
  refine mr_callI o mvX4_160 dX4_value_25 [.int (0 : Int32), .int (99999 : Int32)] (fun zr zV ze => mtX4_numberHere (0 : Int32) (99999 : Int32) V4 zr zV ze) rfl rfl (Nat.le_of_ble_eq_true rfl) ⟨by decide, by decide⟩ (fun x15 V14 => ?_)
  refine hr_if_eq o 39 dX4_value_28 (by decide) (fun _ => ?_) (fun _ => ?_)
  · refine hr_iconst o (0 : Int32) dX4_value_39 (by decide) ?_
    exact hr_iret o dX4_value_40 rfl (by decide)
  refine hr_aload_n o 1 dX4_value_31 rfl ?_
  refine hr_iload_n o 0 dX4_value_32 rfl ?_
  refine mr_callI o mvX4_163 dX4_value_33 [.int x3] (fun zr zV ze => mtX4_makes x3 V14 zr zV ze) rfl rfl (Nat.le_of_ble_eq_true rfl) ⟨by decide, by decide⟩ (fun x17 V16 => ?_)
  refine hr_if_ne o 41 dX4_value_36 (by decide) (fun _ => ?_) (fun _ => ?_)
  · refine hr_iconst o (0 : Int32) dX4_value_39 (by decide) ?_
    exact hr_iret o dX4_value_40 rfl (by decide)
  refine hr_aload_n o 1 dX4_value_41 rfl ?_
  refine hr_iconst o (0 : Int32) dX4_value_42 (by decide) ?_
  refine hr_aload_n o 1 dX4_value_43 rfl ?_
  refine mr_get o flX4_106 dX4_value_44 (.int (V16.1 10)) rfl ?_
  refine mr_callV o mvX4_155 dX4_value_47 [.int (0 : Int32), .int (V16.1 10)] (fun zV ze => mtX4_puts (0 : Int32) (V16.1 10) V16 zV ze) rfl rfl (Nat.le_of_ble_eq_true rfl) ⟨by decide, by decide⟩ (fun V18 => ?_)
  refine hr_iconst o (1 : Int32) dX4_value_50 (by decide) ?_
  exact hr_iret o dX4_value_51 rfl (by decide)
theorem mtX4_value {om : Nat} {b : hf_H}  (V0 : hf_V) (r : Int32) (V1 : hf_V) (e : spX4_value V0 = some (r, V1)) : hf_Con yX4_value cX4_value 3 (some .boolean) 3 66 [.ref om] (hf_M om b V0) (.returned (some (.int r)), hf_M om b V1) := hf_entry (dec := hf_dMI om b) (by decide) [.ref om] (Nat.le_of_ble_eq_true rfl) [(0, .ref om)] rfl e (fun C o _ => jtX4_value o V0)

/-! term -/
theorem mvX4_169 : hf_MV RX4 169 RX4 yX4_value cX4_value 3 (some .boolean) 0 := ⟨lw_V q1628 q1630 qs86 q162 q1631, by decide +kernel⟩
def ndX4_term_74 (k9 : hf_V → Option (Int32 × hf_V)) (s0 : Int32) (V0 : hf_V) : Option (Int32 × hf_V) :=
  hf_let (hf_ui V0 8 ((V0.1 8) + (1 : Int32))) fun V1 =>
  hf_b2 (spX4_value V1) fun x3 V2 =>
  if x3 = 0 then (some ((0 : Int32), V2)) else
  (spX4_puts s0 (0 : Int32) V2).bind fun V4 =>
  k9 V4
theorem nlX4_term_74 {C : hf_X} {om : Nat} {b : hf_H} (o : hf_In C cX4_term RX4 2 (some .boolean) 4 88) (k9 : hf_V → Option (Int32 × hf_V)) (hk9 : ∀ (V0 : hf_V), hf_J C (hf_dMI om b) (k9 V0) (hf_M om b V0) 9 [(0, .ref om)] []) (s0 : Int32) (V0 : hf_V) : hf_J C (hf_dMI om b) (ndX4_term_74 k9 s0 V0) (hf_M om b V0) 74 [(0, .ref om)] [.int s0] := by
  refine hr_istore_n o [(1, .int s0), (0, .ref om)] dX4_term_74 (by decide) rfl ?_
  refine hr_aload_n o 1 dX4_term_75 rfl ?_
  refine hr_dup o dX4_term_76 rfl ?_
  refine mr_get o flX4_81 dX4_term_77 (.int (V0.1 8)) rfl ?_
  refine hr_iconst o (1 : Int32) dX4_term_80 (by decide) ?_
  refine hr_iadd o dX4_term_81 ?_
  refine mr_putI o flX4_81 dX4_term_82 nf_4_8 rfl rfl (fun V1 => ?_)
  refine hr_aload_n o 1 dX4_term_85 rfl ?_
  refine mr_callI o mvX4_169 dX4_term_86 [] (fun zr zV ze => mtX4_value  V1 zr zV ze) rfl rfl (Nat.le_of_ble_eq_true rfl) ⟨by decide, by decide⟩ (fun x3 V2 => ?_)
  refine hr_if_ne o 94 dX4_term_89 (by decide) (fun _ => ?_) (fun _ => ?_)
  · refine hr_iconst o (0 : Int32) dX4_term_92 (by decide) ?_
    exact hr_iret o dX4_term_93 rfl (by decide)
  refine hr_aload_n o 1 dX4_term_94 rfl ?_
  refine hr_iload_n o 0 dX4_term_95 rfl ?_
  refine hr_iconst o (0 : Int32) dX4_term_96 (by decide) ?_
  refine mr_callV o mvX4_155 dX4_term_97 [.int s0, .int (0 : Int32)] (fun zV ze => mtX4_puts s0 (0 : Int32) V2 zV ze) rfl rfl (Nat.le_of_ble_eq_true rfl) ⟨by decide, by decide⟩ (fun V4 => ?_)
  refine hr_goto o 9 dX4_term_100 (by decide) ?_
  refine hr_sub [1] rfl ?_
  exact hk9 V4
def ndX4_term_36 (k9 : hf_V → Option (Int32 × hf_V))  (V0 : hf_V) : Option (Int32 × hf_V) :=
  (hf_ld 400 (V0.2.2.2.1 0) (V0.1 8)).bind fun x1 =>
  if x1 = (42 : Int32) then (ndX4_term_74 k9 (4 : Int32) V0) else
  (hf_ld 400 (V0.2.2.2.1 0) (V0.1 8)).bind fun x2 =>
  if x2 = (47 : Int32) then (ndX4_term_74 k9 (5 : Int32) V0) else
  ndX4_term_74 k9 (14 : Int32) V0
theorem nlX4_term_36 {C : hf_X} {om : Nat} {b : hf_H} (o : hf_In C cX4_term RX4 2 (some .boolean) 4 88) (k9 : hf_V → Option (Int32 × hf_V)) (hk9 : ∀ (V0 : hf_V), hf_J C (hf_dMI om b) (k9 V0) (hf_M om b V0) 9 [(0, .ref om)] [])  (V0 : hf_V) : hf_J C (hf_dMI om b) (ndX4_term_36 k9 V0) (hf_M om b V0) 36 [(0, .ref om)] [] := by
  refine hr_aload_n o 0 dX4_term_36 rfl ?_
  refine mr_get o flX4_7 dX4_term_37 (.ref (om + 1)) rfl ?_
  refine hr_aload_n o 0 dX4_term_40 rfl ?_
  refine mr_get o flX4_81 dX4_term_41 (.int (V0.1 8)) rfl ?_
  refine mr_bald o 0 1 400 rfl (by decide) rfl dX4_term_44 (fun x1 => ?_)
  refine hr_bipush o (42 : Int32) dX4_term_45 (by decide) ?_
  refine hr_icmp_ne o 54 dX4_term_47 (by decide) (fun _ => ?_) (fun _ => ?_)
  · refine hr_iconst o (4 : Int32) dX4_term_50 (by decide) ?_
    refine hr_goto o 74 dX4_term_51 (by decide) ?_
    exact nlX4_term_74 o k9 hk9 (4 : Int32) V0
  refine hr_aload_n o 0 dX4_term_54 rfl ?_
  refine mr_get o flX4_7 dX4_term_55 (.ref (om + 1)) rfl ?_
  refine hr_aload_n o 0 dX4_term_58 rfl ?_
  refine mr_get o flX4_81 dX4_term_59 (.int (V0.1 8)) rfl ?_
  refine mr_bald o 0 1 400 rfl (by decide) rfl dX4_term_62 (fun x2 => ?_)
  refine hr_bipush o (47 : Int32) dX4_term_63 (by decide) ?_
  refine hr_icmp_ne o 72 dX4_term_65 (by decide) (fun _ => ?_) (fun _ => ?_)
  · refine hr_iconst o (5 : Int32) dX4_term_68 (by decide) ?_
    refine hr_goto o 74 dX4_term_69 (by decide) ?_
    exact nlX4_term_74 o k9 hk9 (5 : Int32) V0
  refine hr_bipush o (14 : Int32) dX4_term_72 (by decide) ?_
  exact nlX4_term_74 o k9 hk9 (14 : Int32) V0
def ndX4_term_9 (k9 : hf_V → Option (Int32 × hf_V))  (V0 : hf_V) : Option (Int32 × hf_V) :=
  hf_b2 (spX4_see V0) fun x2 V1 =>
  if x2 = (42 : Int32) then (ndX4_term_36 k9 V1) else
  hf_b2 (spX4_see V1) fun x4 V3 =>
  if x4 = (47 : Int32) then (ndX4_term_36 k9 V3) else
  hf_b2 (spX4_see V3) fun x6 V5 =>
  if x6 = (37 : Int32) then (ndX4_term_36 k9 V5) else
  some ((1 : Int32), V5)
theorem nlX4_term_9 {C : hf_X} {om : Nat} {b : hf_H} (o : hf_In C cX4_term RX4 2 (some .boolean) 4 88) (k9 : hf_V → Option (Int32 × hf_V)) (hk9 : ∀ (V0 : hf_V), hf_J C (hf_dMI om b) (k9 V0) (hf_M om b V0) 9 [(0, .ref om)] [])  (V0 : hf_V) : hf_J C (hf_dMI om b) (ndX4_term_9 k9 V0) (hf_M om b V0) 9 [(0, .ref om)] [] := by
  refine hr_aload_n o 0 dX4_term_9 rfl ?_
  refine mr_callI o mvX4_84 dX4_term_10 [] (fun zr zV ze => mtX4_see  V0 zr zV ze) rfl rfl (Nat.le_of_ble_eq_true rfl) ⟨by decide, by decide⟩ (fun x2 V1 => ?_)
  refine hr_bipush o (42 : Int32) dX4_term_13 (by decide) ?_
  refine hr_icmp_eq o 36 dX4_term_15 (by decide) (fun _ => ?_) (fun _ => ?_)
  · exact nlX4_term_36 o k9 hk9 V1
  refine hr_aload_n o 0 dX4_term_18 rfl ?_
  refine mr_callI o mvX4_84 dX4_term_19 [] (fun zr zV ze => mtX4_see  V1 zr zV ze) rfl rfl (Nat.le_of_ble_eq_true rfl) ⟨by decide, by decide⟩ (fun x4 V3 => ?_)
  refine hr_bipush o (47 : Int32) dX4_term_22 (by decide) ?_
  refine hr_icmp_eq o 36 dX4_term_24 (by decide) (fun _ => ?_) (fun _ => ?_)
  · exact nlX4_term_36 o k9 hk9 V3
  refine hr_aload_n o 0 dX4_term_27 rfl ?_
  refine mr_callI o mvX4_84 dX4_term_28 [] (fun zr zV ze => mtX4_see  V3 zr zV ze) rfl rfl (Nat.le_of_ble_eq_true rfl) ⟨by decide, by decide⟩ (fun x6 V5 => ?_)
  refine hr_bipush o (37 : Int32) dX4_term_31 (by decide) ?_
  refine hr_icmp_ne o 103 dX4_term_33 (by decide) (fun _ => ?_) (fun _ => ?_)
  · exact nlX4_term_36 o k9 hk9 V5
  refine hr_iconst o (1 : Int32) dX4_term_103 (by decide) ?_
  exact hr_iret o dX4_term_104 rfl (by decide)
def lpX4_term_9  : Nat → hf_V → Option (Int32 × hf_V)
  | 0 => fun _ => none
  | n + 1 => fun V0 => ndX4_term_9  (lpX4_term_9  n) V0
theorem llX4_term_9 {C : hf_X} {om : Nat} {b : hf_H} (o : hf_In C cX4_term RX4 2 (some .boolean) 4 88)   (n : Nat) : ∀ (V0 : hf_V), hf_J C (hf_dMI om b) ((lpX4_term_9  n) V0) (hf_M om b V0) 9 [(0, .ref om)] [] := by
  induction n with
  | zero => exact fun _ => hr_none
  | succ n ih => exact fun V0 => nlX4_term_9 o  (lpX4_term_9  n)  ih V0
def spX4_term  (V0 : hf_V) : Option (Int32 × hf_V) :=
  hf_b2 (spX4_value V0) fun x2 V1 =>
  if x2 = 0 then (some ((0 : Int32), V1)) else
  lpX4_term_9 hf_N V1
theorem jtX4_term {C : hf_X} {om : Nat} {b : hf_H} (o : hf_In C cX4_term RX4 2 (some .boolean) 4 88)  (V0 : hf_V) : hf_J C (hf_dMI om b) (spX4_term V0) (hf_M om b V0) 0 [(0, .ref om)] [] := by
  refine hr_aload_n o 0 dX4_term_0 rfl ?_
  refine mr_callI o mvX4_169 dX4_term_1 [] (fun zr zV ze => mtX4_value  V0 zr zV ze) rfl rfl (Nat.le_of_ble_eq_true rfl) ⟨by decide, by decide⟩ (fun x2 V1 => ?_)
  refine hr_if_ne o 9 dX4_term_4 (by decide) (fun _ => ?_) (fun _ => ?_)
  · refine hr_iconst o (0 : Int32) dX4_term_7 (by decide) ?_
    exact hr_iret o dX4_term_8 rfl (by decide)
  exact llX4_term_9 o hf_N V1
theorem mtX4_term {om : Nat} {b : hf_H}  (V0 : hf_V) (r : Int32) (V1 : hf_V) (e : spX4_term V0 = some (r, V1)) : hf_Con yX4_term cX4_term 2 (some .boolean) 4 88 [.ref om] (hf_M om b V0) (.returned (some (.int r)), hf_M om b V1) := hf_entry (dec := hf_dMI om b) (by decide) [.ref om] (Nat.le_of_ble_eq_true rfl) [(0, .ref om)] rfl e (fun C o _ => jtX4_term o V0)

/-! sum -/
theorem mvX4_173 : hf_MV RX4 173 RX4 yX4_term cX4_term 2 (some .boolean) 0 := ⟨lw_V q1624 q1626 qs85 q162 q1627, by decide +kernel⟩
def ndX4_sum_46 (k9 : hf_V → Option (Int32 × hf_V)) (s0 : Int32) (V0 : hf_V) : Option (Int32 × hf_V) :=
  hf_let (hf_ui V0 8 ((V0.1 8) + (1 : Int32))) fun V1 =>
  hf_b2 (spX4_term V1) fun x3 V2 =>
  if x3 = 0 then (some ((0 : Int32), V2)) else
  (spX4_puts s0 (0 : Int32) V2).bind fun V4 =>
  k9 V4
theorem nlX4_sum_46 {C : hf_X} {om : Nat} {b : hf_H} (o : hf_In C cX4_sum RX4 2 (some .boolean) 5 109) (k9 : hf_V → Option (Int32 × hf_V)) (hk9 : ∀ (V0 : hf_V), hf_J C (hf_dMI om b) (k9 V0) (hf_M om b V0) 9 [(0, .ref om)] []) (s0 : Int32) (V0 : hf_V) : hf_J C (hf_dMI om b) (ndX4_sum_46 k9 s0 V0) (hf_M om b V0) 46 [(0, .ref om)] [.int s0] := by
  refine hr_istore_n o [(1, .int s0), (0, .ref om)] dX4_sum_46 (by decide) rfl ?_
  refine hr_aload_n o 1 dX4_sum_47 rfl ?_
  refine hr_dup o dX4_sum_48 rfl ?_
  refine mr_get o flX4_81 dX4_sum_49 (.int (V0.1 8)) rfl ?_
  refine hr_iconst o (1 : Int32) dX4_sum_52 (by decide) ?_
  refine hr_iadd o dX4_sum_53 ?_
  refine mr_putI o flX4_81 dX4_sum_54 nf_4_8 rfl rfl (fun V1 => ?_)
  refine hr_aload_n o 1 dX4_sum_57 rfl ?_
  refine mr_callI o mvX4_173 dX4_sum_58 [] (fun zr zV ze => mtX4_term  V1 zr zV ze) rfl rfl (Nat.le_of_ble_eq_true rfl) ⟨by decide, by decide⟩ (fun x3 V2 => ?_)
  refine hr_if_ne o 66 dX4_sum_61 (by decide) (fun _ => ?_) (fun _ => ?_)
  · refine hr_iconst o (0 : Int32) dX4_sum_64 (by decide) ?_
    exact hr_iret o dX4_sum_65 rfl (by decide)
  refine hr_aload_n o 1 dX4_sum_66 rfl ?_
  refine hr_iload_n o 0 dX4_sum_67 rfl ?_
  refine hr_iconst o (0 : Int32) dX4_sum_68 (by decide) ?_
  refine mr_callV o mvX4_155 dX4_sum_69 [.int s0, .int (0 : Int32)] (fun zV ze => mtX4_puts s0 (0 : Int32) V2 zV ze) rfl rfl (Nat.le_of_ble_eq_true rfl) ⟨by decide, by decide⟩ (fun V4 => ?_)
  refine hr_goto o 9 dX4_sum_72 (by decide) ?_
  refine hr_sub [1] rfl ?_
  exact hk9 V4
def ndX4_sum_27 (k9 : hf_V → Option (Int32 × hf_V))  (V0 : hf_V) : Option (Int32 × hf_V) :=
  (hf_ld 400 (V0.2.2.2.1 0) (V0.1 8)).bind fun x1 =>
  if x1 = (43 : Int32) then (ndX4_sum_46 k9 (2 : Int32) V0) else
  ndX4_sum_46 k9 (3 : Int32) V0
theorem nlX4_sum_27 {C : hf_X} {om : Nat} {b : hf_H} (o : hf_In C cX4_sum RX4 2 (some .boolean) 5 109) (k9 : hf_V → Option (Int32 × hf_V)) (hk9 : ∀ (V0 : hf_V), hf_J C (hf_dMI om b) (k9 V0) (hf_M om b V0) 9 [(0, .ref om)] [])  (V0 : hf_V) : hf_J C (hf_dMI om b) (ndX4_sum_27 k9 V0) (hf_M om b V0) 27 [(0, .ref om)] [] := by
  refine hr_aload_n o 0 dX4_sum_27 rfl ?_
  refine mr_get o flX4_7 dX4_sum_28 (.ref (om + 1)) rfl ?_
  refine hr_aload_n o 0 dX4_sum_31 rfl ?_
  refine mr_get o flX4_81 dX4_sum_32 (.int (V0.1 8)) rfl ?_
  refine mr_bald o 0 1 400 rfl (by decide) rfl dX4_sum_35 (fun x1 => ?_)
  refine hr_bipush o (43 : Int32) dX4_sum_36 (by decide) ?_
  refine hr_icmp_ne o 45 dX4_sum_38 (by decide) (fun _ => ?_) (fun _ => ?_)
  · refine hr_iconst o (2 : Int32) dX4_sum_41 (by decide) ?_
    refine hr_goto o 46 dX4_sum_42 (by decide) ?_
    exact nlX4_sum_46 o k9 hk9 (2 : Int32) V0
  refine hr_iconst o (3 : Int32) dX4_sum_45 (by decide) ?_
  exact nlX4_sum_46 o k9 hk9 (3 : Int32) V0
def ndX4_sum_9 (k9 : hf_V → Option (Int32 × hf_V))  (V0 : hf_V) : Option (Int32 × hf_V) :=
  hf_b2 (spX4_see V0) fun x2 V1 =>
  if x2 = (43 : Int32) then (ndX4_sum_27 k9 V1) else
  hf_b2 (spX4_see V1) fun x4 V3 =>
  if x4 = (45 : Int32) then (ndX4_sum_27 k9 V3) else
  some ((1 : Int32), V3)
theorem nlX4_sum_9 {C : hf_X} {om : Nat} {b : hf_H} (o : hf_In C cX4_sum RX4 2 (some .boolean) 5 109) (k9 : hf_V → Option (Int32 × hf_V)) (hk9 : ∀ (V0 : hf_V), hf_J C (hf_dMI om b) (k9 V0) (hf_M om b V0) 9 [(0, .ref om)] [])  (V0 : hf_V) : hf_J C (hf_dMI om b) (ndX4_sum_9 k9 V0) (hf_M om b V0) 9 [(0, .ref om)] [] := by
  refine hr_aload_n o 0 dX4_sum_9 rfl ?_
  refine mr_callI o mvX4_84 dX4_sum_10 [] (fun zr zV ze => mtX4_see  V0 zr zV ze) rfl rfl (Nat.le_of_ble_eq_true rfl) ⟨by decide, by decide⟩ (fun x2 V1 => ?_)
  refine hr_bipush o (43 : Int32) dX4_sum_13 (by decide) ?_
  refine hr_icmp_eq o 27 dX4_sum_15 (by decide) (fun _ => ?_) (fun _ => ?_)
  · exact nlX4_sum_27 o k9 hk9 V1
  refine hr_aload_n o 0 dX4_sum_18 rfl ?_
  refine mr_callI o mvX4_84 dX4_sum_19 [] (fun zr zV ze => mtX4_see  V1 zr zV ze) rfl rfl (Nat.le_of_ble_eq_true rfl) ⟨by decide, by decide⟩ (fun x4 V3 => ?_)
  refine hr_bipush o (45 : Int32) dX4_sum_22 (by decide) ?_
  refine hr_icmp_ne o 75 dX4_sum_24 (by decide) (fun _ => ?_) (fun _ => ?_)
  · exact nlX4_sum_27 o k9 hk9 V3
  refine hr_iconst o (1 : Int32) dX4_sum_75 (by decide) ?_
  exact hr_iret o dX4_sum_76 rfl (by decide)
def lpX4_sum_9  : Nat → hf_V → Option (Int32 × hf_V)
  | 0 => fun _ => none
  | n + 1 => fun V0 => ndX4_sum_9  (lpX4_sum_9  n) V0
theorem llX4_sum_9 {C : hf_X} {om : Nat} {b : hf_H} (o : hf_In C cX4_sum RX4 2 (some .boolean) 5 109)   (n : Nat) : ∀ (V0 : hf_V), hf_J C (hf_dMI om b) ((lpX4_sum_9  n) V0) (hf_M om b V0) 9 [(0, .ref om)] [] := by
  induction n with
  | zero => exact fun _ => hr_none
  | succ n ih => exact fun V0 => nlX4_sum_9 o  (lpX4_sum_9  n)  ih V0
def spX4_sum  (V0 : hf_V) : Option (Int32 × hf_V) :=
  hf_b2 (spX4_term V0) fun x2 V1 =>
  if x2 = 0 then (some ((0 : Int32), V1)) else
  lpX4_sum_9 hf_N V1
theorem jtX4_sum {C : hf_X} {om : Nat} {b : hf_H} (o : hf_In C cX4_sum RX4 2 (some .boolean) 5 109)  (V0 : hf_V) : hf_J C (hf_dMI om b) (spX4_sum V0) (hf_M om b V0) 0 [(0, .ref om)] [] := by
  refine hr_aload_n o 0 dX4_sum_0 rfl ?_
  refine mr_callI o mvX4_173 dX4_sum_1 [] (fun zr zV ze => mtX4_term  V0 zr zV ze) rfl rfl (Nat.le_of_ble_eq_true rfl) ⟨by decide, by decide⟩ (fun x2 V1 => ?_)
  refine hr_if_ne o 9 dX4_sum_4 (by decide) (fun _ => ?_) (fun _ => ?_)
  · refine hr_iconst o (0 : Int32) dX4_sum_7 (by decide) ?_
    exact hr_iret o dX4_sum_8 rfl (by decide)
  exact llX4_sum_9 o hf_N V1
theorem mtX4_sum {om : Nat} {b : hf_H}  (V0 : hf_V) (r : Int32) (V1 : hf_V) (e : spX4_sum V0 = some (r, V1)) : hf_Con yX4_sum cX4_sum 2 (some .boolean) 5 109 [.ref om] (hf_M om b V0) (.returned (some (.int r)), hf_M om b V1) := hf_entry (dec := hf_dMI om b) (by decide) [.ref om] (Nat.le_of_ble_eq_true rfl) [(0, .ref om)] rfl e (fun C o _ => jtX4_sum o V0)

/-! takesWord -/
def spX4_takesWord (l1 : Int64) (V0 : hf_V) : Option (Int32 × hf_V) :=
  hf_b2 (spX4_isWord l1 V0) fun x2 V1 =>
  if x2 = 0 then (some ((0 : Int32), V1)) else
  (spX4_passWord V1).bind fun V3 =>
  some ((1 : Int32), V3)
theorem jtX4_takesWord {C : hf_X} {om : Nat} {b : hf_H} (o : hf_In C cX4_takesWord RX4 3 (some .boolean) 2 46) (l1 : Int64) (V0 : hf_V) : hf_J C (hf_dMI om b) (spX4_takesWord l1 V0) (hf_M om b V0) 0 [(0, .ref om), (1, .long l1)] [] := by
  refine hr_aload_n o 0 dX4_takesWord_0 rfl ?_
  refine hr_lload_n o 1 dX4_takesWord_1 rfl ?_
  refine mr_callI o mvX4_92 dX4_takesWord_2 [.long l1] (fun zr zV ze => mtX4_isWord l1 V0 zr zV ze) rfl rfl (Nat.le_of_ble_eq_true rfl) ⟨by decide, by decide⟩ (fun x2 V1 => ?_)
  refine hr_if_ne o 10 dX4_takesWord_5 (by decide) (fun _ => ?_) (fun _ => ?_)
  · refine hr_iconst o (0 : Int32) dX4_takesWord_8 (by decide) ?_
    exact hr_iret o dX4_takesWord_9 rfl (by decide)
  refine hr_aload_n o 0 dX4_takesWord_10 rfl ?_
  refine mr_callV o mvX4_96 dX4_takesWord_11 [] (fun zV ze => mtX4_passWord  V1 zV ze) rfl rfl (Nat.le_of_ble_eq_true rfl) ⟨by decide, by decide⟩ (fun V3 => ?_)
  refine hr_iconst o (1 : Int32) dX4_takesWord_14 (by decide) ?_
  exact hr_iret o dX4_takesWord_15 rfl (by decide)
theorem mtX4_takesWord {om : Nat} {b : hf_H} (l1 : Int64) (V0 : hf_V) (r : Int32) (V1 : hf_V) (e : spX4_takesWord l1 V0 = some (r, V1)) : hf_Con yX4_takesWord cX4_takesWord 3 (some .boolean) 2 46 [.ref om, .long l1] (hf_M om b V0) (.returned (some (.int r)), hf_M om b V1) := hf_entry (dec := hf_dMI om b) (by decide) [.ref om, .long l1] (Nat.le_of_ble_eq_true rfl) [(0, .ref om), (1, .long l1)] rfl e (fun C o _ => jtX4_takesWord o l1 V0)

/-! isInside -/
theorem flX4_148 : hf_Fl RX4 148 4 16 := ⟨(RX4, TX4, 37), RX4, rfl, by decide, in_X4, tyX4_ok, nmX4, Or.inl q1416, Or.inl rfl⟩
theorem flX4_29 : hf_Fl RX4 29 4 15 := ⟨(RX4, TX4, 37), RX4, rfl, by decide, in_X4, tyX4_ok, nmX4, Or.inl q1415, Or.inl rfl⟩
def ndX4_isInside_2 (k2 : Int32 → hf_V → Option (Int32 × hf_V)) (l1 : Int32) (V0 : hf_V) : Option (Int32 × hf_V) :=
  if (V0.1 16) ≤ l1 then (some ((0 : Int32), V0)) else
  (hf_ld 400 (V0.2.2.2.1 15) l1).bind fun x1 =>
  if x1 = (91 : Int32) then (some ((1 : Int32), V0)) else
  hf_let (l1 + (1 : Int32)) fun x2 =>
  k2 x2 V0
theorem nlX4_isInside_2 {C : hf_X} {om : Nat} {b : hf_H} (o : hf_In C cX4_isInside RX4 2 (some .boolean) 0 0) (k2 : Int32 → hf_V → Option (Int32 × hf_V)) (hk2 : ∀ (l1 : Int32) (V0 : hf_V), hf_J C (hf_dMI om b) (k2 l1 V0) (hf_M om b V0) 2 [(0, .ref om), (1, .int l1)] []) (l1 : Int32) (V0 : hf_V) : hf_J C (hf_dMI om b) (ndX4_isInside_2 k2 l1 V0) (hf_M om b V0) 2 [(0, .ref om), (1, .int l1)] [] := by
  refine hr_iload_n o 1 dX4_isInside_2 rfl ?_
  refine hr_aload_n o 0 dX4_isInside_3 rfl ?_
  refine mr_get o flX4_148 dX4_isInside_4 (.int (V0.1 16)) rfl ?_
  refine hr_icmp_ge o 29 dX4_isInside_7 (by decide) (fun _ => ?_) (fun _ => ?_)
  · refine hr_iconst o (0 : Int32) dX4_isInside_29 (by decide) ?_
    exact hr_iret o dX4_isInside_30 rfl (by decide)
  refine hr_aload_n o 0 dX4_isInside_10 rfl ?_
  refine mr_get o flX4_29 dX4_isInside_11 (.ref (om + 7)) rfl ?_
  refine hr_iload_n o 1 dX4_isInside_14 rfl ?_
  refine mr_iald o 15 7 400 rfl (by decide) rfl dX4_isInside_15 (fun x1 => ?_)
  refine hr_bipush o (91 : Int32) dX4_isInside_16 (by decide) ?_
  refine hr_icmp_ne o 23 dX4_isInside_18 (by decide) (fun _ => ?_) (fun _ => ?_)
  · refine hr_iconst o (1 : Int32) dX4_isInside_21 (by decide) ?_
    exact hr_iret o dX4_isInside_22 rfl (by decide)
  refine hr_iincN o (1 : Int32) 1 (fun y => [(1, .int y), (0, .ref om)]) dX4_isInside_23 rfl (by decide) (by decide) (fun y => rfl) (fun x2 => ?_)
  refine hr_goto o 2 dX4_isInside_26 (by decide) ?_
  refine hr_sub [1, 0] rfl ?_
  exact hk2 x2 V0
def lpX4_isInside_2  : Nat → Int32 → hf_V → Option (Int32 × hf_V)
  | 0 => fun _ _ => none
  | n + 1 => fun l1 V0 => ndX4_isInside_2  (lpX4_isInside_2  n) l1 V0
theorem llX4_isInside_2 {C : hf_X} {om : Nat} {b : hf_H} (o : hf_In C cX4_isInside RX4 2 (some .boolean) 0 0)   (n : Nat) : ∀ (l1 : Int32) (V0 : hf_V), hf_J C (hf_dMI om b) ((lpX4_isInside_2  n) l1 V0) (hf_M om b V0) 2 [(0, .ref om), (1, .int l1)] [] := by
  induction n with
  | zero => exact fun _ _ => hr_none
  | succ n ih => exact fun l1 V0 => nlX4_isInside_2 o  (lpX4_isInside_2  n)  ih l1 V0
def spX4_isInside  (V0 : hf_V) : Option (Int32 × hf_V) :=
  lpX4_isInside_2 hf_N (0 : Int32) V0
theorem jtX4_isInside {C : hf_X} {om : Nat} {b : hf_H} (o : hf_In C cX4_isInside RX4 2 (some .boolean) 0 0)  (V0 : hf_V) : hf_J C (hf_dMI om b) (spX4_isInside V0) (hf_M om b V0) 0 [(0, .ref om)] [] := by
  refine hr_iconst o (0 : Int32) dX4_isInside_0 (by decide) ?_
  refine hr_istore_n o [(1, .int (0 : Int32)), (0, .ref om)] dX4_isInside_1 (by decide) rfl ?_
  refine hr_sub [1, 0] rfl ?_
  exact llX4_isInside_2 o hf_N (0 : Int32) V0
theorem mtX4_isInside {om : Nat} {b : hf_H}  (V0 : hf_V) (r : Int32) (V1 : hf_V) (e : spX4_isInside V0 = some (r, V1)) : hf_Con yX4_isInside cX4_isInside 2 (some .boolean) 0 0 [.ref om] (hf_M om b V0) (.returned (some (.int r)), hf_M om b V1) := hf_entry (dec := hf_dMI om b) (by decide) [.ref om] (Nat.le_of_ble_eq_true rfl) [(0, .ref om)] rfl e (fun C o _ => jtX4_isInside o V0)

/-! strength -/
def spX4_strength (l0 : Int32) : Option Int32 :=
  if l0 = (13 : Int32) then (some (1 : Int32)) else
  if l0 = (12 : Int32) then (some (2 : Int32)) else
  if l0 = (11 : Int32) then (some (3 : Int32)) else
  some (0 : Int32)
theorem jtX4_strength {C : hf_X} {h : hf_H} (o : hf_In C cX4_strength RX4 1 (some .int) 0 0) (l0 : Int32) : hf_J C (hf_dPI h) (spX4_strength l0) h 0 [(0, .int l0)] [] := by
  refine hr_iload_n o 0 dX4_strength_0 rfl ?_
  refine hr_bipush o (13 : Int32) dX4_strength_1 (by decide) ?_
  refine hr_icmp_ne o 10 dX4_strength_3 (by decide) (fun _ => ?_) (fun _ => ?_)
  · refine hr_iconst o (1 : Int32) dX4_strength_6 (by decide) ?_
    refine hr_goto o 31 dX4_strength_7 (by decide) ?_
    exact hr_iret o dX4_strength_31 rfl rfl
  refine hr_iload_n o 0 dX4_strength_10 rfl ?_
  refine hr_bipush o (12 : Int32) dX4_strength_11 (by decide) ?_
  refine hr_icmp_ne o 20 dX4_strength_13 (by decide) (fun _ => ?_) (fun _ => ?_)
  · refine hr_iconst o (2 : Int32) dX4_strength_16 (by decide) ?_
    refine hr_goto o 31 dX4_strength_17 (by decide) ?_
    exact hr_iret o dX4_strength_31 rfl rfl
  refine hr_iload_n o 0 dX4_strength_20 rfl ?_
  refine hr_bipush o (11 : Int32) dX4_strength_21 (by decide) ?_
  refine hr_icmp_ne o 30 dX4_strength_23 (by decide) (fun _ => ?_) (fun _ => ?_)
  · refine hr_iconst o (3 : Int32) dX4_strength_26 (by decide) ?_
    refine hr_goto o 31 dX4_strength_27 (by decide) ?_
    exact hr_iret o dX4_strength_31 rfl rfl
  refine hr_iconst o (0 : Int32) dX4_strength_30 (by decide) ?_
  exact hr_iret o dX4_strength_31 rfl rfl
theorem mtX4_strength {h : hf_H} (l0 : Int32) (r : Int32) (e : spX4_strength l0 = some r) : hf_Con yX4_strength cX4_strength 1 (some .int) 0 0 [.int l0] h (.returned (some (.int r)), h) := hf_entry (dec := hf_dPI h) (by decide) [.int l0] (Nat.le_of_ble_eq_true rfl) [(0, .int l0)] rfl e (fun C o _ => jtX4_strength o l0)

/-! settles -/
theorem msX4_151 : hf_MS RX4 151 yX4_strength cX4_strength 1 (some .int) 1 := ⟨lw_S q1686 q1687 q162 q1688, by decide +kernel⟩
theorem nf_4_16 : hf_Nf 4 16 := ⟨(RX4, TX4, 37), rfl, rfl⟩
theorem flX4_145 : hf_Fl RX4 145 4 13 := ⟨(RX4, TX4, 37), RX4, rfl, by decide, in_X4, tyX4_ok, nmX4, Or.inl q1413, Or.inl rfl⟩
theorem nf_4_13 : hf_Nf 4 13 := ⟨(RX4, TX4, 37), rfl, rfl⟩
def ndX4_settles_0 (k0 : Int32 → hf_V → Option hf_V) (l1 : Int32) (V0 : hf_V) : Option hf_V :=
  if (V0.1 16) ≤ 0 then (some V0) else
  (hf_ld 400 (V0.2.2.2.1 15) ((V0.1 16) - (1 : Int32))).bind fun x1 =>
  (spX4_strength x1).bind fun x2 =>
  if x2 < l1 then (some V0) else
  hf_let (hf_ui V0 16 ((V0.1 16) - (1 : Int32))) fun V3 =>
  (hf_ld 400 (V3.2.2.2.1 15) (V3.1 16)).bind fun x4 =>
  (spX4_puts x4 (0 : Int32) V3).bind fun V5 =>
  (hf_ld 400 (V5.2.2.2.1 15) (V5.1 16)).bind fun x6 =>
  if x6 = (11 : Int32) then (hf_let (hf_ui V5 13 ((V5.1 13) - (1 : Int32))) fun V7 =>
  k0 l1 V7) else
  k0 l1 V5
theorem nlX4_settles_0 {C : hf_X} {om : Nat} {b : hf_H} (o : hf_In C cX4_settles RX4 2 (none) 1 22) (k0 : Int32 → hf_V → Option hf_V) (hk0 : ∀ (l1 : Int32) (V0 : hf_V), hf_J C (hf_dMV om b) (k0 l1 V0) (hf_M om b V0) 0 [(0, .ref om), (1, .int l1)] []) (l1 : Int32) (V0 : hf_V) : hf_J C (hf_dMV om b) (ndX4_settles_0 k0 l1 V0) (hf_M om b V0) 0 [(0, .ref om), (1, .int l1)] [] := by
  refine hr_aload_n o 0 dX4_settles_0 rfl ?_
  refine mr_get o flX4_148 dX4_settles_1 (.int (V0.1 16)) rfl ?_
  refine hr_if_le o 76 dX4_settles_4 (by decide) (fun _ => ?_) (fun _ => ?_)
  · exact hr_vret o dX4_settles_76 rfl
  refine hr_aload_n o 0 dX4_settles_7 rfl ?_
  refine mr_get o flX4_29 dX4_settles_8 (.ref (om + 7)) rfl ?_
  refine hr_aload_n o 0 dX4_settles_11 rfl ?_
  refine mr_get o flX4_148 dX4_settles_12 (.int (V0.1 16)) rfl ?_
  refine hr_iconst o (1 : Int32) dX4_settles_15 (by decide) ?_
  refine hr_isub o dX4_settles_16 ?_
  refine mr_iald o 15 7 400 rfl (by decide) rfl dX4_settles_17 (fun x1 => ?_)
  refine pr_callI o msX4_151 dX4_settles_18 [.int x1] (fun zr ze => mtX4_strength x1 zr ze) rfl rfl (Nat.le_of_ble_eq_true rfl) ⟨by decide, by decide⟩ (fun x2 => ?_)
  refine hr_iload_n o 1 dX4_settles_21 rfl ?_
  refine hr_icmp_lt o 76 dX4_settles_22 (by decide) (fun _ => ?_) (fun _ => ?_)
  · exact hr_vret o dX4_settles_76 rfl
  refine hr_aload_n o 0 dX4_settles_25 rfl ?_
  refine hr_dup o dX4_settles_26 rfl ?_
  refine mr_get o flX4_148 dX4_settles_27 (.int (V0.1 16)) rfl ?_
  refine hr_iconst o (1 : Int32) dX4_settles_30 (by decide) ?_
  refine hr_isub o dX4_settles_31 ?_
  refine mr_putI o flX4_148 dX4_settles_32 nf_4_16 rfl rfl (fun V3 => ?_)
  refine hr_aload_n o 0 dX4_settles_35 rfl ?_
  refine hr_aload_n o 0 dX4_settles_36 rfl ?_
  refine mr_get o flX4_29 dX4_settles_37 (.ref (om + 7)) rfl ?_
  refine hr_aload_n o 0 dX4_settles_40 rfl ?_
  refine mr_get o flX4_148 dX4_settles_41 (.int (V3.1 16)) rfl ?_
  refine mr_iald o 15 7 400 rfl (by decide) rfl dX4_settles_44 (fun x4 => ?_)
  refine hr_iconst o (0 : Int32) dX4_settles_45 (by decide) ?_
  refine mr_callV o mvX4_155 dX4_settles_46 [.int x4, .int (0 : Int32)] (fun zV ze => mtX4_puts x4 (0 : Int32) V3 zV ze) rfl rfl (Nat.le_of_ble_eq_true rfl) ⟨by decide, by decide⟩ (fun V5 => ?_)
  refine hr_aload_n o 0 dX4_settles_49 rfl ?_
  refine mr_get o flX4_29 dX4_settles_50 (.ref (om + 7)) rfl ?_
  refine hr_aload_n o 0 dX4_settles_53 rfl ?_
  refine mr_get o flX4_148 dX4_settles_54 (.int (V5.1 16)) rfl ?_
  refine mr_iald o 15 7 400 rfl (by decide) rfl dX4_settles_57 (fun x6 => ?_)
  refine hr_bipush o (11 : Int32) dX4_settles_58 (by decide) ?_
  refine hr_icmp_ne o 0 dX4_settles_60 (by decide) (fun _ => ?_) (fun _ => ?_)
  · refine hr_aload_n o 0 dX4_settles_63 rfl ?_
    refine hr_dup o dX4_settles_64 rfl ?_
    refine mr_get o flX4_145 dX4_settles_65 (.int (V5.1 13)) rfl ?_
    refine hr_iconst o (1 : Int32) dX4_settles_68 (by decide) ?_
    refine hr_isub o dX4_settles_69 ?_
    refine mr_putI o flX4_145 dX4_settles_70 nf_4_13 rfl rfl (fun V7 => ?_)
    refine hr_goto o 0 dX4_settles_73 (by decide) ?_
    exact hk0 l1 V7
  exact hk0 l1 V5
def lpX4_settles_0  : Nat → Int32 → hf_V → Option hf_V
  | 0 => fun _ _ => none
  | n + 1 => fun l1 V0 => ndX4_settles_0  (lpX4_settles_0  n) l1 V0
theorem llX4_settles_0 {C : hf_X} {om : Nat} {b : hf_H} (o : hf_In C cX4_settles RX4 2 (none) 1 22)   (n : Nat) : ∀ (l1 : Int32) (V0 : hf_V), hf_J C (hf_dMV om b) ((lpX4_settles_0  n) l1 V0) (hf_M om b V0) 0 [(0, .ref om), (1, .int l1)] [] := by
  induction n with
  | zero => exact fun _ _ => hr_none
  | succ n ih => exact fun l1 V0 => nlX4_settles_0 o  (lpX4_settles_0  n)  ih l1 V0
def spX4_settles (l1 : Int32) (V0 : hf_V) : Option hf_V :=
  lpX4_settles_0 hf_N l1 V0
theorem jtX4_settles {C : hf_X} {om : Nat} {b : hf_H} (o : hf_In C cX4_settles RX4 2 (none) 1 22) (l1 : Int32) (V0 : hf_V) : hf_J C (hf_dMV om b) (spX4_settles l1 V0) (hf_M om b V0) 0 [(0, .ref om), (1, .int l1)] [] := by
  exact llX4_settles_0 o hf_N l1 V0
theorem mtX4_settles {om : Nat} {b : hf_H} (l1 : Int32) (V0 V1 : hf_V) (e : spX4_settles l1 V0 = some V1) : hf_Con yX4_settles cX4_settles 2 (none) 1 22 [.ref om, .int l1] (hf_M om b V0) (.returned none, hf_M om b V1) := hf_entry (dec := hf_dMV om b) (by decide) [.ref om, .int l1] (Nat.le_of_ble_eq_true rfl) [(0, .ref om), (1, .int l1)] rfl e (fun C o _ => jtX4_settles o l1 V0)

/-! closes -/
theorem mvX4_190 : hf_MV RX4 190 RX4 yX4_isInside cX4_isInside 2 (some .boolean) 0 := ⟨lw_V q1689 q1691 qs97 q162 q1692, by decide +kernel⟩
theorem mvX4_187 : hf_MV RX4 187 RX4 yX4_settles cX4_settles 2 (none) 1 := ⟨lw_V q1682 q1684 qs96 q162 q1685, by decide +kernel⟩
def ndX4_closes_5 (k5 : hf_V → Option hf_V)  (V0 : hf_V) : Option hf_V :=
  hf_b2 (spX4_see V0) fun x2 V1 =>
  if x2 = (93 : Int32) then (hf_b2 (spX4_isInside V1) fun x4 V3 =>
  if x4 = 0 then (some V3) else
  (spX4_settles (1 : Int32) V3).bind fun V5 =>
  hf_let (hf_ui V5 16 ((V5.1 16) - (1 : Int32))) fun V6 =>
  hf_let (hf_ui V6 13 ((V6.1 13) - (1 : Int32))) fun V7 =>
  hf_let (hf_ui V7 8 ((V7.1 8) + (1 : Int32))) fun V8 =>
  (spX4_settles (3 : Int32) V8).bind fun V9 =>
  k5 V9) else
  some V1
theorem nlX4_closes_5 {C : hf_X} {om : Nat} {b : hf_H} (o : hf_In C cX4_closes RX4 1 (none) 2 43) (k5 : hf_V → Option hf_V) (hk5 : ∀ (V0 : hf_V), hf_J C (hf_dMV om b) (k5 V0) (hf_M om b V0) 5 [(0, .ref om)] [])  (V0 : hf_V) : hf_J C (hf_dMV om b) (ndX4_closes_5 k5 V0) (hf_M om b V0) 5 [(0, .ref om)] [] := by
  refine hr_aload_n o 0 dX4_closes_5 rfl ?_
  refine mr_callI o mvX4_84 dX4_closes_6 [] (fun zr zV ze => mtX4_see  V0 zr zV ze) rfl rfl (Nat.le_of_ble_eq_true rfl) ⟨by decide, by decide⟩ (fun x2 V1 => ?_)
  refine hr_bipush o (93 : Int32) dX4_closes_9 (by decide) ?_
  refine hr_icmp_ne o 64 dX4_closes_11 (by decide) (fun _ => ?_) (fun _ => ?_)
  · refine hr_aload_n o 0 dX4_closes_14 rfl ?_
    refine mr_callI o mvX4_190 dX4_closes_15 [] (fun zr zV ze => mtX4_isInside  V1 zr zV ze) rfl rfl (Nat.le_of_ble_eq_true rfl) ⟨by decide, by decide⟩ (fun x4 V3 => ?_)
    refine hr_if_eq o 64 dX4_closes_18 (by decide) (fun _ => ?_) (fun _ => ?_)
    · exact hr_vret o dX4_closes_64 rfl
    refine hr_aload_n o 0 dX4_closes_21 rfl ?_
    refine hr_iconst o (1 : Int32) dX4_closes_22 (by decide) ?_
    refine mr_callV o mvX4_187 dX4_closes_23 [.int (1 : Int32)] (fun zV ze => mtX4_settles (1 : Int32) V3 zV ze) rfl rfl (Nat.le_of_ble_eq_true rfl) ⟨by decide, by decide⟩ (fun V5 => ?_)
    refine hr_aload_n o 0 dX4_closes_26 rfl ?_
    refine hr_dup o dX4_closes_27 rfl ?_
    refine mr_get o flX4_148 dX4_closes_28 (.int (V5.1 16)) rfl ?_
    refine hr_iconst o (1 : Int32) dX4_closes_31 (by decide) ?_
    refine hr_isub o dX4_closes_32 ?_
    refine mr_putI o flX4_148 dX4_closes_33 nf_4_16 rfl rfl (fun V6 => ?_)
    refine hr_aload_n o 0 dX4_closes_36 rfl ?_
    refine hr_dup o dX4_closes_37 rfl ?_
    refine mr_get o flX4_145 dX4_closes_38 (.int (V6.1 13)) rfl ?_
    refine hr_iconst o (1 : Int32) dX4_closes_41 (by decide) ?_
    refine hr_isub o dX4_closes_42 ?_
    refine mr_putI o flX4_145 dX4_closes_43 nf_4_13 rfl rfl (fun V7 => ?_)
    refine hr_aload_n o 0 dX4_closes_46 rfl ?_
    refine hr_dup o dX4_closes_47 rfl ?_
    refine mr_get o flX4_81 dX4_closes_48 (.int (V7.1 8)) rfl ?_
    refine hr_iconst o (1 : Int32) dX4_closes_51 (by decide) ?_
    refine hr_iadd o dX4_closes_52 ?_
    refine mr_putI o flX4_81 dX4_closes_53 nf_4_8 rfl rfl (fun V8 => ?_)
    refine hr_aload_n o 0 dX4_closes_56 rfl ?_
    refine hr_iconst o (3 : Int32) dX4_closes_57 (by decide) ?_
    refine mr_callV o mvX4_187 dX4_closes_58 [.int (3 : Int32)] (fun zV ze => mtX4_settles (3 : Int32) V8 zV ze) rfl rfl (Nat.le_of_ble_eq_true rfl) ⟨by decide, by decide⟩ (fun V9 => ?_)
    refine hr_goto o 5 dX4_closes_61 (by decide) ?_
    exact hk5 V9
  exact hr_vret o dX4_closes_64 rfl
def lpX4_closes_5  : Nat → hf_V → Option hf_V
  | 0 => fun _ => none
  | n + 1 => fun V0 => ndX4_closes_5  (lpX4_closes_5  n) V0
theorem llX4_closes_5 {C : hf_X} {om : Nat} {b : hf_H} (o : hf_In C cX4_closes RX4 1 (none) 2 43)   (n : Nat) : ∀ (V0 : hf_V), hf_J C (hf_dMV om b) ((lpX4_closes_5  n) V0) (hf_M om b V0) 5 [(0, .ref om)] [] := by
  induction n with
  | zero => exact fun _ => hr_none
  | succ n ih => exact fun V0 => nlX4_closes_5 o  (lpX4_closes_5  n)  ih V0
def spX4_closes  (V0 : hf_V) : Option hf_V :=
  (spX4_settles (3 : Int32) V0).bind fun V1 =>
  lpX4_closes_5 hf_N V1
theorem jtX4_closes {C : hf_X} {om : Nat} {b : hf_H} (o : hf_In C cX4_closes RX4 1 (none) 2 43)  (V0 : hf_V) : hf_J C (hf_dMV om b) (spX4_closes V0) (hf_M om b V0) 0 [(0, .ref om)] [] := by
  refine hr_aload_n o 0 dX4_closes_0 rfl ?_
  refine hr_iconst o (3 : Int32) dX4_closes_1 (by decide) ?_
  refine mr_callV o mvX4_187 dX4_closes_2 [.int (3 : Int32)] (fun zV ze => mtX4_settles (3 : Int32) V0 zV ze) rfl rfl (Nat.le_of_ble_eq_true rfl) ⟨by decide, by decide⟩ (fun V1 => ?_)
  exact llX4_closes_5 o hf_N V1
theorem mtX4_closes {om : Nat} {b : hf_H}  (V0 V1 : hf_V) (e : spX4_closes V0 = some V1) : hf_Con yX4_closes cX4_closes 1 (none) 2 43 [.ref om] (hf_M om b V0) (.returned none, hf_M om b V1) := hf_entry (dec := hf_dMV om b) (by decide) [.ref om] (Nat.le_of_ble_eq_true rfl) [(0, .ref om)] rfl e (fun C o _ => jtX4_closes o V0)

/-! compare -/
theorem mvX4_176 : hf_MV RX4 176 RX4 yX4_sum cX4_sum 2 (some .boolean) 0 := ⟨lw_V q1620 q1622 qs84 q162 q1623, by decide +kernel⟩
def ndX4_compare_152  (s0 : Int32) (V0 : hf_V) : Option (Int32 × hf_V) :=
  hf_b2 (spX4_sum V0) fun x2 V1 =>
  if x2 = 0 then (some ((0 : Int32), V1)) else
  (spX4_puts ((6 : Int32) + s0) (0 : Int32) V1).bind fun V3 =>
  some ((1 : Int32), V3)
theorem nlX4_compare_152 {C : hf_X} {om : Nat} {b : hf_H} (o : hf_In C cX4_compare RX4 5 (some .boolean) 6 130)   (s0 : Int32) (V0 : hf_V) : hf_J C (hf_dMI om b) (ndX4_compare_152 s0 V0) (hf_M om b V0) 152 [(0, .ref om)] [.int s0] := by
  refine hr_istore o [(4, .int s0), (0, .ref om)] dX4_compare_152 (by decide) rfl ?_
  refine hr_aload_n o 1 dX4_compare_154 rfl ?_
  refine mr_callI o mvX4_176 dX4_compare_155 [] (fun zr zV ze => mtX4_sum  V0 zr zV ze) rfl rfl (Nat.le_of_ble_eq_true rfl) ⟨by decide, by decide⟩ (fun x2 V1 => ?_)
  refine hr_if_ne o 163 dX4_compare_158 (by decide) (fun _ => ?_) (fun _ => ?_)
  · refine hr_iconst o (0 : Int32) dX4_compare_161 (by decide) ?_
    exact hr_iret o dX4_compare_162 rfl (by decide)
  refine hr_aload_n o 1 dX4_compare_163 rfl ?_
  refine hr_bipush o (6 : Int32) dX4_compare_164 (by decide) ?_
  refine hr_iload o 0 dX4_compare_166 rfl ?_
  refine hr_iadd o dX4_compare_168 ?_
  refine hr_iconst o (0 : Int32) dX4_compare_169 (by decide) ?_
  refine mr_callV o mvX4_155 dX4_compare_170 [.int ((6 : Int32) + s0), .int (0 : Int32)] (fun zV ze => mtX4_puts ((6 : Int32) + s0) (0 : Int32) V1 zV ze) rfl rfl (Nat.le_of_ble_eq_true rfl) ⟨by decide, by decide⟩ (fun V3 => ?_)
  refine hr_iconst o (1 : Int32) dX4_compare_173 (by decide) ?_
  exact hr_iret o dX4_compare_174 rfl (by decide)
def ndX4_compare_105  (l1 : Int32) (l2 : Int32) (l3 : Int32) (V0 : hf_V) : Option (Int32 × hf_V) :=
  hf_b2 (spX4_makes l2 V0) fun x2 V1 =>
  if x2 = 0 then (some ((0 : Int32), V1)) else
  if l1 = (60 : Int32) then (if l3 = 0 then (ndX4_compare_152 (0 : Int32) V1) else
  ndX4_compare_152 (1 : Int32) V1) else
  if l1 = (61 : Int32) then (ndX4_compare_152 (2 : Int32) V1) else
  if l3 = 0 then (ndX4_compare_152 (4 : Int32) V1) else
  ndX4_compare_152 (3 : Int32) V1
theorem nlX4_compare_105 {C : hf_X} {om : Nat} {b : hf_H} (o : hf_In C cX4_compare RX4 5 (some .boolean) 6 130)   (l1 : Int32) (l2 : Int32) (l3 : Int32) (V0 : hf_V) : hf_J C (hf_dMI om b) (ndX4_compare_105 l1 l2 l3 V0) (hf_M om b V0) 105 [(0, .ref om), (1, .int l1), (2, .int l2), (3, .int l3)] [] := by
  refine hr_aload_n o 0 dX4_compare_105 rfl ?_
  refine hr_iload_n o 2 dX4_compare_106 rfl ?_
  refine mr_callI o mvX4_163 dX4_compare_107 [.int l2] (fun zr zV ze => mtX4_makes l2 V0 zr zV ze) rfl rfl (Nat.le_of_ble_eq_true rfl) ⟨by decide, by decide⟩ (fun x2 V1 => ?_)
  refine hr_if_ne o 115 dX4_compare_110 (by decide) (fun _ => ?_) (fun _ => ?_)
  · refine hr_iconst o (0 : Int32) dX4_compare_113 (by decide) ?_
    exact hr_iret o dX4_compare_114 rfl (by decide)
  refine hr_iload_n o 1 dX4_compare_115 rfl ?_
  refine hr_bipush o (60 : Int32) dX4_compare_116 (by decide) ?_
  refine hr_icmp_ne o 133 dX4_compare_118 (by decide) (fun _ => ?_) (fun _ => ?_)
  · refine hr_iload_n o 3 dX4_compare_121 rfl ?_
    refine hr_if_eq o 129 dX4_compare_122 (by decide) (fun _ => ?_) (fun _ => ?_)
    · refine hr_iconst o (0 : Int32) dX4_compare_129 (by decide) ?_
      refine hr_goto o 152 dX4_compare_130 (by decide) ?_
      refine hr_sub [0] rfl ?_
      exact nlX4_compare_152 o (0 : Int32) V1
    refine hr_iconst o (1 : Int32) dX4_compare_125 (by decide) ?_
    refine hr_goto o 152 dX4_compare_126 (by decide) ?_
    refine hr_sub [0] rfl ?_
    exact nlX4_compare_152 o (1 : Int32) V1
  refine hr_iload_n o 1 dX4_compare_133 rfl ?_
  refine hr_bipush o (61 : Int32) dX4_compare_134 (by decide) ?_
  refine hr_icmp_ne o 143 dX4_compare_136 (by decide) (fun _ => ?_) (fun _ => ?_)
  · refine hr_iconst o (2 : Int32) dX4_compare_139 (by decide) ?_
    refine hr_goto o 152 dX4_compare_140 (by decide) ?_
    refine hr_sub [0] rfl ?_
    exact nlX4_compare_152 o (2 : Int32) V1
  refine hr_iload_n o 3 dX4_compare_143 rfl ?_
  refine hr_if_eq o 151 dX4_compare_144 (by decide) (fun _ => ?_) (fun _ => ?_)
  · refine hr_iconst o (4 : Int32) dX4_compare_151 (by decide) ?_
    refine hr_sub [0] rfl ?_
    exact nlX4_compare_152 o (4 : Int32) V1
  refine hr_iconst o (3 : Int32) dX4_compare_147 (by decide) ?_
  refine hr_goto o 152 dX4_compare_148 (by decide) ?_
  refine hr_sub [0] rfl ?_
  exact nlX4_compare_152 o (3 : Int32) V1
def ndX4_compare_90  (l1 : Int32) (l2 : Int32) (s0 : Int32) (V0 : hf_V) : Option (Int32 × hf_V) :=
  if s0 = 0 then (ndX4_compare_105 l1 l2 s0 V0) else
  hf_let (hf_ui V0 8 ((V0.1 8) + (1 : Int32))) fun V1 =>
  ndX4_compare_105 l1 l2 s0 V1
theorem nlX4_compare_90 {C : hf_X} {om : Nat} {b : hf_H} (o : hf_In C cX4_compare RX4 5 (some .boolean) 6 130)   (l1 : Int32) (l2 : Int32) (s0 : Int32) (V0 : hf_V) : hf_J C (hf_dMI om b) (ndX4_compare_90 l1 l2 s0 V0) (hf_M om b V0) 90 [(0, .ref om), (1, .int l1), (2, .int l2)] [.int s0] := by
  refine hr_istore_n o [(3, .int s0), (0, .ref om), (1, .int l1), (2, .int l2)] dX4_compare_90 (by decide) rfl ?_
  refine hr_iload_n o 0 dX4_compare_91 rfl ?_
  refine hr_if_eq o 105 dX4_compare_92 (by decide) (fun _ => ?_) (fun _ => ?_)
  · refine hr_sub [1, 2, 3, 0] rfl ?_
    exact nlX4_compare_105 o l1 l2 s0 V0
  refine hr_aload_n o 1 dX4_compare_95 rfl ?_
  refine hr_dup o dX4_compare_96 rfl ?_
  refine mr_get o flX4_81 dX4_compare_97 (.int (V0.1 8)) rfl ?_
  refine hr_iconst o (1 : Int32) dX4_compare_100 (by decide) ?_
  refine hr_iadd o dX4_compare_101 ?_
  refine mr_putI o flX4_81 dX4_compare_102 nf_4_8 rfl rfl (fun V1 => ?_)
  refine hr_sub [1, 2, 3, 0] rfl ?_
  exact nlX4_compare_105 o l1 l2 s0 V1
def ndX4_compare_89  (l1 : Int32) (l2 : Int32) (V0 : hf_V) : Option (Int32 × hf_V) :=
  ndX4_compare_90 l1 l2 (0 : Int32) V0
theorem nlX4_compare_89 {C : hf_X} {om : Nat} {b : hf_H} (o : hf_In C cX4_compare RX4 5 (some .boolean) 6 130)   (l1 : Int32) (l2 : Int32) (V0 : hf_V) : hf_J C (hf_dMI om b) (ndX4_compare_89 l1 l2 V0) (hf_M om b V0) 89 [(0, .ref om), (1, .int l1), (2, .int l2)] [] := by
  refine hr_iconst o (0 : Int32) dX4_compare_89 (by decide) ?_
  exact nlX4_compare_90 o l1 l2 (0 : Int32) V0
def ndX4_compare_44  (l1 : Int32) (l2 : Int32) (V0 : hf_V) : Option (Int32 × hf_V) :=
  hf_let (hf_ui V0 8 ((V0.1 8) + (1 : Int32))) fun V1 =>
  if l1 = (61 : Int32) then (ndX4_compare_89 l1 l2 V1) else
  if (V1.1 1) ≤ (V1.1 8) then (ndX4_compare_89 l1 l2 V1) else
  (hf_ld 400 (V1.2.2.2.1 0) (V1.1 8)).bind fun x2 =>
  if x2 = (61 : Int32) then (ndX4_compare_90 l1 l2 (1 : Int32) V1) else
  ndX4_compare_89 l1 l2 V1
theorem nlX4_compare_44 {C : hf_X} {om : Nat} {b : hf_H} (o : hf_In C cX4_compare RX4 5 (some .boolean) 6 130)   (l1 : Int32) (l2 : Int32) (V0 : hf_V) : hf_J C (hf_dMI om b) (ndX4_compare_44 l1 l2 V0) (hf_M om b V0) 44 [(0, .ref om), (1, .int l1), (2, .int l2)] [] := by
  refine hr_aload_n o 0 dX4_compare_44 rfl ?_
  refine hr_dup o dX4_compare_45 rfl ?_
  refine mr_get o flX4_81 dX4_compare_46 (.int (V0.1 8)) rfl ?_
  refine hr_iconst o (1 : Int32) dX4_compare_49 (by decide) ?_
  refine hr_iadd o dX4_compare_50 ?_
  refine mr_putI o flX4_81 dX4_compare_51 nf_4_8 rfl rfl (fun V1 => ?_)
  refine hr_iload_n o 1 dX4_compare_54 rfl ?_
  refine hr_bipush o (61 : Int32) dX4_compare_55 (by decide) ?_
  refine hr_icmp_eq o 89 dX4_compare_57 (by decide) (fun _ => ?_) (fun _ => ?_)
  · exact nlX4_compare_89 o l1 l2 V1
  refine hr_aload_n o 0 dX4_compare_60 rfl ?_
  refine mr_get o flX4_81 dX4_compare_61 (.int (V1.1 8)) rfl ?_
  refine hr_aload_n o 0 dX4_compare_64 rfl ?_
  refine mr_get o flX4_70 dX4_compare_65 (.int (V1.1 1)) rfl ?_
  refine hr_icmp_ge o 89 dX4_compare_68 (by decide) (fun _ => ?_) (fun _ => ?_)
  · exact nlX4_compare_89 o l1 l2 V1
  refine hr_aload_n o 0 dX4_compare_71 rfl ?_
  refine mr_get o flX4_7 dX4_compare_72 (.ref (om + 1)) rfl ?_
  refine hr_aload_n o 0 dX4_compare_75 rfl ?_
  refine mr_get o flX4_81 dX4_compare_76 (.int (V1.1 8)) rfl ?_
  refine mr_bald o 0 1 400 rfl (by decide) rfl dX4_compare_79 (fun x2 => ?_)
  refine hr_bipush o (61 : Int32) dX4_compare_80 (by decide) ?_
  refine hr_icmp_ne o 89 dX4_compare_82 (by decide) (fun _ => ?_) (fun _ => ?_)
  · refine hr_iconst o (1 : Int32) dX4_compare_85 (by decide) ?_
    refine hr_goto o 90 dX4_compare_86 (by decide) ?_
    exact nlX4_compare_90 o l1 l2 (1 : Int32) V1
  exact nlX4_compare_89 o l1 l2 V1
def spX4_compare  (V0 : hf_V) : Option (Int32 × hf_V) :=
  hf_b2 (spX4_sum V0) fun x2 V1 =>
  if x2 = 0 then (some ((0 : Int32), V1)) else
  hf_b2 (spX4_see V1) fun x4 V3 =>
  hf_let (V3.1 8) fun x5 =>
  if x4 = (60 : Int32) then (ndX4_compare_44 x4 x5 V3) else
  if x4 = (61 : Int32) then (ndX4_compare_44 x4 x5 V3) else
  if x4 = (62 : Int32) then (ndX4_compare_44 x4 x5 V3) else
  hf_b2 (spX4_fails (0 : Int32) x5 V3) fun x7 V6 =>
  if x7 = 0 ∨ x7 = 1 then some (x7, V6) else none
theorem jtX4_compare {C : hf_X} {om : Nat} {b : hf_H} (o : hf_In C cX4_compare RX4 5 (some .boolean) 6 130)  (V0 : hf_V) : hf_J C (hf_dMI om b) (spX4_compare V0) (hf_M om b V0) 0 [(0, .ref om)] [] := by
  refine hr_aload_n o 0 dX4_compare_0 rfl ?_
  refine mr_callI o mvX4_176 dX4_compare_1 [] (fun zr zV ze => mtX4_sum  V0 zr zV ze) rfl rfl (Nat.le_of_ble_eq_true rfl) ⟨by decide, by decide⟩ (fun x2 V1 => ?_)
  refine hr_if_ne o 9 dX4_compare_4 (by decide) (fun _ => ?_) (fun _ => ?_)
  · refine hr_iconst o (0 : Int32) dX4_compare_7 (by decide) ?_
    exact hr_iret o dX4_compare_8 rfl (by decide)
  refine hr_aload_n o 0 dX4_compare_9 rfl ?_
  refine mr_callI o mvX4_84 dX4_compare_10 [] (fun zr zV ze => mtX4_see  V1 zr zV ze) rfl rfl (Nat.le_of_ble_eq_true rfl) ⟨by decide, by decide⟩ (fun x4 V3 => ?_)
  refine hr_istore_n o [(1, .int x4), (0, .ref om)] dX4_compare_13 (by decide) rfl ?_
  refine hr_aload_n o 1 dX4_compare_14 rfl ?_
  refine mr_get o flX4_81 dX4_compare_15 (.int (V3.1 8)) rfl ?_
  refine hr_nmI (fun x5 => ?_)
  refine hr_istore_n o [(2, .int x5), (1, .int x4), (0, .ref om)] dX4_compare_18 (by decide) rfl ?_
  refine hr_iload_n o 1 dX4_compare_19 rfl ?_
  refine hr_bipush o (60 : Int32) dX4_compare_20 (by decide) ?_
  refine hr_icmp_eq o 44 dX4_compare_22 (by decide) (fun _ => ?_) (fun _ => ?_)
  · refine hr_sub [2, 1, 0] rfl ?_
    exact nlX4_compare_44 o x4 x5 V3
  refine hr_iload_n o 1 dX4_compare_25 rfl ?_
  refine hr_bipush o (61 : Int32) dX4_compare_26 (by decide) ?_
  refine hr_icmp_eq o 44 dX4_compare_28 (by decide) (fun _ => ?_) (fun _ => ?_)
  · refine hr_sub [2, 1, 0] rfl ?_
    exact nlX4_compare_44 o x4 x5 V3
  refine hr_iload_n o 1 dX4_compare_31 rfl ?_
  refine hr_bipush o (62 : Int32) dX4_compare_32 (by decide) ?_
  refine hr_icmp_eq o 44 dX4_compare_34 (by decide) (fun _ => ?_) (fun _ => ?_)
  · refine hr_sub [2, 1, 0] rfl ?_
    exact nlX4_compare_44 o x4 x5 V3
  refine hr_aload_n o 2 dX4_compare_37 rfl ?_
  refine hr_iconst o (0 : Int32) dX4_compare_38 (by decide) ?_
  refine hr_iload_n o 0 dX4_compare_39 rfl ?_
  refine mr_callI o mvX4_102 dX4_compare_40 [.int (0 : Int32), .int x5] (fun zr zV ze => mtX4_fails (0 : Int32) x5 V3 zr zV ze) rfl rfl (Nat.le_of_ble_eq_true rfl) ⟨by decide, by decide⟩ (fun x7 V6 => ?_)
  refine hr_ck (fun hz => ?_)
  exact hr_iret o dX4_compare_43 rfl (hf_nz hz)
theorem mtX4_compare {om : Nat} {b : hf_H}  (V0 : hf_V) (r : Int32) (V1 : hf_V) (e : spX4_compare V0 = some (r, V1)) : hf_Con yX4_compare cX4_compare 5 (some .boolean) 6 130 [.ref om] (hf_M om b V0) (.returned (some (.int r)), hf_M om b V1) := hf_entry (dec := hf_dMI om b) (by decide) [.ref om] (Nat.le_of_ble_eq_true rfl) [(0, .ref om)] rfl e (fun C o _ => jtX4_compare o V0)
