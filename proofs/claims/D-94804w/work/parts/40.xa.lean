set_option maxRecDepth 100000
set_option maxHeartbeats 4000000
/-! J14_bitCount -/
def spJ14_bitCount (l0 : Int32) : Option Int32 :=
  hf_let (l0 - ((Int32.toUInt32 l0 >>> (Int32.toUInt32 (1 : Int32) &&& Int32.toUInt32 31)).toInt32 &&& (1431655765 : Int32))) fun x1 =>
  hf_let ((x1 &&& (858993459 : Int32)) + ((Int32.toUInt32 x1 >>> (Int32.toUInt32 (2 : Int32) &&& Int32.toUInt32 31)).toInt32 &&& (858993459 : Int32))) fun x2 =>
  hf_let ((x2 + (Int32.toUInt32 x2 >>> (Int32.toUInt32 (4 : Int32) &&& Int32.toUInt32 31)).toInt32) &&& (252645135 : Int32)) fun x3 =>
  hf_let (x3 + (Int32.toUInt32 x3 >>> (Int32.toUInt32 (8 : Int32) &&& Int32.toUInt32 31)).toInt32) fun x4 =>
  hf_let (x4 + (Int32.toUInt32 x4 >>> (Int32.toUInt32 (16 : Int32) &&& Int32.toUInt32 31)).toInt32) fun x5 =>
  some (x5 &&& (63 : Int32))
theorem jtJ14_bitCount {C : hf_X} {h : hf_H} (o : hf_In C cJ14_bitCount RJ14 1 (some .int) 0 0) (l0 : Int32) : hf_J C (hf_dPI h) (spJ14_bitCount l0) h 0 [(0, .int l0)] [] := by
  refine hr_iload_n o 0 dJ14_bitCount_0 rfl ?_
  refine hr_iload_n o 0 dJ14_bitCount_1 rfl ?_
  refine hr_iconst o (1 : Int32) dJ14_bitCount_2 (by decide) ?_
  refine hr_iushr o dJ14_bitCount_3 ?_
  refine hr_ldcw o (1431655765 : Int32) q1139 dJ14_bitCount_4 ?_
  refine hr_iand o dJ14_bitCount_7 ?_
  refine hr_isub o dJ14_bitCount_8 ?_
  refine hr_nmI (fun x1 => ?_)
  refine hr_istore_n o [(0, .int x1)] dJ14_bitCount_9 (by decide) rfl ?_
  refine hr_iload_n o 0 dJ14_bitCount_10 rfl ?_
  refine hr_ldcw o (858993459 : Int32) q1140 dJ14_bitCount_11 ?_
  refine hr_iand o dJ14_bitCount_14 ?_
  refine hr_iload_n o 0 dJ14_bitCount_15 rfl ?_
  refine hr_iconst o (2 : Int32) dJ14_bitCount_16 (by decide) ?_
  refine hr_iushr o dJ14_bitCount_17 ?_
  refine hr_ldcw o (858993459 : Int32) q1140 dJ14_bitCount_18 ?_
  refine hr_iand o dJ14_bitCount_21 ?_
  refine hr_iadd o dJ14_bitCount_22 ?_
  refine hr_nmI (fun x2 => ?_)
  refine hr_istore_n o [(0, .int x2)] dJ14_bitCount_23 (by decide) rfl ?_
  refine hr_iload_n o 0 dJ14_bitCount_24 rfl ?_
  refine hr_iload_n o 0 dJ14_bitCount_25 rfl ?_
  refine hr_iconst o (4 : Int32) dJ14_bitCount_26 (by decide) ?_
  refine hr_iushr o dJ14_bitCount_27 ?_
  refine hr_iadd o dJ14_bitCount_28 ?_
  refine hr_ldcw o (252645135 : Int32) q1141 dJ14_bitCount_29 ?_
  refine hr_iand o dJ14_bitCount_32 ?_
  refine hr_nmI (fun x3 => ?_)
  refine hr_istore_n o [(0, .int x3)] dJ14_bitCount_33 (by decide) rfl ?_
  refine hr_iload_n o 0 dJ14_bitCount_34 rfl ?_
  refine hr_iload_n o 0 dJ14_bitCount_35 rfl ?_
  refine hr_bipush o (8 : Int32) dJ14_bitCount_36 (by decide) ?_
  refine hr_iushr o dJ14_bitCount_38 ?_
  refine hr_iadd o dJ14_bitCount_39 ?_
  refine hr_nmI (fun x4 => ?_)
  refine hr_istore_n o [(0, .int x4)] dJ14_bitCount_40 (by decide) rfl ?_
  refine hr_iload_n o 0 dJ14_bitCount_41 rfl ?_
  refine hr_iload_n o 0 dJ14_bitCount_42 rfl ?_
  refine hr_bipush o (16 : Int32) dJ14_bitCount_43 (by decide) ?_
  refine hr_iushr o dJ14_bitCount_45 ?_
  refine hr_iadd o dJ14_bitCount_46 ?_
  refine hr_nmI (fun x5 => ?_)
  refine hr_istore_n o [(0, .int x5)] dJ14_bitCount_47 (by decide) rfl ?_
  refine hr_iload_n o 0 dJ14_bitCount_48 rfl ?_
  refine hr_bipush o (63 : Int32) dJ14_bitCount_49 (by decide) ?_
  refine hr_iand o dJ14_bitCount_51 ?_
  exact hr_iret o dJ14_bitCount_52 rfl rfl
theorem mtJ14_bitCount {h : hf_H} (l0 : Int32) (r : Int32) (e : spJ14_bitCount l0 = some r) : hf_Con yJ14_bitCount cJ14_bitCount 1 (some .int) 0 0 [.int l0] h (.returned (some (.int r)), h) := hf_entry (dec := hf_dPI h) (by decide) [.int l0] (Nat.le_of_ble_eq_true rfl) [(0, .int l0)] rfl e (fun C o _ => jtJ14_bitCount o l0)

/-! J7_checkIndex -/
def ndJ7_checkIndex_9  (l0 : Int32) (l1 : Int32) (l2 : Option Nat) : Option Int32 :=
  none
theorem nlJ7_checkIndex_9 {C : hf_X} {h : hf_H} (o : hf_In C cJ7_checkIndex RJ7 3 (some .int) 0 0)   (l0 : Int32) (l1 : Int32) (l2 : Option Nat) : hf_J C (hf_dPI h) (ndJ7_checkIndex_9 l0 l1 l2) h 9 [(0, .int l0), (1, .int l1), (2, va_rf l2)] [] := by
  refine hr_aload_nQ o 2 dJ7_checkIndex_9 rfl ?_
  refine hr_iload_n o 0 dJ7_checkIndex_10 rfl ?_
  refine hr_iload_n o 1 dJ7_checkIndex_11 rfl ?_
  exact hr_none
def spJ7_checkIndex (l0 : Int32) (l1 : Int32) (l2 : Option Nat) : Option Int32 :=
  if l0 < 0 then (ndJ7_checkIndex_9 l0 l1 l2) else
  if l0 < l1 then (some l0) else
  ndJ7_checkIndex_9 l0 l1 l2
theorem jtJ7_checkIndex {C : hf_X} {h : hf_H} (o : hf_In C cJ7_checkIndex RJ7 3 (some .int) 0 0) (l0 : Int32) (l1 : Int32) (l2 : Option Nat) : hf_J C (hf_dPI h) (spJ7_checkIndex l0 l1 l2) h 0 [(0, .int l0), (1, .int l1), (2, va_rf l2)] [] := by
  refine hr_iload_n o 0 dJ7_checkIndex_0 rfl ?_
  refine hr_if_lt o 9 dJ7_checkIndex_1 (by decide) (fun _ => ?_) (fun _ => ?_)
  · exact nlJ7_checkIndex_9 o l0 l1 l2
  refine hr_iload_n o 0 dJ7_checkIndex_4 rfl ?_
  refine hr_iload_n o 1 dJ7_checkIndex_5 rfl ?_
  refine hr_icmp_lt o 16 dJ7_checkIndex_6 (by decide) (fun _ => ?_) (fun _ => ?_)
  · refine hr_iload_n o 0 dJ7_checkIndex_16 rfl ?_
    exact hr_iret o dJ7_checkIndex_17 rfl rfl
  exact nlJ7_checkIndex_9 o l0 l1 l2
theorem mtJ7_checkIndex {h : hf_H} (l0 : Int32) (l1 : Int32) (l2 : Option Nat) (r : Int32) (e : spJ7_checkIndex l0 l1 l2 = some r) : hf_Con yJ7_checkIndex cJ7_checkIndex 3 (some .int) 0 0 [.int l0, .int l1, va_rf l2] h (.returned (some (.int r)), h) := hf_entry (dec := hf_dPI h) (by decide) [.int l0, .int l1, va_rf l2] (by cases l2 <;> exact Nat.le_of_ble_eq_true rfl) [(0, .int l0), (1, .int l1), (2, va_rf l2)] (by cases l2 <;> rfl) e (fun C o _ => jtJ7_checkIndex o l0 l1 l2)

/-! J13_checkIndex -/
theorem msJ13_105 : hf_MS RJ13 105 yJ7_checkIndex cJ7_checkIndex 3 (some .int) 3 := ⟨lw_S q771 q573 q166 q574, by decide +kernel⟩
def spJ13_checkIndex (l0 : Int32) (l1 : Int32) : Option Int32 :=
  (spJ7_checkIndex l0 l1 none).bind fun x1 =>
  some x1
theorem jtJ13_checkIndex {C : hf_X} {h : hf_H} (o : hf_In C cJ13_checkIndex RJ13 2 (some .int) 1 22) (l0 : Int32) (l1 : Int32) : hf_J C (hf_dPI h) (spJ13_checkIndex l0 l1) h 0 [(0, .int l0), (1, .int l1)] [] := by
  refine hr_iload_n o 0 dJ13_checkIndex_0 rfl ?_
  refine hr_iload_n o 1 dJ13_checkIndex_1 rfl ?_
  refine hx_null o dJ13_checkIndex_2 ?_
  refine pr_callI o msJ13_105 dJ13_checkIndex_3 [.int l0, .int l1, .null] (fun zr ze => mtJ7_checkIndex l0 l1 none zr ze) rfl rfl (Nat.le_of_ble_eq_true rfl) ⟨by decide, by decide⟩ (fun x1 => ?_)
  exact hr_iret o dJ13_checkIndex_6 rfl rfl
theorem mtJ13_checkIndex {h : hf_H} (l0 : Int32) (l1 : Int32) (r : Int32) (e : spJ13_checkIndex l0 l1 = some r) : hf_Con yJ13_checkIndex cJ13_checkIndex 2 (some .int) 1 22 [.int l0, .int l1] h (.returned (some (.int r)), h) := hf_entry (dec := hf_dPI h) (by decide) [.int l0, .int l1] (Nat.le_of_ble_eq_true rfl) [(0, .int l0), (1, .int l1)] rfl e (fun C o _ => jtJ13_checkIndex o l0 l1)

/-! X0_in -/
def spX0_in (l0 : Int64) (l2 : Int64) (l4 : Int64) : Option Int32 :=
  if (lg_cmp l0 l2) < 0 then (some (0 : Int32)) else
  if 0 < (lg_cmp l0 l4) then (some (0 : Int32)) else
  some (1 : Int32)
theorem jtX0_in {C : hf_X} {h : hf_H} (o : hf_In C cX0_in RX0 6 (some .boolean) 0 0) (l0 : Int64) (l2 : Int64) (l4 : Int64) : hf_J C (hf_dPI h) (spX0_in l0 l2 l4) h 0 [(0, .long l0), (2, .long l2), (4, .long l4)] [] := by
  refine hr_lload_n o 0 dX0_in_0 rfl ?_
  refine hr_lload_n o 1 dX0_in_1 rfl ?_
  refine hr_lcmp o dX0_in_2 ?_
  refine hr_if_lt o 17 dX0_in_3 (by decide) (fun _ => ?_) (fun _ => ?_)
  · refine hr_iconst o (0 : Int32) dX0_in_17 (by decide) ?_
    exact hr_iret o dX0_in_18 rfl (by decide)
  refine hr_lload_n o 0 dX0_in_6 rfl ?_
  refine hr_lload o 2 dX0_in_7 rfl ?_
  refine hr_lcmp o dX0_in_9 ?_
  refine hr_if_gt o 17 dX0_in_10 (by decide) (fun _ => ?_) (fun _ => ?_)
  · refine hr_iconst o (0 : Int32) dX0_in_17 (by decide) ?_
    exact hr_iret o dX0_in_18 rfl (by decide)
  refine hr_iconst o (1 : Int32) dX0_in_13 (by decide) ?_
  refine hr_goto o 18 dX0_in_14 (by decide) ?_
  exact hr_iret o dX0_in_18 rfl (by decide)
theorem mtX0_in {h : hf_H} (l0 : Int64) (l2 : Int64) (l4 : Int64) (r : Int32) (e : spX0_in l0 l2 l4 = some r) : hf_Con yX0_in cX0_in 6 (some .boolean) 0 0 [.long l0, .long l2, .long l4] h (.returned (some (.int r)), h) := hf_entry (dec := hf_dPI h) (by decide) [.long l0, .long l2, .long l4] (Nat.le_of_ble_eq_true rfl) [(0, .long l0), (2, .long l2), (4, .long l4)] rfl e (fun C o _ => jtX0_in o l0 l2 l4)

/-! X0_has -/
def spX0_has (l0 : Int32) (l1 : Int32) : Option Int32 :=
  if ((l0 >>> (l1 &&& 31)) &&& (1 : Int32)) = (1 : Int32) then (some (1 : Int32)) else
  some (0 : Int32)
theorem jtX0_has {C : hf_X} {h : hf_H} (o : hf_In C cX0_has RX0 2 (some .boolean) 0 0) (l0 : Int32) (l1 : Int32) : hf_J C (hf_dPI h) (spX0_has l0 l1) h 0 [(0, .int l0), (1, .int l1)] [] := by
  refine hr_iload_n o 0 dX0_has_0 rfl ?_
  refine hr_iload_n o 1 dX0_has_1 rfl ?_
  refine hr_ishr o dX0_has_2 ?_
  refine hr_iconst o (1 : Int32) dX0_has_3 (by decide) ?_
  refine hr_iand o dX0_has_4 ?_
  refine hr_iconst o (1 : Int32) dX0_has_5 (by decide) ?_
  refine hr_icmp_ne o 13 dX0_has_6 (by decide) (fun _ => ?_) (fun _ => ?_)
  · refine hr_iconst o (1 : Int32) dX0_has_9 (by decide) ?_
    refine hr_goto o 14 dX0_has_10 (by decide) ?_
    exact hr_iret o dX0_has_14 rfl (by decide)
  refine hr_iconst o (0 : Int32) dX0_has_13 (by decide) ?_
  exact hr_iret o dX0_has_14 rfl (by decide)
theorem mtX0_has {h : hf_H} (l0 : Int32) (l1 : Int32) (r : Int32) (e : spX0_has l0 l1 = some r) : hf_Con yX0_has cX0_has 2 (some .boolean) 0 0 [.int l0, .int l1] h (.returned (some (.int r)), h) := hf_entry (dec := hf_dPI h) (by decide) [.int l0, .int l1] (Nat.le_of_ble_eq_true rfl) [(0, .int l0), (1, .int l1)] rfl e (fun C o _ => jtX0_has o l0 l1)

/-! X0_bit -/
def spX0_bit (l0 : Int32) : Option Int32 :=
  if l0 = 0 then (some (0 : Int32)) else
  some (1 : Int32)
theorem jtX0_bit {C : hf_X} {h : hf_H} (o : hf_In C cX0_bit RX0 1 (some .int) 0 0) (l0 : Int32) : hf_J C (hf_dPI h) (spX0_bit l0) h 0 [(0, .int l0)] [] := by
  refine hr_iload_n o 0 dX0_bit_0 rfl ?_
  refine hr_if_eq o 8 dX0_bit_1 (by decide) (fun _ => ?_) (fun _ => ?_)
  · refine hr_iconst o (0 : Int32) dX0_bit_8 (by decide) ?_
    exact hr_iret o dX0_bit_9 rfl rfl
  refine hr_iconst o (1 : Int32) dX0_bit_4 (by decide) ?_
  refine hr_goto o 9 dX0_bit_5 (by decide) ?_
  exact hr_iret o dX0_bit_9 rfl rfl
theorem mtX0_bit {h : hf_H} (l0 : Int32) (r : Int32) (e : spX0_bit l0 = some r) : hf_Con yX0_bit cX0_bit 1 (some .int) 0 0 [.int l0] h (.returned (some (.int r)), h) := hf_entry (dec := hf_dPI h) (by decide) [.int l0] (Nat.le_of_ble_eq_true rfl) [(0, .int l0)] rfl e (fun C o _ => jtX0_bit o l0)

/-! X0_least -/
theorem msX0_175 : hf_MS RX0 175 yX0_has cX0_has 2 (some .boolean) 2 := ⟨lw_S q997 q742 q153 q743, by decide +kernel⟩
def ndX0_least_2 (k2 : Int32 → Int32 → Option Int32) (l0 : Int32) (l1 : Int32) : Option Int32 :=
  (spX0_has l0 l1).bind fun x1 =>
  if x1 = 0 then (hf_let (l1 + (1 : Int32)) fun x2 =>
  k2 l0 x2) else
  some l1
theorem nlX0_least_2 {C : hf_X} {h : hf_H} (o : hf_In C cX0_least RX0 2 (some .int) 1 21) (k2 : Int32 → Int32 → Option Int32) (hk2 : ∀ (l0 : Int32) (l1 : Int32), hf_J C (hf_dPI h) (k2 l0 l1) h 2 [(0, .int l0), (1, .int l1)] []) (l0 : Int32) (l1 : Int32) : hf_J C (hf_dPI h) (ndX0_least_2 k2 l0 l1) h 2 [(0, .int l0), (1, .int l1)] [] := by
  refine hr_iload_n o 0 dX0_least_2 rfl ?_
  refine hr_iload_n o 1 dX0_least_3 rfl ?_
  refine pr_callI o msX0_175 dX0_least_4 [.int l0, .int l1] (fun zr ze => mtX0_has l0 l1 zr ze) rfl rfl (Nat.le_of_ble_eq_true rfl) ⟨by decide, by decide⟩ (fun x1 => ?_)
  refine hr_if_ne o 16 dX0_least_7 (by decide) (fun _ => ?_) (fun _ => ?_)
  · refine hr_iincN o (1 : Int32) 1 (fun y => [(1, .int y), (0, .int l0)]) dX0_least_10 rfl (by decide) (by decide) (fun y => rfl) (fun x2 => ?_)
    refine hr_goto o 2 dX0_least_13 (by decide) ?_
    refine hr_sub [1, 0] rfl ?_
    exact hk2 l0 x2
  refine hr_iload_n o 1 dX0_least_16 rfl ?_
  exact hr_iret o dX0_least_17 rfl rfl
def lpX0_least_2  : Nat → Int32 → Int32 → Option Int32
  | 0 => fun _ _ => none
  | n + 1 => fun l0 l1 => ndX0_least_2  (lpX0_least_2  n) l0 l1
theorem llX0_least_2 {C : hf_X} {h : hf_H} (o : hf_In C cX0_least RX0 2 (some .int) 1 21)   (n : Nat) : ∀ (l0 : Int32) (l1 : Int32), hf_J C (hf_dPI h) ((lpX0_least_2  n) l0 l1) h 2 [(0, .int l0), (1, .int l1)] [] := by
  induction n with
  | zero => exact fun _ _ => hr_none
  | succ n ih => exact fun l0 l1 => nlX0_least_2 o  (lpX0_least_2  n)  ih l0 l1
def spX0_least (l0 : Int32) : Option Int32 :=
  lpX0_least_2 hf_N l0 (0 : Int32)
theorem jtX0_least {C : hf_X} {h : hf_H} (o : hf_In C cX0_least RX0 2 (some .int) 1 21) (l0 : Int32) : hf_J C (hf_dPI h) (spX0_least l0) h 0 [(0, .int l0)] [] := by
  refine hr_iconst o (0 : Int32) dX0_least_0 (by decide) ?_
  refine hr_istore_n o [(1, .int (0 : Int32)), (0, .int l0)] dX0_least_1 (by decide) rfl ?_
  refine hr_sub [1, 0] rfl ?_
  exact llX0_least_2 o hf_N l0 (0 : Int32)
theorem mtX0_least {h : hf_H} (l0 : Int32) (r : Int32) (e : spX0_least l0 = some r) : hf_Con yX0_least cX0_least 2 (some .int) 1 21 [.int l0] h (.returned (some (.int r)), h) := hf_entry (dec := hf_dPI h) (by decide) [.int l0] (Nat.le_of_ble_eq_true rfl) [(0, .int l0)] rfl e (fun C o _ => jtX0_least o l0)

/-! X0_divisor -/
def ndX0_divisor_4 (k4 : Int32 → Int32 → Option Int32) (l2 : Int32) (l3 : Int32) : Option Int32 :=
  if l2 = 0 then (some l3) else
  if l2 = 0 then none else
  hf_let (l3 - l3 / l2 * l2) fun x1 =>
  k4 x1 l2
theorem nlX0_divisor_4 {C : hf_X} {h : hf_H} (o : hf_In C cX0_divisor RX0 5 (some .int) 0 0) (k4 : Int32 → Int32 → Option Int32) (hk4 : ∀ (l2 : Int32) (l3 : Int32), hf_J C (hf_dPI h) (k4 l2 l3) h 4 [(2, .int l2), (3, .int l3)] []) (l2 : Int32) (l3 : Int32) : hf_J C (hf_dPI h) (ndX0_divisor_4 k4 l2 l3) h 4 [(2, .int l2), (3, .int l3)] [] := by
  refine hr_iload_n o 0 dX0_divisor_4 rfl ?_
  refine hr_if_eq o 21 dX0_divisor_5 (by decide) (fun _ => ?_) (fun _ => ?_)
  · refine hr_iload_n o 1 dX0_divisor_21 rfl ?_
    exact hr_iret o dX0_divisor_22 rfl rfl
  refine hr_iload_n o 1 dX0_divisor_8 rfl ?_
  refine hr_iload_n o 0 dX0_divisor_9 rfl ?_
  refine hr_irem o dX0_divisor_10 (fun _ => ?_)
  refine hr_nmI (fun x1 => ?_)
  refine hr_istore o [(4, .int x1), (2, .int l2), (3, .int l3)] dX0_divisor_11 (by decide) rfl ?_
  refine hr_iload_n o 1 dX0_divisor_13 rfl ?_
  refine hr_istore_n o [(3, .int l2), (4, .int x1), (2, .int l2)] dX0_divisor_14 (by decide) rfl ?_
  refine hr_iload o 1 dX0_divisor_15 rfl ?_
  refine hr_istore_n o [(2, .int x1), (3, .int l2), (4, .int x1)] dX0_divisor_17 (by decide) rfl ?_
  refine hr_goto o 4 dX0_divisor_18 (by decide) ?_
  refine hr_sub [0, 1] rfl ?_
  exact hk4 x1 l2
def lpX0_divisor_4  : Nat → Int32 → Int32 → Option Int32
  | 0 => fun _ _ => none
  | n + 1 => fun l2 l3 => ndX0_divisor_4  (lpX0_divisor_4  n) l2 l3
theorem llX0_divisor_4 {C : hf_X} {h : hf_H} (o : hf_In C cX0_divisor RX0 5 (some .int) 0 0)   (n : Nat) : ∀ (l2 : Int32) (l3 : Int32), hf_J C (hf_dPI h) ((lpX0_divisor_4  n) l2 l3) h 4 [(2, .int l2), (3, .int l3)] [] := by
  induction n with
  | zero => exact fun _ _ => hr_none
  | succ n ih => exact fun l2 l3 => nlX0_divisor_4 o  (lpX0_divisor_4  n)  ih l2 l3
def spX0_divisor (l0 : Int32) (l1 : Int32) : Option Int32 :=
  lpX0_divisor_4 hf_N l0 l1
theorem jtX0_divisor {C : hf_X} {h : hf_H} (o : hf_In C cX0_divisor RX0 5 (some .int) 0 0) (l0 : Int32) (l1 : Int32) : hf_J C (hf_dPI h) (spX0_divisor l0 l1) h 0 [(0, .int l0), (1, .int l1)] [] := by
  refine hr_iload_n o 0 dX0_divisor_0 rfl ?_
  refine hr_istore_n o [(2, .int l0), (0, .int l0), (1, .int l1)] dX0_divisor_1 (by decide) rfl ?_
  refine hr_iload_n o 2 dX0_divisor_2 rfl ?_
  refine hr_istore_n o [(3, .int l1), (2, .int l0), (0, .int l0), (1, .int l1)] dX0_divisor_3 (by decide) rfl ?_
  refine hr_sub [1, 0] rfl ?_
  exact llX0_divisor_4 o hf_N l0 l1
theorem mtX0_divisor {h : hf_H} (l0 : Int32) (l1 : Int32) (r : Int32) (e : spX0_divisor l0 l1 = some r) : hf_Con yX0_divisor cX0_divisor 5 (some .int) 0 0 [.int l0, .int l1] h (.returned (some (.int r)), h) := hf_entry (dec := hf_dPI h) (by decide) [.int l0, .int l1] (Nat.le_of_ble_eq_true rfl) [(0, .int l0), (1, .int l1)] rfl e (fun C o _ => jtX0_divisor o l0 l1)

/-! J2_size -/
theorem flJ2_48 : hf_Fl RJ2 48 19 2 := ⟨(RJ2, TJ2, 3), RJ2, rfl, by decide, in_J2, tyJ2_ok, nmJ2, Or.inl q219, Or.inl rfl⟩
def spJ2_size (l0 : Nat) (V0 : hf_H) : Option (Int32 × hf_H) :=
  (hf_gi 0 19 2 V0 l0).bind fun x1 =>
  some (x1, V0)
theorem jtJ2_size {C : hf_X} {gs : hf_gs} (o : hf_In C cJ2_size RJ2 1 (some .int) 0 0) (og : hf_G C gs) (l0 : Nat) (V0 : hf_H) : hf_J C hf_dHI (spJ2_size l0 V0) V0 0 [(0, .ref l0)] [] := by
  refine hr_aload_n o 0 dJ2_size_0 rfl ?_
  refine hr_getI (md := 0) o flJ2_48 dJ2_size_1 (fun _ => rfl) (fun x1 => ?_)
  exact hr_iret o dJ2_size_4 rfl rfl
theorem mtJ2_size {gs : hf_gs} (l0 : Nat) (V0 : hf_H) (r : Int32) (V1 : hf_H) (e : spJ2_size l0 V0 = some (r, V1)) : hf_ConG gs yJ2_size cJ2_size 1 (some .int) 0 0 [.ref l0] V0 (.returned (some (.int r)), V1) := hf_entryG (dec := hf_dHI) (by decide) [.ref l0] (Nat.le_of_ble_eq_true rfl) [(0, .ref l0)] rfl e (fun C o og _ => jtJ2_size o og l0 V0)

/-! J2_elementData -/
theorem flJ2_9 : hf_Fl RJ2 9 19 1 := ⟨(RJ2, TJ2, 3), RJ2, rfl, by decide, in_J2, tyJ2_ok, nmJ2, Or.inl q218, Or.inl rfl⟩
def spJ2_elementData (l0 : Nat) (l1 : Int32) (V0 : hf_H) : Option (Nat × hf_H) :=
  (hf_ga 0 19 1 V0 l0).bind fun x1 =>
  (hf_nn (hf_paq (.object "java/lang/Object") V0 x1 l1)).bind fun x2 =>
  some (x2, V0)
theorem jtJ2_elementData {C : hf_X} {gs : hf_gs} (o : hf_In C cJ2_elementData RJ2 2 (some (.object "java/lang/Object")) 0 0) (og : hf_G C gs) (l0 : Nat) (l1 : Int32) (V0 : hf_H) : hf_J C hf_dHA (spJ2_elementData l0 l1 V0) V0 0 [(0, .ref l0), (1, .int l1)] [] := by
  refine hr_aload_n o 0 dJ2_elementData_0 rfl ?_
  refine hr_getA (md := 0) o flJ2_9 dJ2_elementData_1 (fun _ => rfl) (fun x1 => ?_)
  refine hr_iload_n o 1 dJ2_elementData_4 rfl ?_
  refine hx_paald o "java/lang/Object" (by simp [hf_tys]) dJ2_elementData_5 (fun x2 => ?_)
  exact hr_aret o dJ2_elementData_6 (Or.inl ⟨_, rfl⟩) (Or.inr ⟨_, rfl⟩) rfl
theorem mtJ2_elementData {gs : hf_gs} (l0 : Nat) (l1 : Int32) (V0 : hf_H) (r : Nat) (V1 : hf_H) (e : spJ2_elementData l0 l1 V0 = some (r, V1)) : hf_ConG gs yJ2_elementData cJ2_elementData 2 (some (.object "java/lang/Object")) 0 0 [.ref l0, .int l1] V0 (.returned (some (.ref r)), V1) := hf_entryG (dec := hf_dHA) (by decide) [.ref l0, .int l1] (Nat.le_of_ble_eq_true rfl) [(0, .ref l0), (1, .int l1)] rfl e (fun C o og _ => jtJ2_elementData o og l0 l1 V0)

/-! J2_get -/
theorem msJ2_118 : hf_MS RJ2 118 yJ13_checkIndex cJ13_checkIndex 2 (some .int) 2 := ⟨lw_S q768 q769 q175 q770, by decide +kernel⟩
theorem mvJ2_123 : hf_MV RJ2 123 RJ2 yJ2_elementData cJ2_elementData 2 (some (.object "java/lang/Object")) 1 := ⟨lw_V q772 q773 q774 q157 q775, by decide +kernel⟩
def spJ2_get (l0 : Nat) (l1 : Int32) (V0 : hf_H) : Option (Nat × hf_H) :=
  (hf_gi 0 19 2 V0 l0).bind fun x1 =>
  (spJ13_checkIndex l1 x1).bind fun x2 =>
  (hf_ob 0 19 V0 l0).bind fun _ =>
  hf_b2 (spJ2_elementData l0 l1 V0) fun x4 g3 =>
  some (x4, g3)
theorem jtJ2_get {C : hf_X} {gs : hf_gs} (o : hf_In C cJ2_get RJ2 2 (some (.object "java/lang/Object")) 2 43) (og : hf_G C gs) (l0 : Nat) (l1 : Int32) (V0 : hf_H) : hf_J C hf_dHA (spJ2_get l0 l1 V0) V0 0 [(0, .ref l0), (1, .int l1)] [] := by
  refine hr_iload_n o 1 dJ2_get_0 rfl ?_
  refine hr_aload_n o 0 dJ2_get_1 rfl ?_
  refine hr_getI (md := 0) o flJ2_48 dJ2_get_2 (fun _ => rfl) (fun x1 => ?_)
  refine pr_callI o msJ2_118 dJ2_get_5 [.int l1, .int x1] (fun zr ze => mtJ13_checkIndex l1 x1 zr ze) rfl rfl (Nat.le_of_ble_eq_true rfl) ⟨by decide, by decide⟩ (fun x2 => ?_)
  refine hr_pop o dJ2_get_8 rfl ?_
  refine hr_aload_n o 0 dJ2_get_9 rfl ?_
  refine hr_iload_n o 1 dJ2_get_10 rfl ?_
  refine hx_callVA (q := (RJ2, TJ2, 3)) o og mvJ2_123 dJ2_get_11 0 19 rfl [.int l1] (fun zr zg ze => mtJ2_elementData l0 l1 V0 zr zg ze) rfl rfl (Nat.le_of_ble_eq_true rfl) ⟨by decide, by decide⟩ (fun x4 g3 => ?_)
  exact hr_aret o dJ2_get_14 (Or.inl ⟨_, rfl⟩) (Or.inr ⟨_, rfl⟩) rfl
theorem mtJ2_get {gs : hf_gs} (l0 : Nat) (l1 : Int32) (V0 : hf_H) (r : Nat) (V1 : hf_H) (e : spJ2_get l0 l1 V0 = some (r, V1)) : hf_ConG gs yJ2_get cJ2_get 2 (some (.object "java/lang/Object")) 2 43 [.ref l0, .int l1] V0 (.returned (some (.ref r)), V1) := hf_entryG (dec := hf_dHA) (by decide) [.ref l0, .int l1] (Nat.le_of_ble_eq_true rfl) [(0, .ref l0), (1, .int l1)] rfl e (fun C o og _ => jtJ2_get o og l0 l1 V0)

/-! X1_joins -/
theorem msnX1_37 : hf_MSN RX1 37 "HalfFair" yX0_has cX0_has 2 (some .boolean) 2 := ⟨⟨q741, q742, q153, q743⟩, by decide +kernel⟩
theorem flX1_23 : hf_Fl RX1 23 1 2 := ⟨(RX1, TX1, 13), RX1, rfl, by decide, in_X1, tyX1_ok, nmX1, Or.inl q238, Or.inl rfl⟩
def ndX1_joins_40 (k17 : Nat → Int32 → Int32 → hf_H → Option hf_H) (l0 : Nat) (l3 : Int32) (l4 : Int32) (V0 : hf_H) : Option hf_H :=
  hf_let (l4 + (1 : Int32)) fun x1 =>
  k17 l0 l3 x1 V0
theorem nlX1_joins_40 {C : hf_X} {gs : hf_gs} (o : hf_In C cX1_joins RX1 5 (none) 1 21) (og : hf_G C gs) (k17 : Nat → Int32 → Int32 → hf_H → Option hf_H) (hk17 : ∀ (l0 : Nat) (l3 : Int32) (l4 : Int32) (V0 : hf_H), hf_J C hf_dHV (k17 l0 l3 l4 V0) V0 17 [(0, .ref l0), (3, .int l3), (4, .int l4)] []) (l0 : Nat) (l3 : Int32) (l4 : Int32) (V0 : hf_H) : hf_J C hf_dHV (ndX1_joins_40 k17 l0 l3 l4 V0) V0 40 [(0, .ref l0), (3, .int l3), (4, .int l4)] [] := by
  refine hr_iincN o (1 : Int32) 2 (fun y => [(4, .int y), (0, .ref l0), (3, .int l3)]) dX1_joins_40 rfl (by decide) (by decide) (fun y => rfl) (fun x1 => ?_)
  refine hr_goto o 17 dX1_joins_43 (by decide) ?_
  refine hr_sub [1, 2, 0] rfl ?_
  exact hk17 l0 l3 x1 V0
def ndX1_joins_17 (k17 : Nat → Int32 → Int32 → hf_H → Option hf_H) (l0 : Nat) (l3 : Int32) (l4 : Int32) (V0 : hf_H) : Option hf_H :=
  if (4 : Int32) ≤ l4 then (some V0) else
  (spX0_has l3 l4).bind fun x1 =>
  if x1 = 0 then (ndX1_joins_40 k17 l0 l3 l4 V0) else
  (hf_ob 1 1 V0 l0).bind fun _ =>
  (hf_si 1 2 4 V0 l0 l4 l3).bind fun g2 =>
  ndX1_joins_40 k17 l0 l3 l4 g2
theorem nlX1_joins_17 {C : hf_X} {gs : hf_gs} (o : hf_In C cX1_joins RX1 5 (none) 1 21) (og : hf_G C gs) (k17 : Nat → Int32 → Int32 → hf_H → Option hf_H) (hk17 : ∀ (l0 : Nat) (l3 : Int32) (l4 : Int32) (V0 : hf_H), hf_J C hf_dHV (k17 l0 l3 l4 V0) V0 17 [(0, .ref l0), (3, .int l3), (4, .int l4)] []) (l0 : Nat) (l3 : Int32) (l4 : Int32) (V0 : hf_H) : hf_J C hf_dHV (ndX1_joins_17 k17 l0 l3 l4 V0) V0 17 [(0, .ref l0), (3, .int l3), (4, .int l4)] [] := by
  refine hr_iload o 2 dX1_joins_17 rfl ?_
  refine hr_iconst o (4 : Int32) dX1_joins_19 (by decide) ?_
  refine hr_icmp_ge o 46 dX1_joins_20 (by decide) (fun _ => ?_) (fun _ => ?_)
  · exact hr_vret o dX1_joins_46 rfl
  refine hr_iload_n o 1 dX1_joins_23 rfl ?_
  refine hr_iload o 2 dX1_joins_24 rfl ?_
  refine px_callSNI o og msnX1_37 dX1_joins_26 [.int l3, .int l4] (fun zr ze => mtX0_has l3 l4 zr ze) rfl rfl (Nat.le_of_ble_eq_true rfl) ⟨by decide, by decide⟩ (fun x1 => ?_)
  refine hr_if_eq o 40 dX1_joins_29 (by decide) (fun _ => ?_) (fun _ => ?_)
  · exact nlX1_joins_40 o og k17 hk17 l0 l3 l4 V0
  refine hr_aload_n o 0 dX1_joins_32 rfl ?_
  refine hr_getO o flX1_23 dX1_joins_33 5 (fun _ => rfl) (fun _ _ => ?_)
  refine hr_iload o 2 dX1_joins_36 rfl ?_
  refine hr_iload_n o 1 dX1_joins_38 rfl ?_
  refine hx_iast o 1 2 5 4 rfl (by decide) (fun j h1 h2 => hf_of1_inj j 2 h1 h2) rfl dX1_joins_39 (fun g2 => ?_)
  exact nlX1_joins_40 o og k17 hk17 l0 l3 l4 g2
def lpX1_joins_17  : Nat → Nat → Int32 → Int32 → hf_H → Option hf_H
  | 0 => fun _ _ _ _ => none
  | n + 1 => fun l0 l3 l4 V0 => ndX1_joins_17  (lpX1_joins_17  n) l0 l3 l4 V0
theorem llX1_joins_17 {C : hf_X} {gs : hf_gs} (o : hf_In C cX1_joins RX1 5 (none) 1 21) (og : hf_G C gs)   (n : Nat) : ∀ (l0 : Nat) (l3 : Int32) (l4 : Int32) (V0 : hf_H), hf_J C hf_dHV ((lpX1_joins_17  n) l0 l3 l4 V0) V0 17 [(0, .ref l0), (3, .int l3), (4, .int l4)] [] := by
  induction n with
  | zero => exact fun _ _ _ _ => hr_none
  | succ n ih => exact fun l0 l3 l4 V0 => nlX1_joins_17 o og  (lpX1_joins_17  n)  ih l0 l3 l4 V0
def spX1_joins (l0 : Nat) (l1 : Int32) (l2 : Int32) (V0 : hf_H) : Option hf_H :=
  (hf_ob 1 1 V0 l0).bind fun _ =>
  (hf_ai 1 2 4 V0 l0 l1).bind fun x1 =>
  (hf_ob 1 1 V0 l0).bind fun _ =>
  (hf_ai 1 2 4 V0 l0 l2).bind fun x2 =>
  hf_let (x1 ||| x2) fun x3 =>
  lpX1_joins_17 hf_N l0 x3 (0 : Int32) V0
theorem jtX1_joins {C : hf_X} {gs : hf_gs} (o : hf_In C cX1_joins RX1 5 (none) 1 21) (og : hf_G C gs) (l0 : Nat) (l1 : Int32) (l2 : Int32) (V0 : hf_H) : hf_J C hf_dHV (spX1_joins l0 l1 l2 V0) V0 0 [(0, .ref l0), (1, .int l1), (2, .int l2)] [] := by
  refine hr_aload_n o 0 dX1_joins_0 rfl ?_
  refine hr_getO o flX1_23 dX1_joins_1 5 (fun _ => rfl) (fun _ _ => ?_)
  refine hr_iload_n o 1 dX1_joins_4 rfl ?_
  refine hx_iald o 1 2 5 4 rfl (by decide) rfl dX1_joins_5 (fun x1 => ?_)
  refine hr_aload_n o 0 dX1_joins_6 rfl ?_
  refine hr_getO o flX1_23 dX1_joins_7 5 (fun _ => rfl) (fun _ _ => ?_)
  refine hr_iload_n o 2 dX1_joins_10 rfl ?_
  refine hx_iald o 1 2 5 4 rfl (by decide) rfl dX1_joins_11 (fun x2 => ?_)
  refine hr_ior o dX1_joins_12 ?_
  refine hr_nmI (fun x3 => ?_)
  refine hr_istore_n o [(3, .int x3), (0, .ref l0), (1, .int l1), (2, .int l2)] dX1_joins_13 (by decide) rfl ?_
  refine hr_iconst o (0 : Int32) dX1_joins_14 (by decide) ?_
  refine hr_istore o [(4, .int (0 : Int32)), (3, .int x3), (0, .ref l0), (1, .int l1), (2, .int l2)] dX1_joins_15 (by decide) rfl ?_
  refine hr_sub [2, 1, 0] rfl ?_
  exact llX1_joins_17 o og hf_N l0 x3 (0 : Int32) V0
theorem mtX1_joins {gs : hf_gs} (l0 : Nat) (l1 : Int32) (l2 : Int32) (V0 V1 : hf_H) (e : spX1_joins l0 l1 l2 V0 = some V1) : hf_ConG gs yX1_joins cX1_joins 5 (none) 1 21 [.ref l0, .int l1, .int l2] V0 (.returned none, V1) := hf_entryG (dec := hf_dHV) (by decide) [.ref l0, .int l1, .int l2] (Nat.le_of_ble_eq_true rfl) [(0, .ref l0), (1, .int l1), (2, .int l2)] rfl e (fun C o og _ => jtX1_joins o og l0 l1 l2 V0)

/-! X1_spotOf -/
theorem flX1_41 : hf_Fl RX1 41 1 4 := ⟨(RX1, TX1, 13), RX1, rfl, by decide, in_X1, tyX1_ok, nmX1, Or.inl q245, Or.inl rfl⟩
theorem flX1_44 : hf_Fl RX1 44 1 3 := ⟨(RX1, TX1, 13), RX1, rfl, by decide, in_X1, tyX1_ok, nmX1, Or.inl q241, Or.inl rfl⟩
def spX1_spotOf (l0 : Nat) (l1 : Int32) (l2 : Int32) (V0 : hf_H) : Option (Int32 × hf_H) :=
  (hf_gi 1 1 4 V0 l0).bind fun x1 =>
  (hf_gi 1 1 3 V0 l0).bind fun x2 =>
  if x2 = 0 then none else
  some (((l1 + (l2 * x1)) - (l1 + (l2 * x1)) / x2 * x2), V0)
theorem jtX1_spotOf {C : hf_X} {gs : hf_gs} (o : hf_In C cX1_spotOf RX1 3 (some .int) 0 0) (og : hf_G C gs) (l0 : Nat) (l1 : Int32) (l2 : Int32) (V0 : hf_H) : hf_J C hf_dHI (spX1_spotOf l0 l1 l2 V0) V0 0 [(0, .ref l0), (1, .int l1), (2, .int l2)] [] := by
  refine hr_iload_n o 1 dX1_spotOf_0 rfl ?_
  refine hr_iload_n o 2 dX1_spotOf_1 rfl ?_
  refine hr_aload_n o 0 dX1_spotOf_2 rfl ?_
  refine hr_getI (md := 1) o flX1_41 dX1_spotOf_3 (fun _ => rfl) (fun x1 => ?_)
  refine hr_imul o dX1_spotOf_6 ?_
  refine hr_iadd o dX1_spotOf_7 ?_
  refine hr_aload_n o 0 dX1_spotOf_8 rfl ?_
  refine hr_getI (md := 1) o flX1_44 dX1_spotOf_9 (fun _ => rfl) (fun x2 => ?_)
  refine hr_irem o dX1_spotOf_12 (fun _ => ?_)
  exact hr_iret o dX1_spotOf_13 rfl rfl
theorem mtX1_spotOf {gs : hf_gs} (l0 : Nat) (l1 : Int32) (l2 : Int32) (V0 : hf_H) (r : Int32) (V1 : hf_H) (e : spX1_spotOf l0 l1 l2 V0 = some (r, V1)) : hf_ConG gs yX1_spotOf cX1_spotOf 3 (some .int) 0 0 [.ref l0, .int l1, .int l2] V0 (.returned (some (.int r)), V1) := hf_entryG (dec := hf_dHI) (by decide) [.ref l0, .int l1, .int l2] (Nat.le_of_ble_eq_true rfl) [(0, .ref l0), (1, .int l1), (2, .int l2)] rfl e (fun C o og _ => jtX1_spotOf o og l0 l1 l2 V0)

/-! X1_stallAt -/
theorem mvX1_47 : hf_MV RX1 47 RX1 yX1_spotOf cX1_spotOf 3 (some .int) 2 := ⟨lw_V q790 q791 q792 q154 q793, by decide +kernel⟩
def ndX1_stallAt_2 (k2 : Nat → Int32 → Int32 → Int32 → hf_H → Option (Int32 × hf_H)) (l0 : Nat) (l1 : Int32) (l2 : Int32) (l3 : Int32) (V0 : hf_H) : Option (Int32 × hf_H) :=
  (hf_ob 1 1 V0 l0).bind fun _ =>
  hf_b2 (spX1_spotOf l0 l3 l2 V0) fun x2 g1 =>
  if x2 = l1 then (some (l3, g1)) else
  hf_let (l3 + (1 : Int32)) fun x3 =>
  k2 l0 l1 l2 x3 g1
theorem nlX1_stallAt_2 {C : hf_X} {gs : hf_gs} (o : hf_In C cX1_stallAt RX1 4 (some .int) 1 22) (og : hf_G C gs) (k2 : Nat → Int32 → Int32 → Int32 → hf_H → Option (Int32 × hf_H)) (hk2 : ∀ (l0 : Nat) (l1 : Int32) (l2 : Int32) (l3 : Int32) (V0 : hf_H), hf_J C hf_dHI (k2 l0 l1 l2 l3 V0) V0 2 [(0, .ref l0), (1, .int l1), (2, .int l2), (3, .int l3)] []) (l0 : Nat) (l1 : Int32) (l2 : Int32) (l3 : Int32) (V0 : hf_H) : hf_J C hf_dHI (ndX1_stallAt_2 k2 l0 l1 l2 l3 V0) V0 2 [(0, .ref l0), (1, .int l1), (2, .int l2), (3, .int l3)] [] := by
  refine hr_aload_n o 0 dX1_stallAt_2 rfl ?_
  refine hr_iload_n o 3 dX1_stallAt_3 rfl ?_
  refine hr_iload_n o 2 dX1_stallAt_4 rfl ?_
  refine hx_callVI (q := (RX1, TX1, 13)) o og mvX1_47 dX1_stallAt_5 1 1 rfl [.int l3, .int l2] (fun zr zg ze => mtX1_spotOf l0 l3 l2 V0 zr zg ze) rfl rfl (Nat.le_of_ble_eq_true rfl) ⟨by decide, by decide⟩ (fun x2 g1 => ?_)
  refine hr_iload_n o 1 dX1_stallAt_8 rfl ?_
  refine hr_icmp_eq o 18 dX1_stallAt_9 (by decide) (fun _ => ?_) (fun _ => ?_)
  · refine hr_iload_n o 3 dX1_stallAt_18 rfl ?_
    exact hr_iret o dX1_stallAt_19 rfl rfl
  refine hr_iincN o (1 : Int32) 3 (fun y => [(3, .int y), (0, .ref l0), (1, .int l1), (2, .int l2)]) dX1_stallAt_12 rfl (by decide) (by decide) (fun y => rfl) (fun x3 => ?_)
  refine hr_goto o 2 dX1_stallAt_15 (by decide) ?_
  refine hr_sub [1, 2, 3, 0] rfl ?_
  exact hk2 l0 l1 l2 x3 g1
def lpX1_stallAt_2  : Nat → Nat → Int32 → Int32 → Int32 → hf_H → Option (Int32 × hf_H)
  | 0 => fun _ _ _ _ _ => none
  | n + 1 => fun l0 l1 l2 l3 V0 => ndX1_stallAt_2  (lpX1_stallAt_2  n) l0 l1 l2 l3 V0
theorem llX1_stallAt_2 {C : hf_X} {gs : hf_gs} (o : hf_In C cX1_stallAt RX1 4 (some .int) 1 22) (og : hf_G C gs)   (n : Nat) : ∀ (l0 : Nat) (l1 : Int32) (l2 : Int32) (l3 : Int32) (V0 : hf_H), hf_J C hf_dHI ((lpX1_stallAt_2  n) l0 l1 l2 l3 V0) V0 2 [(0, .ref l0), (1, .int l1), (2, .int l2), (3, .int l3)] [] := by
  induction n with
  | zero => exact fun _ _ _ _ _ => hr_none
  | succ n ih => exact fun l0 l1 l2 l3 V0 => nlX1_stallAt_2 o og  (lpX1_stallAt_2  n)  ih l0 l1 l2 l3 V0
def spX1_stallAt (l0 : Nat) (l1 : Int32) (l2 : Int32) (V0 : hf_H) : Option (Int32 × hf_H) :=
  lpX1_stallAt_2 hf_N l0 l1 l2 (0 : Int32) V0
theorem jtX1_stallAt {C : hf_X} {gs : hf_gs} (o : hf_In C cX1_stallAt RX1 4 (some .int) 1 22) (og : hf_G C gs) (l0 : Nat) (l1 : Int32) (l2 : Int32) (V0 : hf_H) : hf_J C hf_dHI (spX1_stallAt l0 l1 l2 V0) V0 0 [(0, .ref l0), (1, .int l1), (2, .int l2)] [] := by
  refine hr_iconst o (0 : Int32) dX1_stallAt_0 (by decide) ?_
  refine hr_istore_n o [(3, .int (0 : Int32)), (0, .ref l0), (1, .int l1), (2, .int l2)] dX1_stallAt_1 (by decide) rfl ?_
  refine hr_sub [1, 2, 3, 0] rfl ?_
  exact llX1_stallAt_2 o og hf_N l0 l1 l2 (0 : Int32) V0
theorem mtX1_stallAt {gs : hf_gs} (l0 : Nat) (l1 : Int32) (l2 : Int32) (V0 : hf_H) (r : Int32) (V1 : hf_H) (e : spX1_stallAt l0 l1 l2 V0 = some (r, V1)) : hf_ConG gs yX1_stallAt cX1_stallAt 4 (some .int) 1 22 [.ref l0, .int l1, .int l2] V0 (.returned (some (.int r)), V1) := hf_entryG (dec := hf_dHI) (by decide) [.ref l0, .int l1, .int l2] (Nat.le_of_ble_eq_true rfl) [(0, .ref l0), (1, .int l1), (2, .int l2)] rfl e (fun C o og _ => jtX1_stallAt o og l0 l1 l2 V0)

/-! X1_far -/
def spX1_far (l0 : Nat) (l1 : Int32) (l2 : Int32) (V0 : hf_H) : Option (Int32 × hf_H) :=
  hf_let (if 0 ≤ (l1 - l2) then (l1 - l2) else 0 - (l1 - l2)) fun x1 =>
  (hf_gi 1 1 3 V0 l0).bind fun x2 =>
  hf_let (if (x2 - x1) < x1 then (x2 - x1) else x1) fun x3 =>
  some (x3, V0)
theorem jtX1_far {C : hf_X} {gs : hf_gs} (o : hf_In C cX1_far RX1 4 (some .int) 1 13) (og : hf_G C gs) (l0 : Nat) (l1 : Int32) (l2 : Int32) (V0 : hf_H) : hf_J C hf_dHI (spX1_far l0 l1 l2 V0) V0 0 [(0, .ref l0), (1, .int l1), (2, .int l2)] [] := by
  refine hr_iload_n o 1 dX1_far_0 rfl ?_
  refine hr_iload_n o 2 dX1_far_1 rfl ?_
  refine hr_isub o dX1_far_2 ?_
  refine hx_mabs o q1013 q1014 q171 q1015 (by decide) (Nat.le_of_ble_eq_true rfl) dX1_far_3 ?_
  refine hr_nmI (fun x1 => ?_)
  refine hr_istore_n o [(3, .int x1), (0, .ref l0), (1, .int l1), (2, .int l2)] dX1_far_6 (by decide) rfl ?_
  refine hr_iload_n o 0 dX1_far_7 rfl ?_
  refine hr_aload_n o 1 dX1_far_8 rfl ?_
  refine hr_getI (md := 1) o flX1_44 dX1_far_9 (fun _ => rfl) (fun x2 => ?_)
  refine hr_iload_n o 0 dX1_far_12 rfl ?_
  refine hr_isub o dX1_far_13 ?_
  refine hx_mmin o q1135 q709 q171 q710 (by decide) (Nat.le_of_ble_eq_true rfl) dX1_far_14 ?_
  refine hr_nmI (fun x3 => ?_)
  exact hr_iret o dX1_far_17 rfl rfl
theorem mtX1_far {gs : hf_gs} (l0 : Nat) (l1 : Int32) (l2 : Int32) (V0 : hf_H) (r : Int32) (V1 : hf_H) (e : spX1_far l0 l1 l2 V0 = some (r, V1)) : hf_ConG gs yX1_far cX1_far 4 (some .int) 1 13 [.ref l0, .int l1, .int l2] V0 (.returned (some (.int r)), V1) := hf_entryG (dec := hf_dHI) (by decide) [.ref l0, .int l1, .int l2] (Nat.le_of_ble_eq_true rfl) [(0, .ref l0), (1, .int l1), (2, .int l2)] rfl e (fun C o og _ => jtX1_far o og l0 l1 l2 V0)

/-! X1_priceAt -/
theorem flX1_27 : hf_Fl RX1 27 1 6 := ⟨(RX1, TX1, 13), RX1, rfl, by decide, in_X1, tyX1_ok, nmX1, Or.inl q250, Or.inl rfl⟩
theorem flX1_14 : hf_Fl RX1 14 1 0 := ⟨(RX1, TX1, 13), RX1, rfl, by decide, in_X1, tyX1_ok, nmX1, Or.inl q230, Or.inl rfl⟩
theorem mvX1_60 : hf_MV RX1 60 RJ2 yJ2_get cJ2_get 2 (some (.object "java/lang/Object")) 1 := ⟨lw_V q995 q765 q766 q157 q767, by decide +kernel⟩
theorem flX1_66 : hf_Fl RX1 66 6 3 := ⟨(RX6, TX6, 4), RX6, rfl, by decide, in_X6, tyX6_ok, nmX6, Or.inr ⟨"HalfFair", q639⟩, Or.inl rfl⟩
theorem flX1_31 : hf_Fl RX1 31 1 7 := ⟨(RX1, TX1, 13), RX1, rfl, by decide, in_X1, tyX1_ok, nmX1, Or.inl q252, Or.inl rfl⟩
def spX1_priceAt (l0 : Nat) (l1 : Int32) (l2 : Int32) (V0 : hf_H) : Option (Int32 × hf_H) :=
  (hf_gi 1 1 6 V0 l0).bind fun x1 =>
  if l2 < x1 then ((hf_ga 1 1 0 V0 l0).bind fun x2 =>
  (hf_ob 0 19 V0 x2).bind fun _ =>
  hf_b2 (spJ2_get x2 l1 V0) fun x4 g3 =>
  (hf_ob 0 6 g3 x4).bind fun _ =>
  (hf_gi 0 6 3 g3 x4).bind fun x5 =>
  some (x5, g3)) else
  (hf_gi 1 1 7 V0 l0).bind fun x6 =>
  some (x6, V0)
theorem jtX1_priceAt {C : hf_X} {gs : hf_gs} (o : hf_In C cX1_priceAt RX1 3 (some .int) 3 64) (og : hf_G C gs) (l0 : Nat) (l1 : Int32) (l2 : Int32) (V0 : hf_H) : hf_J C hf_dHI (spX1_priceAt l0 l1 l2 V0) V0 0 [(0, .ref l0), (1, .int l1), (2, .int l2)] [] := by
  refine hr_iload_n o 2 dX1_priceAt_0 rfl ?_
  refine hr_aload_n o 0 dX1_priceAt_1 rfl ?_
  refine hr_getI (md := 1) o flX1_27 dX1_priceAt_2 (fun _ => rfl) (fun x1 => ?_)
  refine hr_icmp_lt o 15 dX1_priceAt_5 (by decide) (fun _ => ?_) (fun _ => ?_)
  · refine hr_aload_n o 0 dX1_priceAt_15 rfl ?_
    refine hr_getA (md := 1) o flX1_14 dX1_priceAt_16 (fun _ => rfl) (fun x2 => ?_)
    refine hr_iload_n o 1 dX1_priceAt_19 rfl ?_
    refine hx_callVA (q := (RJ2, TJ2, 3)) o og mvX1_60 dX1_priceAt_20 0 19 rfl [.int l1] (fun zr zg ze => mtJ2_get x2 l1 V0 zr zg ze) rfl rfl (Nat.le_of_ble_eq_true rfl) ⟨by decide, by decide⟩ (fun x4 g3 => ?_)
    refine hx_cast (md := 0) (ci := 6) (q := (RX6, TX6, 4)) o q996 rfl dX1_priceAt_23 (fun _ => ?_)
    refine hr_getI (md := 0) o flX1_66 dX1_priceAt_26 (fun _ => rfl) (fun x5 => ?_)
    exact hr_iret o dX1_priceAt_29 rfl rfl
  refine hr_aload_n o 0 dX1_priceAt_8 rfl ?_
  refine hr_getI (md := 1) o flX1_31 dX1_priceAt_9 (fun _ => rfl) (fun x6 => ?_)
  refine hr_goto o 29 dX1_priceAt_12 (by decide) ?_
  exact hr_iret o dX1_priceAt_29 rfl rfl
theorem mtX1_priceAt {gs : hf_gs} (l0 : Nat) (l1 : Int32) (l2 : Int32) (V0 : hf_H) (r : Int32) (V1 : hf_H) (e : spX1_priceAt l0 l1 l2 V0 = some (r, V1)) : hf_ConG gs yX1_priceAt cX1_priceAt 3 (some .int) 3 64 [.ref l0, .int l1, .int l2] V0 (.returned (some (.int r)), V1) := hf_entryG (dec := hf_dHI) (by decide) [.ref l0, .int l1, .int l2] (Nat.le_of_ble_eq_true rfl) [(0, .ref l0), (1, .int l1), (2, .int l2)] rfl e (fun C o og _ => jtX1_priceAt o og l0 l1 l2 V0)

/-! X1_left -/
def spX1_left (l0 : Nat) (l1 : Int32) (V0 : hf_H) : Option (Int32 × hf_H) :=
  (hf_gi 1 1 6 V0 l0).bind fun x1 =>
  hf_let (if (0 : Int32) < (x1 - l1) then (x1 - l1) else (0 : Int32)) fun x2 =>
  some (x2, V0)
theorem jtX1_left {C : hf_X} {gs : hf_gs} (o : hf_In C cX1_left RX1 2 (some .int) 1 13) (og : hf_G C gs) (l0 : Nat) (l1 : Int32) (V0 : hf_H) : hf_J C hf_dHI (spX1_left l0 l1 V0) V0 0 [(0, .ref l0), (1, .int l1)] [] := by
  refine hr_iconst o (0 : Int32) dX1_left_0 (by decide) ?_
  refine hr_aload_n o 0 dX1_left_1 rfl ?_
  refine hr_getI (md := 1) o flX1_27 dX1_left_2 (fun _ => rfl) (fun x1 => ?_)
  refine hr_iload_n o 1 dX1_left_5 rfl ?_
  refine hr_isub o dX1_left_6 ?_
  refine hx_mmax o q1189 q672 q171 q673 (by decide) (Nat.le_of_ble_eq_true rfl) dX1_left_7 ?_
  refine hr_nmI (fun x2 => ?_)
  exact hr_iret o dX1_left_10 rfl rfl
theorem mtX1_left {gs : hf_gs} (l0 : Nat) (l1 : Int32) (V0 : hf_H) (r : Int32) (V1 : hf_H) (e : spX1_left l0 l1 V0 = some (r, V1)) : hf_ConG gs yX1_left cX1_left 2 (some .int) 1 13 [.ref l0, .int l1] V0 (.returned (some (.int r)), V1) := hf_entryG (dec := hf_dHI) (by decide) [.ref l0, .int l1] (Nat.le_of_ble_eq_true rfl) [(0, .ref l0), (1, .int l1)] rfl e (fun C o og _ => jtX1_left o og l0 l1 V0)

/-! X1_fit -/
theorem flX1_72 : hf_Fl RX1 72 6 2 := ⟨(RX6, TX6, 4), RX6, rfl, by decide, in_X6, tyX6_ok, nmX6, Or.inr ⟨"HalfFair", q636⟩, Or.inl rfl⟩
theorem flX1_75 : hf_Fl RX1 75 6 1 := ⟨(RX6, TX6, 4), RX6, rfl, by decide, in_X6, tyX6_ok, nmX6, Or.inr ⟨"HalfFair", q633⟩, Or.inl rfl⟩
theorem flX1_78 : hf_Fl RX1 78 1 5 := ⟨(RX1, TX1, 13), RX1, rfl, by decide, in_X1, tyX1_ok, nmX1, Or.inl q247, Or.inl rfl⟩
def spX1_fit (l0 : Nat) (l1 : Int32) (l2 : Int32) (l3 : Int32) (V0 : hf_H) : Option (Int32 × hf_H) :=
  (spX0_has l3 l1).bind fun x1 =>
  if x1 = 0 then ((spX0_has l3 l2).bind fun x2 =>
  if x2 = 0 then ((hf_ga 1 1 0 V0 l0).bind fun x3 =>
  (hf_ob 0 19 V0 x3).bind fun _ =>
  hf_b2 (spJ2_get x3 l1 V0) fun x5 g4 =>
  (hf_ob 0 6 g4 x5).bind fun _ =>
  (hf_ga 1 1 0 g4 l0).bind fun x6 =>
  (hf_ob 0 19 g4 x6).bind fun _ =>
  hf_b2 (spJ2_get x6 l2 g4) fun x8 g7 =>
  (hf_ob 0 6 g7 x8).bind fun _ =>
  (hf_gi 0 6 2 g7 x5).bind fun x9 =>
  (hf_gi 0 6 2 g7 x8).bind fun x10 =>
  if x9 = x10 then (some ((0 : Int32), g7)) else
  (hf_gi 0 6 1 g7 x5).bind fun x11 =>
  (hf_gi 0 6 1 g7 x8).bind fun x12 =>
  hf_let (if 0 ≤ (x11 - x12) then (x11 - x12) else 0 - (x11 - x12)) fun x13 =>
  (hf_gi 1 1 5 g7 l0).bind fun x14 =>
  if x13 ≤ x14 then ((hf_gi 0 6 1 g7 x5).bind fun x15 =>
  (hf_gi 0 6 1 g7 x8).bind fun x16 =>
  if x15 = x16 then (some ((2 : Int32), g7)) else
  some ((1 : Int32), g7)) else
  some ((0 : Int32), g7)) else
  some ((2 : Int32), V0)) else
  some ((2 : Int32), V0)
theorem jtX1_fit {C : hf_X} {gs : hf_gs} (o : hf_In C cX1_fit RX1 6 (some .int) 3 64) (og : hf_G C gs) (l0 : Nat) (l1 : Int32) (l2 : Int32) (l3 : Int32) (V0 : hf_H) : hf_J C hf_dHI (spX1_fit l0 l1 l2 l3 V0) V0 0 [(0, .ref l0), (1, .int l1), (2, .int l2), (3, .int l3)] [] := by
  refine hr_iload_n o 3 dX1_fit_0 rfl ?_
  refine hr_iload_n o 1 dX1_fit_1 rfl ?_
  refine px_callSNI o og msnX1_37 dX1_fit_2 [.int l3, .int l1] (fun zr ze => mtX0_has l3 l1 zr ze) rfl rfl (Nat.le_of_ble_eq_true rfl) ⟨by decide, by decide⟩ (fun x1 => ?_)
  refine hr_if_ne o 16 dX1_fit_5 (by decide) (fun _ => ?_) (fun _ => ?_)
  · refine hr_iload_n o 3 dX1_fit_8 rfl ?_
    refine hr_iload_n o 2 dX1_fit_9 rfl ?_
    refine px_callSNI o og msnX1_37 dX1_fit_10 [.int l3, .int l2] (fun zr ze => mtX0_has l3 l2 zr ze) rfl rfl (Nat.le_of_ble_eq_true rfl) ⟨by decide, by decide⟩ (fun x2 => ?_)
    refine hr_if_eq o 18 dX1_fit_13 (by decide) (fun _ => ?_) (fun _ => ?_)
    · refine hr_aload_n o 0 dX1_fit_18 rfl ?_
      refine hr_getA (md := 1) o flX1_14 dX1_fit_19 (fun _ => rfl) (fun x3 => ?_)
      refine hr_iload_n o 1 dX1_fit_22 rfl ?_
      refine hx_callVA (q := (RJ2, TJ2, 3)) o og mvX1_60 dX1_fit_23 0 19 rfl [.int l1] (fun zr zg ze => mtJ2_get x3 l1 V0 zr zg ze) rfl rfl (Nat.le_of_ble_eq_true rfl) ⟨by decide, by decide⟩ (fun x5 g4 => ?_)
      refine hx_cast (md := 0) (ci := 6) (q := (RX6, TX6, 4)) o q996 rfl dX1_fit_26 (fun _ => ?_)
      refine hr_astore o [(4, .ref x5), (0, .ref l0), (1, .int l1), (2, .int l2), (3, .int l3)] dX1_fit_29 (by decide) rfl ?_
      refine hr_aload_n o 1 dX1_fit_31 rfl ?_
      refine hr_getA (md := 1) o flX1_14 dX1_fit_32 (fun _ => rfl) (fun x6 => ?_)
      refine hr_iload_n o 3 dX1_fit_35 rfl ?_
      refine hx_callVA (q := (RJ2, TJ2, 3)) o og mvX1_60 dX1_fit_36 0 19 rfl [.int l2] (fun zr zg ze => mtJ2_get x6 l2 g4 zr zg ze) rfl rfl (Nat.le_of_ble_eq_true rfl) ⟨by decide, by decide⟩ (fun x8 g7 => ?_)
      refine hx_cast (md := 0) (ci := 6) (q := (RX6, TX6, 4)) o q996 rfl dX1_fit_39 (fun _ => ?_)
      refine hr_astore o [(5, .ref x8), (4, .ref x5), (0, .ref l0), (1, .int l1), (2, .int l2), (3, .int l3)] dX1_fit_42 (by decide) rfl ?_
      refine hr_aload o 1 dX1_fit_44 rfl ?_
      refine hr_getI (md := 0) o flX1_72 dX1_fit_46 (fun _ => rfl) (fun x9 => ?_)
      refine hr_aload o 0 dX1_fit_49 rfl ?_
      refine hr_getI (md := 0) o flX1_72 dX1_fit_51 (fun _ => rfl) (fun x10 => ?_)
      refine hr_icmp_eq o 78 dX1_fit_54 (by decide) (fun _ => ?_) (fun _ => ?_)
      · refine hr_iconst o (0 : Int32) dX1_fit_78 (by decide) ?_
        exact hr_iret o dX1_fit_79 rfl rfl
      refine hr_aload o 1 dX1_fit_57 rfl ?_
      refine hr_getI (md := 0) o flX1_75 dX1_fit_59 (fun _ => rfl) (fun x11 => ?_)
      refine hr_aload o 0 dX1_fit_62 rfl ?_
      refine hr_getI (md := 0) o flX1_75 dX1_fit_64 (fun _ => rfl) (fun x12 => ?_)
      refine hr_isub o dX1_fit_67 ?_
      refine hx_mabs o q1013 q1014 q171 q1015 (by decide) (Nat.le_of_ble_eq_true rfl) dX1_fit_68 ?_
      refine hr_nmI (fun x13 => ?_)
      refine hr_aload_n o 2 dX1_fit_71 rfl ?_
      refine hr_getI (md := 1) o flX1_78 dX1_fit_72 (fun _ => rfl) (fun x14 => ?_)
      refine hr_icmp_le o 80 dX1_fit_75 (by decide) (fun _ => ?_) (fun _ => ?_)
      · refine hr_aload o 1 dX1_fit_80 rfl ?_
        refine hr_getI (md := 0) o flX1_75 dX1_fit_82 (fun _ => rfl) (fun x15 => ?_)
        refine hr_aload o 0 dX1_fit_85 rfl ?_
        refine hr_getI (md := 0) o flX1_75 dX1_fit_87 (fun _ => rfl) (fun x16 => ?_)
        refine hr_icmp_ne o 97 dX1_fit_90 (by decide) (fun _ => ?_) (fun _ => ?_)
        · refine hr_iconst o (2 : Int32) dX1_fit_93 (by decide) ?_
          refine hr_goto o 98 dX1_fit_94 (by decide) ?_
          exact hr_iret o dX1_fit_98 rfl rfl
        refine hr_iconst o (1 : Int32) dX1_fit_97 (by decide) ?_
        exact hr_iret o dX1_fit_98 rfl rfl
      refine hr_iconst o (0 : Int32) dX1_fit_78 (by decide) ?_
      exact hr_iret o dX1_fit_79 rfl rfl
    refine hr_iconst o (2 : Int32) dX1_fit_16 (by decide) ?_
    exact hr_iret o dX1_fit_17 rfl rfl
  refine hr_iconst o (2 : Int32) dX1_fit_16 (by decide) ?_
  exact hr_iret o dX1_fit_17 rfl rfl
theorem mtX1_fit {gs : hf_gs} (l0 : Nat) (l1 : Int32) (l2 : Int32) (l3 : Int32) (V0 : hf_H) (r : Int32) (V1 : hf_H) (e : spX1_fit l0 l1 l2 l3 V0 = some (r, V1)) : hf_ConG gs yX1_fit cX1_fit 6 (some .int) 3 64 [.ref l0, .int l1, .int l2, .int l3] V0 (.returned (some (.int r)), V1) := hf_entryG (dec := hf_dHI) (by decide) [.ref l0, .int l1, .int l2, .int l3] (Nat.le_of_ble_eq_true rfl) [(0, .ref l0), (1, .int l1), (2, .int l2), (3, .int l3)] rfl e (fun C o og _ => jtX1_fit o og l0 l1 l2 l3 V0)

/-! X2_halvesAt -/
theorem flX2_28 : hf_Fl RX2 28 1 0 := ⟨(RX1, TX1, 13), RX1, rfl, by decide, in_X1, tyX1_ok, nmX1, Or.inr ⟨"HalfFair", q231⟩, Or.inl rfl⟩
theorem mvX2_34 : hf_MV RX2 34 RJ2 yJ2_size cJ2_size 1 (some .int) 0 := ⟨lw_V q763 q614 q615 q157 q616, by decide +kernel⟩
theorem flX2_9 : hf_Fl RX2 9 2 0 := ⟨(RX2, TX2, 5), RX2, rfl, by decide, in_X2, tyX2_ok, nmX2, Or.inl q296, Or.inl rfl⟩
def ndX2_halvesAt_37 (k5 : Nat → Nat → Int32 → Int32 → Int32 → hf_H → Option (Int32 × hf_H)) (l0 : Nat) (l1 : Nat) (l2 : Int32) (l4 : Int32) (s0 : Int32) (s1 : Int32) (V0 : hf_H) : Option (Int32 × hf_H) :=
  hf_let (s0 ||| s1) fun x1 =>
  hf_let (l4 + (1 : Int32)) fun x2 =>
  k5 l0 l1 l2 x1 x2 V0
theorem nlX2_halvesAt_37 {C : hf_X} {gs : hf_gs} (o : hf_In C cX2_halvesAt RX2 5 (some .int) 1 20) (og : hf_G C gs) (k5 : Nat → Nat → Int32 → Int32 → Int32 → hf_H → Option (Int32 × hf_H)) (hk5 : ∀ (l0 : Nat) (l1 : Nat) (l2 : Int32) (l3 : Int32) (l4 : Int32) (V0 : hf_H), hf_J C hf_dHI (k5 l0 l1 l2 l3 l4 V0) V0 5 [(0, .ref l0), (1, .ref l1), (2, .int l2), (3, .int l3), (4, .int l4)] []) (l0 : Nat) (l1 : Nat) (l2 : Int32) (l4 : Int32) (s0 : Int32) (s1 : Int32) (V0 : hf_H) : hf_J C hf_dHI (ndX2_halvesAt_37 k5 l0 l1 l2 l4 s0 s1 V0) V0 37 [(0, .ref l0), (1, .ref l1), (2, .int l2), (4, .int l4)] [.int s1, .int s0] := by
  refine hr_ior o dX2_halvesAt_37 ?_
  refine hr_nmI (fun x1 => ?_)
  refine hr_istore_n o [(3, .int x1), (0, .ref l0), (1, .ref l1), (2, .int l2), (4, .int l4)] dX2_halvesAt_38 (by decide) rfl ?_
  refine hr_iincN o (1 : Int32) 4 (fun y => [(4, .int y), (3, .int x1), (0, .ref l0), (1, .ref l1), (2, .int l2)]) dX2_halvesAt_39 rfl (by decide) (by decide) (fun y => rfl) (fun x2 => ?_)
  refine hr_goto o 5 dX2_halvesAt_42 (by decide) ?_
  refine hr_sub [2, 3, 4, 1, 0] rfl ?_
  exact hk5 l0 l1 l2 x1 x2 V0
def ndX2_halvesAt_5 (k5 : Nat → Nat → Int32 → Int32 → Int32 → hf_H → Option (Int32 × hf_H)) (l0 : Nat) (l1 : Nat) (l2 : Int32) (l3 : Int32) (l4 : Int32) (V0 : hf_H) : Option (Int32 × hf_H) :=
  (hf_ga 1 1 0 V0 l1).bind fun x1 =>
  (hf_ob 0 19 V0 x1).bind fun _ =>
  hf_b2 (spJ2_size x1 V0) fun x3 g2 =>
  if x3 ≤ l4 then (some (l3, g2)) else
  (hf_ob 1 2 g2 l0).bind fun _ =>
  (hf_ai 2 0 12 g2 l0 l4).bind fun x4 =>
  if x4 = l2 then (ndX2_halvesAt_37 k5 l0 l1 l2 l4 l3 ((1 : Int32) <<< (l4 &&& 31)) g2) else
  ndX2_halvesAt_37 k5 l0 l1 l2 l4 l3 (0 : Int32) g2
theorem nlX2_halvesAt_5 {C : hf_X} {gs : hf_gs} (o : hf_In C cX2_halvesAt RX2 5 (some .int) 1 20) (og : hf_G C gs) (k5 : Nat → Nat → Int32 → Int32 → Int32 → hf_H → Option (Int32 × hf_H)) (hk5 : ∀ (l0 : Nat) (l1 : Nat) (l2 : Int32) (l3 : Int32) (l4 : Int32) (V0 : hf_H), hf_J C hf_dHI (k5 l0 l1 l2 l3 l4 V0) V0 5 [(0, .ref l0), (1, .ref l1), (2, .int l2), (3, .int l3), (4, .int l4)] []) (l0 : Nat) (l1 : Nat) (l2 : Int32) (l3 : Int32) (l4 : Int32) (V0 : hf_H) : hf_J C hf_dHI (ndX2_halvesAt_5 k5 l0 l1 l2 l3 l4 V0) V0 5 [(0, .ref l0), (1, .ref l1), (2, .int l2), (3, .int l3), (4, .int l4)] [] := by
  refine hr_iload o 4 dX2_halvesAt_5 rfl ?_
  refine hr_aload_n o 1 dX2_halvesAt_7 rfl ?_
  refine hr_getA (md := 1) o flX2_28 dX2_halvesAt_8 (fun _ => rfl) (fun x1 => ?_)
  refine hx_callVI (q := (RJ2, TJ2, 3)) o og mvX2_34 dX2_halvesAt_11 0 19 rfl [] (fun zr zg ze => mtJ2_size x1 V0 zr zg ze) rfl rfl (Nat.le_of_ble_eq_true rfl) ⟨by decide, by decide⟩ (fun x3 g2 => ?_)
  refine hr_icmp_ge o 45 dX2_halvesAt_14 (by decide) (fun _ => ?_) (fun _ => ?_)
  · refine hr_iload_n o 3 dX2_halvesAt_45 rfl ?_
    exact hr_iret o dX2_halvesAt_46 rfl rfl
  refine hr_iload_n o 3 dX2_halvesAt_17 rfl ?_
  refine hr_aload_n o 0 dX2_halvesAt_18 rfl ?_
  refine hr_getO o flX2_9 dX2_halvesAt_19 1 (fun _ => rfl) (fun _ _ => ?_)
  refine hr_iload o 4 dX2_halvesAt_22 rfl ?_
  refine hx_iald o 2 0 1 12 rfl (by decide) rfl dX2_halvesAt_24 (fun x4 => ?_)
  refine hr_iload_n o 2 dX2_halvesAt_25 rfl ?_
  refine hr_icmp_ne o 36 dX2_halvesAt_26 (by decide) (fun _ => ?_) (fun _ => ?_)
  · refine hr_iconst o (1 : Int32) dX2_halvesAt_29 (by decide) ?_
    refine hr_iload o 4 dX2_halvesAt_30 rfl ?_
    refine hr_ishl o dX2_halvesAt_32 ?_
    refine hr_goto o 37 dX2_halvesAt_33 (by decide) ?_
    refine hr_sub [0, 1, 2, 4] rfl ?_
    exact nlX2_halvesAt_37 o og k5 hk5 l0 l1 l2 l4 l3 ((1 : Int32) <<< (l4 &&& 31)) g2
  refine hr_iconst o (0 : Int32) dX2_halvesAt_36 (by decide) ?_
  refine hr_sub [0, 1, 2, 4] rfl ?_
  exact nlX2_halvesAt_37 o og k5 hk5 l0 l1 l2 l4 l3 (0 : Int32) g2
def lpX2_halvesAt_5  : Nat → Nat → Nat → Int32 → Int32 → Int32 → hf_H → Option (Int32 × hf_H)
  | 0 => fun _ _ _ _ _ _ => none
  | n + 1 => fun l0 l1 l2 l3 l4 V0 => ndX2_halvesAt_5  (lpX2_halvesAt_5  n) l0 l1 l2 l3 l4 V0
theorem llX2_halvesAt_5 {C : hf_X} {gs : hf_gs} (o : hf_In C cX2_halvesAt RX2 5 (some .int) 1 20) (og : hf_G C gs)   (n : Nat) : ∀ (l0 : Nat) (l1 : Nat) (l2 : Int32) (l3 : Int32) (l4 : Int32) (V0 : hf_H), hf_J C hf_dHI ((lpX2_halvesAt_5  n) l0 l1 l2 l3 l4 V0) V0 5 [(0, .ref l0), (1, .ref l1), (2, .int l2), (3, .int l3), (4, .int l4)] [] := by
  induction n with
  | zero => exact fun _ _ _ _ _ _ => hr_none
  | succ n ih => exact fun l0 l1 l2 l3 l4 V0 => nlX2_halvesAt_5 o og  (lpX2_halvesAt_5  n)  ih l0 l1 l2 l3 l4 V0
def spX2_halvesAt (l0 : Nat) (l1 : Nat) (l2 : Int32) (V0 : hf_H) : Option (Int32 × hf_H) :=
  lpX2_halvesAt_5 hf_N l0 l1 l2 (0 : Int32) (0 : Int32) V0
theorem jtX2_halvesAt {C : hf_X} {gs : hf_gs} (o : hf_In C cX2_halvesAt RX2 5 (some .int) 1 20) (og : hf_G C gs) (l0 : Nat) (l1 : Nat) (l2 : Int32) (V0 : hf_H) : hf_J C hf_dHI (spX2_halvesAt l0 l1 l2 V0) V0 0 [(0, .ref l0), (1, .ref l1), (2, .int l2)] [] := by
  refine hr_iconst o (0 : Int32) dX2_halvesAt_0 (by decide) ?_
  refine hr_istore_n o [(3, .int (0 : Int32)), (0, .ref l0), (1, .ref l1), (2, .int l2)] dX2_halvesAt_1 (by decide) rfl ?_
  refine hr_iconst o (0 : Int32) dX2_halvesAt_2 (by decide) ?_
  refine hr_istore o [(4, .int (0 : Int32)), (3, .int (0 : Int32)), (0, .ref l0), (1, .ref l1), (2, .int l2)] dX2_halvesAt_3 (by decide) rfl ?_
  refine hr_sub [2, 3, 4, 1, 0] rfl ?_
  exact llX2_halvesAt_5 o og hf_N l0 l1 l2 (0 : Int32) (0 : Int32) V0
theorem mtX2_halvesAt {gs : hf_gs} (l0 : Nat) (l1 : Nat) (l2 : Int32) (V0 : hf_H) (r : Int32) (V1 : hf_H) (e : spX2_halvesAt l0 l1 l2 V0 = some (r, V1)) : hf_ConG gs yX2_halvesAt cX2_halvesAt 5 (some .int) 1 20 [.ref l0, .ref l1, .int l2] V0 (.returned (some (.int r)), V1) := hf_entryG (dec := hf_dHI) (by decide) [.ref l0, .ref l1, .int l2] (Nat.le_of_ble_eq_true rfl) [(0, .ref l0), (1, .ref l1), (2, .int l2)] rfl e (fun C o og _ => jtX2_halvesAt o og l0 l1 l2 V0)

/-! X2_stallOf -/
theorem flX2_18 : hf_Fl RX2 18 2 2 := ⟨(RX2, TX2, 5), RX2, rfl, by decide, in_X2, tyX2_ok, nmX2, Or.inl q300, Or.inl rfl⟩
theorem flX2_24 : hf_Fl RX2 24 2 4 := ⟨(RX2, TX2, 5), RX2, rfl, by decide, in_X2, tyX2_ok, nmX2, Or.inl q304, Or.inl rfl⟩
theorem mvX2_66 : hf_MV RX2 66 RX1 yX1_stallAt cX1_stallAt 4 (some .int) 2 := ⟨lw_V q786 q787 q788 q154 q789, by decide +kernel⟩
def spX2_stallOf (l0 : Nat) (l1 : Nat) (l2 : Int32) (V0 : hf_H) : Option (Int32 × hf_H) :=
  (hf_ob 1 2 V0 l0).bind fun _ =>
  (hf_ai 2 2 4 V0 l0 l2).bind fun x1 =>
  (hf_gi 1 2 4 V0 l0).bind fun x2 =>
  (hf_ob 1 1 V0 l1).bind fun _ =>
  hf_b2 (spX1_stallAt l1 x1 x2 V0) fun x4 g3 =>
  some (x4, g3)
theorem jtX2_stallOf {C : hf_X} {gs : hf_gs} (o : hf_In C cX2_stallOf RX2 3 (some .int) 2 45) (og : hf_G C gs) (l0 : Nat) (l1 : Nat) (l2 : Int32) (V0 : hf_H) : hf_J C hf_dHI (spX2_stallOf l0 l1 l2 V0) V0 0 [(0, .ref l0), (1, .ref l1), (2, .int l2)] [] := by
  refine hr_aload_n o 1 dX2_stallOf_0 rfl ?_
  refine hr_aload_n o 0 dX2_stallOf_1 rfl ?_
  refine hr_getO o flX2_18 dX2_stallOf_2 3 (fun _ => rfl) (fun _ _ => ?_)
  refine hr_iload_n o 2 dX2_stallOf_5 rfl ?_
  refine hx_iald o 2 2 3 4 rfl (by decide) rfl dX2_stallOf_6 (fun x1 => ?_)
  refine hr_aload_n o 0 dX2_stallOf_7 rfl ?_
  refine hr_getI (md := 1) o flX2_24 dX2_stallOf_8 (fun _ => rfl) (fun x2 => ?_)
  refine hx_callVI (q := (RX1, TX1, 13)) o og mvX2_66 dX2_stallOf_11 1 1 rfl [.int x1, .int x2] (fun zr zg ze => mtX1_stallAt l1 x1 x2 V0 zr zg ze) rfl rfl (Nat.le_of_ble_eq_true rfl) ⟨by decide, by decide⟩ (fun x4 g3 => ?_)
  exact hr_iret o dX2_stallOf_14 rfl rfl
theorem mtX2_stallOf {gs : hf_gs} (l0 : Nat) (l1 : Nat) (l2 : Int32) (V0 : hf_H) (r : Int32) (V1 : hf_H) (e : spX2_stallOf l0 l1 l2 V0 = some (r, V1)) : hf_ConG gs yX2_stallOf cX2_stallOf 3 (some .int) 2 45 [.ref l0, .ref l1, .int l2] V0 (.returned (some (.int r)), V1) := hf_entryG (dec := hf_dHI) (by decide) [.ref l0, .ref l1, .int l2] (Nat.le_of_ble_eq_true rfl) [(0, .ref l0), (1, .ref l1), (2, .int l2)] rfl e (fun C o og _ => jtX2_stallOf o og l0 l1 l2 V0)

/-! X2_sees -/
theorem flX2_49 : hf_Fl RX2 49 1 1 := ⟨(RX1, TX1, 13), RX1, rfl, by decide, in_X1, tyX1_ok, nmX1, Or.inr ⟨"HalfFair", q235⟩, Or.inl rfl⟩
theorem flX2_21 : hf_Fl RX2 21 2 3 := ⟨(RX2, TX2, 5), RX2, rfl, by decide, in_X2, tyX2_ok, nmX2, Or.inl q302, Or.inl rfl⟩
theorem mvX2_70 : hf_MV RX2 70 RX2 yX2_stallOf cX2_stallOf 3 (some .int) 2 := ⟨lw_V q782 q783 q784 q158 q785, by decide +kernel⟩
theorem mvX2_62 : hf_MV RX2 62 RX2 yX2_halvesAt cX2_halvesAt 5 (some .int) 2 := ⟨lw_V q794 q795 q796 q158 q797, by decide +kernel⟩
def ndX2_sees_2 (k2 : Nat → Nat → Int32 → hf_H → Option hf_H) (l0 : Nat) (l1 : Nat) (l2 : Int32) (V0 : hf_H) : Option hf_H :=
  (hf_ga 1 1 1 V0 l1).bind fun x1 =>
  (hf_ob 0 19 V0 x1).bind fun _ =>
  hf_b2 (spJ2_size x1 V0) fun x3 g2 =>
  if x3 ≤ l2 then (some g2) else
  (hf_ob 1 2 g2 l0).bind fun _ =>
  (hf_ai 2 3 4 g2 l0 l2).bind fun x4 =>
  (hf_ob 1 2 g2 l0).bind fun _ =>
  hf_b2 (spX2_stallOf l0 l1 l2 g2) fun x6 g5 =>
  (hf_ob 1 2 g5 l0).bind fun _ =>
  hf_b2 (spX2_halvesAt l0 l1 x6 g5) fun x8 g7 =>
  (hf_si 2 3 4 g7 l0 l2 (x4 ||| x8)).bind fun g9 =>
  hf_let (l2 + (1 : Int32)) fun x10 =>
  k2 l0 l1 x10 g9
theorem nlX2_sees_2 {C : hf_X} {gs : hf_gs} (o : hf_In C cX2_sees RX2 3 (none) 3 67) (og : hf_G C gs) (k2 : Nat → Nat → Int32 → hf_H → Option hf_H) (hk2 : ∀ (l0 : Nat) (l1 : Nat) (l2 : Int32) (V0 : hf_H), hf_J C hf_dHV (k2 l0 l1 l2 V0) V0 2 [(0, .ref l0), (1, .ref l1), (2, .int l2)] []) (l0 : Nat) (l1 : Nat) (l2 : Int32) (V0 : hf_H) : hf_J C hf_dHV (ndX2_sees_2 k2 l0 l1 l2 V0) V0 2 [(0, .ref l0), (1, .ref l1), (2, .int l2)] [] := by
  refine hr_iload_n o 2 dX2_sees_2 rfl ?_
  refine hr_aload_n o 1 dX2_sees_3 rfl ?_
  refine hr_getA (md := 1) o flX2_49 dX2_sees_4 (fun _ => rfl) (fun x1 => ?_)
  refine hx_callVI (q := (RJ2, TJ2, 3)) o og mvX2_34 dX2_sees_7 0 19 rfl [] (fun zr zg ze => mtJ2_size x1 V0 zr zg ze) rfl rfl (Nat.le_of_ble_eq_true rfl) ⟨by decide, by decide⟩ (fun x3 g2 => ?_)
  refine hr_icmp_ge o 39 dX2_sees_10 (by decide) (fun _ => ?_) (fun _ => ?_)
  · exact hr_vret o dX2_sees_39 rfl
  refine hr_aload_n o 0 dX2_sees_13 rfl ?_
  refine hr_getO o flX2_21 dX2_sees_14 4 (fun _ => rfl) (fun _ _ => ?_)
  refine hr_iload_n o 2 dX2_sees_17 rfl ?_
  refine hr_dup2 o dX2_sees_18 rfl rfl ?_
  refine hx_iald o 2 3 4 4 rfl (by decide) rfl dX2_sees_19 (fun x4 => ?_)
  refine hr_aload_n o 0 dX2_sees_20 rfl ?_
  refine hr_aload_n o 1 dX2_sees_21 rfl ?_
  refine hr_aload_n o 0 dX2_sees_22 rfl ?_
  refine hr_aload_n o 1 dX2_sees_23 rfl ?_
  refine hr_iload_n o 2 dX2_sees_24 rfl ?_
  refine hx_callVI (q := (RX2, TX2, 5)) o og mvX2_70 dX2_sees_25 1 2 rfl [.ref l1, .int l2] (fun zr zg ze => mtX2_stallOf l0 l1 l2 g2 zr zg ze) rfl rfl (Nat.le_of_ble_eq_true rfl) ⟨by decide, by decide⟩ (fun x6 g5 => ?_)
  refine hx_callVI (q := (RX2, TX2, 5)) o og mvX2_62 dX2_sees_28 1 2 rfl [.ref l1, .int x6] (fun zr zg ze => mtX2_halvesAt l0 l1 x6 g5 zr zg ze) rfl rfl (Nat.le_of_ble_eq_true rfl) ⟨by decide, by decide⟩ (fun x8 g7 => ?_)
  refine hr_ior o dX2_sees_31 ?_
  refine hx_iast o 2 3 4 4 rfl (by decide) (fun j h1 h2 => hf_of2_inj j 3 h1 h2) rfl dX2_sees_32 (fun g9 => ?_)
  refine hr_iincN o (1 : Int32) 2 (fun y => [(2, .int y), (0, .ref l0), (1, .ref l1)]) dX2_sees_33 rfl (by decide) (by decide) (fun y => rfl) (fun x10 => ?_)
  refine hr_goto o 2 dX2_sees_36 (by decide) ?_
  refine hr_sub [1, 2, 0] rfl ?_
  exact hk2 l0 l1 x10 g9
def lpX2_sees_2  : Nat → Nat → Nat → Int32 → hf_H → Option hf_H
  | 0 => fun _ _ _ _ => none
  | n + 1 => fun l0 l1 l2 V0 => ndX2_sees_2  (lpX2_sees_2  n) l0 l1 l2 V0
theorem llX2_sees_2 {C : hf_X} {gs : hf_gs} (o : hf_In C cX2_sees RX2 3 (none) 3 67) (og : hf_G C gs)   (n : Nat) : ∀ (l0 : Nat) (l1 : Nat) (l2 : Int32) (V0 : hf_H), hf_J C hf_dHV ((lpX2_sees_2  n) l0 l1 l2 V0) V0 2 [(0, .ref l0), (1, .ref l1), (2, .int l2)] [] := by
  induction n with
  | zero => exact fun _ _ _ _ => hr_none
  | succ n ih => exact fun l0 l1 l2 V0 => nlX2_sees_2 o og  (lpX2_sees_2  n)  ih l0 l1 l2 V0
def spX2_sees (l0 : Nat) (l1 : Nat) (V0 : hf_H) : Option hf_H :=
  lpX2_sees_2 hf_N l0 l1 (0 : Int32) V0
theorem jtX2_sees {C : hf_X} {gs : hf_gs} (o : hf_In C cX2_sees RX2 3 (none) 3 67) (og : hf_G C gs) (l0 : Nat) (l1 : Nat) (V0 : hf_H) : hf_J C hf_dHV (spX2_sees l0 l1 V0) V0 0 [(0, .ref l0), (1, .ref l1)] [] := by
  refine hr_iconst o (0 : Int32) dX2_sees_0 (by decide) ?_
  refine hr_istore_n o [(2, .int (0 : Int32)), (0, .ref l0), (1, .ref l1)] dX2_sees_1 (by decide) rfl ?_
  refine hr_sub [1, 2, 0] rfl ?_
  exact llX2_sees_2 o og hf_N l0 l1 (0 : Int32) V0
theorem mtX2_sees {gs : hf_gs} (l0 : Nat) (l1 : Nat) (V0 V1 : hf_H) (e : spX2_sees l0 l1 V0 = some V1) : hf_ConG gs yX2_sees cX2_sees 3 (none) 3 67 [.ref l0, .ref l1] V0 (.returned none, V1) := hf_entryG (dec := hf_dHV) (by decide) [.ref l0, .ref l1] (Nat.le_of_ble_eq_true rfl) [(0, .ref l0), (1, .ref l1)] rfl e (fun C o og _ => jtX2_sees o og l0 l1 V0)

/-! X2_begin -/
theorem nf_2_4 : hf_Nf 2 4 := ⟨(RX2, TX2, 5), rfl, rfl⟩
theorem mvX2_58 : hf_MV RX2 58 RX2 yX2_sees cX2_sees 3 (none) 1 := ⟨lw_V q778 q779 q780 q158 q781, by decide +kernel⟩
theorem flX2_15 : hf_Fl RX2 15 2 1 := ⟨(RX2, TX2, 5), RX2, rfl, by decide, in_X2, tyX2_ok, nmX2, Or.inl q298, Or.inl rfl⟩
theorem mvX2_40 : hf_MV RX2 40 RJ2 yJ2_get cJ2_get 2 (some (.object "java/lang/Object")) 1 := ⟨lw_V q764 q765 q766 q157 q767, by decide +kernel⟩
theorem flX2_54 : hf_Fl RX2 54 7 0 := ⟨(RX7, TX7, 2), RX7, rfl, by decide, in_X7, tyX7_ok, nmX7, Or.inr ⟨"HalfFair", q724⟩, Or.inl rfl⟩
theorem flX2_56 : hf_Fl RX2 56 7 1 := ⟨(RX7, TX7, 2), RX7, rfl, by decide, in_X7, tyX7_ok, nmX7, Or.inr ⟨"HalfFair", q726⟩, Or.inl rfl⟩
theorem flX2_46 : hf_Fl RX2 46 6 0 := ⟨(RX6, TX6, 4), RX6, rfl, by decide, in_X6, tyX6_ok, nmX6, Or.inr ⟨"HalfFair", q631⟩, Or.inl rfl⟩
def ndX2_begin_41 (k41 : Nat → Nat → Int32 → hf_H → Option hf_H) (l0 : Nat) (l1 : Nat) (l2 : Int32) (V0 : hf_H) : Option hf_H :=
  (hf_ga 1 1 1 V0 l1).bind fun x1 =>
  (hf_ob 0 19 V0 x1).bind fun _ =>
  hf_b2 (spJ2_size x1 V0) fun x3 g2 =>
  if x3 ≤ l2 then ((hf_pi 1 2 4 g2 l0 (0 : Int32)).bind fun g4 =>
  (hf_ob 1 2 g4 l0).bind fun _ =>
  (spX2_sees l0 l1 g4).bind fun g5 =>
  some g5) else
  (hf_ob 1 2 g2 l0).bind fun _ =>
  (hf_ga 1 1 1 g2 l1).bind fun x6 =>
  (hf_ob 0 19 g2 x6).bind fun _ =>
  hf_b2 (spJ2_get x6 l2 g2) fun x8 g7 =>
  (hf_ob 0 7 g7 x8).bind fun _ =>
  (hf_gi 0 7 0 g7 x8).bind fun x9 =>
  (hf_si 2 1 4 g7 l0 l2 x9).bind fun g10 =>
  (hf_ob 1 2 g10 l0).bind fun _ =>
  (hf_ga 1 1 1 g10 l1).bind fun x11 =>
  (hf_ob 0 19 g10 x11).bind fun _ =>
  hf_b2 (spJ2_get x11 l2 g10) fun x13 g12 =>
  (hf_ob 0 7 g12 x13).bind fun _ =>
  (hf_gi 0 7 1 g12 x13).bind fun x14 =>
  (hf_si 2 2 4 g12 l0 l2 x14).bind fun g15 =>
  (hf_ob 1 2 g15 l0).bind fun _ =>
  (hf_si 2 3 4 g15 l0 l2 (0 : Int32)).bind fun g16 =>
  hf_let (l2 + (1 : Int32)) fun x17 =>
  k41 l0 l1 x17 g16
theorem nlX2_begin_41 {C : hf_X} {gs : hf_gs} (o : hf_In C cX2_begin RX2 3 (none) 4 89) (og : hf_G C gs) (k41 : Nat → Nat → Int32 → hf_H → Option hf_H) (hk41 : ∀ (l0 : Nat) (l1 : Nat) (l2 : Int32) (V0 : hf_H), hf_J C hf_dHV (k41 l0 l1 l2 V0) V0 41 [(0, .ref l0), (1, .ref l1), (2, .int l2)] []) (l0 : Nat) (l1 : Nat) (l2 : Int32) (V0 : hf_H) : hf_J C hf_dHV (ndX2_begin_41 k41 l0 l1 l2 V0) V0 41 [(0, .ref l0), (1, .ref l1), (2, .int l2)] [] := by
  refine hr_iload_n o 2 dX2_begin_41 rfl ?_
  refine hr_aload_n o 1 dX2_begin_42 rfl ?_
  refine hr_getA (md := 1) o flX2_49 dX2_begin_43 (fun _ => rfl) (fun x1 => ?_)
  refine hx_callVI (q := (RJ2, TJ2, 3)) o og mvX2_34 dX2_begin_46 0 19 rfl [] (fun zr zg ze => mtJ2_size x1 V0 zr zg ze) rfl rfl (Nat.le_of_ble_eq_true rfl) ⟨by decide, by decide⟩ (fun x3 g2 => ?_)
  refine hr_icmp_ge o 105 dX2_begin_49 (by decide) (fun _ => ?_) (fun _ => ?_)
  · refine hr_aload_n o 0 dX2_begin_105 rfl ?_
    refine hr_iconst o (0 : Int32) dX2_begin_106 (by decide) ?_
    refine hx_putI (md := 1) o flX2_24 dX2_begin_107 rfl (Or.inl nf_2_4) rfl rfl (fun _ => rfl) (fun g4 => ?_)
    refine hr_aload_n o 0 dX2_begin_110 rfl ?_
    refine hr_aload_n o 1 dX2_begin_111 rfl ?_
    refine hx_callVV (q := (RX2, TX2, 5)) o og mvX2_58 dX2_begin_112 1 2 rfl [.ref l1] (fun zg ze => mtX2_sees l0 l1 g4 zg ze) rfl rfl (Nat.le_of_ble_eq_true rfl) ⟨by decide, by decide⟩ (fun g5 => ?_)
    exact hr_vret o dX2_begin_115 rfl
  refine hr_aload_n o 0 dX2_begin_52 rfl ?_
  refine hr_getO o flX2_15 dX2_begin_53 2 (fun _ => rfl) (fun _ _ => ?_)
  refine hr_iload_n o 2 dX2_begin_56 rfl ?_
  refine hr_aload_n o 1 dX2_begin_57 rfl ?_
  refine hr_getA (md := 1) o flX2_49 dX2_begin_58 (fun _ => rfl) (fun x6 => ?_)
  refine hr_iload_n o 2 dX2_begin_61 rfl ?_
  refine hx_callVA (q := (RJ2, TJ2, 3)) o og mvX2_40 dX2_begin_62 0 19 rfl [.int l2] (fun zr zg ze => mtJ2_get x6 l2 g2 zr zg ze) rfl rfl (Nat.le_of_ble_eq_true rfl) ⟨by decide, by decide⟩ (fun x8 g7 => ?_)
  refine hx_cast (md := 0) (ci := 7) (q := (RX7, TX7, 2)) o q777 rfl dX2_begin_65 (fun _ => ?_)
  refine hr_getI (md := 0) o flX2_54 dX2_begin_68 (fun _ => rfl) (fun x9 => ?_)
  refine hx_iast o 2 1 2 4 rfl (by decide) (fun j h1 h2 => hf_of2_inj j 1 h1 h2) rfl dX2_begin_71 (fun g10 => ?_)
  refine hr_aload_n o 0 dX2_begin_72 rfl ?_
  refine hr_getO o flX2_18 dX2_begin_73 3 (fun _ => rfl) (fun _ _ => ?_)
  refine hr_iload_n o 2 dX2_begin_76 rfl ?_
  refine hr_aload_n o 1 dX2_begin_77 rfl ?_
  refine hr_getA (md := 1) o flX2_49 dX2_begin_78 (fun _ => rfl) (fun x11 => ?_)
  refine hr_iload_n o 2 dX2_begin_81 rfl ?_
  refine hx_callVA (q := (RJ2, TJ2, 3)) o og mvX2_40 dX2_begin_82 0 19 rfl [.int l2] (fun zr zg ze => mtJ2_get x11 l2 g10 zr zg ze) rfl rfl (Nat.le_of_ble_eq_true rfl) ⟨by decide, by decide⟩ (fun x13 g12 => ?_)
  refine hx_cast (md := 0) (ci := 7) (q := (RX7, TX7, 2)) o q777 rfl dX2_begin_85 (fun _ => ?_)
  refine hr_getI (md := 0) o flX2_56 dX2_begin_88 (fun _ => rfl) (fun x14 => ?_)
  refine hx_iast o 2 2 3 4 rfl (by decide) (fun j h1 h2 => hf_of2_inj j 2 h1 h2) rfl dX2_begin_91 (fun g15 => ?_)
  refine hr_aload_n o 0 dX2_begin_92 rfl ?_
  refine hr_getO o flX2_21 dX2_begin_93 4 (fun _ => rfl) (fun _ _ => ?_)
  refine hr_iload_n o 2 dX2_begin_96 rfl ?_
  refine hr_iconst o (0 : Int32) dX2_begin_97 (by decide) ?_
  refine hx_iast o 2 3 4 4 rfl (by decide) (fun j h1 h2 => hf_of2_inj j 3 h1 h2) rfl dX2_begin_98 (fun g16 => ?_)
  refine hr_iincN o (1 : Int32) 2 (fun y => [(2, .int y), (0, .ref l0), (1, .ref l1)]) dX2_begin_99 rfl (by decide) (by decide) (fun y => rfl) (fun x17 => ?_)
  refine hr_goto o 41 dX2_begin_102 (by decide) ?_
  refine hr_sub [1, 2, 0] rfl ?_
  exact hk41 l0 l1 x17 g16
def lpX2_begin_41  : Nat → Nat → Nat → Int32 → hf_H → Option hf_H
  | 0 => fun _ _ _ _ => none
  | n + 1 => fun l0 l1 l2 V0 => ndX2_begin_41  (lpX2_begin_41  n) l0 l1 l2 V0
theorem llX2_begin_41 {C : hf_X} {gs : hf_gs} (o : hf_In C cX2_begin RX2 3 (none) 4 89) (og : hf_G C gs)   (n : Nat) : ∀ (l0 : Nat) (l1 : Nat) (l2 : Int32) (V0 : hf_H), hf_J C hf_dHV ((lpX2_begin_41  n) l0 l1 l2 V0) V0 41 [(0, .ref l0), (1, .ref l1), (2, .int l2)] [] := by
  induction n with
  | zero => exact fun _ _ _ _ => hr_none
  | succ n ih => exact fun l0 l1 l2 V0 => nlX2_begin_41 o og  (lpX2_begin_41  n)  ih l0 l1 l2 V0
def ndX2_begin_2 (k2 : Nat → Nat → Int32 → hf_H → Option hf_H) (l0 : Nat) (l1 : Nat) (l2 : Int32) (V0 : hf_H) : Option hf_H :=
  (hf_ga 1 1 0 V0 l1).bind fun x1 =>
  (hf_ob 0 19 V0 x1).bind fun _ =>
  hf_b2 (spJ2_size x1 V0) fun x3 g2 =>
  if x3 ≤ l2 then (lpX2_begin_41 hf_N l0 l1 (0 : Int32) g2) else
  (hf_ob 1 2 g2 l0).bind fun _ =>
  (hf_ga 1 1 0 g2 l1).bind fun x4 =>
  (hf_ob 0 19 g2 x4).bind fun _ =>
  hf_b2 (spJ2_get x4 l2 g2) fun x6 g5 =>
  (hf_ob 0 6 g5 x6).bind fun _ =>
  (hf_gi 0 6 0 g5 x6).bind fun x7 =>
  (hf_si 2 0 12 g5 l0 l2 x7).bind fun g8 =>
  hf_let (l2 + (1 : Int32)) fun x9 =>
  k2 l0 l1 x9 g8
theorem nlX2_begin_2 {C : hf_X} {gs : hf_gs} (o : hf_In C cX2_begin RX2 3 (none) 4 89) (og : hf_G C gs) (k2 : Nat → Nat → Int32 → hf_H → Option hf_H) (hk2 : ∀ (l0 : Nat) (l1 : Nat) (l2 : Int32) (V0 : hf_H), hf_J C hf_dHV (k2 l0 l1 l2 V0) V0 2 [(0, .ref l0), (1, .ref l1), (2, .int l2)] []) (l0 : Nat) (l1 : Nat) (l2 : Int32) (V0 : hf_H) : hf_J C hf_dHV (ndX2_begin_2 k2 l0 l1 l2 V0) V0 2 [(0, .ref l0), (1, .ref l1), (2, .int l2)] [] := by
  refine hr_iload_n o 2 dX2_begin_2 rfl ?_
  refine hr_aload_n o 1 dX2_begin_3 rfl ?_
  refine hr_getA (md := 1) o flX2_28 dX2_begin_4 (fun _ => rfl) (fun x1 => ?_)
  refine hx_callVI (q := (RJ2, TJ2, 3)) o og mvX2_34 dX2_begin_7 0 19 rfl [] (fun zr zg ze => mtJ2_size x1 V0 zr zg ze) rfl rfl (Nat.le_of_ble_eq_true rfl) ⟨by decide, by decide⟩ (fun x3 g2 => ?_)
  refine hr_icmp_ge o 39 dX2_begin_10 (by decide) (fun _ => ?_) (fun _ => ?_)
  · refine hr_iconst o (0 : Int32) dX2_begin_39 (by decide) ?_
    refine hr_istore_n o [(2, .int (0 : Int32)), (0, .ref l0), (1, .ref l1)] dX2_begin_40 (by decide) rfl ?_
    refine hr_sub [1, 2, 0] rfl ?_
    exact llX2_begin_41 o og hf_N l0 l1 (0 : Int32) g2
  refine hr_aload_n o 0 dX2_begin_13 rfl ?_
  refine hr_getO o flX2_9 dX2_begin_14 1 (fun _ => rfl) (fun _ _ => ?_)
  refine hr_iload_n o 2 dX2_begin_17 rfl ?_
  refine hr_aload_n o 1 dX2_begin_18 rfl ?_
  refine hr_getA (md := 1) o flX2_28 dX2_begin_19 (fun _ => rfl) (fun x4 => ?_)
  refine hr_iload_n o 2 dX2_begin_22 rfl ?_
  refine hx_callVA (q := (RJ2, TJ2, 3)) o og mvX2_40 dX2_begin_23 0 19 rfl [.int l2] (fun zr zg ze => mtJ2_get x4 l2 g2 zr zg ze) rfl rfl (Nat.le_of_ble_eq_true rfl) ⟨by decide, by decide⟩ (fun x6 g5 => ?_)
  refine hx_cast (md := 0) (ci := 6) (q := (RX6, TX6, 4)) o q776 rfl dX2_begin_26 (fun _ => ?_)
  refine hr_getI (md := 0) o flX2_46 dX2_begin_29 (fun _ => rfl) (fun x7 => ?_)
  refine hx_iast o 2 0 1 12 rfl (by decide) (fun j h1 h2 => hf_of2_inj j 0 h1 h2) rfl dX2_begin_32 (fun g8 => ?_)
  refine hr_iincN o (1 : Int32) 2 (fun y => [(2, .int y), (0, .ref l0), (1, .ref l1)]) dX2_begin_33 rfl (by decide) (by decide) (fun y => rfl) (fun x9 => ?_)
  refine hr_goto o 2 dX2_begin_36 (by decide) ?_
  refine hr_sub [1, 2, 0] rfl ?_
  exact hk2 l0 l1 x9 g8
def lpX2_begin_2  : Nat → Nat → Nat → Int32 → hf_H → Option hf_H
  | 0 => fun _ _ _ _ => none
  | n + 1 => fun l0 l1 l2 V0 => ndX2_begin_2  (lpX2_begin_2  n) l0 l1 l2 V0
theorem llX2_begin_2 {C : hf_X} {gs : hf_gs} (o : hf_In C cX2_begin RX2 3 (none) 4 89) (og : hf_G C gs)   (n : Nat) : ∀ (l0 : Nat) (l1 : Nat) (l2 : Int32) (V0 : hf_H), hf_J C hf_dHV ((lpX2_begin_2  n) l0 l1 l2 V0) V0 2 [(0, .ref l0), (1, .ref l1), (2, .int l2)] [] := by
  induction n with
  | zero => exact fun _ _ _ _ => hr_none
  | succ n ih => exact fun l0 l1 l2 V0 => nlX2_begin_2 o og  (lpX2_begin_2  n)  ih l0 l1 l2 V0
def spX2_begin (l0 : Nat) (l1 : Nat) (V0 : hf_H) : Option hf_H :=
  lpX2_begin_2 hf_N l0 l1 (0 : Int32) V0
theorem jtX2_begin {C : hf_X} {gs : hf_gs} (o : hf_In C cX2_begin RX2 3 (none) 4 89) (og : hf_G C gs) (l0 : Nat) (l1 : Nat) (V0 : hf_H) : hf_J C hf_dHV (spX2_begin l0 l1 V0) V0 0 [(0, .ref l0), (1, .ref l1)] [] := by
  refine hr_iconst o (0 : Int32) dX2_begin_0 (by decide) ?_
  refine hr_istore_n o [(2, .int (0 : Int32)), (0, .ref l0), (1, .ref l1)] dX2_begin_1 (by decide) rfl ?_
  refine hr_sub [1, 2, 0] rfl ?_
  exact llX2_begin_2 o og hf_N l0 l1 (0 : Int32) V0
theorem mtX2_begin {gs : hf_gs} (l0 : Nat) (l1 : Nat) (V0 V1 : hf_H) (e : spX2_begin l0 l1 V0 = some V1) : hf_ConG gs yX2_begin cX2_begin 3 (none) 4 89 [.ref l0, .ref l1] V0 (.returned none, V1) := hf_entryG (dec := hf_dHV) (by decide) [.ref l0, .ref l1] (Nat.le_of_ble_eq_true rfl) [(0, .ref l0), (1, .ref l1)] rfl e (fun C o og _ => jtX2_begin o og l0 l1 V0)

/-! X2_halvesOf -/
def spX2_halvesOf (l0 : Nat) (l1 : Nat) (l2 : Int32) (V0 : hf_H) : Option (Int32 × hf_H) :=
  (hf_ob 1 2 V0 l0).bind fun _ =>
  hf_b2 (spX2_halvesAt l0 l1 ((100 : Int32) + l2) V0) fun x2 g1 =>
  some (x2, g1)
theorem jtX2_halvesOf {C : hf_X} {gs : hf_gs} (o : hf_In C cX2_halvesOf RX2 3 (some .int) 2 44) (og : hf_G C gs) (l0 : Nat) (l1 : Nat) (l2 : Int32) (V0 : hf_H) : hf_J C hf_dHI (spX2_halvesOf l0 l1 l2 V0) V0 0 [(0, .ref l0), (1, .ref l1), (2, .int l2)] [] := by
  refine hr_aload_n o 0 dX2_halvesOf_0 rfl ?_
  refine hr_aload_n o 1 dX2_halvesOf_1 rfl ?_
  refine hr_bipush o (100 : Int32) dX2_halvesOf_2 (by decide) ?_
  refine hr_iload_n o 2 dX2_halvesOf_4 rfl ?_
  refine hr_iadd o dX2_halvesOf_5 ?_
  refine hx_callVI (q := (RX2, TX2, 5)) o og mvX2_62 dX2_halvesOf_6 1 2 rfl [.ref l1, .int ((100 : Int32) + l2)] (fun zr zg ze => mtX2_halvesAt l0 l1 ((100 : Int32) + l2) V0 zr zg ze) rfl rfl (Nat.le_of_ble_eq_true rfl) ⟨by decide, by decide⟩ (fun x2 g1 => ?_)
  exact hr_iret o dX2_halvesOf_9 rfl rfl
theorem mtX2_halvesOf {gs : hf_gs} (l0 : Nat) (l1 : Nat) (l2 : Int32) (V0 : hf_H) (r : Int32) (V1 : hf_H) (e : spX2_halvesOf l0 l1 l2 V0 = some (r, V1)) : hf_ConG gs yX2_halvesOf cX2_halvesOf 3 (some .int) 2 44 [.ref l0, .ref l1, .int l2] V0 (.returned (some (.int r)), V1) := hf_entryG (dec := hf_dHI) (by decide) [.ref l0, .ref l1, .int l2] (Nat.le_of_ble_eq_true rfl) [(0, .ref l0), (1, .ref l1), (2, .int l2)] rfl e (fun C o og _ => jtX2_halvesOf o og l0 l1 l2 V0)

/-! X2_clubSaw -/
theorem flX2_73 : hf_Fl RX2 73 1 2 := ⟨(RX1, TX1, 13), RX1, rfl, by decide, in_X1, tyX1_ok, nmX1, Or.inr ⟨"HalfFair", q239⟩, Or.inl rfl⟩
theorem msnX2_76 : hf_MSN RX2 76 "HalfFair" yX0_has cX0_has 2 (some .boolean) 2 := ⟨⟨q1036, q742, q153, q743⟩, by decide +kernel⟩
def ndX2_clubSaw_43 (k5 : Nat → Nat → Int32 → Int32 → Int32 → hf_H → Option (Int32 × hf_H)) (l0 : Nat) (l1 : Nat) (l2 : Int32) (l4 : Int32) (s0 : Int32) (s1 : Int32) (V0 : hf_H) : Option (Int32 × hf_H) :=
  hf_let (s0 ||| s1) fun x1 =>
  hf_let (l4 + (1 : Int32)) fun x2 =>
  k5 l0 l1 l2 x1 x2 V0
theorem nlX2_clubSaw_43 {C : hf_X} {gs : hf_gs} (o : hf_In C cX2_clubSaw RX2 5 (some .int) 1 21) (og : hf_G C gs) (k5 : Nat → Nat → Int32 → Int32 → Int32 → hf_H → Option (Int32 × hf_H)) (hk5 : ∀ (l0 : Nat) (l1 : Nat) (l2 : Int32) (l3 : Int32) (l4 : Int32) (V0 : hf_H), hf_J C hf_dHI (k5 l0 l1 l2 l3 l4 V0) V0 5 [(0, .ref l0), (1, .ref l1), (2, .int l2), (3, .int l3), (4, .int l4)] []) (l0 : Nat) (l1 : Nat) (l2 : Int32) (l4 : Int32) (s0 : Int32) (s1 : Int32) (V0 : hf_H) : hf_J C hf_dHI (ndX2_clubSaw_43 k5 l0 l1 l2 l4 s0 s1 V0) V0 43 [(0, .ref l0), (1, .ref l1), (2, .int l2), (4, .int l4)] [.int s1, .int s0] := by
  refine hr_ior o dX2_clubSaw_43 ?_
  refine hr_nmI (fun x1 => ?_)
  refine hr_istore_n o [(3, .int x1), (0, .ref l0), (1, .ref l1), (2, .int l2), (4, .int l4)] dX2_clubSaw_44 (by decide) rfl ?_
  refine hr_iincN o (1 : Int32) 4 (fun y => [(4, .int y), (3, .int x1), (0, .ref l0), (1, .ref l1), (2, .int l2)]) dX2_clubSaw_45 rfl (by decide) (by decide) (fun y => rfl) (fun x2 => ?_)
  refine hr_goto o 5 dX2_clubSaw_48 (by decide) ?_
  refine hr_sub [2, 3, 4, 1, 0] rfl ?_
  exact hk5 l0 l1 l2 x1 x2 V0
def ndX2_clubSaw_5 (k5 : Nat → Nat → Int32 → Int32 → Int32 → hf_H → Option (Int32 × hf_H)) (l0 : Nat) (l1 : Nat) (l2 : Int32) (l3 : Int32) (l4 : Int32) (V0 : hf_H) : Option (Int32 × hf_H) :=
  (hf_ga 1 1 1 V0 l1).bind fun x1 =>
  (hf_ob 0 19 V0 x1).bind fun _ =>
  hf_b2 (spJ2_size x1 V0) fun x3 g2 =>
  if x3 ≤ l4 then (some (l3, g2)) else
  (hf_ob 1 1 g2 l1).bind fun _ =>
  (hf_ai 1 2 4 g2 l1 l2).bind fun x4 =>
  (spX0_has x4 l4).bind fun x5 =>
  if x5 = 0 then (ndX2_clubSaw_43 k5 l0 l1 l2 l4 l3 (0 : Int32) g2) else
  (hf_ob 1 2 g2 l0).bind fun _ =>
  (hf_ai 2 3 4 g2 l0 l4).bind fun x6 =>
  ndX2_clubSaw_43 k5 l0 l1 l2 l4 l3 x6 g2
theorem nlX2_clubSaw_5 {C : hf_X} {gs : hf_gs} (o : hf_In C cX2_clubSaw RX2 5 (some .int) 1 21) (og : hf_G C gs) (k5 : Nat → Nat → Int32 → Int32 → Int32 → hf_H → Option (Int32 × hf_H)) (hk5 : ∀ (l0 : Nat) (l1 : Nat) (l2 : Int32) (l3 : Int32) (l4 : Int32) (V0 : hf_H), hf_J C hf_dHI (k5 l0 l1 l2 l3 l4 V0) V0 5 [(0, .ref l0), (1, .ref l1), (2, .int l2), (3, .int l3), (4, .int l4)] []) (l0 : Nat) (l1 : Nat) (l2 : Int32) (l3 : Int32) (l4 : Int32) (V0 : hf_H) : hf_J C hf_dHI (ndX2_clubSaw_5 k5 l0 l1 l2 l3 l4 V0) V0 5 [(0, .ref l0), (1, .ref l1), (2, .int l2), (3, .int l3), (4, .int l4)] [] := by
  refine hr_iload o 4 dX2_clubSaw_5 rfl ?_
  refine hr_aload_n o 1 dX2_clubSaw_7 rfl ?_
  refine hr_getA (md := 1) o flX2_49 dX2_clubSaw_8 (fun _ => rfl) (fun x1 => ?_)
  refine hx_callVI (q := (RJ2, TJ2, 3)) o og mvX2_34 dX2_clubSaw_11 0 19 rfl [] (fun zr zg ze => mtJ2_size x1 V0 zr zg ze) rfl rfl (Nat.le_of_ble_eq_true rfl) ⟨by decide, by decide⟩ (fun x3 g2 => ?_)
  refine hr_icmp_ge o 51 dX2_clubSaw_14 (by decide) (fun _ => ?_) (fun _ => ?_)
  · refine hr_iload_n o 3 dX2_clubSaw_51 rfl ?_
    exact hr_iret o dX2_clubSaw_52 rfl rfl
  refine hr_iload_n o 3 dX2_clubSaw_17 rfl ?_
  refine hr_aload_n o 1 dX2_clubSaw_18 rfl ?_
  refine hr_getO o flX2_73 dX2_clubSaw_19 5 (fun _ => rfl) (fun _ _ => ?_)
  refine hr_iload_n o 2 dX2_clubSaw_22 rfl ?_
  refine hx_iald o 1 2 5 4 rfl (by decide) rfl dX2_clubSaw_23 (fun x4 => ?_)
  refine hr_iload o 4 dX2_clubSaw_24 rfl ?_
  refine px_callSNI o og msnX2_76 dX2_clubSaw_26 [.int x4, .int l4] (fun zr ze => mtX0_has x4 l4 zr ze) rfl rfl (Nat.le_of_ble_eq_true rfl) ⟨by decide, by decide⟩ (fun x5 => ?_)
  refine hr_if_eq o 42 dX2_clubSaw_29 (by decide) (fun _ => ?_) (fun _ => ?_)
  · refine hr_iconst o (0 : Int32) dX2_clubSaw_42 (by decide) ?_
    refine hr_sub [0, 1, 2, 4] rfl ?_
    exact nlX2_clubSaw_43 o og k5 hk5 l0 l1 l2 l4 l3 (0 : Int32) g2
  refine hr_aload_n o 0 dX2_clubSaw_32 rfl ?_
  refine hr_getO o flX2_21 dX2_clubSaw_33 4 (fun _ => rfl) (fun _ _ => ?_)
  refine hr_iload o 4 dX2_clubSaw_36 rfl ?_
  refine hx_iald o 2 3 4 4 rfl (by decide) rfl dX2_clubSaw_38 (fun x6 => ?_)
  refine hr_goto o 43 dX2_clubSaw_39 (by decide) ?_
  refine hr_sub [0, 1, 2, 4] rfl ?_
  exact nlX2_clubSaw_43 o og k5 hk5 l0 l1 l2 l4 l3 x6 g2
def lpX2_clubSaw_5  : Nat → Nat → Nat → Int32 → Int32 → Int32 → hf_H → Option (Int32 × hf_H)
  | 0 => fun _ _ _ _ _ _ => none
  | n + 1 => fun l0 l1 l2 l3 l4 V0 => ndX2_clubSaw_5  (lpX2_clubSaw_5  n) l0 l1 l2 l3 l4 V0
theorem llX2_clubSaw_5 {C : hf_X} {gs : hf_gs} (o : hf_In C cX2_clubSaw RX2 5 (some .int) 1 21) (og : hf_G C gs)   (n : Nat) : ∀ (l0 : Nat) (l1 : Nat) (l2 : Int32) (l3 : Int32) (l4 : Int32) (V0 : hf_H), hf_J C hf_dHI ((lpX2_clubSaw_5  n) l0 l1 l2 l3 l4 V0) V0 5 [(0, .ref l0), (1, .ref l1), (2, .int l2), (3, .int l3), (4, .int l4)] [] := by
  induction n with
  | zero => exact fun _ _ _ _ _ _ => hr_none
  | succ n ih => exact fun l0 l1 l2 l3 l4 V0 => nlX2_clubSaw_5 o og  (lpX2_clubSaw_5  n)  ih l0 l1 l2 l3 l4 V0
def spX2_clubSaw (l0 : Nat) (l1 : Nat) (l2 : Int32) (V0 : hf_H) : Option (Int32 × hf_H) :=
  lpX2_clubSaw_5 hf_N l0 l1 l2 (0 : Int32) (0 : Int32) V0
theorem jtX2_clubSaw {C : hf_X} {gs : hf_gs} (o : hf_In C cX2_clubSaw RX2 5 (some .int) 1 21) (og : hf_G C gs) (l0 : Nat) (l1 : Nat) (l2 : Int32) (V0 : hf_H) : hf_J C hf_dHI (spX2_clubSaw l0 l1 l2 V0) V0 0 [(0, .ref l0), (1, .ref l1), (2, .int l2)] [] := by
  refine hr_iconst o (0 : Int32) dX2_clubSaw_0 (by decide) ?_
  refine hr_istore_n o [(3, .int (0 : Int32)), (0, .ref l0), (1, .ref l1), (2, .int l2)] dX2_clubSaw_1 (by decide) rfl ?_
  refine hr_iconst o (0 : Int32) dX2_clubSaw_2 (by decide) ?_
  refine hr_istore o [(4, .int (0 : Int32)), (3, .int (0 : Int32)), (0, .ref l0), (1, .ref l1), (2, .int l2)] dX2_clubSaw_3 (by decide) rfl ?_
  refine hr_sub [2, 3, 4, 1, 0] rfl ?_
  exact llX2_clubSaw_5 o og hf_N l0 l1 l2 (0 : Int32) (0 : Int32) V0
theorem mtX2_clubSaw {gs : hf_gs} (l0 : Nat) (l1 : Nat) (l2 : Int32) (V0 : hf_H) (r : Int32) (V1 : hf_H) (e : spX2_clubSaw l0 l1 l2 V0 = some (r, V1)) : hf_ConG gs yX2_clubSaw cX2_clubSaw 5 (some .int) 1 21 [.ref l0, .ref l1, .int l2] V0 (.returned (some (.int r)), V1) := hf_entryG (dec := hf_dHI) (by decide) [.ref l0, .ref l1, .int l2] (Nat.le_of_ble_eq_true rfl) [(0, .ref l0), (1, .ref l1), (2, .int l2)] rfl e (fun C o og _ => jtX2_clubSaw o og l0 l1 l2 V0)

/-! X2_copyFrom -/
def ndX2_copyFrom_28 (k28 : Nat → Nat → Int32 → hf_H → Option hf_H) (l0 : Nat) (l1 : Nat) (l2 : Int32) (V0 : hf_H) : Option hf_H :=
  if (4 : Int32) ≤ l2 then ((hf_gi 1 2 4 V0 l1).bind fun x1 =>
  (hf_pi 1 2 4 V0 l0 x1).bind fun g2 =>
  some g2) else
  (hf_ob 1 2 V0 l0).bind fun _ =>
  (hf_ob 1 2 V0 l1).bind fun _ =>
  (hf_ai 2 1 4 V0 l1 l2).bind fun x3 =>
  (hf_si 2 1 4 V0 l0 l2 x3).bind fun g4 =>
  (hf_ob 1 2 g4 l0).bind fun _ =>
  (hf_ob 1 2 g4 l1).bind fun _ =>
  (hf_ai 2 2 4 g4 l1 l2).bind fun x5 =>
  (hf_si 2 2 4 g4 l0 l2 x5).bind fun g6 =>
  (hf_ob 1 2 g6 l0).bind fun _ =>
  (hf_ob 1 2 g6 l1).bind fun _ =>
  (hf_ai 2 3 4 g6 l1 l2).bind fun x7 =>
  (hf_si 2 3 4 g6 l0 l2 x7).bind fun g8 =>
  hf_let (l2 + (1 : Int32)) fun x9 =>
  k28 l0 l1 x9 g8
theorem nlX2_copyFrom_28 {C : hf_X} {gs : hf_gs} (o : hf_In C cX2_copyFrom RX2 3 (none) 0 0) (og : hf_G C gs) (k28 : Nat → Nat → Int32 → hf_H → Option hf_H) (hk28 : ∀ (l0 : Nat) (l1 : Nat) (l2 : Int32) (V0 : hf_H), hf_J C hf_dHV (k28 l0 l1 l2 V0) V0 28 [(0, .ref l0), (1, .ref l1), (2, .int l2)] []) (l0 : Nat) (l1 : Nat) (l2 : Int32) (V0 : hf_H) : hf_J C hf_dHV (ndX2_copyFrom_28 k28 l0 l1 l2 V0) V0 28 [(0, .ref l0), (1, .ref l1), (2, .int l2)] [] := by
  refine hr_iload_n o 2 dX2_copyFrom_28 rfl ?_
  refine hr_iconst o (4 : Int32) dX2_copyFrom_29 (by decide) ?_
  refine hr_icmp_ge o 75 dX2_copyFrom_30 (by decide) (fun _ => ?_) (fun _ => ?_)
  · refine hr_aload_n o 0 dX2_copyFrom_75 rfl ?_
    refine hr_aload_n o 1 dX2_copyFrom_76 rfl ?_
    refine hr_getI (md := 1) o flX2_24 dX2_copyFrom_77 (fun _ => rfl) (fun x1 => ?_)
    refine hx_putI (md := 1) o flX2_24 dX2_copyFrom_80 rfl (Or.inl nf_2_4) rfl rfl (fun _ => rfl) (fun g2 => ?_)
    exact hr_vret o dX2_copyFrom_83 rfl
  refine hr_aload_n o 0 dX2_copyFrom_33 rfl ?_
  refine hr_getO o flX2_15 dX2_copyFrom_34 2 (fun _ => rfl) (fun _ _ => ?_)
  refine hr_iload_n o 2 dX2_copyFrom_37 rfl ?_
  refine hr_aload_n o 1 dX2_copyFrom_38 rfl ?_
  refine hr_getO o flX2_15 dX2_copyFrom_39 2 (fun _ => rfl) (fun _ _ => ?_)
  refine hr_iload_n o 2 dX2_copyFrom_42 rfl ?_
  refine hx_iald o 2 1 2 4 rfl (by decide) rfl dX2_copyFrom_43 (fun x3 => ?_)
  refine hx_iast o 2 1 2 4 rfl (by decide) (fun j h1 h2 => hf_of2_inj j 1 h1 h2) rfl dX2_copyFrom_44 (fun g4 => ?_)
  refine hr_aload_n o 0 dX2_copyFrom_45 rfl ?_
  refine hr_getO o flX2_18 dX2_copyFrom_46 3 (fun _ => rfl) (fun _ _ => ?_)
  refine hr_iload_n o 2 dX2_copyFrom_49 rfl ?_
  refine hr_aload_n o 1 dX2_copyFrom_50 rfl ?_
  refine hr_getO o flX2_18 dX2_copyFrom_51 3 (fun _ => rfl) (fun _ _ => ?_)
  refine hr_iload_n o 2 dX2_copyFrom_54 rfl ?_
  refine hx_iald o 2 2 3 4 rfl (by decide) rfl dX2_copyFrom_55 (fun x5 => ?_)
  refine hx_iast o 2 2 3 4 rfl (by decide) (fun j h1 h2 => hf_of2_inj j 2 h1 h2) rfl dX2_copyFrom_56 (fun g6 => ?_)
  refine hr_aload_n o 0 dX2_copyFrom_57 rfl ?_
  refine hr_getO o flX2_21 dX2_copyFrom_58 4 (fun _ => rfl) (fun _ _ => ?_)
  refine hr_iload_n o 2 dX2_copyFrom_61 rfl ?_
  refine hr_aload_n o 1 dX2_copyFrom_62 rfl ?_
  refine hr_getO o flX2_21 dX2_copyFrom_63 4 (fun _ => rfl) (fun _ _ => ?_)
  refine hr_iload_n o 2 dX2_copyFrom_66 rfl ?_
  refine hx_iald o 2 3 4 4 rfl (by decide) rfl dX2_copyFrom_67 (fun x7 => ?_)
  refine hx_iast o 2 3 4 4 rfl (by decide) (fun j h1 h2 => hf_of2_inj j 3 h1 h2) rfl dX2_copyFrom_68 (fun g8 => ?_)
  refine hr_iincN o (1 : Int32) 2 (fun y => [(2, .int y), (0, .ref l0), (1, .ref l1)]) dX2_copyFrom_69 rfl (by decide) (by decide) (fun y => rfl) (fun x9 => ?_)
  refine hr_goto o 28 dX2_copyFrom_72 (by decide) ?_
  refine hr_sub [1, 2, 0] rfl ?_
  exact hk28 l0 l1 x9 g8
def lpX2_copyFrom_28  : Nat → Nat → Nat → Int32 → hf_H → Option hf_H
  | 0 => fun _ _ _ _ => none
  | n + 1 => fun l0 l1 l2 V0 => ndX2_copyFrom_28  (lpX2_copyFrom_28  n) l0 l1 l2 V0
theorem llX2_copyFrom_28 {C : hf_X} {gs : hf_gs} (o : hf_In C cX2_copyFrom RX2 3 (none) 0 0) (og : hf_G C gs)   (n : Nat) : ∀ (l0 : Nat) (l1 : Nat) (l2 : Int32) (V0 : hf_H), hf_J C hf_dHV ((lpX2_copyFrom_28  n) l0 l1 l2 V0) V0 28 [(0, .ref l0), (1, .ref l1), (2, .int l2)] [] := by
  induction n with
  | zero => exact fun _ _ _ _ => hr_none
  | succ n ih => exact fun l0 l1 l2 V0 => nlX2_copyFrom_28 o og  (lpX2_copyFrom_28  n)  ih l0 l1 l2 V0
def ndX2_copyFrom_2 (k2 : Nat → Nat → Int32 → hf_H → Option hf_H) (l0 : Nat) (l1 : Nat) (l2 : Int32) (V0 : hf_H) : Option hf_H :=
  if (12 : Int32) ≤ l2 then (lpX2_copyFrom_28 hf_N l0 l1 (0 : Int32) V0) else
  (hf_ob 1 2 V0 l0).bind fun _ =>
  (hf_ob 1 2 V0 l1).bind fun _ =>
  (hf_ai 2 0 12 V0 l1 l2).bind fun x1 =>
  (hf_si 2 0 12 V0 l0 l2 x1).bind fun g2 =>
  hf_let (l2 + (1 : Int32)) fun x3 =>
  k2 l0 l1 x3 g2
theorem nlX2_copyFrom_2 {C : hf_X} {gs : hf_gs} (o : hf_In C cX2_copyFrom RX2 3 (none) 0 0) (og : hf_G C gs) (k2 : Nat → Nat → Int32 → hf_H → Option hf_H) (hk2 : ∀ (l0 : Nat) (l1 : Nat) (l2 : Int32) (V0 : hf_H), hf_J C hf_dHV (k2 l0 l1 l2 V0) V0 2 [(0, .ref l0), (1, .ref l1), (2, .int l2)] []) (l0 : Nat) (l1 : Nat) (l2 : Int32) (V0 : hf_H) : hf_J C hf_dHV (ndX2_copyFrom_2 k2 l0 l1 l2 V0) V0 2 [(0, .ref l0), (1, .ref l1), (2, .int l2)] [] := by
  refine hr_iload_n o 2 dX2_copyFrom_2 rfl ?_
  refine hr_bipush o (12 : Int32) dX2_copyFrom_3 (by decide) ?_
  refine hr_icmp_ge o 26 dX2_copyFrom_5 (by decide) (fun _ => ?_) (fun _ => ?_)
  · refine hr_iconst o (0 : Int32) dX2_copyFrom_26 (by decide) ?_
    refine hr_istore_n o [(2, .int (0 : Int32)), (0, .ref l0), (1, .ref l1)] dX2_copyFrom_27 (by decide) rfl ?_
    refine hr_sub [1, 2, 0] rfl ?_
    exact llX2_copyFrom_28 o og hf_N l0 l1 (0 : Int32) V0
  refine hr_aload_n o 0 dX2_copyFrom_8 rfl ?_
  refine hr_getO o flX2_9 dX2_copyFrom_9 1 (fun _ => rfl) (fun _ _ => ?_)
  refine hr_iload_n o 2 dX2_copyFrom_12 rfl ?_
  refine hr_aload_n o 1 dX2_copyFrom_13 rfl ?_
  refine hr_getO o flX2_9 dX2_copyFrom_14 1 (fun _ => rfl) (fun _ _ => ?_)
  refine hr_iload_n o 2 dX2_copyFrom_17 rfl ?_
  refine hx_iald o 2 0 1 12 rfl (by decide) rfl dX2_copyFrom_18 (fun x1 => ?_)
  refine hx_iast o 2 0 1 12 rfl (by decide) (fun j h1 h2 => hf_of2_inj j 0 h1 h2) rfl dX2_copyFrom_19 (fun g2 => ?_)
  refine hr_iincN o (1 : Int32) 2 (fun y => [(2, .int y), (0, .ref l0), (1, .ref l1)]) dX2_copyFrom_20 rfl (by decide) (by decide) (fun y => rfl) (fun x3 => ?_)
  refine hr_goto o 2 dX2_copyFrom_23 (by decide) ?_
  refine hr_sub [1, 2, 0] rfl ?_
  exact hk2 l0 l1 x3 g2
def lpX2_copyFrom_2  : Nat → Nat → Nat → Int32 → hf_H → Option hf_H
  | 0 => fun _ _ _ _ => none
  | n + 1 => fun l0 l1 l2 V0 => ndX2_copyFrom_2  (lpX2_copyFrom_2  n) l0 l1 l2 V0
theorem llX2_copyFrom_2 {C : hf_X} {gs : hf_gs} (o : hf_In C cX2_copyFrom RX2 3 (none) 0 0) (og : hf_G C gs)   (n : Nat) : ∀ (l0 : Nat) (l1 : Nat) (l2 : Int32) (V0 : hf_H), hf_J C hf_dHV ((lpX2_copyFrom_2  n) l0 l1 l2 V0) V0 2 [(0, .ref l0), (1, .ref l1), (2, .int l2)] [] := by
  induction n with
  | zero => exact fun _ _ _ _ => hr_none
  | succ n ih => exact fun l0 l1 l2 V0 => nlX2_copyFrom_2 o og  (lpX2_copyFrom_2  n)  ih l0 l1 l2 V0
def spX2_copyFrom (l0 : Nat) (l1 : Nat) (V0 : hf_H) : Option hf_H :=
  lpX2_copyFrom_2 hf_N l0 l1 (0 : Int32) V0
theorem jtX2_copyFrom {C : hf_X} {gs : hf_gs} (o : hf_In C cX2_copyFrom RX2 3 (none) 0 0) (og : hf_G C gs) (l0 : Nat) (l1 : Nat) (V0 : hf_H) : hf_J C hf_dHV (spX2_copyFrom l0 l1 V0) V0 0 [(0, .ref l0), (1, .ref l1)] [] := by
  refine hr_iconst o (0 : Int32) dX2_copyFrom_0 (by decide) ?_
  refine hr_istore_n o [(2, .int (0 : Int32)), (0, .ref l0), (1, .ref l1)] dX2_copyFrom_1 (by decide) rfl ?_
  refine hr_sub [1, 2, 0] rfl ?_
  exact llX2_copyFrom_2 o og hf_N l0 l1 (0 : Int32) V0
theorem mtX2_copyFrom {gs : hf_gs} (l0 : Nat) (l1 : Nat) (V0 V1 : hf_H) (e : spX2_copyFrom l0 l1 V0 = some V1) : hf_ConG gs yX2_copyFrom cX2_copyFrom 3 (none) 0 0 [.ref l0, .ref l1] V0 (.returned none, V1) := hf_entryG (dec := hf_dHV) (by decide) [.ref l0, .ref l1] (Nat.le_of_ble_eq_true rfl) [(0, .ref l0), (1, .ref l1)] rfl e (fun C o og _ => jtX2_copyFrom o og l0 l1 V0)

/-! X2_goes -/
theorem flX2_87 : hf_Fl RX2 87 1 3 := ⟨(RX1, TX1, 13), RX1, rfl, by decide, in_X1, tyX1_ok, nmX1, Or.inr ⟨"HalfFair", q243⟩, Or.inl rfl⟩
def spX2_goes (l0 : Nat) (l1 : Nat) (l2 : Int32) (l3 : Int32) (V0 : hf_H) : Option hf_H :=
  (hf_ob 1 2 V0 l0).bind fun _ =>
  (hf_ob 1 2 V0 l0).bind fun _ =>
  (hf_ai 2 2 4 V0 l0 l2).bind fun x1 =>
  (hf_gi 1 1 3 V0 l1).bind fun x2 =>
  (hf_gi 1 1 3 V0 l1).bind fun x3 =>
  if x3 = 0 then none else
  (hf_si 2 2 4 V0 l0 l2 (((x1 + l3) + x2) - ((x1 + l3) + x2) / x3 * x3)).bind fun g4 =>
  some g4
theorem jtX2_goes {C : hf_X} {gs : hf_gs} (o : hf_In C cX2_goes RX2 4 (none) 0 0) (og : hf_G C gs) (l0 : Nat) (l1 : Nat) (l2 : Int32) (l3 : Int32) (V0 : hf_H) : hf_J C hf_dHV (spX2_goes l0 l1 l2 l3 V0) V0 0 [(0, .ref l0), (1, .ref l1), (2, .int l2), (3, .int l3)] [] := by
  refine hr_aload_n o 0 dX2_goes_0 rfl ?_
  refine hr_getO o flX2_18 dX2_goes_1 3 (fun _ => rfl) (fun _ _ => ?_)
  refine hr_iload_n o 2 dX2_goes_4 rfl ?_
  refine hr_aload_n o 0 dX2_goes_5 rfl ?_
  refine hr_getO o flX2_18 dX2_goes_6 3 (fun _ => rfl) (fun _ _ => ?_)
  refine hr_iload_n o 2 dX2_goes_9 rfl ?_
  refine hx_iald o 2 2 3 4 rfl (by decide) rfl dX2_goes_10 (fun x1 => ?_)
  refine hr_iload_n o 3 dX2_goes_11 rfl ?_
  refine hr_iadd o dX2_goes_12 ?_
  refine hr_aload_n o 1 dX2_goes_13 rfl ?_
  refine hr_getI (md := 1) o flX2_87 dX2_goes_14 (fun _ => rfl) (fun x2 => ?_)
  refine hr_iadd o dX2_goes_17 ?_
  refine hr_aload_n o 1 dX2_goes_18 rfl ?_
  refine hr_getI (md := 1) o flX2_87 dX2_goes_19 (fun _ => rfl) (fun x3 => ?_)
  refine hr_irem o dX2_goes_22 (fun _ => ?_)
  refine hx_iast o 2 2 3 4 rfl (by decide) (fun j h1 h2 => hf_of2_inj j 2 h1 h2) rfl dX2_goes_23 (fun g4 => ?_)
  exact hr_vret o dX2_goes_24 rfl
theorem mtX2_goes {gs : hf_gs} (l0 : Nat) (l1 : Nat) (l2 : Int32) (l3 : Int32) (V0 V1 : hf_H) (e : spX2_goes l0 l1 l2 l3 V0 = some V1) : hf_ConG gs yX2_goes cX2_goes 4 (none) 0 0 [.ref l0, .ref l1, .int l2, .int l3] V0 (.returned none, V1) := hf_entryG (dec := hf_dHV) (by decide) [.ref l0, .ref l1, .int l2, .int l3] (Nat.le_of_ble_eq_true rfl) [(0, .ref l0), (1, .ref l1), (2, .int l2), (3, .int l3)] rfl e (fun C o og _ => jtX2_goes o og l0 l1 l2 l3 V0)

/-! X2_passes -/
def spX2_passes (l0 : Nat) (l1 : Nat) (V0 : hf_H) : Option hf_H :=
  (hf_gi 1 2 4 V0 l0).bind fun x1 =>
  (hf_pi 1 2 4 V0 l0 (x1 + (1 : Int32))).bind fun g2 =>
  (hf_ob 1 2 g2 l0).bind fun _ =>
  (spX2_sees l0 l1 g2).bind fun g3 =>
  some g3
theorem jtX2_passes {C : hf_X} {gs : hf_gs} (o : hf_In C cX2_passes RX2 2 (none) 4 89) (og : hf_G C gs) (l0 : Nat) (l1 : Nat) (V0 : hf_H) : hf_J C hf_dHV (spX2_passes l0 l1 V0) V0 0 [(0, .ref l0), (1, .ref l1)] [] := by
  refine hr_aload_n o 0 dX2_passes_0 rfl ?_
  refine hr_dup o dX2_passes_1 rfl ?_
  refine hr_getI (md := 1) o flX2_24 dX2_passes_2 (fun _ => rfl) (fun x1 => ?_)
  refine hr_iconst o (1 : Int32) dX2_passes_5 (by decide) ?_
  refine hr_iadd o dX2_passes_6 ?_
  refine hx_putI (md := 1) o flX2_24 dX2_passes_7 rfl (Or.inl nf_2_4) rfl rfl (fun _ => rfl) (fun g2 => ?_)
  refine hr_aload_n o 0 dX2_passes_10 rfl ?_
  refine hr_aload_n o 1 dX2_passes_11 rfl ?_
  refine hx_callVV (q := (RX2, TX2, 5)) o og mvX2_58 dX2_passes_12 1 2 rfl [.ref l1] (fun zg ze => mtX2_sees l0 l1 g2 zg ze) rfl rfl (Nat.le_of_ble_eq_true rfl) ⟨by decide, by decide⟩ (fun g3 => ?_)
  exact hr_vret o dX2_passes_15 rfl
theorem mtX2_passes {gs : hf_gs} (l0 : Nat) (l1 : Nat) (V0 V1 : hf_H) (e : spX2_passes l0 l1 V0 = some V1) : hf_ConG gs yX2_passes cX2_passes 2 (none) 4 89 [.ref l0, .ref l1] V0 (.returned none, V1) := hf_entryG (dec := hf_dHV) (by decide) [.ref l0, .ref l1] (Nat.le_of_ble_eq_true rfl) [(0, .ref l0), (1, .ref l1)] rfl e (fun C o og _ => jtX2_passes o og l0 l1 V0)

/-! X2_canBuy -/
theorem mvX2_90 : hf_MV RX2 90 RX1 yX1_priceAt cX1_priceAt 3 (some .int) 2 := ⟨lw_V q1117 q992 q993 q154 q994, by decide +kernel⟩
def spX2_canBuy (l0 : Nat) (l1 : Nat) (l2 : Int32) (l3 : Int32) (V0 : hf_H) : Option (Int32 × hf_H) :=
  (hf_ob 1 2 V0 l0).bind fun _ =>
  (hf_ai 2 0 12 V0 l0 l3).bind fun x1 =>
  (hf_ob 1 2 V0 l0).bind fun _ =>
  hf_b2 (spX2_stallOf l0 l1 l2 V0) fun x3 g2 =>
  if x1 = x3 then ((hf_ob 1 2 g2 l0).bind fun _ =>
  (hf_ai 2 1 4 g2 l0 l2).bind fun x4 =>
  (hf_gi 1 2 4 g2 l0).bind fun x5 =>
  (hf_ob 1 1 g2 l1).bind fun _ =>
  hf_b2 (spX1_priceAt l1 l3 x5 g2) fun x7 g6 =>
  if x4 < x7 then (some ((0 : Int32), g6)) else
  some ((1 : Int32), g6)) else
  some ((0 : Int32), g2)
theorem jtX2_canBuy {C : hf_X} {gs : hf_gs} (o : hf_In C cX2_canBuy RX2 4 (some .boolean) 4 86) (og : hf_G C gs) (l0 : Nat) (l1 : Nat) (l2 : Int32) (l3 : Int32) (V0 : hf_H) : hf_J C hf_dHI (spX2_canBuy l0 l1 l2 l3 V0) V0 0 [(0, .ref l0), (1, .ref l1), (2, .int l2), (3, .int l3)] [] := by
  refine hr_aload_n o 0 dX2_canBuy_0 rfl ?_
  refine hr_getO o flX2_9 dX2_canBuy_1 1 (fun _ => rfl) (fun _ _ => ?_)
  refine hr_iload_n o 3 dX2_canBuy_4 rfl ?_
  refine hx_iald o 2 0 1 12 rfl (by decide) rfl dX2_canBuy_5 (fun x1 => ?_)
  refine hr_aload_n o 0 dX2_canBuy_6 rfl ?_
  refine hr_aload_n o 1 dX2_canBuy_7 rfl ?_
  refine hr_iload_n o 2 dX2_canBuy_8 rfl ?_
  refine hx_callVI (q := (RX2, TX2, 5)) o og mvX2_70 dX2_canBuy_9 1 2 rfl [.ref l1, .int l2] (fun zr zg ze => mtX2_stallOf l0 l1 l2 V0 zr zg ze) rfl rfl (Nat.le_of_ble_eq_true rfl) ⟨by decide, by decide⟩ (fun x3 g2 => ?_)
  refine hr_icmp_ne o 37 dX2_canBuy_12 (by decide) (fun _ => ?_) (fun _ => ?_)
  · refine hr_aload_n o 0 dX2_canBuy_15 rfl ?_
    refine hr_getO o flX2_15 dX2_canBuy_16 2 (fun _ => rfl) (fun _ _ => ?_)
    refine hr_iload_n o 2 dX2_canBuy_19 rfl ?_
    refine hx_iald o 2 1 2 4 rfl (by decide) rfl dX2_canBuy_20 (fun x4 => ?_)
    refine hr_aload_n o 1 dX2_canBuy_21 rfl ?_
    refine hr_iload_n o 3 dX2_canBuy_22 rfl ?_
    refine hr_aload_n o 0 dX2_canBuy_23 rfl ?_
    refine hr_getI (md := 1) o flX2_24 dX2_canBuy_24 (fun _ => rfl) (fun x5 => ?_)
    refine hx_callVI (q := (RX1, TX1, 13)) o og mvX2_90 dX2_canBuy_27 1 1 rfl [.int l3, .int x5] (fun zr zg ze => mtX1_priceAt l1 l3 x5 g2 zr zg ze) rfl rfl (Nat.le_of_ble_eq_true rfl) ⟨by decide, by decide⟩ (fun x7 g6 => ?_)
    refine hr_icmp_lt o 37 dX2_canBuy_30 (by decide) (fun _ => ?_) (fun _ => ?_)
    · refine hr_iconst o (0 : Int32) dX2_canBuy_37 (by decide) ?_
      exact hr_iret o dX2_canBuy_38 rfl (by decide)
    refine hr_iconst o (1 : Int32) dX2_canBuy_33 (by decide) ?_
    refine hr_goto o 38 dX2_canBuy_34 (by decide) ?_
    exact hr_iret o dX2_canBuy_38 rfl (by decide)
  refine hr_iconst o (0 : Int32) dX2_canBuy_37 (by decide) ?_
  exact hr_iret o dX2_canBuy_38 rfl (by decide)
theorem mtX2_canBuy {gs : hf_gs} (l0 : Nat) (l1 : Nat) (l2 : Int32) (l3 : Int32) (V0 : hf_H) (r : Int32) (V1 : hf_H) (e : spX2_canBuy l0 l1 l2 l3 V0 = some (r, V1)) : hf_ConG gs yX2_canBuy cX2_canBuy 4 (some .boolean) 4 86 [.ref l0, .ref l1, .int l2, .int l3] V0 (.returned (some (.int r)), V1) := hf_entryG (dec := hf_dHI) (by decide) [.ref l0, .ref l1, .int l2, .int l3] (Nat.le_of_ble_eq_true rfl) [(0, .ref l0), (1, .ref l1), (2, .int l2), (3, .int l3)] rfl e (fun C o og _ => jtX2_canBuy o og l0 l1 l2 l3 V0)

/-! X2_buys -/
def spX2_buys (l0 : Nat) (l1 : Nat) (l2 : Int32) (l3 : Int32) (V0 : hf_H) : Option hf_H :=
  (hf_ob 1 2 V0 l0).bind fun _ =>
  (hf_ai 2 1 4 V0 l0 l2).bind fun x1 =>
  (hf_gi 1 2 4 V0 l0).bind fun x2 =>
  (hf_ob 1 1 V0 l1).bind fun _ =>
  hf_b2 (spX1_priceAt l1 l3 x2 V0) fun x4 g3 =>
  (hf_si 2 1 4 g3 l0 l2 (x1 - x4)).bind fun g5 =>
  (hf_ob 1 2 g5 l0).bind fun _ =>
  (hf_si 2 0 12 g5 l0 l3 ((100 : Int32) + l2)).bind fun g6 =>
  some g6
theorem jtX2_buys {C : hf_X} {gs : hf_gs} (o : hf_In C cX2_buys RX2 4 (none) 4 86) (og : hf_G C gs) (l0 : Nat) (l1 : Nat) (l2 : Int32) (l3 : Int32) (V0 : hf_H) : hf_J C hf_dHV (spX2_buys l0 l1 l2 l3 V0) V0 0 [(0, .ref l0), (1, .ref l1), (2, .int l2), (3, .int l3)] [] := by
  refine hr_aload_n o 0 dX2_buys_0 rfl ?_
  refine hr_getO o flX2_15 dX2_buys_1 2 (fun _ => rfl) (fun _ _ => ?_)
  refine hr_iload_n o 2 dX2_buys_4 rfl ?_
  refine hr_dup2 o dX2_buys_5 rfl rfl ?_
  refine hx_iald o 2 1 2 4 rfl (by decide) rfl dX2_buys_6 (fun x1 => ?_)
  refine hr_aload_n o 1 dX2_buys_7 rfl ?_
  refine hr_iload_n o 3 dX2_buys_8 rfl ?_
  refine hr_aload_n o 0 dX2_buys_9 rfl ?_
  refine hr_getI (md := 1) o flX2_24 dX2_buys_10 (fun _ => rfl) (fun x2 => ?_)
  refine hx_callVI (q := (RX1, TX1, 13)) o og mvX2_90 dX2_buys_13 1 1 rfl [.int l3, .int x2] (fun zr zg ze => mtX1_priceAt l1 l3 x2 V0 zr zg ze) rfl rfl (Nat.le_of_ble_eq_true rfl) ⟨by decide, by decide⟩ (fun x4 g3 => ?_)
  refine hr_isub o dX2_buys_16 ?_
  refine hx_iast o 2 1 2 4 rfl (by decide) (fun j h1 h2 => hf_of2_inj j 1 h1 h2) rfl dX2_buys_17 (fun g5 => ?_)
  refine hr_aload_n o 0 dX2_buys_18 rfl ?_
  refine hr_getO o flX2_9 dX2_buys_19 1 (fun _ => rfl) (fun _ _ => ?_)
  refine hr_iload_n o 3 dX2_buys_22 rfl ?_
  refine hr_bipush o (100 : Int32) dX2_buys_23 (by decide) ?_
  refine hr_iload_n o 2 dX2_buys_25 rfl ?_
  refine hr_iadd o dX2_buys_26 ?_
  refine hx_iast o 2 0 1 12 rfl (by decide) (fun j h1 h2 => hf_of2_inj j 0 h1 h2) rfl dX2_buys_27 (fun g6 => ?_)
  exact hr_vret o dX2_buys_28 rfl
theorem mtX2_buys {gs : hf_gs} (l0 : Nat) (l1 : Nat) (l2 : Int32) (l3 : Int32) (V0 V1 : hf_H) (e : spX2_buys l0 l1 l2 l3 V0 = some V1) : hf_ConG gs yX2_buys cX2_buys 4 (none) 4 86 [.ref l0, .ref l1, .int l2, .int l3] V0 (.returned none, V1) := hf_entryG (dec := hf_dHV) (by decide) [.ref l0, .ref l1, .int l2, .int l3] (Nat.le_of_ble_eq_true rfl) [(0, .ref l0), (1, .ref l1), (2, .int l2), (3, .int l3)] rfl e (fun C o og _ => jtX2_buys o og l0 l1 l2 l3 V0)

/-! X2_atStalls -/
def ndX2_atStalls_34 (k4 : Nat → Nat → Int32 → Int32 → hf_H → Option (Int32 × hf_H)) (l0 : Nat) (l1 : Nat) (l3 : Int32) (s0 : Int32) (s1 : Int32) (V0 : hf_H) : Option (Int32 × hf_H) :=
  hf_let (s0 ||| s1) fun x1 =>
  hf_let (l3 + (1 : Int32)) fun x2 =>
  k4 l0 l1 x1 x2 V0
theorem nlX2_atStalls_34 {C : hf_X} {gs : hf_gs} (o : hf_In C cX2_atStalls RX2 4 (some .int) 1 20) (og : hf_G C gs) (k4 : Nat → Nat → Int32 → Int32 → hf_H → Option (Int32 × hf_H)) (hk4 : ∀ (l0 : Nat) (l1 : Nat) (l2 : Int32) (l3 : Int32) (V0 : hf_H), hf_J C hf_dHI (k4 l0 l1 l2 l3 V0) V0 4 [(0, .ref l0), (1, .ref l1), (2, .int l2), (3, .int l3)] []) (l0 : Nat) (l1 : Nat) (l3 : Int32) (s0 : Int32) (s1 : Int32) (V0 : hf_H) : hf_J C hf_dHI (ndX2_atStalls_34 k4 l0 l1 l3 s0 s1 V0) V0 34 [(0, .ref l0), (1, .ref l1), (3, .int l3)] [.int s1, .int s0] := by
  refine hr_ior o dX2_atStalls_34 ?_
  refine hr_nmI (fun x1 => ?_)
  refine hr_istore_n o [(2, .int x1), (0, .ref l0), (1, .ref l1), (3, .int l3)] dX2_atStalls_35 (by decide) rfl ?_
  refine hr_iincN o (1 : Int32) 3 (fun y => [(3, .int y), (2, .int x1), (0, .ref l0), (1, .ref l1)]) dX2_atStalls_36 rfl (by decide) (by decide) (fun y => rfl) (fun x2 => ?_)
  refine hr_goto o 4 dX2_atStalls_39 (by decide) ?_
  refine hr_sub [2, 3, 1, 0] rfl ?_
  exact hk4 l0 l1 x1 x2 V0
def ndX2_atStalls_4 (k4 : Nat → Nat → Int32 → Int32 → hf_H → Option (Int32 × hf_H)) (l0 : Nat) (l1 : Nat) (l2 : Int32) (l3 : Int32) (V0 : hf_H) : Option (Int32 × hf_H) :=
  (hf_ga 1 1 0 V0 l1).bind fun x1 =>
  (hf_ob 0 19 V0 x1).bind fun _ =>
  hf_b2 (spJ2_size x1 V0) fun x3 g2 =>
  if x3 ≤ l3 then (some (l2, g2)) else
  (hf_ob 1 2 g2 l0).bind fun _ =>
  (hf_ai 2 0 12 g2 l0 l3).bind fun x4 =>
  if (100 : Int32) ≤ x4 then (ndX2_atStalls_34 k4 l0 l1 l3 l2 (0 : Int32) g2) else
  ndX2_atStalls_34 k4 l0 l1 l3 l2 ((1 : Int32) <<< (l3 &&& 31)) g2
theorem nlX2_atStalls_4 {C : hf_X} {gs : hf_gs} (o : hf_In C cX2_atStalls RX2 4 (some .int) 1 20) (og : hf_G C gs) (k4 : Nat → Nat → Int32 → Int32 → hf_H → Option (Int32 × hf_H)) (hk4 : ∀ (l0 : Nat) (l1 : Nat) (l2 : Int32) (l3 : Int32) (V0 : hf_H), hf_J C hf_dHI (k4 l0 l1 l2 l3 V0) V0 4 [(0, .ref l0), (1, .ref l1), (2, .int l2), (3, .int l3)] []) (l0 : Nat) (l1 : Nat) (l2 : Int32) (l3 : Int32) (V0 : hf_H) : hf_J C hf_dHI (ndX2_atStalls_4 k4 l0 l1 l2 l3 V0) V0 4 [(0, .ref l0), (1, .ref l1), (2, .int l2), (3, .int l3)] [] := by
  refine hr_iload_n o 3 dX2_atStalls_4 rfl ?_
  refine hr_aload_n o 1 dX2_atStalls_5 rfl ?_
  refine hr_getA (md := 1) o flX2_28 dX2_atStalls_6 (fun _ => rfl) (fun x1 => ?_)
  refine hx_callVI (q := (RJ2, TJ2, 3)) o og mvX2_34 dX2_atStalls_9 0 19 rfl [] (fun zr zg ze => mtJ2_size x1 V0 zr zg ze) rfl rfl (Nat.le_of_ble_eq_true rfl) ⟨by decide, by decide⟩ (fun x3 g2 => ?_)
  refine hr_icmp_ge o 42 dX2_atStalls_12 (by decide) (fun _ => ?_) (fun _ => ?_)
  · refine hr_iload_n o 2 dX2_atStalls_42 rfl ?_
    exact hr_iret o dX2_atStalls_43 rfl rfl
  refine hr_iload_n o 2 dX2_atStalls_15 rfl ?_
  refine hr_aload_n o 0 dX2_atStalls_16 rfl ?_
  refine hr_getO o flX2_9 dX2_atStalls_17 1 (fun _ => rfl) (fun _ _ => ?_)
  refine hr_iload_n o 3 dX2_atStalls_20 rfl ?_
  refine hx_iald o 2 0 1 12 rfl (by decide) rfl dX2_atStalls_21 (fun x4 => ?_)
  refine hr_bipush o (100 : Int32) dX2_atStalls_22 (by decide) ?_
  refine hr_icmp_ge o 33 dX2_atStalls_24 (by decide) (fun _ => ?_) (fun _ => ?_)
  · refine hr_iconst o (0 : Int32) dX2_atStalls_33 (by decide) ?_
    refine hr_sub [0, 1, 3] rfl ?_
    exact nlX2_atStalls_34 o og k4 hk4 l0 l1 l3 l2 (0 : Int32) g2
  refine hr_iconst o (1 : Int32) dX2_atStalls_27 (by decide) ?_
  refine hr_iload_n o 3 dX2_atStalls_28 rfl ?_
  refine hr_ishl o dX2_atStalls_29 ?_
  refine hr_goto o 34 dX2_atStalls_30 (by decide) ?_
  refine hr_sub [0, 1, 3] rfl ?_
  exact nlX2_atStalls_34 o og k4 hk4 l0 l1 l3 l2 ((1 : Int32) <<< (l3 &&& 31)) g2
def lpX2_atStalls_4  : Nat → Nat → Nat → Int32 → Int32 → hf_H → Option (Int32 × hf_H)
  | 0 => fun _ _ _ _ _ => none
  | n + 1 => fun l0 l1 l2 l3 V0 => ndX2_atStalls_4  (lpX2_atStalls_4  n) l0 l1 l2 l3 V0
theorem llX2_atStalls_4 {C : hf_X} {gs : hf_gs} (o : hf_In C cX2_atStalls RX2 4 (some .int) 1 20) (og : hf_G C gs)   (n : Nat) : ∀ (l0 : Nat) (l1 : Nat) (l2 : Int32) (l3 : Int32) (V0 : hf_H), hf_J C hf_dHI ((lpX2_atStalls_4  n) l0 l1 l2 l3 V0) V0 4 [(0, .ref l0), (1, .ref l1), (2, .int l2), (3, .int l3)] [] := by
  induction n with
  | zero => exact fun _ _ _ _ _ => hr_none
  | succ n ih => exact fun l0 l1 l2 l3 V0 => nlX2_atStalls_4 o og  (lpX2_atStalls_4  n)  ih l0 l1 l2 l3 V0
def spX2_atStalls (l0 : Nat) (l1 : Nat) (V0 : hf_H) : Option (Int32 × hf_H) :=
  lpX2_atStalls_4 hf_N l0 l1 (0 : Int32) (0 : Int32) V0
theorem jtX2_atStalls {C : hf_X} {gs : hf_gs} (o : hf_In C cX2_atStalls RX2 4 (some .int) 1 20) (og : hf_G C gs) (l0 : Nat) (l1 : Nat) (V0 : hf_H) : hf_J C hf_dHI (spX2_atStalls l0 l1 V0) V0 0 [(0, .ref l0), (1, .ref l1)] [] := by
  refine hr_iconst o (0 : Int32) dX2_atStalls_0 (by decide) ?_
  refine hr_istore_n o [(2, .int (0 : Int32)), (0, .ref l0), (1, .ref l1)] dX2_atStalls_1 (by decide) rfl ?_
  refine hr_iconst o (0 : Int32) dX2_atStalls_2 (by decide) ?_
  refine hr_istore_n o [(3, .int (0 : Int32)), (2, .int (0 : Int32)), (0, .ref l0), (1, .ref l1)] dX2_atStalls_3 (by decide) rfl ?_
  refine hr_sub [2, 3, 1, 0] rfl ?_
  exact llX2_atStalls_4 o og hf_N l0 l1 (0 : Int32) (0 : Int32) V0
theorem mtX2_atStalls {gs : hf_gs} (l0 : Nat) (l1 : Nat) (V0 : hf_H) (r : Int32) (V1 : hf_H) (e : spX2_atStalls l0 l1 V0 = some (r, V1)) : hf_ConG gs yX2_atStalls cX2_atStalls 4 (some .int) 1 20 [.ref l0, .ref l1] V0 (.returned (some (.int r)), V1) := hf_entryG (dec := hf_dHI) (by decide) [.ref l0, .ref l1] (Nat.le_of_ble_eq_true rfl) [(0, .ref l0), (1, .ref l1)] rfl e (fun C o og _ => jtX2_atStalls o og l0 l1 V0)

/-! X2_unseen -/
theorem mvX2_80 : hf_MV RX2 80 RX2 yX2_atStalls cX2_atStalls 4 (some .int) 1 := ⟨lw_V q1276 q1195 q1196 q158 q1197, by decide +kernel⟩
theorem mvX2_84 : hf_MV RX2 84 RX2 yX2_clubSaw cX2_clubSaw 5 (some .int) 2 := ⟨lw_V q1277 q1033 q1034 q158 q1035, by decide +kernel⟩
def spX2_unseen (l0 : Nat) (l1 : Nat) (l2 : Int32) (V0 : hf_H) : Option (Int32 × hf_H) :=
  (hf_ob 1 2 V0 l0).bind fun _ =>
  hf_b2 (spX2_atStalls l0 l1 V0) fun x2 g1 =>
  (hf_ob 1 2 g1 l0).bind fun _ =>
  hf_b2 (spX2_clubSaw l0 l1 l2 g1) fun x4 g3 =>
  some ((x2 &&& (x4 ^^^ (-1 : Int32))), g3)
theorem jtX2_unseen {C : hf_X} {gs : hf_gs} (o : hf_In C cX2_unseen RX2 3 (some .int) 2 45) (og : hf_G C gs) (l0 : Nat) (l1 : Nat) (l2 : Int32) (V0 : hf_H) : hf_J C hf_dHI (spX2_unseen l0 l1 l2 V0) V0 0 [(0, .ref l0), (1, .ref l1), (2, .int l2)] [] := by
  refine hr_aload_n o 0 dX2_unseen_0 rfl ?_
  refine hr_aload_n o 1 dX2_unseen_1 rfl ?_
  refine hx_callVI (q := (RX2, TX2, 5)) o og mvX2_80 dX2_unseen_2 1 2 rfl [.ref l1] (fun zr zg ze => mtX2_atStalls l0 l1 V0 zr zg ze) rfl rfl (Nat.le_of_ble_eq_true rfl) ⟨by decide, by decide⟩ (fun x2 g1 => ?_)
  refine hr_aload_n o 0 dX2_unseen_5 rfl ?_
  refine hr_aload_n o 1 dX2_unseen_6 rfl ?_
  refine hr_iload_n o 2 dX2_unseen_7 rfl ?_
  refine hx_callVI (q := (RX2, TX2, 5)) o og mvX2_84 dX2_unseen_8 1 2 rfl [.ref l1, .int l2] (fun zr zg ze => mtX2_clubSaw l0 l1 l2 g1 zr zg ze) rfl rfl (Nat.le_of_ble_eq_true rfl) ⟨by decide, by decide⟩ (fun x4 g3 => ?_)
  refine hr_iconst o (-1 : Int32) dX2_unseen_11 (by decide) ?_
  refine hr_ixor o dX2_unseen_12 ?_
  refine hr_iand o dX2_unseen_13 ?_
  exact hr_iret o dX2_unseen_14 rfl rfl
theorem mtX2_unseen {gs : hf_gs} (l0 : Nat) (l1 : Nat) (l2 : Int32) (V0 : hf_H) (r : Int32) (V1 : hf_H) (e : spX2_unseen l0 l1 l2 V0 = some (r, V1)) : hf_ConG gs yX2_unseen cX2_unseen 3 (some .int) 2 45 [.ref l0, .ref l1, .int l2] V0 (.returned (some (.int r)), V1) := hf_entryG (dec := hf_dHI) (by decide) [.ref l0, .ref l1, .int l2] (Nat.le_of_ble_eq_true rfl) [(0, .ref l0), (1, .ref l1), (2, .int l2)] rfl e (fun C o og _ => jtX2_unseen o og l0 l1 l2 V0)
