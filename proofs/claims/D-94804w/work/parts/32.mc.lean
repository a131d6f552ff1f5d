set_option maxRecDepth 100000
set_option maxHeartbeats 4000000
/-! buyer -/
theorem mvX4_343 : hf_MV RX4 343 RX4 yX4_isBuyer cX4_isBuyer 2 (some .boolean) 1 := ⟨lw_V q1784 q1786 qs114 q162 q1787, by decide +kernel⟩
theorem mvX4_346 : hf_MV RX4 346 RX4 yX4_hasOf cX4_hasOf 4 (some .int) 1 := ⟨lw_V q1788 q1790 qs115 q162 q1791, by decide +kernel⟩
theorem mvX4_349 : hf_MV RX4 349 RX4 yX4_sawOf cX4_sawOf 4 (some .int) 1 := ⟨lw_V q1792 q1794 qs116 q162 q1795, by decide +kernel⟩
def ndX4_buyer_48  (l1 : Int32) (l2 : Int32) (V0 : hf_V) : Option (Int32 × hf_V) :=
  hf_b2 (spX4_buyerOf l1 l2 V0) fun x2 V1 =>
  some (x2, V1)
theorem nlX4_buyer_48 {C : hf_X} {om : Nat} {b : hf_H} (o : hf_In C cX4_buyer RX4 3 (some .int) 2 45)   (l1 : Int32) (l2 : Int32) (V0 : hf_V) : hf_J C (hf_dMI om b) (ndX4_buyer_48 l1 l2 V0) (hf_M om b V0) 48 [(0, .ref om), (1, .int l1), (2, .int l2)] [] := by
  refine hr_aload_n o 0 dX4_buyer_48 rfl ?_
  refine hr_iload_n o 1 dX4_buyer_49 rfl ?_
  refine hr_iload_n o 2 dX4_buyer_50 rfl ?_
  refine mr_callI o mvX4_314 dX4_buyer_51 [.int l1, .int l2] (fun zr zV ze => mtX4_buyerOf l1 l2 V0 zr zV ze) rfl rfl (Nat.le_of_ble_eq_true rfl) ⟨by decide, by decide⟩ (fun x2 V1 => ?_)
  exact hr_iret o dX4_buyer_54 rfl rfl
def spX4_buyer (l1 : Int32) (l2 : Int32) (V0 : hf_V) : Option (Int32 × hf_V) :=
  hf_b2 (spX4_isBuyer l1 V0) fun x2 V1 =>
  if x2 = 0 then (some ((-1 : Int32), V1)) else
  if l2 = (0 : Int32) then (ndX4_buyer_48 l1 l2 V1) else
  if l2 = (1 : Int32) then (ndX4_buyer_48 l1 l2 V1) else
  if l2 = (2 : Int32) then (hf_b2 (spX4_hasOf l1 V1) fun x4 V3 =>
  some (x4, V3)) else
  if l2 = (3 : Int32) then (hf_b2 (spX4_sawOf l1 V1) fun x6 V5 =>
  some (x6, V5)) else
  if l2 = (4 : Int32) then (hf_b2 (spX4_buyerOf l1 (3 : Int32) V1) fun x8 V7 =>
  some (x8, V7)) else
  if l2 = (5 : Int32) then (hf_b2 (spX4_hasOf l1 V1) fun x10 V9 =>
  (hf_ld 4096 (V9.2.2.2.1 22) x10).bind fun x11 =>
  some (x11, V9)) else
  some ((-1 : Int32), V1)
theorem jtX4_buyer {C : hf_X} {om : Nat} {b : hf_H} (o : hf_In C cX4_buyer RX4 3 (some .int) 2 45) (l1 : Int32) (l2 : Int32) (V0 : hf_V) : hf_J C (hf_dMI om b) (spX4_buyer l1 l2 V0) (hf_M om b V0) 0 [(0, .ref om), (1, .int l1), (2, .int l2)] [] := by
  refine hr_aload_n o 0 dX4_buyer_0 rfl ?_
  refine hr_iload_n o 1 dX4_buyer_1 rfl ?_
  refine mr_callI o mvX4_343 dX4_buyer_2 [.int l1] (fun zr zV ze => mtX4_isBuyer l1 V0 zr zV ze) rfl rfl (Nat.le_of_ble_eq_true rfl) ⟨by decide, by decide⟩ (fun x2 V1 => ?_)
  refine hr_if_ne o 10 dX4_buyer_5 (by decide) (fun _ => ?_) (fun _ => ?_)
  · refine hr_iconst o (-1 : Int32) dX4_buyer_8 (by decide) ?_
    exact hr_iret o dX4_buyer_9 rfl rfl
  refine hr_iload_n o 2 dX4_buyer_10 rfl ?_
  refine hr_tsw o (0 : Int32) 48 dX4_buyer_11 (by decide) (by decide) rfl (by decide) (fun c_11_0 => ?_) (fun c_11_0 => ?_)
  · exact nlX4_buyer_48 o l1 l2 V1
  refine hr_tsw o (1 : Int32) 48 dX4_buyer_11 (by decide) (by decide) rfl (by decide) (fun c_11_1 => ?_) (fun c_11_1 => ?_)
  · exact nlX4_buyer_48 o l1 l2 V1
  refine hr_tsw o (2 : Int32) 55 dX4_buyer_11 (by decide) (by decide) rfl (by decide) (fun c_11_2 => ?_) (fun c_11_2 => ?_)
  · refine hr_aload_n o 0 dX4_buyer_55 rfl ?_
    refine hr_iload_n o 1 dX4_buyer_56 rfl ?_
    refine mr_callI o mvX4_346 dX4_buyer_57 [.int l1] (fun zr zV ze => mtX4_hasOf l1 V1 zr zV ze) rfl rfl (Nat.le_of_ble_eq_true rfl) ⟨by decide, by decide⟩ (fun x4 V3 => ?_)
    exact hr_iret o dX4_buyer_60 rfl rfl
  refine hr_tsw o (3 : Int32) 61 dX4_buyer_11 (by decide) (by decide) rfl (by decide) (fun c_11_3 => ?_) (fun c_11_3 => ?_)
  · refine hr_aload_n o 0 dX4_buyer_61 rfl ?_
    refine hr_iload_n o 1 dX4_buyer_62 rfl ?_
    refine mr_callI o mvX4_349 dX4_buyer_63 [.int l1] (fun zr zV ze => mtX4_sawOf l1 V1 zr zV ze) rfl rfl (Nat.le_of_ble_eq_true rfl) ⟨by decide, by decide⟩ (fun x6 V5 => ?_)
    exact hr_iret o dX4_buyer_66 rfl rfl
  refine hr_tsw o (4 : Int32) 67 dX4_buyer_11 (by decide) (by decide) rfl (by decide) (fun c_11_4 => ?_) (fun c_11_4 => ?_)
  · refine hr_aload_n o 0 dX4_buyer_67 rfl ?_
    refine hr_iload_n o 1 dX4_buyer_68 rfl ?_
    refine hr_iconst o (3 : Int32) dX4_buyer_69 (by decide) ?_
    refine mr_callI o mvX4_314 dX4_buyer_70 [.int l1, .int (3 : Int32)] (fun zr zV ze => mtX4_buyerOf l1 (3 : Int32) V1 zr zV ze) rfl rfl (Nat.le_of_ble_eq_true rfl) ⟨by decide, by decide⟩ (fun x8 V7 => ?_)
    exact hr_iret o dX4_buyer_73 rfl rfl
  refine hr_tsw o (5 : Int32) 74 dX4_buyer_11 (by decide) (by decide) rfl (by decide) (fun c_11_5 => ?_) (fun c_11_5 => ?_)
  · refine hr_aload_n o 0 dX4_buyer_74 rfl ?_
    refine mr_get o flX4_42 dX4_buyer_75 (.ref (om + 11)) rfl ?_
    refine hr_aload_n o 0 dX4_buyer_78 rfl ?_
    refine hr_iload_n o 1 dX4_buyer_79 rfl ?_
    refine mr_callI o mvX4_346 dX4_buyer_80 [.int l1] (fun zr zV ze => mtX4_hasOf l1 V1 zr zV ze) rfl rfl (Nat.le_of_ble_eq_true rfl) ⟨by decide, by decide⟩ (fun x10 V9 => ?_)
    refine mr_iald o 22 11 4096 rfl (by decide) rfl dX4_buyer_83 (fun x11 => ?_)
    exact hr_iret o dX4_buyer_84 rfl rfl
  refine hr_tswD o 85 dX4_buyer_11 (by have n0 := hf_nei (0) (by decide) c_11_0; have n1 := hf_nei (1) (by decide) c_11_1; have n2 := hf_nei (2) (by decide) c_11_2; have n3 := hf_nei (3) (by decide) c_11_3; have n4 := hf_nei (4) (by decide) c_11_4; have n5 := hf_nei (5) (by decide) c_11_5; omega) (by decide) ?_
  refine hr_iconst o (-1 : Int32) dX4_buyer_85 (by decide) ?_
  exact hr_iret o dX4_buyer_86 rfl rfl
theorem mtX4_buyer {om : Nat} {b : hf_H} (l1 : Int32) (l2 : Int32) (V0 : hf_V) (r : Int32) (V1 : hf_V) (e : spX4_buyer l1 l2 V0 = some (r, V1)) : hf_Con yX4_buyer cX4_buyer 3 (some .int) 2 45 [.ref om, .int l1, .int l2] (hf_M om b V0) (.returned (some (.int r)), hf_M om b V1) := hf_entry (dec := hf_dMI om b) (by decide) [.ref om, .int l1, .int l2] (Nat.le_of_ble_eq_true rfl) [(0, .ref om), (1, .int l1), (2, .int l2)] rfl e (fun C o _ => jtX4_buyer o l1 l2 V0)

/-! spot -/
def spX4_spot (l1 : Int32) (l2 : Int32) (V0 : hf_V) : Option (Int32 × hf_V) :=
  if l1 < 0 then (some ((-1 : Int32), V0)) else
  (hf_ld 123 (V0.2.2.2.1 20) (0 : Int32)).bind fun x1 =>
  if x1 ≤ l1 then (some ((-1 : Int32), V0)) else
  (spX4_in (Int32.toInt64 l2) (0 : Int64) (99 : Int64)).bind fun x2 =>
  if x2 = 0 then (some ((-1 : Int32), V0)) else
  (hf_ld 123 (V0.2.2.2.1 20) (3 : Int32)).bind fun x3 =>
  hf_b2 (spX4_spotAt l1 (x3 + l2) V0) fun x5 V4 =>
  some (x5, V4)
theorem jtX4_spot {C : hf_X} {om : Nat} {b : hf_H} (o : hf_In C cX4_spot RX4 3 (some .int) 1 25) (l1 : Int32) (l2 : Int32) (V0 : hf_V) : hf_J C (hf_dMI om b) (spX4_spot l1 l2 V0) (hf_M om b V0) 0 [(0, .ref om), (1, .int l1), (2, .int l2)] [] := by
  refine hr_iload_n o 1 dX4_spot_0 rfl ?_
  refine hr_if_lt o 42 dX4_spot_1 (by decide) (fun _ => ?_) (fun _ => ?_)
  · refine hr_iconst o (-1 : Int32) dX4_spot_42 (by decide) ?_
    exact hr_iret o dX4_spot_43 rfl rfl
  refine hr_iload_n o 1 dX4_spot_4 rfl ?_
  refine hr_aload_n o 0 dX4_spot_5 rfl ?_
  refine mr_get o flX4_39 dX4_spot_6 (.ref (om + 10)) rfl ?_
  refine hr_iconst o (0 : Int32) dX4_spot_9 (by decide) ?_
  refine mr_iald o 20 10 123 rfl (by decide) rfl dX4_spot_10 (fun x1 => ?_)
  refine hr_icmp_ge o 42 dX4_spot_11 (by decide) (fun _ => ?_) (fun _ => ?_)
  · refine hr_iconst o (-1 : Int32) dX4_spot_42 (by decide) ?_
    exact hr_iret o dX4_spot_43 rfl rfl
  refine hr_iload_n o 2 dX4_spot_14 rfl ?_
  refine hr_i2l o dX4_spot_15 ?_
  refine hr_lconst o (0 : Int64) dX4_spot_16 (by decide) ?_
  refine hr_ldc2 o (99 : Int64) q1800 dX4_spot_17 ?_
  refine pr_callI o msX4_109 dX4_spot_20 [.long (Int32.toInt64 l2), .long (0 : Int64), .long (99 : Int64)] (fun zr ze => mtX4_in (Int32.toInt64 l2) (0 : Int64) (99 : Int64) zr ze) rfl rfl (Nat.le_of_ble_eq_true rfl) ⟨by decide, by decide⟩ (fun x2 => ?_)
  refine hr_if_eq o 42 dX4_spot_23 (by decide) (fun _ => ?_) (fun _ => ?_)
  · refine hr_iconst o (-1 : Int32) dX4_spot_42 (by decide) ?_
    exact hr_iret o dX4_spot_43 rfl rfl
  refine hr_aload_n o 0 dX4_spot_26 rfl ?_
  refine hr_iload_n o 1 dX4_spot_27 rfl ?_
  refine hr_aload_n o 0 dX4_spot_28 rfl ?_
  refine mr_get o flX4_39 dX4_spot_29 (.ref (om + 10)) rfl ?_
  refine hr_iconst o (3 : Int32) dX4_spot_32 (by decide) ?_
  refine mr_iald o 20 10 123 rfl (by decide) rfl dX4_spot_33 (fun x3 => ?_)
  refine hr_iload_n o 2 dX4_spot_34 rfl ?_
  refine hr_iadd o dX4_spot_35 ?_
  refine mr_callI o mvX4_305 dX4_spot_36 [.int l1, .int (x3 + l2)] (fun zr zV ze => mtX4_spotAt l1 (x3 + l2) V0 zr zV ze) rfl rfl (Nat.le_of_ble_eq_true rfl) ⟨by decide, by decide⟩ (fun x5 V4 => ?_)
  refine hr_goto o 43 dX4_spot_39 (by decide) ?_
  exact hr_iret o dX4_spot_43 rfl rfl
theorem mtX4_spot {om : Nat} {b : hf_H} (l1 : Int32) (l2 : Int32) (V0 : hf_V) (r : Int32) (V1 : hf_V) (e : spX4_spot l1 l2 V0 = some (r, V1)) : hf_Con yX4_spot cX4_spot 3 (some .int) 1 25 [.ref om, .int l1, .int l2] (hf_M om b V0) (.returned (some (.int r)), hf_M om b V1) := hf_entry (dec := hf_dMI om b) (by decide) [.ref om, .int l1, .int l2] (Nat.le_of_ble_eq_true rfl) [(0, .ref om), (1, .int l1), (2, .int l2)] rfl e (fun C o _ => jtX4_spot o l1 l2 V0)

/-! undo -/
theorem flX4_48 : hf_Fl RX4 48 4 24 := ⟨(RX4, TX4, 37), RX4, rfl, by decide, in_X4, tyX4_ok, nmX4, Or.inl q1424, Or.inl rfl⟩
def ndX4_undo_21 (k21 : Int32 → hf_V → Option (Int32 × hf_V)) (l1 : Int32) (V0 : hf_V) : Option (Int32 × hf_V) :=
  if (86 : Int32) ≤ l1 then (some ((V0.1 25), V0)) else
  (hf_ld 1720 (V0.2.2.2.1 24) (((86 : Int32) * (V0.1 25)) + l1)).bind fun x1 =>
  hf_sd 123 l1 (fun j => hf_ua V0 20 j x1) fun V2 =>
  hf_let (l1 + (1 : Int32)) fun x3 =>
  k21 x3 V2
theorem nlX4_undo_21 {C : hf_X} {om : Nat} {b : hf_H} (o : hf_In C cX4_undo RX4 2 (some .int) 0 0) (k21 : Int32 → hf_V → Option (Int32 × hf_V)) (hk21 : ∀ (l1 : Int32) (V0 : hf_V), hf_J C (hf_dMI om b) (k21 l1 V0) (hf_M om b V0) 21 [(0, .ref om), (1, .int l1)] []) (l1 : Int32) (V0 : hf_V) : hf_J C (hf_dMI om b) (ndX4_undo_21 k21 l1 V0) (hf_M om b V0) 21 [(0, .ref om), (1, .int l1)] [] := by
  refine hr_iload_n o 1 dX4_undo_21 rfl ?_
  refine hr_bipush o (86 : Int32) dX4_undo_22 (by decide) ?_
  refine hr_icmp_ge o 53 dX4_undo_24 (by decide) (fun _ => ?_) (fun _ => ?_)
  · refine hr_aload_n o 0 dX4_undo_53 rfl ?_
    refine mr_get o flX4_274 dX4_undo_54 (.int (V0.1 25)) rfl ?_
    exact hr_iret o dX4_undo_57 rfl rfl
  refine hr_aload_n o 0 dX4_undo_27 rfl ?_
  refine mr_get o flX4_39 dX4_undo_28 (.ref (om + 10)) rfl ?_
  refine hr_iload_n o 1 dX4_undo_31 rfl ?_
  refine hr_aload_n o 0 dX4_undo_32 rfl ?_
  refine mr_get o flX4_48 dX4_undo_33 (.ref (om + 13)) rfl ?_
  refine hr_bipush o (86 : Int32) dX4_undo_36 (by decide) ?_
  refine hr_aload_n o 0 dX4_undo_38 rfl ?_
  refine mr_get o flX4_274 dX4_undo_39 (.int (V0.1 25)) rfl ?_
  refine hr_imul o dX4_undo_42 ?_
  refine hr_iload_n o 1 dX4_undo_43 rfl ?_
  refine hr_iadd o dX4_undo_44 ?_
  refine mr_iald o 24 13 1720 rfl (by decide) rfl dX4_undo_45 (fun x1 => ?_)
  refine mr_iast o 20 10 123 rfl (by decide) rfl dX4_undo_46 (fun V2 => ?_)
  refine hr_iincN o (1 : Int32) 1 (fun y => [(1, .int y), (0, .ref om)]) dX4_undo_47 rfl (by decide) (by decide) (fun y => rfl) (fun x3 => ?_)
  refine hr_goto o 21 dX4_undo_50 (by decide) ?_
  refine hr_sub [1, 0] rfl ?_
  exact hk21 x3 V2
def lpX4_undo_21  : Nat → Int32 → hf_V → Option (Int32 × hf_V)
  | 0 => fun _ _ => none
  | n + 1 => fun l1 V0 => ndX4_undo_21  (lpX4_undo_21  n) l1 V0
theorem llX4_undo_21 {C : hf_X} {om : Nat} {b : hf_H} (o : hf_In C cX4_undo RX4 2 (some .int) 0 0)   (n : Nat) : ∀ (l1 : Int32) (V0 : hf_V), hf_J C (hf_dMI om b) ((lpX4_undo_21  n) l1 V0) (hf_M om b V0) 21 [(0, .ref om), (1, .int l1)] [] := by
  induction n with
  | zero => exact fun _ _ => hr_none
  | succ n ih => exact fun l1 V0 => nlX4_undo_21 o  (lpX4_undo_21  n)  ih l1 V0
def spX4_undo  (V0 : hf_V) : Option (Int32 × hf_V) :=
  if (V0.1 25) = 0 then (some ((-1 : Int32), V0)) else
  hf_let (hf_ui V0 25 ((V0.1 25) - (1 : Int32))) fun V1 =>
  lpX4_undo_21 hf_N (0 : Int32) V1
theorem jtX4_undo {C : hf_X} {om : Nat} {b : hf_H} (o : hf_In C cX4_undo RX4 2 (some .int) 0 0)  (V0 : hf_V) : hf_J C (hf_dMI om b) (spX4_undo V0) (hf_M om b V0) 0 [(0, .ref om)] [] := by
  refine hr_aload_n o 0 dX4_undo_0 rfl ?_
  refine mr_get o flX4_274 dX4_undo_1 (.int (V0.1 25)) rfl ?_
  refine hr_if_ne o 9 dX4_undo_4 (by decide) (fun _ => ?_) (fun _ => ?_)
  · refine hr_iconst o (-1 : Int32) dX4_undo_7 (by decide) ?_
    exact hr_iret o dX4_undo_8 rfl rfl
  refine hr_aload_n o 0 dX4_undo_9 rfl ?_
  refine hr_dup o dX4_undo_10 rfl ?_
  refine mr_get o flX4_274 dX4_undo_11 (.int (V0.1 25)) rfl ?_
  refine hr_iconst o (1 : Int32) dX4_undo_14 (by decide) ?_
  refine hr_isub o dX4_undo_15 ?_
  refine mr_putI o flX4_274 dX4_undo_16 nf_4_25 rfl rfl (fun V1 => ?_)
  refine hr_iconst o (0 : Int32) dX4_undo_19 (by decide) ?_
  refine hr_istore_n o [(1, .int (0 : Int32)), (0, .ref om)] dX4_undo_20 (by decide) rfl ?_
  refine hr_sub [1, 0] rfl ?_
  exact llX4_undo_21 o hf_N (0 : Int32) V1
theorem mtX4_undo {om : Nat} {b : hf_H}  (V0 : hf_V) (r : Int32) (V1 : hf_V) (e : spX4_undo V0 = some (r, V1)) : hf_Con yX4_undo cX4_undo 2 (some .int) 0 0 [.ref om] (hf_M om b V0) (.returned (some (.int r)), hf_M om b V1) := hf_entry (dec := hf_dMI om b) (by decide) [.ref om] (Nat.le_of_ble_eq_true rfl) [(0, .ref om)] rfl e (fun C o _ => jtX4_undo o V0)

/-! goes -/
def spX4_goes (l1 : Int32) (l2 : Int32) (V0 : hf_V) : Option hf_V :=
  hf_let (((70 : Int32) + ((4 : Int32) * l1)) + (1 : Int32)) fun x1 =>
  (hf_ld 123 (V0.2.2.2.1 20) x1).bind fun x2 =>
  (hf_ld 123 (V0.2.2.2.1 20) (0 : Int32)).bind fun x3 =>
  (hf_ld 123 (V0.2.2.2.1 20) (0 : Int32)).bind fun x4 =>
  if x4 = 0 then none else
  hf_sd 123 x1 (fun j => hf_ua V0 20 j (((x2 + l2) + x3) - ((x2 + l2) + x3) / x4 * x4)) fun V5 =>
  some V5
theorem jtX4_goes {C : hf_X} {om : Nat} {b : hf_H} (o : hf_In C cX4_goes RX4 4 (none) 0 0) (l1 : Int32) (l2 : Int32) (V0 : hf_V) : hf_J C (hf_dMV om b) (spX4_goes l1 l2 V0) (hf_M om b V0) 0 [(0, .ref om), (1, .int l1), (2, .int l2)] [] := by
  refine hr_bipush o (70 : Int32) dX4_goes_0 (by decide) ?_
  refine hr_iconst o (4 : Int32) dX4_goes_2 (by decide) ?_
  refine hr_iload_n o 1 dX4_goes_3 rfl ?_
  refine hr_imul o dX4_goes_4 ?_
  refine hr_iadd o dX4_goes_5 ?_
  refine hr_iconst o (1 : Int32) dX4_goes_6 (by decide) ?_
  refine hr_iadd o dX4_goes_7 ?_
  refine hr_nmI (fun x1 => ?_)
  refine hr_istore_n o [(3, .int x1), (0, .ref om), (1, .int l1), (2, .int l2)] dX4_goes_8 (by decide) rfl ?_
  refine hr_aload_n o 1 dX4_goes_9 rfl ?_
  refine mr_get o flX4_39 dX4_goes_10 (.ref (om + 10)) rfl ?_
  refine hr_iload_n o 0 dX4_goes_13 rfl ?_
  refine hr_aload_n o 1 dX4_goes_14 rfl ?_
  refine mr_get o flX4_39 dX4_goes_15 (.ref (om + 10)) rfl ?_
  refine hr_iload_n o 0 dX4_goes_18 rfl ?_
  refine mr_iald o 20 10 123 rfl (by decide) rfl dX4_goes_19 (fun x2 => ?_)
  refine hr_iload_n o 3 dX4_goes_20 rfl ?_
  refine hr_iadd o dX4_goes_21 ?_
  refine hr_aload_n o 1 dX4_goes_22 rfl ?_
  refine mr_get o flX4_39 dX4_goes_23 (.ref (om + 10)) rfl ?_
  refine hr_iconst o (0 : Int32) dX4_goes_26 (by decide) ?_
  refine mr_iald o 20 10 123 rfl (by decide) rfl dX4_goes_27 (fun x3 => ?_)
  refine hr_iadd o dX4_goes_28 ?_
  refine hr_aload_n o 1 dX4_goes_29 rfl ?_
  refine mr_get o flX4_39 dX4_goes_30 (.ref (om + 10)) rfl ?_
  refine hr_iconst o (0 : Int32) dX4_goes_33 (by decide) ?_
  refine mr_iald o 20 10 123 rfl (by decide) rfl dX4_goes_34 (fun x4 => ?_)
  refine hr_irem o dX4_goes_35 (fun _ => ?_)
  refine mr_iast o 20 10 123 rfl (by decide) rfl dX4_goes_36 (fun V5 => ?_)
  exact hr_vret o dX4_goes_37 rfl
theorem mtX4_goes {om : Nat} {b : hf_H} (l1 : Int32) (l2 : Int32) (V0 V1 : hf_V) (e : spX4_goes l1 l2 V0 = some V1) : hf_Con yX4_goes cX4_goes 4 (none) 0 0 [.ref om, .int l1, .int l2] (hf_M om b V0) (.returned none, hf_M om b V1) := hf_entry (dec := hf_dMV om b) (by decide) [.ref om, .int l1, .int l2] (Nat.le_of_ble_eq_true rfl) [(0, .ref om), (1, .int l1), (2, .int l2)] rfl e (fun C o _ => jtX4_goes o l1 l2 V0)

/-! hourComes -/
def spX4_hourComes  (V0 : hf_V) : Option hf_V :=
  (hf_ld 123 (V0.2.2.2.1 20) (3 : Int32)).bind fun x1 =>
  hf_sd 123 (3 : Int32) (fun j => hf_ua V0 20 j (x1 + (1 : Int32))) fun V2 =>
  (spX4_allSee V2).bind fun V3 =>
  some V3
theorem jtX4_hourComes {C : hf_X} {om : Nat} {b : hf_H} (o : hf_In C cX4_hourComes RX4 1 (none) 3 66)  (V0 : hf_V) : hf_J C (hf_dMV om b) (spX4_hourComes V0) (hf_M om b V0) 0 [(0, .ref om)] [] := by
  refine hr_aload_n o 0 dX4_hourComes_0 rfl ?_
  refine mr_get o flX4_39 dX4_hourComes_1 (.ref (om + 10)) rfl ?_
  refine hr_iconst o (3 : Int32) dX4_hourComes_4 (by decide) ?_
  refine hr_dup2 o dX4_hourComes_5 rfl rfl ?_
  refine mr_iald o 20 10 123 rfl (by decide) rfl dX4_hourComes_6 (fun x1 => ?_)
  refine hr_iconst o (1 : Int32) dX4_hourComes_7 (by decide) ?_
  refine hr_iadd o dX4_hourComes_8 ?_
  refine mr_iast o 20 10 123 rfl (by decide) rfl dX4_hourComes_9 (fun V2 => ?_)
  refine hr_aload_n o 0 dX4_hourComes_10 rfl ?_
  refine mr_callV o mvX4_277 dX4_hourComes_11 [] (fun zV ze => mtX4_allSee  V2 zV ze) rfl rfl (Nat.le_of_ble_eq_true rfl) ⟨by decide, by decide⟩ (fun V3 => ?_)
  exact hr_vret o dX4_hourComes_14 rfl
theorem mtX4_hourComes {om : Nat} {b : hf_H}  (V0 V1 : hf_V) (e : spX4_hourComes V0 = some V1) : hf_Con yX4_hourComes cX4_hourComes 1 (none) 3 66 [.ref om] (hf_M om b V0) (.returned none, hf_M om b V1) := hf_entry (dec := hf_dMV om b) (by decide) [.ref om] (Nat.le_of_ble_eq_true rfl) [(0, .ref om)] rfl e (fun C o _ => jtX4_hourComes o V0)

/-! keepsAct -/
def ndX4_keepsAct_52 (k52 : Int32 → hf_V → Option hf_V) (l1 : Int32) (V0 : hf_V) : Option hf_V :=
  if (86 : Int32) ≤ l1 then (hf_let (hf_ui V0 25 ((V0.1 25) + (1 : Int32))) fun V1 =>
  some V1) else
  (hf_ld 123 (V0.2.2.2.1 20) l1).bind fun x2 =>
  hf_sd 1720 (((86 : Int32) * (V0.1 25)) + l1) (fun j => hf_ua V0 24 j x2) fun V3 =>
  hf_let (l1 + (1 : Int32)) fun x4 =>
  k52 x4 V3
theorem nlX4_keepsAct_52 {C : hf_X} {om : Nat} {b : hf_H} (o : hf_In C cX4_keepsAct RX4 2 (none) 0 0) (k52 : Int32 → hf_V → Option hf_V) (hk52 : ∀ (l1 : Int32) (V0 : hf_V), hf_J C (hf_dMV om b) (k52 l1 V0) (hf_M om b V0) 52 [(0, .ref om), (1, .int l1)] []) (l1 : Int32) (V0 : hf_V) : hf_J C (hf_dMV om b) (ndX4_keepsAct_52 k52 l1 V0) (hf_M om b V0) 52 [(0, .ref om), (1, .int l1)] [] := by
  refine hr_iload_n o 1 dX4_keepsAct_52 rfl ?_
  refine hr_bipush o (86 : Int32) dX4_keepsAct_53 (by decide) ?_
  refine hr_icmp_ge o 84 dX4_keepsAct_55 (by decide) (fun _ => ?_) (fun _ => ?_)
  · refine hr_aload_n o 0 dX4_keepsAct_84 rfl ?_
    refine hr_dup o dX4_keepsAct_85 rfl ?_
    refine mr_get o flX4_274 dX4_keepsAct_86 (.int (V0.1 25)) rfl ?_
    refine hr_iconst o (1 : Int32) dX4_keepsAct_89 (by decide) ?_
    refine hr_iadd o dX4_keepsAct_90 ?_
    refine mr_putI o flX4_274 dX4_keepsAct_91 nf_4_25 rfl rfl (fun V1 => ?_)
    exact hr_vret o dX4_keepsAct_94 rfl
  refine hr_aload_n o 0 dX4_keepsAct_58 rfl ?_
  refine mr_get o flX4_48 dX4_keepsAct_59 (.ref (om + 13)) rfl ?_
  refine hr_bipush o (86 : Int32) dX4_keepsAct_62 (by decide) ?_
  refine hr_aload_n o 0 dX4_keepsAct_64 rfl ?_
  refine mr_get o flX4_274 dX4_keepsAct_65 (.int (V0.1 25)) rfl ?_
  refine hr_imul o dX4_keepsAct_68 ?_
  refine hr_iload_n o 1 dX4_keepsAct_69 rfl ?_
  refine hr_iadd o dX4_keepsAct_70 ?_
  refine hr_aload_n o 0 dX4_keepsAct_71 rfl ?_
  refine mr_get o flX4_39 dX4_keepsAct_72 (.ref (om + 10)) rfl ?_
  refine hr_iload_n o 1 dX4_keepsAct_75 rfl ?_
  refine mr_iald o 20 10 123 rfl (by decide) rfl dX4_keepsAct_76 (fun x2 => ?_)
  refine mr_iast o 24 13 1720 rfl (by decide) rfl dX4_keepsAct_77 (fun V3 => ?_)
  refine hr_iincN o (1 : Int32) 1 (fun y => [(1, .int y), (0, .ref om)]) dX4_keepsAct_78 rfl (by decide) (by decide) (fun y => rfl) (fun x4 => ?_)
  refine hr_goto o 52 dX4_keepsAct_81 (by decide) ?_
  refine hr_sub [1, 0] rfl ?_
  exact hk52 x4 V3
def lpX4_keepsAct_52  : Nat → Int32 → hf_V → Option hf_V
  | 0 => fun _ _ => none
  | n + 1 => fun l1 V0 => ndX4_keepsAct_52  (lpX4_keepsAct_52  n) l1 V0
theorem llX4_keepsAct_52 {C : hf_X} {om : Nat} {b : hf_H} (o : hf_In C cX4_keepsAct RX4 2 (none) 0 0)   (n : Nat) : ∀ (l1 : Int32) (V0 : hf_V), hf_J C (hf_dMV om b) ((lpX4_keepsAct_52  n) l1 V0) (hf_M om b V0) 52 [(0, .ref om), (1, .int l1)] [] := by
  induction n with
  | zero => exact fun _ _ => hr_none
  | succ n ih => exact fun l1 V0 => nlX4_keepsAct_52 o  (lpX4_keepsAct_52  n)  ih l1 V0
def ndX4_keepsAct_50   (V0 : hf_V) : Option hf_V :=
  lpX4_keepsAct_52 hf_N (0 : Int32) V0
theorem nlX4_keepsAct_50 {C : hf_X} {om : Nat} {b : hf_H} (o : hf_In C cX4_keepsAct RX4 2 (none) 0 0)    (V0 : hf_V) : hf_J C (hf_dMV om b) (ndX4_keepsAct_50 V0) (hf_M om b V0) 50 [(0, .ref om)] [] := by
  refine hr_iconst o (0 : Int32) dX4_keepsAct_50 (by decide) ?_
  refine hr_istore_n o [(1, .int (0 : Int32)), (0, .ref om)] dX4_keepsAct_51 (by decide) rfl ?_
  refine hr_sub [1, 0] rfl ?_
  exact llX4_keepsAct_52 o hf_N (0 : Int32) V0
def ndX4_keepsAct_12 (k12 : Int32 → hf_V → Option hf_V) (l1 : Int32) (V0 : hf_V) : Option hf_V :=
  if (1720 : Int32) ≤ l1 then (hf_let (hf_ui V0 25 ((V0.1 25) - (1 : Int32))) fun V1 =>
  ndX4_keepsAct_50 V1) else
  (hf_ld 1720 (V0.2.2.2.1 24) l1).bind fun x2 =>
  hf_sd 1720 (l1 - (86 : Int32)) (fun j => hf_ua V0 24 j x2) fun V3 =>
  hf_let (l1 + (1 : Int32)) fun x4 =>
  k12 x4 V3
theorem nlX4_keepsAct_12 {C : hf_X} {om : Nat} {b : hf_H} (o : hf_In C cX4_keepsAct RX4 2 (none) 0 0) (k12 : Int32 → hf_V → Option hf_V) (hk12 : ∀ (l1 : Int32) (V0 : hf_V), hf_J C (hf_dMV om b) (k12 l1 V0) (hf_M om b V0) 12 [(0, .ref om), (1, .int l1)] []) (l1 : Int32) (V0 : hf_V) : hf_J C (hf_dMV om b) (ndX4_keepsAct_12 k12 l1 V0) (hf_M om b V0) 12 [(0, .ref om), (1, .int l1)] [] := by
  refine hr_iload_n o 1 dX4_keepsAct_12 rfl ?_
  refine hr_sipush o (1720 : Int32) dX4_keepsAct_13 (by decide) ?_
  refine hr_icmp_ge o 40 dX4_keepsAct_16 (by decide) (fun _ => ?_) (fun _ => ?_)
  · refine hr_aload_n o 0 dX4_keepsAct_40 rfl ?_
    refine hr_dup o dX4_keepsAct_41 rfl ?_
    refine mr_get o flX4_274 dX4_keepsAct_42 (.int (V0.1 25)) rfl ?_
    refine hr_iconst o (1 : Int32) dX4_keepsAct_45 (by decide) ?_
    refine hr_isub o dX4_keepsAct_46 ?_
    refine mr_putI o flX4_274 dX4_keepsAct_47 nf_4_25 rfl rfl (fun V1 => ?_)
    refine hr_sub [0] rfl ?_
    exact nlX4_keepsAct_50 o V1
  refine hr_aload_n o 0 dX4_keepsAct_19 rfl ?_
  refine mr_get o flX4_48 dX4_keepsAct_20 (.ref (om + 13)) rfl ?_
  refine hr_iload_n o 1 dX4_keepsAct_23 rfl ?_
  refine hr_bipush o (86 : Int32) dX4_keepsAct_24 (by decide) ?_
  refine hr_isub o dX4_keepsAct_26 ?_
  refine hr_aload_n o 0 dX4_keepsAct_27 rfl ?_
  refine mr_get o flX4_48 dX4_keepsAct_28 (.ref (om + 13)) rfl ?_
  refine hr_iload_n o 1 dX4_keepsAct_31 rfl ?_
  refine mr_iald o 24 13 1720 rfl (by decide) rfl dX4_keepsAct_32 (fun x2 => ?_)
  refine mr_iast o 24 13 1720 rfl (by decide) rfl dX4_keepsAct_33 (fun V3 => ?_)
  refine hr_iincN o (1 : Int32) 1 (fun y => [(1, .int y), (0, .ref om)]) dX4_keepsAct_34 rfl (by decide) (by decide) (fun y => rfl) (fun x4 => ?_)
  refine hr_goto o 12 dX4_keepsAct_37 (by decide) ?_
  refine hr_sub [1, 0] rfl ?_
  exact hk12 x4 V3
def lpX4_keepsAct_12  : Nat → Int32 → hf_V → Option hf_V
  | 0 => fun _ _ => none
  | n + 1 => fun l1 V0 => ndX4_keepsAct_12  (lpX4_keepsAct_12  n) l1 V0
theorem llX4_keepsAct_12 {C : hf_X} {om : Nat} {b : hf_H} (o : hf_In C cX4_keepsAct RX4 2 (none) 0 0)   (n : Nat) : ∀ (l1 : Int32) (V0 : hf_V), hf_J C (hf_dMV om b) ((lpX4_keepsAct_12  n) l1 V0) (hf_M om b V0) 12 [(0, .ref om), (1, .int l1)] [] := by
  induction n with
  | zero => exact fun _ _ => hr_none
  | succ n ih => exact fun l1 V0 => nlX4_keepsAct_12 o  (lpX4_keepsAct_12  n)  ih l1 V0
def spX4_keepsAct  (V0 : hf_V) : Option hf_V :=
  if (V0.1 25) = (20 : Int32) then (lpX4_keepsAct_12 hf_N (86 : Int32) V0) else
  ndX4_keepsAct_50 V0
theorem jtX4_keepsAct {C : hf_X} {om : Nat} {b : hf_H} (o : hf_In C cX4_keepsAct RX4 2 (none) 0 0)  (V0 : hf_V) : hf_J C (hf_dMV om b) (spX4_keepsAct V0) (hf_M om b V0) 0 [(0, .ref om)] [] := by
  refine hr_aload_n o 0 dX4_keepsAct_0 rfl ?_
  refine mr_get o flX4_274 dX4_keepsAct_1 (.int (V0.1 25)) rfl ?_
  refine hr_bipush o (20 : Int32) dX4_keepsAct_4 (by decide) ?_
  refine hr_icmp_ne o 50 dX4_keepsAct_6 (by decide) (fun _ => ?_) (fun _ => ?_)
  · refine hr_bipush o (86 : Int32) dX4_keepsAct_9 (by decide) ?_
    refine hr_istore_n o [(1, .int (86 : Int32)), (0, .ref om)] dX4_keepsAct_11 (by decide) rfl ?_
    refine hr_sub [1, 0] rfl ?_
    exact llX4_keepsAct_12 o hf_N (86 : Int32) V0
  exact nlX4_keepsAct_50 o V0
theorem mtX4_keepsAct {om : Nat} {b : hf_H}  (V0 V1 : hf_V) (e : spX4_keepsAct V0 = some V1) : hf_Con yX4_keepsAct cX4_keepsAct 2 (none) 0 0 [.ref om] (hf_M om b V0) (.returned none, hf_M om b V1) := hf_entry (dec := hf_dMV om b) (by decide) [.ref om] (Nat.le_of_ble_eq_true rfl) [(0, .ref om)] rfl e (fun C o _ => jtX4_keepsAct o V0)

/-! go -/
theorem mvX4_356 : hf_MV RX4 356 RX4 yX4_keepsAct cX4_keepsAct 2 (none) 0 := ⟨lw_V q1810 q1812 qs117 q162 q1813, by decide +kernel⟩
theorem mvX4_359 : hf_MV RX4 359 RX4 yX4_goes cX4_goes 4 (none) 2 := ⟨lw_V q1814 q1816 qs118 q162 q1817, by decide +kernel⟩
theorem mvX4_362 : hf_MV RX4 362 RX4 yX4_hourComes cX4_hourComes 1 (none) 0 := ⟨lw_V q1818 q1820 qs119 q162 q1821, by decide +kernel⟩
def spX4_go (l1 : Int32) (l2 : Int32) (V0 : hf_V) : Option (Int32 × hf_V) :=
  hf_b2 (spX4_isBuyer l1 V0) fun x2 V1 =>
  if x2 = 0 then (some ((-1 : Int32), V1)) else
  (spX4_in (Int32.toInt64 l2) (-1 : Int64) (1 : Int64)).bind fun x3 =>
  if x3 = 0 then (some ((-1 : Int32), V1)) else
  (hf_ld 123 (V1.2.2.2.1 20) (3 : Int32)).bind fun x4 =>
  if x4 = (99 : Int32) then (some ((-1 : Int32), V1)) else
  (spX4_keepsAct V1).bind fun V5 =>
  (spX4_goes l1 l2 V5).bind fun V6 =>
  (spX4_hourComes V6).bind fun V7 =>
  (hf_ld 123 (V7.2.2.2.1 20) (3 : Int32)).bind fun x8 =>
  some (x8, V7)
theorem jtX4_go {C : hf_X} {om : Nat} {b : hf_H} (o : hf_In C cX4_go RX4 3 (some .int) 4 86) (l1 : Int32) (l2 : Int32) (V0 : hf_V) : hf_J C (hf_dMI om b) (spX4_go l1 l2 V0) (hf_M om b V0) 0 [(0, .ref om), (1, .int l1), (2, .int l2)] [] := by
  refine hr_aload_n o 0 dX4_go_0 rfl ?_
  refine hr_iload_n o 1 dX4_go_1 rfl ?_
  refine mr_callI o mvX4_343 dX4_go_2 [.int l1] (fun zr zV ze => mtX4_isBuyer l1 V0 zr zV ze) rfl rfl (Nat.le_of_ble_eq_true rfl) ⟨by decide, by decide⟩ (fun x2 V1 => ?_)
  refine hr_if_eq o 31 dX4_go_5 (by decide) (fun _ => ?_) (fun _ => ?_)
  · refine hr_iconst o (-1 : Int32) dX4_go_31 (by decide) ?_
    exact hr_iret o dX4_go_32 rfl rfl
  refine hr_iload_n o 2 dX4_go_8 rfl ?_
  refine hr_i2l o dX4_go_9 ?_
  refine hr_ldc2 o (-1 : Int64) q1809 dX4_go_10 ?_
  refine hr_lconst o (1 : Int64) dX4_go_13 (by decide) ?_
  refine pr_callI o msX4_109 dX4_go_14 [.long (Int32.toInt64 l2), .long (-1 : Int64), .long (1 : Int64)] (fun zr ze => mtX4_in (Int32.toInt64 l2) (-1 : Int64) (1 : Int64) zr ze) rfl rfl (Nat.le_of_ble_eq_true rfl) ⟨by decide, by decide⟩ (fun x3 => ?_)
  refine hr_if_eq o 31 dX4_go_17 (by decide) (fun _ => ?_) (fun _ => ?_)
  · refine hr_iconst o (-1 : Int32) dX4_go_31 (by decide) ?_
    exact hr_iret o dX4_go_32 rfl rfl
  refine hr_aload_n o 0 dX4_go_20 rfl ?_
  refine mr_get o flX4_39 dX4_go_21 (.ref (om + 10)) rfl ?_
  refine hr_iconst o (3 : Int32) dX4_go_24 (by decide) ?_
  refine mr_iald o 20 10 123 rfl (by decide) rfl dX4_go_25 (fun x4 => ?_)
  refine hr_bipush o (99 : Int32) dX4_go_26 (by decide) ?_
  refine hr_icmp_ne o 33 dX4_go_28 (by decide) (fun _ => ?_) (fun _ => ?_)
  · refine hr_iconst o (-1 : Int32) dX4_go_31 (by decide) ?_
    exact hr_iret o dX4_go_32 rfl rfl
  refine hr_aload_n o 0 dX4_go_33 rfl ?_
  refine mr_callV o mvX4_356 dX4_go_34 [] (fun zV ze => mtX4_keepsAct  V1 zV ze) rfl rfl (Nat.le_of_ble_eq_true rfl) ⟨by decide, by decide⟩ (fun V5 => ?_)
  refine hr_aload_n o 0 dX4_go_37 rfl ?_
  refine hr_iload_n o 1 dX4_go_38 rfl ?_
  refine hr_iload_n o 2 dX4_go_39 rfl ?_
  refine mr_callV o mvX4_359 dX4_go_40 [.int l1, .int l2] (fun zV ze => mtX4_goes l1 l2 V5 zV ze) rfl rfl (Nat.le_of_ble_eq_true rfl) ⟨by decide, by decide⟩ (fun V6 => ?_)
  refine hr_aload_n o 0 dX4_go_43 rfl ?_
  refine mr_callV o mvX4_362 dX4_go_44 [] (fun zV ze => mtX4_hourComes  V6 zV ze) rfl rfl (Nat.le_of_ble_eq_true rfl) ⟨by decide, by decide⟩ (fun V7 => ?_)
  refine hr_aload_n o 0 dX4_go_47 rfl ?_
  refine mr_get o flX4_39 dX4_go_48 (.ref (om + 10)) rfl ?_
  refine hr_iconst o (3 : Int32) dX4_go_51 (by decide) ?_
  refine mr_iald o 20 10 123 rfl (by decide) rfl dX4_go_52 (fun x8 => ?_)
  exact hr_iret o dX4_go_53 rfl rfl
theorem mtX4_go {om : Nat} {b : hf_H} (l1 : Int32) (l2 : Int32) (V0 : hf_V) (r : Int32) (V1 : hf_V) (e : spX4_go l1 l2 V0 = some (r, V1)) : hf_Con yX4_go cX4_go 3 (some .int) 4 86 [.ref om, .int l1, .int l2] (hf_M om b V0) (.returned (some (.int r)), hf_M om b V1) := hf_entry (dec := hf_dMI om b) (by decide) [.ref om, .int l1, .int l2] (Nat.le_of_ble_eq_true rfl) [(0, .ref om), (1, .int l1), (2, .int l2)] rfl e (fun C o _ => jtX4_go o l1 l2 V0)

/-! buys -/
def spX4_buys (l1 : Int32) (l2 : Int32) (V0 : hf_V) : Option hf_V :=
  hf_let ((70 : Int32) + ((4 : Int32) * l1)) fun x1 =>
  (hf_ld 123 (V0.2.2.2.1 20) x1).bind fun x2 =>
  hf_b2 (spX4_priceOf l2 V0) fun x4 V3 =>
  hf_sd 123 x1 (fun j => hf_ua V3 20 j (x2 - x4)) fun V5 =>
  hf_sd 123 (((10 : Int32) + ((5 : Int32) * l2)) + (3 : Int32)) (fun j => hf_ua V5 20 j ((100 : Int32) + l1)) fun V6 =>
  some V6
theorem jtX4_buys {C : hf_X} {om : Nat} {b : hf_H} (o : hf_In C cX4_buys RX4 3 (none) 2 43) (l1 : Int32) (l2 : Int32) (V0 : hf_V) : hf_J C (hf_dMV om b) (spX4_buys l1 l2 V0) (hf_M om b V0) 0 [(0, .ref om), (1, .int l1), (2, .int l2)] [] := by
  refine hr_aload_n o 0 dX4_buys_0 rfl ?_
  refine mr_get o flX4_39 dX4_buys_1 (.ref (om + 10)) rfl ?_
  refine hr_bipush o (70 : Int32) dX4_buys_4 (by decide) ?_
  refine hr_iconst o (4 : Int32) dX4_buys_6 (by decide) ?_
  refine hr_iload_n o 1 dX4_buys_7 rfl ?_
  refine hr_imul o dX4_buys_8 ?_
  refine hr_iadd o dX4_buys_9 ?_
  refine hr_nmI (fun x1 => ?_)
  refine hr_dup2 o dX4_buys_10 rfl rfl ?_
  refine mr_iald o 20 10 123 rfl (by decide) rfl dX4_buys_11 (fun x2 => ?_)
  refine hr_aload_n o 0 dX4_buys_12 rfl ?_
  refine hr_iload_n o 2 dX4_buys_13 rfl ?_
  refine mr_callI o mvX4_340 dX4_buys_14 [.int l2] (fun zr zV ze => mtX4_priceOf l2 V0 zr zV ze) rfl rfl (Nat.le_of_ble_eq_true rfl) ⟨by decide, by decide⟩ (fun x4 V3 => ?_)
  refine hr_isub o dX4_buys_17 ?_
  refine mr_iast o 20 10 123 rfl (by decide) rfl dX4_buys_18 (fun V5 => ?_)
  refine hr_aload_n o 0 dX4_buys_19 rfl ?_
  refine mr_get o flX4_39 dX4_buys_20 (.ref (om + 10)) rfl ?_
  refine hr_bipush o (10 : Int32) dX4_buys_23 (by decide) ?_
  refine hr_iconst o (5 : Int32) dX4_buys_25 (by decide) ?_
  refine hr_iload_n o 2 dX4_buys_26 rfl ?_
  refine hr_imul o dX4_buys_27 ?_
  refine hr_iadd o dX4_buys_28 ?_
  refine hr_iconst o (3 : Int32) dX4_buys_29 (by decide) ?_
  refine hr_iadd o dX4_buys_30 ?_
  refine hr_bipush o (100 : Int32) dX4_buys_31 (by decide) ?_
  refine hr_iload_n o 1 dX4_buys_33 rfl ?_
  refine hr_iadd o dX4_buys_34 ?_
  refine mr_iast o 20 10 123 rfl (by decide) rfl dX4_buys_35 (fun V6 => ?_)
  exact hr_vret o dX4_buys_36 rfl
theorem mtX4_buys {om : Nat} {b : hf_H} (l1 : Int32) (l2 : Int32) (V0 V1 : hf_V) (e : spX4_buys l1 l2 V0 = some V1) : hf_Con yX4_buys cX4_buys 3 (none) 2 43 [.ref om, .int l1, .int l2] (hf_M om b V0) (.returned none, hf_M om b V1) := hf_entry (dec := hf_dMV om b) (by decide) [.ref om, .int l1, .int l2] (Nat.le_of_ble_eq_true rfl) [(0, .ref om), (1, .int l1), (2, .int l2)] rfl e (fun C o _ => jtX4_buys o l1 l2 V0)

/-! canBuy -/
def spX4_canBuy (l1 : Int32) (l2 : Int32) (V0 : hf_V) : Option (Int32 × hf_V) :=
  hf_b2 (spX4_halfOf l2 (3 : Int32) V0) fun x2 V1 =>
  hf_b2 (spX4_buyerOf l1 (1 : Int32) V1) fun x4 V3 =>
  (hf_ld 123 (V3.2.2.2.1 20) (3 : Int32)).bind fun x5 =>
  hf_b2 (spX4_stallAt x4 x5 V3) fun x7 V6 =>
  if x2 = x7 then (hf_b2 (spX4_priceOf l2 V6) fun x9 V8 =>
  hf_b2 (spX4_buyerOf l1 (0 : Int32) V8) fun x11 V10 =>
  if x11 < x9 then (some ((0 : Int32), V10)) else
  some ((1 : Int32), V10)) else
  some ((0 : Int32), V6)
theorem jtX4_canBuy {C : hf_X} {om : Nat} {b : hf_H} (o : hf_In C cX4_canBuy RX4 3 (some .boolean) 2 45) (l1 : Int32) (l2 : Int32) (V0 : hf_V) : hf_J C (hf_dMI om b) (spX4_canBuy l1 l2 V0) (hf_M om b V0) 0 [(0, .ref om), (1, .int l1), (2, .int l2)] [] := by
  refine hr_aload_n o 0 dX4_canBuy_0 rfl ?_
  refine hr_iload_n o 2 dX4_canBuy_1 rfl ?_
  refine hr_iconst o (3 : Int32) dX4_canBuy_2 (by decide) ?_
  refine mr_callI o mvX4_301 dX4_canBuy_3 [.int l2, .int (3 : Int32)] (fun zr zV ze => mtX4_halfOf l2 (3 : Int32) V0 zr zV ze) rfl rfl (Nat.le_of_ble_eq_true rfl) ⟨by decide, by decide⟩ (fun x2 V1 => ?_)
  refine hr_aload_n o 0 dX4_canBuy_6 rfl ?_
  refine hr_aload_n o 0 dX4_canBuy_7 rfl ?_
  refine hr_iload_n o 1 dX4_canBuy_8 rfl ?_
  refine hr_iconst o (1 : Int32) dX4_canBuy_9 (by decide) ?_
  refine mr_callI o mvX4_314 dX4_canBuy_10 [.int l1, .int (1 : Int32)] (fun zr zV ze => mtX4_buyerOf l1 (1 : Int32) V1 zr zV ze) rfl rfl (Nat.le_of_ble_eq_true rfl) ⟨by decide, by decide⟩ (fun x4 V3 => ?_)
  refine hr_aload_n o 0 dX4_canBuy_13 rfl ?_
  refine mr_get o flX4_39 dX4_canBuy_14 (.ref (om + 10)) rfl ?_
  refine hr_iconst o (3 : Int32) dX4_canBuy_17 (by decide) ?_
  refine mr_iald o 20 10 123 rfl (by decide) rfl dX4_canBuy_18 (fun x5 => ?_)
  refine mr_callI o mvX4_317 dX4_canBuy_19 [.int x4, .int x5] (fun zr zV ze => mtX4_stallAt x4 x5 V3 zr zV ze) rfl rfl (Nat.le_of_ble_eq_true rfl) ⟨by decide, by decide⟩ (fun x7 V6 => ?_)
  refine hr_icmp_ne o 43 dX4_canBuy_22 (by decide) (fun _ => ?_) (fun _ => ?_)
  · refine hr_aload_n o 0 dX4_canBuy_25 rfl ?_
    refine hr_iload_n o 2 dX4_canBuy_26 rfl ?_
    refine mr_callI o mvX4_340 dX4_canBuy_27 [.int l2] (fun zr zV ze => mtX4_priceOf l2 V6 zr zV ze) rfl rfl (Nat.le_of_ble_eq_true rfl) ⟨by decide, by decide⟩ (fun x9 V8 => ?_)
    refine hr_aload_n o 0 dX4_canBuy_30 rfl ?_
    refine hr_iload_n o 1 dX4_canBuy_31 rfl ?_
    refine hr_iconst o (0 : Int32) dX4_canBuy_32 (by decide) ?_
    refine mr_callI o mvX4_314 dX4_canBuy_33 [.int l1, .int (0 : Int32)] (fun zr zV ze => mtX4_buyerOf l1 (0 : Int32) V8 zr zV ze) rfl rfl (Nat.le_of_ble_eq_true rfl) ⟨by decide, by decide⟩ (fun x11 V10 => ?_)
    refine hr_icmp_gt o 43 dX4_canBuy_36 (by decide) (fun _ => ?_) (fun _ => ?_)
    · refine hr_iconst o (0 : Int32) dX4_canBuy_43 (by decide) ?_
      exact hr_iret o dX4_canBuy_44 rfl (by decide)
    refine hr_iconst o (1 : Int32) dX4_canBuy_39 (by decide) ?_
    refine hr_goto o 44 dX4_canBuy_40 (by decide) ?_
    exact hr_iret o dX4_canBuy_44 rfl (by decide)
  refine hr_iconst o (0 : Int32) dX4_canBuy_43 (by decide) ?_
  exact hr_iret o dX4_canBuy_44 rfl (by decide)
theorem mtX4_canBuy {om : Nat} {b : hf_H} (l1 : Int32) (l2 : Int32) (V0 : hf_V) (r : Int32) (V1 : hf_V) (e : spX4_canBuy l1 l2 V0 = some (r, V1)) : hf_Con yX4_canBuy cX4_canBuy 3 (some .boolean) 2 45 [.ref om, .int l1, .int l2] (hf_M om b V0) (.returned (some (.int r)), hf_M om b V1) := hf_entry (dec := hf_dMI om b) (by decide) [.ref om, .int l1, .int l2] (Nat.le_of_ble_eq_true rfl) [(0, .ref om), (1, .int l1), (2, .int l2)] rfl e (fun C o _ => jtX4_canBuy o l1 l2 V0)

/-! buy -/
theorem mvX4_365 : hf_MV RX4 365 RX4 yX4_canBuy cX4_canBuy 3 (some .boolean) 2 := ⟨lw_V q1826 q1828 qs120 q162 q1829, by decide +kernel⟩
theorem mvX4_368 : hf_MV RX4 368 RX4 yX4_buys cX4_buys 3 (none) 2 := ⟨lw_V q1830 q1832 qs121 q162 q1833, by decide +kernel⟩
def spX4_buy (l1 : Int32) (l2 : Int32) (V0 : hf_V) : Option (Int32 × hf_V) :=
  hf_b2 (spX4_isBuyer l1 V0) fun x2 V1 =>
  if x2 = 0 then (some ((-1 : Int32), V1)) else
  hf_b2 (spX4_isHalf l2 V1) fun x4 V3 =>
  if x4 = 0 then (some ((-1 : Int32), V3)) else
  hf_b2 (spX4_canBuy l1 l2 V3) fun x6 V5 =>
  if x6 = 0 then (some ((-1 : Int32), V5)) else
  (spX4_keepsAct V5).bind fun V7 =>
  (spX4_buys l1 l2 V7).bind fun V8 =>
  hf_b2 (spX4_buyerOf l1 (0 : Int32) V8) fun x10 V9 =>
  some (x10, V9)
theorem jtX4_buy {C : hf_X} {om : Nat} {b : hf_H} (o : hf_In C cX4_buy RX4 3 (some .int) 3 67) (l1 : Int32) (l2 : Int32) (V0 : hf_V) : hf_J C (hf_dMI om b) (spX4_buy l1 l2 V0) (hf_M om b V0) 0 [(0, .ref om), (1, .int l1), (2, .int l2)] [] := by
  refine hr_aload_n o 0 dX4_buy_0 rfl ?_
  refine hr_iload_n o 1 dX4_buy_1 rfl ?_
  refine mr_callI o mvX4_343 dX4_buy_2 [.int l1] (fun zr zV ze => mtX4_isBuyer l1 V0 zr zV ze) rfl rfl (Nat.le_of_ble_eq_true rfl) ⟨by decide, by decide⟩ (fun x2 V1 => ?_)
  refine hr_if_eq o 25 dX4_buy_5 (by decide) (fun _ => ?_) (fun _ => ?_)
  · refine hr_iconst o (-1 : Int32) dX4_buy_25 (by decide) ?_
    exact hr_iret o dX4_buy_26 rfl rfl
  refine hr_aload_n o 0 dX4_buy_8 rfl ?_
  refine hr_iload_n o 2 dX4_buy_9 rfl ?_
  refine mr_callI o mvX4_335 dX4_buy_10 [.int l2] (fun zr zV ze => mtX4_isHalf l2 V1 zr zV ze) rfl rfl (Nat.le_of_ble_eq_true rfl) ⟨by decide, by decide⟩ (fun x4 V3 => ?_)
  refine hr_if_eq o 25 dX4_buy_13 (by decide) (fun _ => ?_) (fun _ => ?_)
  · refine hr_iconst o (-1 : Int32) dX4_buy_25 (by decide) ?_
    exact hr_iret o dX4_buy_26 rfl rfl
  refine hr_aload_n o 0 dX4_buy_16 rfl ?_
  refine hr_iload_n o 1 dX4_buy_17 rfl ?_
  refine hr_iload_n o 2 dX4_buy_18 rfl ?_
  refine mr_callI o mvX4_365 dX4_buy_19 [.int l1, .int l2] (fun zr zV ze => mtX4_canBuy l1 l2 V3 zr zV ze) rfl rfl (Nat.le_of_ble_eq_true rfl) ⟨by decide, by decide⟩ (fun x6 V5 => ?_)
  refine hr_if_ne o 27 dX4_buy_22 (by decide) (fun _ => ?_) (fun _ => ?_)
  · refine hr_iconst o (-1 : Int32) dX4_buy_25 (by decide) ?_
    exact hr_iret o dX4_buy_26 rfl rfl
  refine hr_aload_n o 0 dX4_buy_27 rfl ?_
  refine mr_callV o mvX4_356 dX4_buy_28 [] (fun zV ze => mtX4_keepsAct  V5 zV ze) rfl rfl (Nat.le_of_ble_eq_true rfl) ⟨by decide, by decide⟩ (fun V7 => ?_)
  refine hr_aload_n o 0 dX4_buy_31 rfl ?_
  refine hr_iload_n o 1 dX4_buy_32 rfl ?_
  refine hr_iload_n o 2 dX4_buy_33 rfl ?_
  refine mr_callV o mvX4_368 dX4_buy_34 [.int l1, .int l2] (fun zV ze => mtX4_buys l1 l2 V7 zV ze) rfl rfl (Nat.le_of_ble_eq_true rfl) ⟨by decide, by decide⟩ (fun V8 => ?_)
  refine hr_aload_n o 0 dX4_buy_37 rfl ?_
  refine hr_iload_n o 1 dX4_buy_38 rfl ?_
  refine hr_iconst o (0 : Int32) dX4_buy_39 (by decide) ?_
  refine mr_callI o mvX4_314 dX4_buy_40 [.int l1, .int (0 : Int32)] (fun zr zV ze => mtX4_buyerOf l1 (0 : Int32) V8 zr zV ze) rfl rfl (Nat.le_of_ble_eq_true rfl) ⟨by decide, by decide⟩ (fun x10 V9 => ?_)
  exact hr_iret o dX4_buy_43 rfl rfl
theorem mtX4_buy {om : Nat} {b : hf_H} (l1 : Int32) (l2 : Int32) (V0 : hf_V) (r : Int32) (V1 : hf_V) (e : spX4_buy l1 l2 V0 = some (r, V1)) : hf_Con yX4_buy cX4_buy 3 (some .int) 3 67 [.ref om, .int l1, .int l2] (hf_M om b V0) (.returned (some (.int r)), hf_M om b V1) := hf_entry (dec := hf_dMI om b) (by decide) [.ref om, .int l1, .int l2] (Nat.le_of_ble_eq_true rfl) [(0, .ref om), (1, .int l1), (2, .int l2)] rfl e (fun C o _ => jtX4_buy o l1 l2 V0)

/-! bits -/
def ndX4_bits_4 (k4 : Int32 → Int32 → Option Int32) (l1 : Int32) (l2 : Int32) : Option Int32 :=
  if l2 = 0 then (some l1) else
  hf_let (l1 + (1 : Int32)) fun x1 =>
  hf_let (l2 &&& (l2 - (1 : Int32))) fun x2 =>
  k4 x1 x2
theorem nlX4_bits_4 {C : hf_X} {h : hf_H} (o : hf_In C cX4_bits RX4 3 (some .int) 0 0) (k4 : Int32 → Int32 → Option Int32) (hk4 : ∀ (l1 : Int32) (l2 : Int32), hf_J C (hf_dPI h) (k4 l1 l2) h 4 [(1, .int l1), (2, .int l2)] []) (l1 : Int32) (l2 : Int32) : hf_J C (hf_dPI h) (ndX4_bits_4 k4 l1 l2) h 4 [(1, .int l1), (2, .int l2)] [] := by
  refine hr_iload_n o 1 dX4_bits_4 rfl ?_
  refine hr_if_eq o 20 dX4_bits_5 (by decide) (fun _ => ?_) (fun _ => ?_)
  · refine hr_iload_n o 0 dX4_bits_20 rfl ?_
    exact hr_iret o dX4_bits_21 rfl rfl
  refine hr_iincN o (1 : Int32) 0 (fun y => [(1, .int y), (2, .int l2)]) dX4_bits_8 rfl (by decide) (by decide) (fun y => rfl) (fun x1 => ?_)
  refine hr_iload_n o 1 dX4_bits_11 rfl ?_
  refine hr_iload_n o 1 dX4_bits_12 rfl ?_
  refine hr_iconst o (1 : Int32) dX4_bits_13 (by decide) ?_
  refine hr_isub o dX4_bits_14 ?_
  refine hr_iand o dX4_bits_15 ?_
  refine hr_nmI (fun x2 => ?_)
  refine hr_istore_n o [(2, .int x2), (1, .int x1)] dX4_bits_16 (by decide) rfl ?_
  refine hr_goto o 4 dX4_bits_17 (by decide) ?_
  refine hr_sub [1, 0] rfl ?_
  exact hk4 x1 x2
def lpX4_bits_4  : Nat → Int32 → Int32 → Option Int32
  | 0 => fun _ _ => none
  | n + 1 => fun l1 l2 => ndX4_bits_4  (lpX4_bits_4  n) l1 l2
theorem llX4_bits_4 {C : hf_X} {h : hf_H} (o : hf_In C cX4_bits RX4 3 (some .int) 0 0)   (n : Nat) : ∀ (l1 : Int32) (l2 : Int32), hf_J C (hf_dPI h) ((lpX4_bits_4  n) l1 l2) h 4 [(1, .int l1), (2, .int l2)] [] := by
  induction n with
  | zero => exact fun _ _ => hr_none
  | succ n ih => exact fun l1 l2 => nlX4_bits_4 o  (lpX4_bits_4  n)  ih l1 l2
def spX4_bits (l0 : Int32) : Option Int32 :=
  lpX4_bits_4 hf_N (0 : Int32) l0
theorem jtX4_bits {C : hf_X} {h : hf_H} (o : hf_In C cX4_bits RX4 3 (some .int) 0 0) (l0 : Int32) : hf_J C (hf_dPI h) (spX4_bits l0) h 0 [(0, .int l0)] [] := by
  refine hr_iconst o (0 : Int32) dX4_bits_0 (by decide) ?_
  refine hr_istore_n o [(1, .int (0 : Int32)), (0, .int l0)] dX4_bits_1 (by decide) rfl ?_
  refine hr_iload_n o 1 dX4_bits_2 rfl ?_
  refine hr_istore_n o [(2, .int l0), (1, .int (0 : Int32)), (0, .int l0)] dX4_bits_3 (by decide) rfl ?_
  refine hr_sub [1, 0] rfl ?_
  exact llX4_bits_4 o hf_N (0 : Int32) l0
theorem mtX4_bits {h : hf_H} (l0 : Int32) (r : Int32) (e : spX4_bits l0 = some r) : hf_Con yX4_bits cX4_bits 3 (some .int) 0 0 [.int l0] h (.returned (some (.int r)), h) := hf_entry (dec := hf_dPI h) (by decide) [.int l0] (Nat.le_of_ble_eq_true rfl) [(0, .int l0)] rfl e (fun C o _ => jtX4_bits o l0)

/-! far -/
def ndX4_far_14  (s0 : Int32) (V0 : hf_V) : Option (Int32 × hf_V) :=
  (hf_ld 123 (V0.2.2.2.1 20) (0 : Int32)).bind fun x1 =>
  if ((2 : Int32) * s0) ≤ x1 then (some (s0, V0)) else
  (hf_ld 123 (V0.2.2.2.1 20) (0 : Int32)).bind fun x2 =>
  some ((x2 - s0), V0)
theorem nlX4_far_14 {C : hf_X} {om : Nat} {b : hf_H} (o : hf_In C cX4_far RX4 4 (some .int) 0 0)   (s0 : Int32) (V0 : hf_V) : hf_J C (hf_dMI om b) (ndX4_far_14 s0 V0) (hf_M om b V0) 14 [(0, .ref om)] [.int s0] := by
  refine hr_istore_n o [(3, .int s0), (0, .ref om)] dX4_far_14 (by decide) rfl ?_
  refine hr_iconst o (2 : Int32) dX4_far_15 (by decide) ?_
  refine hr_iload_n o 0 dX4_far_16 rfl ?_
  refine hr_imul o dX4_far_17 ?_
  refine hr_aload_n o 1 dX4_far_18 rfl ?_
  refine mr_get o flX4_39 dX4_far_19 (.ref (om + 10)) rfl ?_
  refine hr_iconst o (0 : Int32) dX4_far_22 (by decide) ?_
  refine mr_iald o 20 10 123 rfl (by decide) rfl dX4_far_23 (fun x1 => ?_)
  refine hr_icmp_le o 38 dX4_far_24 (by decide) (fun _ => ?_) (fun _ => ?_)
  · refine hr_iload_n o 0 dX4_far_38 rfl ?_
    exact hr_iret o dX4_far_39 rfl rfl
  refine hr_aload_n o 1 dX4_far_27 rfl ?_
  refine mr_get o flX4_39 dX4_far_28 (.ref (om + 10)) rfl ?_
  refine hr_iconst o (0 : Int32) dX4_far_31 (by decide) ?_
  refine mr_iald o 20 10 123 rfl (by decide) rfl dX4_far_32 (fun x2 => ?_)
  refine hr_iload_n o 0 dX4_far_33 rfl ?_
  refine hr_isub o dX4_far_34 ?_
  refine hr_goto o 39 dX4_far_35 (by decide) ?_
  exact hr_iret o dX4_far_39 rfl rfl
def spX4_far (l1 : Int32) (l2 : Int32) (V0 : hf_V) : Option (Int32 × hf_V) :=
  if l1 ≤ l2 then (ndX4_far_14 (l2 - l1) V0) else
  ndX4_far_14 (l1 - l2) V0
theorem jtX4_far {C : hf_X} {om : Nat} {b : hf_H} (o : hf_In C cX4_far RX4 4 (some .int) 0 0) (l1 : Int32) (l2 : Int32) (V0 : hf_V) : hf_J C (hf_dMI om b) (spX4_far l1 l2 V0) (hf_M om b V0) 0 [(0, .ref om), (1, .int l1), (2, .int l2)] [] := by
  refine hr_iload_n o 1 dX4_far_0 rfl ?_
  refine hr_iload_n o 2 dX4_far_1 rfl ?_
  refine hr_icmp_le o 11 dX4_far_2 (by decide) (fun _ => ?_) (fun _ => ?_)
  · refine hr_iload_n o 2 dX4_far_11 rfl ?_
    refine hr_iload_n o 1 dX4_far_12 rfl ?_
    refine hr_isub o dX4_far_13 ?_
    refine hr_sub [0] rfl ?_
    exact nlX4_far_14 o (l2 - l1) V0
  refine hr_iload_n o 1 dX4_far_5 rfl ?_
  refine hr_iload_n o 2 dX4_far_6 rfl ?_
  refine hr_isub o dX4_far_7 ?_
  refine hr_goto o 14 dX4_far_8 (by decide) ?_
  refine hr_sub [0] rfl ?_
  exact nlX4_far_14 o (l1 - l2) V0
theorem mtX4_far {om : Nat} {b : hf_H} (l1 : Int32) (l2 : Int32) (V0 : hf_V) (r : Int32) (V1 : hf_V) (e : spX4_far l1 l2 V0 = some (r, V1)) : hf_Con yX4_far cX4_far 4 (some .int) 0 0 [.ref om, .int l1, .int l2] (hf_M om b V0) (.returned (some (.int r)), hf_M om b V1) := hf_entry (dec := hf_dMI om b) (by decide) [.ref om, .int l1, .int l2] (Nat.le_of_ble_eq_true rfl) [(0, .ref om), (1, .int l1), (2, .int l2)] rfl e (fun C o _ => jtX4_far o l1 l2 V0)

/-! shout -/
theorem msX4_374 : hf_MS RX4 374 yX4_bits cX4_bits 3 (some .int) 1 := ⟨lw_S q1842 q1843 q162 q1844, by decide +kernel⟩
theorem mvX4_371 : hf_MV RX4 371 RX4 yX4_far cX4_far 4 (some .int) 2 := ⟨lw_V q1838 q1840 qs122 q162 q1841, by decide +kernel⟩
def ndX4_shout_163 (k60 : Int32 → Int32 → Int32 → Int32 → hf_V → Option (Int32 × hf_V)) (l1 : Int32) (l2 : Int32) (l3 : Int32) (l4 : Int32) (V0 : hf_V) : Option (Int32 × hf_V) :=
  hf_let (l4 + (1 : Int32)) fun x1 =>
  k60 l1 l2 l3 x1 V0
theorem nlX4_shout_163 {C : hf_X} {om : Nat} {b : hf_H} (o : hf_In C cX4_shout RX4 6 (some .int) 1 25) (k60 : Int32 → Int32 → Int32 → Int32 → hf_V → Option (Int32 × hf_V)) (hk60 : ∀ (l1 : Int32) (l2 : Int32) (l3 : Int32) (l4 : Int32) (V0 : hf_V), hf_J C (hf_dMI om b) (k60 l1 l2 l3 l4 V0) (hf_M om b V0) 60 [(0, .ref om), (1, .int l1), (2, .int l2), (3, .int l3), (4, .int l4)] []) (l1 : Int32) (l2 : Int32) (l3 : Int32) (l4 : Int32) (V0 : hf_V) : hf_J C (hf_dMI om b) (ndX4_shout_163 k60 l1 l2 l3 l4 V0) (hf_M om b V0) 163 [(0, .ref om), (1, .int l1), (2, .int l2), (3, .int l3), (4, .int l4)] [] := by
  refine hr_iincN o (1 : Int32) 4 (fun y => [(4, .int y), (0, .ref om), (1, .int l1), (2, .int l2), (3, .int l3)]) dX4_shout_163 rfl (by decide) (by decide) (fun y => rfl) (fun x1 => ?_)
  refine hr_goto o 60 dX4_shout_166 (by decide) ?_
  refine hr_sub [1, 2, 3, 4, 0] rfl ?_
  exact hk60 l1 l2 l3 x1 V0
def ndX4_shout_60 (k60 : Int32 → Int32 → Int32 → Int32 → hf_V → Option (Int32 × hf_V)) (l1 : Int32) (l2 : Int32) (l3 : Int32) (l4 : Int32) (V0 : hf_V) : Option (Int32 × hf_V) :=
  (hf_ld 123 (V0.2.2.2.1 20) (1 : Int32)).bind fun x1 =>
  if x1 ≤ l4 then (hf_b2 (spX4_buyerOf l1 (2 : Int32) V0) fun x3 V2 =>
  (spX4_bits x3).bind fun x4 =>
  (spX4_bits l3).bind fun x5 =>
  some ((x4 - x5), V2)) else
  hf_b2 (spX4_halfOf l4 (3 : Int32) V0) fun x7 V6 =>
  if (100 : Int32) ≤ x7 then (ndX4_shout_163 k60 l1 l2 l3 l4 V6) else
  (hf_ld 123 (V6.2.2.2.1 20) (3 : Int32)).bind fun x8 =>
  hf_b2 (spX4_spotAt x7 x8 V6) fun x10 V9 =>
  hf_b2 (spX4_buyerOf l1 (1 : Int32) V9) fun x12 V11 =>
  hf_b2 (spX4_far x10 x12 V11) fun x14 V13 =>
  (hf_ld 123 (V13.2.2.2.1 20) (8 : Int32)).bind fun x15 =>
  if x15 < x14 then (ndX4_shout_163 k60 l1 l2 l3 l4 V13) else
  hf_b2 (spX4_halfOf l4 (0 : Int32) V13) fun x17 V16 =>
  hf_b2 (spX4_apart x17 l2 V16) fun x19 V18 =>
  (hf_ld 123 (V18.2.2.2.1 20) (5 : Int32)).bind fun x20 =>
  if x19 ≤ x20 then (hf_let (((70 : Int32) + ((4 : Int32) * l1)) + (2 : Int32)) fun x21 =>
  (hf_ld 123 (V18.2.2.2.1 20) x21).bind fun x22 =>
  hf_sd 123 x21 (fun j => hf_ua V18 20 j (x22 ||| ((1 : Int32) <<< (l4 &&& 31)))) fun V23 =>
  ndX4_shout_163 k60 l1 l2 l3 l4 V23) else
  ndX4_shout_163 k60 l1 l2 l3 l4 V18
theorem nlX4_shout_60 {C : hf_X} {om : Nat} {b : hf_H} (o : hf_In C cX4_shout RX4 6 (some .int) 1 25) (k60 : Int32 → Int32 → Int32 → Int32 → hf_V → Option (Int32 × hf_V)) (hk60 : ∀ (l1 : Int32) (l2 : Int32) (l3 : Int32) (l4 : Int32) (V0 : hf_V), hf_J C (hf_dMI om b) (k60 l1 l2 l3 l4 V0) (hf_M om b V0) 60 [(0, .ref om), (1, .int l1), (2, .int l2), (3, .int l3), (4, .int l4)] []) (l1 : Int32) (l2 : Int32) (l3 : Int32) (l4 : Int32) (V0 : hf_V) : hf_J C (hf_dMI om b) (ndX4_shout_60 k60 l1 l2 l3 l4 V0) (hf_M om b V0) 60 [(0, .ref om), (1, .int l1), (2, .int l2), (3, .int l3), (4, .int l4)] [] := by
  refine hr_iload o 4 dX4_shout_60 rfl ?_
  refine hr_aload_n o 0 dX4_shout_62 rfl ?_
  refine mr_get o flX4_39 dX4_shout_63 (.ref (om + 10)) rfl ?_
  refine hr_iconst o (1 : Int32) dX4_shout_66 (by decide) ?_
  refine mr_iald o 20 10 123 rfl (by decide) rfl dX4_shout_67 (fun x1 => ?_)
  refine hr_icmp_ge o 169 dX4_shout_68 (by decide) (fun _ => ?_) (fun _ => ?_)
  · refine hr_aload_n o 0 dX4_shout_169 rfl ?_
    refine hr_iload_n o 1 dX4_shout_170 rfl ?_
    refine hr_iconst o (2 : Int32) dX4_shout_171 (by decide) ?_
    refine mr_callI o mvX4_314 dX4_shout_172 [.int l1, .int (2 : Int32)] (fun zr zV ze => mtX4_buyerOf l1 (2 : Int32) V0 zr zV ze) rfl rfl (Nat.le_of_ble_eq_true rfl) ⟨by decide, by decide⟩ (fun x3 V2 => ?_)
    refine pr_callI o msX4_374 dX4_shout_175 [.int x3] (fun zr ze => mtX4_bits x3 zr ze) rfl rfl (Nat.le_of_ble_eq_true rfl) ⟨by decide, by decide⟩ (fun x4 => ?_)
    refine hr_iload_n o 3 dX4_shout_178 rfl ?_
    refine pr_callI o msX4_374 dX4_shout_179 [.int l3] (fun zr ze => mtX4_bits l3 zr ze) rfl rfl (Nat.le_of_ble_eq_true rfl) ⟨by decide, by decide⟩ (fun x5 => ?_)
    refine hr_isub o dX4_shout_182 ?_
    exact hr_iret o dX4_shout_183 rfl rfl
  refine hr_aload_n o 0 dX4_shout_71 rfl ?_
  refine hr_iload o 4 dX4_shout_72 rfl ?_
  refine hr_iconst o (3 : Int32) dX4_shout_74 (by decide) ?_
  refine mr_callI o mvX4_301 dX4_shout_75 [.int l4, .int (3 : Int32)] (fun zr zV ze => mtX4_halfOf l4 (3 : Int32) V0 zr zV ze) rfl rfl (Nat.le_of_ble_eq_true rfl) ⟨by decide, by decide⟩ (fun x7 V6 => ?_)
  refine hr_istore o [(5, .int x7), (0, .ref om), (1, .int l1), (2, .int l2), (3, .int l3), (4, .int l4)] dX4_shout_78 (by decide) rfl ?_
  refine hr_iload o 0 dX4_shout_80 rfl ?_
  refine hr_bipush o (100 : Int32) dX4_shout_82 (by decide) ?_
  refine hr_icmp_ge o 163 dX4_shout_84 (by decide) (fun _ => ?_) (fun _ => ?_)
  · refine hr_sub [1, 2, 3, 4, 5] rfl ?_
    exact nlX4_shout_163 o k60 hk60 l1 l2 l3 l4 V6
  refine hr_aload_n o 1 dX4_shout_87 rfl ?_
  refine hr_aload_n o 1 dX4_shout_88 rfl ?_
  refine hr_iload o 0 dX4_shout_89 rfl ?_
  refine hr_aload_n o 1 dX4_shout_91 rfl ?_
  refine mr_get o flX4_39 dX4_shout_92 (.ref (om + 10)) rfl ?_
  refine hr_iconst o (3 : Int32) dX4_shout_95 (by decide) ?_
  refine mr_iald o 20 10 123 rfl (by decide) rfl dX4_shout_96 (fun x8 => ?_)
  refine mr_callI o mvX4_305 dX4_shout_97 [.int x7, .int x8] (fun zr zV ze => mtX4_spotAt x7 x8 V6 zr zV ze) rfl rfl (Nat.le_of_ble_eq_true rfl) ⟨by decide, by decide⟩ (fun x10 V9 => ?_)
  refine hr_aload_n o 1 dX4_shout_100 rfl ?_
  refine hr_iload_n o 2 dX4_shout_101 rfl ?_
  refine hr_iconst o (1 : Int32) dX4_shout_102 (by decide) ?_
  refine mr_callI o mvX4_314 dX4_shout_103 [.int l1, .int (1 : Int32)] (fun zr zV ze => mtX4_buyerOf l1 (1 : Int32) V9 zr zV ze) rfl rfl (Nat.le_of_ble_eq_true rfl) ⟨by decide, by decide⟩ (fun x12 V11 => ?_)
  refine mr_callI o mvX4_371 dX4_shout_106 [.int x10, .int x12] (fun zr zV ze => mtX4_far x10 x12 V11 zr zV ze) rfl rfl (Nat.le_of_ble_eq_true rfl) ⟨by decide, by decide⟩ (fun x14 V13 => ?_)
  refine hr_aload_n o 1 dX4_shout_109 rfl ?_
  refine mr_get o flX4_39 dX4_shout_110 (.ref (om + 10)) rfl ?_
  refine hr_bipush o (8 : Int32) dX4_shout_113 (by decide) ?_
  refine mr_iald o 20 10 123 rfl (by decide) rfl dX4_shout_115 (fun x15 => ?_)
  refine hr_icmp_gt o 163 dX4_shout_116 (by decide) (fun _ => ?_) (fun _ => ?_)
  · refine hr_sub [1, 2, 3, 4, 5] rfl ?_
    exact nlX4_shout_163 o k60 hk60 l1 l2 l3 l4 V13
  refine hr_aload_n o 1 dX4_shout_119 rfl ?_
  refine hr_aload_n o 1 dX4_shout_120 rfl ?_
  refine hr_iload o 5 dX4_shout_121 rfl ?_
  refine hr_iconst o (0 : Int32) dX4_shout_123 (by decide) ?_
  refine mr_callI o mvX4_301 dX4_shout_124 [.int l4, .int (0 : Int32)] (fun zr zV ze => mtX4_halfOf l4 (0 : Int32) V13 zr zV ze) rfl rfl (Nat.le_of_ble_eq_true rfl) ⟨by decide, by decide⟩ (fun x17 V16 => ?_)
  refine hr_iload_n o 3 dX4_shout_127 rfl ?_
  refine mr_callI o mvX4_308 dX4_shout_128 [.int x17, .int l2] (fun zr zV ze => mtX4_apart x17 l2 V16 zr zV ze) rfl rfl (Nat.le_of_ble_eq_true rfl) ⟨by decide, by decide⟩ (fun x19 V18 => ?_)
  refine hr_aload_n o 1 dX4_shout_131 rfl ?_
  refine mr_get o flX4_39 dX4_shout_132 (.ref (om + 10)) rfl ?_
  refine hr_iconst o (5 : Int32) dX4_shout_135 (by decide) ?_
  refine mr_iald o 20 10 123 rfl (by decide) rfl dX4_shout_136 (fun x20 => ?_)
  refine hr_icmp_le o 143 dX4_shout_137 (by decide) (fun _ => ?_) (fun _ => ?_)
  · refine hr_aload_n o 1 dX4_shout_143 rfl ?_
    refine mr_get o flX4_39 dX4_shout_144 (.ref (om + 10)) rfl ?_
    refine hr_bipush o (70 : Int32) dX4_shout_147 (by decide) ?_
    refine hr_iconst o (4 : Int32) dX4_shout_149 (by decide) ?_
    refine hr_iload_n o 2 dX4_shout_150 rfl ?_
    refine hr_imul o dX4_shout_151 ?_
    refine hr_iadd o dX4_shout_152 ?_
    refine hr_iconst o (2 : Int32) dX4_shout_153 (by decide) ?_
    refine hr_iadd o dX4_shout_154 ?_
    refine hr_nmI (fun x21 => ?_)
    refine hr_dup2 o dX4_shout_155 rfl rfl ?_
    refine mr_iald o 20 10 123 rfl (by decide) rfl dX4_shout_156 (fun x22 => ?_)
    refine hr_iconst o (1 : Int32) dX4_shout_157 (by decide) ?_
    refine hr_iload o 5 dX4_shout_158 rfl ?_
    refine hr_ishl o dX4_shout_160 ?_
    refine hr_ior o dX4_shout_161 ?_
    refine mr_iast o 20 10 123 rfl (by decide) rfl dX4_shout_162 (fun V23 => ?_)
    refine hr_sub [1, 2, 3, 4, 5] rfl ?_
    exact nlX4_shout_163 o k60 hk60 l1 l2 l3 l4 V23
  refine hr_goto o 163 dX4_shout_140 (by decide) ?_
  refine hr_sub [1, 2, 3, 4, 5] rfl ?_
  exact nlX4_shout_163 o k60 hk60 l1 l2 l3 l4 V18
def lpX4_shout_60  : Nat → Int32 → Int32 → Int32 → Int32 → hf_V → Option (Int32 × hf_V)
  | 0 => fun _ _ _ _ _ => none
  | n + 1 => fun l1 l2 l3 l4 V0 => ndX4_shout_60  (lpX4_shout_60  n) l1 l2 l3 l4 V0
theorem llX4_shout_60 {C : hf_X} {om : Nat} {b : hf_H} (o : hf_In C cX4_shout RX4 6 (some .int) 1 25)   (n : Nat) : ∀ (l1 : Int32) (l2 : Int32) (l3 : Int32) (l4 : Int32) (V0 : hf_V), hf_J C (hf_dMI om b) ((lpX4_shout_60  n) l1 l2 l3 l4 V0) (hf_M om b V0) 60 [(0, .ref om), (1, .int l1), (2, .int l2), (3, .int l3), (4, .int l4)] [] := by
  induction n with
  | zero => exact fun _ _ _ _ _ => hr_none
  | succ n ih => exact fun l1 l2 l3 l4 V0 => nlX4_shout_60 o  (lpX4_shout_60  n)  ih l1 l2 l3 l4 V0
def spX4_shout (l1 : Int32) (l2 : Int32) (V0 : hf_V) : Option (Int32 × hf_V) :=
  hf_b2 (spX4_isBuyer l1 V0) fun x2 V1 =>
  if x2 = 0 then (some ((-1 : Int32), V1)) else
  (spX4_in (Int32.toInt64 l2) (0 : Int64) (99 : Int64)).bind fun x3 =>
  if x3 = 0 then (some ((-1 : Int32), V1)) else
  hf_b2 (spX4_buyerOf l1 (0 : Int32) V1) fun x5 V4 =>
  if x5 = 0 then (some ((-1 : Int32), V4)) else
  (spX4_keepsAct V4).bind fun V6 =>
  hf_b2 (spX4_buyerOf l1 (2 : Int32) V6) fun x8 V7 =>
  hf_let ((70 : Int32) + ((4 : Int32) * l1)) fun x9 =>
  (hf_ld 123 (V7.2.2.2.1 20) x9).bind fun x10 =>
  hf_sd 123 x9 (fun j => hf_ua V7 20 j (x10 - (1 : Int32))) fun V11 =>
  lpX4_shout_60 hf_N l1 l2 x8 (0 : Int32) V11
theorem jtX4_shout {C : hf_X} {om : Nat} {b : hf_H} (o : hf_In C cX4_shout RX4 6 (some .int) 1 25) (l1 : Int32) (l2 : Int32) (V0 : hf_V) : hf_J C (hf_dMI om b) (spX4_shout l1 l2 V0) (hf_M om b V0) 0 [(0, .ref om), (1, .int l1), (2, .int l2)] [] := by
  refine hr_aload_n o 0 dX4_shout_0 rfl ?_
  refine hr_iload_n o 1 dX4_shout_1 rfl ?_
  refine mr_callI o mvX4_343 dX4_shout_2 [.int l1] (fun zr zV ze => mtX4_isBuyer l1 V0 zr zV ze) rfl rfl (Nat.le_of_ble_eq_true rfl) ⟨by decide, by decide⟩ (fun x2 V1 => ?_)
  refine hr_if_eq o 29 dX4_shout_5 (by decide) (fun _ => ?_) (fun _ => ?_)
  · refine hr_iconst o (-1 : Int32) dX4_shout_29 (by decide) ?_
    exact hr_iret o dX4_shout_30 rfl rfl
  refine hr_iload_n o 2 dX4_shout_8 rfl ?_
  refine hr_i2l o dX4_shout_9 ?_
  refine hr_lconst o (0 : Int64) dX4_shout_10 (by decide) ?_
  refine hr_ldc2 o (99 : Int64) q1800 dX4_shout_11 ?_
  refine pr_callI o msX4_109 dX4_shout_14 [.long (Int32.toInt64 l2), .long (0 : Int64), .long (99 : Int64)] (fun zr ze => mtX4_in (Int32.toInt64 l2) (0 : Int64) (99 : Int64) zr ze) rfl rfl (Nat.le_of_ble_eq_true rfl) ⟨by decide, by decide⟩ (fun x3 => ?_)
  refine hr_if_eq o 29 dX4_shout_17 (by decide) (fun _ => ?_) (fun _ => ?_)
  · refine hr_iconst o (-1 : Int32) dX4_shout_29 (by decide) ?_
    exact hr_iret o dX4_shout_30 rfl rfl
  refine hr_aload_n o 0 dX4_shout_20 rfl ?_
  refine hr_iload_n o 1 dX4_shout_21 rfl ?_
  refine hr_iconst o (0 : Int32) dX4_shout_22 (by decide) ?_
  refine mr_callI o mvX4_314 dX4_shout_23 [.int l1, .int (0 : Int32)] (fun zr zV ze => mtX4_buyerOf l1 (0 : Int32) V1 zr zV ze) rfl rfl (Nat.le_of_ble_eq_true rfl) ⟨by decide, by decide⟩ (fun x5 V4 => ?_)
  refine hr_if_ne o 31 dX4_shout_26 (by decide) (fun _ => ?_) (fun _ => ?_)
  · refine hr_iconst o (-1 : Int32) dX4_shout_29 (by decide) ?_
    exact hr_iret o dX4_shout_30 rfl rfl
  refine hr_aload_n o 0 dX4_shout_31 rfl ?_
  refine mr_callV o mvX4_356 dX4_shout_32 [] (fun zV ze => mtX4_keepsAct  V4 zV ze) rfl rfl (Nat.le_of_ble_eq_true rfl) ⟨by decide, by decide⟩ (fun V6 => ?_)
  refine hr_aload_n o 0 dX4_shout_35 rfl ?_
  refine hr_iload_n o 1 dX4_shout_36 rfl ?_
  refine hr_iconst o (2 : Int32) dX4_shout_37 (by decide) ?_
  refine mr_callI o mvX4_314 dX4_shout_38 [.int l1, .int (2 : Int32)] (fun zr zV ze => mtX4_buyerOf l1 (2 : Int32) V6 zr zV ze) rfl rfl (Nat.le_of_ble_eq_true rfl) ⟨by decide, by decide⟩ (fun x8 V7 => ?_)
  refine hr_istore_n o [(3, .int x8), (0, .ref om), (1, .int l1), (2, .int l2)] dX4_shout_41 (by decide) rfl ?_
  refine hr_aload_n o 1 dX4_shout_42 rfl ?_
  refine mr_get o flX4_39 dX4_shout_43 (.ref (om + 10)) rfl ?_
  refine hr_bipush o (70 : Int32) dX4_shout_46 (by decide) ?_
  refine hr_iconst o (4 : Int32) dX4_shout_48 (by decide) ?_
  refine hr_iload_n o 2 dX4_shout_49 rfl ?_
  refine hr_imul o dX4_shout_50 ?_
  refine hr_iadd o dX4_shout_51 ?_
  refine hr_nmI (fun x9 => ?_)
  refine hr_dup2 o dX4_shout_52 rfl rfl ?_
  refine mr_iald o 20 10 123 rfl (by decide) rfl dX4_shout_53 (fun x10 => ?_)
  refine hr_iconst o (1 : Int32) dX4_shout_54 (by decide) ?_
  refine hr_isub o dX4_shout_55 ?_
  refine mr_iast o 20 10 123 rfl (by decide) rfl dX4_shout_56 (fun V11 => ?_)
  refine hr_iconst o (0 : Int32) dX4_shout_57 (by decide) ?_
  refine hr_istore o [(4, .int (0 : Int32)), (3, .int x8), (0, .ref om), (1, .int l1), (2, .int l2)] dX4_shout_58 (by decide) rfl ?_
  refine hr_sub [2, 3, 4, 1, 0] rfl ?_
  exact llX4_shout_60 o hf_N l1 l2 x8 (0 : Int32) V11
theorem mtX4_shout {om : Nat} {b : hf_H} (l1 : Int32) (l2 : Int32) (V0 : hf_V) (r : Int32) (V1 : hf_V) (e : spX4_shout l1 l2 V0 = some (r, V1)) : hf_Con yX4_shout cX4_shout 6 (some .int) 1 25 [.ref om, .int l1, .int l2] (hf_M om b V0) (.returned (some (.int r)), hf_M om b V1) := hf_entry (dec := hf_dMI om b) (by decide) [.ref om, .int l1, .int l2] (Nat.le_of_ble_eq_true rfl) [(0, .ref om), (1, .int l1), (2, .int l2)] rfl e (fun C o _ => jtX4_shout o l1 l2 V0)

/-! areTheirs -/
def spX4_areTheirs (l1 : Int32) (l2 : Int32) (l3 : Int32) (l4 : Int32) (V0 : hf_V) : Option (Int32 × hf_V) :=
  hf_b2 (spX4_isBuyer l1 V0) fun x2 V1 =>
  if x2 = 0 then (some ((0 : Int32), V1)) else
  hf_b2 (spX4_isBuyer l3 V1) fun x4 V3 =>
  if x4 = 0 then (some ((0 : Int32), V3)) else
  if l1 = l3 then (some ((0 : Int32), V3)) else
  hf_b2 (spX4_isHalf l2 V3) fun x6 V5 =>
  if x6 = 0 then (some ((0 : Int32), V5)) else
  hf_b2 (spX4_isHalf l4 V5) fun x8 V7 =>
  if x8 = 0 then (some ((0 : Int32), V7)) else
  hf_b2 (spX4_halfOf l2 (3 : Int32) V7) fun x10 V9 =>
  if x10 = ((100 : Int32) + l1) then (hf_b2 (spX4_halfOf l4 (3 : Int32) V9) fun x12 V11 =>
  if x12 = ((100 : Int32) + l3) then (some ((1 : Int32), V11)) else
  some ((0 : Int32), V11)) else
  some ((0 : Int32), V9)
theorem jtX4_areTheirs {C : hf_X} {om : Nat} {b : hf_H} (o : hf_In C cX4_areTheirs RX4 5 (some .boolean) 1 22) (l1 : Int32) (l2 : Int32) (l3 : Int32) (l4 : Int32) (V0 : hf_V) : hf_J C (hf_dMI om b) (spX4_areTheirs l1 l2 l3 l4 V0) (hf_M om b V0) 0 [(0, .ref om), (1, .int l1), (2, .int l2), (3, .int l3), (4, .int l4)] [] := by
  refine hr_aload_n o 0 dX4_areTheirs_0 rfl ?_
  refine hr_iload_n o 1 dX4_areTheirs_1 rfl ?_
  refine mr_callI o mvX4_343 dX4_areTheirs_2 [.int l1] (fun zr zV ze => mtX4_isBuyer l1 V0 zr zV ze) rfl rfl (Nat.le_of_ble_eq_true rfl) ⟨by decide, by decide⟩ (fun x2 V1 => ?_)
  refine hr_if_eq o 69 dX4_areTheirs_5 (by decide) (fun _ => ?_) (fun _ => ?_)
  · refine hr_iconst o (0 : Int32) dX4_areTheirs_69 (by decide) ?_
    exact hr_iret o dX4_areTheirs_70 rfl (by decide)
  refine hr_aload_n o 0 dX4_areTheirs_8 rfl ?_
  refine hr_iload_n o 3 dX4_areTheirs_9 rfl ?_
  refine mr_callI o mvX4_343 dX4_areTheirs_10 [.int l3] (fun zr zV ze => mtX4_isBuyer l3 V1 zr zV ze) rfl rfl (Nat.le_of_ble_eq_true rfl) ⟨by decide, by decide⟩ (fun x4 V3 => ?_)
  refine hr_if_eq o 69 dX4_areTheirs_13 (by decide) (fun _ => ?_) (fun _ => ?_)
  · refine hr_iconst o (0 : Int32) dX4_areTheirs_69 (by decide) ?_
    exact hr_iret o dX4_areTheirs_70 rfl (by decide)
  refine hr_iload_n o 1 dX4_areTheirs_16 rfl ?_
  refine hr_iload_n o 3 dX4_areTheirs_17 rfl ?_
  refine hr_icmp_eq o 69 dX4_areTheirs_18 (by decide) (fun _ => ?_) (fun _ => ?_)
  · refine hr_iconst o (0 : Int32) dX4_areTheirs_69 (by decide) ?_
    exact hr_iret o dX4_areTheirs_70 rfl (by decide)
  refine hr_aload_n o 0 dX4_areTheirs_21 rfl ?_
  refine hr_iload_n o 2 dX4_areTheirs_22 rfl ?_
  refine mr_callI o mvX4_335 dX4_areTheirs_23 [.int l2] (fun zr zV ze => mtX4_isHalf l2 V3 zr zV ze) rfl rfl (Nat.le_of_ble_eq_true rfl) ⟨by decide, by decide⟩ (fun x6 V5 => ?_)
  refine hr_if_eq o 69 dX4_areTheirs_26 (by decide) (fun _ => ?_) (fun _ => ?_)
  · refine hr_iconst o (0 : Int32) dX4_areTheirs_69 (by decide) ?_
    exact hr_iret o dX4_areTheirs_70 rfl (by decide)
  refine hr_aload_n o 0 dX4_areTheirs_29 rfl ?_
  refine hr_iload o 4 dX4_areTheirs_30 rfl ?_
  refine mr_callI o mvX4_335 dX4_areTheirs_32 [.int l4] (fun zr zV ze => mtX4_isHalf l4 V5 zr zV ze) rfl rfl (Nat.le_of_ble_eq_true rfl) ⟨by decide, by decide⟩ (fun x8 V7 => ?_)
  refine hr_if_eq o 69 dX4_areTheirs_35 (by decide) (fun _ => ?_) (fun _ => ?_)
  · refine hr_iconst o (0 : Int32) dX4_areTheirs_69 (by decide) ?_
    exact hr_iret o dX4_areTheirs_70 rfl (by decide)
  refine hr_aload_n o 0 dX4_areTheirs_38 rfl ?_
  refine hr_iload_n o 2 dX4_areTheirs_39 rfl ?_
  refine hr_iconst o (3 : Int32) dX4_areTheirs_40 (by decide) ?_
  refine mr_callI o mvX4_301 dX4_areTheirs_41 [.int l2, .int (3 : Int32)] (fun zr zV ze => mtX4_halfOf l2 (3 : Int32) V7 zr zV ze) rfl rfl (Nat.le_of_ble_eq_true rfl) ⟨by decide, by decide⟩ (fun x10 V9 => ?_)
  refine hr_bipush o (100 : Int32) dX4_areTheirs_44 (by decide) ?_
  refine hr_iload_n o 1 dX4_areTheirs_46 rfl ?_
  refine hr_iadd o dX4_areTheirs_47 ?_
  refine hr_icmp_ne o 69 dX4_areTheirs_48 (by decide) (fun _ => ?_) (fun _ => ?_)
  · refine hr_aload_n o 0 dX4_areTheirs_51 rfl ?_
    refine hr_iload o 4 dX4_areTheirs_52 rfl ?_
    refine hr_iconst o (3 : Int32) dX4_areTheirs_54 (by decide) ?_
    refine mr_callI o mvX4_301 dX4_areTheirs_55 [.int l4, .int (3 : Int32)] (fun zr zV ze => mtX4_halfOf l4 (3 : Int32) V9 zr zV ze) rfl rfl (Nat.le_of_ble_eq_true rfl) ⟨by decide, by decide⟩ (fun x12 V11 => ?_)
    refine hr_bipush o (100 : Int32) dX4_areTheirs_58 (by decide) ?_
    refine hr_iload_n o 3 dX4_areTheirs_60 rfl ?_
    refine hr_iadd o dX4_areTheirs_61 ?_
    refine hr_icmp_ne o 69 dX4_areTheirs_62 (by decide) (fun _ => ?_) (fun _ => ?_)
    · refine hr_iconst o (1 : Int32) dX4_areTheirs_65 (by decide) ?_
      refine hr_goto o 70 dX4_areTheirs_66 (by decide) ?_
      exact hr_iret o dX4_areTheirs_70 rfl (by decide)
    refine hr_iconst o (0 : Int32) dX4_areTheirs_69 (by decide) ?_
    exact hr_iret o dX4_areTheirs_70 rfl (by decide)
  refine hr_iconst o (0 : Int32) dX4_areTheirs_69 (by decide) ?_
  exact hr_iret o dX4_areTheirs_70 rfl (by decide)
theorem mtX4_areTheirs {om : Nat} {b : hf_H} (l1 : Int32) (l2 : Int32) (l3 : Int32) (l4 : Int32) (V0 : hf_V) (r : Int32) (V1 : hf_V) (e : spX4_areTheirs l1 l2 l3 l4 V0 = some (r, V1)) : hf_Con yX4_areTheirs cX4_areTheirs 5 (some .boolean) 1 22 [.ref om, .int l1, .int l2, .int l3, .int l4] (hf_M om b V0) (.returned (some (.int r)), hf_M om b V1) := hf_entry (dec := hf_dMI om b) (by decide) [.ref om, .int l1, .int l2, .int l3, .int l4] (Nat.le_of_ble_eq_true rfl) [(0, .ref om), (1, .int l1), (2, .int l2), (3, .int l3), (4, .int l4)] rfl e (fun C o _ => jtX4_areTheirs o l1 l2 l3 l4 V0)

/-! swap -/
theorem mvX4_377 : hf_MV RX4 377 RX4 yX4_areTheirs cX4_areTheirs 5 (some .boolean) 4 := ⟨lw_V q1849 q1851 qs123 q162 q1852, by decide +kernel⟩
def spX4_swap (l1 : Int32) (l2 : Int32) (l3 : Int32) (l4 : Int32) (V0 : hf_V) : Option (Int32 × hf_V) :=
  hf_b2 (spX4_areTheirs l1 l2 l3 l4 V0) fun x2 V1 =>
  if x2 = 0 then (some ((0 : Int32), V1)) else
  hf_b2 (spX4_buyerOf l1 (1 : Int32) V1) fun x4 V3 =>
  hf_b2 (spX4_buyerOf l3 (1 : Int32) V3) fun x6 V5 =>
  if x4 = x6 then ((spX4_keepsAct V5).bind fun V7 =>
  hf_sd 123 (((10 : Int32) + ((5 : Int32) * l2)) + (3 : Int32)) (fun j => hf_ua V7 20 j ((100 : Int32) + l3)) fun V8 =>
  hf_sd 123 (((10 : Int32) + ((5 : Int32) * l4)) + (3 : Int32)) (fun j => hf_ua V8 20 j ((100 : Int32) + l1)) fun V9 =>
  hf_let (((70 : Int32) + ((4 : Int32) * l1)) + (2 : Int32)) fun x10 =>
  (hf_ld 123 (V9.2.2.2.1 20) x10).bind fun x11 =>
  hf_sd 123 x10 (fun j => hf_ua V9 20 j (x11 ||| ((1 : Int32) <<< (l4 &&& 31)))) fun V12 =>
  hf_let (((70 : Int32) + ((4 : Int32) * l3)) + (2 : Int32)) fun x13 =>
  (hf_ld 123 (V12.2.2.2.1 20) x13).bind fun x14 =>
  hf_sd 123 x13 (fun j => hf_ua V12 20 j (x14 ||| ((1 : Int32) <<< (l2 &&& 31)))) fun V15 =>
  some ((1 : Int32), V15)) else
  some ((0 : Int32), V5)
theorem jtX4_swap {C : hf_X} {om : Nat} {b : hf_H} (o : hf_In C cX4_swap RX4 5 (some .boolean) 2 46) (l1 : Int32) (l2 : Int32) (l3 : Int32) (l4 : Int32) (V0 : hf_V) : hf_J C (hf_dMI om b) (spX4_swap l1 l2 l3 l4 V0) (hf_M om b V0) 0 [(0, .ref om), (1, .int l1), (2, .int l2), (3, .int l3), (4, .int l4)] [] := by
  refine hr_aload_n o 0 dX4_swap_0 rfl ?_
  refine hr_iload_n o 1 dX4_swap_1 rfl ?_
  refine hr_iload_n o 2 dX4_swap_2 rfl ?_
  refine hr_iload_n o 3 dX4_swap_3 rfl ?_
  refine hr_iload o 4 dX4_swap_4 rfl ?_
  refine mr_callI o mvX4_377 dX4_swap_6 [.int l1, .int l2, .int l3, .int l4] (fun zr zV ze => mtX4_areTheirs l1 l2 l3 l4 V0 zr zV ze) rfl rfl (Nat.le_of_ble_eq_true rfl) ⟨by decide, by decide⟩ (fun x2 V1 => ?_)
  refine hr_if_eq o 27 dX4_swap_9 (by decide) (fun _ => ?_) (fun _ => ?_)
  · refine hr_iconst o (0 : Int32) dX4_swap_27 (by decide) ?_
    exact hr_iret o dX4_swap_28 rfl (by decide)
  refine hr_aload_n o 0 dX4_swap_12 rfl ?_
  refine hr_iload_n o 1 dX4_swap_13 rfl ?_
  refine hr_iconst o (1 : Int32) dX4_swap_14 (by decide) ?_
  refine mr_callI o mvX4_314 dX4_swap_15 [.int l1, .int (1 : Int32)] (fun zr zV ze => mtX4_buyerOf l1 (1 : Int32) V1 zr zV ze) rfl rfl (Nat.le_of_ble_eq_true rfl) ⟨by decide, by decide⟩ (fun x4 V3 => ?_)
  refine hr_aload_n o 0 dX4_swap_18 rfl ?_
  refine hr_iload_n o 3 dX4_swap_19 rfl ?_
  refine hr_iconst o (1 : Int32) dX4_swap_20 (by decide) ?_
  refine mr_callI o mvX4_314 dX4_swap_21 [.int l3, .int (1 : Int32)] (fun zr zV ze => mtX4_buyerOf l3 (1 : Int32) V3 zr zV ze) rfl rfl (Nat.le_of_ble_eq_true rfl) ⟨by decide, by decide⟩ (fun x6 V5 => ?_)
  refine hr_icmp_eq o 29 dX4_swap_24 (by decide) (fun _ => ?_) (fun _ => ?_)
  · refine hr_aload_n o 0 dX4_swap_29 rfl ?_
    refine mr_callV o mvX4_356 dX4_swap_30 [] (fun zV ze => mtX4_keepsAct  V5 zV ze) rfl rfl (Nat.le_of_ble_eq_true rfl) ⟨by decide, by decide⟩ (fun V7 => ?_)
    refine hr_aload_n o 0 dX4_swap_33 rfl ?_
    refine mr_get o flX4_39 dX4_swap_34 (.ref (om + 10)) rfl ?_
    refine hr_bipush o (10 : Int32) dX4_swap_37 (by decide) ?_
    refine hr_iconst o (5 : Int32) dX4_swap_39 (by decide) ?_
    refine hr_iload_n o 2 dX4_swap_40 rfl ?_
    refine hr_imul o dX4_swap_41 ?_
    refine hr_iadd o dX4_swap_42 ?_
    refine hr_iconst o (3 : Int32) dX4_swap_43 (by decide) ?_
    refine hr_iadd o dX4_swap_44 ?_
    refine hr_bipush o (100 : Int32) dX4_swap_45 (by decide) ?_
    refine hr_iload_n o 3 dX4_swap_47 rfl ?_
    refine hr_iadd o dX4_swap_48 ?_
    refine mr_iast o 20 10 123 rfl (by decide) rfl dX4_swap_49 (fun V8 => ?_)
    refine hr_aload_n o 0 dX4_swap_50 rfl ?_
    refine mr_get o flX4_39 dX4_swap_51 (.ref (om + 10)) rfl ?_
    refine hr_bipush o (10 : Int32) dX4_swap_54 (by decide) ?_
    refine hr_iconst o (5 : Int32) dX4_swap_56 (by decide) ?_
    refine hr_iload o 4 dX4_swap_57 rfl ?_
    refine hr_imul o dX4_swap_59 ?_
    refine hr_iadd o dX4_swap_60 ?_
    refine hr_iconst o (3 : Int32) dX4_swap_61 (by decide) ?_
    refine hr_iadd o dX4_swap_62 ?_
    refine hr_bipush o (100 : Int32) dX4_swap_63 (by decide) ?_
    refine hr_iload_n o 1 dX4_swap_65 rfl ?_
    refine hr_iadd o dX4_swap_66 ?_
    refine mr_iast o 20 10 123 rfl (by decide) rfl dX4_swap_67 (fun V9 => ?_)
    refine hr_aload_n o 0 dX4_swap_68 rfl ?_
    refine mr_get o flX4_39 dX4_swap_69 (.ref (om + 10)) rfl ?_
    refine hr_bipush o (70 : Int32) dX4_swap_72 (by decide) ?_
    refine hr_iconst o (4 : Int32) dX4_swap_74 (by decide) ?_
    refine hr_iload_n o 1 dX4_swap_75 rfl ?_
    refine hr_imul o dX4_swap_76 ?_
    refine hr_iadd o dX4_swap_77 ?_
    refine hr_iconst o (2 : Int32) dX4_swap_78 (by decide) ?_
    refine hr_iadd o dX4_swap_79 ?_
    refine hr_nmI (fun x10 => ?_)
    refine hr_dup2 o dX4_swap_80 rfl rfl ?_
    refine mr_iald o 20 10 123 rfl (by decide) rfl dX4_swap_81 (fun x11 => ?_)
    refine hr_iconst o (1 : Int32) dX4_swap_82 (by decide) ?_
    refine hr_iload o 4 dX4_swap_83 rfl ?_
    refine hr_ishl o dX4_swap_85 ?_
    refine hr_ior o dX4_swap_86 ?_
    refine mr_iast o 20 10 123 rfl (by decide) rfl dX4_swap_87 (fun V12 => ?_)
    refine hr_aload_n o 0 dX4_swap_88 rfl ?_
    refine mr_get o flX4_39 dX4_swap_89 (.ref (om + 10)) rfl ?_
    refine hr_bipush o (70 : Int32) dX4_swap_92 (by decide) ?_
    refine hr_iconst o (4 : Int32) dX4_swap_94 (by decide) ?_
    refine hr_iload_n o 3 dX4_swap_95 rfl ?_
    refine hr_imul o dX4_swap_96 ?_
    refine hr_iadd o dX4_swap_97 ?_
    refine hr_iconst o (2 : Int32) dX4_swap_98 (by decide) ?_
    refine hr_iadd o dX4_swap_99 ?_
    refine hr_nmI (fun x13 => ?_)
    refine hr_dup2 o dX4_swap_100 rfl rfl ?_
    refine mr_iald o 20 10 123 rfl (by decide) rfl dX4_swap_101 (fun x14 => ?_)
    refine hr_iconst o (1 : Int32) dX4_swap_102 (by decide) ?_
    refine hr_iload_n o 2 dX4_swap_103 rfl ?_
    refine hr_ishl o dX4_swap_104 ?_
    refine hr_ior o dX4_swap_105 ?_
    refine mr_iast o 20 10 123 rfl (by decide) rfl dX4_swap_106 (fun V15 => ?_)
    refine hr_iconst o (1 : Int32) dX4_swap_107 (by decide) ?_
    exact hr_iret o dX4_swap_108 rfl (by decide)
  refine hr_iconst o (0 : Int32) dX4_swap_27 (by decide) ?_
  exact hr_iret o dX4_swap_28 rfl (by decide)
theorem mtX4_swap {om : Nat} {b : hf_H} (l1 : Int32) (l2 : Int32) (l3 : Int32) (l4 : Int32) (V0 : hf_V) (r : Int32) (V1 : hf_V) (e : spX4_swap l1 l2 l3 l4 V0 = some (r, V1)) : hf_Con yX4_swap cX4_swap 5 (some .boolean) 2 46 [.ref om, .int l1, .int l2, .int l3, .int l4] (hf_M om b V0) (.returned (some (.int r)), hf_M om b V1) := hf_entry (dec := hf_dMI om b) (by decide) [.ref om, .int l1, .int l2, .int l3, .int l4] (Nat.le_of_ble_eq_true rfl) [(0, .ref om), (1, .int l1), (2, .int l2), (3, .int l3), (4, .int l4)] rfl e (fun C o _ => jtX4_swap o l1 l2 l3 l4 V0)

/-! giveUp -/
def spX4_giveUp (l1 : Int32) (l2 : Int32) (V0 : hf_V) : Option (Int32 × hf_V) :=
  hf_b2 (spX4_isBuyer l1 V0) fun x2 V1 =>
  if x2 = 0 then (some ((-1 : Int32), V1)) else
  hf_b2 (spX4_isHalf l2 V1) fun x4 V3 =>
  if x4 = 0 then (some ((-1 : Int32), V3)) else
  hf_b2 (spX4_halfOf l2 (3 : Int32) V3) fun x6 V5 =>
  if x6 = ((100 : Int32) + l1) then ((spX4_keepsAct V5).bind fun V7 =>
  hf_b2 (spX4_buyerOf l1 (1 : Int32) V7) fun x9 V8 =>
  (hf_ld 123 (V8.2.2.2.1 20) (3 : Int32)).bind fun x10 =>
  hf_b2 (spX4_stallAt x9 x10 V8) fun x12 V11 =>
  hf_sd 123 (((10 : Int32) + ((5 : Int32) * l2)) + (3 : Int32)) (fun j => hf_ua V11 20 j x12) fun V13 =>
  hf_let ((70 : Int32) + ((4 : Int32) * l1)) fun x14 =>
  (hf_ld 123 (V13.2.2.2.1 20) x14).bind fun x15 =>
  hf_b2 (spX4_priceOf l2 V13) fun x17 V16 =>
  if (2 : Int32) = 0 then none else
  hf_sd 123 x14 (fun j => hf_ua V16 20 j (x15 + (x17 / (2 : Int32)))) fun V18 =>
  hf_b2 (spX4_buyerOf l1 (0 : Int32) V18) fun x20 V19 =>
  some (x20, V19)) else
  some ((-1 : Int32), V5)
theorem jtX4_giveUp {C : hf_X} {om : Nat} {b : hf_H} (o : hf_In C cX4_giveUp RX4 3 (some .int) 2 45) (l1 : Int32) (l2 : Int32) (V0 : hf_V) : hf_J C (hf_dMI om b) (spX4_giveUp l1 l2 V0) (hf_M om b V0) 0 [(0, .ref om), (1, .int l1), (2, .int l2)] [] := by
  refine hr_aload_n o 0 dX4_giveUp_0 rfl ?_
  refine hr_iload_n o 1 dX4_giveUp_1 rfl ?_
  refine mr_callI o mvX4_343 dX4_giveUp_2 [.int l1] (fun zr zV ze => mtX4_isBuyer l1 V0 zr zV ze) rfl rfl (Nat.le_of_ble_eq_true rfl) ⟨by decide, by decide⟩ (fun x2 V1 => ?_)
  refine hr_if_eq o 29 dX4_giveUp_5 (by decide) (fun _ => ?_) (fun _ => ?_)
  · refine hr_iconst o (-1 : Int32) dX4_giveUp_29 (by decide) ?_
    exact hr_iret o dX4_giveUp_30 rfl rfl
  refine hr_aload_n o 0 dX4_giveUp_8 rfl ?_
  refine hr_iload_n o 2 dX4_giveUp_9 rfl ?_
  refine mr_callI o mvX4_335 dX4_giveUp_10 [.int l2] (fun zr zV ze => mtX4_isHalf l2 V1 zr zV ze) rfl rfl (Nat.le_of_ble_eq_true rfl) ⟨by decide, by decide⟩ (fun x4 V3 => ?_)
  refine hr_if_eq o 29 dX4_giveUp_13 (by decide) (fun _ => ?_) (fun _ => ?_)
  · refine hr_iconst o (-1 : Int32) dX4_giveUp_29 (by decide) ?_
    exact hr_iret o dX4_giveUp_30 rfl rfl
  refine hr_aload_n o 0 dX4_giveUp_16 rfl ?_
  refine hr_iload_n o 2 dX4_giveUp_17 rfl ?_
  refine hr_iconst o (3 : Int32) dX4_giveUp_18 (by decide) ?_
  refine mr_callI o mvX4_301 dX4_giveUp_19 [.int l2, .int (3 : Int32)] (fun zr zV ze => mtX4_halfOf l2 (3 : Int32) V3 zr zV ze) rfl rfl (Nat.le_of_ble_eq_true rfl) ⟨by decide, by decide⟩ (fun x6 V5 => ?_)
  refine hr_bipush o (100 : Int32) dX4_giveUp_22 (by decide) ?_
  refine hr_iload_n o 1 dX4_giveUp_24 rfl ?_
  refine hr_iadd o dX4_giveUp_25 ?_
  refine hr_icmp_eq o 31 dX4_giveUp_26 (by decide) (fun _ => ?_) (fun _ => ?_)
  · refine hr_aload_n o 0 dX4_giveUp_31 rfl ?_
    refine mr_callV o mvX4_356 dX4_giveUp_32 [] (fun zV ze => mtX4_keepsAct  V5 zV ze) rfl rfl (Nat.le_of_ble_eq_true rfl) ⟨by decide, by decide⟩ (fun V7 => ?_)
    refine hr_aload_n o 0 dX4_giveUp_35 rfl ?_
    refine mr_get o flX4_39 dX4_giveUp_36 (.ref (om + 10)) rfl ?_
    refine hr_bipush o (10 : Int32) dX4_giveUp_39 (by decide) ?_
    refine hr_iconst o (5 : Int32) dX4_giveUp_41 (by decide) ?_
    refine hr_iload_n o 2 dX4_giveUp_42 rfl ?_
    refine hr_imul o dX4_giveUp_43 ?_
    refine hr_iadd o dX4_giveUp_44 ?_
    refine hr_iconst o (3 : Int32) dX4_giveUp_45 (by decide) ?_
    refine hr_iadd o dX4_giveUp_46 ?_
    refine hr_aload_n o 0 dX4_giveUp_47 rfl ?_
    refine hr_aload_n o 0 dX4_giveUp_48 rfl ?_
    refine hr_iload_n o 1 dX4_giveUp_49 rfl ?_
    refine hr_iconst o (1 : Int32) dX4_giveUp_50 (by decide) ?_
    refine mr_callI o mvX4_314 dX4_giveUp_51 [.int l1, .int (1 : Int32)] (fun zr zV ze => mtX4_buyerOf l1 (1 : Int32) V7 zr zV ze) rfl rfl (Nat.le_of_ble_eq_true rfl) ⟨by decide, by decide⟩ (fun x9 V8 => ?_)
    refine hr_aload_n o 0 dX4_giveUp_54 rfl ?_
    refine mr_get o flX4_39 dX4_giveUp_55 (.ref (om + 10)) rfl ?_
    refine hr_iconst o (3 : Int32) dX4_giveUp_58 (by decide) ?_
    refine mr_iald o 20 10 123 rfl (by decide) rfl dX4_giveUp_59 (fun x10 => ?_)
    refine mr_callI o mvX4_317 dX4_giveUp_60 [.int x9, .int x10] (fun zr zV ze => mtX4_stallAt x9 x10 V8 zr zV ze) rfl rfl (Nat.le_of_ble_eq_true rfl) ⟨by decide, by decide⟩ (fun x12 V11 => ?_)
    refine mr_iast o 20 10 123 rfl (by decide) rfl dX4_giveUp_63 (fun V13 => ?_)
    refine hr_aload_n o 0 dX4_giveUp_64 rfl ?_
    refine mr_get o flX4_39 dX4_giveUp_65 (.ref (om + 10)) rfl ?_
    refine hr_bipush o (70 : Int32) dX4_giveUp_68 (by decide) ?_
    refine hr_iconst o (4 : Int32) dX4_giveUp_70 (by decide) ?_
    refine hr_iload_n o 1 dX4_giveUp_71 rfl ?_
    refine hr_imul o dX4_giveUp_72 ?_
    refine hr_iadd o dX4_giveUp_73 ?_
    refine hr_nmI (fun x14 => ?_)
    refine hr_dup2 o dX4_giveUp_74 rfl rfl ?_
    refine mr_iald o 20 10 123 rfl (by decide) rfl dX4_giveUp_75 (fun x15 => ?_)
    refine hr_aload_n o 0 dX4_giveUp_76 rfl ?_
    refine hr_iload_n o 2 dX4_giveUp_77 rfl ?_
    refine mr_callI o mvX4_340 dX4_giveUp_78 [.int l2] (fun zr zV ze => mtX4_priceOf l2 V13 zr zV ze) rfl rfl (Nat.le_of_ble_eq_true rfl) ⟨by decide, by decide⟩ (fun x17 V16 => ?_)
    refine hr_iconst o (2 : Int32) dX4_giveUp_81 (by decide) ?_
    refine hr_idiv o dX4_giveUp_82 (fun _ => ?_)
    refine hr_iadd o dX4_giveUp_83 ?_
    refine mr_iast o 20 10 123 rfl (by decide) rfl dX4_giveUp_84 (fun V18 => ?_)
    refine hr_aload_n o 0 dX4_giveUp_85 rfl ?_
    refine hr_iload_n o 1 dX4_giveUp_86 rfl ?_
    refine hr_iconst o (0 : Int32) dX4_giveUp_87 (by decide) ?_
    refine mr_callI o mvX4_314 dX4_giveUp_88 [.int l1, .int (0 : Int32)] (fun zr zV ze => mtX4_buyerOf l1 (0 : Int32) V18 zr zV ze) rfl rfl (Nat.le_of_ble_eq_true rfl) ⟨by decide, by decide⟩ (fun x20 V19 => ?_)
    exact hr_iret o dX4_giveUp_91 rfl rfl
  refine hr_iconst o (-1 : Int32) dX4_giveUp_29 (by decide) ?_
  exact hr_iret o dX4_giveUp_30 rfl rfl
theorem mtX4_giveUp {om : Nat} {b : hf_H} (l1 : Int32) (l2 : Int32) (V0 : hf_V) (r : Int32) (V1 : hf_V) (e : spX4_giveUp l1 l2 V0 = some (r, V1)) : hf_Con yX4_giveUp cX4_giveUp 3 (some .int) 2 45 [.ref om, .int l1, .int l2] (hf_M om b V0) (.returned (some (.int r)), hf_M om b V1) := hf_entry (dec := hf_dMI om b) (by decide) [.ref om, .int l1, .int l2] (Nat.le_of_ble_eq_true rfl) [(0, .ref om), (1, .int l1), (2, .int l2)] rfl e (fun C o _ => jtX4_giveUp o l1 l2 V0)

/-! isRule -/
def spX4_isRule (l1 : Int32) (V0 : hf_V) : Option (Int32 × hf_V) :=
  if l1 < 0 then (some ((0 : Int32), V0)) else
  if (V0.1 2) ≤ l1 then (some ((0 : Int32), V0)) else
  some ((1 : Int32), V0)
theorem jtX4_isRule {C : hf_X} {om : Nat} {b : hf_H} (o : hf_In C cX4_isRule RX4 2 (some .boolean) 0 0) (l1 : Int32) (V0 : hf_V) : hf_J C (hf_dMI om b) (spX4_isRule l1 V0) (hf_M om b V0) 0 [(0, .ref om), (1, .int l1)] [] := by
  refine hr_iload_n o 1 dX4_isRule_0 rfl ?_
  refine hr_if_lt o 16 dX4_isRule_1 (by decide) (fun _ => ?_) (fun _ => ?_)
  · refine hr_iconst o (0 : Int32) dX4_isRule_16 (by decide) ?_
    exact hr_iret o dX4_isRule_17 rfl (by decide)
  refine hr_iload_n o 1 dX4_isRule_4 rfl ?_
  refine hr_aload_n o 0 dX4_isRule_5 rfl ?_
  refine mr_get o flX4_268 dX4_isRule_6 (.int (V0.1 2)) rfl ?_
  refine hr_icmp_ge o 16 dX4_isRule_9 (by decide) (fun _ => ?_) (fun _ => ?_)
  · refine hr_iconst o (0 : Int32) dX4_isRule_16 (by decide) ?_
    exact hr_iret o dX4_isRule_17 rfl (by decide)
  refine hr_iconst o (1 : Int32) dX4_isRule_12 (by decide) ?_
  refine hr_goto o 17 dX4_isRule_13 (by decide) ?_
  exact hr_iret o dX4_isRule_17 rfl (by decide)
theorem mtX4_isRule {om : Nat} {b : hf_H} (l1 : Int32) (V0 : hf_V) (r : Int32) (V1 : hf_V) (e : spX4_isRule l1 V0 = some (r, V1)) : hf_Con yX4_isRule cX4_isRule 2 (some .boolean) 0 0 [.ref om, .int l1] (hf_M om b V0) (.returned (some (.int r)), hf_M om b V1) := hf_entry (dec := hf_dMI om b) (by decide) [.ref om, .int l1] (Nat.le_of_ble_eq_true rfl) [(0, .ref om), (1, .int l1)] rfl e (fun C o _ => jtX4_isRule o l1 V0)

/-! one -/
def ndX4_one_172  (l1 : Int64) (l3 : Int64) : Option Int64 :=
  some (l1 ||| l3)
theorem nlX4_one_172 {C : hf_X} {h : hf_H} (o : hf_In C cX4_one RX4 5 (some .long) 0 0)   (l1 : Int64) (l3 : Int64) : hf_J C (hf_dPL h) (ndX4_one_172 l1 l3) h 172 [(1, .long l1), (3, .long l3)] [] := by
  refine hr_lload_n o 0 dX4_one_172 rfl ?_
  refine hr_lload_n o 1 dX4_one_173 rfl ?_
  refine hr_lor o dX4_one_174 ?_
  exact hr_lret o dX4_one_175 rfl
def spX4_one (l0 : Int32) (l1 : Int64) (l3 : Int64) : Option Int64 :=
  if l0 = (2 : Int32) then (some (l1 + l3)) else
  if l0 = (3 : Int32) then (some (l1 - l3)) else
  if l0 = (4 : Int32) then (some (l1 * l3)) else
  if l0 = (5 : Int32) then (if (lg_cmp l3 (0 : Int64)) = 0 then (some (0 : Int64)) else
  if l3 = 0 then none else
  some (l1 / l3)) else
  if l0 = (6 : Int32) then (if 0 ≤ (lg_cmp l1 l3) then (some (0 : Int64)) else
  some (1 : Int64)) else
  if l0 = (7 : Int32) then (if 0 < (lg_cmp l1 l3) then (some (0 : Int64)) else
  some (1 : Int64)) else
  if l0 = (8 : Int32) then (if (lg_cmp l1 l3) = 0 then (some (1 : Int64)) else
  some (0 : Int64)) else
  if l0 = (9 : Int32) then (if (lg_cmp l1 l3) < 0 then (some (0 : Int64)) else
  some (1 : Int64)) else
  if l0 = (10 : Int32) then (if (lg_cmp l1 l3) ≤ 0 then (some (0 : Int64)) else
  some (1 : Int64)) else
  if l0 = (11 : Int32) then (ndX4_one_172 l1 l3) else
  if l0 = (12 : Int32) then (some (l1 &&& l3)) else
  if l0 = (13 : Int32) then (ndX4_one_172 l1 l3) else
  if l0 = (14 : Int32) then (if (lg_cmp l3 (0 : Int64)) = 0 then (some (0 : Int64)) else
  if l3 = 0 then none else
  some (l1 - l1 / l3 * l3)) else
  ndX4_one_172 l1 l3
theorem jtX4_one {C : hf_X} {h : hf_H} (o : hf_In C cX4_one RX4 5 (some .long) 0 0) (l0 : Int32) (l1 : Int64) (l3 : Int64) : hf_J C (hf_dPL h) (spX4_one l0 l1 l3) h 0 [(0, .int l0), (1, .long l1), (3, .long l3)] [] := by
  refine hr_iload_n o 0 dX4_one_0 rfl ?_
  refine hr_tsw o (2 : Int32) 68 dX4_one_1 (by decide) (by decide) rfl (by decide) (fun c_1_2 => ?_) (fun c_1_2 => ?_)
  · refine hr_lload_n o 1 dX4_one_68 rfl ?_
    refine hr_lload_n o 2 dX4_one_69 rfl ?_
    refine hr_ladd o dX4_one_70 ?_
    exact hr_lret o dX4_one_71 rfl
  refine hr_tsw o (3 : Int32) 72 dX4_one_1 (by decide) (by decide) rfl (by decide) (fun c_1_3 => ?_) (fun c_1_3 => ?_)
  · refine hr_lload_n o 1 dX4_one_72 rfl ?_
    refine hr_lload_n o 2 dX4_one_73 rfl ?_
    refine hr_lsub o dX4_one_74 ?_
    exact hr_lret o dX4_one_75 rfl
  refine hr_tsw o (4 : Int32) 76 dX4_one_1 (by decide) (by decide) rfl (by decide) (fun c_1_4 => ?_) (fun c_1_4 => ?_)
  · refine hr_lload_n o 1 dX4_one_76 rfl ?_
    refine hr_lload_n o 2 dX4_one_77 rfl ?_
    refine hr_lmul o dX4_one_78 ?_
    exact hr_lret o dX4_one_79 rfl
  refine hr_tsw o (5 : Int32) 80 dX4_one_1 (by decide) (by decide) rfl (by decide) (fun c_1_5 => ?_) (fun c_1_5 => ?_)
  · refine hr_lload_n o 2 dX4_one_80 rfl ?_
    refine hr_lconst o (0 : Int64) dX4_one_81 (by decide) ?_
    refine hr_lcmp o dX4_one_82 ?_
    refine hr_if_ne o 90 dX4_one_83 (by decide) (fun _ => ?_) (fun _ => ?_)
    · refine hr_lconst o (0 : Int64) dX4_one_86 (by decide) ?_
      refine hr_goto o 93 dX4_one_87 (by decide) ?_
      exact hr_lret o dX4_one_93 rfl
    refine hr_lload_n o 1 dX4_one_90 rfl ?_
    refine hr_lload_n o 2 dX4_one_91 rfl ?_
    refine hr_ldiv o dX4_one_92 (fun _ => ?_)
    exact hr_lret o dX4_one_93 rfl
  refine hr_tsw o (6 : Int32) 108 dX4_one_1 (by decide) (by decide) rfl (by decide) (fun c_1_6 => ?_) (fun c_1_6 => ?_)
  · refine hr_lload_n o 1 dX4_one_108 rfl ?_
    refine hr_lload_n o 2 dX4_one_109 rfl ?_
    refine hr_lcmp o dX4_one_110 ?_
    refine hr_if_ge o 118 dX4_one_111 (by decide) (fun _ => ?_) (fun _ => ?_)
    · refine hr_lconst o (0 : Int64) dX4_one_118 (by decide) ?_
      exact hr_lret o dX4_one_119 rfl
    refine hr_lconst o (1 : Int64) dX4_one_114 (by decide) ?_
    refine hr_goto o 119 dX4_one_115 (by decide) ?_
    exact hr_lret o dX4_one_119 rfl
  refine hr_tsw o (7 : Int32) 120 dX4_one_1 (by decide) (by decide) rfl (by decide) (fun c_1_7 => ?_) (fun c_1_7 => ?_)
  · refine hr_lload_n o 1 dX4_one_120 rfl ?_
    refine hr_lload_n o 2 dX4_one_121 rfl ?_
    refine hr_lcmp o dX4_one_122 ?_
    refine hr_if_gt o 130 dX4_one_123 (by decide) (fun _ => ?_) (fun _ => ?_)
    · refine hr_lconst o (0 : Int64) dX4_one_130 (by decide) ?_
      exact hr_lret o dX4_one_131 rfl
    refine hr_lconst o (1 : Int64) dX4_one_126 (by decide) ?_
    refine hr_goto o 131 dX4_one_127 (by decide) ?_
    exact hr_lret o dX4_one_131 rfl
  refine hr_tsw o (8 : Int32) 132 dX4_one_1 (by decide) (by decide) rfl (by decide) (fun c_1_8 => ?_) (fun c_1_8 => ?_)
  · refine hr_lload_n o 1 dX4_one_132 rfl ?_
    refine hr_lload_n o 2 dX4_one_133 rfl ?_
    refine hr_lcmp o dX4_one_134 ?_
    refine hr_if_ne o 142 dX4_one_135 (by decide) (fun _ => ?_) (fun _ => ?_)
    · refine hr_lconst o (1 : Int64) dX4_one_138 (by decide) ?_
      refine hr_goto o 143 dX4_one_139 (by decide) ?_
      exact hr_lret o dX4_one_143 rfl
    refine hr_lconst o (0 : Int64) dX4_one_142 (by decide) ?_
    exact hr_lret o dX4_one_143 rfl
  refine hr_tsw o (9 : Int32) 144 dX4_one_1 (by decide) (by decide) rfl (by decide) (fun c_1_9 => ?_) (fun c_1_9 => ?_)
  · refine hr_lload_n o 1 dX4_one_144 rfl ?_
    refine hr_lload_n o 2 dX4_one_145 rfl ?_
    refine hr_lcmp o dX4_one_146 ?_
    refine hr_if_lt o 154 dX4_one_147 (by decide) (fun _ => ?_) (fun _ => ?_)
    · refine hr_lconst o (0 : Int64) dX4_one_154 (by decide) ?_
      exact hr_lret o dX4_one_155 rfl
    refine hr_lconst o (1 : Int64) dX4_one_150 (by decide) ?_
    refine hr_goto o 155 dX4_one_151 (by decide) ?_
    exact hr_lret o dX4_one_155 rfl
  refine hr_tsw o (10 : Int32) 156 dX4_one_1 (by decide) (by decide) rfl (by decide) (fun c_1_10 => ?_) (fun c_1_10 => ?_)
  · refine hr_lload_n o 1 dX4_one_156 rfl ?_
    refine hr_lload_n o 2 dX4_one_157 rfl ?_
    refine hr_lcmp o dX4_one_158 ?_
    refine hr_if_le o 166 dX4_one_159 (by decide) (fun _ => ?_) (fun _ => ?_)
    · refine hr_lconst o (0 : Int64) dX4_one_166 (by decide) ?_
      exact hr_lret o dX4_one_167 rfl
    refine hr_lconst o (1 : Int64) dX4_one_162 (by decide) ?_
    refine hr_goto o 167 dX4_one_163 (by decide) ?_
    exact hr_lret o dX4_one_167 rfl
  refine hr_tsw o (11 : Int32) 172 dX4_one_1 (by decide) (by decide) rfl (by decide) (fun c_1_11 => ?_) (fun c_1_11 => ?_)
  · refine hr_sub [1, 2] rfl ?_
    exact nlX4_one_172 o l1 l3
  refine hr_tsw o (12 : Int32) 168 dX4_one_1 (by decide) (by decide) rfl (by decide) (fun c_1_12 => ?_) (fun c_1_12 => ?_)
  · refine hr_lload_n o 1 dX4_one_168 rfl ?_
    refine hr_lload_n o 2 dX4_one_169 rfl ?_
    refine hr_land o dX4_one_170 ?_
    exact hr_lret o dX4_one_171 rfl
  refine hr_tsw o (13 : Int32) 172 dX4_one_1 (by decide) (by decide) rfl (by decide) (fun c_1_13 => ?_) (fun c_1_13 => ?_)
  · refine hr_sub [1, 2] rfl ?_
    exact nlX4_one_172 o l1 l3
  refine hr_tsw o (14 : Int32) 94 dX4_one_1 (by decide) (by decide) rfl (by decide) (fun c_1_14 => ?_) (fun c_1_14 => ?_)
  · refine hr_lload_n o 2 dX4_one_94 rfl ?_
    refine hr_lconst o (0 : Int64) dX4_one_95 (by decide) ?_
    refine hr_lcmp o dX4_one_96 ?_
    refine hr_if_ne o 104 dX4_one_97 (by decide) (fun _ => ?_) (fun _ => ?_)
    · refine hr_lconst o (0 : Int64) dX4_one_100 (by decide) ?_
      refine hr_goto o 107 dX4_one_101 (by decide) ?_
      exact hr_lret o dX4_one_107 rfl
    refine hr_lload_n o 1 dX4_one_104 rfl ?_
    refine hr_lload_n o 2 dX4_one_105 rfl ?_
    refine hr_lrem o dX4_one_106 (fun _ => ?_)
    exact hr_lret o dX4_one_107 rfl
  refine hr_tswD o 172 dX4_one_1 (by have n0 := hf_nei (2) (by decide) c_1_2; have n1 := hf_nei (3) (by decide) c_1_3; have n2 := hf_nei (4) (by decide) c_1_4; have n3 := hf_nei (5) (by decide) c_1_5; have n4 := hf_nei (6) (by decide) c_1_6; have n5 := hf_nei (7) (by decide) c_1_7; have n6 := hf_nei (8) (by decide) c_1_8; have n7 := hf_nei (9) (by decide) c_1_9; have n8 := hf_nei (10) (by decide) c_1_10; have n9 := hf_nei (11) (by decide) c_1_11; have n10 := hf_nei (12) (by decide) c_1_12; have n11 := hf_nei (13) (by decide) c_1_13; have n12 := hf_nei (14) (by decide) c_1_14; omega) (by decide) ?_
  refine hr_sub [1, 2] rfl ?_
  exact nlX4_one_172 o l1 l3
theorem mtX4_one {h : hf_H} (l0 : Int32) (l1 : Int64) (l3 : Int64) (r : Int64) (e : spX4_one l0 l1 l3 = some r) : hf_Con yX4_one cX4_one 5 (some .long) 0 0 [.int l0, .long l1, .long l3] h (.returned (some (.long r)), h) := hf_entry (dec := hf_dPL h) (by decide) [.int l0, .long l1, .long l3] (Nat.le_of_ble_eq_true rfl) [(0, .int l0), (1, .long l1), (3, .long l3)] rfl e (fun C o _ => jtX4_one o l0 l1 l3)

/-! pop -/
theorem flX4_283 : hf_Fl RX4 283 4 18 := ⟨(RX4, TX4, 37), RX4, rfl, by decide, in_X4, tyX4_ok, nmX4, Or.inl q1418, Or.inl rfl⟩
theorem nf_4_18 : hf_Nf 4 18 := ⟨(RX4, TX4, 37), rfl, rfl⟩
theorem flX4_32 : hf_Fl RX4 32 4 17 := ⟨(RX4, TX4, 37), RX4, rfl, by decide, in_X4, tyX4_ok, nmX4, Or.inl q1417, Or.inl rfl⟩
def spX4_pop  (V0 : hf_V) : Option (Int64 × hf_V) :=
  hf_let (hf_ui V0 18 ((V0.1 18) - (1 : Int32))) fun V1 =>
  (hf_ld 64 (V1.2.2.2.2.1 17) (V1.1 18)).bind fun x2 =>
  some (x2, V1)
theorem jtX4_pop {C : hf_X} {om : Nat} {b : hf_H} (o : hf_In C cX4_pop RX4 1 (some .long) 0 0)  (V0 : hf_V) : hf_J C (hf_dML om b) (spX4_pop V0) (hf_M om b V0) 0 [(0, .ref om)] [] := by
  refine hr_aload_n o 0 dX4_pop_0 rfl ?_
  refine hr_dup o dX4_pop_1 rfl ?_
  refine mr_get o flX4_283 dX4_pop_2 (.int (V0.1 18)) rfl ?_
  refine hr_iconst o (1 : Int32) dX4_pop_5 (by decide) ?_
  refine hr_isub o dX4_pop_6 ?_
  refine mr_putI o flX4_283 dX4_pop_7 nf_4_18 rfl rfl (fun V1 => ?_)
  refine hr_aload_n o 0 dX4_pop_10 rfl ?_
  refine mr_get o flX4_32 dX4_pop_11 (.ref (om + 8)) rfl ?_
  refine hr_aload_n o 0 dX4_pop_14 rfl ?_
  refine mr_get o flX4_283 dX4_pop_15 (.int (V1.1 18)) rfl ?_
  refine mr_lald o 17 8 64 rfl (by decide) rfl dX4_pop_18 (fun x2 => ?_)
  exact hr_lret o dX4_pop_19 rfl
theorem mtX4_pop {om : Nat} {b : hf_H}  (V0 : hf_V) (r : Int64) (V1 : hf_V) (e : spX4_pop V0 = some (r, V1)) : hf_Con yX4_pop cX4_pop 1 (some .long) 0 0 [.ref om] (hf_M om b V0) (.returned (some (.long r)), hf_M om b V1) := hf_entry (dec := hf_dML om b) (by decide) [.ref om] (Nat.le_of_ble_eq_true rfl) [(0, .ref om)] rfl e (fun C o _ => jtX4_pop o V0)

/-! push -/
def spX4_push (l1 : Int64) (V0 : hf_V) : Option hf_V :=
  hf_sd 64 (V0.1 18) (fun j => hf_uL V0 17 j l1) fun V1 =>
  hf_let (hf_ui V1 18 ((V1.1 18) + (1 : Int32))) fun V2 =>
  some V2
theorem jtX4_push {C : hf_X} {om : Nat} {b : hf_H} (o : hf_In C cX4_push RX4 3 (none) 0 0) (l1 : Int64) (V0 : hf_V) : hf_J C (hf_dMV om b) (spX4_push l1 V0) (hf_M om b V0) 0 [(0, .ref om), (1, .long l1)] [] := by
  refine hr_aload_n o 0 dX4_push_0 rfl ?_
  refine mr_get o flX4_32 dX4_push_1 (.ref (om + 8)) rfl ?_
  refine hr_aload_n o 0 dX4_push_4 rfl ?_
  refine mr_get o flX4_283 dX4_push_5 (.int (V0.1 18)) rfl ?_
  refine hr_lload_n o 1 dX4_push_8 rfl ?_
  refine mr_last o 17 8 64 rfl (by decide) rfl dX4_push_9 (fun V1 => ?_)
  refine hr_aload_n o 0 dX4_push_10 rfl ?_
  refine hr_dup o dX4_push_11 rfl ?_
  refine mr_get o flX4_283 dX4_push_12 (.int (V1.1 18)) rfl ?_
  refine hr_iconst o (1 : Int32) dX4_push_15 (by decide) ?_
  refine hr_iadd o dX4_push_16 ?_
  refine mr_putI o flX4_283 dX4_push_17 nf_4_18 rfl rfl (fun V2 => ?_)
  exact hr_vret o dX4_push_20 rfl
theorem mtX4_push {om : Nat} {b : hf_H} (l1 : Int64) (V0 V1 : hf_V) (e : spX4_push l1 V0 = some V1) : hf_Con yX4_push cX4_push 3 (none) 0 0 [.ref om, .long l1] (hf_M om b V0) (.returned none, hf_M om b V1) := hf_entry (dec := hf_dMV om b) (by decide) [.ref om, .long l1] (Nat.le_of_ble_eq_true rfl) [(0, .ref om), (1, .long l1)] rfl e (fun C o _ => jtX4_push o l1 V0)

/-! reckons -/
theorem mvX4_290 : hf_MV RX4 290 RX4 yX4_pop cX4_pop 1 (some .long) 0 := ⟨lw_V q1906 q1908 qs135 q162 q1909, by decide +kernel⟩
theorem msX4_294 : hf_MS RX4 294 yX4_one cX4_one 5 (some .long) 3 := ⟨lw_S q1910 q1911 q162 q1912, by decide +kernel⟩
theorem mvX4_286 : hf_MV RX4 286 RX4 yX4_push cX4_push 3 (none) 1 := ⟨lw_V q1902 q1904 qs134 q162 q1905, by decide +kernel⟩
theorem flX4_36 : hf_Fl RX4 36 4 19 := ⟨(RX4, TX4, 37), RX4, rfl, by decide, in_X4, tyX4_ok, nmX4, Or.inl q1419, Or.inl rfl⟩
def ndX4_reckons_129 (k8 : Int32 → Int32 → Int32 → hf_V → Option (Int64 × hf_V)) (l1 : Int32) (l3 : Int32) (l4 : Int32) (V0 : hf_V) : Option (Int64 × hf_V) :=
  hf_let (l4 + (1 : Int32)) fun x1 =>
  k8 l1 l3 x1 V0
theorem nlX4_reckons_129 {C : hf_X} {om : Nat} {b : hf_H} (o : hf_In C cX4_reckons RX4 11 (some .long) 1 24) (k8 : Int32 → Int32 → Int32 → hf_V → Option (Int64 × hf_V)) (hk8 : ∀ (l1 : Int32) (l3 : Int32) (l4 : Int32) (V0 : hf_V), hf_J C (hf_dML om b) (k8 l1 l3 l4 V0) (hf_M om b V0) 8 [(0, .ref om), (1, .int l1), (3, .int l3), (4, .int l4)] []) (l1 : Int32) (l3 : Int32) (l4 : Int32) (V0 : hf_V) : hf_J C (hf_dML om b) (ndX4_reckons_129 k8 l1 l3 l4 V0) (hf_M om b V0) 129 [(0, .ref om), (1, .int l1), (3, .int l3), (4, .int l4)] [] := by
  refine hr_iincN o (1 : Int32) 3 (fun y => [(4, .int y), (0, .ref om), (1, .int l1), (3, .int l3)]) dX4_reckons_129 rfl (by decide) (by decide) (fun y => rfl) (fun x1 => ?_)
  refine hr_goto o 8 dX4_reckons_132 (by decide) ?_
  refine hr_sub [1, 2, 3, 0] rfl ?_
  exact hk8 l1 l3 x1 V0
def ndX4_reckons_8 (k8 : Int32 → Int32 → Int32 → hf_V → Option (Int64 × hf_V)) (l1 : Int32) (l3 : Int32) (l4 : Int32) (V0 : hf_V) : Option (Int64 × hf_V) :=
  if l3 ≤ l4 then (hf_b2 (spX4_pop V0) fun x2 V1 =>
  some (x2, V1)) else
  (hf_ld 2400 (V0.2.2.2.1 3) (((400 : Int32) * l1) + l4)).bind fun x3 =>
  hf_let (x3 &&& (15 : Int32)) fun x4 =>
  (hf_ld 2400 (V0.2.2.2.1 3) (((400 : Int32) * l1) + l4)).bind fun x5 =>
  hf_let (x5 >>> ((4 : Int32) &&& 31)) fun x6 =>
  if x4 = 0 then ((spX4_push (Int32.toInt64 x6) V0).bind fun V18 =>
  ndX4_reckons_129 k8 l1 l3 l4 V18) else
  if x4 = (1 : Int32) then ((hf_ld 13 (V0.2.2.2.2.1 19) x6).bind fun x16 =>
  (spX4_push x16 V0).bind fun V17 =>
  ndX4_reckons_129 k8 l1 l3 l4 V17) else
  if x4 = (11 : Int32) then (hf_b2 (spX4_pop V0) fun x14 V13 =>
  (spX4_push ((1 : Int64) - x14) V13).bind fun V15 =>
  ndX4_reckons_129 k8 l1 l3 l4 V15) else
  hf_b2 (spX4_pop V0) fun x8 V7 =>
  hf_b2 (spX4_pop V7) fun x10 V9 =>
  (spX4_one x4 x10 x8).bind fun x11 =>
  (spX4_push x11 V9).bind fun V12 =>
  ndX4_reckons_129 k8 l1 l3 l4 V12
theorem nlX4_reckons_8 {C : hf_X} {om : Nat} {b : hf_H} (o : hf_In C cX4_reckons RX4 11 (some .long) 1 24) (k8 : Int32 → Int32 → Int32 → hf_V → Option (Int64 × hf_V)) (hk8 : ∀ (l1 : Int32) (l3 : Int32) (l4 : Int32) (V0 : hf_V), hf_J C (hf_dML om b) (k8 l1 l3 l4 V0) (hf_M om b V0) 8 [(0, .ref om), (1, .int l1), (3, .int l3), (4, .int l4)] []) (l1 : Int32) (l3 : Int32) (l4 : Int32) (V0 : hf_V) : hf_J C (hf_dML om b) (ndX4_reckons_8 k8 l1 l3 l4 V0) (hf_M om b V0) 8 [(0, .ref om), (1, .int l1), (3, .int l3), (4, .int l4)] [] := by
  refine hr_iload o 3 dX4_reckons_8 rfl ?_
  refine hr_iload_n o 2 dX4_reckons_10 rfl ?_
  refine hr_icmp_ge o 135 dX4_reckons_11 (by decide) (fun _ => ?_) (fun _ => ?_)
  · refine hr_aload_n o 0 dX4_reckons_135 rfl ?_
    refine mr_callL o mvX4_290 dX4_reckons_136 [] (fun zr zV ze => mtX4_pop  V0 zr zV ze) rfl rfl (Nat.le_of_ble_eq_true rfl) ⟨by decide, by decide⟩ (fun x2 V1 => ?_)
    exact hr_lret o dX4_reckons_139 rfl
  refine hr_aload_n o 0 dX4_reckons_14 rfl ?_
  refine mr_get o flX4_13 dX4_reckons_15 (.ref (om + 2)) rfl ?_
  refine hr_sipush o (400 : Int32) dX4_reckons_18 (by decide) ?_
  refine hr_iload_n o 1 dX4_reckons_21 rfl ?_
  refine hr_imul o dX4_reckons_22 ?_
  refine hr_iload o 3 dX4_reckons_23 rfl ?_
  refine hr_iadd o dX4_reckons_25 ?_
  refine mr_iald o 3 2 2400 rfl (by decide) rfl dX4_reckons_26 (fun x3 => ?_)
  refine hr_bipush o (15 : Int32) dX4_reckons_27 (by decide) ?_
  refine hr_iand o dX4_reckons_29 ?_
  refine hr_nmI (fun x4 => ?_)
  refine hr_istore o [(5, .int x4), (0, .ref om), (1, .int l1), (3, .int l3), (4, .int l4)] dX4_reckons_30 (by decide) rfl ?_
  refine hr_aload_n o 1 dX4_reckons_32 rfl ?_
  refine mr_get o flX4_13 dX4_reckons_33 (.ref (om + 2)) rfl ?_
  refine hr_sipush o (400 : Int32) dX4_reckons_36 (by decide) ?_
  refine hr_iload_n o 2 dX4_reckons_39 rfl ?_
  refine hr_imul o dX4_reckons_40 ?_
  refine hr_iload o 4 dX4_reckons_41 rfl ?_
  refine hr_iadd o dX4_reckons_43 ?_
  refine mr_iald o 3 2 2400 rfl (by decide) rfl dX4_reckons_44 (fun x5 => ?_)
  refine hr_iconst o (4 : Int32) dX4_reckons_45 (by decide) ?_
  refine hr_ishr o dX4_reckons_46 ?_
  refine hr_nmI (fun x6 => ?_)
  refine hr_istore o [(6, .int x6), (5, .int x4), (0, .ref om), (1, .int l1), (3, .int l3), (4, .int l4)] dX4_reckons_47 (by decide) rfl ?_
  refine hr_iload o 1 dX4_reckons_49 rfl ?_
  refine hr_if_ne o 64 dX4_reckons_51 (by decide) (fun _ => ?_) (fun _ => ?_)
  · refine hr_aload_n o 2 dX4_reckons_54 rfl ?_
    refine hr_iload o 0 dX4_reckons_55 rfl ?_
    refine hr_i2l o dX4_reckons_57 ?_
    refine mr_callV o mvX4_286 dX4_reckons_58 [.long (Int32.toInt64 x6)] (fun zV ze => mtX4_push (Int32.toInt64 x6) V0 zV ze) rfl rfl (Nat.le_of_ble_eq_true rfl) ⟨by decide, by decide⟩ (fun V18 => ?_)
    refine hr_goto o 129 dX4_reckons_61 (by decide) ?_
    refine hr_sub [2, 3, 4, 5] rfl ?_
    exact nlX4_reckons_129 o k8 hk8 l1 l3 l4 V18
  refine hr_iload o 1 dX4_reckons_64 rfl ?_
  refine hr_iconst o (1 : Int32) dX4_reckons_66 (by decide) ?_
  refine hr_icmp_ne o 84 dX4_reckons_67 (by decide) (fun _ => ?_) (fun _ => ?_)
  · refine hr_aload_n o 2 dX4_reckons_70 rfl ?_
    refine hr_aload_n o 2 dX4_reckons_71 rfl ?_
    refine mr_get o flX4_36 dX4_reckons_72 (.ref (om + 9)) rfl ?_
    refine hr_iload o 0 dX4_reckons_75 rfl ?_
    refine mr_lald o 19 9 13 rfl (by decide) rfl dX4_reckons_77 (fun x16 => ?_)
    refine mr_callV o mvX4_286 dX4_reckons_78 [.long x16] (fun zV ze => mtX4_push x16 V0 zV ze) rfl rfl (Nat.le_of_ble_eq_true rfl) ⟨by decide, by decide⟩ (fun V17 => ?_)
    refine hr_goto o 129 dX4_reckons_81 (by decide) ?_
    refine hr_sub [2, 3, 4, 5] rfl ?_
    exact nlX4_reckons_129 o k8 hk8 l1 l3 l4 V17
  refine hr_iload o 1 dX4_reckons_84 rfl ?_
  refine hr_bipush o (11 : Int32) dX4_reckons_86 (by decide) ?_
  refine hr_icmp_ne o 104 dX4_reckons_88 (by decide) (fun _ => ?_) (fun _ => ?_)
  · refine hr_aload_n o 2 dX4_reckons_91 rfl ?_
    refine hr_lconst o (1 : Int64) dX4_reckons_92 (by decide) ?_
    refine hr_aload_n o 2 dX4_reckons_93 rfl ?_
    refine mr_callL o mvX4_290 dX4_reckons_94 [] (fun zr zV ze => mtX4_pop  V0 zr zV ze) rfl rfl (Nat.le_of_ble_eq_true rfl) ⟨by decide, by decide⟩ (fun x14 V13 => ?_)
    refine hr_lsub o dX4_reckons_97 ?_
    refine mr_callV o mvX4_286 dX4_reckons_98 [.long ((1 : Int64) - x14)] (fun zV ze => mtX4_push ((1 : Int64) - x14) V13 zV ze) rfl rfl (Nat.le_of_ble_eq_true rfl) ⟨by decide, by decide⟩ (fun V15 => ?_)
    refine hr_goto o 129 dX4_reckons_101 (by decide) ?_
    refine hr_sub [2, 3, 4, 5] rfl ?_
    exact nlX4_reckons_129 o k8 hk8 l1 l3 l4 V15
  refine hr_aload_n o 2 dX4_reckons_104 rfl ?_
  refine mr_callL o mvX4_290 dX4_reckons_105 [] (fun zr zV ze => mtX4_pop  V0 zr zV ze) rfl rfl (Nat.le_of_ble_eq_true rfl) ⟨by decide, by decide⟩ (fun x8 V7 => ?_)
  refine hr_lstore o [(7, .long x8), (6, .int x6), (5, .int x4), (0, .ref om), (1, .int l1), (3, .int l3), (4, .int l4)] dX4_reckons_108 (by decide) rfl ?_
  refine hr_aload_n o 3 dX4_reckons_110 rfl ?_
  refine mr_callL o mvX4_290 dX4_reckons_111 [] (fun zr zV ze => mtX4_pop  V7 zr zV ze) rfl rfl (Nat.le_of_ble_eq_true rfl) ⟨by decide, by decide⟩ (fun x10 V9 => ?_)
  refine hr_lstore o [(9, .long x10), (7, .long x8), (6, .int x6), (5, .int x4), (0, .ref om), (1, .int l1), (3, .int l3), (4, .int l4)] dX4_reckons_114 (by decide) rfl ?_
  refine hr_aload_n o 4 dX4_reckons_116 rfl ?_
  refine hr_iload o 3 dX4_reckons_117 rfl ?_
  refine hr_lload o 0 dX4_reckons_119 rfl ?_
  refine hr_lload o 1 dX4_reckons_121 rfl ?_
  refine pr_callL o msX4_294 dX4_reckons_123 [.int x4, .long x10, .long x8] (fun zr ze => mtX4_one x4 x10 x8 zr ze) rfl rfl (Nat.le_of_ble_eq_true rfl) ⟨by decide, by decide⟩ (fun x11 => ?_)
  refine mr_callV o mvX4_286 dX4_reckons_126 [.long x11] (fun zV ze => mtX4_push x11 V9 zV ze) rfl rfl (Nat.le_of_ble_eq_true rfl) ⟨by decide, by decide⟩ (fun V12 => ?_)
  refine hr_sub [4, 5, 6, 7] rfl ?_
  exact nlX4_reckons_129 o k8 hk8 l1 l3 l4 V12
def lpX4_reckons_8  : Nat → Int32 → Int32 → Int32 → hf_V → Option (Int64 × hf_V)
  | 0 => fun _ _ _ _ => none
  | n + 1 => fun l1 l3 l4 V0 => ndX4_reckons_8  (lpX4_reckons_8  n) l1 l3 l4 V0
theorem llX4_reckons_8 {C : hf_X} {om : Nat} {b : hf_H} (o : hf_In C cX4_reckons RX4 11 (some .long) 1 24)   (n : Nat) : ∀ (l1 : Int32) (l3 : Int32) (l4 : Int32) (V0 : hf_V), hf_J C (hf_dML om b) ((lpX4_reckons_8  n) l1 l3 l4 V0) (hf_M om b V0) 8 [(0, .ref om), (1, .int l1), (3, .int l3), (4, .int l4)] [] := by
  induction n with
  | zero => exact fun _ _ _ _ => hr_none
  | succ n ih => exact fun l1 l3 l4 V0 => nlX4_reckons_8 o  (lpX4_reckons_8  n)  ih l1 l3 l4 V0
def spX4_reckons (l1 : Int32) (l2 : Int32) (l3 : Int32) (V0 : hf_V) : Option (Int64 × hf_V) :=
  hf_let (hf_ui V0 18 (0 : Int32)) fun V1 =>
  lpX4_reckons_8 hf_N l1 l3 l2 V1
theorem jtX4_reckons {C : hf_X} {om : Nat} {b : hf_H} (o : hf_In C cX4_reckons RX4 11 (some .long) 1 24) (l1 : Int32) (l2 : Int32) (l3 : Int32) (V0 : hf_V) : hf_J C (hf_dML om b) (spX4_reckons l1 l2 l3 V0) (hf_M om b V0) 0 [(0, .ref om), (1, .int l1), (2, .int l2), (3, .int l3)] [] := by
  refine hr_aload_n o 0 dX4_reckons_0 rfl ?_
  refine hr_iconst o (0 : Int32) dX4_reckons_1 (by decide) ?_
  refine mr_putI o flX4_283 dX4_reckons_2 nf_4_18 rfl rfl (fun V1 => ?_)
  refine hr_iload_n o 2 dX4_reckons_5 rfl ?_
  refine hr_istore o [(4, .int l2), (0, .ref om), (1, .int l1), (2, .int l2), (3, .int l3)] dX4_reckons_6 (by decide) rfl ?_
  refine hr_sub [1, 2, 4, 0] rfl ?_
  exact llX4_reckons_8 o hf_N l1 l3 l2 V1
theorem mtX4_reckons {om : Nat} {b : hf_H} (l1 : Int32) (l2 : Int32) (l3 : Int32) (V0 : hf_V) (r : Int64) (V1 : hf_V) (e : spX4_reckons l1 l2 l3 V0 = some (r, V1)) : hf_Con yX4_reckons cX4_reckons 11 (some .long) 1 24 [.ref om, .int l1, .int l2, .int l3] (hf_M om b V0) (.returned (some (.long r)), hf_M om b V1) := hf_entry (dec := hf_dML om b) (by decide) [.ref om, .int l1, .int l2, .int l3] (Nat.le_of_ble_eq_true rfl) [(0, .ref om), (1, .int l1), (2, .int l2), (3, .int l3)] rfl e (fun C o _ => jtX4_reckons o l1 l2 l3 V0)

/-! summedBy -/
theorem mvX4_390 : hf_MV RX4 390 RX4 yX4_reckons cX4_reckons 11 (some .long) 3 := ⟨lw_V q1898 q1900 qs133 q162 q1901, by decide +kernel⟩
def ndX4_summedBy_73  (l1 : Int32) (l4 : Int32) (V0 : hf_V) : Option (Int64 × hf_V) :=
  (hf_ld 360 (V0.2.2.2.1 5) (l4 + (1 : Int32))).bind fun x1 =>
  (hf_ld 360 (V0.2.2.2.1 5) (l4 + (2 : Int32))).bind fun x2 =>
  hf_b2 (spX4_reckons l1 x1 x2 V0) fun x4 V3 =>
  some (x4, V3)
theorem nlX4_summedBy_73 {C : hf_X} {om : Nat} {b : hf_H} (o : hf_In C cX4_summedBy RX4 5 (some .long) 2 54)   (l1 : Int32) (l4 : Int32) (V0 : hf_V) : hf_J C (hf_dML om b) (ndX4_summedBy_73 l1 l4 V0) (hf_M om b V0) 73 [(0, .ref om), (1, .int l1), (4, .int l4)] [] := by
  refine hr_aload_n o 0 dX4_summedBy_73 rfl ?_
  refine hr_iload_n o 1 dX4_summedBy_74 rfl ?_
  refine hr_aload_n o 0 dX4_summedBy_75 rfl ?_
  refine mr_get o flX4_20 dX4_summedBy_76 (.ref (om + 4)) rfl ?_
  refine hr_iload o 2 dX4_summedBy_79 rfl ?_
  refine hr_iconst o (1 : Int32) dX4_summedBy_81 (by decide) ?_
  refine hr_iadd o dX4_summedBy_82 ?_
  refine mr_iald o 5 4 360 rfl (by decide) rfl dX4_summedBy_83 (fun x1 => ?_)
  refine hr_aload_n o 0 dX4_summedBy_84 rfl ?_
  refine mr_get o flX4_20 dX4_summedBy_85 (.ref (om + 4)) rfl ?_
  refine hr_iload o 2 dX4_summedBy_88 rfl ?_
  refine hr_iconst o (2 : Int32) dX4_summedBy_90 (by decide) ?_
  refine hr_iadd o dX4_summedBy_91 ?_
  refine mr_iald o 5 4 360 rfl (by decide) rfl dX4_summedBy_92 (fun x2 => ?_)
  refine mr_callL o mvX4_390 dX4_summedBy_93 [.int l1, .int x1, .int x2] (fun zr zV ze => mtX4_reckons l1 x1 x2 V0 zr zV ze) rfl rfl (Nat.le_of_ble_eq_true rfl) ⟨by decide, by decide⟩ (fun x4 V3 => ?_)
  exact hr_lret o dX4_summedBy_96 rfl
def ndX4_summedBy_97 (k2 : Int32 → Int32 → Int32 → hf_V → Option (Int64 × hf_V)) (l1 : Int32) (l2 : Int32) (l3 : Int32) (V0 : hf_V) : Option (Int64 × hf_V) :=
  hf_let (l3 + (1 : Int32)) fun x1 =>
  k2 l1 l2 x1 V0
theorem nlX4_summedBy_97 {C : hf_X} {om : Nat} {b : hf_H} (o : hf_In C cX4_summedBy RX4 5 (some .long) 2 54) (k2 : Int32 → Int32 → Int32 → hf_V → Option (Int64 × hf_V)) (hk2 : ∀ (l1 : Int32) (l2 : Int32) (l3 : Int32) (V0 : hf_V), hf_J C (hf_dML om b) (k2 l1 l2 l3 V0) (hf_M om b V0) 2 [(0, .ref om), (1, .int l1), (2, .int l2), (3, .int l3)] []) (l1 : Int32) (l2 : Int32) (l3 : Int32) (V0 : hf_V) : hf_J C (hf_dML om b) (ndX4_summedBy_97 k2 l1 l2 l3 V0) (hf_M om b V0) 97 [(0, .ref om), (1, .int l1), (2, .int l2), (3, .int l3)] [] := by
  refine hr_iincN o (1 : Int32) 3 (fun y => [(3, .int y), (0, .ref om), (1, .int l1), (2, .int l2)]) dX4_summedBy_97 rfl (by decide) (by decide) (fun y => rfl) (fun x1 => ?_)
  refine hr_goto o 2 dX4_summedBy_100 (by decide) ?_
  refine hr_sub [1, 2, 3, 0] rfl ?_
  exact hk2 l1 l2 x1 V0
def ndX4_summedBy_2 (k2 : Int32 → Int32 → Int32 → hf_V → Option (Int64 × hf_V)) (l1 : Int32) (l2 : Int32) (l3 : Int32) (V0 : hf_V) : Option (Int64 × hf_V) :=
  (hf_ld 6 (V0.2.2.2.1 6) l1).bind fun x1 =>
  if x1 ≤ l3 then (some ((0 : Int64), V0)) else
  hf_let (((60 : Int32) * l1) + ((5 : Int32) * l3)) fun x2 =>
  (hf_ld 360 (V0.2.2.2.1 5) x2).bind fun x3 =>
  if x3 = l2 then ((hf_ld 360 (V0.2.2.2.1 5) (x2 + (3 : Int32))).bind fun x4 =>
  if x4 < 0 then (ndX4_summedBy_73 l1 x2 V0) else
  (hf_ld 360 (V0.2.2.2.1 5) (x2 + (3 : Int32))).bind fun x5 =>
  (hf_ld 360 (V0.2.2.2.1 5) (x2 + (4 : Int32))).bind fun x6 =>
  hf_b2 (spX4_reckons l1 x5 x6 V0) fun x8 V7 =>
  if (lg_cmp x8 (1 : Int64)) = 0 then (ndX4_summedBy_73 l1 x2 V7) else
  ndX4_summedBy_97 k2 l1 l2 l3 V7) else
  ndX4_summedBy_97 k2 l1 l2 l3 V0
theorem nlX4_summedBy_2 {C : hf_X} {om : Nat} {b : hf_H} (o : hf_In C cX4_summedBy RX4 5 (some .long) 2 54) (k2 : Int32 → Int32 → Int32 → hf_V → Option (Int64 × hf_V)) (hk2 : ∀ (l1 : Int32) (l2 : Int32) (l3 : Int32) (V0 : hf_V), hf_J C (hf_dML om b) (k2 l1 l2 l3 V0) (hf_M om b V0) 2 [(0, .ref om), (1, .int l1), (2, .int l2), (3, .int l3)] []) (l1 : Int32) (l2 : Int32) (l3 : Int32) (V0 : hf_V) : hf_J C (hf_dML om b) (ndX4_summedBy_2 k2 l1 l2 l3 V0) (hf_M om b V0) 2 [(0, .ref om), (1, .int l1), (2, .int l2), (3, .int l3)] [] := by
  refine hr_iload_n o 3 dX4_summedBy_2 rfl ?_
  refine hr_aload_n o 0 dX4_summedBy_3 rfl ?_
  refine mr_get o flX4_23 dX4_summedBy_4 (.ref (om + 5)) rfl ?_
  refine hr_iload_n o 1 dX4_summedBy_7 rfl ?_
  refine mr_iald o 6 5 6 rfl (by decide) rfl dX4_summedBy_8 (fun x1 => ?_)
  refine hr_icmp_ge o 103 dX4_summedBy_9 (by decide) (fun _ => ?_) (fun _ => ?_)
  · refine hr_lconst o (0 : Int64) dX4_summedBy_103 (by decide) ?_
    exact hr_lret o dX4_summedBy_104 rfl
  refine hr_bipush o (60 : Int32) dX4_summedBy_12 (by decide) ?_
  refine hr_iload_n o 1 dX4_summedBy_14 rfl ?_
  refine hr_imul o dX4_summedBy_15 ?_
  refine hr_iconst o (5 : Int32) dX4_summedBy_16 (by decide) ?_
  refine hr_iload_n o 3 dX4_summedBy_17 rfl ?_
  refine hr_imul o dX4_summedBy_18 ?_
  refine hr_iadd o dX4_summedBy_19 ?_
  refine hr_nmI (fun x2 => ?_)
  refine hr_istore o [(4, .int x2), (0, .ref om), (1, .int l1), (2, .int l2), (3, .int l3)] dX4_summedBy_20 (by decide) rfl ?_
  refine hr_aload_n o 1 dX4_summedBy_22 rfl ?_
  refine mr_get o flX4_20 dX4_summedBy_23 (.ref (om + 4)) rfl ?_
  refine hr_iload o 0 dX4_summedBy_26 rfl ?_
  refine mr_iald o 5 4 360 rfl (by decide) rfl dX4_summedBy_28 (fun x3 => ?_)
  refine hr_iload_n o 3 dX4_summedBy_29 rfl ?_
  refine hr_icmp_ne o 97 dX4_summedBy_30 (by decide) (fun _ => ?_) (fun _ => ?_)
  · refine hr_aload_n o 1 dX4_summedBy_33 rfl ?_
    refine mr_get o flX4_20 dX4_summedBy_34 (.ref (om + 4)) rfl ?_
    refine hr_iload o 0 dX4_summedBy_37 rfl ?_
    refine hr_iconst o (3 : Int32) dX4_summedBy_39 (by decide) ?_
    refine hr_iadd o dX4_summedBy_40 ?_
    refine mr_iald o 5 4 360 rfl (by decide) rfl dX4_summedBy_41 (fun x4 => ?_)
    refine hr_if_lt o 73 dX4_summedBy_42 (by decide) (fun _ => ?_) (fun _ => ?_)
    · refine hr_sub [1, 2, 0] rfl ?_
      exact nlX4_summedBy_73 o l1 x2 V0
    refine hr_aload_n o 1 dX4_summedBy_45 rfl ?_
    refine hr_iload_n o 2 dX4_summedBy_46 rfl ?_
    refine hr_aload_n o 1 dX4_summedBy_47 rfl ?_
    refine mr_get o flX4_20 dX4_summedBy_48 (.ref (om + 4)) rfl ?_
    refine hr_iload o 0 dX4_summedBy_51 rfl ?_
    refine hr_iconst o (3 : Int32) dX4_summedBy_53 (by decide) ?_
    refine hr_iadd o dX4_summedBy_54 ?_
    refine mr_iald o 5 4 360 rfl (by decide) rfl dX4_summedBy_55 (fun x5 => ?_)
    refine hr_aload_n o 1 dX4_summedBy_56 rfl ?_
    refine mr_get o flX4_20 dX4_summedBy_57 (.ref (om + 4)) rfl ?_
    refine hr_iload o 0 dX4_summedBy_60 rfl ?_
    refine hr_iconst o (4 : Int32) dX4_summedBy_62 (by decide) ?_
    refine hr_iadd o dX4_summedBy_63 ?_
    refine mr_iald o 5 4 360 rfl (by decide) rfl dX4_summedBy_64 (fun x6 => ?_)
    refine mr_callL o mvX4_390 dX4_summedBy_65 [.int l1, .int x5, .int x6] (fun zr zV ze => mtX4_reckons l1 x5 x6 V0 zr zV ze) rfl rfl (Nat.le_of_ble_eq_true rfl) ⟨by decide, by decide⟩ (fun x8 V7 => ?_)
    refine hr_lconst o (1 : Int64) dX4_summedBy_68 (by decide) ?_
    refine hr_lcmp o dX4_summedBy_69 ?_
    refine hr_if_ne o 97 dX4_summedBy_70 (by decide) (fun _ => ?_) (fun _ => ?_)
    · refine hr_sub [1, 2, 0] rfl ?_
      exact nlX4_summedBy_73 o l1 x2 V7
    refine hr_sub [1, 2, 3, 4] rfl ?_
    exact nlX4_summedBy_97 o k2 hk2 l1 l2 l3 V7
  refine hr_sub [1, 2, 3, 4] rfl ?_
  exact nlX4_summedBy_97 o k2 hk2 l1 l2 l3 V0
def lpX4_summedBy_2  : Nat → Int32 → Int32 → Int32 → hf_V → Option (Int64 × hf_V)
  | 0 => fun _ _ _ _ => none
  | n + 1 => fun l1 l2 l3 V0 => ndX4_summedBy_2  (lpX4_summedBy_2  n) l1 l2 l3 V0
theorem llX4_summedBy_2 {C : hf_X} {om : Nat} {b : hf_H} (o : hf_In C cX4_summedBy RX4 5 (some .long) 2 54)   (n : Nat) : ∀ (l1 : Int32) (l2 : Int32) (l3 : Int32) (V0 : hf_V), hf_J C (hf_dML om b) ((lpX4_summedBy_2  n) l1 l2 l3 V0) (hf_M om b V0) 2 [(0, .ref om), (1, .int l1), (2, .int l2), (3, .int l3)] [] := by
  induction n with
  | zero => exact fun _ _ _ _ => hr_none
  | succ n ih => exact fun l1 l2 l3 V0 => nlX4_summedBy_2 o  (lpX4_summedBy_2  n)  ih l1 l2 l3 V0
def spX4_summedBy (l1 : Int32) (l2 : Int32) (V0 : hf_V) : Option (Int64 × hf_V) :=
  lpX4_summedBy_2 hf_N l1 l2 (0 : Int32) V0
theorem jtX4_summedBy {C : hf_X} {om : Nat} {b : hf_H} (o : hf_In C cX4_summedBy RX4 5 (some .long) 2 54) (l1 : Int32) (l2 : Int32) (V0 : hf_V) : hf_J C (hf_dML om b) (spX4_summedBy l1 l2 V0) (hf_M om b V0) 0 [(0, .ref om), (1, .int l1), (2, .int l2)] [] := by
  refine hr_iconst o (0 : Int32) dX4_summedBy_0 (by decide) ?_
  refine hr_istore_n o [(3, .int (0 : Int32)), (0, .ref om), (1, .int l1), (2, .int l2)] dX4_summedBy_1 (by decide) rfl ?_
  refine hr_sub [1, 2, 3, 0] rfl ?_
  exact llX4_summedBy_2 o hf_N l1 l2 (0 : Int32) V0
theorem mtX4_summedBy {om : Nat} {b : hf_H} (l1 : Int32) (l2 : Int32) (V0 : hf_V) (r : Int64) (V1 : hf_V) (e : spX4_summedBy l1 l2 V0 = some (r, V1)) : hf_Con yX4_summedBy cX4_summedBy 5 (some .long) 2 54 [.ref om, .int l1, .int l2] (hf_M om b V0) (.returned (some (.long r)), hf_M om b V1) := hf_entry (dec := hf_dML om b) (by decide) [.ref om, .int l1, .int l2] (Nat.le_of_ble_eq_true rfl) [(0, .ref om), (1, .int l1), (2, .int l2)] rfl e (fun C o _ => jtX4_summedBy o l1 l2 V0)

/-! atStalls -/
def ndX4_atStalls_33 (k4 : Int32 → Int32 → hf_V → Option (Int32 × hf_V)) (l2 : Int32) (s0 : Int32) (s1 : Int32) (V0 : hf_V) : Option (Int32 × hf_V) :=
  hf_let (s0 ||| s1) fun x1 =>
  hf_let (l2 + (1 : Int32)) fun x2 =>
  k4 x1 x2 V0
theorem nlX4_atStalls_33 {C : hf_X} {om : Nat} {b : hf_H} (o : hf_In C cX4_atStalls RX4 3 (some .int) 1 22) (k4 : Int32 → Int32 → hf_V → Option (Int32 × hf_V)) (hk4 : ∀ (l1 : Int32) (l2 : Int32) (V0 : hf_V), hf_J C (hf_dMI om b) (k4 l1 l2 V0) (hf_M om b V0) 4 [(0, .ref om), (1, .int l1), (2, .int l2)] []) (l2 : Int32) (s0 : Int32) (s1 : Int32) (V0 : hf_V) : hf_J C (hf_dMI om b) (ndX4_atStalls_33 k4 l2 s0 s1 V0) (hf_M om b V0) 33 [(0, .ref om), (2, .int l2)] [.int s1, .int s0] := by
  refine hr_ior o dX4_atStalls_33 ?_
  refine hr_nmI (fun x1 => ?_)
  refine hr_istore_n o [(1, .int x1), (0, .ref om), (2, .int l2)] dX4_atStalls_34 (by decide) rfl ?_
  refine hr_iincN o (1 : Int32) 2 (fun y => [(2, .int y), (1, .int x1), (0, .ref om)]) dX4_atStalls_35 rfl (by decide) (by decide) (fun y => rfl) (fun x2 => ?_)
  refine hr_goto o 4 dX4_atStalls_38 (by decide) ?_
  refine hr_sub [2, 1, 0] rfl ?_
  exact hk4 x1 x2 V0
def ndX4_atStalls_4 (k4 : Int32 → Int32 → hf_V → Option (Int32 × hf_V)) (l1 : Int32) (l2 : Int32) (V0 : hf_V) : Option (Int32 × hf_V) :=
  (hf_ld 123 (V0.2.2.2.1 20) (1 : Int32)).bind fun x1 =>
  if x1 ≤ l2 then (some (l1, V0)) else
  hf_b2 (spX4_halfOf l2 (3 : Int32) V0) fun x3 V2 =>
  if (100 : Int32) ≤ x3 then (ndX4_atStalls_33 k4 l2 l1 (0 : Int32) V2) else
  ndX4_atStalls_33 k4 l2 l1 ((1 : Int32) <<< (l2 &&& 31)) V2
theorem nlX4_atStalls_4 {C : hf_X} {om : Nat} {b : hf_H} (o : hf_In C cX4_atStalls RX4 3 (some .int) 1 22) (k4 : Int32 → Int32 → hf_V → Option (Int32 × hf_V)) (hk4 : ∀ (l1 : Int32) (l2 : Int32) (V0 : hf_V), hf_J C (hf_dMI om b) (k4 l1 l2 V0) (hf_M om b V0) 4 [(0, .ref om), (1, .int l1), (2, .int l2)] []) (l1 : Int32) (l2 : Int32) (V0 : hf_V) : hf_J C (hf_dMI om b) (ndX4_atStalls_4 k4 l1 l2 V0) (hf_M om b V0) 4 [(0, .ref om), (1, .int l1), (2, .int l2)] [] := by
  refine hr_iload_n o 2 dX4_atStalls_4 rfl ?_
  refine hr_aload_n o 0 dX4_atStalls_5 rfl ?_
  refine mr_get o flX4_39 dX4_atStalls_6 (.ref (om + 10)) rfl ?_
  refine hr_iconst o (1 : Int32) dX4_atStalls_9 (by decide) ?_
  refine mr_iald o 20 10 123 rfl (by decide) rfl dX4_atStalls_10 (fun x1 => ?_)
  refine hr_icmp_ge o 41 dX4_atStalls_11 (by decide) (fun _ => ?_) (fun _ => ?_)
  · refine hr_iload_n o 1 dX4_atStalls_41 rfl ?_
    exact hr_iret o dX4_atStalls_42 rfl rfl
  refine hr_iload_n o 1 dX4_atStalls_14 rfl ?_
  refine hr_aload_n o 0 dX4_atStalls_15 rfl ?_
  refine hr_iload_n o 2 dX4_atStalls_16 rfl ?_
  refine hr_iconst o (3 : Int32) dX4_atStalls_17 (by decide) ?_
  refine mr_callI o mvX4_301 dX4_atStalls_18 [.int l2, .int (3 : Int32)] (fun zr zV ze => mtX4_halfOf l2 (3 : Int32) V0 zr zV ze) rfl rfl (Nat.le_of_ble_eq_true rfl) ⟨by decide, by decide⟩ (fun x3 V2 => ?_)
  refine hr_bipush o (100 : Int32) dX4_atStalls_21 (by decide) ?_
  refine hr_icmp_ge o 32 dX4_atStalls_23 (by decide) (fun _ => ?_) (fun _ => ?_)
  · refine hr_iconst o (0 : Int32) dX4_atStalls_32 (by decide) ?_
    refine hr_sub [0, 2] rfl ?_
    exact nlX4_atStalls_33 o k4 hk4 l2 l1 (0 : Int32) V2
  refine hr_iconst o (1 : Int32) dX4_atStalls_26 (by decide) ?_
  refine hr_iload_n o 2 dX4_atStalls_27 rfl ?_
  refine hr_ishl o dX4_atStalls_28 ?_
  refine hr_goto o 33 dX4_atStalls_29 (by decide) ?_
  refine hr_sub [0, 2] rfl ?_
  exact nlX4_atStalls_33 o k4 hk4 l2 l1 ((1 : Int32) <<< (l2 &&& 31)) V2
def lpX4_atStalls_4  : Nat → Int32 → Int32 → hf_V → Option (Int32 × hf_V)
  | 0 => fun _ _ _ => none
  | n + 1 => fun l1 l2 V0 => ndX4_atStalls_4  (lpX4_atStalls_4  n) l1 l2 V0
theorem llX4_atStalls_4 {C : hf_X} {om : Nat} {b : hf_H} (o : hf_In C cX4_atStalls RX4 3 (some .int) 1 22)   (n : Nat) : ∀ (l1 : Int32) (l2 : Int32) (V0 : hf_V), hf_J C (hf_dMI om b) ((lpX4_atStalls_4  n) l1 l2 V0) (hf_M om b V0) 4 [(0, .ref om), (1, .int l1), (2, .int l2)] [] := by
  induction n with
  | zero => exact fun _ _ _ => hr_none
  | succ n ih => exact fun l1 l2 V0 => nlX4_atStalls_4 o  (lpX4_atStalls_4  n)  ih l1 l2 V0
def spX4_atStalls  (V0 : hf_V) : Option (Int32 × hf_V) :=
  lpX4_atStalls_4 hf_N (0 : Int32) (0 : Int32) V0
theorem jtX4_atStalls {C : hf_X} {om : Nat} {b : hf_H} (o : hf_In C cX4_atStalls RX4 3 (some .int) 1 22)  (V0 : hf_V) : hf_J C (hf_dMI om b) (spX4_atStalls V0) (hf_M om b V0) 0 [(0, .ref om)] [] := by
  refine hr_iconst o (0 : Int32) dX4_atStalls_0 (by decide) ?_
  refine hr_istore_n o [(1, .int (0 : Int32)), (0, .ref om)] dX4_atStalls_1 (by decide) rfl ?_
  refine hr_iconst o (0 : Int32) dX4_atStalls_2 (by decide) ?_
  refine hr_istore_n o [(2, .int (0 : Int32)), (1, .int (0 : Int32)), (0, .ref om)] dX4_atStalls_3 (by decide) rfl ?_
  refine hr_sub [2, 1, 0] rfl ?_
  exact llX4_atStalls_4 o hf_N (0 : Int32) (0 : Int32) V0
theorem mtX4_atStalls {om : Nat} {b : hf_H}  (V0 : hf_V) (r : Int32) (V1 : hf_V) (e : spX4_atStalls V0 = some (r, V1)) : hf_Con yX4_atStalls cX4_atStalls 3 (some .int) 1 22 [.ref om] (hf_M om b V0) (.returned (some (.int r)), hf_M om b V1) := hf_entry (dec := hf_dMI om b) (by decide) [.ref om] (Nat.le_of_ble_eq_true rfl) [(0, .ref om)] rfl e (fun C o _ => jtX4_atStalls o V0)

/-! fitting -/
def ndX4_fitting_50 (k6 : Int32 → Int32 → Int32 → Int32 → Int32 → hf_V → Option (Int32 × hf_V)) (l1 : Int32) (l2 : Int32) (l3 : Int32) (l5 : Int32) (s0 : Int32) (s1 : Int32) (V0 : hf_V) : Option (Int32 × hf_V) :=
  hf_let (s0 + s1) fun x1 =>
  hf_let (l5 + (1 : Int32)) fun x2 =>
  k6 l1 l2 l3 x1 x2 V0
theorem nlX4_fitting_50 {C : hf_X} {om : Nat} {b : hf_H} (o : hf_In C cX4_fitting RX4 6 (some .int) 3 67) (k6 : Int32 → Int32 → Int32 → Int32 → Int32 → hf_V → Option (Int32 × hf_V)) (hk6 : ∀ (l1 : Int32) (l2 : Int32) (l3 : Int32) (l4 : Int32) (l5 : Int32) (V0 : hf_V), hf_J C (hf_dMI om b) (k6 l1 l2 l3 l4 l5 V0) (hf_M om b V0) 6 [(0, .ref om), (1, .int l1), (2, .int l2), (3, .int l3), (4, .int l4), (5, .int l5)] []) (l1 : Int32) (l2 : Int32) (l3 : Int32) (l5 : Int32) (s0 : Int32) (s1 : Int32) (V0 : hf_V) : hf_J C (hf_dMI om b) (ndX4_fitting_50 k6 l1 l2 l3 l5 s0 s1 V0) (hf_M om b V0) 50 [(0, .ref om), (1, .int l1), (2, .int l2), (3, .int l3), (5, .int l5)] [.int s1, .int s0] := by
  refine hr_iadd o dX4_fitting_50 ?_
  refine hr_nmI (fun x1 => ?_)
  refine hr_istore o [(4, .int x1), (0, .ref om), (1, .int l1), (2, .int l2), (3, .int l3), (5, .int l5)] dX4_fitting_51 (by decide) rfl ?_
  refine hr_iincN o (1 : Int32) 5 (fun y => [(5, .int y), (4, .int x1), (0, .ref om), (1, .int l1), (2, .int l2), (3, .int l3)]) dX4_fitting_53 rfl (by decide) (by decide) (fun y => rfl) (fun x2 => ?_)
  refine hr_goto o 6 dX4_fitting_56 (by decide) ?_
  refine hr_sub [2, 3, 4, 5, 1, 0] rfl ?_
  exact hk6 l1 l2 l3 x1 x2 V0
def ndX4_fitting_49 (k6 : Int32 → Int32 → Int32 → Int32 → Int32 → hf_V → Option (Int32 × hf_V)) (l1 : Int32) (l2 : Int32) (l3 : Int32) (l5 : Int32) (s0 : Int32) (V0 : hf_V) : Option (Int32 × hf_V) :=
  ndX4_fitting_50 k6 l1 l2 l3 l5 s0 (0 : Int32) V0
theorem nlX4_fitting_49 {C : hf_X} {om : Nat} {b : hf_H} (o : hf_In C cX4_fitting RX4 6 (some .int) 3 67) (k6 : Int32 → Int32 → Int32 → Int32 → Int32 → hf_V → Option (Int32 × hf_V)) (hk6 : ∀ (l1 : Int32) (l2 : Int32) (l3 : Int32) (l4 : Int32) (l5 : Int32) (V0 : hf_V), hf_J C (hf_dMI om b) (k6 l1 l2 l3 l4 l5 V0) (hf_M om b V0) 6 [(0, .ref om), (1, .int l1), (2, .int l2), (3, .int l3), (4, .int l4), (5, .int l5)] []) (l1 : Int32) (l2 : Int32) (l3 : Int32) (l5 : Int32) (s0 : Int32) (V0 : hf_V) : hf_J C (hf_dMI om b) (ndX4_fitting_49 k6 l1 l2 l3 l5 s0 V0) (hf_M om b V0) 49 [(0, .ref om), (1, .int l1), (2, .int l2), (3, .int l3), (5, .int l5)] [.int s0] := by
  refine hr_iconst o (0 : Int32) dX4_fitting_49 (by decide) ?_
  exact nlX4_fitting_50 o k6 hk6 l1 l2 l3 l5 s0 (0 : Int32) V0
def ndX4_fitting_6 (k6 : Int32 → Int32 → Int32 → Int32 → Int32 → hf_V → Option (Int32 × hf_V)) (l1 : Int32) (l2 : Int32) (l3 : Int32) (l4 : Int32) (l5 : Int32) (V0 : hf_V) : Option (Int32 × hf_V) :=
  (hf_ld 123 (V0.2.2.2.1 20) (1 : Int32)).bind fun x1 =>
  if x1 ≤ l5 then (some (l4, V0)) else
  if l5 = l2 then (ndX4_fitting_49 k6 l1 l2 l3 l5 l4 V0) else
  (spX4_isOf l1 l5).bind fun x2 =>
  if x2 = 0 then (ndX4_fitting_49 k6 l1 l2 l3 l5 l4 V0) else
  hf_b2 (spX4_fitOf l5 l2 V0) fun x4 V3 =>
  if x4 = l3 then (ndX4_fitting_50 k6 l1 l2 l3 l5 l4 (1 : Int32) V3) else
  ndX4_fitting_49 k6 l1 l2 l3 l5 l4 V3
theorem nlX4_fitting_6 {C : hf_X} {om : Nat} {b : hf_H} (o : hf_In C cX4_fitting RX4 6 (some .int) 3 67) (k6 : Int32 → Int32 → Int32 → Int32 → Int32 → hf_V → Option (Int32 × hf_V)) (hk6 : ∀ (l1 : Int32) (l2 : Int32) (l3 : Int32) (l4 : Int32) (l5 : Int32) (V0 : hf_V), hf_J C (hf_dMI om b) (k6 l1 l2 l3 l4 l5 V0) (hf_M om b V0) 6 [(0, .ref om), (1, .int l1), (2, .int l2), (3, .int l3), (4, .int l4), (5, .int l5)] []) (l1 : Int32) (l2 : Int32) (l3 : Int32) (l4 : Int32) (l5 : Int32) (V0 : hf_V) : hf_J C (hf_dMI om b) (ndX4_fitting_6 k6 l1 l2 l3 l4 l5 V0) (hf_M om b V0) 6 [(0, .ref om), (1, .int l1), (2, .int l2), (3, .int l3), (4, .int l4), (5, .int l5)] [] := by
  refine hr_iload o 5 dX4_fitting_6 rfl ?_
  refine hr_aload_n o 0 dX4_fitting_8 rfl ?_
  refine mr_get o flX4_39 dX4_fitting_9 (.ref (om + 10)) rfl ?_
  refine hr_iconst o (1 : Int32) dX4_fitting_12 (by decide) ?_
  refine mr_iald o 20 10 123 rfl (by decide) rfl dX4_fitting_13 (fun x1 => ?_)
  refine hr_icmp_ge o 59 dX4_fitting_14 (by decide) (fun _ => ?_) (fun _ => ?_)
  · refine hr_iload o 4 dX4_fitting_59 rfl ?_
    exact hr_iret o dX4_fitting_61 rfl rfl
  refine hr_iload o 4 dX4_fitting_17 rfl ?_
  refine hr_iload o 5 dX4_fitting_19 rfl ?_
  refine hr_iload_n o 2 dX4_fitting_21 rfl ?_
  refine hr_icmp_eq o 49 dX4_fitting_22 (by decide) (fun _ => ?_) (fun _ => ?_)
  · refine hr_sub [0, 1, 2, 3, 5] rfl ?_
    exact nlX4_fitting_49 o k6 hk6 l1 l2 l3 l5 l4 V0
  refine hr_iload_n o 1 dX4_fitting_25 rfl ?_
  refine hr_iload o 5 dX4_fitting_26 rfl ?_
  refine pr_callI o msX4_215 dX4_fitting_28 [.int l1, .int l5] (fun zr ze => mtX4_isOf l1 l5 zr ze) rfl rfl (Nat.le_of_ble_eq_true rfl) ⟨by decide, by decide⟩ (fun x2 => ?_)
  refine hr_if_eq o 49 dX4_fitting_31 (by decide) (fun _ => ?_) (fun _ => ?_)
  · refine hr_sub [0, 1, 2, 3, 5] rfl ?_
    exact nlX4_fitting_49 o k6 hk6 l1 l2 l3 l5 l4 V0
  refine hr_aload_n o 0 dX4_fitting_34 rfl ?_
  refine hr_iload o 5 dX4_fitting_35 rfl ?_
  refine hr_iload_n o 2 dX4_fitting_37 rfl ?_
  refine mr_callI o mvX4_326 dX4_fitting_38 [.int l5, .int l2] (fun zr zV ze => mtX4_fitOf l5 l2 V0 zr zV ze) rfl rfl (Nat.le_of_ble_eq_true rfl) ⟨by decide, by decide⟩ (fun x4 V3 => ?_)
  refine hr_iload_n o 3 dX4_fitting_41 rfl ?_
  refine hr_icmp_ne o 49 dX4_fitting_42 (by decide) (fun _ => ?_) (fun _ => ?_)
  · refine hr_iconst o (1 : Int32) dX4_fitting_45 (by decide) ?_
    refine hr_goto o 50 dX4_fitting_46 (by decide) ?_
    refine hr_sub [0, 1, 2, 3, 5] rfl ?_
    exact nlX4_fitting_50 o k6 hk6 l1 l2 l3 l5 l4 (1 : Int32) V3
  refine hr_sub [0, 1, 2, 3, 5] rfl ?_
  exact nlX4_fitting_49 o k6 hk6 l1 l2 l3 l5 l4 V3
def lpX4_fitting_6  : Nat → Int32 → Int32 → Int32 → Int32 → Int32 → hf_V → Option (Int32 × hf_V)
  | 0 => fun _ _ _ _ _ _ => none
  | n + 1 => fun l1 l2 l3 l4 l5 V0 => ndX4_fitting_6  (lpX4_fitting_6  n) l1 l2 l3 l4 l5 V0
theorem llX4_fitting_6 {C : hf_X} {om : Nat} {b : hf_H} (o : hf_In C cX4_fitting RX4 6 (some .int) 3 67)   (n : Nat) : ∀ (l1 : Int32) (l2 : Int32) (l3 : Int32) (l4 : Int32) (l5 : Int32) (V0 : hf_V), hf_J C (hf_dMI om b) ((lpX4_fitting_6  n) l1 l2 l3 l4 l5 V0) (hf_M om b V0) 6 [(0, .ref om), (1, .int l1), (2, .int l2), (3, .int l3), (4, .int l4), (5, .int l5)] [] := by
  induction n with
  | zero => exact fun _ _ _ _ _ _ => hr_none
  | succ n ih => exact fun l1 l2 l3 l4 l5 V0 => nlX4_fitting_6 o  (lpX4_fitting_6  n)  ih l1 l2 l3 l4 l5 V0
def spX4_fitting (l1 : Int32) (l2 : Int32) (l3 : Int32) (V0 : hf_V) : Option (Int32 × hf_V) :=
  lpX4_fitting_6 hf_N l1 l2 l3 (0 : Int32) (0 : Int32) V0
theorem jtX4_fitting {C : hf_X} {om : Nat} {b : hf_H} (o : hf_In C cX4_fitting RX4 6 (some .int) 3 67) (l1 : Int32) (l2 : Int32) (l3 : Int32) (V0 : hf_V) : hf_J C (hf_dMI om b) (spX4_fitting l1 l2 l3 V0) (hf_M om b V0) 0 [(0, .ref om), (1, .int l1), (2, .int l2), (3, .int l3)] [] := by
  refine hr_iconst o (0 : Int32) dX4_fitting_0 (by decide) ?_
  refine hr_istore o [(4, .int (0 : Int32)), (0, .ref om), (1, .int l1), (2, .int l2), (3, .int l3)] dX4_fitting_1 (by decide) rfl ?_
  refine hr_iconst o (0 : Int32) dX4_fitting_3 (by decide) ?_
  refine hr_istore o [(5, .int (0 : Int32)), (4, .int (0 : Int32)), (0, .ref om), (1, .int l1), (2, .int l2), (3, .int l3)] dX4_fitting_4 (by decide) rfl ?_
  refine hr_sub [2, 3, 4, 5, 1, 0] rfl ?_
  exact llX4_fitting_6 o hf_N l1 l2 l3 (0 : Int32) (0 : Int32) V0
theorem mtX4_fitting {om : Nat} {b : hf_H} (l1 : Int32) (l2 : Int32) (l3 : Int32) (V0 : hf_V) (r : Int32) (V1 : hf_V) (e : spX4_fitting l1 l2 l3 V0 = some (r, V1)) : hf_Con yX4_fitting cX4_fitting 6 (some .int) 3 67 [.ref om, .int l1, .int l2, .int l3] (hf_M om b V0) (.returned (some (.int r)), hf_M om b V1) := hf_entry (dec := hf_dMI om b) (by decide) [.ref om, .int l1, .int l2, .int l3] (Nat.le_of_ble_eq_true rfl) [(0, .ref om), (1, .int l1), (2, .int l2), (3, .int l3)] rfl e (fun C o _ => jtX4_fitting o l1 l2 l3 V0)

/-! wordsOf -/
def ndX4_wordsOf_97 (k97 : Int32 → hf_V → Option hf_V) (l2 : Int32) (V0 : hf_V) : Option hf_V :=
  if (13 : Int32) ≤ l2 then (some V0) else
  hf_sd 13 l2 (fun j => hf_uL V0 19 j (0 : Int64)) fun V1 =>
  hf_let (l2 + (1 : Int32)) fun x2 =>
  k97 x2 V1
theorem nlX4_wordsOf_97 {C : hf_X} {om : Nat} {b : hf_H} (o : hf_In C cX4_wordsOf RX4 3 (none) 2 45) (k97 : Int32 → hf_V → Option hf_V) (hk97 : ∀ (l2 : Int32) (V0 : hf_V), hf_J C (hf_dMV om b) (k97 l2 V0) (hf_M om b V0) 97 [(0, .ref om), (2, .int l2)] []) (l2 : Int32) (V0 : hf_V) : hf_J C (hf_dMV om b) (ndX4_wordsOf_97 k97 l2 V0) (hf_M om b V0) 97 [(0, .ref om), (2, .int l2)] [] := by
  refine hr_iload_n o 1 dX4_wordsOf_97 rfl ?_
  refine hr_bipush o (13 : Int32) dX4_wordsOf_98 (by decide) ?_
  refine hr_icmp_ge o 116 dX4_wordsOf_100 (by decide) (fun _ => ?_) (fun _ => ?_)
  · exact hr_vret o dX4_wordsOf_116 rfl
  refine hr_aload_n o 0 dX4_wordsOf_103 rfl ?_
  refine mr_get o flX4_36 dX4_wordsOf_104 (.ref (om + 9)) rfl ?_
  refine hr_iload_n o 1 dX4_wordsOf_107 rfl ?_
  refine hr_lconst o (0 : Int64) dX4_wordsOf_108 (by decide) ?_
  refine mr_last o 19 9 13 rfl (by decide) rfl dX4_wordsOf_109 (fun V1 => ?_)
  refine hr_iincN o (1 : Int32) 1 (fun y => [(2, .int y), (0, .ref om)]) dX4_wordsOf_110 rfl (by decide) (by decide) (fun y => rfl) (fun x2 => ?_)
  refine hr_goto o 97 dX4_wordsOf_113 (by decide) ?_
  refine hr_sub [1, 0] rfl ?_
  exact hk97 x2 V1
def lpX4_wordsOf_97  : Nat → Int32 → hf_V → Option hf_V
  | 0 => fun _ _ => none
  | n + 1 => fun l2 V0 => ndX4_wordsOf_97  (lpX4_wordsOf_97  n) l2 V0
theorem llX4_wordsOf_97 {C : hf_X} {om : Nat} {b : hf_H} (o : hf_In C cX4_wordsOf RX4 3 (none) 2 45)   (n : Nat) : ∀ (l2 : Int32) (V0 : hf_V), hf_J C (hf_dMV om b) ((lpX4_wordsOf_97  n) l2 V0) (hf_M om b V0) 97 [(0, .ref om), (2, .int l2)] [] := by
  induction n with
  | zero => exact fun _ _ => hr_none
  | succ n ih => exact fun l2 V0 => nlX4_wordsOf_97 o  (lpX4_wordsOf_97  n)  ih l2 V0
def ndX4_wordsOf_78  (l1 : Int32) (s1 : Int32) (s2 : Int64) (V0 : hf_V) : Option hf_V :=
  hf_sd 13 s1 (fun j => hf_uL V0 19 j s2) fun V1 =>
  hf_b2 (spX4_hasOf l1 V1) fun x3 V2 =>
  (spX4_bits x3).bind fun x4 =>
  hf_sd 13 (5 : Int32) (fun j => hf_uL V2 19 j (Int32.toInt64 x4)) fun V5 =>
  lpX4_wordsOf_97 hf_N (6 : Int32) V5
theorem nlX4_wordsOf_78 {C : hf_X} {om : Nat} {b : hf_H} (o : hf_In C cX4_wordsOf RX4 3 (none) 2 45)   (l1 : Int32) (s1 : Int32) (s2 : Int64) (V0 : hf_V) : hf_J C (hf_dMV om b) (ndX4_wordsOf_78 l1 s1 s2 V0) (hf_M om b V0) 78 [(0, .ref om), (1, .int l1)] [.long s2, .int s1, .ref (om + 9)] := by
  refine mr_last o 19 9 13 rfl (by decide) rfl dX4_wordsOf_78 (fun V1 => ?_)
  refine hr_aload_n o 0 dX4_wordsOf_79 rfl ?_
  refine mr_get o flX4_36 dX4_wordsOf_80 (.ref (om + 9)) rfl ?_
  refine hr_iconst o (5 : Int32) dX4_wordsOf_83 (by decide) ?_
  refine hr_aload_n o 0 dX4_wordsOf_84 rfl ?_
  refine hr_iload_n o 1 dX4_wordsOf_85 rfl ?_
  refine mr_callI o mvX4_346 dX4_wordsOf_86 [.int l1] (fun zr zV ze => mtX4_hasOf l1 V1 zr zV ze) rfl rfl (Nat.le_of_ble_eq_true rfl) ⟨by decide, by decide⟩ (fun x3 V2 => ?_)
  refine pr_callI o msX4_374 dX4_wordsOf_89 [.int x3] (fun zr ze => mtX4_bits x3 zr ze) rfl rfl (Nat.le_of_ble_eq_true rfl) ⟨by decide, by decide⟩ (fun x4 => ?_)
  refine hr_i2l o dX4_wordsOf_92 ?_
  refine mr_last o 19 9 13 rfl (by decide) rfl dX4_wordsOf_93 (fun V5 => ?_)
  refine hr_bipush o (6 : Int32) dX4_wordsOf_94 (by decide) ?_
  refine hr_istore_n o [(2, .int (6 : Int32)), (0, .ref om), (1, .int l1)] dX4_wordsOf_96 (by decide) rfl ?_
  refine hr_sub [1, 0] rfl ?_
  exact llX4_wordsOf_97 o hf_N (6 : Int32) V5
def spX4_wordsOf (l1 : Int32) (V0 : hf_V) : Option hf_V :=
  hf_sd 13 (0 : Int32) (fun j => hf_uL V0 19 j (Int32.toInt64 l1)) fun V1 =>
  hf_b2 (spX4_buyerOf l1 (0 : Int32) V1) fun x3 V2 =>
  hf_sd 13 (1 : Int32) (fun j => hf_uL V2 19 j (Int32.toInt64 x3)) fun V4 =>
  hf_b2 (spX4_buyerOf l1 (1 : Int32) V4) fun x6 V5 =>
  hf_sd 13 (2 : Int32) (fun j => hf_uL V5 19 j (Int32.toInt64 x6)) fun V7 =>
  (hf_ld 123 (V7.2.2.2.1 20) (3 : Int32)).bind fun x8 =>
  hf_sd 13 (3 : Int32) (fun j => hf_uL V7 19 j (Int32.toInt64 x8)) fun V9 =>
  hf_b2 (spX4_isDusk V9) fun x11 V10 =>
  if x11 = 0 then ((hf_ld 123 (V10.2.2.2.1 20) (6 : Int32)).bind fun x12 =>
  (hf_ld 123 (V10.2.2.2.1 20) (3 : Int32)).bind fun x13 =>
  ndX4_wordsOf_78 l1 (4 : Int32) (Int32.toInt64 (x12 - x13)) V10) else
  ndX4_wordsOf_78 l1 (4 : Int32) (0 : Int64) V10
theorem jtX4_wordsOf {C : hf_X} {om : Nat} {b : hf_H} (o : hf_In C cX4_wordsOf RX4 3 (none) 2 45) (l1 : Int32) (V0 : hf_V) : hf_J C (hf_dMV om b) (spX4_wordsOf l1 V0) (hf_M om b V0) 0 [(0, .ref om), (1, .int l1)] [] := by
  refine hr_aload_n o 0 dX4_wordsOf_0 rfl ?_
  refine mr_get o flX4_36 dX4_wordsOf_1 (.ref (om + 9)) rfl ?_
  refine hr_iconst o (0 : Int32) dX4_wordsOf_4 (by decide) ?_
  refine hr_iload_n o 1 dX4_wordsOf_5 rfl ?_
  refine hr_i2l o dX4_wordsOf_6 ?_
  refine mr_last o 19 9 13 rfl (by decide) rfl dX4_wordsOf_7 (fun V1 => ?_)
  refine hr_aload_n o 0 dX4_wordsOf_8 rfl ?_
  refine mr_get o flX4_36 dX4_wordsOf_9 (.ref (om + 9)) rfl ?_
  refine hr_iconst o (1 : Int32) dX4_wordsOf_12 (by decide) ?_
  refine hr_aload_n o 0 dX4_wordsOf_13 rfl ?_
  refine hr_iload_n o 1 dX4_wordsOf_14 rfl ?_
  refine hr_iconst o (0 : Int32) dX4_wordsOf_15 (by decide) ?_
  refine mr_callI o mvX4_314 dX4_wordsOf_16 [.int l1, .int (0 : Int32)] (fun zr zV ze => mtX4_buyerOf l1 (0 : Int32) V1 zr zV ze) rfl rfl (Nat.le_of_ble_eq_true rfl) ⟨by decide, by decide⟩ (fun x3 V2 => ?_)
  refine hr_i2l o dX4_wordsOf_19 ?_
  refine mr_last o 19 9 13 rfl (by decide) rfl dX4_wordsOf_20 (fun V4 => ?_)
  refine hr_aload_n o 0 dX4_wordsOf_21 rfl ?_
  refine mr_get o flX4_36 dX4_wordsOf_22 (.ref (om + 9)) rfl ?_
  refine hr_iconst o (2 : Int32) dX4_wordsOf_25 (by decide) ?_
  refine hr_aload_n o 0 dX4_wordsOf_26 rfl ?_
  refine hr_iload_n o 1 dX4_wordsOf_27 rfl ?_
  refine hr_iconst o (1 : Int32) dX4_wordsOf_28 (by decide) ?_
  refine mr_callI o mvX4_314 dX4_wordsOf_29 [.int l1, .int (1 : Int32)] (fun zr zV ze => mtX4_buyerOf l1 (1 : Int32) V4 zr zV ze) rfl rfl (Nat.le_of_ble_eq_true rfl) ⟨by decide, by decide⟩ (fun x6 V5 => ?_)
  refine hr_i2l o dX4_wordsOf_32 ?_
  refine mr_last o 19 9 13 rfl (by decide) rfl dX4_wordsOf_33 (fun V7 => ?_)
  refine hr_aload_n o 0 dX4_wordsOf_34 rfl ?_
  refine mr_get o flX4_36 dX4_wordsOf_35 (.ref (om + 9)) rfl ?_
  refine hr_iconst o (3 : Int32) dX4_wordsOf_38 (by decide) ?_
  refine hr_aload_n o 0 dX4_wordsOf_39 rfl ?_
  refine mr_get o flX4_39 dX4_wordsOf_40 (.ref (om + 10)) rfl ?_
  refine hr_iconst o (3 : Int32) dX4_wordsOf_43 (by decide) ?_
  refine mr_iald o 20 10 123 rfl (by decide) rfl dX4_wordsOf_44 (fun x8 => ?_)
  refine hr_i2l o dX4_wordsOf_45 ?_
  refine mr_last o 19 9 13 rfl (by decide) rfl dX4_wordsOf_46 (fun V9 => ?_)
  refine hr_aload_n o 0 dX4_wordsOf_47 rfl ?_
  refine mr_get o flX4_36 dX4_wordsOf_48 (.ref (om + 9)) rfl ?_
  refine hr_iconst o (4 : Int32) dX4_wordsOf_51 (by decide) ?_
  refine hr_aload_n o 0 dX4_wordsOf_52 rfl ?_
  refine mr_callI o mvX4_298 dX4_wordsOf_53 [] (fun zr zV ze => mtX4_isDusk  V9 zr zV ze) rfl rfl (Nat.le_of_ble_eq_true rfl) ⟨by decide, by decide⟩ (fun x11 V10 => ?_)
  refine hr_if_eq o 63 dX4_wordsOf_56 (by decide) (fun _ => ?_) (fun _ => ?_)
  · refine hr_aload_n o 0 dX4_wordsOf_63 rfl ?_
    refine mr_get o flX4_39 dX4_wordsOf_64 (.ref (om + 10)) rfl ?_
    refine hr_bipush o (6 : Int32) dX4_wordsOf_67 (by decide) ?_
    refine mr_iald o 20 10 123 rfl (by decide) rfl dX4_wordsOf_69 (fun x12 => ?_)
    refine hr_aload_n o 0 dX4_wordsOf_70 rfl ?_
    refine mr_get o flX4_39 dX4_wordsOf_71 (.ref (om + 10)) rfl ?_
    refine hr_iconst o (3 : Int32) dX4_wordsOf_74 (by decide) ?_
    refine mr_iald o 20 10 123 rfl (by decide) rfl dX4_wordsOf_75 (fun x13 => ?_)
    refine hr_isub o dX4_wordsOf_76 ?_
    refine hr_i2l o dX4_wordsOf_77 ?_
    exact nlX4_wordsOf_78 o l1 (4 : Int32) (Int32.toInt64 (x12 - x13)) V10
  refine hr_lconst o (0 : Int64) dX4_wordsOf_59 (by decide) ?_
  refine hr_goto o 78 dX4_wordsOf_60 (by decide) ?_
  exact nlX4_wordsOf_78 o l1 (4 : Int32) (0 : Int64) V10
theorem mtX4_wordsOf {om : Nat} {b : hf_H} (l1 : Int32) (V0 V1 : hf_V) (e : spX4_wordsOf l1 V0 = some V1) : hf_Con yX4_wordsOf cX4_wordsOf 3 (none) 2 45 [.ref om, .int l1] (hf_M om b V0) (.returned none, hf_M om b V1) := hf_entry (dec := hf_dMV om b) (by decide) [.ref om, .int l1] (Nat.le_of_ble_eq_true rfl) [(0, .ref om), (1, .int l1)] rfl e (fun C o _ => jtX4_wordsOf o l1 V0)

/-! wordsFor -/
theorem mvX4_380 : hf_MV RX4 380 RX4 yX4_wordsOf cX4_wordsOf 3 (none) 1 := ⟨lw_V q1882 q1884 qs129 q162 q1885, by decide +kernel⟩
theorem mvX4_383 : hf_MV RX4 383 RX4 yX4_fitting cX4_fitting 6 (some .int) 3 := ⟨lw_V q1886 q1888 qs130 q162 q1889, by decide +kernel⟩
theorem mvX4_387 : hf_MV RX4 387 RX4 yX4_atStalls cX4_atStalls 3 (some .int) 0 := ⟨lw_V q1890 q1892 qs131 q162 q1893, by decide +kernel⟩
def spX4_wordsFor (l1 : Int32) (l2 : Int32) (V0 : hf_V) : Option hf_V :=
  (spX4_wordsOf l1 V0).bind fun V1 =>
  hf_sd 13 (6 : Int32) (fun j => hf_uL V1 19 j (Int32.toInt64 l2)) fun V2 =>
  hf_b2 (spX4_halfOf l2 (0 : Int32) V2) fun x4 V3 =>
  hf_sd 13 (7 : Int32) (fun j => hf_uL V3 19 j (Int32.toInt64 x4)) fun V5 =>
  hf_b2 (spX4_halfOf l2 (1 : Int32) V5) fun x7 V6 =>
  hf_sd 13 (8 : Int32) (fun j => hf_uL V6 19 j (Int32.toInt64 x7)) fun V8 =>
  hf_b2 (spX4_priceOf l2 V8) fun x10 V9 =>
  hf_sd 13 (9 : Int32) (fun j => hf_uL V9 19 j (Int32.toInt64 x10)) fun V11 =>
  hf_b2 (spX4_hasOf l1 V11) fun x13 V12 =>
  hf_b2 (spX4_fitting x13 l2 (2 : Int32) V12) fun x15 V14 =>
  hf_sd 13 (10 : Int32) (fun j => hf_uL V14 19 j (Int32.toInt64 x15)) fun V16 =>
  hf_b2 (spX4_hasOf l1 V16) fun x18 V17 =>
  hf_b2 (spX4_fitting x18 l2 (1 : Int32) V17) fun x20 V19 =>
  hf_sd 13 (11 : Int32) (fun j => hf_uL V19 19 j (Int32.toInt64 x20)) fun V21 =>
  hf_b2 (spX4_sawOf l1 V21) fun x23 V22 =>
  hf_b2 (spX4_atStalls V22) fun x25 V24 =>
  hf_b2 (spX4_fitting (x23 &&& x25) l2 (2 : Int32) V24) fun x27 V26 =>
  hf_sd 13 (12 : Int32) (fun j => hf_uL V26 19 j (Int32.toInt64 x27)) fun V28 =>
  some V28
theorem jtX4_wordsFor {C : hf_X} {om : Nat} {b : hf_H} (o : hf_In C cX4_wordsFor RX4 3 (none) 4 92) (l1 : Int32) (l2 : Int32) (V0 : hf_V) : hf_J C (hf_dMV om b) (spX4_wordsFor l1 l2 V0) (hf_M om b V0) 0 [(0, .ref om), (1, .int l1), (2, .int l2)] [] := by
  refine hr_aload_n o 0 dX4_wordsFor_0 rfl ?_
  refine hr_iload_n o 1 dX4_wordsFor_1 rfl ?_
  refine mr_callV o mvX4_380 dX4_wordsFor_2 [.int l1] (fun zV ze => mtX4_wordsOf l1 V0 zV ze) rfl rfl (Nat.le_of_ble_eq_true rfl) ⟨by decide, by decide⟩ (fun V1 => ?_)
  refine hr_aload_n o 0 dX4_wordsFor_5 rfl ?_
  refine mr_get o flX4_36 dX4_wordsFor_6 (.ref (om + 9)) rfl ?_
  refine hr_bipush o (6 : Int32) dX4_wordsFor_9 (by decide) ?_
  refine hr_iload_n o 2 dX4_wordsFor_11 rfl ?_
  refine hr_i2l o dX4_wordsFor_12 ?_
  refine mr_last o 19 9 13 rfl (by decide) rfl dX4_wordsFor_13 (fun V2 => ?_)
  refine hr_aload_n o 0 dX4_wordsFor_14 rfl ?_
  refine mr_get o flX4_36 dX4_wordsFor_15 (.ref (om + 9)) rfl ?_
  refine hr_bipush o (7 : Int32) dX4_wordsFor_18 (by decide) ?_
  refine hr_aload_n o 0 dX4_wordsFor_20 rfl ?_
  refine hr_iload_n o 2 dX4_wordsFor_21 rfl ?_
  refine hr_iconst o (0 : Int32) dX4_wordsFor_22 (by decide) ?_
  refine mr_callI o mvX4_301 dX4_wordsFor_23 [.int l2, .int (0 : Int32)] (fun zr zV ze => mtX4_halfOf l2 (0 : Int32) V2 zr zV ze) rfl rfl (Nat.le_of_ble_eq_true rfl) ⟨by decide, by decide⟩ (fun x4 V3 => ?_)
  refine hr_i2l o dX4_wordsFor_26 ?_
  refine mr_last o 19 9 13 rfl (by decide) rfl dX4_wordsFor_27 (fun V5 => ?_)
  refine hr_aload_n o 0 dX4_wordsFor_28 rfl ?_
  refine mr_get o flX4_36 dX4_wordsFor_29 (.ref (om + 9)) rfl ?_
  refine hr_bipush o (8 : Int32) dX4_wordsFor_32 (by decide) ?_
  refine hr_aload_n o 0 dX4_wordsFor_34 rfl ?_
  refine hr_iload_n o 2 dX4_wordsFor_35 rfl ?_
  refine hr_iconst o (1 : Int32) dX4_wordsFor_36 (by decide) ?_
  refine mr_callI o mvX4_301 dX4_wordsFor_37 [.int l2, .int (1 : Int32)] (fun zr zV ze => mtX4_halfOf l2 (1 : Int32) V5 zr zV ze) rfl rfl (Nat.le_of_ble_eq_true rfl) ⟨by decide, by decide⟩ (fun x7 V6 => ?_)
  refine hr_i2l o dX4_wordsFor_40 ?_
  refine mr_last o 19 9 13 rfl (by decide) rfl dX4_wordsFor_41 (fun V8 => ?_)
  refine hr_aload_n o 0 dX4_wordsFor_42 rfl ?_
  refine mr_get o flX4_36 dX4_wordsFor_43 (.ref (om + 9)) rfl ?_
  refine hr_bipush o (9 : Int32) dX4_wordsFor_46 (by decide) ?_
  refine hr_aload_n o 0 dX4_wordsFor_48 rfl ?_
  refine hr_iload_n o 2 dX4_wordsFor_49 rfl ?_
  refine mr_callI o mvX4_340 dX4_wordsFor_50 [.int l2] (fun zr zV ze => mtX4_priceOf l2 V8 zr zV ze) rfl rfl (Nat.le_of_ble_eq_true rfl) ⟨by decide, by decide⟩ (fun x10 V9 => ?_)
  refine hr_i2l o dX4_wordsFor_53 ?_
  refine mr_last o 19 9 13 rfl (by decide) rfl dX4_wordsFor_54 (fun V11 => ?_)
  refine hr_aload_n o 0 dX4_wordsFor_55 rfl ?_
  refine mr_get o flX4_36 dX4_wordsFor_56 (.ref (om + 9)) rfl ?_
  refine hr_bipush o (10 : Int32) dX4_wordsFor_59 (by decide) ?_
  refine hr_aload_n o 0 dX4_wordsFor_61 rfl ?_
  refine hr_aload_n o 0 dX4_wordsFor_62 rfl ?_
  refine hr_iload_n o 1 dX4_wordsFor_63 rfl ?_
  refine mr_callI o mvX4_346 dX4_wordsFor_64 [.int l1] (fun zr zV ze => mtX4_hasOf l1 V11 zr zV ze) rfl rfl (Nat.le_of_ble_eq_true rfl) ⟨by decide, by decide⟩ (fun x13 V12 => ?_)
  refine hr_iload_n o 2 dX4_wordsFor_67 rfl ?_
  refine hr_iconst o (2 : Int32) dX4_wordsFor_68 (by decide) ?_
  refine mr_callI o mvX4_383 dX4_wordsFor_69 [.int x13, .int l2, .int (2 : Int32)] (fun zr zV ze => mtX4_fitting x13 l2 (2 : Int32) V12 zr zV ze) rfl rfl (Nat.le_of_ble_eq_true rfl) ⟨by decide, by decide⟩ (fun x15 V14 => ?_)
  refine hr_i2l o dX4_wordsFor_72 ?_
  refine mr_last o 19 9 13 rfl (by decide) rfl dX4_wordsFor_73 (fun V16 => ?_)
  refine hr_aload_n o 0 dX4_wordsFor_74 rfl ?_
  refine mr_get o flX4_36 dX4_wordsFor_75 (.ref (om + 9)) rfl ?_
  refine hr_bipush o (11 : Int32) dX4_wordsFor_78 (by decide) ?_
  refine hr_aload_n o 0 dX4_wordsFor_80 rfl ?_
  refine hr_aload_n o 0 dX4_wordsFor_81 rfl ?_
  refine hr_iload_n o 1 dX4_wordsFor_82 rfl ?_
  refine mr_callI o mvX4_346 dX4_wordsFor_83 [.int l1] (fun zr zV ze => mtX4_hasOf l1 V16 zr zV ze) rfl rfl (Nat.le_of_ble_eq_true rfl) ⟨by decide, by decide⟩ (fun x18 V17 => ?_)
  refine hr_iload_n o 2 dX4_wordsFor_86 rfl ?_
  refine hr_iconst o (1 : Int32) dX4_wordsFor_87 (by decide) ?_
  refine mr_callI o mvX4_383 dX4_wordsFor_88 [.int x18, .int l2, .int (1 : Int32)] (fun zr zV ze => mtX4_fitting x18 l2 (1 : Int32) V17 zr zV ze) rfl rfl (Nat.le_of_ble_eq_true rfl) ⟨by decide, by decide⟩ (fun x20 V19 => ?_)
  refine hr_i2l o dX4_wordsFor_91 ?_
  refine mr_last o 19 9 13 rfl (by decide) rfl dX4_wordsFor_92 (fun V21 => ?_)
  refine hr_aload_n o 0 dX4_wordsFor_93 rfl ?_
  refine mr_get o flX4_36 dX4_wordsFor_94 (.ref (om + 9)) rfl ?_
  refine hr_bipush o (12 : Int32) dX4_wordsFor_97 (by decide) ?_
  refine hr_aload_n o 0 dX4_wordsFor_99 rfl ?_
  refine hr_aload_n o 0 dX4_wordsFor_100 rfl ?_
  refine hr_iload_n o 1 dX4_wordsFor_101 rfl ?_
  refine mr_callI o mvX4_349 dX4_wordsFor_102 [.int l1] (fun zr zV ze => mtX4_sawOf l1 V21 zr zV ze) rfl rfl (Nat.le_of_ble_eq_true rfl) ⟨by decide, by decide⟩ (fun x23 V22 => ?_)
  refine hr_aload_n o 0 dX4_wordsFor_105 rfl ?_
  refine mr_callI o mvX4_387 dX4_wordsFor_106 [] (fun zr zV ze => mtX4_atStalls  V22 zr zV ze) rfl rfl (Nat.le_of_ble_eq_true rfl) ⟨by decide, by decide⟩ (fun x25 V24 => ?_)
  refine hr_iand o dX4_wordsFor_109 ?_
  refine hr_iload_n o 2 dX4_wordsFor_110 rfl ?_
  refine hr_iconst o (2 : Int32) dX4_wordsFor_111 (by decide) ?_
  refine mr_callI o mvX4_383 dX4_wordsFor_112 [.int (x23 &&& x25), .int l2, .int (2 : Int32)] (fun zr zV ze => mtX4_fitting (x23 &&& x25) l2 (2 : Int32) V24 zr zV ze) rfl rfl (Nat.le_of_ble_eq_true rfl) ⟨by decide, by decide⟩ (fun x27 V26 => ?_)
  refine hr_i2l o dX4_wordsFor_115 ?_
  refine mr_last o 19 9 13 rfl (by decide) rfl dX4_wordsFor_116 (fun V28 => ?_)
  exact hr_vret o dX4_wordsFor_117 rfl
theorem mtX4_wordsFor {om : Nat} {b : hf_H} (l1 : Int32) (l2 : Int32) (V0 V1 : hf_V) (e : spX4_wordsFor l1 l2 V0 = some V1) : hf_Con yX4_wordsFor cX4_wordsFor 3 (none) 4 92 [.ref om, .int l1, .int l2] (hf_M om b V0) (.returned none, hf_M om b V1) := hf_entry (dec := hf_dMV om b) (by decide) [.ref om, .int l1, .int l2] (Nat.le_of_ble_eq_true rfl) [(0, .ref om), (1, .int l1), (2, .int l2)] rfl e (fun C o _ => jtX4_wordsFor o l1 l2 V0)

/-! nextFor -/
theorem mvX4_394 : hf_MV RX4 394 RX4 yX4_wordsFor cX4_wordsFor 3 (none) 2 := ⟨lw_V q1878 q1880 qs128 q162 q1881, by decide +kernel⟩
theorem mvX4_397 : hf_MV RX4 397 RX4 yX4_summedBy cX4_summedBy 5 (some .long) 2 := ⟨lw_V q1894 q1896 qs132 q162 q1897, by decide +kernel⟩
def ndX4_nextFor_65 (k8 : Int32 → Int32 → Int32 → Int64 → Int32 → hf_V → Option (Int32 × hf_V)) (l1 : Int32) (l2 : Int32) (l3 : Int32) (l4 : Int64) (l6 : Int32) (V0 : hf_V) : Option (Int32 × hf_V) :=
  hf_let (l6 + (1 : Int32)) fun x1 =>
  k8 l1 l2 l3 l4 x1 V0
theorem nlX4_nextFor_65 {C : hf_X} {om : Nat} {b : hf_H} (o : hf_In C cX4_nextFor RX4 9 (some .int) 5 114) (k8 : Int32 → Int32 → Int32 → Int64 → Int32 → hf_V → Option (Int32 × hf_V)) (hk8 : ∀ (l1 : Int32) (l2 : Int32) (l3 : Int32) (l4 : Int64) (l6 : Int32) (V0 : hf_V), hf_J C (hf_dMI om b) (k8 l1 l2 l3 l4 l6 V0) (hf_M om b V0) 8 [(0, .ref om), (1, .int l1), (2, .int l2), (3, .int l3), (4, .long l4), (6, .int l6)] []) (l1 : Int32) (l2 : Int32) (l3 : Int32) (l4 : Int64) (l6 : Int32) (V0 : hf_V) : hf_J C (hf_dMI om b) (ndX4_nextFor_65 k8 l1 l2 l3 l4 l6 V0) (hf_M om b V0) 65 [(0, .ref om), (1, .int l1), (2, .int l2), (3, .int l3), (4, .long l4), (6, .int l6)] [] := by
  refine hr_iincN o (1 : Int32) 5 (fun y => [(6, .int y), (0, .ref om), (1, .int l1), (2, .int l2), (3, .int l3), (4, .long l4)]) dX4_nextFor_65 rfl (by decide) (by decide) (fun y => rfl) (fun x1 => ?_)
  refine hr_goto o 8 dX4_nextFor_68 (by decide) ?_
  refine hr_sub [1, 2, 3, 4, 5, 0] rfl ?_
  exact hk8 l1 l2 l3 l4 x1 V0
def ndX4_nextFor_8 (k8 : Int32 → Int32 → Int32 → Int64 → Int32 → hf_V → Option (Int32 × hf_V)) (l1 : Int32) (l2 : Int32) (l3 : Int32) (l4 : Int64) (l6 : Int32) (V0 : hf_V) : Option (Int32 × hf_V) :=
  (hf_ld 123 (V0.2.2.2.1 20) (1 : Int32)).bind fun x1 =>
  if x1 ≤ l6 then (some (l3, V0)) else
  hf_b2 (spX4_canBuy l2 l6 V0) fun x3 V2 =>
  if x3 = 0 then (ndX4_nextFor_65 k8 l1 l2 l3 l4 l6 V2) else
  (spX4_wordsFor l2 l6 V2).bind fun V4 =>
  hf_b2 (spX4_summedBy l1 (0 : Int32) V4) fun x6 V5 =>
  if 0 < (lg_cmp x6 l4) then (ndX4_nextFor_65 k8 l1 l2 l6 x6 l6 V5) else
  ndX4_nextFor_65 k8 l1 l2 l3 l4 l6 V5
theorem nlX4_nextFor_8 {C : hf_X} {om : Nat} {b : hf_H} (o : hf_In C cX4_nextFor RX4 9 (some .int) 5 114) (k8 : Int32 → Int32 → Int32 → Int64 → Int32 → hf_V → Option (Int32 × hf_V)) (hk8 : ∀ (l1 : Int32) (l2 : Int32) (l3 : Int32) (l4 : Int64) (l6 : Int32) (V0 : hf_V), hf_J C (hf_dMI om b) (k8 l1 l2 l3 l4 l6 V0) (hf_M om b V0) 8 [(0, .ref om), (1, .int l1), (2, .int l2), (3, .int l3), (4, .long l4), (6, .int l6)] []) (l1 : Int32) (l2 : Int32) (l3 : Int32) (l4 : Int64) (l6 : Int32) (V0 : hf_V) : hf_J C (hf_dMI om b) (ndX4_nextFor_8 k8 l1 l2 l3 l4 l6 V0) (hf_M om b V0) 8 [(0, .ref om), (1, .int l1), (2, .int l2), (3, .int l3), (4, .long l4), (6, .int l6)] [] := by
  refine hr_iload o 5 dX4_nextFor_8 rfl ?_
  refine hr_aload_n o 0 dX4_nextFor_10 rfl ?_
  refine mr_get o flX4_39 dX4_nextFor_11 (.ref (om + 10)) rfl ?_
  refine hr_iconst o (1 : Int32) dX4_nextFor_14 (by decide) ?_
  refine mr_iald o 20 10 123 rfl (by decide) rfl dX4_nextFor_15 (fun x1 => ?_)
  refine hr_icmp_ge o 71 dX4_nextFor_16 (by decide) (fun _ => ?_) (fun _ => ?_)
  · refine hr_iload_n o 3 dX4_nextFor_71 rfl ?_
    exact hr_iret o dX4_nextFor_72 rfl rfl
  refine hr_aload_n o 0 dX4_nextFor_19 rfl ?_
  refine hr_iload_n o 2 dX4_nextFor_20 rfl ?_
  refine hr_iload o 5 dX4_nextFor_21 rfl ?_
  refine mr_callI o mvX4_365 dX4_nextFor_23 [.int l2, .int l6] (fun zr zV ze => mtX4_canBuy l2 l6 V0 zr zV ze) rfl rfl (Nat.le_of_ble_eq_true rfl) ⟨by decide, by decide⟩ (fun x3 V2 => ?_)
  refine hr_if_ne o 32 dX4_nextFor_26 (by decide) (fun _ => ?_) (fun _ => ?_)
  · refine hr_goto o 65 dX4_nextFor_29 (by decide) ?_
    exact nlX4_nextFor_65 o k8 hk8 l1 l2 l3 l4 l6 V2
  refine hr_aload_n o 0 dX4_nextFor_32 rfl ?_
  refine hr_iload_n o 2 dX4_nextFor_33 rfl ?_
  refine hr_iload o 5 dX4_nextFor_34 rfl ?_
  refine mr_callV o mvX4_394 dX4_nextFor_36 [.int l2, .int l6] (fun zV ze => mtX4_wordsFor l2 l6 V2 zV ze) rfl rfl (Nat.le_of_ble_eq_true rfl) ⟨by decide, by decide⟩ (fun V4 => ?_)
  refine hr_aload_n o 0 dX4_nextFor_39 rfl ?_
  refine hr_iload_n o 1 dX4_nextFor_40 rfl ?_
  refine hr_iconst o (0 : Int32) dX4_nextFor_41 (by decide) ?_
  refine mr_callL o mvX4_397 dX4_nextFor_42 [.int l1, .int (0 : Int32)] (fun zr zV ze => mtX4_summedBy l1 (0 : Int32) V4 zr zV ze) rfl rfl (Nat.le_of_ble_eq_true rfl) ⟨by decide, by decide⟩ (fun x6 V5 => ?_)
  refine hr_lstore o [(7, .long x6), (0, .ref om), (1, .int l1), (2, .int l2), (3, .int l3), (4, .long l4), (6, .int l6)] dX4_nextFor_45 (by decide) rfl ?_
  refine hr_lload o 0 dX4_nextFor_47 rfl ?_
  refine hr_lload o 5 dX4_nextFor_49 rfl ?_
  refine hr_lcmp o dX4_nextFor_51 ?_
  refine hr_if_gt o 58 dX4_nextFor_52 (by decide) (fun _ => ?_) (fun _ => ?_)
  · refine hr_iload o 6 dX4_nextFor_58 rfl ?_
    refine hr_istore_n o [(3, .int l6), (7, .long x6), (0, .ref om), (1, .int l1), (2, .int l2), (4, .long l4), (6, .int l6)] dX4_nextFor_60 (by decide) rfl ?_
    refine hr_lload o 1 dX4_nextFor_61 rfl ?_
    refine hr_lstore o [(4, .long x6), (3, .int l6), (7, .long x6), (0, .ref om), (1, .int l1), (2, .int l2), (6, .int l6)] dX4_nextFor_63 (by decide) rfl ?_
    refine hr_sub [3, 4, 5, 1, 0, 6] rfl ?_
    exact nlX4_nextFor_65 o k8 hk8 l1 l2 l6 x6 l6 V5
  refine hr_goto o 65 dX4_nextFor_55 (by decide) ?_
  refine hr_sub [1, 2, 3, 4, 5, 6] rfl ?_
  exact nlX4_nextFor_65 o k8 hk8 l1 l2 l3 l4 l6 V5
def lpX4_nextFor_8  : Nat → Int32 → Int32 → Int32 → Int64 → Int32 → hf_V → Option (Int32 × hf_V)
  | 0 => fun _ _ _ _ _ _ => none
  | n + 1 => fun l1 l2 l3 l4 l6 V0 => ndX4_nextFor_8  (lpX4_nextFor_8  n) l1 l2 l3 l4 l6 V0
theorem llX4_nextFor_8 {C : hf_X} {om : Nat} {b : hf_H} (o : hf_In C cX4_nextFor RX4 9 (some .int) 5 114)   (n : Nat) : ∀ (l1 : Int32) (l2 : Int32) (l3 : Int32) (l4 : Int64) (l6 : Int32) (V0 : hf_V), hf_J C (hf_dMI om b) ((lpX4_nextFor_8  n) l1 l2 l3 l4 l6 V0) (hf_M om b V0) 8 [(0, .ref om), (1, .int l1), (2, .int l2), (3, .int l3), (4, .long l4), (6, .int l6)] [] := by
  induction n with
  | zero => exact fun _ _ _ _ _ _ => hr_none
  | succ n ih => exact fun l1 l2 l3 l4 l6 V0 => nlX4_nextFor_8 o  (lpX4_nextFor_8  n)  ih l1 l2 l3 l4 l6 V0
def spX4_nextFor (l1 : Int32) (l2 : Int32) (V0 : hf_V) : Option (Int32 × hf_V) :=
  lpX4_nextFor_8 hf_N l1 l2 (-1 : Int32) (0 : Int64) (0 : Int32) V0
theorem jtX4_nextFor {C : hf_X} {om : Nat} {b : hf_H} (o : hf_In C cX4_nextFor RX4 9 (some .int) 5 114) (l1 : Int32) (l2 : Int32) (V0 : hf_V) : hf_J C (hf_dMI om b) (spX4_nextFor l1 l2 V0) (hf_M om b V0) 0 [(0, .ref om), (1, .int l1), (2, .int l2)] [] := by
  refine hr_iconst o (-1 : Int32) dX4_nextFor_0 (by decide) ?_
  refine hr_istore_n o [(3, .int (-1 : Int32)), (0, .ref om), (1, .int l1), (2, .int l2)] dX4_nextFor_1 (by decide) rfl ?_
  refine hr_lconst o (0 : Int64) dX4_nextFor_2 (by decide) ?_
  refine hr_lstore o [(4, .long (0 : Int64)), (3, .int (-1 : Int32)), (0, .ref om), (1, .int l1), (2, .int l2)] dX4_nextFor_3 (by decide) rfl ?_
  refine hr_iconst o (0 : Int32) dX4_nextFor_5 (by decide) ?_
  refine hr_istore o [(6, .int (0 : Int32)), (4, .long (0 : Int64)), (3, .int (-1 : Int32)), (0, .ref om), (1, .int l1), (2, .int l2)] dX4_nextFor_6 (by decide) rfl ?_
  refine hr_sub [3, 4, 5, 2, 1, 0] rfl ?_
  exact llX4_nextFor_8 o hf_N l1 l2 (-1 : Int32) (0 : Int64) (0 : Int32) V0
theorem mtX4_nextFor {om : Nat} {b : hf_H} (l1 : Int32) (l2 : Int32) (V0 : hf_V) (r : Int32) (V1 : hf_V) (e : spX4_nextFor l1 l2 V0 = some (r, V1)) : hf_Con yX4_nextFor cX4_nextFor 9 (some .int) 5 114 [.ref om, .int l1, .int l2] (hf_M om b V0) (.returned (some (.int r)), hf_M om b V1) := hf_entry (dec := hf_dMI om b) (by decide) [.ref om, .int l1, .int l2] (Nat.le_of_ble_eq_true rfl) [(0, .ref om), (1, .int l1), (2, .int l2)] rfl e (fun C o _ => jtX4_nextFor o l1 l2 V0)

/-! buysAll -/
theorem flX4_404 : hf_Fl RX4 404 4 26 := ⟨(RX4, TX4, 37), RX4, rfl, by decide, in_X4, tyX4_ok, nmX4, Or.inl q1426, Or.inl rfl⟩
theorem nf_4_26 : hf_Nf 4 26 := ⟨(RX4, TX4, 37), rfl, rfl⟩
theorem mvX4_401 : hf_MV RX4 401 RX4 yX4_nextFor cX4_nextFor 9 (some .int) 2 := ⟨lw_V q1874 q1876 qs127 q162 q1877, by decide +kernel⟩
def ndX4_buysAll_7 (k7 : Int32 → Int32 → Int32 → hf_V → Option hf_V) (l1 : Int32) (l2 : Int32) (l3 : Int32) (V0 : hf_V) : Option hf_V :=
  if l3 < 0 then (some V0) else
  (spX4_buys l2 l3 V0).bind fun V1 =>
  hf_let (hf_ui V1 26 ((V1.1 26) + (1 : Int32))) fun V2 =>
  hf_b2 (spX4_nextFor l1 l2 V2) fun x4 V3 =>
  k7 l1 l2 x4 V3
theorem nlX4_buysAll_7 {C : hf_X} {om : Nat} {b : hf_H} (o : hf_In C cX4_buysAll RX4 4 (none) 6 142) (k7 : Int32 → Int32 → Int32 → hf_V → Option hf_V) (hk7 : ∀ (l1 : Int32) (l2 : Int32) (l3 : Int32) (V0 : hf_V), hf_J C (hf_dMV om b) (k7 l1 l2 l3 V0) (hf_M om b V0) 7 [(0, .ref om), (1, .int l1), (2, .int l2), (3, .int l3)] []) (l1 : Int32) (l2 : Int32) (l3 : Int32) (V0 : hf_V) : hf_J C (hf_dMV om b) (ndX4_buysAll_7 k7 l1 l2 l3 V0) (hf_M om b V0) 7 [(0, .ref om), (1, .int l1), (2, .int l2), (3, .int l3)] [] := by
  refine hr_iload_n o 3 dX4_buysAll_7 rfl ?_
  refine hr_if_lt o 37 dX4_buysAll_8 (by decide) (fun _ => ?_) (fun _ => ?_)
  · exact hr_vret o dX4_buysAll_37 rfl
  refine hr_aload_n o 0 dX4_buysAll_11 rfl ?_
  refine hr_iload_n o 2 dX4_buysAll_12 rfl ?_
  refine hr_iload_n o 3 dX4_buysAll_13 rfl ?_
  refine mr_callV o mvX4_368 dX4_buysAll_14 [.int l2, .int l3] (fun zV ze => mtX4_buys l2 l3 V0 zV ze) rfl rfl (Nat.le_of_ble_eq_true rfl) ⟨by decide, by decide⟩ (fun V1 => ?_)
  refine hr_aload_n o 0 dX4_buysAll_17 rfl ?_
  refine hr_dup o dX4_buysAll_18 rfl ?_
  refine mr_get o flX4_404 dX4_buysAll_19 (.int (V1.1 26)) rfl ?_
  refine hr_iconst o (1 : Int32) dX4_buysAll_22 (by decide) ?_
  refine hr_iadd o dX4_buysAll_23 ?_
  refine mr_putI o flX4_404 dX4_buysAll_24 nf_4_26 rfl rfl (fun V2 => ?_)
  refine hr_aload_n o 0 dX4_buysAll_27 rfl ?_
  refine hr_iload_n o 1 dX4_buysAll_28 rfl ?_
  refine hr_iload_n o 2 dX4_buysAll_29 rfl ?_
  refine mr_callI o mvX4_401 dX4_buysAll_30 [.int l1, .int l2] (fun zr zV ze => mtX4_nextFor l1 l2 V2 zr zV ze) rfl rfl (Nat.le_of_ble_eq_true rfl) ⟨by decide, by decide⟩ (fun x4 V3 => ?_)
  refine hr_istore_n o [(3, .int x4), (0, .ref om), (1, .int l1), (2, .int l2)] dX4_buysAll_33 (by decide) rfl ?_
  refine hr_goto o 7 dX4_buysAll_34 (by decide) ?_
  refine hr_sub [1, 2, 3, 0] rfl ?_
  exact hk7 l1 l2 x4 V3
def lpX4_buysAll_7  : Nat → Int32 → Int32 → Int32 → hf_V → Option hf_V
  | 0 => fun _ _ _ _ => none
  | n + 1 => fun l1 l2 l3 V0 => ndX4_buysAll_7  (lpX4_buysAll_7  n) l1 l2 l3 V0
theorem llX4_buysAll_7 {C : hf_X} {om : Nat} {b : hf_H} (o : hf_In C cX4_buysAll RX4 4 (none) 6 142)   (n : Nat) : ∀ (l1 : Int32) (l2 : Int32) (l3 : Int32) (V0 : hf_V), hf_J C (hf_dMV om b) ((lpX4_buysAll_7  n) l1 l2 l3 V0) (hf_M om b V0) 7 [(0, .ref om), (1, .int l1), (2, .int l2), (3, .int l3)] [] := by
  induction n with
  | zero => exact fun _ _ _ _ => hr_none
  | succ n ih => exact fun l1 l2 l3 V0 => nlX4_buysAll_7 o  (lpX4_buysAll_7  n)  ih l1 l2 l3 V0
def spX4_buysAll (l1 : Int32) (l2 : Int32) (V0 : hf_V) : Option hf_V :=
  hf_b2 (spX4_nextFor l1 l2 V0) fun x2 V1 =>
  lpX4_buysAll_7 hf_N l1 l2 x2 V1
theorem jtX4_buysAll {C : hf_X} {om : Nat} {b : hf_H} (o : hf_In C cX4_buysAll RX4 4 (none) 6 142) (l1 : Int32) (l2 : Int32) (V0 : hf_V) : hf_J C (hf_dMV om b) (spX4_buysAll l1 l2 V0) (hf_M om b V0) 0 [(0, .ref om), (1, .int l1), (2, .int l2)] [] := by
  refine hr_aload_n o 0 dX4_buysAll_0 rfl ?_
  refine hr_iload_n o 1 dX4_buysAll_1 rfl ?_
  refine hr_iload_n o 2 dX4_buysAll_2 rfl ?_
  refine mr_callI o mvX4_401 dX4_buysAll_3 [.int l1, .int l2] (fun zr zV ze => mtX4_nextFor l1 l2 V0 zr zV ze) rfl rfl (Nat.le_of_ble_eq_true rfl) ⟨by decide, by decide⟩ (fun x2 V1 => ?_)
  refine hr_istore_n o [(3, .int x2), (0, .ref om), (1, .int l1), (2, .int l2)] dX4_buysAll_6 (by decide) rfl ?_
  refine hr_sub [1, 2, 3, 0] rfl ?_
  exact llX4_buysAll_7 o hf_N l1 l2 x2 V1
theorem mtX4_buysAll {om : Nat} {b : hf_H} (l1 : Int32) (l2 : Int32) (V0 V1 : hf_V) (e : spX4_buysAll l1 l2 V0 = some V1) : hf_Con yX4_buysAll cX4_buysAll 4 (none) 6 142 [.ref om, .int l1, .int l2] (hf_M om b V0) (.returned none, hf_M om b V1) := hf_entry (dec := hf_dMV om b) (by decide) [.ref om, .int l1, .int l2] (Nat.le_of_ble_eq_true rfl) [(0, .ref om), (1, .int l1), (2, .int l2)] rfl e (fun C o _ => jtX4_buysAll o l1 l2 V0)

/-! goingBy -/
def spX4_goingBy (l1 : Int32) (l2 : Int32) (V0 : hf_V) : Option (Int32 × hf_V) :=
  (spX4_wordsOf l2 V0).bind fun V1 =>
  hf_b2 (spX4_summedBy l1 (1 : Int32) V1) fun x3 V2 =>
  if (lg_cmp x3 (1 : Int64)) = 0 then (some ((1 : Int32), V2)) else
  if (lg_cmp x3 (-1 : Int64)) = 0 then (some ((-1 : Int32), V2)) else
  some ((0 : Int32), V2)
theorem jtX4_goingBy {C : hf_X} {om : Nat} {b : hf_H} (o : hf_In C cX4_goingBy RX4 5 (some .int) 3 78) (l1 : Int32) (l2 : Int32) (V0 : hf_V) : hf_J C (hf_dMI om b) (spX4_goingBy l1 l2 V0) (hf_M om b V0) 0 [(0, .ref om), (1, .int l1), (2, .int l2)] [] := by
  refine hr_aload_n o 0 dX4_goingBy_0 rfl ?_
  refine hr_iload_n o 2 dX4_goingBy_1 rfl ?_
  refine mr_callV o mvX4_380 dX4_goingBy_2 [.int l2] (fun zV ze => mtX4_wordsOf l2 V0 zV ze) rfl rfl (Nat.le_of_ble_eq_true rfl) ⟨by decide, by decide⟩ (fun V1 => ?_)
  refine hr_aload_n o 0 dX4_goingBy_5 rfl ?_
  refine hr_iload_n o 1 dX4_goingBy_6 rfl ?_
  refine hr_iconst o (1 : Int32) dX4_goingBy_7 (by decide) ?_
  refine mr_callL o mvX4_397 dX4_goingBy_8 [.int l1, .int (1 : Int32)] (fun zr zV ze => mtX4_summedBy l1 (1 : Int32) V1 zr zV ze) rfl rfl (Nat.le_of_ble_eq_true rfl) ⟨by decide, by decide⟩ (fun x3 V2 => ?_)
  refine hr_lstore_n o [(3, .long x3), (0, .ref om), (1, .int l1), (2, .int l2)] dX4_goingBy_11 (by decide) rfl ?_
  refine hr_lload_n o 0 dX4_goingBy_12 rfl ?_
  refine hr_lconst o (1 : Int64) dX4_goingBy_13 (by decide) ?_
  refine hr_lcmp o dX4_goingBy_14 ?_
  refine hr_if_ne o 22 dX4_goingBy_15 (by decide) (fun _ => ?_) (fun _ => ?_)
  · refine hr_iconst o (1 : Int32) dX4_goingBy_18 (by decide) ?_
    refine hr_goto o 35 dX4_goingBy_19 (by decide) ?_
    exact hr_iret o dX4_goingBy_35 rfl rfl
  refine hr_lload_n o 0 dX4_goingBy_22 rfl ?_
  refine hr_ldc2 o (-1 : Int64) q1809 dX4_goingBy_23 ?_
  refine hr_lcmp o dX4_goingBy_26 ?_
  refine hr_if_ne o 34 dX4_goingBy_27 (by decide) (fun _ => ?_) (fun _ => ?_)
  · refine hr_iconst o (-1 : Int32) dX4_goingBy_30 (by decide) ?_
    refine hr_goto o 35 dX4_goingBy_31 (by decide) ?_
    exact hr_iret o dX4_goingBy_35 rfl rfl
  refine hr_iconst o (0 : Int32) dX4_goingBy_34 (by decide) ?_
  exact hr_iret o dX4_goingBy_35 rfl rfl
theorem mtX4_goingBy {om : Nat} {b : hf_H} (l1 : Int32) (l2 : Int32) (V0 : hf_V) (r : Int32) (V1 : hf_V) (e : spX4_goingBy l1 l2 V0 = some (r, V1)) : hf_Con yX4_goingBy cX4_goingBy 5 (some .int) 3 78 [.ref om, .int l1, .int l2] (hf_M om b V0) (.returned (some (.int r)), hf_M om b V1) := hf_entry (dec := hf_dMI om b) (by decide) [.ref om, .int l1, .int l2] (Nat.le_of_ble_eq_true rfl) [(0, .ref om), (1, .int l1), (2, .int l2)] rfl e (fun C o _ => jtX4_goingBy o l1 l2 V0)

/-! passes -/
theorem mvX4_407 : hf_MV RX4 407 RX4 yX4_buysAll cX4_buysAll 4 (none) 2 := ⟨lw_V q1870 q1872 qs126 q162 q1873, by decide +kernel⟩
theorem mvX4_410 : hf_MV RX4 410 RX4 yX4_goingBy cX4_goingBy 5 (some .int) 2 := ⟨lw_V q1913 q1915 qs136 q162 q1916, by decide +kernel⟩
def ndX4_passes_2 (k2 : Int32 → Int32 → hf_V → Option hf_V) (l1 : Int32) (l2 : Int32) (V0 : hf_V) : Option hf_V :=
  (hf_ld 123 (V0.2.2.2.1 20) (2 : Int32)).bind fun x1 =>
  if x1 ≤ l2 then ((spX4_hourComes V0).bind fun V2 =>
  some V2) else
  (spX4_buysAll l1 l2 V0).bind fun V3 =>
  hf_b2 (spX4_goingBy l1 l2 V3) fun x5 V4 =>
  (spX4_goes l2 x5 V4).bind fun V6 =>
  hf_let (l2 + (1 : Int32)) fun x7 =>
  k2 l1 x7 V6
theorem nlX4_passes_2 {C : hf_X} {om : Nat} {b : hf_H} (o : hf_In C cX4_passes RX4 3 (none) 7 165) (k2 : Int32 → Int32 → hf_V → Option hf_V) (hk2 : ∀ (l1 : Int32) (l2 : Int32) (V0 : hf_V), hf_J C (hf_dMV om b) (k2 l1 l2 V0) (hf_M om b V0) 2 [(0, .ref om), (1, .int l1), (2, .int l2)] []) (l1 : Int32) (l2 : Int32) (V0 : hf_V) : hf_J C (hf_dMV om b) (ndX4_passes_2 k2 l1 l2 V0) (hf_M om b V0) 2 [(0, .ref om), (1, .int l1), (2, .int l2)] [] := by
  refine hr_iload_n o 2 dX4_passes_2 rfl ?_
  refine hr_aload_n o 0 dX4_passes_3 rfl ?_
  refine mr_get o flX4_39 dX4_passes_4 (.ref (om + 10)) rfl ?_
  refine hr_iconst o (2 : Int32) dX4_passes_7 (by decide) ?_
  refine mr_iald o 20 10 123 rfl (by decide) rfl dX4_passes_8 (fun x1 => ?_)
  refine hr_icmp_ge o 35 dX4_passes_9 (by decide) (fun _ => ?_) (fun _ => ?_)
  · refine hr_aload_n o 0 dX4_passes_35 rfl ?_
    refine mr_callV o mvX4_362 dX4_passes_36 [] (fun zV ze => mtX4_hourComes  V0 zV ze) rfl rfl (Nat.le_of_ble_eq_true rfl) ⟨by decide, by decide⟩ (fun V2 => ?_)
    exact hr_vret o dX4_passes_39 rfl
  refine hr_aload_n o 0 dX4_passes_12 rfl ?_
  refine hr_iload_n o 1 dX4_passes_13 rfl ?_
  refine hr_iload_n o 2 dX4_passes_14 rfl ?_
  refine mr_callV o mvX4_407 dX4_passes_15 [.int l1, .int l2] (fun zV ze => mtX4_buysAll l1 l2 V0 zV ze) rfl rfl (Nat.le_of_ble_eq_true rfl) ⟨by decide, by decide⟩ (fun V3 => ?_)
  refine hr_aload_n o 0 dX4_passes_18 rfl ?_
  refine hr_iload_n o 2 dX4_passes_19 rfl ?_
  refine hr_aload_n o 0 dX4_passes_20 rfl ?_
  refine hr_iload_n o 1 dX4_passes_21 rfl ?_
  refine hr_iload_n o 2 dX4_passes_22 rfl ?_
  refine mr_callI o mvX4_410 dX4_passes_23 [.int l1, .int l2] (fun zr zV ze => mtX4_goingBy l1 l2 V3 zr zV ze) rfl rfl (Nat.le_of_ble_eq_true rfl) ⟨by decide, by decide⟩ (fun x5 V4 => ?_)
  refine mr_callV o mvX4_359 dX4_passes_26 [.int l2, .int x5] (fun zV ze => mtX4_goes l2 x5 V4 zV ze) rfl rfl (Nat.le_of_ble_eq_true rfl) ⟨by decide, by decide⟩ (fun V6 => ?_)
  refine hr_iincN o (1 : Int32) 2 (fun y => [(2, .int y), (0, .ref om), (1, .int l1)]) dX4_passes_29 rfl (by decide) (by decide) (fun y => rfl) (fun x7 => ?_)
  refine hr_goto o 2 dX4_passes_32 (by decide) ?_
  refine hr_sub [1, 2, 0] rfl ?_
  exact hk2 l1 x7 V6
def lpX4_passes_2  : Nat → Int32 → Int32 → hf_V → Option hf_V
  | 0 => fun _ _ _ => none
  | n + 1 => fun l1 l2 V0 => ndX4_passes_2  (lpX4_passes_2  n) l1 l2 V0
theorem llX4_passes_2 {C : hf_X} {om : Nat} {b : hf_H} (o : hf_In C cX4_passes RX4 3 (none) 7 165)   (n : Nat) : ∀ (l1 : Int32) (l2 : Int32) (V0 : hf_V), hf_J C (hf_dMV om b) ((lpX4_passes_2  n) l1 l2 V0) (hf_M om b V0) 2 [(0, .ref om), (1, .int l1), (2, .int l2)] [] := by
  induction n with
  | zero => exact fun _ _ _ => hr_none
  | succ n ih => exact fun l1 l2 V0 => nlX4_passes_2 o  (lpX4_passes_2  n)  ih l1 l2 V0
def spX4_passes (l1 : Int32) (V0 : hf_V) : Option hf_V :=
  lpX4_passes_2 hf_N l1 (0 : Int32) V0
theorem jtX4_passes {C : hf_X} {om : Nat} {b : hf_H} (o : hf_In C cX4_passes RX4 3 (none) 7 165) (l1 : Int32) (V0 : hf_V) : hf_J C (hf_dMV om b) (spX4_passes l1 V0) (hf_M om b V0) 0 [(0, .ref om), (1, .int l1)] [] := by
  refine hr_iconst o (0 : Int32) dX4_passes_0 (by decide) ?_
  refine hr_istore_n o [(2, .int (0 : Int32)), (0, .ref om), (1, .int l1)] dX4_passes_1 (by decide) rfl ?_
  refine hr_sub [1, 2, 0] rfl ?_
  exact llX4_passes_2 o hf_N l1 (0 : Int32) V0
theorem mtX4_passes {om : Nat} {b : hf_H} (l1 : Int32) (V0 V1 : hf_V) (e : spX4_passes l1 V0 = some V1) : hf_Con yX4_passes cX4_passes 3 (none) 7 165 [.ref om, .int l1] (hf_M om b V0) (.returned none, hf_M om b V1) := hf_entry (dec := hf_dMV om b) (by decide) [.ref om, .int l1] (Nat.le_of_ble_eq_true rfl) [(0, .ref om), (1, .int l1)] rfl e (fun C o _ => jtX4_passes o l1 V0)
