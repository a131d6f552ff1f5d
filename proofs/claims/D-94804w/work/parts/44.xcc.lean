set_option maxRecDepth 100000
set_option maxHeartbeats 4000000
/-! X0_yields -/
theorem mvX0_388 : hf_MV RX0 388 RX0 yX0_moreWorth cX0_moreWorth 4 (some .int) 2 := ⟨lw_V q1285 q1287 qs58 q153 q1288, by decide +kernel⟩
def ndX0_yields_83  (l5 : Int32) (l6 : Int32) (l7 : Int32) (s0 : Int32) (V0 : hf_H) : Option (Int32 × hf_H) :=
  if l5 = 0 then (some (s0, V0)) else
  if (2 : Int32) = 0 then none else
  some (((l6 + l7) / (2 : Int32)), V0)
theorem nlX0_yields_83 {C : hf_X} {gs : hf_gs} (o : hf_In C cX0_yields RX0 9 (some .int) 7 159) (og : hf_G C gs)   (l5 : Int32) (l6 : Int32) (l7 : Int32) (s0 : Int32) (V0 : hf_H) : hf_J C hf_dHI (ndX0_yields_83 l5 l6 l7 s0 V0) V0 83 [(5, .int l5), (6, .int l6), (7, .int l7)] [.int s0] := by
  refine hr_istore o [(8, .int s0), (5, .int l5), (6, .int l6), (7, .int l7)] dX0_yields_83 (by decide) rfl ?_
  refine hr_iload o 1 dX0_yields_85 rfl ?_
  refine hr_if_ne o 95 dX0_yields_87 (by decide) (fun _ => ?_) (fun _ => ?_)
  · refine hr_iload o 0 dX0_yields_90 rfl ?_
    refine hr_goto o 102 dX0_yields_92 (by decide) ?_
    exact hr_iret o dX0_yields_102 rfl rfl
  refine hr_iload o 2 dX0_yields_95 rfl ?_
  refine hr_iload o 3 dX0_yields_97 rfl ?_
  refine hr_iadd o dX0_yields_99 ?_
  refine hr_iconst o (2 : Int32) dX0_yields_100 (by decide) ?_
  refine hr_idiv o dX0_yields_101 (fun _ => ?_)
  exact hr_iret o dX0_yields_102 rfl rfl
def spX0_yields (l0 : Nat) (l1 : Int32) (l2 : Int32) (l3 : Int32) (l4 : Int32) (l5 : Int32) (V0 : hf_H) : Option (Int32 × hf_H) :=
  (hf_ob 1 0 V0 l0).bind fun _ =>
  hf_b2 (spX0_areTheirs l0 l1 l2 l3 l4 V0) fun x2 g1 =>
  if x2 = 0 then (some ((-1 : Int32), g1)) else
  (hf_ob 1 0 g1 l0).bind fun _ =>
  hf_b2 (spX0_fit2 l0 l2 l4 g1) fun x4 g3 =>
  if x4 = 0 then (some ((-1 : Int32), g3)) else
  (spX0_in (Int32.toInt64 l5) (0 : Int64) (1 : Int64)).bind fun x5 =>
  if x5 = 0 then (some ((-1 : Int32), g3)) else
  (hf_ob 1 0 g3 l0).bind fun _ =>
  (spX0_fillsWorths l0 g3).bind fun g6 =>
  (hf_ob 1 0 g6 l0).bind fun _ =>
  hf_b2 (spX0_moreWorth l0 l1 l4 g6) fun x8 g7 =>
  (hf_ob 1 0 g7 l0).bind fun _ =>
  hf_b2 (spX0_moreWorth l0 l3 l2 g7) fun x10 g9 =>
  if x10 ≤ x8 then (if x8 ≤ x10 then (hf_let (if l3 < l1 then l3 else l1) fun x11 =>
  ndX0_yields_83 l5 x8 x10 x11 g9) else
  ndX0_yields_83 l5 x8 x10 l3 g9) else
  ndX0_yields_83 l5 x8 x10 l1 g9
theorem jtX0_yields {C : hf_X} {gs : hf_gs} (o : hf_In C cX0_yields RX0 9 (some .int) 7 159) (og : hf_G C gs) (l0 : Nat) (l1 : Int32) (l2 : Int32) (l3 : Int32) (l4 : Int32) (l5 : Int32) (V0 : hf_H) : hf_J C hf_dHI (spX0_yields l0 l1 l2 l3 l4 l5 V0) V0 0 [(0, .ref l0), (1, .int l1), (2, .int l2), (3, .int l3), (4, .int l4), (5, .int l5)] [] := by
  refine hr_aload_n o 0 dX0_yields_0 rfl ?_
  refine hr_iload_n o 1 dX0_yields_1 rfl ?_
  refine hr_iload_n o 2 dX0_yields_2 rfl ?_
  refine hr_iload_n o 3 dX0_yields_3 rfl ?_
  refine hr_iload o 4 dX0_yields_4 rfl ?_
  refine hx_callVI (q := (RX0, TX0, 23)) o og mvX0_299 dX0_yields_6 1 0 rfl [.int l1, .int l2, .int l3, .int l4] (fun zr zg ze => mtX0_areTheirs l0 l1 l2 l3 l4 V0 zr zg ze) rfl rfl (Nat.le_of_ble_eq_true rfl) ⟨by decide, by decide⟩ (fun x2 g1 => ?_)
  refine hr_if_eq o 33 dX0_yields_9 (by decide) (fun _ => ?_) (fun _ => ?_)
  · refine hr_iconst o (-1 : Int32) dX0_yields_33 (by decide) ?_
    exact hr_iret o dX0_yields_34 rfl rfl
  refine hr_aload_n o 0 dX0_yields_12 rfl ?_
  refine hr_iload_n o 2 dX0_yields_13 rfl ?_
  refine hr_iload o 4 dX0_yields_14 rfl ?_
  refine hx_callVI (q := (RX0, TX0, 23)) o og mvX0_183 dX0_yields_16 1 0 rfl [.int l2, .int l4] (fun zr zg ze => mtX0_fit2 l0 l2 l4 g1 zr zg ze) rfl rfl (Nat.le_of_ble_eq_true rfl) ⟨by decide, by decide⟩ (fun x4 g3 => ?_)
  refine hr_if_eq o 33 dX0_yields_19 (by decide) (fun _ => ?_) (fun _ => ?_)
  · refine hr_iconst o (-1 : Int32) dX0_yields_33 (by decide) ?_
    exact hr_iret o dX0_yields_34 rfl rfl
  refine hr_iload o 5 dX0_yields_22 rfl ?_
  refine hr_i2l o dX0_yields_24 ?_
  refine hr_lconst o (0 : Int64) dX0_yields_25 (by decide) ?_
  refine hr_lconst o (1 : Int64) dX0_yields_26 (by decide) ?_
  refine pr_callI o msX0_106 dX0_yields_27 [.long (Int32.toInt64 l5), .long (0 : Int64), .long (1 : Int64)] (fun zr ze => mtX0_in (Int32.toInt64 l5) (0 : Int64) (1 : Int64) zr ze) rfl rfl (Nat.le_of_ble_eq_true rfl) ⟨by decide, by decide⟩ (fun x5 => ?_)
  refine hr_if_ne o 35 dX0_yields_30 (by decide) (fun _ => ?_) (fun _ => ?_)
  · refine hr_iconst o (-1 : Int32) dX0_yields_33 (by decide) ?_
    exact hr_iret o dX0_yields_34 rfl rfl
  refine hr_aload_n o 0 dX0_yields_35 rfl ?_
  refine hx_callVV (q := (RX0, TX0, 23)) o og mvX0_228 dX0_yields_36 1 0 rfl [] (fun zg ze => mtX0_fillsWorths l0 g3 zg ze) rfl rfl (Nat.le_of_ble_eq_true rfl) ⟨by decide, by decide⟩ (fun g6 => ?_)
  refine hr_aload_n o 0 dX0_yields_39 rfl ?_
  refine hr_iload_n o 1 dX0_yields_40 rfl ?_
  refine hr_iload o 4 dX0_yields_41 rfl ?_
  refine hx_callVI (q := (RX0, TX0, 23)) o og mvX0_388 dX0_yields_43 1 0 rfl [.int l1, .int l4] (fun zr zg ze => mtX0_moreWorth l0 l1 l4 g6 zr zg ze) rfl rfl (Nat.le_of_ble_eq_true rfl) ⟨by decide, by decide⟩ (fun x8 g7 => ?_)
  refine hr_istore o [(6, .int x8), (0, .ref l0), (1, .int l1), (2, .int l2), (3, .int l3), (4, .int l4), (5, .int l5)] dX0_yields_46 (by decide) rfl ?_
  refine hr_aload_n o 1 dX0_yields_48 rfl ?_
  refine hr_iload_n o 4 dX0_yields_49 rfl ?_
  refine hr_iload_n o 3 dX0_yields_50 rfl ?_
  refine hx_callVI (q := (RX0, TX0, 23)) o og mvX0_388 dX0_yields_51 1 0 rfl [.int l3, .int l2] (fun zr zg ze => mtX0_moreWorth l0 l3 l2 g7 zr zg ze) rfl rfl (Nat.le_of_ble_eq_true rfl) ⟨by decide, by decide⟩ (fun x10 g9 => ?_)
  refine hr_istore o [(7, .int x10), (6, .int x8), (0, .ref l0), (1, .int l1), (2, .int l2), (3, .int l3), (4, .int l4), (5, .int l5)] dX0_yields_54 (by decide) rfl ?_
  refine hr_iload o 1 dX0_yields_56 rfl ?_
  refine hr_iload o 0 dX0_yields_58 rfl ?_
  refine hr_icmp_ge o 67 dX0_yields_60 (by decide) (fun _ => ?_) (fun _ => ?_)
  · refine hr_iload o 0 dX0_yields_67 rfl ?_
    refine hr_iload o 1 dX0_yields_69 rfl ?_
    refine hr_icmp_ge o 78 dX0_yields_71 (by decide) (fun _ => ?_) (fun _ => ?_)
    · refine hr_iload_n o 3 dX0_yields_78 rfl ?_
      refine hr_iload_n o 5 dX0_yields_79 rfl ?_
      refine hx_mmin o q1100 q709 q171 q710 (by decide) (Nat.le_of_ble_eq_true rfl) dX0_yields_80 ?_
      refine hr_nmI (fun x11 => ?_)
      refine hr_sub [7, 1, 0] rfl ?_
      exact nlX0_yields_83 o og l5 x8 x10 x11 g9
    refine hr_iload_n o 5 dX0_yields_74 rfl ?_
    refine hr_goto o 83 dX0_yields_75 (by decide) ?_
    refine hr_sub [7, 1, 0] rfl ?_
    exact nlX0_yields_83 o og l5 x8 x10 l3 g9
  refine hr_iload_n o 3 dX0_yields_63 rfl ?_
  refine hr_goto o 83 dX0_yields_64 (by decide) ?_
  refine hr_sub [7, 1, 0] rfl ?_
  exact nlX0_yields_83 o og l5 x8 x10 l1 g9
theorem mtX0_yields {gs : hf_gs} (l0 : Nat) (l1 : Int32) (l2 : Int32) (l3 : Int32) (l4 : Int32) (l5 : Int32) (V0 : hf_H) (r : Int32) (V1 : hf_H) (e : spX0_yields l0 l1 l2 l3 l4 l5 V0 = some (r, V1)) : hf_ConG gs yX0_yields cX0_yields 9 (some .int) 7 159 [.ref l0, .int l1, .int l2, .int l3, .int l4, .int l5] V0 (.returned (some (.int r)), V1) := hf_entryG (dec := hf_dHI) (by decide) [.ref l0, .int l1, .int l2, .int l3, .int l4, .int l5] (Nat.le_of_ble_eq_true rfl) [(0, .ref l0), (1, .int l1), (2, .int l2), (3, .int l3), (4, .int l4), (5, .int l5)] rfl e (fun C o og _ => jtX0_yields o og l0 l1 l2 l3 l4 l5 V0)

/-! X0_criedBy -/
def ndX0_criedBy_120 (k33 : Nat → Int32 → Int32 → Int32 → Int32 → Int32 → hf_H → Option (Int32 × hf_H)) (k48 : Nat → Int32 → Int32 → Int32 → Int32 → Int32 → Int32 → Int32 → hf_H → Option (Int32 × hf_H)) (l0 : Nat) (l2 : Int32) (l3 : Int32) (l4 : Int32) (l5 : Int32) (l6 : Int32) (l8 : Int32) (s0 : Int32) (V0 : hf_H) : Option (Int32 × hf_H) :=
  hf_let (l8 + (1 : Int32)) fun x1 =>
  k48 l0 l2 l3 l4 l5 l6 s0 x1 V0
theorem nlX0_criedBy_120 {C : hf_X} {gs : hf_gs} (o : hf_In C cX0_criedBy RX0 9 (some .int) 5 111) (og : hf_G C gs) (k33 : Nat → Int32 → Int32 → Int32 → Int32 → Int32 → hf_H → Option (Int32 × hf_H)) (k48 : Nat → Int32 → Int32 → Int32 → Int32 → Int32 → Int32 → Int32 → hf_H → Option (Int32 × hf_H)) (hk33 : ∀ (l0 : Nat) (l2 : Int32) (l3 : Int32) (l4 : Int32) (l5 : Int32) (l6 : Int32) (V0 : hf_H), hf_J C hf_dHI (k33 l0 l2 l3 l4 l5 l6 V0) V0 33 [(0, .ref l0), (2, .int l2), (3, .int l3), (4, .int l4), (5, .int l5), (6, .int l6)] []) (hk48 : ∀ (l0 : Nat) (l2 : Int32) (l3 : Int32) (l4 : Int32) (l5 : Int32) (l6 : Int32) (l7 : Int32) (l8 : Int32) (V0 : hf_H), hf_J C hf_dHI (k48 l0 l2 l3 l4 l5 l6 l7 l8 V0) V0 48 [(0, .ref l0), (2, .int l2), (3, .int l3), (4, .int l4), (5, .int l5), (6, .int l6), (7, .int l7), (8, .int l8)] []) (l0 : Nat) (l2 : Int32) (l3 : Int32) (l4 : Int32) (l5 : Int32) (l6 : Int32) (l8 : Int32) (s0 : Int32) (V0 : hf_H) : hf_J C hf_dHI (ndX0_criedBy_120 k33 k48 l0 l2 l3 l4 l5 l6 l8 s0 V0) V0 120 [(0, .ref l0), (2, .int l2), (3, .int l3), (4, .int l4), (5, .int l5), (6, .int l6), (8, .int l8)] [.int s0] := by
  refine hr_istore o [(7, .int s0), (0, .ref l0), (2, .int l2), (3, .int l3), (4, .int l4), (5, .int l5), (6, .int l6), (8, .int l8)] dX0_criedBy_120 (by decide) rfl ?_
  refine hr_iincN o (1 : Int32) 7 (fun y => [(8, .int y), (7, .int s0), (0, .ref l0), (2, .int l2), (3, .int l3), (4, .int l4), (5, .int l5), (6, .int l6)]) dX0_criedBy_122 rfl (by decide) (by decide) (fun y => rfl) (fun x1 => ?_)
  refine hr_goto o 48 dX0_criedBy_125 (by decide) ?_
  refine hr_sub [2, 3, 4, 5, 6, 7, 1, 0] rfl ?_
  exact hk48 l0 l2 l3 l4 l5 l6 s0 x1 V0
def ndX0_criedBy_115 (k33 : Nat → Int32 → Int32 → Int32 → Int32 → Int32 → hf_H → Option (Int32 × hf_H)) (k48 : Nat → Int32 → Int32 → Int32 → Int32 → Int32 → Int32 → Int32 → hf_H → Option (Int32 × hf_H)) (l0 : Nat) (l2 : Int32) (l3 : Int32) (l4 : Int32) (l5 : Int32) (l6 : Int32) (l8 : Int32) (V0 : hf_H) : Option (Int32 × hf_H) :=
  ndX0_criedBy_120 k33 k48 l0 l2 l3 l4 l5 l6 l8 (1 : Int32) V0
theorem nlX0_criedBy_115 {C : hf_X} {gs : hf_gs} (o : hf_In C cX0_criedBy RX0 9 (some .int) 5 111) (og : hf_G C gs) (k33 : Nat → Int32 → Int32 → Int32 → Int32 → Int32 → hf_H → Option (Int32 × hf_H)) (k48 : Nat → Int32 → Int32 → Int32 → Int32 → Int32 → Int32 → Int32 → hf_H → Option (Int32 × hf_H)) (hk33 : ∀ (l0 : Nat) (l2 : Int32) (l3 : Int32) (l4 : Int32) (l5 : Int32) (l6 : Int32) (V0 : hf_H), hf_J C hf_dHI (k33 l0 l2 l3 l4 l5 l6 V0) V0 33 [(0, .ref l0), (2, .int l2), (3, .int l3), (4, .int l4), (5, .int l5), (6, .int l6)] []) (hk48 : ∀ (l0 : Nat) (l2 : Int32) (l3 : Int32) (l4 : Int32) (l5 : Int32) (l6 : Int32) (l7 : Int32) (l8 : Int32) (V0 : hf_H), hf_J C hf_dHI (k48 l0 l2 l3 l4 l5 l6 l7 l8 V0) V0 48 [(0, .ref l0), (2, .int l2), (3, .int l3), (4, .int l4), (5, .int l5), (6, .int l6), (7, .int l7), (8, .int l8)] []) (l0 : Nat) (l2 : Int32) (l3 : Int32) (l4 : Int32) (l5 : Int32) (l6 : Int32) (l8 : Int32) (V0 : hf_H) : hf_J C hf_dHI (ndX0_criedBy_115 k33 k48 l0 l2 l3 l4 l5 l6 l8 V0) V0 115 [(0, .ref l0), (2, .int l2), (3, .int l3), (4, .int l4), (5, .int l5), (6, .int l6), (8, .int l8)] [] := by
  refine hr_iconst o (1 : Int32) dX0_criedBy_115 (by decide) ?_
  refine hr_goto o 120 dX0_criedBy_116 (by decide) ?_
  exact nlX0_criedBy_120 o og k33 k48 hk33 hk48 l0 l2 l3 l4 l5 l6 l8 (1 : Int32) V0
def ndX0_criedBy_119 (k33 : Nat → Int32 → Int32 → Int32 → Int32 → Int32 → hf_H → Option (Int32 × hf_H)) (k48 : Nat → Int32 → Int32 → Int32 → Int32 → Int32 → Int32 → Int32 → hf_H → Option (Int32 × hf_H)) (l0 : Nat) (l2 : Int32) (l3 : Int32) (l4 : Int32) (l5 : Int32) (l6 : Int32) (l8 : Int32) (V0 : hf_H) : Option (Int32 × hf_H) :=
  ndX0_criedBy_120 k33 k48 l0 l2 l3 l4 l5 l6 l8 (0 : Int32) V0
theorem nlX0_criedBy_119 {C : hf_X} {gs : hf_gs} (o : hf_In C cX0_criedBy RX0 9 (some .int) 5 111) (og : hf_G C gs) (k33 : Nat → Int32 → Int32 → Int32 → Int32 → Int32 → hf_H → Option (Int32 × hf_H)) (k48 : Nat → Int32 → Int32 → Int32 → Int32 → Int32 → Int32 → Int32 → hf_H → Option (Int32 × hf_H)) (hk33 : ∀ (l0 : Nat) (l2 : Int32) (l3 : Int32) (l4 : Int32) (l5 : Int32) (l6 : Int32) (V0 : hf_H), hf_J C hf_dHI (k33 l0 l2 l3 l4 l5 l6 V0) V0 33 [(0, .ref l0), (2, .int l2), (3, .int l3), (4, .int l4), (5, .int l5), (6, .int l6)] []) (hk48 : ∀ (l0 : Nat) (l2 : Int32) (l3 : Int32) (l4 : Int32) (l5 : Int32) (l6 : Int32) (l7 : Int32) (l8 : Int32) (V0 : hf_H), hf_J C hf_dHI (k48 l0 l2 l3 l4 l5 l6 l7 l8 V0) V0 48 [(0, .ref l0), (2, .int l2), (3, .int l3), (4, .int l4), (5, .int l5), (6, .int l6), (7, .int l7), (8, .int l8)] []) (l0 : Nat) (l2 : Int32) (l3 : Int32) (l4 : Int32) (l5 : Int32) (l6 : Int32) (l8 : Int32) (V0 : hf_H) : hf_J C hf_dHI (ndX0_criedBy_119 k33 k48 l0 l2 l3 l4 l5 l6 l8 V0) V0 119 [(0, .ref l0), (2, .int l2), (3, .int l3), (4, .int l4), (5, .int l5), (6, .int l6), (8, .int l8)] [] := by
  refine hr_iconst o (0 : Int32) dX0_criedBy_119 (by decide) ?_
  exact nlX0_criedBy_120 o og k33 k48 hk33 hk48 l0 l2 l3 l4 l5 l6 l8 (0 : Int32) V0
def ndX0_criedBy_150 (k33 : Nat → Int32 → Int32 → Int32 → Int32 → Int32 → hf_H → Option (Int32 × hf_H)) (l0 : Nat) (l2 : Int32) (l3 : Int32) (l4 : Int32) (l6 : Int32) (s0 : Int32) (s1 : Int32) (V0 : hf_H) : Option (Int32 × hf_H) :=
  (spX0_bit s1).bind fun x1 =>
  hf_let (s0 + x1) fun x2 =>
  hf_let (l6 + (1 : Int32)) fun x3 =>
  k33 l0 l2 l3 l4 x2 x3 V0
theorem nlX0_criedBy_150 {C : hf_X} {gs : hf_gs} (o : hf_In C cX0_criedBy RX0 9 (some .int) 5 111) (og : hf_G C gs) (k33 : Nat → Int32 → Int32 → Int32 → Int32 → Int32 → hf_H → Option (Int32 × hf_H)) (hk33 : ∀ (l0 : Nat) (l2 : Int32) (l3 : Int32) (l4 : Int32) (l5 : Int32) (l6 : Int32) (V0 : hf_H), hf_J C hf_dHI (k33 l0 l2 l3 l4 l5 l6 V0) V0 33 [(0, .ref l0), (2, .int l2), (3, .int l3), (4, .int l4), (5, .int l5), (6, .int l6)] []) (l0 : Nat) (l2 : Int32) (l3 : Int32) (l4 : Int32) (l6 : Int32) (s0 : Int32) (s1 : Int32) (V0 : hf_H) : hf_J C hf_dHI (ndX0_criedBy_150 k33 l0 l2 l3 l4 l6 s0 s1 V0) V0 150 [(0, .ref l0), (2, .int l2), (3, .int l3), (4, .int l4), (6, .int l6)] [.int s1, .int s0] := by
  refine pr_callI o msX0_179 dX0_criedBy_150 [.int s1] (fun zr ze => mtX0_bit s1 zr ze) rfl rfl (Nat.le_of_ble_eq_true rfl) ⟨by decide, by decide⟩ (fun x1 => ?_)
  refine hr_iadd o dX0_criedBy_153 ?_
  refine hr_nmI (fun x2 => ?_)
  refine hr_istore o [(5, .int x2), (0, .ref l0), (2, .int l2), (3, .int l3), (4, .int l4), (6, .int l6)] dX0_criedBy_154 (by decide) rfl ?_
  refine hr_iincN o (1 : Int32) 5 (fun y => [(6, .int y), (5, .int x2), (0, .ref l0), (2, .int l2), (3, .int l3), (4, .int l4)]) dX0_criedBy_156 rfl (by decide) (by decide) (fun y => rfl) (fun x3 => ?_)
  refine hr_goto o 33 dX0_criedBy_159 (by decide) ?_
  refine hr_sub [2, 3, 4, 5, 1, 0] rfl ?_
  exact hk33 l0 l2 l3 l4 x2 x3 V0
def ndX0_criedBy_149 (k33 : Nat → Int32 → Int32 → Int32 → Int32 → Int32 → hf_H → Option (Int32 × hf_H)) (l0 : Nat) (l2 : Int32) (l3 : Int32) (l4 : Int32) (l6 : Int32) (s0 : Int32) (V0 : hf_H) : Option (Int32 × hf_H) :=
  ndX0_criedBy_150 k33 l0 l2 l3 l4 l6 s0 (0 : Int32) V0
theorem nlX0_criedBy_149 {C : hf_X} {gs : hf_gs} (o : hf_In C cX0_criedBy RX0 9 (some .int) 5 111) (og : hf_G C gs) (k33 : Nat → Int32 → Int32 → Int32 → Int32 → Int32 → hf_H → Option (Int32 × hf_H)) (hk33 : ∀ (l0 : Nat) (l2 : Int32) (l3 : Int32) (l4 : Int32) (l5 : Int32) (l6 : Int32) (V0 : hf_H), hf_J C hf_dHI (k33 l0 l2 l3 l4 l5 l6 V0) V0 33 [(0, .ref l0), (2, .int l2), (3, .int l3), (4, .int l4), (5, .int l5), (6, .int l6)] []) (l0 : Nat) (l2 : Int32) (l3 : Int32) (l4 : Int32) (l6 : Int32) (s0 : Int32) (V0 : hf_H) : hf_J C hf_dHI (ndX0_criedBy_149 k33 l0 l2 l3 l4 l6 s0 V0) V0 149 [(0, .ref l0), (2, .int l2), (3, .int l3), (4, .int l4), (6, .int l6)] [.int s0] := by
  refine hr_iconst o (0 : Int32) dX0_criedBy_149 (by decide) ?_
  exact nlX0_criedBy_150 o og k33 hk33 l0 l2 l3 l4 l6 s0 (0 : Int32) V0
def ndX0_criedBy_48 (k33 : Nat → Int32 → Int32 → Int32 → Int32 → Int32 → hf_H → Option (Int32 × hf_H)) (k48 : Nat → Int32 → Int32 → Int32 → Int32 → Int32 → Int32 → Int32 → hf_H → Option (Int32 × hf_H)) (l0 : Nat) (l2 : Int32) (l3 : Int32) (l4 : Int32) (l5 : Int32) (l6 : Int32) (l7 : Int32) (l8 : Int32) (V0 : hf_H) : Option (Int32 × hf_H) :=
  (hf_ob 1 0 V0 l0).bind fun _ =>
  hf_b2 (spX0_many l0 V0) fun x2 g1 =>
  if x2 ≤ l8 then (if l7 = 0 then (ndX0_criedBy_149 k33 l0 l2 l3 l4 l6 l5 g1) else
  (spX0_has l4 l6).bind fun x3 =>
  if x3 = 0 then (ndX0_criedBy_149 k33 l0 l2 l3 l4 l6 l5 g1) else
  ndX0_criedBy_150 k33 l0 l2 l3 l4 l6 l5 (1 : Int32) g1) else
  if l7 = 0 then ((hf_ga 1 0 0 g1 l0).bind fun x4 =>
  (hf_gi 1 1 9 g1 x4).bind fun x5 =>
  (spX0_has (l3 &&& (x5 ^^^ (-1 : Int32))) l8).bind fun x6 =>
  if x6 = 0 then (ndX0_criedBy_119 k33 k48 l0 l2 l3 l4 l5 l6 l8 g1) else
  (hf_ga 1 0 0 g1 l0).bind fun x7 =>
  (hf_ga 1 1 0 g1 x7).bind fun x8 =>
  (hf_ob 0 19 g1 x8).bind fun _ =>
  hf_b2 (spJ2_get x8 l8 g1) fun x10 g9 =>
  (hf_ob 0 6 g9 x10).bind fun _ =>
  (hf_gi 0 6 1 g9 x10).bind fun x11 =>
  if x11 = l2 then ((hf_ob 1 0 g9 l0).bind fun _ =>
  hf_b2 (spX0_fit2 l0 l8 l6 g9) fun x13 g12 =>
  if x13 = (2 : Int32) then (ndX0_criedBy_115 k33 k48 l0 l2 l3 l4 l5 l6 l8 g12) else
  ndX0_criedBy_119 k33 k48 l0 l2 l3 l4 l5 l6 l8 g12) else
  ndX0_criedBy_119 k33 k48 l0 l2 l3 l4 l5 l6 l8 g9) else
  ndX0_criedBy_115 k33 k48 l0 l2 l3 l4 l5 l6 l8 g1
theorem nlX0_criedBy_48 {C : hf_X} {gs : hf_gs} (o : hf_In C cX0_criedBy RX0 9 (some .int) 5 111) (og : hf_G C gs) (k33 : Nat → Int32 → Int32 → Int32 → Int32 → Int32 → hf_H → Option (Int32 × hf_H)) (k48 : Nat → Int32 → Int32 → Int32 → Int32 → Int32 → Int32 → Int32 → hf_H → Option (Int32 × hf_H)) (hk33 : ∀ (l0 : Nat) (l2 : Int32) (l3 : Int32) (l4 : Int32) (l5 : Int32) (l6 : Int32) (V0 : hf_H), hf_J C hf_dHI (k33 l0 l2 l3 l4 l5 l6 V0) V0 33 [(0, .ref l0), (2, .int l2), (3, .int l3), (4, .int l4), (5, .int l5), (6, .int l6)] []) (hk48 : ∀ (l0 : Nat) (l2 : Int32) (l3 : Int32) (l4 : Int32) (l5 : Int32) (l6 : Int32) (l7 : Int32) (l8 : Int32) (V0 : hf_H), hf_J C hf_dHI (k48 l0 l2 l3 l4 l5 l6 l7 l8 V0) V0 48 [(0, .ref l0), (2, .int l2), (3, .int l3), (4, .int l4), (5, .int l5), (6, .int l6), (7, .int l7), (8, .int l8)] []) (l0 : Nat) (l2 : Int32) (l3 : Int32) (l4 : Int32) (l5 : Int32) (l6 : Int32) (l7 : Int32) (l8 : Int32) (V0 : hf_H) : hf_J C hf_dHI (ndX0_criedBy_48 k33 k48 l0 l2 l3 l4 l5 l6 l7 l8 V0) V0 48 [(0, .ref l0), (2, .int l2), (3, .int l3), (4, .int l4), (5, .int l5), (6, .int l6), (7, .int l7), (8, .int l8)] [] := by
  refine hr_iload o 7 dX0_criedBy_48 rfl ?_
  refine hr_aload_n o 0 dX0_criedBy_50 rfl ?_
  refine hx_callVI (q := (RX0, TX0, 23)) o og mvX0_103 dX0_criedBy_51 1 0 rfl [] (fun zr zg ze => mtX0_many l0 V0 zr zg ze) rfl rfl (Nat.le_of_ble_eq_true rfl) ⟨by decide, by decide⟩ (fun x2 g1 => ?_)
  refine hr_icmp_ge o 128 dX0_criedBy_54 (by decide) (fun _ => ?_) (fun _ => ?_)
  · refine hr_iload o 4 dX0_criedBy_128 rfl ?_
    refine hr_iload o 6 dX0_criedBy_130 rfl ?_
    refine hr_if_eq o 149 dX0_criedBy_132 (by decide) (fun _ => ?_) (fun _ => ?_)
    · refine hr_sub [0, 1, 2, 3, 5] rfl ?_
      exact nlX0_criedBy_149 o og k33 hk33 l0 l2 l3 l4 l6 l5 g1
    refine hr_iload o 3 dX0_criedBy_135 rfl ?_
    refine hr_iload o 5 dX0_criedBy_137 rfl ?_
    refine pr_callI o msX0_175 dX0_criedBy_139 [.int l4, .int l6] (fun zr ze => mtX0_has l4 l6 zr ze) rfl rfl (Nat.le_of_ble_eq_true rfl) ⟨by decide, by decide⟩ (fun x3 => ?_)
    refine hr_if_eq o 149 dX0_criedBy_142 (by decide) (fun _ => ?_) (fun _ => ?_)
    · refine hr_sub [0, 1, 2, 3, 5] rfl ?_
      exact nlX0_criedBy_149 o og k33 hk33 l0 l2 l3 l4 l6 l5 g1
    refine hr_iconst o (1 : Int32) dX0_criedBy_145 (by decide) ?_
    refine hr_goto o 150 dX0_criedBy_146 (by decide) ?_
    refine hr_sub [0, 1, 2, 3, 5] rfl ?_
    exact nlX0_criedBy_150 o og k33 hk33 l0 l2 l3 l4 l6 l5 (1 : Int32) g1
  refine hr_iload o 6 dX0_criedBy_57 rfl ?_
  refine hr_if_ne o 115 dX0_criedBy_59 (by decide) (fun _ => ?_) (fun _ => ?_)
  · refine hr_iload_n o 2 dX0_criedBy_62 rfl ?_
    refine hr_aload_n o 0 dX0_criedBy_63 rfl ?_
    refine hr_getA (md := 1) o flX0_12 dX0_criedBy_64 (fun _ => rfl) (fun x4 => ?_)
    refine hr_getI (md := 1) o flX0_112 dX0_criedBy_67 (fun _ => rfl) (fun x5 => ?_)
    refine hr_iconst o (-1 : Int32) dX0_criedBy_70 (by decide) ?_
    refine hr_ixor o dX0_criedBy_71 ?_
    refine hr_iand o dX0_criedBy_72 ?_
    refine hr_iload o 7 dX0_criedBy_73 rfl ?_
    refine pr_callI o msX0_175 dX0_criedBy_75 [.int (l3 &&& (x5 ^^^ (-1 : Int32))), .int l8] (fun zr ze => mtX0_has (l3 &&& (x5 ^^^ (-1 : Int32))) l8 zr ze) rfl rfl (Nat.le_of_ble_eq_true rfl) ⟨by decide, by decide⟩ (fun x6 => ?_)
    refine hr_if_eq o 119 dX0_criedBy_78 (by decide) (fun _ => ?_) (fun _ => ?_)
    · refine hr_sub [0, 1, 2, 3, 4, 5, 7] rfl ?_
      exact nlX0_criedBy_119 o og k33 k48 hk33 hk48 l0 l2 l3 l4 l5 l6 l8 g1
    refine hr_aload_n o 0 dX0_criedBy_81 rfl ?_
    refine hr_getA (md := 1) o flX0_12 dX0_criedBy_82 (fun _ => rfl) (fun x7 => ?_)
    refine hr_getA (md := 1) o flX0_93 dX0_criedBy_85 (fun _ => rfl) (fun x8 => ?_)
    refine hr_iload o 7 dX0_criedBy_88 rfl ?_
    refine hx_callVA (q := (RJ2, TJ2, 3)) o og mvX0_153 dX0_criedBy_90 0 19 rfl [.int l8] (fun zr zg ze => mtJ2_get x8 l8 g1 zr zg ze) rfl rfl (Nat.le_of_ble_eq_true rfl) ⟨by decide, by decide⟩ (fun x10 g9 => ?_)
    refine hx_cast (md := 0) (ci := 6) (q := (RX6, TX6, 4)) o q990 rfl dX0_criedBy_93 (fun _ => ?_)
    refine hr_getI (md := 0) o flX0_159 dX0_criedBy_96 (fun _ => rfl) (fun x11 => ?_)
    refine hr_iload_n o 1 dX0_criedBy_99 rfl ?_
    refine hr_icmp_ne o 119 dX0_criedBy_100 (by decide) (fun _ => ?_) (fun _ => ?_)
    · refine hr_aload_n o 0 dX0_criedBy_103 rfl ?_
      refine hr_iload o 7 dX0_criedBy_104 rfl ?_
      refine hr_iload o 5 dX0_criedBy_106 rfl ?_
      refine hx_callVI (q := (RX0, TX0, 23)) o og mvX0_183 dX0_criedBy_108 1 0 rfl [.int l8, .int l6] (fun zr zg ze => mtX0_fit2 l0 l8 l6 g9 zr zg ze) rfl rfl (Nat.le_of_ble_eq_true rfl) ⟨by decide, by decide⟩ (fun x13 g12 => ?_)
      refine hr_iconst o (2 : Int32) dX0_criedBy_111 (by decide) ?_
      refine hr_icmp_ne o 119 dX0_criedBy_112 (by decide) (fun _ => ?_) (fun _ => ?_)
      · refine hr_sub [0, 1, 2, 3, 4, 5, 7] rfl ?_
        exact nlX0_criedBy_115 o og k33 k48 hk33 hk48 l0 l2 l3 l4 l5 l6 l8 g12
      refine hr_sub [0, 1, 2, 3, 4, 5, 7] rfl ?_
      exact nlX0_criedBy_119 o og k33 k48 hk33 hk48 l0 l2 l3 l4 l5 l6 l8 g12
    refine hr_sub [0, 1, 2, 3, 4, 5, 7] rfl ?_
    exact nlX0_criedBy_119 o og k33 k48 hk33 hk48 l0 l2 l3 l4 l5 l6 l8 g9
  refine hr_sub [0, 1, 2, 3, 4, 5, 7] rfl ?_
  exact nlX0_criedBy_115 o og k33 k48 hk33 hk48 l0 l2 l3 l4 l5 l6 l8 g1
def lpX0_criedBy_48 (k33 : Nat → Int32 → Int32 → Int32 → Int32 → Int32 → hf_H → Option (Int32 × hf_H)) : Nat → Nat → Int32 → Int32 → Int32 → Int32 → Int32 → Int32 → Int32 → hf_H → Option (Int32 × hf_H)
  | 0 => fun _ _ _ _ _ _ _ _ _ => none
  | n + 1 => fun l0 l2 l3 l4 l5 l6 l7 l8 V0 => ndX0_criedBy_48 k33 (lpX0_criedBy_48 k33 n) l0 l2 l3 l4 l5 l6 l7 l8 V0
theorem llX0_criedBy_48 {C : hf_X} {gs : hf_gs} (o : hf_In C cX0_criedBy RX0 9 (some .int) 5 111) (og : hf_G C gs) (k33 : Nat → Int32 → Int32 → Int32 → Int32 → Int32 → hf_H → Option (Int32 × hf_H)) (hk33 : ∀ (l0 : Nat) (l2 : Int32) (l3 : Int32) (l4 : Int32) (l5 : Int32) (l6 : Int32) (V0 : hf_H), hf_J C hf_dHI (k33 l0 l2 l3 l4 l5 l6 V0) V0 33 [(0, .ref l0), (2, .int l2), (3, .int l3), (4, .int l4), (5, .int l5), (6, .int l6)] []) (n : Nat) : ∀ (l0 : Nat) (l2 : Int32) (l3 : Int32) (l4 : Int32) (l5 : Int32) (l6 : Int32) (l7 : Int32) (l8 : Int32) (V0 : hf_H), hf_J C hf_dHI ((lpX0_criedBy_48 k33 n) l0 l2 l3 l4 l5 l6 l7 l8 V0) V0 48 [(0, .ref l0), (2, .int l2), (3, .int l3), (4, .int l4), (5, .int l5), (6, .int l6), (7, .int l7), (8, .int l8)] [] := by
  induction n with
  | zero => exact fun _ _ _ _ _ _ _ _ _ => hr_none
  | succ n ih => exact fun l0 l2 l3 l4 l5 l6 l7 l8 V0 => nlX0_criedBy_48 o og k33 (lpX0_criedBy_48 k33 n) hk33 ih l0 l2 l3 l4 l5 l6 l7 l8 V0
def ndX0_criedBy_33 (k33 : Nat → Int32 → Int32 → Int32 → Int32 → Int32 → hf_H → Option (Int32 × hf_H)) (l0 : Nat) (l2 : Int32) (l3 : Int32) (l4 : Int32) (l5 : Int32) (l6 : Int32) (V0 : hf_H) : Option (Int32 × hf_H) :=
  (hf_ob 1 0 V0 l0).bind fun _ =>
  hf_b2 (spX0_many l0 V0) fun x2 g1 =>
  if x2 ≤ l6 then (some (l5, g1)) else
  lpX0_criedBy_48 k33 hf_N l0 l2 l3 l4 l5 l6 (0 : Int32) (0 : Int32) g1
theorem nlX0_criedBy_33 {C : hf_X} {gs : hf_gs} (o : hf_In C cX0_criedBy RX0 9 (some .int) 5 111) (og : hf_G C gs) (k33 : Nat → Int32 → Int32 → Int32 → Int32 → Int32 → hf_H → Option (Int32 × hf_H)) (hk33 : ∀ (l0 : Nat) (l2 : Int32) (l3 : Int32) (l4 : Int32) (l5 : Int32) (l6 : Int32) (V0 : hf_H), hf_J C hf_dHI (k33 l0 l2 l3 l4 l5 l6 V0) V0 33 [(0, .ref l0), (2, .int l2), (3, .int l3), (4, .int l4), (5, .int l5), (6, .int l6)] []) (l0 : Nat) (l2 : Int32) (l3 : Int32) (l4 : Int32) (l5 : Int32) (l6 : Int32) (V0 : hf_H) : hf_J C hf_dHI (ndX0_criedBy_33 k33 l0 l2 l3 l4 l5 l6 V0) V0 33 [(0, .ref l0), (2, .int l2), (3, .int l3), (4, .int l4), (5, .int l5), (6, .int l6)] [] := by
  refine hr_iload o 5 dX0_criedBy_33 rfl ?_
  refine hr_aload_n o 0 dX0_criedBy_35 rfl ?_
  refine hx_callVI (q := (RX0, TX0, 23)) o og mvX0_103 dX0_criedBy_36 1 0 rfl [] (fun zr zg ze => mtX0_many l0 V0 zr zg ze) rfl rfl (Nat.le_of_ble_eq_true rfl) ⟨by decide, by decide⟩ (fun x2 g1 => ?_)
  refine hr_icmp_ge o 162 dX0_criedBy_39 (by decide) (fun _ => ?_) (fun _ => ?_)
  · refine hr_iload o 4 dX0_criedBy_162 rfl ?_
    exact hr_iret o dX0_criedBy_164 rfl rfl
  refine hr_iconst o (0 : Int32) dX0_criedBy_42 (by decide) ?_
  refine hr_istore o [(7, .int (0 : Int32)), (0, .ref l0), (2, .int l2), (3, .int l3), (4, .int l4), (5, .int l5), (6, .int l6)] dX0_criedBy_43 (by decide) rfl ?_
  refine hr_iconst o (0 : Int32) dX0_criedBy_45 (by decide) ?_
  refine hr_istore o [(8, .int (0 : Int32)), (7, .int (0 : Int32)), (0, .ref l0), (2, .int l2), (3, .int l3), (4, .int l4), (5, .int l5), (6, .int l6)] dX0_criedBy_46 (by decide) rfl ?_
  refine hr_sub [2, 3, 4, 5, 6, 7, 1, 0] rfl ?_
  exact llX0_criedBy_48 o og k33 hk33 hf_N l0 l2 l3 l4 l5 l6 (0 : Int32) (0 : Int32) g1
def lpX0_criedBy_33  : Nat → Nat → Int32 → Int32 → Int32 → Int32 → Int32 → hf_H → Option (Int32 × hf_H)
  | 0 => fun _ _ _ _ _ _ _ => none
  | n + 1 => fun l0 l2 l3 l4 l5 l6 V0 => ndX0_criedBy_33  (lpX0_criedBy_33  n) l0 l2 l3 l4 l5 l6 V0
theorem llX0_criedBy_33 {C : hf_X} {gs : hf_gs} (o : hf_In C cX0_criedBy RX0 9 (some .int) 5 111) (og : hf_G C gs)   (n : Nat) : ∀ (l0 : Nat) (l2 : Int32) (l3 : Int32) (l4 : Int32) (l5 : Int32) (l6 : Int32) (V0 : hf_H), hf_J C hf_dHI ((lpX0_criedBy_33  n) l0 l2 l3 l4 l5 l6 V0) V0 33 [(0, .ref l0), (2, .int l2), (3, .int l3), (4, .int l4), (5, .int l5), (6, .int l6)] [] := by
  induction n with
  | zero => exact fun _ _ _ _ _ _ _ => hr_none
  | succ n ih => exact fun l0 l2 l3 l4 l5 l6 V0 => nlX0_criedBy_33 o og  (lpX0_criedBy_33  n)  ih l0 l2 l3 l4 l5 l6 V0
def spX0_criedBy (l0 : Nat) (l1 : Int32) (l2 : Int32) (V0 : hf_H) : Option (Int32 × hf_H) :=
  (hf_ga 1 0 1 V0 l0).bind fun x1 =>
  (hf_ga 1 0 0 V0 l0).bind fun x2 =>
  (hf_ob 1 2 V0 x1).bind fun _ =>
  hf_b2 (spX2_halvesOf x1 x2 l1 V0) fun x4 g3 =>
  (hf_ga 1 0 1 g3 l0).bind fun x5 =>
  (hf_ga 1 0 0 g3 l0).bind fun x6 =>
  (hf_ob 1 2 g3 x5).bind fun _ =>
  hf_b2 (spX2_unseen x5 x6 l1 g3) fun x8 g7 =>
  lpX0_criedBy_33 hf_N l0 l2 x4 x8 (0 : Int32) (0 : Int32) g7
theorem jtX0_criedBy {C : hf_X} {gs : hf_gs} (o : hf_In C cX0_criedBy RX0 9 (some .int) 5 111) (og : hf_G C gs) (l0 : Nat) (l1 : Int32) (l2 : Int32) (V0 : hf_H) : hf_J C hf_dHI (spX0_criedBy l0 l1 l2 V0) V0 0 [(0, .ref l0), (1, .int l1), (2, .int l2)] [] := by
  refine hr_aload_n o 0 dX0_criedBy_0 rfl ?_
  refine hr_getA (md := 1) o flX0_19 dX0_criedBy_1 (fun _ => rfl) (fun x1 => ?_)
  refine hr_aload_n o 0 dX0_criedBy_4 rfl ?_
  refine hr_getA (md := 1) o flX0_12 dX0_criedBy_5 (fun _ => rfl) (fun x2 => ?_)
  refine hr_iload_n o 1 dX0_criedBy_8 rfl ?_
  refine hx_callVI (q := (RX2, TX2, 5)) o og mvX0_195 dX0_criedBy_9 1 2 rfl [.ref x2, .int l1] (fun zr zg ze => mtX2_halvesOf x1 x2 l1 V0 zr zg ze) rfl rfl (Nat.le_of_ble_eq_true rfl) ⟨by decide, by decide⟩ (fun x4 g3 => ?_)
  refine hr_istore_n o [(3, .int x4), (0, .ref l0), (1, .int l1), (2, .int l2)] dX0_criedBy_12 (by decide) rfl ?_
  refine hr_aload_n o 1 dX0_criedBy_13 rfl ?_
  refine hr_getA (md := 1) o flX0_19 dX0_criedBy_14 (fun _ => rfl) (fun x5 => ?_)
  refine hr_aload_n o 1 dX0_criedBy_17 rfl ?_
  refine hr_getA (md := 1) o flX0_12 dX0_criedBy_18 (fun _ => rfl) (fun x6 => ?_)
  refine hr_iload_n o 2 dX0_criedBy_21 rfl ?_
  refine hx_callVI (q := (RX2, TX2, 5)) o og mvX0_382 dX0_criedBy_22 1 2 rfl [.ref x6, .int l1] (fun zr zg ze => mtX2_unseen x5 x6 l1 g3 zr zg ze) rfl rfl (Nat.le_of_ble_eq_true rfl) ⟨by decide, by decide⟩ (fun x8 g7 => ?_)
  refine hr_istore o [(4, .int x8), (3, .int x4), (0, .ref l0), (1, .int l1), (2, .int l2)] dX0_criedBy_25 (by decide) rfl ?_
  refine hr_iconst o (0 : Int32) dX0_criedBy_27 (by decide) ?_
  refine hr_istore o [(5, .int (0 : Int32)), (4, .int x8), (3, .int x4), (0, .ref l0), (1, .int l1), (2, .int l2)] dX0_criedBy_28 (by decide) rfl ?_
  refine hr_iconst o (0 : Int32) dX0_criedBy_30 (by decide) ?_
  refine hr_istore o [(6, .int (0 : Int32)), (5, .int (0 : Int32)), (4, .int x8), (3, .int x4), (0, .ref l0), (1, .int l1), (2, .int l2)] dX0_criedBy_31 (by decide) rfl ?_
  refine hr_sub [4, 6, 3, 2, 1, 0] rfl ?_
  exact llX0_criedBy_33 o og hf_N l0 l2 x4 x8 (0 : Int32) (0 : Int32) g7
theorem mtX0_criedBy {gs : hf_gs} (l0 : Nat) (l1 : Int32) (l2 : Int32) (V0 : hf_H) (r : Int32) (V1 : hf_H) (e : spX0_criedBy l0 l1 l2 V0 = some (r, V1)) : hf_ConG gs yX0_criedBy cX0_criedBy 9 (some .int) 5 111 [.ref l0, .int l1, .int l2] V0 (.returned (some (.int r)), V1) := hf_entryG (dec := hf_dHI) (by decide) [.ref l0, .int l1, .int l2] (Nat.le_of_ble_eq_true rfl) [(0, .ref l0), (1, .int l1), (2, .int l2)] rfl e (fun C o og _ => jtX0_criedBy o og l0 l1 l2 V0)

/-! X0_cry -/
theorem mvX0_391 : hf_MV RX0 391 RX0 yX0_criedBy cX0_criedBy 9 (some .int) 2 := ⟨lw_V q1293 q1295 qs59 q153 q1296, by decide +kernel⟩
def ndX0_cry_117 (k53 : Nat → Int32 → Int32 → Int32 → Int32 → Int32 → Int32 → hf_H → Option (Int32 × hf_H)) (k66 : Nat → Int32 → Int32 → Int32 → Int32 → Int32 → Int32 → Int32 → Int32 → hf_H → Option (Int32 × hf_H)) (l0 : Nat) (l1 : Int32) (l2 : Int32) (l3 : Int32) (l4 : Int32) (l5 : Int32) (l6 : Int32) (l8 : Int32) (s0 : Int32) (V0 : hf_H) : Option (Int32 × hf_H) :=
  hf_let (l8 + (1 : Int32)) fun x1 =>
  k66 l0 l1 l2 l3 l4 l5 l6 s0 x1 V0
theorem nlX0_cry_117 {C : hf_X} {gs : hf_gs} (o : hf_In C cX0_cry RX0 9 (some .int) 6 139) (og : hf_G C gs) (k53 : Nat → Int32 → Int32 → Int32 → Int32 → Int32 → Int32 → hf_H → Option (Int32 × hf_H)) (k66 : Nat → Int32 → Int32 → Int32 → Int32 → Int32 → Int32 → Int32 → Int32 → hf_H → Option (Int32 × hf_H)) (hk53 : ∀ (l0 : Nat) (l1 : Int32) (l2 : Int32) (l3 : Int32) (l4 : Int32) (l5 : Int32) (l6 : Int32) (V0 : hf_H), hf_J C hf_dHI (k53 l0 l1 l2 l3 l4 l5 l6 V0) V0 53 [(0, .ref l0), (1, .int l1), (2, .int l2), (3, .int l3), (4, .int l4), (5, .int l5), (6, .int l6)] []) (hk66 : ∀ (l0 : Nat) (l1 : Int32) (l2 : Int32) (l3 : Int32) (l4 : Int32) (l5 : Int32) (l6 : Int32) (l7 : Int32) (l8 : Int32) (V0 : hf_H), hf_J C hf_dHI (k66 l0 l1 l2 l3 l4 l5 l6 l7 l8 V0) V0 66 [(0, .ref l0), (1, .int l1), (2, .int l2), (3, .int l3), (4, .int l4), (5, .int l5), (6, .int l6), (7, .int l7), (8, .int l8)] []) (l0 : Nat) (l1 : Int32) (l2 : Int32) (l3 : Int32) (l4 : Int32) (l5 : Int32) (l6 : Int32) (l8 : Int32) (s0 : Int32) (V0 : hf_H) : hf_J C hf_dHI (ndX0_cry_117 k53 k66 l0 l1 l2 l3 l4 l5 l6 l8 s0 V0) V0 117 [(0, .ref l0), (1, .int l1), (2, .int l2), (3, .int l3), (4, .int l4), (5, .int l5), (6, .int l6), (8, .int l8)] [.int s0] := by
  refine hr_istore o [(7, .int s0), (0, .ref l0), (1, .int l1), (2, .int l2), (3, .int l3), (4, .int l4), (5, .int l5), (6, .int l6), (8, .int l8)] dX0_cry_117 (by decide) rfl ?_
  refine hr_iincN o (1 : Int32) 8 (fun y => [(8, .int y), (7, .int s0), (0, .ref l0), (1, .int l1), (2, .int l2), (3, .int l3), (4, .int l4), (5, .int l5), (6, .int l6)]) dX0_cry_119 rfl (by decide) (by decide) (fun y => rfl) (fun x1 => ?_)
  refine hr_goto o 66 dX0_cry_122 (by decide) ?_
  refine hr_sub [2, 3, 4, 5, 6, 7, 8, 1, 0] rfl ?_
  exact hk66 l0 l1 l2 l3 l4 l5 l6 s0 x1 V0
def ndX0_cry_112 (k53 : Nat → Int32 → Int32 → Int32 → Int32 → Int32 → Int32 → hf_H → Option (Int32 × hf_H)) (k66 : Nat → Int32 → Int32 → Int32 → Int32 → Int32 → Int32 → Int32 → Int32 → hf_H → Option (Int32 × hf_H)) (l0 : Nat) (l1 : Int32) (l2 : Int32) (l3 : Int32) (l4 : Int32) (l5 : Int32) (l6 : Int32) (l8 : Int32) (V0 : hf_H) : Option (Int32 × hf_H) :=
  ndX0_cry_117 k53 k66 l0 l1 l2 l3 l4 l5 l6 l8 (1 : Int32) V0
theorem nlX0_cry_112 {C : hf_X} {gs : hf_gs} (o : hf_In C cX0_cry RX0 9 (some .int) 6 139) (og : hf_G C gs) (k53 : Nat → Int32 → Int32 → Int32 → Int32 → Int32 → Int32 → hf_H → Option (Int32 × hf_H)) (k66 : Nat → Int32 → Int32 → Int32 → Int32 → Int32 → Int32 → Int32 → Int32 → hf_H → Option (Int32 × hf_H)) (hk53 : ∀ (l0 : Nat) (l1 : Int32) (l2 : Int32) (l3 : Int32) (l4 : Int32) (l5 : Int32) (l6 : Int32) (V0 : hf_H), hf_J C hf_dHI (k53 l0 l1 l2 l3 l4 l5 l6 V0) V0 53 [(0, .ref l0), (1, .int l1), (2, .int l2), (3, .int l3), (4, .int l4), (5, .int l5), (6, .int l6)] []) (hk66 : ∀ (l0 : Nat) (l1 : Int32) (l2 : Int32) (l3 : Int32) (l4 : Int32) (l5 : Int32) (l6 : Int32) (l7 : Int32) (l8 : Int32) (V0 : hf_H), hf_J C hf_dHI (k66 l0 l1 l2 l3 l4 l5 l6 l7 l8 V0) V0 66 [(0, .ref l0), (1, .int l1), (2, .int l2), (3, .int l3), (4, .int l4), (5, .int l5), (6, .int l6), (7, .int l7), (8, .int l8)] []) (l0 : Nat) (l1 : Int32) (l2 : Int32) (l3 : Int32) (l4 : Int32) (l5 : Int32) (l6 : Int32) (l8 : Int32) (V0 : hf_H) : hf_J C hf_dHI (ndX0_cry_112 k53 k66 l0 l1 l2 l3 l4 l5 l6 l8 V0) V0 112 [(0, .ref l0), (1, .int l1), (2, .int l2), (3, .int l3), (4, .int l4), (5, .int l5), (6, .int l6), (8, .int l8)] [] := by
  refine hr_iconst o (1 : Int32) dX0_cry_112 (by decide) ?_
  refine hr_goto o 117 dX0_cry_113 (by decide) ?_
  exact nlX0_cry_117 o og k53 k66 hk53 hk66 l0 l1 l2 l3 l4 l5 l6 l8 (1 : Int32) V0
def ndX0_cry_116 (k53 : Nat → Int32 → Int32 → Int32 → Int32 → Int32 → Int32 → hf_H → Option (Int32 × hf_H)) (k66 : Nat → Int32 → Int32 → Int32 → Int32 → Int32 → Int32 → Int32 → Int32 → hf_H → Option (Int32 × hf_H)) (l0 : Nat) (l1 : Int32) (l2 : Int32) (l3 : Int32) (l4 : Int32) (l5 : Int32) (l6 : Int32) (l8 : Int32) (V0 : hf_H) : Option (Int32 × hf_H) :=
  ndX0_cry_117 k53 k66 l0 l1 l2 l3 l4 l5 l6 l8 (0 : Int32) V0
theorem nlX0_cry_116 {C : hf_X} {gs : hf_gs} (o : hf_In C cX0_cry RX0 9 (some .int) 6 139) (og : hf_G C gs) (k53 : Nat → Int32 → Int32 → Int32 → Int32 → Int32 → Int32 → hf_H → Option (Int32 × hf_H)) (k66 : Nat → Int32 → Int32 → Int32 → Int32 → Int32 → Int32 → Int32 → Int32 → hf_H → Option (Int32 × hf_H)) (hk53 : ∀ (l0 : Nat) (l1 : Int32) (l2 : Int32) (l3 : Int32) (l4 : Int32) (l5 : Int32) (l6 : Int32) (V0 : hf_H), hf_J C hf_dHI (k53 l0 l1 l2 l3 l4 l5 l6 V0) V0 53 [(0, .ref l0), (1, .int l1), (2, .int l2), (3, .int l3), (4, .int l4), (5, .int l5), (6, .int l6)] []) (hk66 : ∀ (l0 : Nat) (l1 : Int32) (l2 : Int32) (l3 : Int32) (l4 : Int32) (l5 : Int32) (l6 : Int32) (l7 : Int32) (l8 : Int32) (V0 : hf_H), hf_J C hf_dHI (k66 l0 l1 l2 l3 l4 l5 l6 l7 l8 V0) V0 66 [(0, .ref l0), (1, .int l1), (2, .int l2), (3, .int l3), (4, .int l4), (5, .int l5), (6, .int l6), (7, .int l7), (8, .int l8)] []) (l0 : Nat) (l1 : Int32) (l2 : Int32) (l3 : Int32) (l4 : Int32) (l5 : Int32) (l6 : Int32) (l8 : Int32) (V0 : hf_H) : hf_J C hf_dHI (ndX0_cry_116 k53 k66 l0 l1 l2 l3 l4 l5 l6 l8 V0) V0 116 [(0, .ref l0), (1, .int l1), (2, .int l2), (3, .int l3), (4, .int l4), (5, .int l5), (6, .int l6), (8, .int l8)] [] := by
  refine hr_iconst o (0 : Int32) dX0_cry_116 (by decide) ?_
  exact nlX0_cry_117 o og k53 k66 hk53 hk66 l0 l1 l2 l3 l4 l5 l6 l8 (0 : Int32) V0
def ndX0_cry_165 (k53 : Nat → Int32 → Int32 → Int32 → Int32 → Int32 → Int32 → hf_H → Option (Int32 × hf_H)) (l0 : Nat) (l1 : Int32) (l2 : Int32) (l3 : Int32) (l4 : Int32) (l5 : Int32) (l6 : Int32) (V0 : hf_H) : Option (Int32 × hf_H) :=
  hf_let (l6 + (1 : Int32)) fun x1 =>
  k53 l0 l1 l2 l3 l4 l5 x1 V0
theorem nlX0_cry_165 {C : hf_X} {gs : hf_gs} (o : hf_In C cX0_cry RX0 9 (some .int) 6 139) (og : hf_G C gs) (k53 : Nat → Int32 → Int32 → Int32 → Int32 → Int32 → Int32 → hf_H → Option (Int32 × hf_H)) (hk53 : ∀ (l0 : Nat) (l1 : Int32) (l2 : Int32) (l3 : Int32) (l4 : Int32) (l5 : Int32) (l6 : Int32) (V0 : hf_H), hf_J C hf_dHI (k53 l0 l1 l2 l3 l4 l5 l6 V0) V0 53 [(0, .ref l0), (1, .int l1), (2, .int l2), (3, .int l3), (4, .int l4), (5, .int l5), (6, .int l6)] []) (l0 : Nat) (l1 : Int32) (l2 : Int32) (l3 : Int32) (l4 : Int32) (l5 : Int32) (l6 : Int32) (V0 : hf_H) : hf_J C hf_dHI (ndX0_cry_165 k53 l0 l1 l2 l3 l4 l5 l6 V0) V0 165 [(0, .ref l0), (1, .int l1), (2, .int l2), (3, .int l3), (4, .int l4), (5, .int l5), (6, .int l6)] [] := by
  refine hr_iincN o (1 : Int32) 6 (fun y => [(6, .int y), (0, .ref l0), (1, .int l1), (2, .int l2), (3, .int l3), (4, .int l4), (5, .int l5)]) dX0_cry_165 rfl (by decide) (by decide) (fun y => rfl) (fun x1 => ?_)
  refine hr_goto o 53 dX0_cry_168 (by decide) ?_
  refine hr_sub [1, 2, 3, 4, 5, 6, 0] rfl ?_
  exact hk53 l0 l1 l2 l3 l4 l5 x1 V0
def ndX0_cry_152 (k53 : Nat → Int32 → Int32 → Int32 → Int32 → Int32 → Int32 → hf_H → Option (Int32 × hf_H)) (l0 : Nat) (l1 : Int32) (l2 : Int32) (l3 : Int32) (l6 : Int32) (V0 : hf_H) : Option (Int32 × hf_H) :=
  (hf_ob 1 0 V0 l0).bind fun _ =>
  hf_b2 (spX0_criedBy l0 l1 l6 V0) fun x2 g1 =>
  ndX0_cry_165 k53 l0 l1 l2 l3 l6 x2 l6 g1
theorem nlX0_cry_152 {C : hf_X} {gs : hf_gs} (o : hf_In C cX0_cry RX0 9 (some .int) 6 139) (og : hf_G C gs) (k53 : Nat → Int32 → Int32 → Int32 → Int32 → Int32 → Int32 → hf_H → Option (Int32 × hf_H)) (hk53 : ∀ (l0 : Nat) (l1 : Int32) (l2 : Int32) (l3 : Int32) (l4 : Int32) (l5 : Int32) (l6 : Int32) (V0 : hf_H), hf_J C hf_dHI (k53 l0 l1 l2 l3 l4 l5 l6 V0) V0 53 [(0, .ref l0), (1, .int l1), (2, .int l2), (3, .int l3), (4, .int l4), (5, .int l5), (6, .int l6)] []) (l0 : Nat) (l1 : Int32) (l2 : Int32) (l3 : Int32) (l6 : Int32) (V0 : hf_H) : hf_J C hf_dHI (ndX0_cry_152 k53 l0 l1 l2 l3 l6 V0) V0 152 [(0, .ref l0), (1, .int l1), (2, .int l2), (3, .int l3), (6, .int l6)] [] := by
  refine hr_iload o 4 dX0_cry_152 rfl ?_
  refine hr_istore o [(4, .int l6), (0, .ref l0), (1, .int l1), (2, .int l2), (3, .int l3), (6, .int l6)] dX0_cry_154 (by decide) rfl ?_
  refine hr_aload_n o 1 dX0_cry_156 rfl ?_
  refine hr_iload_n o 2 dX0_cry_157 rfl ?_
  refine hr_iload o 5 dX0_cry_158 rfl ?_
  refine hx_callVI (q := (RX0, TX0, 23)) o og mvX0_391 dX0_cry_160 1 0 rfl [.int l1, .int l6] (fun zr zg ze => mtX0_criedBy l0 l1 l6 V0 zr zg ze) rfl rfl (Nat.le_of_ble_eq_true rfl) ⟨by decide, by decide⟩ (fun x2 g1 => ?_)
  refine hr_istore o [(5, .int x2), (4, .int l6), (0, .ref l0), (1, .int l1), (2, .int l2), (3, .int l3), (6, .int l6)] dX0_cry_163 (by decide) rfl ?_
  refine hr_sub [2, 3, 4, 5, 1, 0, 6] rfl ?_
  exact nlX0_cry_165 o og k53 hk53 l0 l1 l2 l3 l6 x2 l6 g1
def ndX0_cry_66 (k53 : Nat → Int32 → Int32 → Int32 → Int32 → Int32 → Int32 → hf_H → Option (Int32 × hf_H)) (k66 : Nat → Int32 → Int32 → Int32 → Int32 → Int32 → Int32 → Int32 → Int32 → hf_H → Option (Int32 × hf_H)) (l0 : Nat) (l1 : Int32) (l2 : Int32) (l3 : Int32) (l4 : Int32) (l5 : Int32) (l6 : Int32) (l7 : Int32) (l8 : Int32) (V0 : hf_H) : Option (Int32 × hf_H) :=
  (hf_ob 1 0 V0 l0).bind fun _ =>
  hf_b2 (spX0_many l0 V0) fun x2 g1 =>
  if x2 ≤ l8 then (if l7 = 0 then (ndX0_cry_165 k53 l0 l1 l2 l3 l4 l5 l6 g1) else
  if l4 = (-2 : Int32) then (ndX0_cry_152 k53 l0 l1 l2 l3 l6 g1) else
  (hf_ob 1 0 g1 l0).bind fun _ =>
  hf_b2 (spX0_criedBy l0 l1 l6 g1) fun x4 g3 =>
  if l5 < x4 then (ndX0_cry_152 k53 l0 l1 l2 l3 l6 g3) else
  ndX0_cry_165 k53 l0 l1 l2 l3 l4 l5 l6 g3) else
  if l7 = 0 then ((spX0_has l3 l8).bind fun x5 =>
  if x5 = 0 then (ndX0_cry_116 k53 k66 l0 l1 l2 l3 l4 l5 l6 l8 g1) else
  (hf_ga 1 0 0 g1 l0).bind fun x6 =>
  (hf_ga 1 1 0 g1 x6).bind fun x7 =>
  (hf_ob 0 19 g1 x7).bind fun _ =>
  hf_b2 (spJ2_get x7 l8 g1) fun x9 g8 =>
  (hf_ob 0 6 g8 x9).bind fun _ =>
  (hf_gi 0 6 1 g8 x9).bind fun x10 =>
  if x10 = l6 then (ndX0_cry_112 k53 k66 l0 l1 l2 l3 l4 l5 l6 l8 g8) else
  ndX0_cry_116 k53 k66 l0 l1 l2 l3 l4 l5 l6 l8 g8) else
  ndX0_cry_112 k53 k66 l0 l1 l2 l3 l4 l5 l6 l8 g1
theorem nlX0_cry_66 {C : hf_X} {gs : hf_gs} (o : hf_In C cX0_cry RX0 9 (some .int) 6 139) (og : hf_G C gs) (k53 : Nat → Int32 → Int32 → Int32 → Int32 → Int32 → Int32 → hf_H → Option (Int32 × hf_H)) (k66 : Nat → Int32 → Int32 → Int32 → Int32 → Int32 → Int32 → Int32 → Int32 → hf_H → Option (Int32 × hf_H)) (hk53 : ∀ (l0 : Nat) (l1 : Int32) (l2 : Int32) (l3 : Int32) (l4 : Int32) (l5 : Int32) (l6 : Int32) (V0 : hf_H), hf_J C hf_dHI (k53 l0 l1 l2 l3 l4 l5 l6 V0) V0 53 [(0, .ref l0), (1, .int l1), (2, .int l2), (3, .int l3), (4, .int l4), (5, .int l5), (6, .int l6)] []) (hk66 : ∀ (l0 : Nat) (l1 : Int32) (l2 : Int32) (l3 : Int32) (l4 : Int32) (l5 : Int32) (l6 : Int32) (l7 : Int32) (l8 : Int32) (V0 : hf_H), hf_J C hf_dHI (k66 l0 l1 l2 l3 l4 l5 l6 l7 l8 V0) V0 66 [(0, .ref l0), (1, .int l1), (2, .int l2), (3, .int l3), (4, .int l4), (5, .int l5), (6, .int l6), (7, .int l7), (8, .int l8)] []) (l0 : Nat) (l1 : Int32) (l2 : Int32) (l3 : Int32) (l4 : Int32) (l5 : Int32) (l6 : Int32) (l7 : Int32) (l8 : Int32) (V0 : hf_H) : hf_J C hf_dHI (ndX0_cry_66 k53 k66 l0 l1 l2 l3 l4 l5 l6 l7 l8 V0) V0 66 [(0, .ref l0), (1, .int l1), (2, .int l2), (3, .int l3), (4, .int l4), (5, .int l5), (6, .int l6), (7, .int l7), (8, .int l8)] [] := by
  refine hr_iload o 8 dX0_cry_66 rfl ?_
  refine hr_aload_n o 0 dX0_cry_68 rfl ?_
  refine hx_callVI (q := (RX0, TX0, 23)) o og mvX0_103 dX0_cry_69 1 0 rfl [] (fun zr zg ze => mtX0_many l0 V0 zr zg ze) rfl rfl (Nat.le_of_ble_eq_true rfl) ⟨by decide, by decide⟩ (fun x2 g1 => ?_)
  refine hr_icmp_ge o 125 dX0_cry_72 (by decide) (fun _ => ?_) (fun _ => ?_)
  · refine hr_iload o 7 dX0_cry_125 rfl ?_
    refine hr_if_eq o 165 dX0_cry_127 (by decide) (fun _ => ?_) (fun _ => ?_)
    · refine hr_sub [0, 1, 2, 3, 4, 5, 6] rfl ?_
      exact nlX0_cry_165 o og k53 hk53 l0 l1 l2 l3 l4 l5 l6 g1
    refine hr_iload o 4 dX0_cry_130 rfl ?_
    refine hr_bipush o (-2 : Int32) dX0_cry_132 (by decide) ?_
    refine hr_icmp_eq o 152 dX0_cry_134 (by decide) (fun _ => ?_) (fun _ => ?_)
    · refine hr_sub [0, 1, 2, 3, 6] rfl ?_
      exact nlX0_cry_152 o og k53 hk53 l0 l1 l2 l3 l6 g1
    refine hr_aload_n o 0 dX0_cry_137 rfl ?_
    refine hr_iload_n o 1 dX0_cry_138 rfl ?_
    refine hr_iload o 6 dX0_cry_139 rfl ?_
    refine hx_callVI (q := (RX0, TX0, 23)) o og mvX0_391 dX0_cry_141 1 0 rfl [.int l1, .int l6] (fun zr zg ze => mtX0_criedBy l0 l1 l6 g1 zr zg ze) rfl rfl (Nat.le_of_ble_eq_true rfl) ⟨by decide, by decide⟩ (fun x4 g3 => ?_)
    refine hr_iload o 5 dX0_cry_144 rfl ?_
    refine hr_icmp_gt o 152 dX0_cry_146 (by decide) (fun _ => ?_) (fun _ => ?_)
    · refine hr_sub [0, 1, 2, 3, 6] rfl ?_
      exact nlX0_cry_152 o og k53 hk53 l0 l1 l2 l3 l6 g3
    refine hr_goto o 165 dX0_cry_149 (by decide) ?_
    refine hr_sub [0, 1, 2, 3, 4, 5, 6] rfl ?_
    exact nlX0_cry_165 o og k53 hk53 l0 l1 l2 l3 l4 l5 l6 g3
  refine hr_iload o 7 dX0_cry_75 rfl ?_
  refine hr_if_ne o 112 dX0_cry_77 (by decide) (fun _ => ?_) (fun _ => ?_)
  · refine hr_iload_n o 3 dX0_cry_80 rfl ?_
    refine hr_iload o 8 dX0_cry_81 rfl ?_
    refine pr_callI o msX0_175 dX0_cry_83 [.int l3, .int l8] (fun zr ze => mtX0_has l3 l8 zr ze) rfl rfl (Nat.le_of_ble_eq_true rfl) ⟨by decide, by decide⟩ (fun x5 => ?_)
    refine hr_if_eq o 116 dX0_cry_86 (by decide) (fun _ => ?_) (fun _ => ?_)
    · refine hr_sub [0, 1, 2, 3, 4, 5, 6, 8] rfl ?_
      exact nlX0_cry_116 o og k53 k66 hk53 hk66 l0 l1 l2 l3 l4 l5 l6 l8 g1
    refine hr_aload_n o 0 dX0_cry_89 rfl ?_
    refine hr_getA (md := 1) o flX0_12 dX0_cry_90 (fun _ => rfl) (fun x6 => ?_)
    refine hr_getA (md := 1) o flX0_93 dX0_cry_93 (fun _ => rfl) (fun x7 => ?_)
    refine hr_iload o 8 dX0_cry_96 rfl ?_
    refine hx_callVA (q := (RJ2, TJ2, 3)) o og mvX0_153 dX0_cry_98 0 19 rfl [.int l8] (fun zr zg ze => mtJ2_get x7 l8 g1 zr zg ze) rfl rfl (Nat.le_of_ble_eq_true rfl) ⟨by decide, by decide⟩ (fun x9 g8 => ?_)
    refine hx_cast (md := 0) (ci := 6) (q := (RX6, TX6, 4)) o q990 rfl dX0_cry_101 (fun _ => ?_)
    refine hr_getI (md := 0) o flX0_159 dX0_cry_104 (fun _ => rfl) (fun x10 => ?_)
    refine hr_iload o 6 dX0_cry_107 rfl ?_
    refine hr_icmp_ne o 116 dX0_cry_109 (by decide) (fun _ => ?_) (fun _ => ?_)
    · refine hr_sub [0, 1, 2, 3, 4, 5, 6, 8] rfl ?_
      exact nlX0_cry_112 o og k53 k66 hk53 hk66 l0 l1 l2 l3 l4 l5 l6 l8 g8
    refine hr_sub [0, 1, 2, 3, 4, 5, 6, 8] rfl ?_
    exact nlX0_cry_116 o og k53 k66 hk53 hk66 l0 l1 l2 l3 l4 l5 l6 l8 g8
  refine hr_sub [0, 1, 2, 3, 4, 5, 6, 8] rfl ?_
  exact nlX0_cry_112 o og k53 k66 hk53 hk66 l0 l1 l2 l3 l4 l5 l6 l8 g1
def lpX0_cry_66 (k53 : Nat → Int32 → Int32 → Int32 → Int32 → Int32 → Int32 → hf_H → Option (Int32 × hf_H)) : Nat → Nat → Int32 → Int32 → Int32 → Int32 → Int32 → Int32 → Int32 → Int32 → hf_H → Option (Int32 × hf_H)
  | 0 => fun _ _ _ _ _ _ _ _ _ _ => none
  | n + 1 => fun l0 l1 l2 l3 l4 l5 l6 l7 l8 V0 => ndX0_cry_66 k53 (lpX0_cry_66 k53 n) l0 l1 l2 l3 l4 l5 l6 l7 l8 V0
theorem llX0_cry_66 {C : hf_X} {gs : hf_gs} (o : hf_In C cX0_cry RX0 9 (some .int) 6 139) (og : hf_G C gs) (k53 : Nat → Int32 → Int32 → Int32 → Int32 → Int32 → Int32 → hf_H → Option (Int32 × hf_H)) (hk53 : ∀ (l0 : Nat) (l1 : Int32) (l2 : Int32) (l3 : Int32) (l4 : Int32) (l5 : Int32) (l6 : Int32) (V0 : hf_H), hf_J C hf_dHI (k53 l0 l1 l2 l3 l4 l5 l6 V0) V0 53 [(0, .ref l0), (1, .int l1), (2, .int l2), (3, .int l3), (4, .int l4), (5, .int l5), (6, .int l6)] []) (n : Nat) : ∀ (l0 : Nat) (l1 : Int32) (l2 : Int32) (l3 : Int32) (l4 : Int32) (l5 : Int32) (l6 : Int32) (l7 : Int32) (l8 : Int32) (V0 : hf_H), hf_J C hf_dHI ((lpX0_cry_66 k53 n) l0 l1 l2 l3 l4 l5 l6 l7 l8 V0) V0 66 [(0, .ref l0), (1, .int l1), (2, .int l2), (3, .int l3), (4, .int l4), (5, .int l5), (6, .int l6), (7, .int l7), (8, .int l8)] [] := by
  induction n with
  | zero => exact fun _ _ _ _ _ _ _ _ _ _ => hr_none
  | succ n ih => exact fun l0 l1 l2 l3 l4 l5 l6 l7 l8 V0 => nlX0_cry_66 o og k53 (lpX0_cry_66 k53 n) hk53 ih l0 l1 l2 l3 l4 l5 l6 l7 l8 V0
def ndX0_cry_53 (k53 : Nat → Int32 → Int32 → Int32 → Int32 → Int32 → Int32 → hf_H → Option (Int32 × hf_H)) (l0 : Nat) (l1 : Int32) (l2 : Int32) (l3 : Int32) (l4 : Int32) (l5 : Int32) (l6 : Int32) (V0 : hf_H) : Option (Int32 × hf_H) :=
  if (99 : Int32) < l6 then (if l2 = 0 then (some (l4, V0)) else
  some (l5, V0)) else
  lpX0_cry_66 k53 hf_N l0 l1 l2 l3 l4 l5 l6 (0 : Int32) (0 : Int32) V0
theorem nlX0_cry_53 {C : hf_X} {gs : hf_gs} (o : hf_In C cX0_cry RX0 9 (some .int) 6 139) (og : hf_G C gs) (k53 : Nat → Int32 → Int32 → Int32 → Int32 → Int32 → Int32 → hf_H → Option (Int32 × hf_H)) (hk53 : ∀ (l0 : Nat) (l1 : Int32) (l2 : Int32) (l3 : Int32) (l4 : Int32) (l5 : Int32) (l6 : Int32) (V0 : hf_H), hf_J C hf_dHI (k53 l0 l1 l2 l3 l4 l5 l6 V0) V0 53 [(0, .ref l0), (1, .int l1), (2, .int l2), (3, .int l3), (4, .int l4), (5, .int l5), (6, .int l6)] []) (l0 : Nat) (l1 : Int32) (l2 : Int32) (l3 : Int32) (l4 : Int32) (l5 : Int32) (l6 : Int32) (V0 : hf_H) : hf_J C hf_dHI (ndX0_cry_53 k53 l0 l1 l2 l3 l4 l5 l6 V0) V0 53 [(0, .ref l0), (1, .int l1), (2, .int l2), (3, .int l3), (4, .int l4), (5, .int l5), (6, .int l6)] [] := by
  refine hr_iload o 6 dX0_cry_53 rfl ?_
  refine hr_bipush o (99 : Int32) dX0_cry_55 (by decide) ?_
  refine hr_icmp_gt o 171 dX0_cry_57 (by decide) (fun _ => ?_) (fun _ => ?_)
  · refine hr_iload_n o 2 dX0_cry_171 rfl ?_
    refine hr_if_ne o 180 dX0_cry_172 (by decide) (fun _ => ?_) (fun _ => ?_)
    · refine hr_iload o 4 dX0_cry_175 rfl ?_
      refine hr_goto o 182 dX0_cry_177 (by decide) ?_
      exact hr_iret o dX0_cry_182 rfl rfl
    refine hr_iload o 5 dX0_cry_180 rfl ?_
    exact hr_iret o dX0_cry_182 rfl rfl
  refine hr_iconst o (0 : Int32) dX0_cry_60 (by decide) ?_
  refine hr_istore o [(7, .int (0 : Int32)), (0, .ref l0), (1, .int l1), (2, .int l2), (3, .int l3), (4, .int l4), (5, .int l5), (6, .int l6)] dX0_cry_61 (by decide) rfl ?_
  refine hr_iconst o (0 : Int32) dX0_cry_63 (by decide) ?_
  refine hr_istore o [(8, .int (0 : Int32)), (7, .int (0 : Int32)), (0, .ref l0), (1, .int l1), (2, .int l2), (3, .int l3), (4, .int l4), (5, .int l5), (6, .int l6)] dX0_cry_64 (by decide) rfl ?_
  refine hr_sub [2, 3, 4, 5, 6, 7, 8, 1, 0] rfl ?_
  exact llX0_cry_66 o og k53 hk53 hf_N l0 l1 l2 l3 l4 l5 l6 (0 : Int32) (0 : Int32) V0
def lpX0_cry_53  : Nat → Nat → Int32 → Int32 → Int32 → Int32 → Int32 → Int32 → hf_H → Option (Int32 × hf_H)
  | 0 => fun _ _ _ _ _ _ _ _ => none
  | n + 1 => fun l0 l1 l2 l3 l4 l5 l6 V0 => ndX0_cry_53  (lpX0_cry_53  n) l0 l1 l2 l3 l4 l5 l6 V0
theorem llX0_cry_53 {C : hf_X} {gs : hf_gs} (o : hf_In C cX0_cry RX0 9 (some .int) 6 139) (og : hf_G C gs)   (n : Nat) : ∀ (l0 : Nat) (l1 : Int32) (l2 : Int32) (l3 : Int32) (l4 : Int32) (l5 : Int32) (l6 : Int32) (V0 : hf_H), hf_J C hf_dHI ((lpX0_cry_53  n) l0 l1 l2 l3 l4 l5 l6 V0) V0 53 [(0, .ref l0), (1, .int l1), (2, .int l2), (3, .int l3), (4, .int l4), (5, .int l5), (6, .int l6)] [] := by
  induction n with
  | zero => exact fun _ _ _ _ _ _ _ _ => hr_none
  | succ n ih => exact fun l0 l1 l2 l3 l4 l5 l6 V0 => nlX0_cry_53 o og  (lpX0_cry_53  n)  ih l0 l1 l2 l3 l4 l5 l6 V0
def spX0_cry (l0 : Nat) (l1 : Int32) (l2 : Int32) (V0 : hf_H) : Option (Int32 × hf_H) :=
  (hf_ob 1 0 V0 l0).bind fun _ =>
  hf_b2 (spX0_isBuyer l0 l1 V0) fun x2 g1 =>
  if x2 = 0 then (some ((-1 : Int32), g1)) else
  (spX0_in (Int32.toInt64 l2) (0 : Int64) (1 : Int64)).bind fun x3 =>
  if x3 = 0 then (some ((-1 : Int32), g1)) else
  (hf_ga 1 0 1 g1 l0).bind fun x4 =>
  (hf_ga 1 0 0 g1 l0).bind fun x5 =>
  (hf_ob 1 2 g1 x4).bind fun _ =>
  hf_b2 (spX2_halvesOf x4 x5 l1 g1) fun x7 g6 =>
  (hf_ga 1 0 0 g6 l0).bind fun x8 =>
  (hf_gi 1 1 9 g6 x8).bind fun x9 =>
  hf_let (x7 &&& (x9 ^^^ (-1 : Int32))) fun x10 =>
  lpX0_cry_53 hf_N l0 l1 l2 x10 (-2 : Int32) (0 : Int32) (0 : Int32) g6
theorem jtX0_cry {C : hf_X} {gs : hf_gs} (o : hf_In C cX0_cry RX0 9 (some .int) 6 139) (og : hf_G C gs) (l0 : Nat) (l1 : Int32) (l2 : Int32) (V0 : hf_H) : hf_J C hf_dHI (spX0_cry l0 l1 l2 V0) V0 0 [(0, .ref l0), (1, .int l1), (2, .int l2)] [] := by
  refine hr_aload_n o 0 dX0_cry_0 rfl ?_
  refine hr_iload_n o 1 dX0_cry_1 rfl ?_
  refine hx_callVI (q := (RX0, TX0, 23)) o og mvX0_186 dX0_cry_2 1 0 rfl [.int l1] (fun zr zg ze => mtX0_isBuyer l0 l1 V0 zr zg ze) rfl rfl (Nat.le_of_ble_eq_true rfl) ⟨by decide, by decide⟩ (fun x2 g1 => ?_)
  refine hr_if_eq o 18 dX0_cry_5 (by decide) (fun _ => ?_) (fun _ => ?_)
  · refine hr_iconst o (-1 : Int32) dX0_cry_18 (by decide) ?_
    exact hr_iret o dX0_cry_19 rfl rfl
  refine hr_iload_n o 2 dX0_cry_8 rfl ?_
  refine hr_i2l o dX0_cry_9 ?_
  refine hr_lconst o (0 : Int64) dX0_cry_10 (by decide) ?_
  refine hr_lconst o (1 : Int64) dX0_cry_11 (by decide) ?_
  refine pr_callI o msX0_106 dX0_cry_12 [.long (Int32.toInt64 l2), .long (0 : Int64), .long (1 : Int64)] (fun zr ze => mtX0_in (Int32.toInt64 l2) (0 : Int64) (1 : Int64) zr ze) rfl rfl (Nat.le_of_ble_eq_true rfl) ⟨by decide, by decide⟩ (fun x3 => ?_)
  refine hr_if_ne o 20 dX0_cry_15 (by decide) (fun _ => ?_) (fun _ => ?_)
  · refine hr_iconst o (-1 : Int32) dX0_cry_18 (by decide) ?_
    exact hr_iret o dX0_cry_19 rfl rfl
  refine hr_aload_n o 0 dX0_cry_20 rfl ?_
  refine hr_getA (md := 1) o flX0_19 dX0_cry_21 (fun _ => rfl) (fun x4 => ?_)
  refine hr_aload_n o 0 dX0_cry_24 rfl ?_
  refine hr_getA (md := 1) o flX0_12 dX0_cry_25 (fun _ => rfl) (fun x5 => ?_)
  refine hr_iload_n o 1 dX0_cry_28 rfl ?_
  refine hx_callVI (q := (RX2, TX2, 5)) o og mvX0_195 dX0_cry_29 1 2 rfl [.ref x5, .int l1] (fun zr zg ze => mtX2_halvesOf x4 x5 l1 g1 zr zg ze) rfl rfl (Nat.le_of_ble_eq_true rfl) ⟨by decide, by decide⟩ (fun x7 g6 => ?_)
  refine hr_aload_n o 0 dX0_cry_32 rfl ?_
  refine hr_getA (md := 1) o flX0_12 dX0_cry_33 (fun _ => rfl) (fun x8 => ?_)
  refine hr_getI (md := 1) o flX0_112 dX0_cry_36 (fun _ => rfl) (fun x9 => ?_)
  refine hr_iconst o (-1 : Int32) dX0_cry_39 (by decide) ?_
  refine hr_ixor o dX0_cry_40 ?_
  refine hr_iand o dX0_cry_41 ?_
  refine hr_nmI (fun x10 => ?_)
  refine hr_istore_n o [(3, .int x10), (0, .ref l0), (1, .int l1), (2, .int l2)] dX0_cry_42 (by decide) rfl ?_
  refine hr_bipush o (-2 : Int32) dX0_cry_43 (by decide) ?_
  refine hr_istore o [(4, .int (-2 : Int32)), (3, .int x10), (0, .ref l0), (1, .int l1), (2, .int l2)] dX0_cry_45 (by decide) rfl ?_
  refine hr_iconst o (0 : Int32) dX0_cry_47 (by decide) ?_
  refine hr_istore o [(5, .int (0 : Int32)), (4, .int (-2 : Int32)), (3, .int x10), (0, .ref l0), (1, .int l1), (2, .int l2)] dX0_cry_48 (by decide) rfl ?_
  refine hr_iconst o (0 : Int32) dX0_cry_50 (by decide) ?_
  refine hr_istore o [(6, .int (0 : Int32)), (5, .int (0 : Int32)), (4, .int (-2 : Int32)), (3, .int x10), (0, .ref l0), (1, .int l1), (2, .int l2)] dX0_cry_51 (by decide) rfl ?_
  refine hr_sub [4, 5, 6, 3, 2, 1, 0] rfl ?_
  exact llX0_cry_53 o og hf_N l0 l1 l2 x10 (-2 : Int32) (0 : Int32) (0 : Int32) g6
theorem mtX0_cry {gs : hf_gs} (l0 : Nat) (l1 : Int32) (l2 : Int32) (V0 : hf_H) (r : Int32) (V1 : hf_H) (e : spX0_cry l0 l1 l2 V0 = some (r, V1)) : hf_ConG gs yX0_cry cX0_cry 9 (some .int) 6 139 [.ref l0, .int l1, .int l2] V0 (.returned (some (.int r)), V1) := hf_entryG (dec := hf_dHI) (by decide) [.ref l0, .int l1, .int l2] (Nat.le_of_ble_eq_true rfl) [(0, .ref l0), (1, .int l1), (2, .int l2)] rfl e (fun C o og _ => jtX0_cry o og l0 l1 l2 V0)

/-! X0_soldAt -/
theorem flX0_23 : hf_Fl RX0 23 0 2 := ⟨(RX0, TX0, 23), RX0, rfl, by decide, in_X0, tyX0_ok, nmX0, Or.inl q391, Or.inl rfl⟩
def ndX0_soldAt_45 (k45 : Nat → Int32 → Nat → Int32 → Int32 → hf_H → Option (Int32 × hf_H)) (l0 : Nat) (l1 : Int32) (l3 : Nat) (l4 : Int32) (l5 : Int32) (V0 : hf_H) : Option (Int32 × hf_H) :=
  if l4 ≤ l5 then (some ((-1 : Int32), V0)) else
  (hf_ga 1 0 2 V0 l0).bind fun x1 =>
  (hf_ob 1 0 V0 l0).bind fun _ =>
  hf_b2 (spX0_hourBy l0 x1 l3 V0) fun x3 g2 =>
  (spX0_has x3 l1).bind fun x4 =>
  if x4 = 0 then (hf_let (l5 + (1 : Int32)) fun x5 =>
  k45 l0 l1 l3 l4 x5 g2) else
  (hf_ga 1 0 2 g2 l0).bind fun x6 =>
  (hf_gi 1 2 4 g2 x6).bind fun x7 =>
  some ((x7 - (1 : Int32)), g2)
theorem nlX0_soldAt_45 {C : hf_X} {gs : hf_gs} (o : hf_In C cX0_soldAt RX0 6 (some .int) 134 3347) (og : hf_G C gs) (k45 : Nat → Int32 → Nat → Int32 → Int32 → hf_H → Option (Int32 × hf_H)) (hk45 : ∀ (l0 : Nat) (l1 : Int32) (l3 : Nat) (l4 : Int32) (l5 : Int32) (V0 : hf_H), hf_J C hf_dHI (k45 l0 l1 l3 l4 l5 V0) V0 45 [(0, .ref l0), (1, .int l1), (3, .ref l3), (4, .int l4), (5, .int l5)] []) (l0 : Nat) (l1 : Int32) (l3 : Nat) (l4 : Int32) (l5 : Int32) (V0 : hf_H) : hf_J C hf_dHI (ndX0_soldAt_45 k45 l0 l1 l3 l4 l5 V0) V0 45 [(0, .ref l0), (1, .int l1), (3, .ref l3), (4, .int l4), (5, .int l5)] [] := by
  refine hr_iload o 4 dX0_soldAt_45 rfl ?_
  refine hr_iload o 3 dX0_soldAt_47 rfl ?_
  refine hr_icmp_ge o 84 dX0_soldAt_49 (by decide) (fun _ => ?_) (fun _ => ?_)
  · refine hr_iconst o (-1 : Int32) dX0_soldAt_84 (by decide) ?_
    exact hr_iret o dX0_soldAt_85 rfl rfl
  refine hr_aload_n o 0 dX0_soldAt_52 rfl ?_
  refine hr_aload_n o 0 dX0_soldAt_53 rfl ?_
  refine hr_getA (md := 1) o flX0_23 dX0_soldAt_54 (fun _ => rfl) (fun x1 => ?_)
  refine hr_aload_n o 2 dX0_soldAt_57 rfl ?_
  refine hx_callVI (q := (RX0, TX0, 23)) o og mvX0_341 dX0_soldAt_58 1 0 rfl [.ref x1, .ref l3] (fun zr zg ze => mtX0_hourBy l0 x1 l3 V0 zr zg ze) rfl rfl (Nat.le_of_ble_eq_true rfl) ⟨by decide, by decide⟩ (fun x3 g2 => ?_)
  refine hr_iload_n o 1 dX0_soldAt_61 rfl ?_
  refine pr_callI o msX0_175 dX0_soldAt_62 [.int x3, .int l1] (fun zr ze => mtX0_has x3 l1 zr ze) rfl rfl (Nat.le_of_ble_eq_true rfl) ⟨by decide, by decide⟩ (fun x4 => ?_)
  refine hr_if_eq o 78 dX0_soldAt_65 (by decide) (fun _ => ?_) (fun _ => ?_)
  · refine hr_iincN o (1 : Int32) 4 (fun y => [(5, .int y), (0, .ref l0), (1, .int l1), (3, .ref l3), (4, .int l4)]) dX0_soldAt_78 rfl (by decide) (by decide) (fun y => rfl) (fun x5 => ?_)
    refine hr_goto o 45 dX0_soldAt_81 (by decide) ?_
    refine hr_sub [1, 2, 3, 4, 0] rfl ?_
    exact hk45 l0 l1 l3 l4 x5 g2
  refine hr_aload_n o 0 dX0_soldAt_68 rfl ?_
  refine hr_getA (md := 1) o flX0_23 dX0_soldAt_69 (fun _ => rfl) (fun x6 => ?_)
  refine hr_getI (md := 1) o flX0_165 dX0_soldAt_72 (fun _ => rfl) (fun x7 => ?_)
  refine hr_iconst o (1 : Int32) dX0_soldAt_75 (by decide) ?_
  refine hr_isub o dX0_soldAt_76 ?_
  exact hr_iret o dX0_soldAt_77 rfl rfl
def lpX0_soldAt_45  : Nat → Nat → Int32 → Nat → Int32 → Int32 → hf_H → Option (Int32 × hf_H)
  | 0 => fun _ _ _ _ _ _ => none
  | n + 1 => fun l0 l1 l3 l4 l5 V0 => ndX0_soldAt_45  (lpX0_soldAt_45  n) l0 l1 l3 l4 l5 V0
theorem llX0_soldAt_45 {C : hf_X} {gs : hf_gs} (o : hf_In C cX0_soldAt RX0 6 (some .int) 134 3347) (og : hf_G C gs)   (n : Nat) : ∀ (l0 : Nat) (l1 : Int32) (l3 : Nat) (l4 : Int32) (l5 : Int32) (V0 : hf_H), hf_J C hf_dHI ((lpX0_soldAt_45  n) l0 l1 l3 l4 l5 V0) V0 45 [(0, .ref l0), (1, .int l1), (3, .ref l3), (4, .int l4), (5, .int l5)] [] := by
  induction n with
  | zero => exact fun _ _ _ _ _ _ => hr_none
  | succ n ih => exact fun l0 l1 l3 l4 l5 V0 => nlX0_soldAt_45 o og  (lpX0_soldAt_45  n)  ih l0 l1 l3 l4 l5 V0
def spX0_soldAt (l0 : Nat) (l1 : Int32) (l2 : Int32) (l3 : Nat) (V0 : hf_H) : Option (Int32 × hf_H) :=
  (hf_ga 1 0 2 V0 l0).bind fun x1 =>
  (hf_ga 1 0 1 V0 l0).bind fun x2 =>
  (hf_ob 1 2 V0 x1).bind fun _ =>
  (spX2_copyFrom x1 x2 V0).bind fun g3 =>
  (hf_ga 1 0 2 g3 l0).bind fun x4 =>
  (hf_ob 1 2 g3 x4).bind fun _ =>
  (hf_si 2 0 12 g3 x4 l1 l2).bind fun g5 =>
  (hf_ga 1 0 0 g5 l0).bind fun x6 =>
  (hf_ga 1 0 1 g5 l0).bind fun x7 =>
  (hf_gi 1 2 4 g5 x7).bind fun x8 =>
  (hf_ob 1 1 g5 x6).bind fun _ =>
  hf_b2 (spX1_left x6 x8 g5) fun x10 g9 =>
  hf_let (if x10 < (24 : Int32) then x10 else (24 : Int32)) fun x11 =>
  lpX0_soldAt_45 hf_N l0 l1 l3 x11 (0 : Int32) g9
theorem jtX0_soldAt {C : hf_X} {gs : hf_gs} (o : hf_In C cX0_soldAt RX0 6 (some .int) 134 3347) (og : hf_G C gs) (l0 : Nat) (l1 : Int32) (l2 : Int32) (l3 : Nat) (V0 : hf_H) : hf_J C hf_dHI (spX0_soldAt l0 l1 l2 l3 V0) V0 0 [(0, .ref l0), (1, .int l1), (2, .int l2), (3, .ref l3)] [] := by
  refine hr_aload_n o 0 dX0_soldAt_0 rfl ?_
  refine hr_getA (md := 1) o flX0_23 dX0_soldAt_1 (fun _ => rfl) (fun x1 => ?_)
  refine hr_aload_n o 0 dX0_soldAt_4 rfl ?_
  refine hr_getA (md := 1) o flX0_19 dX0_soldAt_5 (fun _ => rfl) (fun x2 => ?_)
  refine hx_callVV (q := (RX2, TX2, 5)) o og mvX0_244 dX0_soldAt_8 1 2 rfl [.ref x2] (fun zg ze => mtX2_copyFrom x1 x2 V0 zg ze) rfl rfl (Nat.le_of_ble_eq_true rfl) ⟨by decide, by decide⟩ (fun g3 => ?_)
  refine hr_aload_n o 0 dX0_soldAt_11 rfl ?_
  refine hr_getA (md := 1) o flX0_23 dX0_soldAt_12 (fun _ => rfl) (fun x4 => ?_)
  refine hr_getO o flX0_172 dX0_soldAt_15 1 (fun _ => rfl) (fun _ _ => ?_)
  refine hr_iload_n o 1 dX0_soldAt_18 rfl ?_
  refine hr_iload_n o 2 dX0_soldAt_19 rfl ?_
  refine hx_iast o 2 0 1 12 rfl (by decide) (fun j h1 h2 => hf_of2_inj j 0 h1 h2) rfl dX0_soldAt_20 (fun g5 => ?_)
  refine hr_bipush o (24 : Int32) dX0_soldAt_21 (by decide) ?_
  refine hr_aload_n o 0 dX0_soldAt_23 rfl ?_
  refine hr_getA (md := 1) o flX0_12 dX0_soldAt_24 (fun _ => rfl) (fun x6 => ?_)
  refine hr_aload_n o 0 dX0_soldAt_27 rfl ?_
  refine hr_getA (md := 1) o flX0_19 dX0_soldAt_28 (fun _ => rfl) (fun x7 => ?_)
  refine hr_getI (md := 1) o flX0_165 dX0_soldAt_31 (fun _ => rfl) (fun x8 => ?_)
  refine hx_callVI (q := (RX1, TX1, 13)) o og mvX0_306 dX0_soldAt_34 1 1 rfl [.int x8] (fun zr zg ze => mtX1_left x6 x8 g5 zr zg ze) rfl rfl (Nat.le_of_ble_eq_true rfl) ⟨by decide, by decide⟩ (fun x10 g9 => ?_)
  refine hx_mmin o q1100 q709 q171 q710 (by decide) (Nat.le_of_ble_eq_true rfl) dX0_soldAt_37 ?_
  refine hr_nmI (fun x11 => ?_)
  refine hr_istore o [(4, .int x11), (0, .ref l0), (1, .int l1), (2, .int l2), (3, .ref l3)] dX0_soldAt_40 (by decide) rfl ?_
  refine hr_iconst o (0 : Int32) dX0_soldAt_42 (by decide) ?_
  refine hr_istore o [(5, .int (0 : Int32)), (4, .int x11), (0, .ref l0), (1, .int l1), (2, .int l2), (3, .ref l3)] dX0_soldAt_43 (by decide) rfl ?_
  refine hr_sub [2, 3, 5, 1, 0] rfl ?_
  exact llX0_soldAt_45 o og hf_N l0 l1 l3 x11 (0 : Int32) g9
theorem mtX0_soldAt {gs : hf_gs} (l0 : Nat) (l1 : Int32) (l2 : Int32) (l3 : Nat) (V0 : hf_H) (r : Int32) (V1 : hf_H) (e : spX0_soldAt l0 l1 l2 l3 V0 = some (r, V1)) : hf_ConG gs yX0_soldAt cX0_soldAt 6 (some .int) 134 3347 [.ref l0, .int l1, .int l2, .ref l3] V0 (.returned (some (.int r)), V1) := hf_entryG (dec := hf_dHI) (by decide) [.ref l0, .int l1, .int l2, .ref l3] (Nat.le_of_ble_eq_true rfl) [(0, .ref l0), (1, .int l1), (2, .int l2), (3, .ref l3)] rfl e (fun C o og _ => jtX0_soldAt o og l0 l1 l2 l3 V0)

/-! X0_bring -/
theorem mvX0_394 : hf_MV RX0 394 RX0 yX0_soldAt cX0_soldAt 6 (some .int) 3 := ⟨lw_V q1301 q1303 qs60 q153 q1304, by decide +kernel⟩
def ndX0_bring_119 (k39 : Nat → Int32 → Int32 → Int32 → Int32 → Int32 → Int32 → hf_H → Option (Int32 × hf_H)) (l0 : Nat) (l1 : Int32) (l2 : Int32) (l3 : Int32) (l4 : Int32) (l5 : Int32) (l6 : Int32) (V0 : hf_H) : Option (Int32 × hf_H) :=
  hf_let (l6 + (1 : Int32)) fun x1 =>
  k39 l0 l1 l2 l3 l4 l5 x1 V0
theorem nlX0_bring_119 {C : hf_X} {gs : hf_gs} (o : hf_In C cX0_bring RX0 8 (some .int) 135 3372) (og : hf_G C gs) (k39 : Nat → Int32 → Int32 → Int32 → Int32 → Int32 → Int32 → hf_H → Option (Int32 × hf_H)) (hk39 : ∀ (l0 : Nat) (l1 : Int32) (l2 : Int32) (l3 : Int32) (l4 : Int32) (l5 : Int32) (l6 : Int32) (V0 : hf_H), hf_J C hf_dHI (k39 l0 l1 l2 l3 l4 l5 l6 V0) V0 39 [(0, .ref l0), (1, .int l1), (2, .int l2), (3, .int l3), (4, .int l4), (5, .int l5), (6, .int l6)] []) (l0 : Nat) (l1 : Int32) (l2 : Int32) (l3 : Int32) (l4 : Int32) (l5 : Int32) (l6 : Int32) (V0 : hf_H) : hf_J C hf_dHI (ndX0_bring_119 k39 l0 l1 l2 l3 l4 l5 l6 V0) V0 119 [(0, .ref l0), (1, .int l1), (2, .int l2), (3, .int l3), (4, .int l4), (5, .int l5), (6, .int l6)] [] := by
  refine hr_iincN o (1 : Int32) 6 (fun y => [(6, .int y), (0, .ref l0), (1, .int l1), (2, .int l2), (3, .int l3), (4, .int l4), (5, .int l5)]) dX0_bring_119 rfl (by decide) (by decide) (fun y => rfl) (fun x1 => ?_)
  refine hr_goto o 39 dX0_bring_122 (by decide) ?_
  refine hr_sub [1, 2, 3, 4, 5, 6, 0] rfl ?_
  exact hk39 l0 l1 l2 l3 l4 l5 x1 V0
def ndX0_bring_111 (k39 : Nat → Int32 → Int32 → Int32 → Int32 → Int32 → Int32 → hf_H → Option (Int32 × hf_H)) (l0 : Nat) (l1 : Int32) (l2 : Int32) (l3 : Int32) (l6 : Int32) (l7 : Int32) (V0 : hf_H) : Option (Int32 × hf_H) :=
  ndX0_bring_119 k39 l0 l1 l2 l3 l6 l7 l6 V0
theorem nlX0_bring_111 {C : hf_X} {gs : hf_gs} (o : hf_In C cX0_bring RX0 8 (some .int) 135 3372) (og : hf_G C gs) (k39 : Nat → Int32 → Int32 → Int32 → Int32 → Int32 → Int32 → hf_H → Option (Int32 × hf_H)) (hk39 : ∀ (l0 : Nat) (l1 : Int32) (l2 : Int32) (l3 : Int32) (l4 : Int32) (l5 : Int32) (l6 : Int32) (V0 : hf_H), hf_J C hf_dHI (k39 l0 l1 l2 l3 l4 l5 l6 V0) V0 39 [(0, .ref l0), (1, .int l1), (2, .int l2), (3, .int l3), (4, .int l4), (5, .int l5), (6, .int l6)] []) (l0 : Nat) (l1 : Int32) (l2 : Int32) (l3 : Int32) (l6 : Int32) (l7 : Int32) (V0 : hf_H) : hf_J C hf_dHI (ndX0_bring_111 k39 l0 l1 l2 l3 l6 l7 V0) V0 111 [(0, .ref l0), (1, .int l1), (2, .int l2), (3, .int l3), (6, .int l6), (7, .int l7)] [] := by
  refine hr_iload o 4 dX0_bring_111 rfl ?_
  refine hr_istore o [(4, .int l6), (0, .ref l0), (1, .int l1), (2, .int l2), (3, .int l3), (6, .int l6), (7, .int l7)] dX0_bring_113 (by decide) rfl ?_
  refine hr_iload o 6 dX0_bring_115 rfl ?_
  refine hr_istore o [(5, .int l7), (4, .int l6), (0, .ref l0), (1, .int l1), (2, .int l2), (3, .int l3), (6, .int l6), (7, .int l7)] dX0_bring_117 (by decide) rfl ?_
  refine hr_sub [2, 3, 4, 5, 1, 0, 6] rfl ?_
  exact nlX0_bring_119 o og k39 hk39 l0 l1 l2 l3 l6 l7 l6 V0
def ndX0_bring_39 (k39 : Nat → Int32 → Int32 → Int32 → Int32 → Int32 → Int32 → hf_H → Option (Int32 × hf_H)) (l0 : Nat) (l1 : Int32) (l2 : Int32) (l3 : Int32) (l4 : Int32) (l5 : Int32) (l6 : Int32) (V0 : hf_H) : Option (Int32 × hf_H) :=
  (hf_ga 1 0 0 V0 l0).bind fun x1 =>
  (hf_gi 1 1 3 V0 x1).bind fun x2 =>
  if x2 ≤ l6 then (if l3 = 0 then (some (l4, V0)) else
  some (l5, V0)) else
  (hf_ga 1 0 1 V0 l0).bind fun x3 =>
  (hf_ob 1 2 V0 x3).bind fun _ =>
  (hf_ai 2 0 12 V0 x3 l2).bind fun x4 =>
  if l6 = x4 then (ndX0_bring_119 k39 l0 l1 l2 l3 l4 l5 l6 V0) else
  (hf_ga 1 0 3 V0 l0).bind fun x5 =>
  (hf_ob 0 19 V0 x5).bind fun _ =>
  hf_b2 (spJ2_get x5 l1 V0) fun x7 g6 =>
  (hf_ob 0 8 g6 x7).bind fun _ =>
  (hf_ob 1 0 g6 l0).bind fun _ =>
  hf_b2 (spX0_soldAt l0 l2 l6 x7 g6) fun x9 g8 =>
  if x9 = (-1 : Int32) then (ndX0_bring_119 k39 l0 l1 l2 l3 l4 l5 l6 g8) else
  if l4 = (-2 : Int32) then (ndX0_bring_111 k39 l0 l1 l2 l3 l6 x9 g8) else
  if x9 < l5 then (ndX0_bring_111 k39 l0 l1 l2 l3 l6 x9 g8) else
  ndX0_bring_119 k39 l0 l1 l2 l3 l4 l5 l6 g8
theorem nlX0_bring_39 {C : hf_X} {gs : hf_gs} (o : hf_In C cX0_bring RX0 8 (some .int) 135 3372) (og : hf_G C gs) (k39 : Nat → Int32 → Int32 → Int32 → Int32 → Int32 → Int32 → hf_H → Option (Int32 × hf_H)) (hk39 : ∀ (l0 : Nat) (l1 : Int32) (l2 : Int32) (l3 : Int32) (l4 : Int32) (l5 : Int32) (l6 : Int32) (V0 : hf_H), hf_J C hf_dHI (k39 l0 l1 l2 l3 l4 l5 l6 V0) V0 39 [(0, .ref l0), (1, .int l1), (2, .int l2), (3, .int l3), (4, .int l4), (5, .int l5), (6, .int l6)] []) (l0 : Nat) (l1 : Int32) (l2 : Int32) (l3 : Int32) (l4 : Int32) (l5 : Int32) (l6 : Int32) (V0 : hf_H) : hf_J C hf_dHI (ndX0_bring_39 k39 l0 l1 l2 l3 l4 l5 l6 V0) V0 39 [(0, .ref l0), (1, .int l1), (2, .int l2), (3, .int l3), (4, .int l4), (5, .int l5), (6, .int l6)] [] := by
  refine hr_iload o 6 dX0_bring_39 rfl ?_
  refine hr_aload_n o 0 dX0_bring_41 rfl ?_
  refine hr_getA (md := 1) o flX0_12 dX0_bring_42 (fun _ => rfl) (fun x1 => ?_)
  refine hr_getI (md := 1) o flX0_89 dX0_bring_45 (fun _ => rfl) (fun x2 => ?_)
  refine hr_icmp_ge o 125 dX0_bring_48 (by decide) (fun _ => ?_) (fun _ => ?_)
  · refine hr_iload_n o 3 dX0_bring_125 rfl ?_
    refine hr_if_ne o 134 dX0_bring_126 (by decide) (fun _ => ?_) (fun _ => ?_)
    · refine hr_iload o 4 dX0_bring_129 rfl ?_
      refine hr_goto o 136 dX0_bring_131 (by decide) ?_
      exact hr_iret o dX0_bring_136 rfl rfl
    refine hr_iload o 5 dX0_bring_134 rfl ?_
    exact hr_iret o dX0_bring_136 rfl rfl
  refine hr_iload o 6 dX0_bring_51 rfl ?_
  refine hr_aload_n o 0 dX0_bring_53 rfl ?_
  refine hr_getA (md := 1) o flX0_19 dX0_bring_54 (fun _ => rfl) (fun x3 => ?_)
  refine hr_getO o flX0_172 dX0_bring_57 1 (fun _ => rfl) (fun _ _ => ?_)
  refine hr_iload_n o 2 dX0_bring_60 rfl ?_
  refine hx_iald o 2 0 1 12 rfl (by decide) rfl dX0_bring_61 (fun x4 => ?_)
  refine hr_icmp_ne o 68 dX0_bring_62 (by decide) (fun _ => ?_) (fun _ => ?_)
  · refine hr_goto o 119 dX0_bring_65 (by decide) ?_
    exact nlX0_bring_119 o og k39 hk39 l0 l1 l2 l3 l4 l5 l6 V0
  refine hr_aload_n o 0 dX0_bring_68 rfl ?_
  refine hr_iload_n o 2 dX0_bring_69 rfl ?_
  refine hr_iload o 6 dX0_bring_70 rfl ?_
  refine hr_aload_n o 0 dX0_bring_72 rfl ?_
  refine hr_getA (md := 1) o flX0_31 dX0_bring_73 (fun _ => rfl) (fun x5 => ?_)
  refine hr_iload_n o 1 dX0_bring_76 rfl ?_
  refine hx_callVA (q := (RJ2, TJ2, 3)) o og mvX0_153 dX0_bring_77 0 19 rfl [.int l1] (fun zr zg ze => mtJ2_get x5 l1 V0 zr zg ze) rfl rfl (Nat.le_of_ble_eq_true rfl) ⟨by decide, by decide⟩ (fun x7 g6 => ?_)
  refine hx_cast (md := 0) (ci := 8) (q := (RX8, TX8, 1)) o q1168 rfl dX0_bring_80 (fun _ => ?_)
  refine hx_callVI (q := (RX0, TX0, 23)) o og mvX0_394 dX0_bring_83 1 0 rfl [.int l2, .int l6, .ref x7] (fun zr zg ze => mtX0_soldAt l0 l2 l6 x7 g6 zr zg ze) rfl rfl (Nat.le_of_ble_eq_true rfl) ⟨by decide, by decide⟩ (fun x9 g8 => ?_)
  refine hr_istore o [(7, .int x9), (0, .ref l0), (1, .int l1), (2, .int l2), (3, .int l3), (4, .int l4), (5, .int l5), (6, .int l6)] dX0_bring_86 (by decide) rfl ?_
  refine hr_iload o 0 dX0_bring_88 rfl ?_
  refine hr_iconst o (-1 : Int32) dX0_bring_90 (by decide) ?_
  refine hr_icmp_eq o 119 dX0_bring_91 (by decide) (fun _ => ?_) (fun _ => ?_)
  · refine hr_sub [1, 2, 3, 4, 5, 6, 7] rfl ?_
    exact nlX0_bring_119 o og k39 hk39 l0 l1 l2 l3 l4 l5 l6 g8
  refine hr_iload o 5 dX0_bring_94 rfl ?_
  refine hr_bipush o (-2 : Int32) dX0_bring_96 (by decide) ?_
  refine hr_icmp_eq o 111 dX0_bring_98 (by decide) (fun _ => ?_) (fun _ => ?_)
  · refine hr_sub [1, 2, 3, 4, 7, 0] rfl ?_
    exact nlX0_bring_111 o og k39 hk39 l0 l1 l2 l3 l6 x9 g8
  refine hr_iload o 0 dX0_bring_101 rfl ?_
  refine hr_iload o 6 dX0_bring_103 rfl ?_
  refine hr_icmp_lt o 111 dX0_bring_105 (by decide) (fun _ => ?_) (fun _ => ?_)
  · refine hr_sub [1, 2, 3, 4, 7, 0] rfl ?_
    exact nlX0_bring_111 o og k39 hk39 l0 l1 l2 l3 l6 x9 g8
  refine hr_goto o 119 dX0_bring_108 (by decide) ?_
  refine hr_sub [1, 2, 3, 4, 5, 6, 7] rfl ?_
  exact nlX0_bring_119 o og k39 hk39 l0 l1 l2 l3 l4 l5 l6 g8
def lpX0_bring_39  : Nat → Nat → Int32 → Int32 → Int32 → Int32 → Int32 → Int32 → hf_H → Option (Int32 × hf_H)
  | 0 => fun _ _ _ _ _ _ _ _ => none
  | n + 1 => fun l0 l1 l2 l3 l4 l5 l6 V0 => ndX0_bring_39  (lpX0_bring_39  n) l0 l1 l2 l3 l4 l5 l6 V0
theorem llX0_bring_39 {C : hf_X} {gs : hf_gs} (o : hf_In C cX0_bring RX0 8 (some .int) 135 3372) (og : hf_G C gs)   (n : Nat) : ∀ (l0 : Nat) (l1 : Int32) (l2 : Int32) (l3 : Int32) (l4 : Int32) (l5 : Int32) (l6 : Int32) (V0 : hf_H), hf_J C hf_dHI ((lpX0_bring_39  n) l0 l1 l2 l3 l4 l5 l6 V0) V0 39 [(0, .ref l0), (1, .int l1), (2, .int l2), (3, .int l3), (4, .int l4), (5, .int l5), (6, .int l6)] [] := by
  induction n with
  | zero => exact fun _ _ _ _ _ _ _ _ => hr_none
  | succ n ih => exact fun l0 l1 l2 l3 l4 l5 l6 V0 => nlX0_bring_39 o og  (lpX0_bring_39  n)  ih l0 l1 l2 l3 l4 l5 l6 V0
def spX0_bring (l0 : Nat) (l1 : Int32) (l2 : Int32) (l3 : Int32) (V0 : hf_H) : Option (Int32 × hf_H) :=
  (hf_ob 1 0 V0 l0).bind fun _ =>
  hf_b2 (spX0_isRule l0 l1 V0) fun x2 g1 =>
  if x2 = 0 then (some ((-1 : Int32), g1)) else
  (hf_ob 1 0 g1 l0).bind fun _ =>
  hf_b2 (spX0_isHalf l0 l2 g1) fun x4 g3 =>
  if x4 = 0 then (some ((-1 : Int32), g3)) else
  (spX0_in (Int32.toInt64 l3) (0 : Int64) (1 : Int64)).bind fun x5 =>
  if x5 = 0 then (some ((-1 : Int32), g3)) else
  lpX0_bring_39 hf_N l0 l1 l2 l3 (-2 : Int32) (-2 : Int32) (0 : Int32) g3
theorem jtX0_bring {C : hf_X} {gs : hf_gs} (o : hf_In C cX0_bring RX0 8 (some .int) 135 3372) (og : hf_G C gs) (l0 : Nat) (l1 : Int32) (l2 : Int32) (l3 : Int32) (V0 : hf_H) : hf_J C hf_dHI (spX0_bring l0 l1 l2 l3 V0) V0 0 [(0, .ref l0), (1, .int l1), (2, .int l2), (3, .int l3)] [] := by
  refine hr_aload_n o 0 dX0_bring_0 rfl ?_
  refine hr_iload_n o 1 dX0_bring_1 rfl ?_
  refine hx_callVI (q := (RX0, TX0, 23)) o og mvX0_336 dX0_bring_2 1 0 rfl [.int l1] (fun zr zg ze => mtX0_isRule l0 l1 V0 zr zg ze) rfl rfl (Nat.le_of_ble_eq_true rfl) ⟨by decide, by decide⟩ (fun x2 g1 => ?_)
  refine hr_if_eq o 26 dX0_bring_5 (by decide) (fun _ => ?_) (fun _ => ?_)
  · refine hr_iconst o (-1 : Int32) dX0_bring_26 (by decide) ?_
    exact hr_iret o dX0_bring_27 rfl rfl
  refine hr_aload_n o 0 dX0_bring_8 rfl ?_
  refine hr_iload_n o 2 dX0_bring_9 rfl ?_
  refine hx_callVI (q := (RX0, TX0, 23)) o og mvX0_149 dX0_bring_10 1 0 rfl [.int l2] (fun zr zg ze => mtX0_isHalf l0 l2 g1 zr zg ze) rfl rfl (Nat.le_of_ble_eq_true rfl) ⟨by decide, by decide⟩ (fun x4 g3 => ?_)
  refine hr_if_eq o 26 dX0_bring_13 (by decide) (fun _ => ?_) (fun _ => ?_)
  · refine hr_iconst o (-1 : Int32) dX0_bring_26 (by decide) ?_
    exact hr_iret o dX0_bring_27 rfl rfl
  refine hr_iload_n o 3 dX0_bring_16 rfl ?_
  refine hr_i2l o dX0_bring_17 ?_
  refine hr_lconst o (0 : Int64) dX0_bring_18 (by decide) ?_
  refine hr_lconst o (1 : Int64) dX0_bring_19 (by decide) ?_
  refine pr_callI o msX0_106 dX0_bring_20 [.long (Int32.toInt64 l3), .long (0 : Int64), .long (1 : Int64)] (fun zr ze => mtX0_in (Int32.toInt64 l3) (0 : Int64) (1 : Int64) zr ze) rfl rfl (Nat.le_of_ble_eq_true rfl) ⟨by decide, by decide⟩ (fun x5 => ?_)
  refine hr_if_ne o 28 dX0_bring_23 (by decide) (fun _ => ?_) (fun _ => ?_)
  · refine hr_iconst o (-1 : Int32) dX0_bring_26 (by decide) ?_
    exact hr_iret o dX0_bring_27 rfl rfl
  refine hr_bipush o (-2 : Int32) dX0_bring_28 (by decide) ?_
  refine hr_istore o [(4, .int (-2 : Int32)), (0, .ref l0), (1, .int l1), (2, .int l2), (3, .int l3)] dX0_bring_30 (by decide) rfl ?_
  refine hr_bipush o (-2 : Int32) dX0_bring_32 (by decide) ?_
  refine hr_istore o [(5, .int (-2 : Int32)), (4, .int (-2 : Int32)), (0, .ref l0), (1, .int l1), (2, .int l2), (3, .int l3)] dX0_bring_34 (by decide) rfl ?_
  refine hr_iconst o (0 : Int32) dX0_bring_36 (by decide) ?_
  refine hr_istore o [(6, .int (0 : Int32)), (5, .int (-2 : Int32)), (4, .int (-2 : Int32)), (0, .ref l0), (1, .int l1), (2, .int l2), (3, .int l3)] dX0_bring_37 (by decide) rfl ?_
  refine hr_sub [3, 4, 5, 6, 2, 1, 0] rfl ?_
  exact llX0_bring_39 o og hf_N l0 l1 l2 l3 (-2 : Int32) (-2 : Int32) (0 : Int32) g3
theorem mtX0_bring {gs : hf_gs} (l0 : Nat) (l1 : Int32) (l2 : Int32) (l3 : Int32) (V0 : hf_H) (r : Int32) (V1 : hf_H) (e : spX0_bring l0 l1 l2 l3 V0 = some (r, V1)) : hf_ConG gs yX0_bring cX0_bring 8 (some .int) 135 3372 [.ref l0, .int l1, .int l2, .int l3] V0 (.returned (some (.int r)), V1) := hf_entryG (dec := hf_dHI) (by decide) [.ref l0, .int l1, .int l2, .int l3] (Nat.le_of_ble_eq_true rfl) [(0, .ref l0), (1, .int l1), (2, .int l2), (3, .int l3)] rfl e (fun C o og _ => jtX0_bring o og l0 l1 l2 l3 V0)

/-! X0_trial -/
theorem flX0_140 : hf_Fl RX0 140 0 10 := ⟨(RX0, TX0, 23), RX0, rfl, by decide, in_X0, tyX0_ok, nmX0, Or.inl q406, Or.inl rfl⟩
theorem flX0_46 : hf_Fl RX0 46 0 7 := ⟨(RX0, TX0, 23), RX0, rfl, by decide, in_X0, tyX0_ok, nmX0, Or.inl q400, Or.inl rfl⟩
theorem flX0_50 : hf_Fl RX0 50 0 8 := ⟨(RX0, TX0, 23), RX0, rfl, by decide, in_X0, tyX0_ok, nmX0, Or.inl q402, Or.inl rfl⟩
theorem flX0_53 : hf_Fl RX0 53 0 9 := ⟨(RX0, TX0, 23), RX0, rfl, by decide, in_X0, tyX0_ok, nmX0, Or.inl q404, Or.inl rfl⟩
theorem nf_0_10 : hf_Nf 0 10 := ⟨(RX0, TX0, 23), rfl, rfl⟩
def spX0_trial (l0 : Nat) (l1 : Int32) (l2 : Int32) (l3 : Int32) (V0 : hf_H) : Option (Int32 × hf_H) :=
  if l1 = (-1 : Int32) then ((hf_pi 1 0 10 V0 l0 (0 : Int32)).bind fun g15 =>
  some ((0 : Int32), g15)) else
  (hf_ob 1 0 V0 l0).bind fun _ =>
  hf_b2 (spX0_isHalf l0 l1 V0) fun x2 g1 =>
  if x2 = 0 then (some ((-2 : Int32), g1)) else
  (hf_ob 1 0 g1 l0).bind fun _ =>
  hf_b2 (spX0_isHalf l0 l2 g1) fun x4 g3 =>
  if x4 = 0 then (some ((-2 : Int32), g3)) else
  if l1 = l2 then (some ((-2 : Int32), g3)) else
  (hf_gi 1 0 10 g3 l0).bind fun x5 =>
  if x5 = (12 : Int32) then (some ((-2 : Int32), g3)) else
  (hf_ob 1 0 g3 l0).bind fun _ =>
  (hf_gi 1 0 10 g3 l0).bind fun x6 =>
  (hf_si 0 7 12 g3 l0 x6 l1).bind fun g7 =>
  (hf_ob 1 0 g7 l0).bind fun _ =>
  (hf_gi 1 0 10 g7 l0).bind fun x8 =>
  (hf_si 0 8 12 g7 l0 x8 l2).bind fun g9 =>
  (hf_ob 1 0 g9 l0).bind fun _ =>
  (hf_gi 1 0 10 g9 l0).bind fun x10 =>
  (hf_si 0 9 12 g9 l0 x10 (vp_nar .boolean l3)).bind fun g11 =>
  (hf_gi 1 0 10 g11 l0).bind fun x12 =>
  (hf_pi 1 0 10 g11 l0 (x12 + (1 : Int32))).bind fun g13 =>
  (hf_gi 1 0 10 g13 l0).bind fun x14 =>
  some (x14, g13)
theorem jtX0_trial {C : hf_X} {gs : hf_gs} (o : hf_In C cX0_trial RX0 4 (some .int) 3 61) (og : hf_G C gs) (l0 : Nat) (l1 : Int32) (l2 : Int32) (l3 : Int32) (V0 : hf_H) : hf_J C hf_dHI (spX0_trial l0 l1 l2 l3 V0) V0 0 [(0, .ref l0), (1, .int l1), (2, .int l2), (3, .int l3)] [] := by
  refine hr_iload_n o 1 dX0_trial_0 rfl ?_
  refine hr_iconst o (-1 : Int32) dX0_trial_1 (by decide) ?_
  refine hr_icmp_ne o 12 dX0_trial_2 (by decide) (fun _ => ?_) (fun _ => ?_)
  · refine hr_aload_n o 0 dX0_trial_5 rfl ?_
    refine hr_iconst o (0 : Int32) dX0_trial_6 (by decide) ?_
    refine hx_putI (md := 1) o flX0_140 dX0_trial_7 rfl (Or.inl nf_0_10) rfl rfl (fun _ => rfl) (fun g15 => ?_)
    refine hr_iconst o (0 : Int32) dX0_trial_10 (by decide) ?_
    exact hr_iret o dX0_trial_11 rfl rfl
  refine hr_aload_n o 0 dX0_trial_12 rfl ?_
  refine hr_iload_n o 1 dX0_trial_13 rfl ?_
  refine hx_callVI (q := (RX0, TX0, 23)) o og mvX0_149 dX0_trial_14 1 0 rfl [.int l1] (fun zr zg ze => mtX0_isHalf l0 l1 V0 zr zg ze) rfl rfl (Nat.le_of_ble_eq_true rfl) ⟨by decide, by decide⟩ (fun x2 g1 => ?_)
  refine hr_if_eq o 42 dX0_trial_17 (by decide) (fun _ => ?_) (fun _ => ?_)
  · refine hr_bipush o (-2 : Int32) dX0_trial_42 (by decide) ?_
    exact hr_iret o dX0_trial_44 rfl rfl
  refine hr_aload_n o 0 dX0_trial_20 rfl ?_
  refine hr_iload_n o 2 dX0_trial_21 rfl ?_
  refine hx_callVI (q := (RX0, TX0, 23)) o og mvX0_149 dX0_trial_22 1 0 rfl [.int l2] (fun zr zg ze => mtX0_isHalf l0 l2 g1 zr zg ze) rfl rfl (Nat.le_of_ble_eq_true rfl) ⟨by decide, by decide⟩ (fun x4 g3 => ?_)
  refine hr_if_eq o 42 dX0_trial_25 (by decide) (fun _ => ?_) (fun _ => ?_)
  · refine hr_bipush o (-2 : Int32) dX0_trial_42 (by decide) ?_
    exact hr_iret o dX0_trial_44 rfl rfl
  refine hr_iload_n o 1 dX0_trial_28 rfl ?_
  refine hr_iload_n o 2 dX0_trial_29 rfl ?_
  refine hr_icmp_eq o 42 dX0_trial_30 (by decide) (fun _ => ?_) (fun _ => ?_)
  · refine hr_bipush o (-2 : Int32) dX0_trial_42 (by decide) ?_
    exact hr_iret o dX0_trial_44 rfl rfl
  refine hr_aload_n o 0 dX0_trial_33 rfl ?_
  refine hr_getI (md := 1) o flX0_140 dX0_trial_34 (fun _ => rfl) (fun x5 => ?_)
  refine hr_bipush o (12 : Int32) dX0_trial_37 (by decide) ?_
  refine hr_icmp_ne o 45 dX0_trial_39 (by decide) (fun _ => ?_) (fun _ => ?_)
  · refine hr_bipush o (-2 : Int32) dX0_trial_42 (by decide) ?_
    exact hr_iret o dX0_trial_44 rfl rfl
  refine hr_aload_n o 0 dX0_trial_45 rfl ?_
  refine hr_getO o flX0_46 dX0_trial_46 21 (fun _ => rfl) (fun _ _ => ?_)
  refine hr_aload_n o 0 dX0_trial_49 rfl ?_
  refine hr_getI (md := 1) o flX0_140 dX0_trial_50 (fun _ => rfl) (fun x6 => ?_)
  refine hr_iload_n o 1 dX0_trial_53 rfl ?_
  refine hx_iast o 0 7 21 12 rfl (by decide) (fun j h1 h2 => hf_of0_inj j 7 h1 h2) rfl dX0_trial_54 (fun g7 => ?_)
  refine hr_aload_n o 0 dX0_trial_55 rfl ?_
  refine hr_getO o flX0_50 dX0_trial_56 22 (fun _ => rfl) (fun _ _ => ?_)
  refine hr_aload_n o 0 dX0_trial_59 rfl ?_
  refine hr_getI (md := 1) o flX0_140 dX0_trial_60 (fun _ => rfl) (fun x8 => ?_)
  refine hr_iload_n o 2 dX0_trial_63 rfl ?_
  refine hx_iast o 0 8 22 12 rfl (by decide) (fun j h1 h2 => hf_of0_inj j 8 h1 h2) rfl dX0_trial_64 (fun g9 => ?_)
  refine hr_aload_n o 0 dX0_trial_65 rfl ?_
  refine hr_getO o flX0_53 dX0_trial_66 23 (fun _ => rfl) (fun _ _ => ?_)
  refine hr_aload_n o 0 dX0_trial_69 rfl ?_
  refine hr_getI (md := 1) o flX0_140 dX0_trial_70 (fun _ => rfl) (fun x10 => ?_)
  refine hr_iload_n o 3 dX0_trial_73 rfl ?_
  refine hx_zast o 0 9 23 12 rfl (by decide) (fun j h1 h2 => hf_of0_inj j 9 h1 h2) rfl dX0_trial_74 (fun g11 => ?_)
  refine hr_aload_n o 0 dX0_trial_75 rfl ?_
  refine hr_dup o dX0_trial_76 rfl ?_
  refine hr_getI (md := 1) o flX0_140 dX0_trial_77 (fun _ => rfl) (fun x12 => ?_)
  refine hr_iconst o (1 : Int32) dX0_trial_80 (by decide) ?_
  refine hr_iadd o dX0_trial_81 ?_
  refine hx_putI (md := 1) o flX0_140 dX0_trial_82 rfl (Or.inl nf_0_10) rfl rfl (fun _ => rfl) (fun g13 => ?_)
  refine hr_aload_n o 0 dX0_trial_85 rfl ?_
  refine hr_getI (md := 1) o flX0_140 dX0_trial_86 (fun _ => rfl) (fun x14 => ?_)
  exact hr_iret o dX0_trial_89 rfl rfl
theorem mtX0_trial {gs : hf_gs} (l0 : Nat) (l1 : Int32) (l2 : Int32) (l3 : Int32) (V0 : hf_H) (r : Int32) (V1 : hf_H) (e : spX0_trial l0 l1 l2 l3 V0 = some (r, V1)) : hf_ConG gs yX0_trial cX0_trial 4 (some .int) 3 61 [.ref l0, .int l1, .int l2, .int l3] V0 (.returned (some (.int r)), V1) := hf_entryG (dec := hf_dHI) (by decide) [.ref l0, .int l1, .int l2, .int l3] (Nat.le_of_ble_eq_true rfl) [(0, .ref l0), (1, .int l1), (2, .int l2), (3, .int l3)] rfl e (fun C o og _ => jtX0_trial o og l0 l1 l2 l3 V0)

/-! X0_areAllSo -/
def ndX0_areAllSo_59 (k4 : Nat → Int32 → Int32 → Int32 → hf_H → Option (Int32 × hf_H)) (l0 : Nat) (l1 : Int32) (l3 : Int32) (s0 : Int32) (V0 : hf_H) : Option (Int32 × hf_H) :=
  hf_let (l3 + (1 : Int32)) fun x1 =>
  k4 l0 l1 s0 x1 V0
theorem nlX0_areAllSo_59 {C : hf_X} {gs : hf_gs} (o : hf_In C cX0_areAllSo RX0 4 (some .boolean) 4 89) (og : hf_G C gs) (k4 : Nat → Int32 → Int32 → Int32 → hf_H → Option (Int32 × hf_H)) (hk4 : ∀ (l0 : Nat) (l1 : Int32) (l2 : Int32) (l3 : Int32) (V0 : hf_H), hf_J C hf_dHI (k4 l0 l1 l2 l3 V0) V0 4 [(0, .ref l0), (1, .int l1), (2, .int l2), (3, .int l3)] []) (l0 : Nat) (l1 : Int32) (l3 : Int32) (s0 : Int32) (V0 : hf_H) : hf_J C hf_dHI (ndX0_areAllSo_59 k4 l0 l1 l3 s0 V0) V0 59 [(0, .ref l0), (1, .int l1), (3, .int l3)] [.int s0] := by
  refine hr_istore_n o [(2, .int s0), (0, .ref l0), (1, .int l1), (3, .int l3)] dX0_areAllSo_59 (by decide) rfl ?_
  refine hr_iincN o (1 : Int32) 3 (fun y => [(3, .int y), (2, .int s0), (0, .ref l0), (1, .int l1)]) dX0_areAllSo_60 rfl (by decide) (by decide) (fun y => rfl) (fun x1 => ?_)
  refine hr_goto o 4 dX0_areAllSo_63 (by decide) ?_
  refine hr_sub [2, 3, 1, 0] rfl ?_
  exact hk4 l0 l1 s0 x1 V0
def ndX0_areAllSo_58 (k4 : Nat → Int32 → Int32 → Int32 → hf_H → Option (Int32 × hf_H)) (l0 : Nat) (l1 : Int32) (l3 : Int32) (V0 : hf_H) : Option (Int32 × hf_H) :=
  ndX0_areAllSo_59 k4 l0 l1 l3 (0 : Int32) V0
theorem nlX0_areAllSo_58 {C : hf_X} {gs : hf_gs} (o : hf_In C cX0_areAllSo RX0 4 (some .boolean) 4 89) (og : hf_G C gs) (k4 : Nat → Int32 → Int32 → Int32 → hf_H → Option (Int32 × hf_H)) (hk4 : ∀ (l0 : Nat) (l1 : Int32) (l2 : Int32) (l3 : Int32) (V0 : hf_H), hf_J C hf_dHI (k4 l0 l1 l2 l3 V0) V0 4 [(0, .ref l0), (1, .int l1), (2, .int l2), (3, .int l3)] []) (l0 : Nat) (l1 : Int32) (l3 : Int32) (V0 : hf_H) : hf_J C hf_dHI (ndX0_areAllSo_58 k4 l0 l1 l3 V0) V0 58 [(0, .ref l0), (1, .int l1), (3, .int l3)] [] := by
  refine hr_iconst o (0 : Int32) dX0_areAllSo_58 (by decide) ?_
  exact nlX0_areAllSo_59 o og k4 hk4 l0 l1 l3 (0 : Int32) V0
def ndX0_areAllSo_45 (k4 : Nat → Int32 → Int32 → Int32 → hf_H → Option (Int32 × hf_H)) (l0 : Nat) (l1 : Int32) (l3 : Int32) (s0 : Int32) (V0 : hf_H) : Option (Int32 × hf_H) :=
  (hf_ob 1 0 V0 l0).bind fun _ =>
  (hf_ai 0 9 12 V0 l0 l3).bind fun x1 =>
  if s0 = x1 then (ndX0_areAllSo_59 k4 l0 l1 l3 (1 : Int32) V0) else
  ndX0_areAllSo_58 k4 l0 l1 l3 V0
theorem nlX0_areAllSo_45 {C : hf_X} {gs : hf_gs} (o : hf_In C cX0_areAllSo RX0 4 (some .boolean) 4 89) (og : hf_G C gs) (k4 : Nat → Int32 → Int32 → Int32 → hf_H → Option (Int32 × hf_H)) (hk4 : ∀ (l0 : Nat) (l1 : Int32) (l2 : Int32) (l3 : Int32) (V0 : hf_H), hf_J C hf_dHI (k4 l0 l1 l2 l3 V0) V0 4 [(0, .ref l0), (1, .int l1), (2, .int l2), (3, .int l3)] []) (l0 : Nat) (l1 : Int32) (l3 : Int32) (s0 : Int32) (V0 : hf_H) : hf_J C hf_dHI (ndX0_areAllSo_45 k4 l0 l1 l3 s0 V0) V0 45 [(0, .ref l0), (1, .int l1), (3, .int l3)] [.int s0] := by
  refine hr_aload_n o 0 dX0_areAllSo_45 rfl ?_
  refine hr_getO o flX0_53 dX0_areAllSo_46 23 (fun _ => rfl) (fun _ _ => ?_)
  refine hr_iload_n o 2 dX0_areAllSo_49 rfl ?_
  refine hx_zald o 0 9 23 12 rfl (by decide) rfl dX0_areAllSo_50 (fun x1 => ?_)
  refine hr_icmp_ne o 58 dX0_areAllSo_51 (by decide) (fun _ => ?_) (fun _ => ?_)
  · refine hr_iconst o (1 : Int32) dX0_areAllSo_54 (by decide) ?_
    refine hr_goto o 59 dX0_areAllSo_55 (by decide) ?_
    exact nlX0_areAllSo_59 o og k4 hk4 l0 l1 l3 (1 : Int32) V0
  exact nlX0_areAllSo_58 o og k4 hk4 l0 l1 l3 V0
def ndX0_areAllSo_4 (k4 : Nat → Int32 → Int32 → Int32 → hf_H → Option (Int32 × hf_H)) (l0 : Nat) (l1 : Int32) (l2 : Int32) (l3 : Int32) (V0 : hf_H) : Option (Int32 × hf_H) :=
  (hf_gi 1 0 10 V0 l0).bind fun x1 =>
  if x1 ≤ l3 then (if l2 = 0 ∨ l2 = 1 then some (l2, V0) else none) else
  if l2 = 0 then (ndX0_areAllSo_58 k4 l0 l1 l3 V0) else
  (hf_ga 1 0 0 V0 l0).bind fun x2 =>
  (hf_ob 1 0 V0 l0).bind fun _ =>
  (hf_ai 0 7 12 V0 l0 l3).bind fun x3 =>
  (hf_ob 1 0 V0 l0).bind fun _ =>
  (hf_ai 0 8 12 V0 l0 l3).bind fun x4 =>
  (hf_ob 1 1 V0 x2).bind fun _ =>
  hf_b2 (spX1_fit x2 x3 x4 l1 V0) fun x6 g5 =>
  if x6 = (2 : Int32) then (ndX0_areAllSo_45 k4 l0 l1 l3 (1 : Int32) g5) else
  ndX0_areAllSo_45 k4 l0 l1 l3 (0 : Int32) g5
theorem nlX0_areAllSo_4 {C : hf_X} {gs : hf_gs} (o : hf_In C cX0_areAllSo RX0 4 (some .boolean) 4 89) (og : hf_G C gs) (k4 : Nat → Int32 → Int32 → Int32 → hf_H → Option (Int32 × hf_H)) (hk4 : ∀ (l0 : Nat) (l1 : Int32) (l2 : Int32) (l3 : Int32) (V0 : hf_H), hf_J C hf_dHI (k4 l0 l1 l2 l3 V0) V0 4 [(0, .ref l0), (1, .int l1), (2, .int l2), (3, .int l3)] []) (l0 : Nat) (l1 : Int32) (l2 : Int32) (l3 : Int32) (V0 : hf_H) : hf_J C hf_dHI (ndX0_areAllSo_4 k4 l0 l1 l2 l3 V0) V0 4 [(0, .ref l0), (1, .int l1), (2, .int l2), (3, .int l3)] [] := by
  refine hr_iload_n o 3 dX0_areAllSo_4 rfl ?_
  refine hr_aload_n o 0 dX0_areAllSo_5 rfl ?_
  refine hr_getI (md := 1) o flX0_140 dX0_areAllSo_6 (fun _ => rfl) (fun x1 => ?_)
  refine hr_icmp_ge o 66 dX0_areAllSo_9 (by decide) (fun _ => ?_) (fun _ => ?_)
  · refine hr_iload_n o 2 dX0_areAllSo_66 rfl ?_
    refine hr_ck (fun hz => ?_)
    exact hr_iret o dX0_areAllSo_67 rfl (hf_nz hz)
  refine hr_iload_n o 2 dX0_areAllSo_12 rfl ?_
  refine hr_if_eq o 58 dX0_areAllSo_13 (by decide) (fun _ => ?_) (fun _ => ?_)
  · refine hr_sub [0, 1, 3] rfl ?_
    exact nlX0_areAllSo_58 o og k4 hk4 l0 l1 l3 V0
  refine hr_aload_n o 0 dX0_areAllSo_16 rfl ?_
  refine hr_getA (md := 1) o flX0_12 dX0_areAllSo_17 (fun _ => rfl) (fun x2 => ?_)
  refine hr_aload_n o 0 dX0_areAllSo_20 rfl ?_
  refine hr_getO o flX0_46 dX0_areAllSo_21 21 (fun _ => rfl) (fun _ _ => ?_)
  refine hr_iload_n o 3 dX0_areAllSo_24 rfl ?_
  refine hx_iald o 0 7 21 12 rfl (by decide) rfl dX0_areAllSo_25 (fun x3 => ?_)
  refine hr_aload_n o 0 dX0_areAllSo_26 rfl ?_
  refine hr_getO o flX0_50 dX0_areAllSo_27 22 (fun _ => rfl) (fun _ _ => ?_)
  refine hr_iload_n o 3 dX0_areAllSo_30 rfl ?_
  refine hx_iald o 0 8 22 12 rfl (by decide) rfl dX0_areAllSo_31 (fun x4 => ?_)
  refine hr_iload_n o 1 dX0_areAllSo_32 rfl ?_
  refine hx_callVI (q := (RX1, TX1, 13)) o og mvX0_115 dX0_areAllSo_33 1 1 rfl [.int x3, .int x4, .int l1] (fun zr zg ze => mtX1_fit x2 x3 x4 l1 V0 zr zg ze) rfl rfl (Nat.le_of_ble_eq_true rfl) ⟨by decide, by decide⟩ (fun x6 g5 => ?_)
  refine hr_iconst o (2 : Int32) dX0_areAllSo_36 (by decide) ?_
  refine hr_icmp_ne o 44 dX0_areAllSo_37 (by decide) (fun _ => ?_) (fun _ => ?_)
  · refine hr_iconst o (1 : Int32) dX0_areAllSo_40 (by decide) ?_
    refine hr_goto o 45 dX0_areAllSo_41 (by decide) ?_
    refine hr_sub [0, 1, 3] rfl ?_
    exact nlX0_areAllSo_45 o og k4 hk4 l0 l1 l3 (1 : Int32) g5
  refine hr_iconst o (0 : Int32) dX0_areAllSo_44 (by decide) ?_
  refine hr_sub [0, 1, 3] rfl ?_
  exact nlX0_areAllSo_45 o og k4 hk4 l0 l1 l3 (0 : Int32) g5
def lpX0_areAllSo_4  : Nat → Nat → Int32 → Int32 → Int32 → hf_H → Option (Int32 × hf_H)
  | 0 => fun _ _ _ _ _ => none
  | n + 1 => fun l0 l1 l2 l3 V0 => ndX0_areAllSo_4  (lpX0_areAllSo_4  n) l0 l1 l2 l3 V0
theorem llX0_areAllSo_4 {C : hf_X} {gs : hf_gs} (o : hf_In C cX0_areAllSo RX0 4 (some .boolean) 4 89) (og : hf_G C gs)   (n : Nat) : ∀ (l0 : Nat) (l1 : Int32) (l2 : Int32) (l3 : Int32) (V0 : hf_H), hf_J C hf_dHI ((lpX0_areAllSo_4  n) l0 l1 l2 l3 V0) V0 4 [(0, .ref l0), (1, .int l1), (2, .int l2), (3, .int l3)] [] := by
  induction n with
  | zero => exact fun _ _ _ _ _ => hr_none
  | succ n ih => exact fun l0 l1 l2 l3 V0 => nlX0_areAllSo_4 o og  (lpX0_areAllSo_4  n)  ih l0 l1 l2 l3 V0
def spX0_areAllSo (l0 : Nat) (l1 : Int32) (V0 : hf_H) : Option (Int32 × hf_H) :=
  lpX0_areAllSo_4 hf_N l0 l1 (1 : Int32) (0 : Int32) V0
theorem jtX0_areAllSo {C : hf_X} {gs : hf_gs} (o : hf_In C cX0_areAllSo RX0 4 (some .boolean) 4 89) (og : hf_G C gs) (l0 : Nat) (l1 : Int32) (V0 : hf_H) : hf_J C hf_dHI (spX0_areAllSo l0 l1 V0) V0 0 [(0, .ref l0), (1, .int l1)] [] := by
  refine hr_iconst o (1 : Int32) dX0_areAllSo_0 (by decide) ?_
  refine hr_istore_n o [(2, .int (1 : Int32)), (0, .ref l0), (1, .int l1)] dX0_areAllSo_1 (by decide) rfl ?_
  refine hr_iconst o (0 : Int32) dX0_areAllSo_2 (by decide) ?_
  refine hr_istore_n o [(3, .int (0 : Int32)), (2, .int (1 : Int32)), (0, .ref l0), (1, .int l1)] dX0_areAllSo_3 (by decide) rfl ?_
  refine hr_sub [2, 3, 1, 0] rfl ?_
  exact llX0_areAllSo_4 o og hf_N l0 l1 (1 : Int32) (0 : Int32) V0
theorem mtX0_areAllSo {gs : hf_gs} (l0 : Nat) (l1 : Int32) (V0 : hf_H) (r : Int32) (V1 : hf_H) (e : spX0_areAllSo l0 l1 V0 = some (r, V1)) : hf_ConG gs yX0_areAllSo cX0_areAllSo 4 (some .boolean) 4 89 [.ref l0, .int l1] V0 (.returned (some (.int r)), V1) := hf_entryG (dec := hf_dHI) (by decide) [.ref l0, .int l1] (Nat.le_of_ble_eq_true rfl) [(0, .ref l0), (1, .int l1)] rfl e (fun C o og _ => jtX0_areAllSo o og l0 l1 V0)

/-! X0_forgers -/
theorem mvX0_398 : hf_MV RX0 398 RX0 yX0_areAllSo cX0_areAllSo 4 (some .boolean) 1 := ⟨lw_V q1313 q1315 qs61 q153 q1316, by decide +kernel⟩
def ndX0_forgers_119 (k27 : Nat → Int32 → Int32 → Int32 → Int32 → hf_H → Option (Int32 × hf_H)) (l0 : Nat) (l1 : Int32) (l2 : Int32) (l3 : Int32) (l4 : Int32) (V0 : hf_H) : Option (Int32 × hf_H) :=
  hf_let (l4 + (1 : Int32)) fun x1 =>
  k27 l0 l1 l2 l3 x1 V0
theorem nlX0_forgers_119 {C : hf_X} {gs : hf_gs} (o : hf_In C cX0_forgers RX0 6 (some .int) 5 112) (og : hf_G C gs) (k27 : Nat → Int32 → Int32 → Int32 → Int32 → hf_H → Option (Int32 × hf_H)) (hk27 : ∀ (l0 : Nat) (l1 : Int32) (l2 : Int32) (l3 : Int32) (l4 : Int32) (V0 : hf_H), hf_J C hf_dHI (k27 l0 l1 l2 l3 l4 V0) V0 27 [(0, .ref l0), (1, .int l1), (2, .int l2), (3, .int l3), (4, .int l4)] []) (l0 : Nat) (l1 : Int32) (l2 : Int32) (l3 : Int32) (l4 : Int32) (V0 : hf_H) : hf_J C hf_dHI (ndX0_forgers_119 k27 l0 l1 l2 l3 l4 V0) V0 119 [(0, .ref l0), (1, .int l1), (2, .int l2), (3, .int l3), (4, .int l4)] [] := by
  refine hr_iincN o (1 : Int32) 4 (fun y => [(4, .int y), (0, .ref l0), (1, .int l1), (2, .int l2), (3, .int l3)]) dX0_forgers_119 rfl (by decide) (by decide) (fun y => rfl) (fun x1 => ?_)
  refine hr_goto o 27 dX0_forgers_122 (by decide) ?_
  refine hr_sub [1, 2, 3, 4, 0] rfl ?_
  exact hk27 l0 l1 l2 l3 x1 V0
def ndX0_forgers_118 (k27 : Nat → Int32 → Int32 → Int32 → Int32 → hf_H → Option (Int32 × hf_H)) (l0 : Nat) (l1 : Int32) (l3 : Int32) (l4 : Int32) (s0 : Int32) (V0 : hf_H) : Option (Int32 × hf_H) :=
  ndX0_forgers_119 k27 l0 l1 s0 l3 l4 V0
theorem nlX0_forgers_118 {C : hf_X} {gs : hf_gs} (o : hf_In C cX0_forgers RX0 6 (some .int) 5 112) (og : hf_G C gs) (k27 : Nat → Int32 → Int32 → Int32 → Int32 → hf_H → Option (Int32 × hf_H)) (hk27 : ∀ (l0 : Nat) (l1 : Int32) (l2 : Int32) (l3 : Int32) (l4 : Int32) (V0 : hf_H), hf_J C hf_dHI (k27 l0 l1 l2 l3 l4 V0) V0 27 [(0, .ref l0), (1, .int l1), (2, .int l2), (3, .int l3), (4, .int l4)] []) (l0 : Nat) (l1 : Int32) (l3 : Int32) (l4 : Int32) (s0 : Int32) (V0 : hf_H) : hf_J C hf_dHI (ndX0_forgers_118 k27 l0 l1 l3 l4 s0 V0) V0 118 [(0, .ref l0), (1, .int l1), (3, .int l3), (4, .int l4)] [.int s0] := by
  refine hr_istore_n o [(2, .int s0), (0, .ref l0), (1, .int l1), (3, .int l3), (4, .int l4)] dX0_forgers_118 (by decide) rfl ?_
  refine hr_sub [1, 2, 0, 3, 4] rfl ?_
  exact nlX0_forgers_119 o og k27 hk27 l0 l1 s0 l3 l4 V0
def ndX0_forgers_116 (k27 : Nat → Int32 → Int32 → Int32 → Int32 → hf_H → Option (Int32 × hf_H)) (l0 : Nat) (l1 : Int32) (l3 : Int32) (l4 : Int32) (V0 : hf_H) : Option (Int32 × hf_H) :=
  ndX0_forgers_118 k27 l0 l1 l3 l4 l4 V0
theorem nlX0_forgers_116 {C : hf_X} {gs : hf_gs} (o : hf_In C cX0_forgers RX0 6 (some .int) 5 112) (og : hf_G C gs) (k27 : Nat → Int32 → Int32 → Int32 → Int32 → hf_H → Option (Int32 × hf_H)) (hk27 : ∀ (l0 : Nat) (l1 : Int32) (l2 : Int32) (l3 : Int32) (l4 : Int32) (V0 : hf_H), hf_J C hf_dHI (k27 l0 l1 l2 l3 l4 V0) V0 27 [(0, .ref l0), (1, .int l1), (2, .int l2), (3, .int l3), (4, .int l4)] []) (l0 : Nat) (l1 : Int32) (l3 : Int32) (l4 : Int32) (V0 : hf_H) : hf_J C hf_dHI (ndX0_forgers_116 k27 l0 l1 l3 l4 V0) V0 116 [(0, .ref l0), (1, .int l1), (3, .int l3), (4, .int l4)] [] := by
  refine hr_iload o 3 dX0_forgers_116 rfl ?_
  exact nlX0_forgers_118 o og k27 hk27 l0 l1 l3 l4 l4 V0
def ndX0_forgers_96 (k27 : Nat → Int32 → Int32 → Int32 → Int32 → hf_H → Option (Int32 × hf_H)) (l0 : Nat) (l1 : Int32) (l2 : Int32) (l4 : Int32) (l5 : Int32) (s0 : Int32) (V0 : hf_H) : Option (Int32 × hf_H) :=
  if l2 = (-2 : Int32) then (ndX0_forgers_116 k27 l0 l1 s0 l4 V0) else
  (spJ14_bitCount l2).bind fun x1 =>
  if l5 = x1 then (ndX0_forgers_118 k27 l0 l1 s0 l4 l2 V0) else
  ndX0_forgers_116 k27 l0 l1 s0 l4 V0
theorem nlX0_forgers_96 {C : hf_X} {gs : hf_gs} (o : hf_In C cX0_forgers RX0 6 (some .int) 5 112) (og : hf_G C gs) (k27 : Nat → Int32 → Int32 → Int32 → Int32 → hf_H → Option (Int32 × hf_H)) (hk27 : ∀ (l0 : Nat) (l1 : Int32) (l2 : Int32) (l3 : Int32) (l4 : Int32) (V0 : hf_H), hf_J C hf_dHI (k27 l0 l1 l2 l3 l4 V0) V0 27 [(0, .ref l0), (1, .int l1), (2, .int l2), (3, .int l3), (4, .int l4)] []) (l0 : Nat) (l1 : Int32) (l2 : Int32) (l4 : Int32) (l5 : Int32) (s0 : Int32) (V0 : hf_H) : hf_J C hf_dHI (ndX0_forgers_96 k27 l0 l1 l2 l4 l5 s0 V0) V0 96 [(0, .ref l0), (1, .int l1), (2, .int l2), (4, .int l4), (5, .int l5)] [.int s0] := by
  refine hr_istore_n o [(3, .int s0), (0, .ref l0), (1, .int l1), (2, .int l2), (4, .int l4), (5, .int l5)] dX0_forgers_96 (by decide) rfl ?_
  refine hr_iload_n o 3 dX0_forgers_97 rfl ?_
  refine hr_bipush o (-2 : Int32) dX0_forgers_98 (by decide) ?_
  refine hr_icmp_eq o 116 dX0_forgers_100 (by decide) (fun _ => ?_) (fun _ => ?_)
  · refine hr_sub [1, 2, 0, 4] rfl ?_
    exact nlX0_forgers_116 o og k27 hk27 l0 l1 s0 l4 V0
  refine hr_iload o 5 dX0_forgers_103 rfl ?_
  refine hr_iload_n o 3 dX0_forgers_105 rfl ?_
  refine pr_callI o msX0_291 dX0_forgers_106 [.int l2] (fun zr ze => mtJ14_bitCount l2 zr ze) rfl rfl (Nat.le_of_ble_eq_true rfl) ⟨by decide, by decide⟩ (fun x1 => ?_)
  refine hr_icmp_ne o 116 dX0_forgers_109 (by decide) (fun _ => ?_) (fun _ => ?_)
  · refine hr_iload_n o 3 dX0_forgers_112 rfl ?_
    refine hr_goto o 118 dX0_forgers_113 (by decide) ?_
    refine hr_sub [1, 2, 0, 4] rfl ?_
    exact nlX0_forgers_118 o og k27 hk27 l0 l1 s0 l4 l2 V0
  refine hr_sub [1, 2, 0, 4] rfl ?_
  exact nlX0_forgers_116 o og k27 hk27 l0 l1 s0 l4 V0
def ndX0_forgers_94 (k27 : Nat → Int32 → Int32 → Int32 → Int32 → hf_H → Option (Int32 × hf_H)) (l0 : Nat) (l1 : Int32) (l2 : Int32) (l4 : Int32) (l5 : Int32) (V0 : hf_H) : Option (Int32 × hf_H) :=
  ndX0_forgers_96 k27 l0 l1 l2 l4 l5 l4 V0
theorem nlX0_forgers_94 {C : hf_X} {gs : hf_gs} (o : hf_In C cX0_forgers RX0 6 (some .int) 5 112) (og : hf_G C gs) (k27 : Nat → Int32 → Int32 → Int32 → Int32 → hf_H → Option (Int32 × hf_H)) (hk27 : ∀ (l0 : Nat) (l1 : Int32) (l2 : Int32) (l3 : Int32) (l4 : Int32) (V0 : hf_H), hf_J C hf_dHI (k27 l0 l1 l2 l3 l4 V0) V0 27 [(0, .ref l0), (1, .int l1), (2, .int l2), (3, .int l3), (4, .int l4)] []) (l0 : Nat) (l1 : Int32) (l2 : Int32) (l4 : Int32) (l5 : Int32) (V0 : hf_H) : hf_J C hf_dHI (ndX0_forgers_94 k27 l0 l1 l2 l4 l5 V0) V0 94 [(0, .ref l0), (1, .int l1), (2, .int l2), (4, .int l4), (5, .int l5)] [] := by
  refine hr_iload o 3 dX0_forgers_94 rfl ?_
  exact nlX0_forgers_96 o og k27 hk27 l0 l1 l2 l4 l5 l4 V0
def ndX0_forgers_60 (k27 : Nat → Int32 → Int32 → Int32 → Int32 → hf_H → Option (Int32 × hf_H)) (l0 : Nat) (l1 : Int32) (l2 : Int32) (l3 : Int32) (l4 : Int32) (l5 : Int32) (V0 : hf_H) : Option (Int32 × hf_H) :=
  (hf_ob 1 0 V0 l0).bind fun _ =>
  hf_b2 (spX0_areAllSo l0 l4 V0) fun x2 g1 =>
  if x2 = 0 then (ndX0_forgers_119 k27 l0 l1 l2 l3 l4 g1) else
  if l2 = (-2 : Int32) then (ndX0_forgers_94 k27 l0 l1 l2 l4 l5 g1) else
  (spJ14_bitCount l2).bind fun x3 =>
  if l5 = x3 then (ndX0_forgers_96 k27 l0 l1 l2 l4 l5 (l3 ||| l4) g1) else
  ndX0_forgers_94 k27 l0 l1 l2 l4 l5 g1
theorem nlX0_forgers_60 {C : hf_X} {gs : hf_gs} (o : hf_In C cX0_forgers RX0 6 (some .int) 5 112) (og : hf_G C gs) (k27 : Nat → Int32 → Int32 → Int32 → Int32 → hf_H → Option (Int32 × hf_H)) (hk27 : ∀ (l0 : Nat) (l1 : Int32) (l2 : Int32) (l3 : Int32) (l4 : Int32) (V0 : hf_H), hf_J C hf_dHI (k27 l0 l1 l2 l3 l4 V0) V0 27 [(0, .ref l0), (1, .int l1), (2, .int l2), (3, .int l3), (4, .int l4)] []) (l0 : Nat) (l1 : Int32) (l2 : Int32) (l3 : Int32) (l4 : Int32) (l5 : Int32) (V0 : hf_H) : hf_J C hf_dHI (ndX0_forgers_60 k27 l0 l1 l2 l3 l4 l5 V0) V0 60 [(0, .ref l0), (1, .int l1), (2, .int l2), (3, .int l3), (4, .int l4), (5, .int l5)] [] := by
  refine hr_aload_n o 0 dX0_forgers_60 rfl ?_
  refine hr_iload o 4 dX0_forgers_61 rfl ?_
  refine hx_callVI (q := (RX0, TX0, 23)) o og mvX0_398 dX0_forgers_63 1 0 rfl [.int l4] (fun zr zg ze => mtX0_areAllSo l0 l4 V0 zr zg ze) rfl rfl (Nat.le_of_ble_eq_true rfl) ⟨by decide, by decide⟩ (fun x2 g1 => ?_)
  refine hr_if_ne o 72 dX0_forgers_66 (by decide) (fun _ => ?_) (fun _ => ?_)
  · refine hr_goto o 119 dX0_forgers_69 (by decide) ?_
    refine hr_sub [0, 1, 2, 3, 4] rfl ?_
    exact nlX0_forgers_119 o og k27 hk27 l0 l1 l2 l3 l4 g1
  refine hr_iload_n o 2 dX0_forgers_72 rfl ?_
  refine hr_bipush o (-2 : Int32) dX0_forgers_73 (by decide) ?_
  refine hr_icmp_eq o 94 dX0_forgers_75 (by decide) (fun _ => ?_) (fun _ => ?_)
  · refine hr_sub [0, 1, 2, 4, 5] rfl ?_
    exact nlX0_forgers_94 o og k27 hk27 l0 l1 l2 l4 l5 g1
  refine hr_iload o 5 dX0_forgers_78 rfl ?_
  refine hr_iload_n o 2 dX0_forgers_80 rfl ?_
  refine pr_callI o msX0_291 dX0_forgers_81 [.int l2] (fun zr ze => mtJ14_bitCount l2 zr ze) rfl rfl (Nat.le_of_ble_eq_true rfl) ⟨by decide, by decide⟩ (fun x3 => ?_)
  refine hr_icmp_ne o 94 dX0_forgers_84 (by decide) (fun _ => ?_) (fun _ => ?_)
  · refine hr_iload_n o 3 dX0_forgers_87 rfl ?_
    refine hr_iload o 4 dX0_forgers_88 rfl ?_
    refine hr_ior o dX0_forgers_90 ?_
    refine hr_goto o 96 dX0_forgers_91 (by decide) ?_
    refine hr_sub [0, 1, 2, 4, 5] rfl ?_
    exact nlX0_forgers_96 o og k27 hk27 l0 l1 l2 l4 l5 (l3 ||| l4) g1
  refine hr_sub [0, 1, 2, 4, 5] rfl ?_
  exact nlX0_forgers_94 o og k27 hk27 l0 l1 l2 l4 l5 g1
def ndX0_forgers_27 (k27 : Nat → Int32 → Int32 → Int32 → Int32 → hf_H → Option (Int32 × hf_H)) (l0 : Nat) (l1 : Int32) (l2 : Int32) (l3 : Int32) (l4 : Int32) (V0 : hf_H) : Option (Int32 × hf_H) :=
  (hf_ob 1 0 V0 l0).bind fun _ =>
  hf_b2 (spX0_many l0 V0) fun x2 g1 =>
  if ((1 : Int32) <<< (x2 &&& 31)) ≤ l4 then (if l1 = 0 then (some (l2, g1)) else
  if l2 = (-2 : Int32) then (some ((0 : Int32), g1)) else
  (hf_ob 1 0 g1 l0).bind fun _ =>
  hf_b2 (spX0_many l0 g1) fun x4 g3 =>
  some (((((1 : Int32) <<< (x4 &&& 31)) - (1 : Int32)) &&& (l3 ^^^ (-1 : Int32))), g3)) else
  (spJ14_bitCount l4).bind fun x5 =>
  if l2 = (-2 : Int32) then (ndX0_forgers_60 k27 l0 l1 l2 l3 l4 x5 g1) else
  (spJ14_bitCount l2).bind fun x6 =>
  if x6 < x5 then (ndX0_forgers_119 k27 l0 l1 l2 l3 l4 g1) else
  ndX0_forgers_60 k27 l0 l1 l2 l3 l4 x5 g1
theorem nlX0_forgers_27 {C : hf_X} {gs : hf_gs} (o : hf_In C cX0_forgers RX0 6 (some .int) 5 112) (og : hf_G C gs) (k27 : Nat → Int32 → Int32 → Int32 → Int32 → hf_H → Option (Int32 × hf_H)) (hk27 : ∀ (l0 : Nat) (l1 : Int32) (l2 : Int32) (l3 : Int32) (l4 : Int32) (V0 : hf_H), hf_J C hf_dHI (k27 l0 l1 l2 l3 l4 V0) V0 27 [(0, .ref l0), (1, .int l1), (2, .int l2), (3, .int l3), (4, .int l4)] []) (l0 : Nat) (l1 : Int32) (l2 : Int32) (l3 : Int32) (l4 : Int32) (V0 : hf_H) : hf_J C hf_dHI (ndX0_forgers_27 k27 l0 l1 l2 l3 l4 V0) V0 27 [(0, .ref l0), (1, .int l1), (2, .int l2), (3, .int l3), (4, .int l4)] [] := by
  refine hr_iload o 4 dX0_forgers_27 rfl ?_
  refine hr_iconst o (1 : Int32) dX0_forgers_29 (by decide) ?_
  refine hr_aload_n o 0 dX0_forgers_30 rfl ?_
  refine hx_callVI (q := (RX0, TX0, 23)) o og mvX0_103 dX0_forgers_31 1 0 rfl [] (fun zr zg ze => mtX0_many l0 V0 zr zg ze) rfl rfl (Nat.le_of_ble_eq_true rfl) ⟨by decide, by decide⟩ (fun x2 g1 => ?_)
  refine hr_ishl o dX0_forgers_34 ?_
  refine hr_icmp_ge o 125 dX0_forgers_35 (by decide) (fun _ => ?_) (fun _ => ?_)
  · refine hr_iload_n o 1 dX0_forgers_125 rfl ?_
    refine hr_if_ne o 131 dX0_forgers_126 (by decide) (fun _ => ?_) (fun _ => ?_)
    · refine hr_iload_n o 2 dX0_forgers_129 rfl ?_
      exact hr_iret o dX0_forgers_130 rfl rfl
    refine hr_iload_n o 2 dX0_forgers_131 rfl ?_
    refine hr_bipush o (-2 : Int32) dX0_forgers_132 (by decide) ?_
    refine hr_icmp_ne o 141 dX0_forgers_134 (by decide) (fun _ => ?_) (fun _ => ?_)
    · refine hr_iconst o (0 : Int32) dX0_forgers_137 (by decide) ?_
      refine hr_goto o 153 dX0_forgers_138 (by decide) ?_
      exact hr_iret o dX0_forgers_153 rfl rfl
    refine hr_iconst o (1 : Int32) dX0_forgers_141 (by decide) ?_
    refine hr_aload_n o 0 dX0_forgers_142 rfl ?_
    refine hx_callVI (q := (RX0, TX0, 23)) o og mvX0_103 dX0_forgers_143 1 0 rfl [] (fun zr zg ze => mtX0_many l0 g1 zr zg ze) rfl rfl (Nat.le_of_ble_eq_true rfl) ⟨by decide, by decide⟩ (fun x4 g3 => ?_)
    refine hr_ishl o dX0_forgers_146 ?_
    refine hr_iconst o (1 : Int32) dX0_forgers_147 (by decide) ?_
    refine hr_isub o dX0_forgers_148 ?_
    refine hr_iload_n o 3 dX0_forgers_149 rfl ?_
    refine hr_iconst o (-1 : Int32) dX0_forgers_150 (by decide) ?_
    refine hr_ixor o dX0_forgers_151 ?_
    refine hr_iand o dX0_forgers_152 ?_
    exact hr_iret o dX0_forgers_153 rfl rfl
  refine hr_iload o 4 dX0_forgers_38 rfl ?_
  refine pr_callI o msX0_291 dX0_forgers_40 [.int l4] (fun zr ze => mtJ14_bitCount l4 zr ze) rfl rfl (Nat.le_of_ble_eq_true rfl) ⟨by decide, by decide⟩ (fun x5 => ?_)
  refine hr_istore o [(5, .int x5), (0, .ref l0), (1, .int l1), (2, .int l2), (3, .int l3), (4, .int l4)] dX0_forgers_43 (by decide) rfl ?_
  refine hr_iload_n o 3 dX0_forgers_45 rfl ?_
  refine hr_bipush o (-2 : Int32) dX0_forgers_46 (by decide) ?_
  refine hr_icmp_eq o 60 dX0_forgers_48 (by decide) (fun _ => ?_) (fun _ => ?_)
  · refine hr_sub [1, 2, 3, 4, 5, 0] rfl ?_
    exact nlX0_forgers_60 o og k27 hk27 l0 l1 l2 l3 l4 x5 g1
  refine hr_iload o 0 dX0_forgers_51 rfl ?_
  refine hr_iload_n o 3 dX0_forgers_53 rfl ?_
  refine pr_callI o msX0_291 dX0_forgers_54 [.int l2] (fun zr ze => mtJ14_bitCount l2 zr ze) rfl rfl (Nat.le_of_ble_eq_true rfl) ⟨by decide, by decide⟩ (fun x6 => ?_)
  refine hr_icmp_gt o 119 dX0_forgers_57 (by decide) (fun _ => ?_) (fun _ => ?_)
  · refine hr_sub [1, 2, 3, 4, 5] rfl ?_
    exact nlX0_forgers_119 o og k27 hk27 l0 l1 l2 l3 l4 g1
  refine hr_sub [1, 2, 3, 4, 5, 0] rfl ?_
  exact nlX0_forgers_60 o og k27 hk27 l0 l1 l2 l3 l4 x5 g1
def lpX0_forgers_27  : Nat → Nat → Int32 → Int32 → Int32 → Int32 → hf_H → Option (Int32 × hf_H)
  | 0 => fun _ _ _ _ _ _ => none
  | n + 1 => fun l0 l1 l2 l3 l4 V0 => ndX0_forgers_27  (lpX0_forgers_27  n) l0 l1 l2 l3 l4 V0
theorem llX0_forgers_27 {C : hf_X} {gs : hf_gs} (o : hf_In C cX0_forgers RX0 6 (some .int) 5 112) (og : hf_G C gs)   (n : Nat) : ∀ (l0 : Nat) (l1 : Int32) (l2 : Int32) (l3 : Int32) (l4 : Int32) (V0 : hf_H), hf_J C hf_dHI ((lpX0_forgers_27  n) l0 l1 l2 l3 l4 V0) V0 27 [(0, .ref l0), (1, .int l1), (2, .int l2), (3, .int l3), (4, .int l4)] [] := by
  induction n with
  | zero => exact fun _ _ _ _ _ _ => hr_none
  | succ n ih => exact fun l0 l1 l2 l3 l4 V0 => nlX0_forgers_27 o og  (lpX0_forgers_27  n)  ih l0 l1 l2 l3 l4 V0
def spX0_forgers (l0 : Nat) (l1 : Int32) (V0 : hf_H) : Option (Int32 × hf_H) :=
  (hf_ob 1 0 V0 l0).bind fun _ =>
  hf_b2 (spX0_isFair l0 V0) fun x2 g1 =>
  if x2 = 0 then (some ((-1 : Int32), g1)) else
  (spX0_in (Int32.toInt64 l1) (0 : Int64) (1 : Int64)).bind fun x3 =>
  if x3 = 0 then (some ((-1 : Int32), g1)) else
  lpX0_forgers_27 hf_N l0 l1 (-2 : Int32) (0 : Int32) (0 : Int32) g1
theorem jtX0_forgers {C : hf_X} {gs : hf_gs} (o : hf_In C cX0_forgers RX0 6 (some .int) 5 112) (og : hf_G C gs) (l0 : Nat) (l1 : Int32) (V0 : hf_H) : hf_J C hf_dHI (spX0_forgers l0 l1 V0) V0 0 [(0, .ref l0), (1, .int l1)] [] := by
  refine hr_aload_n o 0 dX0_forgers_0 rfl ?_
  refine hx_callVI (q := (RX0, TX0, 23)) o og mvX0_231 dX0_forgers_1 1 0 rfl [] (fun zr zg ze => mtX0_isFair l0 V0 zr zg ze) rfl rfl (Nat.le_of_ble_eq_true rfl) ⟨by decide, by decide⟩ (fun x2 g1 => ?_)
  refine hr_if_eq o 17 dX0_forgers_4 (by decide) (fun _ => ?_) (fun _ => ?_)
  · refine hr_iconst o (-1 : Int32) dX0_forgers_17 (by decide) ?_
    exact hr_iret o dX0_forgers_18 rfl rfl
  refine hr_iload_n o 1 dX0_forgers_7 rfl ?_
  refine hr_i2l o dX0_forgers_8 ?_
  refine hr_lconst o (0 : Int64) dX0_forgers_9 (by decide) ?_
  refine hr_lconst o (1 : Int64) dX0_forgers_10 (by decide) ?_
  refine pr_callI o msX0_106 dX0_forgers_11 [.long (Int32.toInt64 l1), .long (0 : Int64), .long (1 : Int64)] (fun zr ze => mtX0_in (Int32.toInt64 l1) (0 : Int64) (1 : Int64) zr ze) rfl rfl (Nat.le_of_ble_eq_true rfl) ⟨by decide, by decide⟩ (fun x3 => ?_)
  refine hr_if_ne o 19 dX0_forgers_14 (by decide) (fun _ => ?_) (fun _ => ?_)
  · refine hr_iconst o (-1 : Int32) dX0_forgers_17 (by decide) ?_
    exact hr_iret o dX0_forgers_18 rfl rfl
  refine hr_bipush o (-2 : Int32) dX0_forgers_19 (by decide) ?_
  refine hr_istore_n o [(2, .int (-2 : Int32)), (0, .ref l0), (1, .int l1)] dX0_forgers_21 (by decide) rfl ?_
  refine hr_iconst o (0 : Int32) dX0_forgers_22 (by decide) ?_
  refine hr_istore_n o [(3, .int (0 : Int32)), (2, .int (-2 : Int32)), (0, .ref l0), (1, .int l1)] dX0_forgers_23 (by decide) rfl ?_
  refine hr_iconst o (0 : Int32) dX0_forgers_24 (by decide) ?_
  refine hr_istore o [(4, .int (0 : Int32)), (3, .int (0 : Int32)), (2, .int (-2 : Int32)), (0, .ref l0), (1, .int l1)] dX0_forgers_25 (by decide) rfl ?_
  refine hr_sub [3, 4, 2, 1, 0] rfl ?_
  exact llX0_forgers_27 o og hf_N l0 l1 (-2 : Int32) (0 : Int32) (0 : Int32) g1
theorem mtX0_forgers {gs : hf_gs} (l0 : Nat) (l1 : Int32) (V0 : hf_H) (r : Int32) (V1 : hf_H) (e : spX0_forgers l0 l1 V0 = some (r, V1)) : hf_ConG gs yX0_forgers cX0_forgers 6 (some .int) 5 112 [.ref l0, .int l1] V0 (.returned (some (.int r)), V1) := hf_entryG (dec := hf_dHI) (by decide) [.ref l0, .int l1] (Nat.le_of_ble_eq_true rfl) [(0, .ref l0), (1, .int l1)] rfl e (fun C o og _ => jtX0_forgers o og l0 l1 V0)

/-! X0_seed -/
theorem flX0_401 : hf_Fl RX0 401 0 11 := ⟨(RX0, TX0, 23), RX0, rfl, by decide, in_X0, tyX0_ok, nmX0, Or.inl q408, Or.inl rfl⟩
theorem nf_0_11 : hf_Nf 0 11 := ⟨(RX0, TX0, 23), rfl, rfl⟩
def spX0_seed (l0 : Nat) (l1 : Int32) (V0 : hf_H) : Option (Int32 × hf_H) :=
  if 0 ≤ l1 then ((hf_gi 1 0 11 V0 l0).bind fun x1 =>
  (hf_pi 1 0 11 V0 l0 l1).bind fun g2 =>
  some (x1, g2)) else
  some ((-1 : Int32), V0)
theorem jtX0_seed {C : hf_X} {gs : hf_gs} (o : hf_In C cX0_seed RX0 3 (some .int) 0 0) (og : hf_G C gs) (l0 : Nat) (l1 : Int32) (V0 : hf_H) : hf_J C hf_dHI (spX0_seed l0 l1 V0) V0 0 [(0, .ref l0), (1, .int l1)] [] := by
  refine hr_iload_n o 1 dX0_seed_0 rfl ?_
  refine hr_if_ge o 6 dX0_seed_1 (by decide) (fun _ => ?_) (fun _ => ?_)
  · refine hr_aload_n o 0 dX0_seed_6 rfl ?_
    refine hr_getI (md := 1) o flX0_401 dX0_seed_7 (fun _ => rfl) (fun x1 => ?_)
    refine hr_istore_n o [(2, .int x1), (0, .ref l0), (1, .int l1)] dX0_seed_10 (by decide) rfl ?_
    refine hr_aload_n o 1 dX0_seed_11 rfl ?_
    refine hr_iload_n o 2 dX0_seed_12 rfl ?_
    refine hx_putI (md := 1) o flX0_401 dX0_seed_13 rfl (Or.inl nf_0_11) rfl rfl (fun _ => rfl) (fun g2 => ?_)
    refine hr_iload_n o 0 dX0_seed_16 rfl ?_
    exact hr_iret o dX0_seed_17 rfl rfl
  refine hr_iconst o (-1 : Int32) dX0_seed_4 (by decide) ?_
  exact hr_iret o dX0_seed_5 rfl rfl
theorem mtX0_seed {gs : hf_gs} (l0 : Nat) (l1 : Int32) (V0 : hf_H) (r : Int32) (V1 : hf_H) (e : spX0_seed l0 l1 V0 = some (r, V1)) : hf_ConG gs yX0_seed cX0_seed 3 (some .int) 0 0 [.ref l0, .int l1] V0 (.returned (some (.int r)), V1) := hf_entryG (dec := hf_dHI) (by decide) [.ref l0, .int l1] (Nat.le_of_ble_eq_true rfl) [(0, .ref l0), (1, .int l1)] rfl e (fun C o og _ => jtX0_seed o og l0 l1 V0)

/-! X0_draws -/
def spX0_draws (l0 : Nat) (l1 : Int32) (V0 : hf_H) : Option (Int32 × hf_H) :=
  (hf_gi 1 0 11 V0 l0).bind fun x1 =>
  if (2147483648 : Int64) = 0 then none else
  (hf_pi 1 0 11 V0 l0 (Int64.toInt32 ((((Int32.toInt64 x1) * (1103515245 : Int64)) + (12345 : Int64)) - (((Int32.toInt64 x1) * (1103515245 : Int64)) + (12345 : Int64)) / (2147483648 : Int64) * (2147483648 : Int64)))).bind fun g2 =>
  (hf_gi 1 0 11 g2 l0).bind fun x3 =>
  if (65536 : Int32) = 0 then none else
  if l1 = 0 then none else
  some (((x3 / (65536 : Int32)) - (x3 / (65536 : Int32)) / l1 * l1), g2)
theorem jtX0_draws {C : hf_X} {gs : hf_gs} (o : hf_In C cX0_draws RX0 2 (some .int) 0 0) (og : hf_G C gs) (l0 : Nat) (l1 : Int32) (V0 : hf_H) : hf_J C hf_dHI (spX0_draws l0 l1 V0) V0 0 [(0, .ref l0), (1, .int l1)] [] := by
  refine hr_aload_n o 0 dX0_draws_0 rfl ?_
  refine hr_aload_n o 0 dX0_draws_1 rfl ?_
  refine hr_getI (md := 1) o flX0_401 dX0_draws_2 (fun _ => rfl) (fun x1 => ?_)
  refine hr_i2l o dX0_draws_5 ?_
  refine hr_ldc2 o (1103515245 : Int64) q1335 dX0_draws_6 ?_
  refine hr_lmul o dX0_draws_9 ?_
  refine hr_ldc2 o (12345 : Int64) q1336 dX0_draws_10 ?_
  refine hr_ladd o dX0_draws_13 ?_
  refine hr_ldc2 o (2147483648 : Int64) q1337 dX0_draws_14 ?_
  refine hr_lrem o dX0_draws_17 (fun _ => ?_)
  refine hr_l2i o dX0_draws_18 ?_
  refine hx_putI (md := 1) o flX0_401 dX0_draws_19 rfl (Or.inl nf_0_11) rfl rfl (fun _ => rfl) (fun g2 => ?_)
  refine hr_aload_n o 0 dX0_draws_22 rfl ?_
  refine hr_getI (md := 1) o flX0_401 dX0_draws_23 (fun _ => rfl) (fun x3 => ?_)
  refine hr_ldcw o (65536 : Int32) q1338 dX0_draws_26 ?_
  refine hr_idiv o dX0_draws_29 (fun _ => ?_)
  refine hr_iload_n o 1 dX0_draws_30 rfl ?_
  refine hr_irem o dX0_draws_31 (fun _ => ?_)
  exact hr_iret o dX0_draws_32 rfl rfl
theorem mtX0_draws {gs : hf_gs} (l0 : Nat) (l1 : Int32) (V0 : hf_H) (r : Int32) (V1 : hf_H) (e : spX0_draws l0 l1 V0 = some (r, V1)) : hf_ConG gs yX0_draws cX0_draws 2 (some .int) 0 0 [.ref l0, .int l1] V0 (.returned (some (.int r)), V1) := hf_entryG (dec := hf_dHI) (by decide) [.ref l0, .int l1] (Nat.le_of_ble_eq_true rfl) [(0, .ref l0), (1, .int l1)] rfl e (fun C o og _ => jtX0_draws o og l0 l1 V0)

/-! X0_drawnHour -/
theorem mvX0_411 : hf_MV RX0 411 RX0 yX0_draws cX0_draws 2 (some .int) 1 := ⟨lw_V q1331 q1333 qs63 q153 q1334, by decide +kernel⟩
def ndX0_drawnHour_91 (k6 : Nat → Nat → Nat → Int32 → Int32 → Int32 → hf_H → Option (Int32 × hf_H)) (l0 : Nat) (l1 : Nat) (l2 : Nat) (l3 : Int32) (l4 : Int32) (l5 : Int32) (s0 : Nat) (s1 : Nat) (s2 : Int32) (s3 : Int32) (V0 : hf_H) : Option (Int32 × hf_H) :=
  (hf_ob 1 2 V0 s0).bind fun _ =>
  (spX2_goes s0 s1 s2 s3 V0).bind fun g1 =>
  hf_let (l5 + (1 : Int32)) fun x2 =>
  k6 l0 l1 l2 l3 l4 x2 g1
theorem nlX0_drawnHour_91 {C : hf_X} {gs : hf_gs} (o : hf_In C cX0_drawnHour RX0 8 (some .int) 133 3323) (og : hf_G C gs) (k6 : Nat → Nat → Nat → Int32 → Int32 → Int32 → hf_H → Option (Int32 × hf_H)) (hk6 : ∀ (l0 : Nat) (l1 : Nat) (l2 : Nat) (l3 : Int32) (l4 : Int32) (l5 : Int32) (V0 : hf_H), hf_J C hf_dHI (k6 l0 l1 l2 l3 l4 l5 V0) V0 6 [(0, .ref l0), (1, .ref l1), (2, .ref l2), (3, .int l3), (4, .int l4), (5, .int l5)] []) (l0 : Nat) (l1 : Nat) (l2 : Nat) (l3 : Int32) (l4 : Int32) (l5 : Int32) (s0 : Nat) (s1 : Nat) (s2 : Int32) (s3 : Int32) (V0 : hf_H) : hf_J C hf_dHI (ndX0_drawnHour_91 k6 l0 l1 l2 l3 l4 l5 s0 s1 s2 s3 V0) V0 91 [(0, .ref l0), (1, .ref l1), (2, .ref l2), (3, .int l3), (4, .int l4), (5, .int l5)] [.int s3, .int s2, .ref s1, .ref s0] := by
  refine hx_callVV (q := (RX2, TX2, 5)) o og mvX0_259 dX0_drawnHour_91 1 2 rfl [.ref s1, .int s2, .int s3] (fun zg ze => mtX2_goes s0 s1 s2 s3 V0 zg ze) rfl rfl (Nat.le_of_ble_eq_true rfl) ⟨by decide, by decide⟩ (fun g1 => ?_)
  refine hr_iincN o (1 : Int32) 5 (fun y => [(5, .int y), (0, .ref l0), (1, .ref l1), (2, .ref l2), (3, .int l3), (4, .int l4)]) dX0_drawnHour_94 rfl (by decide) (by decide) (fun y => rfl) (fun x2 => ?_)
  refine hr_goto o 6 dX0_drawnHour_97 (by decide) ?_
  refine hr_sub [1, 2, 3, 4, 5, 0] rfl ?_
  exact hk6 l0 l1 l2 l3 l4 x2 g1
def ndX0_drawnHour_48 (k6 : Nat → Nat → Nat → Int32 → Int32 → Int32 → hf_H → Option (Int32 × hf_H)) (l0 : Nat) (l1 : Nat) (l2 : Nat) (l3 : Int32) (l4 : Int32) (l5 : Int32) (l6 : Int32) (s0 : Int32) (V0 : hf_H) : Option (Int32 × hf_H) :=
  (hf_ob 1 0 V0 l0).bind fun _ =>
  hf_b2 (spX0_buysBy l0 l1 l5 l2 V0) fun x2 g1 =>
  (spJ14_bitCount x2).bind fun x3 =>
  hf_let (l4 + x3) fun x4 =>
  (hf_ga 1 0 0 g1 l0).bind fun x5 =>
  if l6 = 0 then ((hf_ob 1 0 g1 l0).bind fun _ =>
  hf_b2 (spX0_wayBy l0 l1 l5 l2 g1) fun x7 g6 =>
  ndX0_drawnHour_91 k6 l0 l1 l2 l3 x4 l5 l1 x5 l5 x7 g6) else
  ndX0_drawnHour_91 k6 l0 l1 l2 l3 x4 l5 l1 x5 l5 s0 g1
theorem nlX0_drawnHour_48 {C : hf_X} {gs : hf_gs} (o : hf_In C cX0_drawnHour RX0 8 (some .int) 133 3323) (og : hf_G C gs) (k6 : Nat → Nat → Nat → Int32 → Int32 → Int32 → hf_H → Option (Int32 × hf_H)) (hk6 : ∀ (l0 : Nat) (l1 : Nat) (l2 : Nat) (l3 : Int32) (l4 : Int32) (l5 : Int32) (V0 : hf_H), hf_J C hf_dHI (k6 l0 l1 l2 l3 l4 l5 V0) V0 6 [(0, .ref l0), (1, .ref l1), (2, .ref l2), (3, .int l3), (4, .int l4), (5, .int l5)] []) (l0 : Nat) (l1 : Nat) (l2 : Nat) (l3 : Int32) (l4 : Int32) (l5 : Int32) (l6 : Int32) (s0 : Int32) (V0 : hf_H) : hf_J C hf_dHI (ndX0_drawnHour_48 k6 l0 l1 l2 l3 l4 l5 l6 s0 V0) V0 48 [(0, .ref l0), (1, .ref l1), (2, .ref l2), (3, .int l3), (4, .int l4), (5, .int l5), (6, .int l6)] [.int s0] := by
  refine hr_istore o [(7, .int s0), (0, .ref l0), (1, .ref l1), (2, .ref l2), (3, .int l3), (4, .int l4), (5, .int l5), (6, .int l6)] dX0_drawnHour_48 (by decide) rfl ?_
  refine hr_iload o 5 dX0_drawnHour_50 rfl ?_
  refine hr_aload_n o 1 dX0_drawnHour_52 rfl ?_
  refine hr_aload_n o 2 dX0_drawnHour_53 rfl ?_
  refine hr_iload o 6 dX0_drawnHour_54 rfl ?_
  refine hr_aload_n o 3 dX0_drawnHour_56 rfl ?_
  refine hx_callVI (q := (RX0, TX0, 23)) o og mvX0_330 dX0_drawnHour_57 1 0 rfl [.ref l1, .int l5, .ref l2] (fun zr zg ze => mtX0_buysBy l0 l1 l5 l2 V0 zr zg ze) rfl rfl (Nat.le_of_ble_eq_true rfl) ⟨by decide, by decide⟩ (fun x2 g1 => ?_)
  refine pr_callI o msX0_291 dX0_drawnHour_60 [.int x2] (fun zr ze => mtJ14_bitCount x2 zr ze) rfl rfl (Nat.le_of_ble_eq_true rfl) ⟨by decide, by decide⟩ (fun x3 => ?_)
  refine hr_iadd o dX0_drawnHour_63 ?_
  refine hr_nmI (fun x4 => ?_)
  refine hr_istore o [(4, .int x4), (7, .int s0), (0, .ref l0), (1, .ref l1), (2, .ref l2), (3, .int l3), (5, .int l5), (6, .int l6)] dX0_drawnHour_64 (by decide) rfl ?_
  refine hr_aload_n o 3 dX0_drawnHour_66 rfl ?_
  refine hr_aload_n o 2 dX0_drawnHour_67 rfl ?_
  refine hr_getA (md := 1) o flX0_12 dX0_drawnHour_68 (fun _ => rfl) (fun x5 => ?_)
  refine hr_iload o 6 dX0_drawnHour_71 rfl ?_
  refine hr_iload o 7 dX0_drawnHour_73 rfl ?_
  refine hr_if_eq o 83 dX0_drawnHour_75 (by decide) (fun _ => ?_) (fun _ => ?_)
  · refine hr_aload_n o 2 dX0_drawnHour_83 rfl ?_
    refine hr_aload_n o 3 dX0_drawnHour_84 rfl ?_
    refine hr_iload o 6 dX0_drawnHour_85 rfl ?_
    refine hr_aload_n o 4 dX0_drawnHour_87 rfl ?_
    refine hx_callVI (q := (RX0, TX0, 23)) o og mvX0_333 dX0_drawnHour_88 1 0 rfl [.ref l1, .int l5, .ref l2] (fun zr zg ze => mtX0_wayBy l0 l1 l5 l2 g1 zr zg ze) rfl rfl (Nat.le_of_ble_eq_true rfl) ⟨by decide, by decide⟩ (fun x7 g6 => ?_)
    refine hr_sub [2, 3, 4, 5, 0, 6] rfl ?_
    exact nlX0_drawnHour_91 o og k6 hk6 l0 l1 l2 l3 x4 l5 l1 x5 l5 x7 g6
  refine hr_iload o 1 dX0_drawnHour_78 rfl ?_
  refine hr_goto o 91 dX0_drawnHour_80 (by decide) ?_
  refine hr_sub [2, 3, 4, 5, 0, 6] rfl ?_
  exact nlX0_drawnHour_91 o og k6 hk6 l0 l1 l2 l3 x4 l5 l1 x5 l5 s0 g1
def ndX0_drawnHour_30 (k6 : Nat → Nat → Nat → Int32 → Int32 → Int32 → hf_H → Option (Int32 × hf_H)) (l0 : Nat) (l1 : Nat) (l2 : Nat) (l3 : Int32) (l4 : Int32) (l5 : Int32) (s0 : Int32) (V0 : hf_H) : Option (Int32 × hf_H) :=
  if s0 = 0 then (ndX0_drawnHour_48 k6 l0 l1 l2 l3 l4 l5 s0 (0 : Int32) V0) else
  (hf_ob 1 0 V0 l0).bind fun _ =>
  hf_b2 (spX0_draws l0 (3 : Int32) V0) fun x2 g1 =>
  ndX0_drawnHour_48 k6 l0 l1 l2 l3 l4 l5 s0 (x2 - (1 : Int32)) g1
theorem nlX0_drawnHour_30 {C : hf_X} {gs : hf_gs} (o : hf_In C cX0_drawnHour RX0 8 (some .int) 133 3323) (og : hf_G C gs) (k6 : Nat → Nat → Nat → Int32 → Int32 → Int32 → hf_H → Option (Int32 × hf_H)) (hk6 : ∀ (l0 : Nat) (l1 : Nat) (l2 : Nat) (l3 : Int32) (l4 : Int32) (l5 : Int32) (V0 : hf_H), hf_J C hf_dHI (k6 l0 l1 l2 l3 l4 l5 V0) V0 6 [(0, .ref l0), (1, .ref l1), (2, .ref l2), (3, .int l3), (4, .int l4), (5, .int l5)] []) (l0 : Nat) (l1 : Nat) (l2 : Nat) (l3 : Int32) (l4 : Int32) (l5 : Int32) (s0 : Int32) (V0 : hf_H) : hf_J C hf_dHI (ndX0_drawnHour_30 k6 l0 l1 l2 l3 l4 l5 s0 V0) V0 30 [(0, .ref l0), (1, .ref l1), (2, .ref l2), (3, .int l3), (4, .int l4), (5, .int l5)] [.int s0] := by
  refine hr_istore o [(6, .int s0), (0, .ref l0), (1, .ref l1), (2, .ref l2), (3, .int l3), (4, .int l4), (5, .int l5)] dX0_drawnHour_30 (by decide) rfl ?_
  refine hr_iload o 0 dX0_drawnHour_32 rfl ?_
  refine hr_if_eq o 47 dX0_drawnHour_34 (by decide) (fun _ => ?_) (fun _ => ?_)
  · refine hr_iconst o (0 : Int32) dX0_drawnHour_47 (by decide) ?_
    refine hr_sub [1, 2, 3, 4, 5, 6, 0] rfl ?_
    exact nlX0_drawnHour_48 o og k6 hk6 l0 l1 l2 l3 l4 l5 s0 (0 : Int32) V0
  refine hr_aload_n o 1 dX0_drawnHour_37 rfl ?_
  refine hr_iconst o (3 : Int32) dX0_drawnHour_38 (by decide) ?_
  refine hx_callVI (q := (RX0, TX0, 23)) o og mvX0_411 dX0_drawnHour_39 1 0 rfl [.int (3 : Int32)] (fun zr zg ze => mtX0_draws l0 (3 : Int32) V0 zr zg ze) rfl rfl (Nat.le_of_ble_eq_true rfl) ⟨by decide, by decide⟩ (fun x2 g1 => ?_)
  refine hr_iconst o (1 : Int32) dX0_drawnHour_42 (by decide) ?_
  refine hr_isub o dX0_drawnHour_43 ?_
  refine hr_goto o 48 dX0_drawnHour_44 (by decide) ?_
  refine hr_sub [1, 2, 3, 4, 5, 6, 0] rfl ?_
  exact nlX0_drawnHour_48 o og k6 hk6 l0 l1 l2 l3 l4 l5 s0 (x2 - (1 : Int32)) g1
def ndX0_drawnHour_6 (k6 : Nat → Nat → Nat → Int32 → Int32 → Int32 → hf_H → Option (Int32 × hf_H)) (l0 : Nat) (l1 : Nat) (l2 : Nat) (l3 : Int32) (l4 : Int32) (l5 : Int32) (V0 : hf_H) : Option (Int32 × hf_H) :=
  (hf_ob 1 0 V0 l0).bind fun _ =>
  hf_b2 (spX0_buyers l0 V0) fun x2 g1 =>
  if x2 ≤ l5 then ((hf_ga 1 0 0 g1 l0).bind fun x3 =>
  (hf_ob 1 2 g1 l1).bind fun _ =>
  (spX2_passes l1 x3 g1).bind fun g4 =>
  some (l4, g4)) else
  (hf_ob 1 0 g1 l0).bind fun _ =>
  hf_b2 (spX0_draws l0 (100 : Int32) g1) fun x6 g5 =>
  if l3 ≤ x6 then (ndX0_drawnHour_30 k6 l0 l1 l2 l3 l4 l5 (0 : Int32) g5) else
  ndX0_drawnHour_30 k6 l0 l1 l2 l3 l4 l5 (1 : Int32) g5
theorem nlX0_drawnHour_6 {C : hf_X} {gs : hf_gs} (o : hf_In C cX0_drawnHour RX0 8 (some .int) 133 3323) (og : hf_G C gs) (k6 : Nat → Nat → Nat → Int32 → Int32 → Int32 → hf_H → Option (Int32 × hf_H)) (hk6 : ∀ (l0 : Nat) (l1 : Nat) (l2 : Nat) (l3 : Int32) (l4 : Int32) (l5 : Int32) (V0 : hf_H), hf_J C hf_dHI (k6 l0 l1 l2 l3 l4 l5 V0) V0 6 [(0, .ref l0), (1, .ref l1), (2, .ref l2), (3, .int l3), (4, .int l4), (5, .int l5)] []) (l0 : Nat) (l1 : Nat) (l2 : Nat) (l3 : Int32) (l4 : Int32) (l5 : Int32) (V0 : hf_H) : hf_J C hf_dHI (ndX0_drawnHour_6 k6 l0 l1 l2 l3 l4 l5 V0) V0 6 [(0, .ref l0), (1, .ref l1), (2, .ref l2), (3, .int l3), (4, .int l4), (5, .int l5)] [] := by
  refine hr_iload o 5 dX0_drawnHour_6 rfl ?_
  refine hr_aload_n o 0 dX0_drawnHour_8 rfl ?_
  refine hx_callVI (q := (RX0, TX0, 23)) o og mvX0_110 dX0_drawnHour_9 1 0 rfl [] (fun zr zg ze => mtX0_buyers l0 V0 zr zg ze) rfl rfl (Nat.le_of_ble_eq_true rfl) ⟨by decide, by decide⟩ (fun x2 g1 => ?_)
  refine hr_icmp_ge o 100 dX0_drawnHour_12 (by decide) (fun _ => ?_) (fun _ => ?_)
  · refine hr_aload_n o 1 dX0_drawnHour_100 rfl ?_
    refine hr_aload_n o 0 dX0_drawnHour_101 rfl ?_
    refine hr_getA (md := 1) o flX0_12 dX0_drawnHour_102 (fun _ => rfl) (fun x3 => ?_)
    refine hx_callVV (q := (RX2, TX2, 5)) o og mvX0_263 dX0_drawnHour_105 1 2 rfl [.ref x3] (fun zg ze => mtX2_passes l1 x3 g1 zg ze) rfl rfl (Nat.le_of_ble_eq_true rfl) ⟨by decide, by decide⟩ (fun g4 => ?_)
    refine hr_iload o 4 dX0_drawnHour_108 rfl ?_
    exact hr_iret o dX0_drawnHour_110 rfl rfl
  refine hr_aload_n o 0 dX0_drawnHour_15 rfl ?_
  refine hr_bipush o (100 : Int32) dX0_drawnHour_16 (by decide) ?_
  refine hx_callVI (q := (RX0, TX0, 23)) o og mvX0_411 dX0_drawnHour_18 1 0 rfl [.int (100 : Int32)] (fun zr zg ze => mtX0_draws l0 (100 : Int32) g1 zr zg ze) rfl rfl (Nat.le_of_ble_eq_true rfl) ⟨by decide, by decide⟩ (fun x6 g5 => ?_)
  refine hr_iload_n o 3 dX0_drawnHour_21 rfl ?_
  refine hr_icmp_ge o 29 dX0_drawnHour_22 (by decide) (fun _ => ?_) (fun _ => ?_)
  · refine hr_iconst o (0 : Int32) dX0_drawnHour_29 (by decide) ?_
    exact nlX0_drawnHour_30 o og k6 hk6 l0 l1 l2 l3 l4 l5 (0 : Int32) g5
  refine hr_iconst o (1 : Int32) dX0_drawnHour_25 (by decide) ?_
  refine hr_goto o 30 dX0_drawnHour_26 (by decide) ?_
  exact nlX0_drawnHour_30 o og k6 hk6 l0 l1 l2 l3 l4 l5 (1 : Int32) g5
def lpX0_drawnHour_6  : Nat → Nat → Nat → Nat → Int32 → Int32 → Int32 → hf_H → Option (Int32 × hf_H)
  | 0 => fun _ _ _ _ _ _ _ => none
  | n + 1 => fun l0 l1 l2 l3 l4 l5 V0 => ndX0_drawnHour_6  (lpX0_drawnHour_6  n) l0 l1 l2 l3 l4 l5 V0
theorem llX0_drawnHour_6 {C : hf_X} {gs : hf_gs} (o : hf_In C cX0_drawnHour RX0 8 (some .int) 133 3323) (og : hf_G C gs)   (n : Nat) : ∀ (l0 : Nat) (l1 : Nat) (l2 : Nat) (l3 : Int32) (l4 : Int32) (l5 : Int32) (V0 : hf_H), hf_J C hf_dHI ((lpX0_drawnHour_6  n) l0 l1 l2 l3 l4 l5 V0) V0 6 [(0, .ref l0), (1, .ref l1), (2, .ref l2), (3, .int l3), (4, .int l4), (5, .int l5)] [] := by
  induction n with
  | zero => exact fun _ _ _ _ _ _ _ => hr_none
  | succ n ih => exact fun l0 l1 l2 l3 l4 l5 V0 => nlX0_drawnHour_6 o og  (lpX0_drawnHour_6  n)  ih l0 l1 l2 l3 l4 l5 V0
def spX0_drawnHour (l0 : Nat) (l1 : Nat) (l2 : Nat) (l3 : Int32) (V0 : hf_H) : Option (Int32 × hf_H) :=
  lpX0_drawnHour_6 hf_N l0 l1 l2 l3 (0 : Int32) (0 : Int32) V0
theorem jtX0_drawnHour {C : hf_X} {gs : hf_gs} (o : hf_In C cX0_drawnHour RX0 8 (some .int) 133 3323) (og : hf_G C gs) (l0 : Nat) (l1 : Nat) (l2 : Nat) (l3 : Int32) (V0 : hf_H) : hf_J C hf_dHI (spX0_drawnHour l0 l1 l2 l3 V0) V0 0 [(0, .ref l0), (1, .ref l1), (2, .ref l2), (3, .int l3)] [] := by
  refine hr_iconst o (0 : Int32) dX0_drawnHour_0 (by decide) ?_
  refine hr_istore o [(4, .int (0 : Int32)), (0, .ref l0), (1, .ref l1), (2, .ref l2), (3, .int l3)] dX0_drawnHour_1 (by decide) rfl ?_
  refine hr_iconst o (0 : Int32) dX0_drawnHour_3 (by decide) ?_
  refine hr_istore o [(5, .int (0 : Int32)), (4, .int (0 : Int32)), (0, .ref l0), (1, .ref l1), (2, .ref l2), (3, .int l3)] dX0_drawnHour_4 (by decide) rfl ?_
  refine hr_sub [2, 3, 4, 5, 1, 0] rfl ?_
  exact llX0_drawnHour_6 o og hf_N l0 l1 l2 l3 (0 : Int32) (0 : Int32) V0
theorem mtX0_drawnHour {gs : hf_gs} (l0 : Nat) (l1 : Nat) (l2 : Nat) (l3 : Int32) (V0 : hf_H) (r : Int32) (V1 : hf_H) (e : spX0_drawnHour l0 l1 l2 l3 V0 = some (r, V1)) : hf_ConG gs yX0_drawnHour cX0_drawnHour 8 (some .int) 133 3323 [.ref l0, .ref l1, .ref l2, .int l3] V0 (.returned (some (.int r)), V1) := hf_entryG (dec := hf_dHI) (by decide) [.ref l0, .ref l1, .ref l2, .int l3] (Nat.le_of_ble_eq_true rfl) [(0, .ref l0), (1, .ref l1), (2, .ref l2), (3, .int l3)] rfl e (fun C o og _ => jtX0_drawnHour o og l0 l1 l2 l3 V0)

/-! X0_fairs -/
theorem mvX0_418 : hf_MV RX0 418 RX0 yX0_drawnHour cX0_drawnHour 8 (some .int) 3 := ⟨lw_V q1327 q1329 qs62 q153 q1330, by decide +kernel⟩
def ndX0_fairs_153 (k71 : Nat → Int32 → Int32 → Int32 → Int32 → Int32 → Int32 → Int32 → Int32 → hf_H → Option (Int32 × hf_H)) (k153 : Nat → Int32 → Int32 → Int32 → Int32 → Int32 → Int32 → Int32 → Int32 → Int32 → hf_H → Option (Int32 × hf_H)) (l0 : Nat) (l1 : Int32) (l2 : Int32) (l3 : Int32) (l4 : Int32) (l5 : Int32) (l6 : Int32) (l7 : Int32) (l8 : Int32) (l10 : Int32) (V0 : hf_H) : Option (Int32 × hf_H) :=
  (hf_ob 1 0 V0 l0).bind fun _ =>
  hf_b2 (spX0_buyers l0 V0) fun x2 g1 =>
  if x2 ≤ l10 then (hf_let (l8 + (1 : Int32)) fun x3 =>
  k71 l0 l1 l2 l3 l4 l5 l6 l7 x3 g1) else
  (hf_ob 1 0 g1 l0).bind fun _ =>
  (hf_ga 1 0 2 g1 l0).bind fun x4 =>
  (hf_ga 1 0 0 g1 l0).bind fun x5 =>
  (hf_ob 1 2 g1 x4).bind fun _ =>
  hf_b2 (spX2_halvesOf x4 x5 l10 g1) fun x7 g6 =>
  (hf_ai 0 12 4096 g6 l0 x7).bind fun x8 =>
  hf_let (l7 + x8) fun x9 =>
  hf_let (l10 + (1 : Int32)) fun x10 =>
  k153 l0 l1 l2 l3 l4 l5 l6 x9 l8 x10 g6
theorem nlX0_fairs_153 {C : hf_X} {gs : hf_gs} (o : hf_In C cX0_fairs RX0 11 (some .int) 134 3350) (og : hf_G C gs) (k71 : Nat → Int32 → Int32 → Int32 → Int32 → Int32 → Int32 → Int32 → Int32 → hf_H → Option (Int32 × hf_H)) (k153 : Nat → Int32 → Int32 → Int32 → Int32 → Int32 → Int32 → Int32 → Int32 → Int32 → hf_H → Option (Int32 × hf_H)) (hk71 : ∀ (l0 : Nat) (l1 : Int32) (l2 : Int32) (l3 : Int32) (l4 : Int32) (l5 : Int32) (l6 : Int32) (l7 : Int32) (l8 : Int32) (V0 : hf_H), hf_J C hf_dHI (k71 l0 l1 l2 l3 l4 l5 l6 l7 l8 V0) V0 71 [(0, .ref l0), (1, .int l1), (2, .int l2), (3, .int l3), (4, .int l4), (5, .int l5), (6, .int l6), (7, .int l7), (8, .int l8)] []) (hk153 : ∀ (l0 : Nat) (l1 : Int32) (l2 : Int32) (l3 : Int32) (l4 : Int32) (l5 : Int32) (l6 : Int32) (l7 : Int32) (l8 : Int32) (l10 : Int32) (V0 : hf_H), hf_J C hf_dHI (k153 l0 l1 l2 l3 l4 l5 l6 l7 l8 l10 V0) V0 153 [(0, .ref l0), (1, .int l1), (2, .int l2), (3, .int l3), (4, .int l4), (5, .int l5), (6, .int l6), (7, .int l7), (8, .int l8), (10, .int l10)] []) (l0 : Nat) (l1 : Int32) (l2 : Int32) (l3 : Int32) (l4 : Int32) (l5 : Int32) (l6 : Int32) (l7 : Int32) (l8 : Int32) (l10 : Int32) (V0 : hf_H) : hf_J C hf_dHI (ndX0_fairs_153 k71 k153 l0 l1 l2 l3 l4 l5 l6 l7 l8 l10 V0) V0 153 [(0, .ref l0), (1, .int l1), (2, .int l2), (3, .int l3), (4, .int l4), (5, .int l5), (6, .int l6), (7, .int l7), (8, .int l8), (10, .int l10)] [] := by
  refine hr_iload o 9 dX0_fairs_153 rfl ?_
  refine hr_aload_n o 0 dX0_fairs_155 rfl ?_
  refine hx_callVI (q := (RX0, TX0, 23)) o og mvX0_110 dX0_fairs_156 1 0 rfl [] (fun zr zg ze => mtX0_buyers l0 V0 zr zg ze) rfl rfl (Nat.le_of_ble_eq_true rfl) ⟨by decide, by decide⟩ (fun x2 g1 => ?_)
  refine hr_icmp_ge o 191 dX0_fairs_159 (by decide) (fun _ => ?_) (fun _ => ?_)
  · refine hr_iincN o (1 : Int32) 8 (fun y => [(8, .int y), (0, .ref l0), (1, .int l1), (2, .int l2), (3, .int l3), (4, .int l4), (5, .int l5), (6, .int l6), (7, .int l7), (10, .int l10)]) dX0_fairs_191 rfl (by decide) (by decide) (fun y => rfl) (fun x3 => ?_)
    refine hr_goto o 71 dX0_fairs_194 (by decide) ?_
    refine hr_sub [1, 2, 3, 4, 5, 6, 7, 8, 0] rfl ?_
    exact hk71 l0 l1 l2 l3 l4 l5 l6 l7 x3 g1
  refine hr_iload o 7 dX0_fairs_162 rfl ?_
  refine hr_aload_n o 0 dX0_fairs_164 rfl ?_
  refine hr_getO o flX0_57 dX0_fairs_165 24 (fun _ => rfl) (fun _ _ => ?_)
  refine hr_aload_n o 0 dX0_fairs_168 rfl ?_
  refine hr_getA (md := 1) o flX0_23 dX0_fairs_169 (fun _ => rfl) (fun x4 => ?_)
  refine hr_aload_n o 0 dX0_fairs_172 rfl ?_
  refine hr_getA (md := 1) o flX0_12 dX0_fairs_173 (fun _ => rfl) (fun x5 => ?_)
  refine hr_iload o 9 dX0_fairs_176 rfl ?_
  refine hx_callVI (q := (RX2, TX2, 5)) o og mvX0_195 dX0_fairs_178 1 2 rfl [.ref x5, .int l10] (fun zr zg ze => mtX2_halvesOf x4 x5 l10 g1 zr zg ze) rfl rfl (Nat.le_of_ble_eq_true rfl) ⟨by decide, by decide⟩ (fun x7 g6 => ?_)
  refine hx_iald o 0 12 24 4096 rfl (by decide) rfl dX0_fairs_181 (fun x8 => ?_)
  refine hr_iadd o dX0_fairs_182 ?_
  refine hr_nmI (fun x9 => ?_)
  refine hr_istore o [(7, .int x9), (0, .ref l0), (1, .int l1), (2, .int l2), (3, .int l3), (4, .int l4), (5, .int l5), (6, .int l6), (8, .int l8), (10, .int l10)] dX0_fairs_183 (by decide) rfl ?_
  refine hr_iincN o (1 : Int32) 9 (fun y => [(10, .int y), (7, .int x9), (0, .ref l0), (1, .int l1), (2, .int l2), (3, .int l3), (4, .int l4), (5, .int l5), (6, .int l6), (8, .int l8)]) dX0_fairs_185 rfl (by decide) (by decide) (fun y => rfl) (fun x10 => ?_)
  refine hr_goto o 153 dX0_fairs_188 (by decide) ?_
  refine hr_sub [2, 3, 4, 5, 6, 7, 8, 1, 9, 0] rfl ?_
  exact hk153 l0 l1 l2 l3 l4 l5 l6 x9 l8 x10 g6
def lpX0_fairs_153 (k71 : Nat → Int32 → Int32 → Int32 → Int32 → Int32 → Int32 → Int32 → Int32 → hf_H → Option (Int32 × hf_H)) : Nat → Nat → Int32 → Int32 → Int32 → Int32 → Int32 → Int32 → Int32 → Int32 → Int32 → hf_H → Option (Int32 × hf_H)
  | 0 => fun _ _ _ _ _ _ _ _ _ _ _ => none
  | n + 1 => fun l0 l1 l2 l3 l4 l5 l6 l7 l8 l10 V0 => ndX0_fairs_153 k71 (lpX0_fairs_153 k71 n) l0 l1 l2 l3 l4 l5 l6 l7 l8 l10 V0
theorem llX0_fairs_153 {C : hf_X} {gs : hf_gs} (o : hf_In C cX0_fairs RX0 11 (some .int) 134 3350) (og : hf_G C gs) (k71 : Nat → Int32 → Int32 → Int32 → Int32 → Int32 → Int32 → Int32 → Int32 → hf_H → Option (Int32 × hf_H)) (hk71 : ∀ (l0 : Nat) (l1 : Int32) (l2 : Int32) (l3 : Int32) (l4 : Int32) (l5 : Int32) (l6 : Int32) (l7 : Int32) (l8 : Int32) (V0 : hf_H), hf_J C hf_dHI (k71 l0 l1 l2 l3 l4 l5 l6 l7 l8 V0) V0 71 [(0, .ref l0), (1, .int l1), (2, .int l2), (3, .int l3), (4, .int l4), (5, .int l5), (6, .int l6), (7, .int l7), (8, .int l8)] []) (n : Nat) : ∀ (l0 : Nat) (l1 : Int32) (l2 : Int32) (l3 : Int32) (l4 : Int32) (l5 : Int32) (l6 : Int32) (l7 : Int32) (l8 : Int32) (l10 : Int32) (V0 : hf_H), hf_J C hf_dHI ((lpX0_fairs_153 k71 n) l0 l1 l2 l3 l4 l5 l6 l7 l8 l10 V0) V0 153 [(0, .ref l0), (1, .int l1), (2, .int l2), (3, .int l3), (4, .int l4), (5, .int l5), (6, .int l6), (7, .int l7), (8, .int l8), (10, .int l10)] [] := by
  induction n with
  | zero => exact fun _ _ _ _ _ _ _ _ _ _ _ => hr_none
  | succ n ih => exact fun l0 l1 l2 l3 l4 l5 l6 l7 l8 l10 V0 => nlX0_fairs_153 o og k71 (lpX0_fairs_153 k71 n) hk71 ih l0 l1 l2 l3 l4 l5 l6 l7 l8 l10 V0
def ndX0_fairs_112 (k71 : Nat → Int32 → Int32 → Int32 → Int32 → Int32 → Int32 → Int32 → Int32 → hf_H → Option (Int32 × hf_H)) (k112 : Nat → Int32 → Int32 → Int32 → Int32 → Int32 → Int32 → Int32 → Int32 → Int32 → Int32 → hf_H → Option (Int32 × hf_H)) (l0 : Nat) (l1 : Int32) (l2 : Int32) (l3 : Int32) (l4 : Int32) (l5 : Int32) (l6 : Int32) (l7 : Int32) (l8 : Int32) (l9 : Int32) (l10 : Int32) (V0 : hf_H) : Option (Int32 × hf_H) :=
  if l9 ≤ l10 then (lpX0_fairs_153 k71 hf_N l0 l1 l2 l3 l4 l5 l6 l7 l8 (0 : Int32) V0) else
  (hf_ga 1 0 2 V0 l0).bind fun x1 =>
  (hf_ga 1 0 3 V0 l0).bind fun x2 =>
  (hf_ob 0 19 V0 x2).bind fun _ =>
  hf_b2 (spJ2_get x2 l1 V0) fun x4 g3 =>
  (hf_ob 0 8 g3 x4).bind fun _ =>
  (hf_ob 1 0 g3 l0).bind fun _ =>
  hf_b2 (spX0_drawnHour l0 x1 x4 l3 g3) fun x6 g5 =>
  hf_let (l6 + x6) fun x7 =>
  hf_let (l10 + (1 : Int32)) fun x8 =>
  k112 l0 l1 l2 l3 l4 l5 x7 l7 l8 l9 x8 g5
theorem nlX0_fairs_112 {C : hf_X} {gs : hf_gs} (o : hf_In C cX0_fairs RX0 11 (some .int) 134 3350) (og : hf_G C gs) (k71 : Nat → Int32 → Int32 → Int32 → Int32 → Int32 → Int32 → Int32 → Int32 → hf_H → Option (Int32 × hf_H)) (k112 : Nat → Int32 → Int32 → Int32 → Int32 → Int32 → Int32 → Int32 → Int32 → Int32 → Int32 → hf_H → Option (Int32 × hf_H)) (hk71 : ∀ (l0 : Nat) (l1 : Int32) (l2 : Int32) (l3 : Int32) (l4 : Int32) (l5 : Int32) (l6 : Int32) (l7 : Int32) (l8 : Int32) (V0 : hf_H), hf_J C hf_dHI (k71 l0 l1 l2 l3 l4 l5 l6 l7 l8 V0) V0 71 [(0, .ref l0), (1, .int l1), (2, .int l2), (3, .int l3), (4, .int l4), (5, .int l5), (6, .int l6), (7, .int l7), (8, .int l8)] []) (hk112 : ∀ (l0 : Nat) (l1 : Int32) (l2 : Int32) (l3 : Int32) (l4 : Int32) (l5 : Int32) (l6 : Int32) (l7 : Int32) (l8 : Int32) (l9 : Int32) (l10 : Int32) (V0 : hf_H), hf_J C hf_dHI (k112 l0 l1 l2 l3 l4 l5 l6 l7 l8 l9 l10 V0) V0 112 [(0, .ref l0), (1, .int l1), (2, .int l2), (3, .int l3), (4, .int l4), (5, .int l5), (6, .int l6), (7, .int l7), (8, .int l8), (9, .int l9), (10, .int l10)] []) (l0 : Nat) (l1 : Int32) (l2 : Int32) (l3 : Int32) (l4 : Int32) (l5 : Int32) (l6 : Int32) (l7 : Int32) (l8 : Int32) (l9 : Int32) (l10 : Int32) (V0 : hf_H) : hf_J C hf_dHI (ndX0_fairs_112 k71 k112 l0 l1 l2 l3 l4 l5 l6 l7 l8 l9 l10 V0) V0 112 [(0, .ref l0), (1, .int l1), (2, .int l2), (3, .int l3), (4, .int l4), (5, .int l5), (6, .int l6), (7, .int l7), (8, .int l8), (9, .int l9), (10, .int l10)] [] := by
  refine hr_iload o 10 dX0_fairs_112 rfl ?_
  refine hr_iload o 9 dX0_fairs_114 rfl ?_
  refine hr_icmp_ge o 150 dX0_fairs_116 (by decide) (fun _ => ?_) (fun _ => ?_)
  · refine hr_iconst o (0 : Int32) dX0_fairs_150 (by decide) ?_
    refine hr_istore o [(10, .int (0 : Int32)), (0, .ref l0), (1, .int l1), (2, .int l2), (3, .int l3), (4, .int l4), (5, .int l5), (6, .int l6), (7, .int l7), (8, .int l8), (9, .int l9)] dX0_fairs_151 (by decide) rfl ?_
    refine hr_sub [1, 2, 3, 4, 5, 6, 7, 8, 9, 0] rfl ?_
    exact llX0_fairs_153 o og k71 hk71 hf_N l0 l1 l2 l3 l4 l5 l6 l7 l8 (0 : Int32) V0
  refine hr_iload o 6 dX0_fairs_119 rfl ?_
  refine hr_aload_n o 0 dX0_fairs_121 rfl ?_
  refine hr_aload_n o 0 dX0_fairs_122 rfl ?_
  refine hr_getA (md := 1) o flX0_23 dX0_fairs_123 (fun _ => rfl) (fun x1 => ?_)
  refine hr_aload_n o 0 dX0_fairs_126 rfl ?_
  refine hr_getA (md := 1) o flX0_31 dX0_fairs_127 (fun _ => rfl) (fun x2 => ?_)
  refine hr_iload_n o 1 dX0_fairs_130 rfl ?_
  refine hx_callVA (q := (RJ2, TJ2, 3)) o og mvX0_153 dX0_fairs_131 0 19 rfl [.int l1] (fun zr zg ze => mtJ2_get x2 l1 V0 zr zg ze) rfl rfl (Nat.le_of_ble_eq_true rfl) ⟨by decide, by decide⟩ (fun x4 g3 => ?_)
  refine hx_cast (md := 0) (ci := 8) (q := (RX8, TX8, 1)) o q1168 rfl dX0_fairs_134 (fun _ => ?_)
  refine hr_iload_n o 3 dX0_fairs_137 rfl ?_
  refine hx_callVI (q := (RX0, TX0, 23)) o og mvX0_418 dX0_fairs_138 1 0 rfl [.ref x1, .ref x4, .int l3] (fun zr zg ze => mtX0_drawnHour l0 x1 x4 l3 g3 zr zg ze) rfl rfl (Nat.le_of_ble_eq_true rfl) ⟨by decide, by decide⟩ (fun x6 g5 => ?_)
  refine hr_iadd o dX0_fairs_141 ?_
  refine hr_nmI (fun x7 => ?_)
  refine hr_istore o [(6, .int x7), (0, .ref l0), (1, .int l1), (2, .int l2), (3, .int l3), (4, .int l4), (5, .int l5), (7, .int l7), (8, .int l8), (9, .int l9), (10, .int l10)] dX0_fairs_142 (by decide) rfl ?_
  refine hr_iincN o (1 : Int32) 10 (fun y => [(10, .int y), (6, .int x7), (0, .ref l0), (1, .int l1), (2, .int l2), (3, .int l3), (4, .int l4), (5, .int l5), (7, .int l7), (8, .int l8), (9, .int l9)]) dX0_fairs_144 rfl (by decide) (by decide) (fun y => rfl) (fun x8 => ?_)
  refine hr_goto o 112 dX0_fairs_147 (by decide) ?_
  refine hr_sub [2, 3, 4, 5, 6, 7, 1, 8, 9, 10, 0] rfl ?_
  exact hk112 l0 l1 l2 l3 l4 l5 x7 l7 l8 l9 x8 g5
def lpX0_fairs_112 (k71 : Nat → Int32 → Int32 → Int32 → Int32 → Int32 → Int32 → Int32 → Int32 → hf_H → Option (Int32 × hf_H)) : Nat → Nat → Int32 → Int32 → Int32 → Int32 → Int32 → Int32 → Int32 → Int32 → Int32 → Int32 → hf_H → Option (Int32 × hf_H)
  | 0 => fun _ _ _ _ _ _ _ _ _ _ _ _ => none
  | n + 1 => fun l0 l1 l2 l3 l4 l5 l6 l7 l8 l9 l10 V0 => ndX0_fairs_112 k71 (lpX0_fairs_112 k71 n) l0 l1 l2 l3 l4 l5 l6 l7 l8 l9 l10 V0
theorem llX0_fairs_112 {C : hf_X} {gs : hf_gs} (o : hf_In C cX0_fairs RX0 11 (some .int) 134 3350) (og : hf_G C gs) (k71 : Nat → Int32 → Int32 → Int32 → Int32 → Int32 → Int32 → Int32 → Int32 → hf_H → Option (Int32 × hf_H)) (hk71 : ∀ (l0 : Nat) (l1 : Int32) (l2 : Int32) (l3 : Int32) (l4 : Int32) (l5 : Int32) (l6 : Int32) (l7 : Int32) (l8 : Int32) (V0 : hf_H), hf_J C hf_dHI (k71 l0 l1 l2 l3 l4 l5 l6 l7 l8 V0) V0 71 [(0, .ref l0), (1, .int l1), (2, .int l2), (3, .int l3), (4, .int l4), (5, .int l5), (6, .int l6), (7, .int l7), (8, .int l8)] []) (n : Nat) : ∀ (l0 : Nat) (l1 : Int32) (l2 : Int32) (l3 : Int32) (l4 : Int32) (l5 : Int32) (l6 : Int32) (l7 : Int32) (l8 : Int32) (l9 : Int32) (l10 : Int32) (V0 : hf_H), hf_J C hf_dHI ((lpX0_fairs_112 k71 n) l0 l1 l2 l3 l4 l5 l6 l7 l8 l9 l10 V0) V0 112 [(0, .ref l0), (1, .int l1), (2, .int l2), (3, .int l3), (4, .int l4), (5, .int l5), (6, .int l6), (7, .int l7), (8, .int l8), (9, .int l9), (10, .int l10)] [] := by
  induction n with
  | zero => exact fun _ _ _ _ _ _ _ _ _ _ _ _ => hr_none
  | succ n ih => exact fun l0 l1 l2 l3 l4 l5 l6 l7 l8 l9 l10 V0 => nlX0_fairs_112 o og k71 (lpX0_fairs_112 k71 n) hk71 ih l0 l1 l2 l3 l4 l5 l6 l7 l8 l9 l10 V0
def ndX0_fairs_71 (k71 : Nat → Int32 → Int32 → Int32 → Int32 → Int32 → Int32 → Int32 → Int32 → hf_H → Option (Int32 × hf_H)) (l0 : Nat) (l1 : Int32) (l2 : Int32) (l3 : Int32) (l4 : Int32) (l5 : Int32) (l6 : Int32) (l7 : Int32) (l8 : Int32) (V0 : hf_H) : Option (Int32 × hf_H) :=
  if l2 ≤ l8 then ((hf_pi 1 0 11 V0 l0 l5).bind fun g1 =>
  if l4 = 0 then (some (l6, g1)) else
  some (l7, g1)) else
  (hf_ga 1 0 2 V0 l0).bind fun x2 =>
  (hf_ga 1 0 1 V0 l0).bind fun x3 =>
  (hf_ob 1 2 V0 x2).bind fun _ =>
  (spX2_copyFrom x2 x3 V0).bind fun g4 =>
  (hf_ga 1 0 0 g4 l0).bind fun x5 =>
  (hf_ga 1 0 1 g4 l0).bind fun x6 =>
  (hf_gi 1 2 4 g4 x6).bind fun x7 =>
  (hf_ob 1 1 g4 x5).bind fun _ =>
  hf_b2 (spX1_left x5 x7 g4) fun x9 g8 =>
  hf_let (if x9 < (24 : Int32) then x9 else (24 : Int32)) fun x10 =>
  lpX0_fairs_112 k71 hf_N l0 l1 l2 l3 l4 l5 l6 l7 l8 x10 (0 : Int32) g8
theorem nlX0_fairs_71 {C : hf_X} {gs : hf_gs} (o : hf_In C cX0_fairs RX0 11 (some .int) 134 3350) (og : hf_G C gs) (k71 : Nat → Int32 → Int32 → Int32 → Int32 → Int32 → Int32 → Int32 → Int32 → hf_H → Option (Int32 × hf_H)) (hk71 : ∀ (l0 : Nat) (l1 : Int32) (l2 : Int32) (l3 : Int32) (l4 : Int32) (l5 : Int32) (l6 : Int32) (l7 : Int32) (l8 : Int32) (V0 : hf_H), hf_J C hf_dHI (k71 l0 l1 l2 l3 l4 l5 l6 l7 l8 V0) V0 71 [(0, .ref l0), (1, .int l1), (2, .int l2), (3, .int l3), (4, .int l4), (5, .int l5), (6, .int l6), (7, .int l7), (8, .int l8)] []) (l0 : Nat) (l1 : Int32) (l2 : Int32) (l3 : Int32) (l4 : Int32) (l5 : Int32) (l6 : Int32) (l7 : Int32) (l8 : Int32) (V0 : hf_H) : hf_J C hf_dHI (ndX0_fairs_71 k71 l0 l1 l2 l3 l4 l5 l6 l7 l8 V0) V0 71 [(0, .ref l0), (1, .int l1), (2, .int l2), (3, .int l3), (4, .int l4), (5, .int l5), (6, .int l6), (7, .int l7), (8, .int l8)] [] := by
  refine hr_iload o 8 dX0_fairs_71 rfl ?_
  refine hr_iload_n o 2 dX0_fairs_73 rfl ?_
  refine hr_icmp_ge o 197 dX0_fairs_74 (by decide) (fun _ => ?_) (fun _ => ?_)
  · refine hr_aload_n o 0 dX0_fairs_197 rfl ?_
    refine hr_iload o 5 dX0_fairs_198 rfl ?_
    refine hx_putI (md := 1) o flX0_401 dX0_fairs_200 rfl (Or.inl nf_0_11) rfl rfl (fun _ => rfl) (fun g1 => ?_)
    refine hr_iload o 4 dX0_fairs_203 rfl ?_
    refine hr_if_ne o 213 dX0_fairs_205 (by decide) (fun _ => ?_) (fun _ => ?_)
    · refine hr_iload o 6 dX0_fairs_208 rfl ?_
      refine hr_goto o 215 dX0_fairs_210 (by decide) ?_
      exact hr_iret o dX0_fairs_215 rfl rfl
    refine hr_iload o 7 dX0_fairs_213 rfl ?_
    exact hr_iret o dX0_fairs_215 rfl rfl
  refine hr_aload_n o 0 dX0_fairs_77 rfl ?_
  refine hr_getA (md := 1) o flX0_23 dX0_fairs_78 (fun _ => rfl) (fun x2 => ?_)
  refine hr_aload_n o 0 dX0_fairs_81 rfl ?_
  refine hr_getA (md := 1) o flX0_19 dX0_fairs_82 (fun _ => rfl) (fun x3 => ?_)
  refine hx_callVV (q := (RX2, TX2, 5)) o og mvX0_244 dX0_fairs_85 1 2 rfl [.ref x3] (fun zg ze => mtX2_copyFrom x2 x3 V0 zg ze) rfl rfl (Nat.le_of_ble_eq_true rfl) ⟨by decide, by decide⟩ (fun g4 => ?_)
  refine hr_bipush o (24 : Int32) dX0_fairs_88 (by decide) ?_
  refine hr_aload_n o 0 dX0_fairs_90 rfl ?_
  refine hr_getA (md := 1) o flX0_12 dX0_fairs_91 (fun _ => rfl) (fun x5 => ?_)
  refine hr_aload_n o 0 dX0_fairs_94 rfl ?_
  refine hr_getA (md := 1) o flX0_19 dX0_fairs_95 (fun _ => rfl) (fun x6 => ?_)
  refine hr_getI (md := 1) o flX0_165 dX0_fairs_98 (fun _ => rfl) (fun x7 => ?_)
  refine hx_callVI (q := (RX1, TX1, 13)) o og mvX0_306 dX0_fairs_101 1 1 rfl [.int x7] (fun zr zg ze => mtX1_left x5 x7 g4 zr zg ze) rfl rfl (Nat.le_of_ble_eq_true rfl) ⟨by decide, by decide⟩ (fun x9 g8 => ?_)
  refine hx_mmin o q1100 q709 q171 q710 (by decide) (Nat.le_of_ble_eq_true rfl) dX0_fairs_104 ?_
  refine hr_nmI (fun x10 => ?_)
  refine hr_istore o [(9, .int x10), (0, .ref l0), (1, .int l1), (2, .int l2), (3, .int l3), (4, .int l4), (5, .int l5), (6, .int l6), (7, .int l7), (8, .int l8)] dX0_fairs_107 (by decide) rfl ?_
  refine hr_iconst o (0 : Int32) dX0_fairs_109 (by decide) ?_
  refine hr_istore o [(10, .int (0 : Int32)), (9, .int x10), (0, .ref l0), (1, .int l1), (2, .int l2), (3, .int l3), (4, .int l4), (5, .int l5), (6, .int l6), (7, .int l7), (8, .int l8)] dX0_fairs_110 (by decide) rfl ?_
  refine hr_sub [2, 3, 4, 5, 6, 7, 8, 9, 10, 1, 0] rfl ?_
  exact llX0_fairs_112 o og k71 hk71 hf_N l0 l1 l2 l3 l4 l5 l6 l7 l8 x10 (0 : Int32) g8
def lpX0_fairs_71  : Nat → Nat → Int32 → Int32 → Int32 → Int32 → Int32 → Int32 → Int32 → Int32 → hf_H → Option (Int32 × hf_H)
  | 0 => fun _ _ _ _ _ _ _ _ _ _ => none
  | n + 1 => fun l0 l1 l2 l3 l4 l5 l6 l7 l8 V0 => ndX0_fairs_71  (lpX0_fairs_71  n) l0 l1 l2 l3 l4 l5 l6 l7 l8 V0
theorem llX0_fairs_71 {C : hf_X} {gs : hf_gs} (o : hf_In C cX0_fairs RX0 11 (some .int) 134 3350) (og : hf_G C gs)   (n : Nat) : ∀ (l0 : Nat) (l1 : Int32) (l2 : Int32) (l3 : Int32) (l4 : Int32) (l5 : Int32) (l6 : Int32) (l7 : Int32) (l8 : Int32) (V0 : hf_H), hf_J C hf_dHI ((lpX0_fairs_71  n) l0 l1 l2 l3 l4 l5 l6 l7 l8 V0) V0 71 [(0, .ref l0), (1, .int l1), (2, .int l2), (3, .int l3), (4, .int l4), (5, .int l5), (6, .int l6), (7, .int l7), (8, .int l8)] [] := by
  induction n with
  | zero => exact fun _ _ _ _ _ _ _ _ _ _ => hr_none
  | succ n ih => exact fun l0 l1 l2 l3 l4 l5 l6 l7 l8 V0 => nlX0_fairs_71 o og  (lpX0_fairs_71  n)  ih l0 l1 l2 l3 l4 l5 l6 l7 l8 V0
def spX0_fairs (l0 : Nat) (l1 : Int32) (l2 : Int32) (l3 : Int32) (l4 : Int32) (V0 : hf_H) : Option (Int32 × hf_H) :=
  (hf_ob 1 0 V0 l0).bind fun _ =>
  hf_b2 (spX0_isFair l0 V0) fun x2 g1 =>
  if x2 = 0 then (some ((-1 : Int32), g1)) else
  (hf_ob 1 0 g1 l0).bind fun _ =>
  hf_b2 (spX0_isRule l0 l1 g1) fun x4 g3 =>
  if x4 = 0 then (some ((-1 : Int32), g3)) else
  (spX0_in (Int32.toInt64 l2) (1 : Int64) (10 : Int64)).bind fun x5 =>
  if x5 = 0 then (some ((-1 : Int32), g3)) else
  (spX0_in (Int32.toInt64 l3) (0 : Int64) (100 : Int64)).bind fun x6 =>
  if x6 = 0 then (some ((-1 : Int32), g3)) else
  (spX0_in (Int32.toInt64 l4) (0 : Int64) (1 : Int64)).bind fun x7 =>
  if x7 = 0 then (some ((-1 : Int32), g3)) else
  (hf_gi 1 0 11 g3 l0).bind fun x8 =>
  (hf_ob 1 0 g3 l0).bind fun _ =>
  (spX0_fillsWorths l0 g3).bind fun g9 =>
  lpX0_fairs_71 hf_N l0 l1 l2 l3 l4 x8 (0 : Int32) (0 : Int32) (0 : Int32) g9
theorem jtX0_fairs {C : hf_X} {gs : hf_gs} (o : hf_In C cX0_fairs RX0 11 (some .int) 134 3350) (og : hf_G C gs) (l0 : Nat) (l1 : Int32) (l2 : Int32) (l3 : Int32) (l4 : Int32) (V0 : hf_H) : hf_J C hf_dHI (spX0_fairs l0 l1 l2 l3 l4 V0) V0 0 [(0, .ref l0), (1, .int l1), (2, .int l2), (3, .int l3), (4, .int l4)] [] := by
  refine hr_aload_n o 0 dX0_fairs_0 rfl ?_
  refine hx_callVI (q := (RX0, TX0, 23)) o og mvX0_231 dX0_fairs_1 1 0 rfl [] (fun zr zg ze => mtX0_isFair l0 V0 zr zg ze) rfl rfl (Nat.le_of_ble_eq_true rfl) ⟨by decide, by decide⟩ (fun x2 g1 => ?_)
  refine hr_if_eq o 50 dX0_fairs_4 (by decide) (fun _ => ?_) (fun _ => ?_)
  · refine hr_iconst o (-1 : Int32) dX0_fairs_50 (by decide) ?_
    exact hr_iret o dX0_fairs_51 rfl rfl
  refine hr_aload_n o 0 dX0_fairs_7 rfl ?_
  refine hr_iload_n o 1 dX0_fairs_8 rfl ?_
  refine hx_callVI (q := (RX0, TX0, 23)) o og mvX0_336 dX0_fairs_9 1 0 rfl [.int l1] (fun zr zg ze => mtX0_isRule l0 l1 g1 zr zg ze) rfl rfl (Nat.le_of_ble_eq_true rfl) ⟨by decide, by decide⟩ (fun x4 g3 => ?_)
  refine hr_if_eq o 50 dX0_fairs_12 (by decide) (fun _ => ?_) (fun _ => ?_)
  · refine hr_iconst o (-1 : Int32) dX0_fairs_50 (by decide) ?_
    exact hr_iret o dX0_fairs_51 rfl rfl
  refine hr_iload_n o 2 dX0_fairs_15 rfl ?_
  refine hr_i2l o dX0_fairs_16 ?_
  refine hr_lconst o (1 : Int64) dX0_fairs_17 (by decide) ?_
  refine hr_ldc2 o (10 : Int64) q1325 dX0_fairs_18 ?_
  refine pr_callI o msX0_106 dX0_fairs_21 [.long (Int32.toInt64 l2), .long (1 : Int64), .long (10 : Int64)] (fun zr ze => mtX0_in (Int32.toInt64 l2) (1 : Int64) (10 : Int64) zr ze) rfl rfl (Nat.le_of_ble_eq_true rfl) ⟨by decide, by decide⟩ (fun x5 => ?_)
  refine hr_if_eq o 50 dX0_fairs_24 (by decide) (fun _ => ?_) (fun _ => ?_)
  · refine hr_iconst o (-1 : Int32) dX0_fairs_50 (by decide) ?_
    exact hr_iret o dX0_fairs_51 rfl rfl
  refine hr_iload_n o 3 dX0_fairs_27 rfl ?_
  refine hr_i2l o dX0_fairs_28 ?_
  refine hr_lconst o (0 : Int64) dX0_fairs_29 (by decide) ?_
  refine hr_ldc2 o (100 : Int64) q1326 dX0_fairs_30 ?_
  refine pr_callI o msX0_106 dX0_fairs_33 [.long (Int32.toInt64 l3), .long (0 : Int64), .long (100 : Int64)] (fun zr ze => mtX0_in (Int32.toInt64 l3) (0 : Int64) (100 : Int64) zr ze) rfl rfl (Nat.le_of_ble_eq_true rfl) ⟨by decide, by decide⟩ (fun x6 => ?_)
  refine hr_if_eq o 50 dX0_fairs_36 (by decide) (fun _ => ?_) (fun _ => ?_)
  · refine hr_iconst o (-1 : Int32) dX0_fairs_50 (by decide) ?_
    exact hr_iret o dX0_fairs_51 rfl rfl
  refine hr_iload o 4 dX0_fairs_39 rfl ?_
  refine hr_i2l o dX0_fairs_41 ?_
  refine hr_lconst o (0 : Int64) dX0_fairs_42 (by decide) ?_
  refine hr_lconst o (1 : Int64) dX0_fairs_43 (by decide) ?_
  refine pr_callI o msX0_106 dX0_fairs_44 [.long (Int32.toInt64 l4), .long (0 : Int64), .long (1 : Int64)] (fun zr ze => mtX0_in (Int32.toInt64 l4) (0 : Int64) (1 : Int64) zr ze) rfl rfl (Nat.le_of_ble_eq_true rfl) ⟨by decide, by decide⟩ (fun x7 => ?_)
  refine hr_if_ne o 52 dX0_fairs_47 (by decide) (fun _ => ?_) (fun _ => ?_)
  · refine hr_iconst o (-1 : Int32) dX0_fairs_50 (by decide) ?_
    exact hr_iret o dX0_fairs_51 rfl rfl
  refine hr_aload_n o 0 dX0_fairs_52 rfl ?_
  refine hr_getI (md := 1) o flX0_401 dX0_fairs_53 (fun _ => rfl) (fun x8 => ?_)
  refine hr_istore o [(5, .int x8), (0, .ref l0), (1, .int l1), (2, .int l2), (3, .int l3), (4, .int l4)] dX0_fairs_56 (by decide) rfl ?_
  refine hr_iconst o (0 : Int32) dX0_fairs_58 (by decide) ?_
  refine hr_istore o [(6, .int (0 : Int32)), (5, .int x8), (0, .ref l0), (1, .int l1), (2, .int l2), (3, .int l3), (4, .int l4)] dX0_fairs_59 (by decide) rfl ?_
  refine hr_iconst o (0 : Int32) dX0_fairs_61 (by decide) ?_
  refine hr_istore o [(7, .int (0 : Int32)), (6, .int (0 : Int32)), (5, .int x8), (0, .ref l0), (1, .int l1), (2, .int l2), (3, .int l3), (4, .int l4)] dX0_fairs_62 (by decide) rfl ?_
  refine hr_aload_n o 3 dX0_fairs_64 rfl ?_
  refine hx_callVV (q := (RX0, TX0, 23)) o og mvX0_228 dX0_fairs_65 1 0 rfl [] (fun zg ze => mtX0_fillsWorths l0 g3 zg ze) rfl rfl (Nat.le_of_ble_eq_true rfl) ⟨by decide, by decide⟩ (fun g9 => ?_)
  refine hr_iconst o (0 : Int32) dX0_fairs_68 (by decide) ?_
  refine hr_istore o [(8, .int (0 : Int32)), (7, .int (0 : Int32)), (6, .int (0 : Int32)), (5, .int x8), (0, .ref l0), (1, .int l1), (2, .int l2), (3, .int l3), (4, .int l4)] dX0_fairs_69 (by decide) rfl ?_
  refine hr_sub [4, 5, 6, 7, 8, 3, 2, 1, 0] rfl ?_
  exact llX0_fairs_71 o og hf_N l0 l1 l2 l3 l4 x8 (0 : Int32) (0 : Int32) (0 : Int32) g9
theorem mtX0_fairs {gs : hf_gs} (l0 : Nat) (l1 : Int32) (l2 : Int32) (l3 : Int32) (l4 : Int32) (V0 : hf_H) (r : Int32) (V1 : hf_H) (e : spX0_fairs l0 l1 l2 l3 l4 V0 = some (r, V1)) : hf_ConG gs yX0_fairs cX0_fairs 11 (some .int) 134 3350 [.ref l0, .int l1, .int l2, .int l3, .int l4] V0 (.returned (some (.int r)), V1) := hf_entryG (dec := hf_dHI) (by decide) [.ref l0, .int l1, .int l2, .int l3, .int l4] (Nat.le_of_ble_eq_true rfl) [(0, .ref l0), (1, .int l1), (2, .int l2), (3, .int l3), (4, .int l4)] rfl e (fun C o og _ => jtX0_fairs o og l0 l1 l2 l3 l4 V0)

/-! X0_count -/
def spX0_count (l0 : Nat) (l1 : Int32) (V0 : hf_H) : Option (Int32 × hf_H) :=
  if l1 = (0 : Int32) then ((hf_ga 1 0 0 V0 l0).bind fun x1 =>
  (hf_gi 1 1 3 V0 x1).bind fun x2 =>
  some (x2, V0)) else
  if l1 = (1 : Int32) then ((hf_ob 1 0 V0 l0).bind fun _ =>
  hf_b2 (spX0_many l0 V0) fun x4 g3 =>
  some (x4, g3)) else
  if l1 = (2 : Int32) then ((hf_ob 1 0 V0 l0).bind fun _ =>
  hf_b2 (spX0_buyers l0 V0) fun x6 g5 =>
  some (x6, g5)) else
  if l1 = (3 : Int32) then ((hf_ga 1 0 3 V0 l0).bind fun x7 =>
  (hf_ob 0 19 V0 x7).bind fun _ =>
  hf_b2 (spJ2_size x7 V0) fun x9 g8 =>
  some (x9, g8)) else
  if l1 = (4 : Int32) then ((hf_ga 1 0 1 V0 l0).bind fun x10 =>
  (hf_gi 1 2 4 V0 x10).bind fun x11 =>
  some (x11, V0)) else
  if l1 = (5 : Int32) then ((hf_ob 1 0 V0 l0).bind fun _ =>
  hf_b2 (spX0_isFair l0 V0) fun x13 g12 =>
  if x13 = 0 then (some ((-1 : Int32), g12)) else
  (hf_ga 1 0 0 g12 l0).bind fun x14 =>
  (hf_ga 1 0 1 g12 l0).bind fun x15 =>
  (hf_gi 1 2 4 g12 x15).bind fun x16 =>
  (hf_ob 1 1 g12 x14).bind fun _ =>
  hf_b2 (spX1_left x14 x16 g12) fun x18 g17 =>
  some (x18, g17)) else
  if l1 = (6 : Int32) then ((hf_ga 1 0 1 V0 l0).bind fun x19 =>
  (hf_ga 1 0 0 V0 l0).bind fun x20 =>
  (hf_ob 1 2 V0 x19).bind fun _ =>
  hf_b2 (spX2_atStalls x19 x20 V0) fun x22 g21 =>
  (spJ14_bitCount x22).bind fun x23 =>
  some (x23, g21)) else
  if l1 = (7 : Int32) then ((hf_gi 1 0 10 V0 l0).bind fun x24 =>
  some (x24, V0)) else
  if l1 = (8 : Int32) then ((hf_gi 1 0 14 V0 l0).bind fun x25 =>
  some (x25, V0)) else
  if l1 = (9 : Int32) then ((hf_gi 1 0 11 V0 l0).bind fun x26 =>
  some (x26, V0)) else
  if l1 = (10 : Int32) then ((hf_gi 1 0 6 V0 l0).bind fun x27 =>
  some (x27, V0)) else
  some ((-1 : Int32), V0)
theorem jtX0_count {C : hf_X} {gs : hf_gs} (o : hf_In C cX0_count RX0 2 (some .int) 2 43) (og : hf_G C gs) (l0 : Nat) (l1 : Int32) (V0 : hf_H) : hf_J C hf_dHI (spX0_count l0 l1 V0) V0 0 [(0, .ref l0), (1, .int l1)] [] := by
  refine hr_iload_n o 1 dX0_count_0 rfl ?_
  refine hr_tsw o (0 : Int32) 60 dX0_count_1 (by decide) (by decide) rfl (by decide) (fun c_1_0 => ?_) (fun c_1_0 => ?_)
  · refine hr_aload_n o 0 dX0_count_60 rfl ?_
    refine hr_getA (md := 1) o flX0_12 dX0_count_61 (fun _ => rfl) (fun x1 => ?_)
    refine hr_getI (md := 1) o flX0_89 dX0_count_64 (fun _ => rfl) (fun x2 => ?_)
    exact hr_iret o dX0_count_67 rfl rfl
  refine hr_tsw o (1 : Int32) 68 dX0_count_1 (by decide) (by decide) rfl (by decide) (fun c_1_1 => ?_) (fun c_1_1 => ?_)
  · refine hr_aload_n o 0 dX0_count_68 rfl ?_
    refine hx_callVI (q := (RX0, TX0, 23)) o og mvX0_103 dX0_count_69 1 0 rfl [] (fun zr zg ze => mtX0_many l0 V0 zr zg ze) rfl rfl (Nat.le_of_ble_eq_true rfl) ⟨by decide, by decide⟩ (fun x4 g3 => ?_)
    exact hr_iret o dX0_count_72 rfl rfl
  refine hr_tsw o (2 : Int32) 73 dX0_count_1 (by decide) (by decide) rfl (by decide) (fun c_1_2 => ?_) (fun c_1_2 => ?_)
  · refine hr_aload_n o 0 dX0_count_73 rfl ?_
    refine hx_callVI (q := (RX0, TX0, 23)) o og mvX0_110 dX0_count_74 1 0 rfl [] (fun zr zg ze => mtX0_buyers l0 V0 zr zg ze) rfl rfl (Nat.le_of_ble_eq_true rfl) ⟨by decide, by decide⟩ (fun x6 g5 => ?_)
    exact hr_iret o dX0_count_77 rfl rfl
  refine hr_tsw o (3 : Int32) 78 dX0_count_1 (by decide) (by decide) rfl (by decide) (fun c_1_3 => ?_) (fun c_1_3 => ?_)
  · refine hr_aload_n o 0 dX0_count_78 rfl ?_
    refine hr_getA (md := 1) o flX0_31 dX0_count_79 (fun _ => rfl) (fun x7 => ?_)
    refine hx_callVI (q := (RJ2, TJ2, 3)) o og mvX0_96 dX0_count_82 0 19 rfl [] (fun zr zg ze => mtJ2_size x7 V0 zr zg ze) rfl rfl (Nat.le_of_ble_eq_true rfl) ⟨by decide, by decide⟩ (fun x9 g8 => ?_)
    exact hr_iret o dX0_count_85 rfl rfl
  refine hr_tsw o (4 : Int32) 86 dX0_count_1 (by decide) (by decide) rfl (by decide) (fun c_1_4 => ?_) (fun c_1_4 => ?_)
  · refine hr_aload_n o 0 dX0_count_86 rfl ?_
    refine hr_getA (md := 1) o flX0_19 dX0_count_87 (fun _ => rfl) (fun x10 => ?_)
    refine hr_getI (md := 1) o flX0_165 dX0_count_90 (fun _ => rfl) (fun x11 => ?_)
    exact hr_iret o dX0_count_93 rfl rfl
  refine hr_tsw o (5 : Int32) 94 dX0_count_1 (by decide) (by decide) rfl (by decide) (fun c_1_5 => ?_) (fun c_1_5 => ?_)
  · refine hr_aload_n o 0 dX0_count_94 rfl ?_
    refine hx_callVI (q := (RX0, TX0, 23)) o og mvX0_231 dX0_count_95 1 0 rfl [] (fun zr zg ze => mtX0_isFair l0 V0 zr zg ze) rfl rfl (Nat.le_of_ble_eq_true rfl) ⟨by decide, by decide⟩ (fun x13 g12 => ?_)
    refine hr_if_eq o 118 dX0_count_98 (by decide) (fun _ => ?_) (fun _ => ?_)
    · refine hr_iconst o (-1 : Int32) dX0_count_118 (by decide) ?_
      exact hr_iret o dX0_count_119 rfl rfl
    refine hr_aload_n o 0 dX0_count_101 rfl ?_
    refine hr_getA (md := 1) o flX0_12 dX0_count_102 (fun _ => rfl) (fun x14 => ?_)
    refine hr_aload_n o 0 dX0_count_105 rfl ?_
    refine hr_getA (md := 1) o flX0_19 dX0_count_106 (fun _ => rfl) (fun x15 => ?_)
    refine hr_getI (md := 1) o flX0_165 dX0_count_109 (fun _ => rfl) (fun x16 => ?_)
    refine hx_callVI (q := (RX1, TX1, 13)) o og mvX0_306 dX0_count_112 1 1 rfl [.int x16] (fun zr zg ze => mtX1_left x14 x16 g12 zr zg ze) rfl rfl (Nat.le_of_ble_eq_true rfl) ⟨by decide, by decide⟩ (fun x18 g17 => ?_)
    refine hr_goto o 119 dX0_count_115 (by decide) ?_
    exact hr_iret o dX0_count_119 rfl rfl
  refine hr_tsw o (6 : Int32) 120 dX0_count_1 (by decide) (by decide) rfl (by decide) (fun c_1_6 => ?_) (fun c_1_6 => ?_)
  · refine hr_aload_n o 0 dX0_count_120 rfl ?_
    refine hr_getA (md := 1) o flX0_19 dX0_count_121 (fun _ => rfl) (fun x19 => ?_)
    refine hr_aload_n o 0 dX0_count_124 rfl ?_
    refine hr_getA (md := 1) o flX0_12 dX0_count_125 (fun _ => rfl) (fun x20 => ?_)
    refine hx_callVI (q := (RX2, TX2, 5)) o og mvX0_312 dX0_count_128 1 2 rfl [.ref x20] (fun zr zg ze => mtX2_atStalls x19 x20 V0 zr zg ze) rfl rfl (Nat.le_of_ble_eq_true rfl) ⟨by decide, by decide⟩ (fun x22 g21 => ?_)
    refine pr_callI o msX0_291 dX0_count_131 [.int x22] (fun zr ze => mtJ14_bitCount x22 zr ze) rfl rfl (Nat.le_of_ble_eq_true rfl) ⟨by decide, by decide⟩ (fun x23 => ?_)
    exact hr_iret o dX0_count_134 rfl rfl
  refine hr_tsw o (7 : Int32) 135 dX0_count_1 (by decide) (by decide) rfl (by decide) (fun c_1_7 => ?_) (fun c_1_7 => ?_)
  · refine hr_aload_n o 0 dX0_count_135 rfl ?_
    refine hr_getI (md := 1) o flX0_140 dX0_count_136 (fun _ => rfl) (fun x24 => ?_)
    exact hr_iret o dX0_count_139 rfl rfl
  refine hr_tsw o (8 : Int32) 140 dX0_count_1 (by decide) (by decide) rfl (by decide) (fun c_1_8 => ?_) (fun c_1_8 => ?_)
  · refine hr_aload_n o 0 dX0_count_140 rfl ?_
    refine hr_getI (md := 1) o flX0_248 dX0_count_141 (fun _ => rfl) (fun x25 => ?_)
    exact hr_iret o dX0_count_144 rfl rfl
  refine hr_tsw o (9 : Int32) 145 dX0_count_1 (by decide) (by decide) rfl (by decide) (fun c_1_9 => ?_) (fun c_1_9 => ?_)
  · refine hr_aload_n o 0 dX0_count_145 rfl ?_
    refine hr_getI (md := 1) o flX0_401 dX0_count_146 (fun _ => rfl) (fun x26 => ?_)
    exact hr_iret o dX0_count_149 rfl rfl
  refine hr_tsw o (10 : Int32) 150 dX0_count_1 (by decide) (by decide) rfl (by decide) (fun c_1_10 => ?_) (fun c_1_10 => ?_)
  · refine hr_aload_n o 0 dX0_count_150 rfl ?_
    refine hr_getI (md := 1) o flX0_122 dX0_count_151 (fun _ => rfl) (fun x27 => ?_)
    exact hr_iret o dX0_count_154 rfl rfl
  refine hr_tswD o 155 dX0_count_1 (by have n0 := hf_nei (0) (by decide) c_1_0; have n1 := hf_nei (1) (by decide) c_1_1; have n2 := hf_nei (2) (by decide) c_1_2; have n3 := hf_nei (3) (by decide) c_1_3; have n4 := hf_nei (4) (by decide) c_1_4; have n5 := hf_nei (5) (by decide) c_1_5; have n6 := hf_nei (6) (by decide) c_1_6; have n7 := hf_nei (7) (by decide) c_1_7; have n8 := hf_nei (8) (by decide) c_1_8; have n9 := hf_nei (9) (by decide) c_1_9; have n10 := hf_nei (10) (by decide) c_1_10; omega) (by decide) ?_
  refine hr_iconst o (-1 : Int32) dX0_count_155 (by decide) ?_
  exact hr_iret o dX0_count_156 rfl rfl
theorem mtX0_count {gs : hf_gs} (l0 : Nat) (l1 : Int32) (V0 : hf_H) (r : Int32) (V1 : hf_H) (e : spX0_count l0 l1 V0 = some (r, V1)) : hf_ConG gs yX0_count cX0_count 2 (some .int) 2 43 [.ref l0, .int l1] V0 (.returned (some (.int r)), V1) := hf_entryG (dec := hf_dHI) (by decide) [.ref l0, .int l1] (Nat.le_of_ble_eq_true rfl) [(0, .ref l0), (1, .int l1)] rfl e (fun C o og _ => jtX0_count o og l0 l1 V0)
