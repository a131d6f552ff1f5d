set_option maxRecDepth 100000
set_option maxHeartbeats 4000000
/-! X0_put -/
theorem flX0_42 : hf_Fl RX0 42 0 5 := ⟨(RX0, TX0, 23), RX0, rfl, by decide, in_X0, tyX0_ok, nmX0, Or.inl q396, Or.inl rfl⟩
theorem flX0_122 : hf_Fl RX0 122 0 6 := ⟨(RX0, TX0, 23), RX0, rfl, by decide, in_X0, tyX0_ok, nmX0, Or.inl q398, Or.inl rfl⟩
theorem nf_0_6 : hf_Nf 0 6 := ⟨(RX0, TX0, 23), rfl, rfl⟩
def ndX0_put_3 (k3 : Nat → Int32 → Int32 → hf_H → Option hf_H) (l0 : Nat) (l1 : Int32) (l2 : Int32) (V0 : hf_H) : Option hf_H :=
  if l2 < 0 then (some V0) else
  (hf_ob 1 0 V0 l0).bind fun _ =>
  (hf_gi 1 0 6 V0 l0).bind fun x1 =>
  (hf_si 0 5 400 V0 l0 x1 (vp_nar .byte (Int8.toInt32 (Int32.toInt8 (l1 >>> (l2 &&& 31)))))).bind fun g2 =>
  (hf_gi 1 0 6 g2 l0).bind fun x3 =>
  (hf_pi 1 0 6 g2 l0 (x3 + (1 : Int32))).bind fun g4 =>
  hf_let (l2 + (-8 : Int32)) fun x5 =>
  k3 l0 l1 x5 g4
theorem nlX0_put_3 {C : hf_X} {gs : hf_gs} (o : hf_In C cX0_put RX0 3 (none) 0 0) (og : hf_G C gs) (k3 : Nat → Int32 → Int32 → hf_H → Option hf_H) (hk3 : ∀ (l0 : Nat) (l1 : Int32) (l2 : Int32) (V0 : hf_H), hf_J C hf_dHV (k3 l0 l1 l2 V0) V0 3 [(0, .ref l0), (1, .int l1), (2, .int l2)] []) (l0 : Nat) (l1 : Int32) (l2 : Int32) (V0 : hf_H) : hf_J C hf_dHV (ndX0_put_3 k3 l0 l1 l2 V0) V0 3 [(0, .ref l0), (1, .int l1), (2, .int l2)] [] := by
  refine hr_iload_n o 2 dX0_put_3 rfl ?_
  refine hr_if_lt o 36 dX0_put_4 (by decide) (fun _ => ?_) (fun _ => ?_)
  · exact hr_vret o dX0_put_36 rfl
  refine hr_aload_n o 0 dX0_put_7 rfl ?_
  refine hr_getO o flX0_42 dX0_put_8 20 (fun _ => rfl) (fun _ _ => ?_)
  refine hr_aload_n o 0 dX0_put_11 rfl ?_
  refine hr_getI (md := 1) o flX0_122 dX0_put_12 (fun _ => rfl) (fun x1 => ?_)
  refine hr_iload_n o 1 dX0_put_15 rfl ?_
  refine hr_iload_n o 2 dX0_put_16 rfl ?_
  refine hr_ishr o dX0_put_17 ?_
  refine hr_i2b o dX0_put_18 ?_
  refine hx_bast o 0 5 20 400 rfl (by decide) (fun j h1 h2 => hf_of0_inj j 5 h1 h2) rfl dX0_put_19 (fun g2 => ?_)
  refine hr_aload_n o 0 dX0_put_20 rfl ?_
  refine hr_dup o dX0_put_21 rfl ?_
  refine hr_getI (md := 1) o flX0_122 dX0_put_22 (fun _ => rfl) (fun x3 => ?_)
  refine hr_iconst o (1 : Int32) dX0_put_25 (by decide) ?_
  refine hr_iadd o dX0_put_26 ?_
  refine hx_putI (md := 1) o flX0_122 dX0_put_27 rfl (Or.inl nf_0_6) rfl rfl (fun _ => rfl) (fun g4 => ?_)
  refine hr_iincN o (-8 : Int32) 2 (fun y => [(2, .int y), (0, .ref l0), (1, .int l1)]) dX0_put_30 rfl (by decide) (by decide) (fun y => rfl) (fun x5 => ?_)
  refine hr_goto o 3 dX0_put_33 (by decide) ?_
  refine hr_sub [1, 2, 0] rfl ?_
  exact hk3 l0 l1 x5 g4
def lpX0_put_3  : Nat → Nat → Int32 → Int32 → hf_H → Option hf_H
  | 0 => fun _ _ _ _ => none
  | n + 1 => fun l0 l1 l2 V0 => ndX0_put_3  (lpX0_put_3  n) l0 l1 l2 V0
theorem llX0_put_3 {C : hf_X} {gs : hf_gs} (o : hf_In C cX0_put RX0 3 (none) 0 0) (og : hf_G C gs)   (n : Nat) : ∀ (l0 : Nat) (l1 : Int32) (l2 : Int32) (V0 : hf_H), hf_J C hf_dHV ((lpX0_put_3  n) l0 l1 l2 V0) V0 3 [(0, .ref l0), (1, .int l1), (2, .int l2)] [] := by
  induction n with
  | zero => exact fun _ _ _ _ => hr_none
  | succ n ih => exact fun l0 l1 l2 V0 => nlX0_put_3 o og  (lpX0_put_3  n)  ih l0 l1 l2 V0
def spX0_put (l0 : Nat) (l1 : Int32) (V0 : hf_H) : Option hf_H :=
  lpX0_put_3 hf_N l0 l1 (24 : Int32) V0
theorem jtX0_put {C : hf_X} {gs : hf_gs} (o : hf_In C cX0_put RX0 3 (none) 0 0) (og : hf_G C gs) (l0 : Nat) (l1 : Int32) (V0 : hf_H) : hf_J C hf_dHV (spX0_put l0 l1 V0) V0 0 [(0, .ref l0), (1, .int l1)] [] := by
  refine hr_bipush o (24 : Int32) dX0_put_0 (by decide) ?_
  refine hr_istore_n o [(2, .int (24 : Int32)), (0, .ref l0), (1, .int l1)] dX0_put_2 (by decide) rfl ?_
  refine hr_sub [1, 2, 0] rfl ?_
  exact llX0_put_3 o og hf_N l0 l1 (24 : Int32) V0
theorem mtX0_put {gs : hf_gs} (l0 : Nat) (l1 : Int32) (V0 V1 : hf_H) (e : spX0_put l0 l1 V0 = some V1) : hf_ConG gs yX0_put cX0_put 3 (none) 0 0 [.ref l0, .int l1] V0 (.returned none, V1) := hf_entryG (dec := hf_dHV) (by decide) [.ref l0, .int l1] (Nat.le_of_ble_eq_true rfl) [(0, .ref l0), (1, .int l1)] rfl e (fun C o og _ => jtX0_put o og l0 l1 V0)

/-! X0_feed -/
theorem mvX0_125 : hf_MV RX0 125 RX0 yX0_put cX0_put 3 (none) 1 := ⟨lw_V q474 q476 qs1 q153 q477, by decide +kernel⟩
def spX0_feed (l0 : Nat) (l1 : Int32) (l2 : Int32) (l3 : Int32) (l4 : Int32) (l5 : Int32) (V0 : hf_H) : Option (Int32 × hf_H) :=
  (hf_gi 1 0 6 V0 l0).bind fun x1 =>
  if (x1 + (20 : Int32)) ≤ (400 : Int32) then ((hf_ob 1 0 V0 l0).bind fun _ =>
  (spX0_put l0 l1 V0).bind fun g2 =>
  (hf_ob 1 0 g2 l0).bind fun _ =>
  (spX0_put l0 l2 g2).bind fun g3 =>
  (hf_ob 1 0 g3 l0).bind fun _ =>
  (spX0_put l0 l3 g3).bind fun g4 =>
  (hf_ob 1 0 g4 l0).bind fun _ =>
  (spX0_put l0 l4 g4).bind fun g5 =>
  (hf_ob 1 0 g5 l0).bind fun _ =>
  (spX0_put l0 l5 g5).bind fun g6 =>
  (hf_gi 1 0 6 g6 l0).bind fun x7 =>
  some (x7, g6)) else
  some ((-1 : Int32), V0)
theorem jtX0_feed {C : hf_X} {gs : hf_gs} (o : hf_In C cX0_feed RX0 6 (some .int) 1 22) (og : hf_G C gs) (l0 : Nat) (l1 : Int32) (l2 : Int32) (l3 : Int32) (l4 : Int32) (l5 : Int32) (V0 : hf_H) : hf_J C hf_dHI (spX0_feed l0 l1 l2 l3 l4 l5 V0) V0 0 [(0, .ref l0), (1, .int l1), (2, .int l2), (3, .int l3), (4, .int l4), (5, .int l5)] [] := by
  refine hr_aload_n o 0 dX0_feed_0 rfl ?_
  refine hr_getI (md := 1) o flX0_122 dX0_feed_1 (fun _ => rfl) (fun x1 => ?_)
  refine hr_bipush o (20 : Int32) dX0_feed_4 (by decide) ?_
  refine hr_iadd o dX0_feed_6 ?_
  refine hr_sipush o (400 : Int32) dX0_feed_7 (by decide) ?_
  refine hr_icmp_le o 15 dX0_feed_10 (by decide) (fun _ => ?_) (fun _ => ?_)
  · refine hr_aload_n o 0 dX0_feed_15 rfl ?_
    refine hr_iload_n o 1 dX0_feed_16 rfl ?_
    refine hx_callVV (q := (RX0, TX0, 23)) o og mvX0_125 dX0_feed_17 1 0 rfl [.int l1] (fun zg ze => mtX0_put l0 l1 V0 zg ze) rfl rfl (Nat.le_of_ble_eq_true rfl) ⟨by decide, by decide⟩ (fun g2 => ?_)
    refine hr_aload_n o 0 dX0_feed_20 rfl ?_
    refine hr_iload_n o 2 dX0_feed_21 rfl ?_
    refine hx_callVV (q := (RX0, TX0, 23)) o og mvX0_125 dX0_feed_22 1 0 rfl [.int l2] (fun zg ze => mtX0_put l0 l2 g2 zg ze) rfl rfl (Nat.le_of_ble_eq_true rfl) ⟨by decide, by decide⟩ (fun g3 => ?_)
    refine hr_aload_n o 0 dX0_feed_25 rfl ?_
    refine hr_iload_n o 3 dX0_feed_26 rfl ?_
    refine hx_callVV (q := (RX0, TX0, 23)) o og mvX0_125 dX0_feed_27 1 0 rfl [.int l3] (fun zg ze => mtX0_put l0 l3 g3 zg ze) rfl rfl (Nat.le_of_ble_eq_true rfl) ⟨by decide, by decide⟩ (fun g4 => ?_)
    refine hr_aload_n o 0 dX0_feed_30 rfl ?_
    refine hr_iload o 4 dX0_feed_31 rfl ?_
    refine hx_callVV (q := (RX0, TX0, 23)) o og mvX0_125 dX0_feed_33 1 0 rfl [.int l4] (fun zg ze => mtX0_put l0 l4 g4 zg ze) rfl rfl (Nat.le_of_ble_eq_true rfl) ⟨by decide, by decide⟩ (fun g5 => ?_)
    refine hr_aload_n o 0 dX0_feed_36 rfl ?_
    refine hr_iload o 5 dX0_feed_37 rfl ?_
    refine hx_callVV (q := (RX0, TX0, 23)) o og mvX0_125 dX0_feed_39 1 0 rfl [.int l5] (fun zg ze => mtX0_put l0 l5 g5 zg ze) rfl rfl (Nat.le_of_ble_eq_true rfl) ⟨by decide, by decide⟩ (fun g6 => ?_)
    refine hr_aload_n o 0 dX0_feed_42 rfl ?_
    refine hr_getI (md := 1) o flX0_122 dX0_feed_43 (fun _ => rfl) (fun x7 => ?_)
    exact hr_iret o dX0_feed_46 rfl rfl
  refine hr_iconst o (-1 : Int32) dX0_feed_13 (by decide) ?_
  exact hr_iret o dX0_feed_14 rfl rfl
theorem mtX0_feed {gs : hf_gs} (l0 : Nat) (l1 : Int32) (l2 : Int32) (l3 : Int32) (l4 : Int32) (l5 : Int32) (V0 : hf_H) (r : Int32) (V1 : hf_H) (e : spX0_feed l0 l1 l2 l3 l4 l5 V0 = some (r, V1)) : hf_ConG gs yX0_feed cX0_feed 6 (some .int) 1 22 [.ref l0, .int l1, .int l2, .int l3, .int l4, .int l5] V0 (.returned (some (.int r)), V1) := hf_entryG (dec := hf_dHI) (by decide) [.ref l0, .int l1, .int l2, .int l3, .int l4, .int l5] (Nat.le_of_ble_eq_true rfl) [(0, .ref l0), (1, .int l1), (2, .int l2), (3, .int l3), (4, .int l4), (5, .int l5)] rfl e (fun C o og _ => jtX0_feed o og l0 l1 l2 l3 l4 l5 V0)

/-! X0_end -/
def spX0_end (l0 : Nat) (l1 : Int32) (V0 : hf_H) : Option (Int32 × hf_H) :=
  if l1 < 0 then (some ((-1 : Int32), V0)) else
  (hf_gi 1 0 6 V0 l0).bind fun x1 =>
  if l1 ≤ x1 then ((hf_pi 1 0 6 V0 l0 l1).bind fun g2 =>
  some (l1, g2)) else
  some ((-1 : Int32), V0)
theorem jtX0_end {C : hf_X} {gs : hf_gs} (o : hf_In C cX0_end RX0 2 (some .int) 0 0) (og : hf_G C gs) (l0 : Nat) (l1 : Int32) (V0 : hf_H) : hf_J C hf_dHI (spX0_end l0 l1 V0) V0 0 [(0, .ref l0), (1, .int l1)] [] := by
  refine hr_iload_n o 1 dX0_end_0 rfl ?_
  refine hr_if_lt o 12 dX0_end_1 (by decide) (fun _ => ?_) (fun _ => ?_)
  · refine hr_iconst o (-1 : Int32) dX0_end_12 (by decide) ?_
    exact hr_iret o dX0_end_13 rfl rfl
  refine hr_iload_n o 1 dX0_end_4 rfl ?_
  refine hr_aload_n o 0 dX0_end_5 rfl ?_
  refine hr_getI (md := 1) o flX0_122 dX0_end_6 (fun _ => rfl) (fun x1 => ?_)
  refine hr_icmp_le o 14 dX0_end_9 (by decide) (fun _ => ?_) (fun _ => ?_)
  · refine hr_aload_n o 0 dX0_end_14 rfl ?_
    refine hr_iload_n o 1 dX0_end_15 rfl ?_
    refine hx_putI (md := 1) o flX0_122 dX0_end_16 rfl (Or.inl nf_0_6) rfl rfl (fun _ => rfl) (fun g2 => ?_)
    refine hr_iload_n o 1 dX0_end_19 rfl ?_
    exact hr_iret o dX0_end_20 rfl rfl
  refine hr_iconst o (-1 : Int32) dX0_end_12 (by decide) ?_
  exact hr_iret o dX0_end_13 rfl rfl
theorem mtX0_end {gs : hf_gs} (l0 : Nat) (l1 : Int32) (V0 : hf_H) (r : Int32) (V1 : hf_H) (e : spX0_end l0 l1 V0 = some (r, V1)) : hf_ConG gs yX0_end cX0_end 2 (some .int) 0 0 [.ref l0, .int l1] V0 (.returned (some (.int r)), V1) := hf_entryG (dec := hf_dHI) (by decide) [.ref l0, .int l1] (Nat.le_of_ble_eq_true rfl) [(0, .ref l0), (1, .int l1)] rfl e (fun C o og _ => jtX0_end o og l0 l1 V0)

/-! X0_fails -/
theorem flX0_38 : hf_Fl RX0 38 0 4 := ⟨(RX0, TX0, 23), RX0, rfl, by decide, in_X0, tyX0_ok, nmX0, Or.inl q394, Or.inl rfl⟩
theorem flX0_119 : hf_Fl RX0 119 3 6 := ⟨(RX3, TX3, 7), RX3, rfl, by decide, in_X3, tyX3_ok, nmX3, Or.inr ⟨"HalfFair", q363⟩, Or.inl rfl⟩
theorem nf_3_6 : hf_Nf 3 6 := ⟨(RX3, TX3, 7), rfl, rfl⟩
def spX0_fails (l0 : Nat) (l1 : Int32) (l2 : Int32) (V0 : hf_H) : Option (Nat × hf_H) :=
  (hf_ga 1 0 4 V0 l0).bind fun x1 =>
  (hf_pi 0 3 6 V0 x1 (((1 : Int32) + ((8 : Int32) * l2)) + l1)).bind fun g2 =>
  (hf_ga 1 0 4 g2 l0).bind fun x3 =>
  some (x3, g2)
theorem jtX0_fails {C : hf_X} {gs : hf_gs} (o : hf_In C cX0_fails RX0 3 (some (.object "HalfFair$Wrong")) 0 0) (og : hf_G C gs) (l0 : Nat) (l1 : Int32) (l2 : Int32) (V0 : hf_H) : hf_J C hf_dHA (spX0_fails l0 l1 l2 V0) V0 0 [(0, .ref l0), (1, .int l1), (2, .int l2)] [] := by
  refine hr_aload_n o 0 dX0_fails_0 rfl ?_
  refine hr_getA (md := 1) o flX0_38 dX0_fails_1 (fun _ => rfl) (fun x1 => ?_)
  refine hr_iconst o (1 : Int32) dX0_fails_4 (by decide) ?_
  refine hr_bipush o (8 : Int32) dX0_fails_5 (by decide) ?_
  refine hr_iload_n o 2 dX0_fails_7 rfl ?_
  refine hr_imul o dX0_fails_8 ?_
  refine hr_iadd o dX0_fails_9 ?_
  refine hr_iload_n o 1 dX0_fails_10 rfl ?_
  refine hr_iadd o dX0_fails_11 ?_
  refine hx_putI (md := 0) o flX0_119 dX0_fails_12 rfl (Or.inl nf_3_6) rfl rfl (fun _ => rfl) (fun g2 => ?_)
  refine hr_aload_n o 0 dX0_fails_15 rfl ?_
  refine hr_getA (md := 1) o flX0_38 dX0_fails_16 (fun _ => rfl) (fun x3 => ?_)
  exact hr_aret o dX0_fails_19 (Or.inl ⟨_, rfl⟩) (Or.inr ⟨_, rfl⟩) rfl
theorem mtX0_fails {gs : hf_gs} (l0 : Nat) (l1 : Int32) (l2 : Int32) (V0 : hf_H) (r : Nat) (V1 : hf_H) (e : spX0_fails l0 l1 l2 V0 = some (r, V1)) : hf_ConG gs yX0_fails cX0_fails 3 (some (.object "HalfFair$Wrong")) 0 0 [.ref l0, .int l1, .int l2] V0 (.returned (some (.ref r)), V1) := hf_entryG (dec := hf_dHA) (by decide) [.ref l0, .int l1, .int l2] (Nat.le_of_ble_eq_true rfl) [(0, .ref l0), (1, .int l1), (2, .int l2)] rfl e (fun C o og _ => jtX0_fails o og l0 l1 l2 V0)

/-! X0_forgets -/
theorem flX0_248 : hf_Fl RX0 248 0 14 := ⟨(RX0, TX0, 23), RX0, rfl, by decide, in_X0, tyX0_ok, nmX0, Or.inl q411, Or.inl rfl⟩
theorem nf_0_14 : hf_Nf 0 14 := ⟨(RX0, TX0, 23), rfl, rfl⟩
def spX0_forgets (l0 : Nat) (V0 : hf_H) : Option hf_H :=
  (hf_pi 1 0 14 V0 l0 (0 : Int32)).bind fun g1 =>
  some g1
theorem jtX0_forgets {C : hf_X} {gs : hf_gs} (o : hf_In C cX0_forgets RX0 1 (none) 0 0) (og : hf_G C gs) (l0 : Nat) (V0 : hf_H) : hf_J C hf_dHV (spX0_forgets l0 V0) V0 0 [(0, .ref l0)] [] := by
  refine hr_aload_n o 0 dX0_forgets_0 rfl ?_
  refine hr_iconst o (0 : Int32) dX0_forgets_1 (by decide) ?_
  refine hx_putI (md := 1) o flX0_248 dX0_forgets_2 rfl (Or.inl nf_0_14) rfl rfl (fun _ => rfl) (fun g1 => ?_)
  exact hr_vret o dX0_forgets_5 rfl
theorem mtX0_forgets {gs : hf_gs} (l0 : Nat) (V0 V1 : hf_H) (e : spX0_forgets l0 V0 = some V1) : hf_ConG gs yX0_forgets cX0_forgets 1 (none) 0 0 [.ref l0] V0 (.returned none, V1) := hf_entryG (dec := hf_dHV) (by decide) [.ref l0] (Nat.le_of_ble_eq_true rfl) [(0, .ref l0)] rfl e (fun C o og _ => jtX0_forgets o og l0 V0)

/-! X0_many -/
theorem flX0_12 : hf_Fl RX0 12 0 0 := ⟨(RX0, TX0, 23), RX0, rfl, by decide, in_X0, tyX0_ok, nmX0, Or.inl q388, Or.inl rfl⟩
theorem flX0_93 : hf_Fl RX0 93 1 0 := ⟨(RX1, TX1, 13), RX1, rfl, by decide, in_X1, tyX1_ok, nmX1, Or.inr ⟨"HalfFair", q232⟩, Or.inl rfl⟩
theorem mvX0_96 : hf_MV RX0 96 RJ2 yJ2_size cJ2_size 1 (some .int) 0 := ⟨lw_V q806 q614 q615 q157 q616, by decide +kernel⟩
def spX0_many (l0 : Nat) (V0 : hf_H) : Option (Int32 × hf_H) :=
  (hf_ga 1 0 0 V0 l0).bind fun x1 =>
  (hf_ga 1 1 0 V0 x1).bind fun x2 =>
  (hf_ob 0 19 V0 x2).bind fun _ =>
  hf_b2 (spJ2_size x2 V0) fun x4 g3 =>
  some (x4, g3)
theorem jtX0_many {C : hf_X} {gs : hf_gs} (o : hf_In C cX0_many RX0 1 (some .int) 1 20) (og : hf_G C gs) (l0 : Nat) (V0 : hf_H) : hf_J C hf_dHI (spX0_many l0 V0) V0 0 [(0, .ref l0)] [] := by
  refine hr_aload_n o 0 dX0_many_0 rfl ?_
  refine hr_getA (md := 1) o flX0_12 dX0_many_1 (fun _ => rfl) (fun x1 => ?_)
  refine hr_getA (md := 1) o flX0_93 dX0_many_4 (fun _ => rfl) (fun x2 => ?_)
  refine hx_callVI (q := (RJ2, TJ2, 3)) o og mvX0_96 dX0_many_7 0 19 rfl [] (fun zr zg ze => mtJ2_size x2 V0 zr zg ze) rfl rfl (Nat.le_of_ble_eq_true rfl) ⟨by decide, by decide⟩ (fun x4 g3 => ?_)
  exact hr_iret o dX0_many_10 rfl rfl
theorem mtX0_many {gs : hf_gs} (l0 : Nat) (V0 : hf_H) (r : Int32) (V1 : hf_H) (e : spX0_many l0 V0 = some (r, V1)) : hf_ConG gs yX0_many cX0_many 1 (some .int) 1 20 [.ref l0] V0 (.returned (some (.int r)), V1) := hf_entryG (dec := hf_dHI) (by decide) [.ref l0] (Nat.le_of_ble_eq_true rfl) [(0, .ref l0)] rfl e (fun C o og _ => jtX0_many o og l0 V0)

/-! X0_isHalf -/
theorem mvX0_103 : hf_MV RX0 103 RX0 yX0_many cX0_many 1 (some .int) 0 := ⟨lw_V q802 q804 qs20 q153 q805, by decide +kernel⟩
theorem msX0_106 : hf_MS RX0 106 yX0_in cX0_in 6 (some .boolean) 3 := ⟨lw_S q988 q544 q153 q545, by decide +kernel⟩
def spX0_isHalf (l0 : Nat) (l1 : Int32) (V0 : hf_H) : Option (Int32 × hf_H) :=
  (hf_ob 1 0 V0 l0).bind fun _ =>
  hf_b2 (spX0_many l0 V0) fun x2 g1 =>
  (spX0_in (Int32.toInt64 l1) (0 : Int64) (Int32.toInt64 (x2 - (1 : Int32)))).bind fun x3 =>
  if x3 = 0 ∨ x3 = 1 then some (x3, g1) else none
theorem jtX0_isHalf {C : hf_X} {gs : hf_gs} (o : hf_In C cX0_isHalf RX0 2 (some .boolean) 2 40) (og : hf_G C gs) (l0 : Nat) (l1 : Int32) (V0 : hf_H) : hf_J C hf_dHI (spX0_isHalf l0 l1 V0) V0 0 [(0, .ref l0), (1, .int l1)] [] := by
  refine hr_iload_n o 1 dX0_isHalf_0 rfl ?_
  refine hr_i2l o dX0_isHalf_1 ?_
  refine hr_lconst o (0 : Int64) dX0_isHalf_2 (by decide) ?_
  refine hr_aload_n o 0 dX0_isHalf_3 rfl ?_
  refine hx_callVI (q := (RX0, TX0, 23)) o og mvX0_103 dX0_isHalf_4 1 0 rfl [] (fun zr zg ze => mtX0_many l0 V0 zr zg ze) rfl rfl (Nat.le_of_ble_eq_true rfl) ⟨by decide, by decide⟩ (fun x2 g1 => ?_)
  refine hr_iconst o (1 : Int32) dX0_isHalf_7 (by decide) ?_
  refine hr_isub o dX0_isHalf_8 ?_
  refine hr_i2l o dX0_isHalf_9 ?_
  refine pr_callI o msX0_106 dX0_isHalf_10 [.long (Int32.toInt64 l1), .long (0 : Int64), .long (Int32.toInt64 (x2 - (1 : Int32)))] (fun zr ze => mtX0_in (Int32.toInt64 l1) (0 : Int64) (Int32.toInt64 (x2 - (1 : Int32))) zr ze) rfl rfl (Nat.le_of_ble_eq_true rfl) ⟨by decide, by decide⟩ (fun x3 => ?_)
  refine hr_ck (fun hz => ?_)
  exact hr_iret o dX0_isHalf_13 rfl (hf_nz hz)
theorem mtX0_isHalf {gs : hf_gs} (l0 : Nat) (l1 : Int32) (V0 : hf_H) (r : Int32) (V1 : hf_H) (e : spX0_isHalf l0 l1 V0 = some (r, V1)) : hf_ConG gs yX0_isHalf cX0_isHalf 2 (some .boolean) 2 40 [.ref l0, .int l1] V0 (.returned (some (.int r)), V1) := hf_entryG (dec := hf_dHI) (by decide) [.ref l0, .int l1] (Nat.le_of_ble_eq_true rfl) [(0, .ref l0), (1, .int l1)] rfl e (fun C o og _ => jtX0_isHalf o og l0 l1 V0)

/-! X0_half -/
theorem mvX0_149 : hf_MV RX0 149 RX0 yX0_isHalf cX0_isHalf 2 (some .boolean) 1 := ⟨lw_V q984 q986 qs31 q153 q987, by decide +kernel⟩
theorem mvX0_153 : hf_MV RX0 153 RJ2 yJ2_get cJ2_get 2 (some (.object "java/lang/Object")) 1 := ⟨lw_V q989 q765 q766 q157 q767, by decide +kernel⟩
theorem flX0_159 : hf_Fl RX0 159 6 1 := ⟨(RX6, TX6, 4), RX6, rfl, by decide, in_X6, tyX6_ok, nmX6, Or.inr ⟨"HalfFair", q634⟩, Or.inl rfl⟩
theorem flX0_162 : hf_Fl RX0 162 6 2 := ⟨(RX6, TX6, 4), RX6, rfl, by decide, in_X6, tyX6_ok, nmX6, Or.inr ⟨"HalfFair", q637⟩, Or.inl rfl⟩
theorem flX0_19 : hf_Fl RX0 19 0 1 := ⟨(RX0, TX0, 23), RX0, rfl, by decide, in_X0, tyX0_ok, nmX0, Or.inl q390, Or.inl rfl⟩
theorem flX0_165 : hf_Fl RX0 165 2 4 := ⟨(RX2, TX2, 5), RX2, rfl, by decide, in_X2, tyX2_ok, nmX2, Or.inr ⟨"HalfFair", q305⟩, Or.inl rfl⟩
theorem mvX0_168 : hf_MV RX0 168 RX1 yX1_priceAt cX1_priceAt 3 (some .int) 2 := ⟨lw_V q991 q992 q993 q154 q994, by decide +kernel⟩
theorem flX0_172 : hf_Fl RX0 172 2 0 := ⟨(RX2, TX2, 5), RX2, rfl, by decide, in_X2, tyX2_ok, nmX2, Or.inr ⟨"HalfFair", q297⟩, Or.inl rfl⟩
theorem flX0_112 : hf_Fl RX0 112 1 9 := ⟨(RX1, TX1, 13), RX1, rfl, by decide, in_X1, tyX1_ok, nmX1, Or.inr ⟨"HalfFair", q257⟩, Or.inl rfl⟩
theorem msX0_179 : hf_MS RX0 179 yX0_bit cX0_bit 1 (some .int) 1 := ⟨lw_S q998 q999 q153 q1000, by decide +kernel⟩
def spX0_half (l0 : Nat) (l1 : Int32) (l2 : Int32) (V0 : hf_H) : Option (Int32 × hf_H) :=
  (hf_ob 1 0 V0 l0).bind fun _ =>
  hf_b2 (spX0_isHalf l0 l1 V0) fun x2 g1 =>
  if x2 = 0 then (some ((-1 : Int32), g1)) else
  if l2 = (0 : Int32) then ((hf_ga 1 0 0 g1 l0).bind fun x3 =>
  (hf_ga 1 1 0 g1 x3).bind fun x4 =>
  (hf_ob 0 19 g1 x4).bind fun _ =>
  hf_b2 (spJ2_get x4 l1 g1) fun x6 g5 =>
  (hf_ob 0 6 g5 x6).bind fun _ =>
  (hf_gi 0 6 1 g5 x6).bind fun x7 =>
  some (x7, g5)) else
  if l2 = (1 : Int32) then ((hf_ga 1 0 0 g1 l0).bind fun x8 =>
  (hf_ga 1 1 0 g1 x8).bind fun x9 =>
  (hf_ob 0 19 g1 x9).bind fun _ =>
  hf_b2 (spJ2_get x9 l1 g1) fun x11 g10 =>
  (hf_ob 0 6 g10 x11).bind fun _ =>
  (hf_gi 0 6 2 g10 x11).bind fun x12 =>
  some (x12, g10)) else
  if l2 = (2 : Int32) then ((hf_ga 1 0 0 g1 l0).bind fun x13 =>
  (hf_ga 1 0 1 g1 l0).bind fun x14 =>
  (hf_gi 1 2 4 g1 x14).bind fun x15 =>
  (hf_ob 1 1 g1 x13).bind fun _ =>
  hf_b2 (spX1_priceAt x13 l1 x15 g1) fun x17 g16 =>
  some (x17, g16)) else
  if l2 = (3 : Int32) then ((hf_ga 1 0 1 g1 l0).bind fun x18 =>
  (hf_ob 1 2 g1 x18).bind fun _ =>
  (hf_ai 2 0 12 g1 x18 l1).bind fun x19 =>
  some (x19, g1)) else
  if l2 = (4 : Int32) then ((hf_ga 1 0 0 g1 l0).bind fun x20 =>
  (hf_gi 1 1 9 g1 x20).bind fun x21 =>
  (spX0_has x21 l1).bind fun x22 =>
  (spX0_bit x22).bind fun x23 =>
  some (x23, g1)) else
  some ((-1 : Int32), g1)
theorem jtX0_half {C : hf_X} {gs : hf_gs} (o : hf_In C cX0_half RX0 3 (some .int) 4 86) (og : hf_G C gs) (l0 : Nat) (l1 : Int32) (l2 : Int32) (V0 : hf_H) : hf_J C hf_dHI (spX0_half l0 l1 l2 V0) V0 0 [(0, .ref l0), (1, .int l1), (2, .int l2)] [] := by
  refine hr_aload_n o 0 dX0_half_0 rfl ?_
  refine hr_iload_n o 1 dX0_half_1 rfl ?_
  refine hx_callVI (q := (RX0, TX0, 23)) o og mvX0_149 dX0_half_2 1 0 rfl [.int l1] (fun zr zg ze => mtX0_isHalf l0 l1 V0 zr zg ze) rfl rfl (Nat.le_of_ble_eq_true rfl) ⟨by decide, by decide⟩ (fun x2 g1 => ?_)
  refine hr_if_ne o 10 dX0_half_5 (by decide) (fun _ => ?_) (fun _ => ?_)
  · refine hr_iconst o (-1 : Int32) dX0_half_8 (by decide) ?_
    exact hr_iret o dX0_half_9 rfl rfl
  refine hr_iload_n o 2 dX0_half_10 rfl ?_
  refine hr_tsw o (0 : Int32) 44 dX0_half_11 (by decide) (by decide) rfl (by decide) (fun c_11_0 => ?_) (fun c_11_0 => ?_)
  · refine hr_aload_n o 0 dX0_half_44 rfl ?_
    refine hr_getA (md := 1) o flX0_12 dX0_half_45 (fun _ => rfl) (fun x3 => ?_)
    refine hr_getA (md := 1) o flX0_93 dX0_half_48 (fun _ => rfl) (fun x4 => ?_)
    refine hr_iload_n o 1 dX0_half_51 rfl ?_
    refine hx_callVA (q := (RJ2, TJ2, 3)) o og mvX0_153 dX0_half_52 0 19 rfl [.int l1] (fun zr zg ze => mtJ2_get x4 l1 g1 zr zg ze) rfl rfl (Nat.le_of_ble_eq_true rfl) ⟨by decide, by decide⟩ (fun x6 g5 => ?_)
    refine hx_cast (md := 0) (ci := 6) (q := (RX6, TX6, 4)) o q990 rfl dX0_half_55 (fun _ => ?_)
    refine hr_getI (md := 0) o flX0_159 dX0_half_58 (fun _ => rfl) (fun x7 => ?_)
    exact hr_iret o dX0_half_61 rfl rfl
  refine hr_tsw o (1 : Int32) 62 dX0_half_11 (by decide) (by decide) rfl (by decide) (fun c_11_1 => ?_) (fun c_11_1 => ?_)
  · refine hr_aload_n o 0 dX0_half_62 rfl ?_
    refine hr_getA (md := 1) o flX0_12 dX0_half_63 (fun _ => rfl) (fun x8 => ?_)
    refine hr_getA (md := 1) o flX0_93 dX0_half_66 (fun _ => rfl) (fun x9 => ?_)
    refine hr_iload_n o 1 dX0_half_69 rfl ?_
    refine hx_callVA (q := (RJ2, TJ2, 3)) o og mvX0_153 dX0_half_70 0 19 rfl [.int l1] (fun zr zg ze => mtJ2_get x9 l1 g1 zr zg ze) rfl rfl (Nat.le_of_ble_eq_true rfl) ⟨by decide, by decide⟩ (fun x11 g10 => ?_)
    refine hx_cast (md := 0) (ci := 6) (q := (RX6, TX6, 4)) o q990 rfl dX0_half_73 (fun _ => ?_)
    refine hr_getI (md := 0) o flX0_162 dX0_half_76 (fun _ => rfl) (fun x12 => ?_)
    exact hr_iret o dX0_half_79 rfl rfl
  refine hr_tsw o (2 : Int32) 80 dX0_half_11 (by decide) (by decide) rfl (by decide) (fun c_11_2 => ?_) (fun c_11_2 => ?_)
  · refine hr_aload_n o 0 dX0_half_80 rfl ?_
    refine hr_getA (md := 1) o flX0_12 dX0_half_81 (fun _ => rfl) (fun x13 => ?_)
    refine hr_iload_n o 1 dX0_half_84 rfl ?_
    refine hr_aload_n o 0 dX0_half_85 rfl ?_
    refine hr_getA (md := 1) o flX0_19 dX0_half_86 (fun _ => rfl) (fun x14 => ?_)
    refine hr_getI (md := 1) o flX0_165 dX0_half_89 (fun _ => rfl) (fun x15 => ?_)
    refine hx_callVI (q := (RX1, TX1, 13)) o og mvX0_168 dX0_half_92 1 1 rfl [.int l1, .int x15] (fun zr zg ze => mtX1_priceAt x13 l1 x15 g1 zr zg ze) rfl rfl (Nat.le_of_ble_eq_true rfl) ⟨by decide, by decide⟩ (fun x17 g16 => ?_)
    exact hr_iret o dX0_half_95 rfl rfl
  refine hr_tsw o (3 : Int32) 96 dX0_half_11 (by decide) (by decide) rfl (by decide) (fun c_11_3 => ?_) (fun c_11_3 => ?_)
  · refine hr_aload_n o 0 dX0_half_96 rfl ?_
    refine hr_getA (md := 1) o flX0_19 dX0_half_97 (fun _ => rfl) (fun x18 => ?_)
    refine hr_getO o flX0_172 dX0_half_100 1 (fun _ => rfl) (fun _ _ => ?_)
    refine hr_iload_n o 1 dX0_half_103 rfl ?_
    refine hx_iald o 2 0 1 12 rfl (by decide) rfl dX0_half_104 (fun x19 => ?_)
    exact hr_iret o dX0_half_105 rfl rfl
  refine hr_tsw o (4 : Int32) 106 dX0_half_11 (by decide) (by decide) rfl (by decide) (fun c_11_4 => ?_) (fun c_11_4 => ?_)
  · refine hr_aload_n o 0 dX0_half_106 rfl ?_
    refine hr_getA (md := 1) o flX0_12 dX0_half_107 (fun _ => rfl) (fun x20 => ?_)
    refine hr_getI (md := 1) o flX0_112 dX0_half_110 (fun _ => rfl) (fun x21 => ?_)
    refine hr_iload_n o 1 dX0_half_113 rfl ?_
    refine pr_callI o msX0_175 dX0_half_114 [.int x21, .int l1] (fun zr ze => mtX0_has x21 l1 zr ze) rfl rfl (Nat.le_of_ble_eq_true rfl) ⟨by decide, by decide⟩ (fun x22 => ?_)
    refine pr_callI o msX0_179 dX0_half_117 [.int x22] (fun zr ze => mtX0_bit x22 zr ze) rfl rfl (Nat.le_of_ble_eq_true rfl) ⟨by decide, by decide⟩ (fun x23 => ?_)
    exact hr_iret o dX0_half_120 rfl rfl
  refine hr_tswD o 121 dX0_half_11 (by have n0 := hf_nei (0) (by decide) c_11_0; have n1 := hf_nei (1) (by decide) c_11_1; have n2 := hf_nei (2) (by decide) c_11_2; have n3 := hf_nei (3) (by decide) c_11_3; have n4 := hf_nei (4) (by decide) c_11_4; omega) (by decide) ?_
  refine hr_iconst o (-1 : Int32) dX0_half_121 (by decide) ?_
  exact hr_iret o dX0_half_122 rfl rfl
theorem mtX0_half {gs : hf_gs} (l0 : Nat) (l1 : Int32) (l2 : Int32) (V0 : hf_H) (r : Int32) (V1 : hf_H) (e : spX0_half l0 l1 l2 V0 = some (r, V1)) : hf_ConG gs yX0_half cX0_half 3 (some .int) 4 86 [.ref l0, .int l1, .int l2] V0 (.returned (some (.int r)), V1) := hf_entryG (dec := hf_dHI) (by decide) [.ref l0, .int l1, .int l2] (Nat.le_of_ble_eq_true rfl) [(0, .ref l0), (1, .int l1), (2, .int l2)] rfl e (fun C o og _ => jtX0_half o og l0 l1 l2 V0)

/-! X0_fit2 -/
theorem mvX0_115 : hf_MV RX0 115 RX1 yX1_fit cX1_fit 6 (some .int) 3 := ⟨lw_V q1009 q1010 q1011 q154 q1012, by decide +kernel⟩
def spX0_fit2 (l0 : Nat) (l1 : Int32) (l2 : Int32) (V0 : hf_H) : Option (Int32 × hf_H) :=
  (hf_ga 1 0 0 V0 l0).bind fun x1 =>
  (hf_ga 1 0 0 V0 l0).bind fun x2 =>
  (hf_gi 1 1 9 V0 x2).bind fun x3 =>
  (hf_ob 1 1 V0 x1).bind fun _ =>
  hf_b2 (spX1_fit x1 l1 l2 x3 V0) fun x5 g4 =>
  some (x5, g4)
theorem jtX0_fit2 {C : hf_X} {gs : hf_gs} (o : hf_In C cX0_fit2 RX0 3 (some .int) 4 89) (og : hf_G C gs) (l0 : Nat) (l1 : Int32) (l2 : Int32) (V0 : hf_H) : hf_J C hf_dHI (spX0_fit2 l0 l1 l2 V0) V0 0 [(0, .ref l0), (1, .int l1), (2, .int l2)] [] := by
  refine hr_aload_n o 0 dX0_fit2_0 rfl ?_
  refine hr_getA (md := 1) o flX0_12 dX0_fit2_1 (fun _ => rfl) (fun x1 => ?_)
  refine hr_iload_n o 1 dX0_fit2_4 rfl ?_
  refine hr_iload_n o 2 dX0_fit2_5 rfl ?_
  refine hr_aload_n o 0 dX0_fit2_6 rfl ?_
  refine hr_getA (md := 1) o flX0_12 dX0_fit2_7 (fun _ => rfl) (fun x2 => ?_)
  refine hr_getI (md := 1) o flX0_112 dX0_fit2_10 (fun _ => rfl) (fun x3 => ?_)
  refine hx_callVI (q := (RX1, TX1, 13)) o og mvX0_115 dX0_fit2_13 1 1 rfl [.int l1, .int l2, .int x3] (fun zr zg ze => mtX1_fit x1 l1 l2 x3 V0 zr zg ze) rfl rfl (Nat.le_of_ble_eq_true rfl) ⟨by decide, by decide⟩ (fun x5 g4 => ?_)
  exact hr_iret o dX0_fit2_16 rfl rfl
theorem mtX0_fit2 {gs : hf_gs} (l0 : Nat) (l1 : Int32) (l2 : Int32) (V0 : hf_H) (r : Int32) (V1 : hf_H) (e : spX0_fit2 l0 l1 l2 V0 = some (r, V1)) : hf_ConG gs yX0_fit2 cX0_fit2 3 (some .int) 4 89 [.ref l0, .int l1, .int l2] V0 (.returned (some (.int r)), V1) := hf_entryG (dec := hf_dHI) (by decide) [.ref l0, .int l1, .int l2] (Nat.le_of_ble_eq_true rfl) [(0, .ref l0), (1, .int l1), (2, .int l2)] rfl e (fun C o og _ => jtX0_fit2 o og l0 l1 l2 V0)

/-! X0_fit -/
theorem mvX0_183 : hf_MV RX0 183 RX0 yX0_fit2 cX0_fit2 3 (some .int) 2 := ⟨lw_V q1005 q1007 qs32 q153 q1008, by decide +kernel⟩
def spX0_fit (l0 : Nat) (l1 : Int32) (l2 : Int32) (V0 : hf_H) : Option (Int32 × hf_H) :=
  (hf_ob 1 0 V0 l0).bind fun _ =>
  hf_b2 (spX0_isHalf l0 l1 V0) fun x2 g1 =>
  if x2 = 0 then (some ((-1 : Int32), g1)) else
  (hf_ob 1 0 g1 l0).bind fun _ =>
  hf_b2 (spX0_isHalf l0 l2 g1) fun x4 g3 =>
  if x4 = 0 then (some ((-1 : Int32), g3)) else
  if l1 = l2 then (some ((-1 : Int32), g3)) else
  (hf_ob 1 0 g3 l0).bind fun _ =>
  hf_b2 (spX0_fit2 l0 l1 l2 g3) fun x6 g5 =>
  some (x6, g5)
theorem jtX0_fit {C : hf_X} {gs : hf_gs} (o : hf_In C cX0_fit RX0 3 (some .int) 5 111) (og : hf_G C gs) (l0 : Nat) (l1 : Int32) (l2 : Int32) (V0 : hf_H) : hf_J C hf_dHI (spX0_fit l0 l1 l2 V0) V0 0 [(0, .ref l0), (1, .int l1), (2, .int l2)] [] := by
  refine hr_aload_n o 0 dX0_fit_0 rfl ?_
  refine hr_iload_n o 1 dX0_fit_1 rfl ?_
  refine hx_callVI (q := (RX0, TX0, 23)) o og mvX0_149 dX0_fit_2 1 0 rfl [.int l1] (fun zr zg ze => mtX0_isHalf l0 l1 V0 zr zg ze) rfl rfl (Nat.le_of_ble_eq_true rfl) ⟨by decide, by decide⟩ (fun x2 g1 => ?_)
  refine hr_if_eq o 30 dX0_fit_5 (by decide) (fun _ => ?_) (fun _ => ?_)
  · refine hr_iconst o (-1 : Int32) dX0_fit_30 (by decide) ?_
    exact hr_iret o dX0_fit_31 rfl rfl
  refine hr_aload_n o 0 dX0_fit_8 rfl ?_
  refine hr_iload_n o 2 dX0_fit_9 rfl ?_
  refine hx_callVI (q := (RX0, TX0, 23)) o og mvX0_149 dX0_fit_10 1 0 rfl [.int l2] (fun zr zg ze => mtX0_isHalf l0 l2 g1 zr zg ze) rfl rfl (Nat.le_of_ble_eq_true rfl) ⟨by decide, by decide⟩ (fun x4 g3 => ?_)
  refine hr_if_eq o 30 dX0_fit_13 (by decide) (fun _ => ?_) (fun _ => ?_)
  · refine hr_iconst o (-1 : Int32) dX0_fit_30 (by decide) ?_
    exact hr_iret o dX0_fit_31 rfl rfl
  refine hr_iload_n o 1 dX0_fit_16 rfl ?_
  refine hr_iload_n o 2 dX0_fit_17 rfl ?_
  refine hr_icmp_eq o 30 dX0_fit_18 (by decide) (fun _ => ?_) (fun _ => ?_)
  · refine hr_iconst o (-1 : Int32) dX0_fit_30 (by decide) ?_
    exact hr_iret o dX0_fit_31 rfl rfl
  refine hr_aload_n o 0 dX0_fit_21 rfl ?_
  refine hr_iload_n o 1 dX0_fit_22 rfl ?_
  refine hr_iload_n o 2 dX0_fit_23 rfl ?_
  refine hx_callVI (q := (RX0, TX0, 23)) o og mvX0_183 dX0_fit_24 1 0 rfl [.int l1, .int l2] (fun zr zg ze => mtX0_fit2 l0 l1 l2 g3 zr zg ze) rfl rfl (Nat.le_of_ble_eq_true rfl) ⟨by decide, by decide⟩ (fun x6 g5 => ?_)
  refine hr_goto o 31 dX0_fit_27 (by decide) ?_
  exact hr_iret o dX0_fit_31 rfl rfl
theorem mtX0_fit {gs : hf_gs} (l0 : Nat) (l1 : Int32) (l2 : Int32) (V0 : hf_H) (r : Int32) (V1 : hf_H) (e : spX0_fit l0 l1 l2 V0 = some (r, V1)) : hf_ConG gs yX0_fit cX0_fit 3 (some .int) 5 111 [.ref l0, .int l1, .int l2] V0 (.returned (some (.int r)), V1) := hf_entryG (dec := hf_dHI) (by decide) [.ref l0, .int l1, .int l2] (Nat.le_of_ble_eq_true rfl) [(0, .ref l0), (1, .int l1), (2, .int l2)] rfl e (fun C o og _ => jtX0_fit o og l0 l1 l2 V0)

/-! X0_buyers -/
theorem flX0_100 : hf_Fl RX0 100 1 1 := ⟨(RX1, TX1, 13), RX1, rfl, by decide, in_X1, tyX1_ok, nmX1, Or.inr ⟨"HalfFair", q236⟩, Or.inl rfl⟩
def spX0_buyers (l0 : Nat) (V0 : hf_H) : Option (Int32 × hf_H) :=
  (hf_ga 1 0 0 V0 l0).bind fun x1 =>
  (hf_ga 1 1 1 V0 x1).bind fun x2 =>
  (hf_ob 0 19 V0 x2).bind fun _ =>
  hf_b2 (spJ2_size x2 V0) fun x4 g3 =>
  some (x4, g3)
theorem jtX0_buyers {C : hf_X} {gs : hf_gs} (o : hf_In C cX0_buyers RX0 1 (some .int) 1 20) (og : hf_G C gs) (l0 : Nat) (V0 : hf_H) : hf_J C hf_dHI (spX0_buyers l0 V0) V0 0 [(0, .ref l0)] [] := by
  refine hr_aload_n o 0 dX0_buyers_0 rfl ?_
  refine hr_getA (md := 1) o flX0_12 dX0_buyers_1 (fun _ => rfl) (fun x1 => ?_)
  refine hr_getA (md := 1) o flX0_100 dX0_buyers_4 (fun _ => rfl) (fun x2 => ?_)
  refine hx_callVI (q := (RJ2, TJ2, 3)) o og mvX0_96 dX0_buyers_7 0 19 rfl [] (fun zr zg ze => mtJ2_size x2 V0 zr zg ze) rfl rfl (Nat.le_of_ble_eq_true rfl) ⟨by decide, by decide⟩ (fun x4 g3 => ?_)
  exact hr_iret o dX0_buyers_10 rfl rfl
theorem mtX0_buyers {gs : hf_gs} (l0 : Nat) (V0 : hf_H) (r : Int32) (V1 : hf_H) (e : spX0_buyers l0 V0 = some (r, V1)) : hf_ConG gs yX0_buyers cX0_buyers 1 (some .int) 1 20 [.ref l0] V0 (.returned (some (.int r)), V1) := hf_entryG (dec := hf_dHI) (by decide) [.ref l0] (Nat.le_of_ble_eq_true rfl) [(0, .ref l0)] rfl e (fun C o og _ => jtX0_buyers o og l0 V0)

/-! X0_isBuyer -/
theorem mvX0_110 : hf_MV RX0 110 RX0 yX0_buyers cX0_buyers 1 (some .int) 0 := ⟨lw_V q1024 q1026 qs34 q153 q1027, by decide +kernel⟩
def spX0_isBuyer (l0 : Nat) (l1 : Int32) (V0 : hf_H) : Option (Int32 × hf_H) :=
  (hf_ob 1 0 V0 l0).bind fun _ =>
  hf_b2 (spX0_buyers l0 V0) fun x2 g1 =>
  (spX0_in (Int32.toInt64 l1) (0 : Int64) (Int32.toInt64 (x2 - (1 : Int32)))).bind fun x3 =>
  if x3 = 0 ∨ x3 = 1 then some (x3, g1) else none
theorem jtX0_isBuyer {C : hf_X} {gs : hf_gs} (o : hf_In C cX0_isBuyer RX0 2 (some .boolean) 2 40) (og : hf_G C gs) (l0 : Nat) (l1 : Int32) (V0 : hf_H) : hf_J C hf_dHI (spX0_isBuyer l0 l1 V0) V0 0 [(0, .ref l0), (1, .int l1)] [] := by
  refine hr_iload_n o 1 dX0_isBuyer_0 rfl ?_
  refine hr_i2l o dX0_isBuyer_1 ?_
  refine hr_lconst o (0 : Int64) dX0_isBuyer_2 (by decide) ?_
  refine hr_aload_n o 0 dX0_isBuyer_3 rfl ?_
  refine hx_callVI (q := (RX0, TX0, 23)) o og mvX0_110 dX0_isBuyer_4 1 0 rfl [] (fun zr zg ze => mtX0_buyers l0 V0 zr zg ze) rfl rfl (Nat.le_of_ble_eq_true rfl) ⟨by decide, by decide⟩ (fun x2 g1 => ?_)
  refine hr_iconst o (1 : Int32) dX0_isBuyer_7 (by decide) ?_
  refine hr_isub o dX0_isBuyer_8 ?_
  refine hr_i2l o dX0_isBuyer_9 ?_
  refine pr_callI o msX0_106 dX0_isBuyer_10 [.long (Int32.toInt64 l1), .long (0 : Int64), .long (Int32.toInt64 (x2 - (1 : Int32)))] (fun zr ze => mtX0_in (Int32.toInt64 l1) (0 : Int64) (Int32.toInt64 (x2 - (1 : Int32))) zr ze) rfl rfl (Nat.le_of_ble_eq_true rfl) ⟨by decide, by decide⟩ (fun x3 => ?_)
  refine hr_ck (fun hz => ?_)
  exact hr_iret o dX0_isBuyer_13 rfl (hf_nz hz)
theorem mtX0_isBuyer {gs : hf_gs} (l0 : Nat) (l1 : Int32) (V0 : hf_H) (r : Int32) (V1 : hf_H) (e : spX0_isBuyer l0 l1 V0 = some (r, V1)) : hf_ConG gs yX0_isBuyer cX0_isBuyer 2 (some .boolean) 2 40 [.ref l0, .int l1] V0 (.returned (some (.int r)), V1) := hf_entryG (dec := hf_dHI) (by decide) [.ref l0, .int l1] (Nat.le_of_ble_eq_true rfl) [(0, .ref l0), (1, .int l1)] rfl e (fun C o og _ => jtX0_isBuyer o og l0 l1 V0)

/-! X0_pairOf -/
def spX0_pairOf (l0 : Nat) (l1 : Int32) (l2 : Int32) (V0 : hf_H) : Option (Int32 × hf_H) :=
  (hf_ob 1 0 V0 l0).bind fun _ =>
  hf_b2 (spX0_fit2 l0 l1 l2 V0) fun x2 g1 =>
  if x2 = (2 : Int32) then (some ((40 : Int32), g1)) else
  if x2 = (1 : Int32) then (some ((20 : Int32), g1)) else
  some ((0 : Int32), g1)
theorem jtX0_pairOf {C : hf_X} {gs : hf_gs} (o : hf_In C cX0_pairOf RX0 4 (some .int) 5 111) (og : hf_G C gs) (l0 : Nat) (l1 : Int32) (l2 : Int32) (V0 : hf_H) : hf_J C hf_dHI (spX0_pairOf l0 l1 l2 V0) V0 0 [(0, .ref l0), (1, .int l1), (2, .int l2)] [] := by
  refine hr_aload_n o 0 dX0_pairOf_0 rfl ?_
  refine hr_iload_n o 1 dX0_pairOf_1 rfl ?_
  refine hr_iload_n o 2 dX0_pairOf_2 rfl ?_
  refine hx_callVI (q := (RX0, TX0, 23)) o og mvX0_183 dX0_pairOf_3 1 0 rfl [.int l1, .int l2] (fun zr zg ze => mtX0_fit2 l0 l1 l2 V0 zr zg ze) rfl rfl (Nat.le_of_ble_eq_true rfl) ⟨by decide, by decide⟩ (fun x2 g1 => ?_)
  refine hr_istore_n o [(3, .int x2), (0, .ref l0), (1, .int l1), (2, .int l2)] dX0_pairOf_6 (by decide) rfl ?_
  refine hr_iload_n o 0 dX0_pairOf_7 rfl ?_
  refine hr_iconst o (2 : Int32) dX0_pairOf_8 (by decide) ?_
  refine hr_icmp_ne o 17 dX0_pairOf_9 (by decide) (fun _ => ?_) (fun _ => ?_)
  · refine hr_bipush o (40 : Int32) dX0_pairOf_12 (by decide) ?_
    refine hr_goto o 28 dX0_pairOf_14 (by decide) ?_
    exact hr_iret o dX0_pairOf_28 rfl rfl
  refine hr_iload_n o 0 dX0_pairOf_17 rfl ?_
  refine hr_iconst o (1 : Int32) dX0_pairOf_18 (by decide) ?_
  refine hr_icmp_ne o 27 dX0_pairOf_19 (by decide) (fun _ => ?_) (fun _ => ?_)
  · refine hr_bipush o (20 : Int32) dX0_pairOf_22 (by decide) ?_
    refine hr_goto o 28 dX0_pairOf_24 (by decide) ?_
    exact hr_iret o dX0_pairOf_28 rfl rfl
  refine hr_iconst o (0 : Int32) dX0_pairOf_27 (by decide) ?_
  exact hr_iret o dX0_pairOf_28 rfl rfl
theorem mtX0_pairOf {gs : hf_gs} (l0 : Nat) (l1 : Int32) (l2 : Int32) (V0 : hf_H) (r : Int32) (V1 : hf_H) (e : spX0_pairOf l0 l1 l2 V0 = some (r, V1)) : hf_ConG gs yX0_pairOf cX0_pairOf 4 (some .int) 5 111 [.ref l0, .int l1, .int l2] V0 (.returned (some (.int r)), V1) := hf_entryG (dec := hf_dHI) (by decide) [.ref l0, .int l1, .int l2] (Nat.le_of_ble_eq_true rfl) [(0, .ref l0), (1, .int l1), (2, .int l2)] rfl e (fun C o og _ => jtX0_pairOf o og l0 l1 l2 V0)

/-! X0_fillsWorths -/
theorem flX0_57 : hf_Fl RX0 57 0 12 := ⟨(RX0, TX0, 23), RX0, rfl, by decide, in_X0, tyX0_ok, nmX0, Or.inl q409, Or.inl rfl⟩
theorem mvX0_220 : hf_MV RX0 220 RX0 yX0_pairOf cX0_pairOf 4 (some .int) 2 := ⟨lw_V q1048 q1050 qs37 q153 q1051, by decide +kernel⟩
theorem msX0_217 : hf_MS RX0 217 yX0_least cX0_least 2 (some .int) 1 := ⟨lw_S q1045 q1046 q153 q1047, by decide +kernel⟩
def ndX0_fillsWorths_104 (k9 : Nat → Int32 → hf_H → Option hf_H) (k48 : Nat → Int32 → Int32 → Int32 → Int32 → Int32 → hf_H → Option hf_H) (l0 : Nat) (l1 : Int32) (l2 : Int32) (l3 : Int32) (l4 : Int32) (l5 : Int32) (V0 : hf_H) : Option hf_H :=
  hf_let (l5 + (1 : Int32)) fun x1 =>
  k48 l0 l1 l2 l3 l4 x1 V0
theorem nlX0_fillsWorths_104 {C : hf_X} {gs : hf_gs} (o : hf_In C cX0_fillsWorths RX0 6 (none) 6 134) (og : hf_G C gs) (k9 : Nat → Int32 → hf_H → Option hf_H) (k48 : Nat → Int32 → Int32 → Int32 → Int32 → Int32 → hf_H → Option hf_H) (hk9 : ∀ (l0 : Nat) (l1 : Int32) (V0 : hf_H), hf_J C hf_dHV (k9 l0 l1 V0) V0 9 [(0, .ref l0), (1, .int l1)] []) (hk48 : ∀ (l0 : Nat) (l1 : Int32) (l2 : Int32) (l3 : Int32) (l4 : Int32) (l5 : Int32) (V0 : hf_H), hf_J C hf_dHV (k48 l0 l1 l2 l3 l4 l5 V0) V0 48 [(0, .ref l0), (1, .int l1), (2, .int l2), (3, .int l3), (4, .int l4), (5, .int l5)] []) (l0 : Nat) (l1 : Int32) (l2 : Int32) (l3 : Int32) (l4 : Int32) (l5 : Int32) (V0 : hf_H) : hf_J C hf_dHV (ndX0_fillsWorths_104 k9 k48 l0 l1 l2 l3 l4 l5 V0) V0 104 [(0, .ref l0), (1, .int l1), (2, .int l2), (3, .int l3), (4, .int l4), (5, .int l5)] [] := by
  refine hr_iincN o (1 : Int32) 5 (fun y => [(5, .int y), (0, .ref l0), (1, .int l1), (2, .int l2), (3, .int l3), (4, .int l4)]) dX0_fillsWorths_104 rfl (by decide) (by decide) (fun y => rfl) (fun x1 => ?_)
  refine hr_goto o 48 dX0_fillsWorths_107 (by decide) ?_
  refine hr_sub [1, 2, 3, 4, 5, 0] rfl ?_
  exact hk48 l0 l1 l2 l3 l4 x1 V0
def ndX0_fillsWorths_48 (k9 : Nat → Int32 → hf_H → Option hf_H) (k48 : Nat → Int32 → Int32 → Int32 → Int32 → Int32 → hf_H → Option hf_H) (l0 : Nat) (l1 : Int32) (l2 : Int32) (l3 : Int32) (l4 : Int32) (l5 : Int32) (V0 : hf_H) : Option hf_H :=
  (hf_ob 1 0 V0 l0).bind fun _ =>
  hf_b2 (spX0_many l0 V0) fun x2 g1 =>
  if x2 ≤ l5 then ((hf_ob 1 0 g1 l0).bind fun _ =>
  (hf_si 0 12 4096 g1 l0 l1 l4).bind fun g3 =>
  hf_let (l1 + (1 : Int32)) fun x4 =>
  k9 l0 x4 g3) else
  (spX0_has l3 l5).bind fun x5 =>
  if x5 = 0 then (ndX0_fillsWorths_104 k9 k48 l0 l1 l2 l3 l4 l5 g1) else
  (hf_ob 1 0 g1 l0).bind fun _ =>
  hf_b2 (spX0_pairOf l0 l2 l5 g1) fun x7 g6 =>
  if x7 ≤ 0 then (ndX0_fillsWorths_104 k9 k48 l0 l1 l2 l3 l4 l5 g6) else
  (hf_ob 1 0 g6 l0).bind fun _ =>
  hf_b2 (spX0_pairOf l0 l2 l5 g6) fun x9 g8 =>
  (hf_ob 1 0 g8 l0).bind fun _ =>
  (hf_ai 0 12 4096 g8 l0 (l3 &&& (((1 : Int32) <<< (l5 &&& 31)) ^^^ (-1 : Int32)))).bind fun x10 =>
  hf_let (if l4 < (x9 + x10) then (x9 + x10) else l4) fun x11 =>
  ndX0_fillsWorths_104 k9 k48 l0 l1 l2 l3 x11 l5 g8
theorem nlX0_fillsWorths_48 {C : hf_X} {gs : hf_gs} (o : hf_In C cX0_fillsWorths RX0 6 (none) 6 134) (og : hf_G C gs) (k9 : Nat → Int32 → hf_H → Option hf_H) (k48 : Nat → Int32 → Int32 → Int32 → Int32 → Int32 → hf_H → Option hf_H) (hk9 : ∀ (l0 : Nat) (l1 : Int32) (V0 : hf_H), hf_J C hf_dHV (k9 l0 l1 V0) V0 9 [(0, .ref l0), (1, .int l1)] []) (hk48 : ∀ (l0 : Nat) (l1 : Int32) (l2 : Int32) (l3 : Int32) (l4 : Int32) (l5 : Int32) (V0 : hf_H), hf_J C hf_dHV (k48 l0 l1 l2 l3 l4 l5 V0) V0 48 [(0, .ref l0), (1, .int l1), (2, .int l2), (3, .int l3), (4, .int l4), (5, .int l5)] []) (l0 : Nat) (l1 : Int32) (l2 : Int32) (l3 : Int32) (l4 : Int32) (l5 : Int32) (V0 : hf_H) : hf_J C hf_dHV (ndX0_fillsWorths_48 k9 k48 l0 l1 l2 l3 l4 l5 V0) V0 48 [(0, .ref l0), (1, .int l1), (2, .int l2), (3, .int l3), (4, .int l4), (5, .int l5)] [] := by
  refine hr_iload o 5 dX0_fillsWorths_48 rfl ?_
  refine hr_aload_n o 0 dX0_fillsWorths_50 rfl ?_
  refine hx_callVI (q := (RX0, TX0, 23)) o og mvX0_103 dX0_fillsWorths_51 1 0 rfl [] (fun zr zg ze => mtX0_many l0 V0 zr zg ze) rfl rfl (Nat.le_of_ble_eq_true rfl) ⟨by decide, by decide⟩ (fun x2 g1 => ?_)
  refine hr_icmp_ge o 110 dX0_fillsWorths_54 (by decide) (fun _ => ?_) (fun _ => ?_)
  · refine hr_aload_n o 0 dX0_fillsWorths_110 rfl ?_
    refine hr_getO o flX0_57 dX0_fillsWorths_111 24 (fun _ => rfl) (fun _ _ => ?_)
    refine hr_iload_n o 1 dX0_fillsWorths_114 rfl ?_
    refine hr_iload o 4 dX0_fillsWorths_115 rfl ?_
    refine hx_iast o 0 12 24 4096 rfl (by decide) (fun j h1 h2 => hf_of0_inj j 12 h1 h2) rfl dX0_fillsWorths_117 (fun g3 => ?_)
    refine hr_iincN o (1 : Int32) 1 (fun y => [(1, .int y), (0, .ref l0), (2, .int l2), (3, .int l3), (4, .int l4), (5, .int l5)]) dX0_fillsWorths_118 rfl (by decide) (by decide) (fun y => rfl) (fun x4 => ?_)
    refine hr_goto o 9 dX0_fillsWorths_121 (by decide) ?_
    refine hr_sub [1, 0] rfl ?_
    exact hk9 l0 x4 g3
  refine hr_iload_n o 3 dX0_fillsWorths_57 rfl ?_
  refine hr_iload o 5 dX0_fillsWorths_58 rfl ?_
  refine pr_callI o msX0_175 dX0_fillsWorths_60 [.int l3, .int l5] (fun zr ze => mtX0_has l3 l5 zr ze) rfl rfl (Nat.le_of_ble_eq_true rfl) ⟨by decide, by decide⟩ (fun x5 => ?_)
  refine hr_if_eq o 104 dX0_fillsWorths_63 (by decide) (fun _ => ?_) (fun _ => ?_)
  · exact nlX0_fillsWorths_104 o og k9 k48 hk9 hk48 l0 l1 l2 l3 l4 l5 g1
  refine hr_aload_n o 0 dX0_fillsWorths_66 rfl ?_
  refine hr_iload_n o 2 dX0_fillsWorths_67 rfl ?_
  refine hr_iload o 5 dX0_fillsWorths_68 rfl ?_
  refine hx_callVI (q := (RX0, TX0, 23)) o og mvX0_220 dX0_fillsWorths_70 1 0 rfl [.int l2, .int l5] (fun zr zg ze => mtX0_pairOf l0 l2 l5 g1 zr zg ze) rfl rfl (Nat.le_of_ble_eq_true rfl) ⟨by decide, by decide⟩ (fun x7 g6 => ?_)
  refine hr_if_le o 104 dX0_fillsWorths_73 (by decide) (fun _ => ?_) (fun _ => ?_)
  · exact nlX0_fillsWorths_104 o og k9 k48 hk9 hk48 l0 l1 l2 l3 l4 l5 g6
  refine hr_iload o 4 dX0_fillsWorths_76 rfl ?_
  refine hr_aload_n o 0 dX0_fillsWorths_78 rfl ?_
  refine hr_iload_n o 2 dX0_fillsWorths_79 rfl ?_
  refine hr_iload o 5 dX0_fillsWorths_80 rfl ?_
  refine hx_callVI (q := (RX0, TX0, 23)) o og mvX0_220 dX0_fillsWorths_82 1 0 rfl [.int l2, .int l5] (fun zr zg ze => mtX0_pairOf l0 l2 l5 g6 zr zg ze) rfl rfl (Nat.le_of_ble_eq_true rfl) ⟨by decide, by decide⟩ (fun x9 g8 => ?_)
  refine hr_aload_n o 0 dX0_fillsWorths_85 rfl ?_
  refine hr_getO o flX0_57 dX0_fillsWorths_86 24 (fun _ => rfl) (fun _ _ => ?_)
  refine hr_iload_n o 3 dX0_fillsWorths_89 rfl ?_
  refine hr_iconst o (1 : Int32) dX0_fillsWorths_90 (by decide) ?_
  refine hr_iload o 5 dX0_fillsWorths_91 rfl ?_
  refine hr_ishl o dX0_fillsWorths_93 ?_
  refine hr_iconst o (-1 : Int32) dX0_fillsWorths_94 (by decide) ?_
  refine hr_ixor o dX0_fillsWorths_95 ?_
  refine hr_iand o dX0_fillsWorths_96 ?_
  refine hx_iald o 0 12 24 4096 rfl (by decide) rfl dX0_fillsWorths_97 (fun x10 => ?_)
  refine hr_iadd o dX0_fillsWorths_98 ?_
  refine hx_mmax o q1052 q672 q171 q673 (by decide) (Nat.le_of_ble_eq_true rfl) dX0_fillsWorths_99 ?_
  refine hr_nmI (fun x11 => ?_)
  refine hr_istore o [(4, .int x11), (0, .ref l0), (1, .int l1), (2, .int l2), (3, .int l3), (5, .int l5)] dX0_fillsWorths_102 (by decide) rfl ?_
  refine hr_sub [1, 2, 3, 4, 0, 5] rfl ?_
  exact nlX0_fillsWorths_104 o og k9 k48 hk9 hk48 l0 l1 l2 l3 x11 l5 g8
def lpX0_fillsWorths_48 (k9 : Nat → Int32 → hf_H → Option hf_H) : Nat → Nat → Int32 → Int32 → Int32 → Int32 → Int32 → hf_H → Option hf_H
  | 0 => fun _ _ _ _ _ _ _ => none
  | n + 1 => fun l0 l1 l2 l3 l4 l5 V0 => ndX0_fillsWorths_48 k9 (lpX0_fillsWorths_48 k9 n) l0 l1 l2 l3 l4 l5 V0
theorem llX0_fillsWorths_48 {C : hf_X} {gs : hf_gs} (o : hf_In C cX0_fillsWorths RX0 6 (none) 6 134) (og : hf_G C gs) (k9 : Nat → Int32 → hf_H → Option hf_H) (hk9 : ∀ (l0 : Nat) (l1 : Int32) (V0 : hf_H), hf_J C hf_dHV (k9 l0 l1 V0) V0 9 [(0, .ref l0), (1, .int l1)] []) (n : Nat) : ∀ (l0 : Nat) (l1 : Int32) (l2 : Int32) (l3 : Int32) (l4 : Int32) (l5 : Int32) (V0 : hf_H), hf_J C hf_dHV ((lpX0_fillsWorths_48 k9 n) l0 l1 l2 l3 l4 l5 V0) V0 48 [(0, .ref l0), (1, .int l1), (2, .int l2), (3, .int l3), (4, .int l4), (5, .int l5)] [] := by
  induction n with
  | zero => exact fun _ _ _ _ _ _ _ => hr_none
  | succ n ih => exact fun l0 l1 l2 l3 l4 l5 V0 => nlX0_fillsWorths_48 o og k9 (lpX0_fillsWorths_48 k9 n) hk9 ih l0 l1 l2 l3 l4 l5 V0
def ndX0_fillsWorths_9 (k9 : Nat → Int32 → hf_H → Option hf_H) (l0 : Nat) (l1 : Int32) (V0 : hf_H) : Option hf_H :=
  (hf_ob 1 0 V0 l0).bind fun _ =>
  hf_b2 (spX0_many l0 V0) fun x2 g1 =>
  if ((1 : Int32) <<< (x2 &&& 31)) ≤ l1 then (some g1) else
  (spX0_least l1).bind fun x3 =>
  hf_let (l1 &&& (((1 : Int32) <<< (x3 &&& 31)) ^^^ (-1 : Int32))) fun x4 =>
  (hf_ob 1 0 g1 l0).bind fun _ =>
  (hf_ai 0 12 4096 g1 l0 x4).bind fun x5 =>
  hf_let ((9 : Int32) + x5) fun x6 =>
  hf_let (x3 + (1 : Int32)) fun x7 =>
  lpX0_fillsWorths_48 k9 hf_N l0 l1 x3 x4 x6 x7 g1
theorem nlX0_fillsWorths_9 {C : hf_X} {gs : hf_gs} (o : hf_In C cX0_fillsWorths RX0 6 (none) 6 134) (og : hf_G C gs) (k9 : Nat → Int32 → hf_H → Option hf_H) (hk9 : ∀ (l0 : Nat) (l1 : Int32) (V0 : hf_H), hf_J C hf_dHV (k9 l0 l1 V0) V0 9 [(0, .ref l0), (1, .int l1)] []) (l0 : Nat) (l1 : Int32) (V0 : hf_H) : hf_J C hf_dHV (ndX0_fillsWorths_9 k9 l0 l1 V0) V0 9 [(0, .ref l0), (1, .int l1)] [] := by
  refine hr_iload_n o 1 dX0_fillsWorths_9 rfl ?_
  refine hr_iconst o (1 : Int32) dX0_fillsWorths_10 (by decide) ?_
  refine hr_aload_n o 0 dX0_fillsWorths_11 rfl ?_
  refine hx_callVI (q := (RX0, TX0, 23)) o og mvX0_103 dX0_fillsWorths_12 1 0 rfl [] (fun zr zg ze => mtX0_many l0 V0 zr zg ze) rfl rfl (Nat.le_of_ble_eq_true rfl) ⟨by decide, by decide⟩ (fun x2 g1 => ?_)
  refine hr_ishl o dX0_fillsWorths_15 ?_
  refine hr_icmp_ge o 124 dX0_fillsWorths_16 (by decide) (fun _ => ?_) (fun _ => ?_)
  · exact hr_vret o dX0_fillsWorths_124 rfl
  refine hr_iload_n o 1 dX0_fillsWorths_19 rfl ?_
  refine pr_callI o msX0_217 dX0_fillsWorths_20 [.int l1] (fun zr ze => mtX0_least l1 zr ze) rfl rfl (Nat.le_of_ble_eq_true rfl) ⟨by decide, by decide⟩ (fun x3 => ?_)
  refine hr_istore_n o [(2, .int x3), (0, .ref l0), (1, .int l1)] dX0_fillsWorths_23 (by decide) rfl ?_
  refine hr_iload_n o 2 dX0_fillsWorths_24 rfl ?_
  refine hr_iconst o (1 : Int32) dX0_fillsWorths_25 (by decide) ?_
  refine hr_iload_n o 0 dX0_fillsWorths_26 rfl ?_
  refine hr_ishl o dX0_fillsWorths_27 ?_
  refine hr_iconst o (-1 : Int32) dX0_fillsWorths_28 (by decide) ?_
  refine hr_ixor o dX0_fillsWorths_29 ?_
  refine hr_iand o dX0_fillsWorths_30 ?_
  refine hr_nmI (fun x4 => ?_)
  refine hr_istore_n o [(3, .int x4), (2, .int x3), (0, .ref l0), (1, .int l1)] dX0_fillsWorths_31 (by decide) rfl ?_
  refine hr_bipush o (9 : Int32) dX0_fillsWorths_32 (by decide) ?_
  refine hr_aload_n o 2 dX0_fillsWorths_34 rfl ?_
  refine hr_getO o flX0_57 dX0_fillsWorths_35 24 (fun _ => rfl) (fun _ _ => ?_)
  refine hr_iload_n o 0 dX0_fillsWorths_38 rfl ?_
  refine hx_iald o 0 12 24 4096 rfl (by decide) rfl dX0_fillsWorths_39 (fun x5 => ?_)
  refine hr_iadd o dX0_fillsWorths_40 ?_
  refine hr_nmI (fun x6 => ?_)
  refine hr_istore o [(4, .int x6), (3, .int x4), (2, .int x3), (0, .ref l0), (1, .int l1)] dX0_fillsWorths_41 (by decide) rfl ?_
  refine hr_iload_n o 2 dX0_fillsWorths_43 rfl ?_
  refine hr_iconst o (1 : Int32) dX0_fillsWorths_44 (by decide) ?_
  refine hr_iadd o dX0_fillsWorths_45 ?_
  refine hr_nmI (fun x7 => ?_)
  refine hr_istore o [(5, .int x7), (4, .int x6), (3, .int x4), (2, .int x3), (0, .ref l0), (1, .int l1)] dX0_fillsWorths_46 (by decide) rfl ?_
  refine hr_sub [4, 5, 3, 2, 1, 0] rfl ?_
  exact llX0_fillsWorths_48 o og k9 hk9 hf_N l0 l1 x3 x4 x6 x7 g1
def lpX0_fillsWorths_9  : Nat → Nat → Int32 → hf_H → Option hf_H
  | 0 => fun _ _ _ => none
  | n + 1 => fun l0 l1 V0 => ndX0_fillsWorths_9  (lpX0_fillsWorths_9  n) l0 l1 V0
theorem llX0_fillsWorths_9 {C : hf_X} {gs : hf_gs} (o : hf_In C cX0_fillsWorths RX0 6 (none) 6 134) (og : hf_G C gs)   (n : Nat) : ∀ (l0 : Nat) (l1 : Int32) (V0 : hf_H), hf_J C hf_dHV ((lpX0_fillsWorths_9  n) l0 l1 V0) V0 9 [(0, .ref l0), (1, .int l1)] [] := by
  induction n with
  | zero => exact fun _ _ _ => hr_none
  | succ n ih => exact fun l0 l1 V0 => nlX0_fillsWorths_9 o og  (lpX0_fillsWorths_9  n)  ih l0 l1 V0
def spX0_fillsWorths (l0 : Nat) (V0 : hf_H) : Option hf_H :=
  (hf_ob 1 0 V0 l0).bind fun _ =>
  (hf_si 0 12 4096 V0 l0 (0 : Int32) (0 : Int32)).bind fun g1 =>
  lpX0_fillsWorths_9 hf_N l0 (1 : Int32) g1
theorem jtX0_fillsWorths {C : hf_X} {gs : hf_gs} (o : hf_In C cX0_fillsWorths RX0 6 (none) 6 134) (og : hf_G C gs) (l0 : Nat) (V0 : hf_H) : hf_J C hf_dHV (spX0_fillsWorths l0 V0) V0 0 [(0, .ref l0)] [] := by
  refine hr_aload_n o 0 dX0_fillsWorths_0 rfl ?_
  refine hr_getO o flX0_57 dX0_fillsWorths_1 24 (fun _ => rfl) (fun _ _ => ?_)
  refine hr_iconst o (0 : Int32) dX0_fillsWorths_4 (by decide) ?_
  refine hr_iconst o (0 : Int32) dX0_fillsWorths_5 (by decide) ?_
  refine hx_iast o 0 12 24 4096 rfl (by decide) (fun j h1 h2 => hf_of0_inj j 12 h1 h2) rfl dX0_fillsWorths_6 (fun g1 => ?_)
  refine hr_iconst o (1 : Int32) dX0_fillsWorths_7 (by decide) ?_
  refine hr_istore_n o [(1, .int (1 : Int32)), (0, .ref l0)] dX0_fillsWorths_8 (by decide) rfl ?_
  refine hr_sub [1, 0] rfl ?_
  exact llX0_fillsWorths_9 o og hf_N l0 (1 : Int32) g1
theorem mtX0_fillsWorths {gs : hf_gs} (l0 : Nat) (V0 V1 : hf_H) (e : spX0_fillsWorths l0 V0 = some V1) : hf_ConG gs yX0_fillsWorths cX0_fillsWorths 6 (none) 6 134 [.ref l0] V0 (.returned none, V1) := hf_entryG (dec := hf_dHV) (by decide) [.ref l0] (Nat.le_of_ble_eq_true rfl) [(0, .ref l0)] rfl e (fun C o og _ => jtX0_fillsWorths o og l0 V0)

/-! X0_worthOf -/
theorem mvX0_228 : hf_MV RX0 228 RX0 yX0_fillsWorths cX0_fillsWorths 6 (none) 0 := ⟨lw_V q1041 q1043 qs36 q153 q1044, by decide +kernel⟩
def spX0_worthOf (l0 : Nat) (l1 : Int32) (V0 : hf_H) : Option (Int32 × hf_H) :=
  (hf_ob 1 0 V0 l0).bind fun _ =>
  (spX0_fillsWorths l0 V0).bind fun g1 =>
  (hf_ob 1 0 g1 l0).bind fun _ =>
  (hf_ai 0 12 4096 g1 l0 l1).bind fun x2 =>
  some (x2, g1)
theorem jtX0_worthOf {C : hf_X} {gs : hf_gs} (o : hf_In C cX0_worthOf RX0 2 (some .int) 7 159) (og : hf_G C gs) (l0 : Nat) (l1 : Int32) (V0 : hf_H) : hf_J C hf_dHI (spX0_worthOf l0 l1 V0) V0 0 [(0, .ref l0), (1, .int l1)] [] := by
  refine hr_aload_n o 0 dX0_worthOf_0 rfl ?_
  refine hx_callVV (q := (RX0, TX0, 23)) o og mvX0_228 dX0_worthOf_1 1 0 rfl [] (fun zg ze => mtX0_fillsWorths l0 V0 zg ze) rfl rfl (Nat.le_of_ble_eq_true rfl) ⟨by decide, by decide⟩ (fun g1 => ?_)
  refine hr_aload_n o 0 dX0_worthOf_4 rfl ?_
  refine hr_getO o flX0_57 dX0_worthOf_5 24 (fun _ => rfl) (fun _ _ => ?_)
  refine hr_iload_n o 1 dX0_worthOf_8 rfl ?_
  refine hx_iald o 0 12 24 4096 rfl (by decide) rfl dX0_worthOf_9 (fun x2 => ?_)
  exact hr_iret o dX0_worthOf_10 rfl rfl
theorem mtX0_worthOf {gs : hf_gs} (l0 : Nat) (l1 : Int32) (V0 : hf_H) (r : Int32) (V1 : hf_H) (e : spX0_worthOf l0 l1 V0 = some (r, V1)) : hf_ConG gs yX0_worthOf cX0_worthOf 2 (some .int) 7 159 [.ref l0, .int l1] V0 (.returned (some (.int r)), V1) := hf_entryG (dec := hf_dHI) (by decide) [.ref l0, .int l1] (Nat.le_of_ble_eq_true rfl) [(0, .ref l0), (1, .int l1)] rfl e (fun C o og _ => jtX0_worthOf o og l0 l1 V0)

/-! X0_buyer -/
theorem mvX0_186 : hf_MV RX0 186 RX0 yX0_isBuyer cX0_isBuyer 2 (some .boolean) 1 := ⟨lw_V q1020 q1022 qs33 q153 q1023, by decide +kernel⟩
theorem flX0_189 : hf_Fl RX0 189 2 1 := ⟨(RX2, TX2, 5), RX2, rfl, by decide, in_X2, tyX2_ok, nmX2, Or.inr ⟨"HalfFair", q299⟩, Or.inl rfl⟩
theorem flX0_192 : hf_Fl RX0 192 2 2 := ⟨(RX2, TX2, 5), RX2, rfl, by decide, in_X2, tyX2_ok, nmX2, Or.inr ⟨"HalfFair", q301⟩, Or.inl rfl⟩
theorem mvX0_195 : hf_MV RX0 195 RX2 yX2_halvesOf cX2_halvesOf 3 (some .int) 2 := ⟨lw_V q1028 q1029 q1030 q158 q1031, by decide +kernel⟩
theorem mvX0_199 : hf_MV RX0 199 RX2 yX2_clubSaw cX2_clubSaw 5 (some .int) 2 := ⟨lw_V q1032 q1033 q1034 q158 q1035, by decide +kernel⟩
theorem flX0_202 : hf_Fl RX0 202 1 2 := ⟨(RX1, TX1, 13), RX1, rfl, by decide, in_X1, tyX1_ok, nmX1, Or.inr ⟨"HalfFair", q240⟩, Or.inl rfl⟩
theorem mvX0_205 : hf_MV RX0 205 RX0 yX0_worthOf cX0_worthOf 2 (some .int) 1 := ⟨lw_V q1037 q1039 qs35 q153 q1040, by decide +kernel⟩
def spX0_buyer (l0 : Nat) (l1 : Int32) (l2 : Int32) (V0 : hf_H) : Option (Int32 × hf_H) :=
  (hf_ob 1 0 V0 l0).bind fun _ =>
  hf_b2 (spX0_isBuyer l0 l1 V0) fun x2 g1 =>
  if x2 = 0 then (some ((-1 : Int32), g1)) else
  if l2 = (0 : Int32) then ((hf_ga 1 0 1 g1 l0).bind fun x3 =>
  (hf_ob 1 2 g1 x3).bind fun _ =>
  (hf_ai 2 1 4 g1 x3 l1).bind fun x4 =>
  some (x4, g1)) else
  if l2 = (1 : Int32) then ((hf_ga 1 0 1 g1 l0).bind fun x5 =>
  (hf_ob 1 2 g1 x5).bind fun _ =>
  (hf_ai 2 2 4 g1 x5 l1).bind fun x6 =>
  some (x6, g1)) else
  if l2 = (2 : Int32) then ((hf_ga 1 0 1 g1 l0).bind fun x7 =>
  (hf_ga 1 0 0 g1 l0).bind fun x8 =>
  (hf_ob 1 2 g1 x7).bind fun _ =>
  hf_b2 (spX2_halvesOf x7 x8 l1 g1) fun x10 g9 =>
  some (x10, g9)) else
  if l2 = (3 : Int32) then ((hf_ga 1 0 1 g1 l0).bind fun x11 =>
  (hf_ga 1 0 0 g1 l0).bind fun x12 =>
  (hf_ob 1 2 g1 x11).bind fun _ =>
  hf_b2 (spX2_clubSaw x11 x12 l1 g1) fun x14 g13 =>
  some (x14, g13)) else
  if l2 = (4 : Int32) then ((hf_ga 1 0 0 g1 l0).bind fun x15 =>
  (hf_ob 1 1 g1 x15).bind fun _ =>
  (hf_ai 1 2 4 g1 x15 l1).bind fun x16 =>
  (hf_ob 1 0 g1 l0).bind fun _ =>
  hf_b2 (spX0_buyers l0 g1) fun x18 g17 =>
  some ((x16 &&& (((1 : Int32) <<< (x18 &&& 31)) - (1 : Int32))), g17)) else
  if l2 = (5 : Int32) then ((hf_ga 1 0 1 g1 l0).bind fun x19 =>
  (hf_ga 1 0 0 g1 l0).bind fun x20 =>
  (hf_ob 1 2 g1 x19).bind fun _ =>
  hf_b2 (spX2_halvesOf x19 x20 l1 g1) fun x22 g21 =>
  (hf_ob 1 0 g21 l0).bind fun _ =>
  hf_b2 (spX0_worthOf l0 x22 g21) fun x24 g23 =>
  some (x24, g23)) else
  some ((-1 : Int32), g1)
theorem jtX0_buyer {C : hf_X} {gs : hf_gs} (o : hf_In C cX0_buyer RX0 3 (some .int) 8 180) (og : hf_G C gs) (l0 : Nat) (l1 : Int32) (l2 : Int32) (V0 : hf_H) : hf_J C hf_dHI (spX0_buyer l0 l1 l2 V0) V0 0 [(0, .ref l0), (1, .int l1), (2, .int l2)] [] := by
  refine hr_aload_n o 0 dX0_buyer_0 rfl ?_
  refine hr_iload_n o 1 dX0_buyer_1 rfl ?_
  refine hx_callVI (q := (RX0, TX0, 23)) o og mvX0_186 dX0_buyer_2 1 0 rfl [.int l1] (fun zr zg ze => mtX0_isBuyer l0 l1 V0 zr zg ze) rfl rfl (Nat.le_of_ble_eq_true rfl) ⟨by decide, by decide⟩ (fun x2 g1 => ?_)
  refine hr_if_ne o 10 dX0_buyer_5 (by decide) (fun _ => ?_) (fun _ => ?_)
  · refine hr_iconst o (-1 : Int32) dX0_buyer_8 (by decide) ?_
    exact hr_iret o dX0_buyer_9 rfl rfl
  refine hr_iload_n o 2 dX0_buyer_10 rfl ?_
  refine hr_tsw o (0 : Int32) 48 dX0_buyer_11 (by decide) (by decide) rfl (by decide) (fun c_11_0 => ?_) (fun c_11_0 => ?_)
  · refine hr_aload_n o 0 dX0_buyer_48 rfl ?_
    refine hr_getA (md := 1) o flX0_19 dX0_buyer_49 (fun _ => rfl) (fun x3 => ?_)
    refine hr_getO o flX0_189 dX0_buyer_52 2 (fun _ => rfl) (fun _ _ => ?_)
    refine hr_iload_n o 1 dX0_buyer_55 rfl ?_
    refine hx_iald o 2 1 2 4 rfl (by decide) rfl dX0_buyer_56 (fun x4 => ?_)
    exact hr_iret o dX0_buyer_57 rfl rfl
  refine hr_tsw o (1 : Int32) 58 dX0_buyer_11 (by decide) (by decide) rfl (by decide) (fun c_11_1 => ?_) (fun c_11_1 => ?_)
  · refine hr_aload_n o 0 dX0_buyer_58 rfl ?_
    refine hr_getA (md := 1) o flX0_19 dX0_buyer_59 (fun _ => rfl) (fun x5 => ?_)
    refine hr_getO o flX0_192 dX0_buyer_62 3 (fun _ => rfl) (fun _ _ => ?_)
    refine hr_iload_n o 1 dX0_buyer_65 rfl ?_
    refine hx_iald o 2 2 3 4 rfl (by decide) rfl dX0_buyer_66 (fun x6 => ?_)
    exact hr_iret o dX0_buyer_67 rfl rfl
  refine hr_tsw o (2 : Int32) 68 dX0_buyer_11 (by decide) (by decide) rfl (by decide) (fun c_11_2 => ?_) (fun c_11_2 => ?_)
  · refine hr_aload_n o 0 dX0_buyer_68 rfl ?_
    refine hr_getA (md := 1) o flX0_19 dX0_buyer_69 (fun _ => rfl) (fun x7 => ?_)
    refine hr_aload_n o 0 dX0_buyer_72 rfl ?_
    refine hr_getA (md := 1) o flX0_12 dX0_buyer_73 (fun _ => rfl) (fun x8 => ?_)
    refine hr_iload_n o 1 dX0_buyer_76 rfl ?_
    refine hx_callVI (q := (RX2, TX2, 5)) o og mvX0_195 dX0_buyer_77 1 2 rfl [.ref x8, .int l1] (fun zr zg ze => mtX2_halvesOf x7 x8 l1 g1 zr zg ze) rfl rfl (Nat.le_of_ble_eq_true rfl) ⟨by decide, by decide⟩ (fun x10 g9 => ?_)
    exact hr_iret o dX0_buyer_80 rfl rfl
  refine hr_tsw o (3 : Int32) 81 dX0_buyer_11 (by decide) (by decide) rfl (by decide) (fun c_11_3 => ?_) (fun c_11_3 => ?_)
  · refine hr_aload_n o 0 dX0_buyer_81 rfl ?_
    refine hr_getA (md := 1) o flX0_19 dX0_buyer_82 (fun _ => rfl) (fun x11 => ?_)
    refine hr_aload_n o 0 dX0_buyer_85 rfl ?_
    refine hr_getA (md := 1) o flX0_12 dX0_buyer_86 (fun _ => rfl) (fun x12 => ?_)
    refine hr_iload_n o 1 dX0_buyer_89 rfl ?_
    refine hx_callVI (q := (RX2, TX2, 5)) o og mvX0_199 dX0_buyer_90 1 2 rfl [.ref x12, .int l1] (fun zr zg ze => mtX2_clubSaw x11 x12 l1 g1 zr zg ze) rfl rfl (Nat.le_of_ble_eq_true rfl) ⟨by decide, by decide⟩ (fun x14 g13 => ?_)
    exact hr_iret o dX0_buyer_93 rfl rfl
  refine hr_tsw o (4 : Int32) 94 dX0_buyer_11 (by decide) (by decide) rfl (by decide) (fun c_11_4 => ?_) (fun c_11_4 => ?_)
  · refine hr_aload_n o 0 dX0_buyer_94 rfl ?_
    refine hr_getA (md := 1) o flX0_12 dX0_buyer_95 (fun _ => rfl) (fun x15 => ?_)
    refine hr_getO o flX0_202 dX0_buyer_98 5 (fun _ => rfl) (fun _ _ => ?_)
    refine hr_iload_n o 1 dX0_buyer_101 rfl ?_
    refine hx_iald o 1 2 5 4 rfl (by decide) rfl dX0_buyer_102 (fun x16 => ?_)
    refine hr_iconst o (1 : Int32) dX0_buyer_103 (by decide) ?_
    refine hr_aload_n o 0 dX0_buyer_104 rfl ?_
    refine hx_callVI (q := (RX0, TX0, 23)) o og mvX0_110 dX0_buyer_105 1 0 rfl [] (fun zr zg ze => mtX0_buyers l0 g1 zr zg ze) rfl rfl (Nat.le_of_ble_eq_true rfl) ⟨by decide, by decide⟩ (fun x18 g17 => ?_)
    refine hr_ishl o dX0_buyer_108 ?_
    refine hr_iconst o (1 : Int32) dX0_buyer_109 (by decide) ?_
    refine hr_isub o dX0_buyer_110 ?_
    refine hr_iand o dX0_buyer_111 ?_
    exact hr_iret o dX0_buyer_112 rfl rfl
  refine hr_tsw o (5 : Int32) 113 dX0_buyer_11 (by decide) (by decide) rfl (by decide) (fun c_11_5 => ?_) (fun c_11_5 => ?_)
  · refine hr_aload_n o 0 dX0_buyer_113 rfl ?_
    refine hr_aload_n o 0 dX0_buyer_114 rfl ?_
    refine hr_getA (md := 1) o flX0_19 dX0_buyer_115 (fun _ => rfl) (fun x19 => ?_)
    refine hr_aload_n o 0 dX0_buyer_118 rfl ?_
    refine hr_getA (md := 1) o flX0_12 dX0_buyer_119 (fun _ => rfl) (fun x20 => ?_)
    refine hr_iload_n o 1 dX0_buyer_122 rfl ?_
    refine hx_callVI (q := (RX2, TX2, 5)) o og mvX0_195 dX0_buyer_123 1 2 rfl [.ref x20, .int l1] (fun zr zg ze => mtX2_halvesOf x19 x20 l1 g1 zr zg ze) rfl rfl (Nat.le_of_ble_eq_true rfl) ⟨by decide, by decide⟩ (fun x22 g21 => ?_)
    refine hx_callVI (q := (RX0, TX0, 23)) o og mvX0_205 dX0_buyer_126 1 0 rfl [.int x22] (fun zr zg ze => mtX0_worthOf l0 x22 g21 zr zg ze) rfl rfl (Nat.le_of_ble_eq_true rfl) ⟨by decide, by decide⟩ (fun x24 g23 => ?_)
    exact hr_iret o dX0_buyer_129 rfl rfl
  refine hr_tswD o 130 dX0_buyer_11 (by have n0 := hf_nei (0) (by decide) c_11_0; have n1 := hf_nei (1) (by decide) c_11_1; have n2 := hf_nei (2) (by decide) c_11_2; have n3 := hf_nei (3) (by decide) c_11_3; have n4 := hf_nei (4) (by decide) c_11_4; have n5 := hf_nei (5) (by decide) c_11_5; omega) (by decide) ?_
  refine hr_iconst o (-1 : Int32) dX0_buyer_130 (by decide) ?_
  exact hr_iret o dX0_buyer_131 rfl rfl
theorem mtX0_buyer {gs : hf_gs} (l0 : Nat) (l1 : Int32) (l2 : Int32) (V0 : hf_H) (r : Int32) (V1 : hf_H) (e : spX0_buyer l0 l1 l2 V0 = some (r, V1)) : hf_ConG gs yX0_buyer cX0_buyer 3 (some .int) 8 180 [.ref l0, .int l1, .int l2] V0 (.returned (some (.int r)), V1) := hf_entryG (dec := hf_dHI) (by decide) [.ref l0, .int l1, .int l2] (Nat.le_of_ble_eq_true rfl) [(0, .ref l0), (1, .int l1), (2, .int l2)] rfl e (fun C o og _ => jtX0_buyer o og l0 l1 l2 V0)

/-! X0_isStall -/
theorem flX0_89 : hf_Fl RX0 89 1 3 := ⟨(RX1, TX1, 13), RX1, rfl, by decide, in_X1, tyX1_ok, nmX1, Or.inr ⟨"HalfFair", q242⟩, Or.inl rfl⟩
def spX0_isStall (l0 : Nat) (l1 : Int32) (V0 : hf_H) : Option (Int32 × hf_H) :=
  (hf_ga 1 0 0 V0 l0).bind fun x1 =>
  (hf_gi 1 1 3 V0 x1).bind fun x2 =>
  (spX0_in (Int32.toInt64 l1) (0 : Int64) (Int32.toInt64 (x2 - (1 : Int32)))).bind fun x3 =>
  if x3 = 0 ∨ x3 = 1 then some (x3, V0) else none
theorem jtX0_isStall {C : hf_X} {gs : hf_gs} (o : hf_In C cX0_isStall RX0 2 (some .boolean) 1 25) (og : hf_G C gs) (l0 : Nat) (l1 : Int32) (V0 : hf_H) : hf_J C hf_dHI (spX0_isStall l0 l1 V0) V0 0 [(0, .ref l0), (1, .int l1)] [] := by
  refine hr_iload_n o 1 dX0_isStall_0 rfl ?_
  refine hr_i2l o dX0_isStall_1 ?_
  refine hr_lconst o (0 : Int64) dX0_isStall_2 (by decide) ?_
  refine hr_aload_n o 0 dX0_isStall_3 rfl ?_
  refine hr_getA (md := 1) o flX0_12 dX0_isStall_4 (fun _ => rfl) (fun x1 => ?_)
  refine hr_getI (md := 1) o flX0_89 dX0_isStall_7 (fun _ => rfl) (fun x2 => ?_)
  refine hr_iconst o (1 : Int32) dX0_isStall_10 (by decide) ?_
  refine hr_isub o dX0_isStall_11 ?_
  refine hr_i2l o dX0_isStall_12 ?_
  refine pr_callI o msX0_106 dX0_isStall_13 [.long (Int32.toInt64 l1), .long (0 : Int64), .long (Int32.toInt64 (x2 - (1 : Int32)))] (fun zr ze => mtX0_in (Int32.toInt64 l1) (0 : Int64) (Int32.toInt64 (x2 - (1 : Int32))) zr ze) rfl rfl (Nat.le_of_ble_eq_true rfl) ⟨by decide, by decide⟩ (fun x3 => ?_)
  refine hr_ck (fun hz => ?_)
  exact hr_iret o dX0_isStall_16 rfl (hf_nz hz)
theorem mtX0_isStall {gs : hf_gs} (l0 : Nat) (l1 : Int32) (V0 : hf_H) (r : Int32) (V1 : hf_H) (e : spX0_isStall l0 l1 V0 = some (r, V1)) : hf_ConG gs yX0_isStall cX0_isStall 2 (some .boolean) 1 25 [.ref l0, .int l1] V0 (.returned (some (.int r)), V1) := hf_entryG (dec := hf_dHI) (by decide) [.ref l0, .int l1] (Nat.le_of_ble_eq_true rfl) [(0, .ref l0), (1, .int l1)] rfl e (fun C o og _ => jtX0_isStall o og l0 l1 V0)

/-! X0_spot -/
theorem mvX0_209 : hf_MV RX0 209 RX0 yX0_isStall cX0_isStall 2 (some .boolean) 1 := ⟨lw_V q1057 q1059 qs38 q153 q1060, by decide +kernel⟩
theorem mvX0_214 : hf_MV RX0 214 RX1 yX1_spotOf cX1_spotOf 3 (some .int) 2 := ⟨lw_V q1062 q791 q792 q154 q793, by decide +kernel⟩
def spX0_spot (l0 : Nat) (l1 : Int32) (l2 : Int32) (V0 : hf_H) : Option (Int32 × hf_H) :=
  (hf_ob 1 0 V0 l0).bind fun _ =>
  hf_b2 (spX0_isStall l0 l1 V0) fun x2 g1 =>
  if x2 = 0 then (some ((-1 : Int32), g1)) else
  (spX0_in (Int32.toInt64 l2) (0 : Int64) (99 : Int64)).bind fun x3 =>
  if x3 = 0 then (some ((-1 : Int32), g1)) else
  (hf_ga 1 0 0 g1 l0).bind fun x4 =>
  (hf_ga 1 0 1 g1 l0).bind fun x5 =>
  (hf_gi 1 2 4 g1 x5).bind fun x6 =>
  (hf_ob 1 1 g1 x4).bind fun _ =>
  hf_b2 (spX1_spotOf x4 l1 (x6 + l2) g1) fun x8 g7 =>
  some (x8, g7)
theorem jtX0_spot {C : hf_X} {gs : hf_gs} (o : hf_In C cX0_spot RX0 3 (some .int) 2 46) (og : hf_G C gs) (l0 : Nat) (l1 : Int32) (l2 : Int32) (V0 : hf_H) : hf_J C hf_dHI (spX0_spot l0 l1 l2 V0) V0 0 [(0, .ref l0), (1, .int l1), (2, .int l2)] [] := by
  refine hr_aload_n o 0 dX0_spot_0 rfl ?_
  refine hr_iload_n o 1 dX0_spot_1 rfl ?_
  refine hx_callVI (q := (RX0, TX0, 23)) o og mvX0_209 dX0_spot_2 1 0 rfl [.int l1] (fun zr zg ze => mtX0_isStall l0 l1 V0 zr zg ze) rfl rfl (Nat.le_of_ble_eq_true rfl) ⟨by decide, by decide⟩ (fun x2 g1 => ?_)
  refine hr_if_eq o 40 dX0_spot_5 (by decide) (fun _ => ?_) (fun _ => ?_)
  · refine hr_iconst o (-1 : Int32) dX0_spot_40 (by decide) ?_
    exact hr_iret o dX0_spot_41 rfl rfl
  refine hr_iload_n o 2 dX0_spot_8 rfl ?_
  refine hr_i2l o dX0_spot_9 ?_
  refine hr_lconst o (0 : Int64) dX0_spot_10 (by decide) ?_
  refine hr_ldc2 o (99 : Int64) q1061 dX0_spot_11 ?_
  refine pr_callI o msX0_106 dX0_spot_14 [.long (Int32.toInt64 l2), .long (0 : Int64), .long (99 : Int64)] (fun zr ze => mtX0_in (Int32.toInt64 l2) (0 : Int64) (99 : Int64) zr ze) rfl rfl (Nat.le_of_ble_eq_true rfl) ⟨by decide, by decide⟩ (fun x3 => ?_)
  refine hr_if_eq o 40 dX0_spot_17 (by decide) (fun _ => ?_) (fun _ => ?_)
  · refine hr_iconst o (-1 : Int32) dX0_spot_40 (by decide) ?_
    exact hr_iret o dX0_spot_41 rfl rfl
  refine hr_aload_n o 0 dX0_spot_20 rfl ?_
  refine hr_getA (md := 1) o flX0_12 dX0_spot_21 (fun _ => rfl) (fun x4 => ?_)
  refine hr_iload_n o 1 dX0_spot_24 rfl ?_
  refine hr_aload_n o 0 dX0_spot_25 rfl ?_
  refine hr_getA (md := 1) o flX0_19 dX0_spot_26 (fun _ => rfl) (fun x5 => ?_)
  refine hr_getI (md := 1) o flX0_165 dX0_spot_29 (fun _ => rfl) (fun x6 => ?_)
  refine hr_iload_n o 2 dX0_spot_32 rfl ?_
  refine hr_iadd o dX0_spot_33 ?_
  refine hx_callVI (q := (RX1, TX1, 13)) o og mvX0_214 dX0_spot_34 1 1 rfl [.int l1, .int (x6 + l2)] (fun zr zg ze => mtX1_spotOf x4 l1 (x6 + l2) g1 zr zg ze) rfl rfl (Nat.le_of_ble_eq_true rfl) ⟨by decide, by decide⟩ (fun x8 g7 => ?_)
  refine hr_goto o 41 dX0_spot_37 (by decide) ?_
  exact hr_iret o dX0_spot_41 rfl rfl
theorem mtX0_spot {gs : hf_gs} (l0 : Nat) (l1 : Int32) (l2 : Int32) (V0 : hf_H) (r : Int32) (V1 : hf_H) (e : spX0_spot l0 l1 l2 V0 = some (r, V1)) : hf_ConG gs yX0_spot cX0_spot 3 (some .int) 2 46 [.ref l0, .int l1, .int l2] V0 (.returned (some (.int r)), V1) := hf_entryG (dec := hf_dHI) (by decide) [.ref l0, .int l1, .int l2] (Nat.le_of_ble_eq_true rfl) [(0, .ref l0), (1, .int l1), (2, .int l2)] rfl e (fun C o og _ => jtX0_spot o og l0 l1 l2 V0)

/-! X0_isFair -/
def spX0_isFair (l0 : Nat) (V0 : hf_H) : Option (Int32 × hf_H) :=
  (hf_ga 1 0 0 V0 l0).bind fun x1 =>
  (hf_gi 1 1 3 V0 x1).bind fun x2 =>
  if x2 ≤ 0 then (some ((0 : Int32), V0)) else
  some ((1 : Int32), V0)
theorem jtX0_isFair {C : hf_X} {gs : hf_gs} (o : hf_In C cX0_isFair RX0 1 (some .boolean) 0 0) (og : hf_G C gs) (l0 : Nat) (V0 : hf_H) : hf_J C hf_dHI (spX0_isFair l0 V0) V0 0 [(0, .ref l0)] [] := by
  refine hr_aload_n o 0 dX0_isFair_0 rfl ?_
  refine hr_getA (md := 1) o flX0_12 dX0_isFair_1 (fun _ => rfl) (fun x1 => ?_)
  refine hr_getI (md := 1) o flX0_89 dX0_isFair_4 (fun _ => rfl) (fun x2 => ?_)
  refine hr_if_le o 14 dX0_isFair_7 (by decide) (fun _ => ?_) (fun _ => ?_)
  · refine hr_iconst o (0 : Int32) dX0_isFair_14 (by decide) ?_
    exact hr_iret o dX0_isFair_15 rfl (by decide)
  refine hr_iconst o (1 : Int32) dX0_isFair_10 (by decide) ?_
  refine hr_goto o 15 dX0_isFair_11 (by decide) ?_
  exact hr_iret o dX0_isFair_15 rfl (by decide)
theorem mtX0_isFair {gs : hf_gs} (l0 : Nat) (V0 : hf_H) (r : Int32) (V1 : hf_H) (e : spX0_isFair l0 V0 = some (r, V1)) : hf_ConG gs yX0_isFair cX0_isFair 1 (some .boolean) 0 0 [.ref l0] V0 (.returned (some (.int r)), V1) := hf_entryG (dec := hf_dHI) (by decide) [.ref l0] (Nat.le_of_ble_eq_true rfl) [(0, .ref l0)] rfl e (fun C o og _ => jtX0_isFair o og l0 V0)

/-! X0_isSet -/
theorem mvX0_231 : hf_MV RX0 231 RX0 yX0_isFair cX0_isFair 1 (some .boolean) 0 := ⟨lw_V q1071 q1073 qs40 q153 q1074, by decide +kernel⟩
def spX0_isSet (l0 : Nat) (l1 : Int32) (V0 : hf_H) : Option (Int32 × hf_H) :=
  (hf_ob 1 0 V0 l0).bind fun _ =>
  hf_b2 (spX0_isFair l0 V0) fun x2 g1 =>
  if x2 = 0 then (some ((0 : Int32), g1)) else
  (hf_ob 1 0 g1 l0).bind fun _ =>
  hf_b2 (spX0_many l0 g1) fun x4 g3 =>
  (spX0_in (Int32.toInt64 l1) (0 : Int64) (Int32.toInt64 (((1 : Int32) <<< (x4 &&& 31)) - (1 : Int32)))).bind fun x5 =>
  if x5 = 0 then (some ((0 : Int32), g3)) else
  some ((1 : Int32), g3)
theorem jtX0_isSet {C : hf_X} {gs : hf_gs} (o : hf_In C cX0_isSet RX0 2 (some .boolean) 2 40) (og : hf_G C gs) (l0 : Nat) (l1 : Int32) (V0 : hf_H) : hf_J C hf_dHI (spX0_isSet l0 l1 V0) V0 0 [(0, .ref l0), (1, .int l1)] [] := by
  refine hr_aload_n o 0 dX0_isSet_0 rfl ?_
  refine hx_callVI (q := (RX0, TX0, 23)) o og mvX0_231 dX0_isSet_1 1 0 rfl [] (fun zr zg ze => mtX0_isFair l0 V0 zr zg ze) rfl rfl (Nat.le_of_ble_eq_true rfl) ⟨by decide, by decide⟩ (fun x2 g1 => ?_)
  refine hr_if_eq o 29 dX0_isSet_4 (by decide) (fun _ => ?_) (fun _ => ?_)
  · refine hr_iconst o (0 : Int32) dX0_isSet_29 (by decide) ?_
    exact hr_iret o dX0_isSet_30 rfl (by decide)
  refine hr_iload_n o 1 dX0_isSet_7 rfl ?_
  refine hr_i2l o dX0_isSet_8 ?_
  refine hr_lconst o (0 : Int64) dX0_isSet_9 (by decide) ?_
  refine hr_iconst o (1 : Int32) dX0_isSet_10 (by decide) ?_
  refine hr_aload_n o 0 dX0_isSet_11 rfl ?_
  refine hx_callVI (q := (RX0, TX0, 23)) o og mvX0_103 dX0_isSet_12 1 0 rfl [] (fun zr zg ze => mtX0_many l0 g1 zr zg ze) rfl rfl (Nat.le_of_ble_eq_true rfl) ⟨by decide, by decide⟩ (fun x4 g3 => ?_)
  refine hr_ishl o dX0_isSet_15 ?_
  refine hr_iconst o (1 : Int32) dX0_isSet_16 (by decide) ?_
  refine hr_isub o dX0_isSet_17 ?_
  refine hr_i2l o dX0_isSet_18 ?_
  refine pr_callI o msX0_106 dX0_isSet_19 [.long (Int32.toInt64 l1), .long (0 : Int64), .long (Int32.toInt64 (((1 : Int32) <<< (x4 &&& 31)) - (1 : Int32)))] (fun zr ze => mtX0_in (Int32.toInt64 l1) (0 : Int64) (Int32.toInt64 (((1 : Int32) <<< (x4 &&& 31)) - (1 : Int32))) zr ze) rfl rfl (Nat.le_of_ble_eq_true rfl) ⟨by decide, by decide⟩ (fun x5 => ?_)
  refine hr_if_eq o 29 dX0_isSet_22 (by decide) (fun _ => ?_) (fun _ => ?_)
  · refine hr_iconst o (0 : Int32) dX0_isSet_29 (by decide) ?_
    exact hr_iret o dX0_isSet_30 rfl (by decide)
  refine hr_iconst o (1 : Int32) dX0_isSet_25 (by decide) ?_
  refine hr_goto o 30 dX0_isSet_26 (by decide) ?_
  exact hr_iret o dX0_isSet_30 rfl (by decide)
theorem mtX0_isSet {gs : hf_gs} (l0 : Nat) (l1 : Int32) (V0 : hf_H) (r : Int32) (V1 : hf_H) (e : spX0_isSet l0 l1 V0 = some (r, V1)) : hf_ConG gs yX0_isSet cX0_isSet 2 (some .boolean) 2 40 [.ref l0, .int l1] V0 (.returned (some (.int r)), V1) := hf_entryG (dec := hf_dHI) (by decide) [.ref l0, .int l1] (Nat.le_of_ble_eq_true rfl) [(0, .ref l0), (1, .int l1)] rfl e (fun C o og _ => jtX0_isSet o og l0 l1 V0)

/-! X0_worth -/
theorem mvX0_235 : hf_MV RX0 235 RX0 yX0_isSet cX0_isSet 2 (some .boolean) 1 := ⟨lw_V q1067 q1069 qs39 q153 q1070, by decide +kernel⟩
def spX0_worth (l0 : Nat) (l1 : Int32) (V0 : hf_H) : Option (Int32 × hf_H) :=
  (hf_ob 1 0 V0 l0).bind fun _ =>
  hf_b2 (spX0_isSet l0 l1 V0) fun x2 g1 =>
  if x2 = 0 then (some ((-1 : Int32), g1)) else
  (hf_ob 1 0 g1 l0).bind fun _ =>
  hf_b2 (spX0_worthOf l0 l1 g1) fun x4 g3 =>
  some (x4, g3)
theorem jtX0_worth {C : hf_X} {gs : hf_gs} (o : hf_In C cX0_worth RX0 2 (some .int) 8 180) (og : hf_G C gs) (l0 : Nat) (l1 : Int32) (V0 : hf_H) : hf_J C hf_dHI (spX0_worth l0 l1 V0) V0 0 [(0, .ref l0), (1, .int l1)] [] := by
  refine hr_aload_n o 0 dX0_worth_0 rfl ?_
  refine hr_iload_n o 1 dX0_worth_1 rfl ?_
  refine hx_callVI (q := (RX0, TX0, 23)) o og mvX0_235 dX0_worth_2 1 0 rfl [.int l1] (fun zr zg ze => mtX0_isSet l0 l1 V0 zr zg ze) rfl rfl (Nat.le_of_ble_eq_true rfl) ⟨by decide, by decide⟩ (fun x2 g1 => ?_)
  refine hr_if_eq o 16 dX0_worth_5 (by decide) (fun _ => ?_) (fun _ => ?_)
  · refine hr_iconst o (-1 : Int32) dX0_worth_16 (by decide) ?_
    exact hr_iret o dX0_worth_17 rfl rfl
  refine hr_aload_n o 0 dX0_worth_8 rfl ?_
  refine hr_iload_n o 1 dX0_worth_9 rfl ?_
  refine hx_callVI (q := (RX0, TX0, 23)) o og mvX0_205 dX0_worth_10 1 0 rfl [.int l1] (fun zr zg ze => mtX0_worthOf l0 l1 g1 zr zg ze) rfl rfl (Nat.le_of_ble_eq_true rfl) ⟨by decide, by decide⟩ (fun x4 g3 => ?_)
  refine hr_goto o 17 dX0_worth_13 (by decide) ?_
  exact hr_iret o dX0_worth_17 rfl rfl
theorem mtX0_worth {gs : hf_gs} (l0 : Nat) (l1 : Int32) (V0 : hf_H) (r : Int32) (V1 : hf_H) (e : spX0_worth l0 l1 V0 = some (r, V1)) : hf_ConG gs yX0_worth cX0_worth 2 (some .int) 8 180 [.ref l0, .int l1] V0 (.returned (some (.int r)), V1) := hf_entryG (dec := hf_dHI) (by decide) [.ref l0, .int l1] (Nat.le_of_ble_eq_true rfl) [(0, .ref l0), (1, .int l1)] rfl e (fun C o og _ => jtX0_worth o og l0 l1 V0)

/-! X0_firstWith -/
def ndX0_firstWith_99 (k38 : Nat → Int32 → Int32 → Int32 → Int32 → hf_H → Option (Int32 × hf_H)) (l0 : Nat) (l1 : Int32) (l2 : Int32) (l3 : Int32) (l4 : Int32) (V0 : hf_H) : Option (Int32 × hf_H) :=
  hf_let (l4 + (1 : Int32)) fun x1 =>
  k38 l0 l1 l2 l3 x1 V0
theorem nlX0_firstWith_99 {C : hf_X} {gs : hf_gs} (o : hf_In C cX0_firstWith RX0 5 (some .int) 6 134) (og : hf_G C gs) (k38 : Nat → Int32 → Int32 → Int32 → Int32 → hf_H → Option (Int32 × hf_H)) (hk38 : ∀ (l0 : Nat) (l1 : Int32) (l2 : Int32) (l3 : Int32) (l4 : Int32) (V0 : hf_H), hf_J C hf_dHI (k38 l0 l1 l2 l3 l4 V0) V0 38 [(0, .ref l0), (1, .int l1), (2, .int l2), (3, .int l3), (4, .int l4)] []) (l0 : Nat) (l1 : Int32) (l2 : Int32) (l3 : Int32) (l4 : Int32) (V0 : hf_H) : hf_J C hf_dHI (ndX0_firstWith_99 k38 l0 l1 l2 l3 l4 V0) V0 99 [(0, .ref l0), (1, .int l1), (2, .int l2), (3, .int l3), (4, .int l4)] [] := by
  refine hr_iincN o (1 : Int32) 4 (fun y => [(4, .int y), (0, .ref l0), (1, .int l1), (2, .int l2), (3, .int l3)]) dX0_firstWith_99 rfl (by decide) (by decide) (fun y => rfl) (fun x1 => ?_)
  refine hr_goto o 38 dX0_firstWith_102 (by decide) ?_
  refine hr_sub [1, 2, 3, 4, 0] rfl ?_
  exact hk38 l0 l1 l2 l3 x1 V0
def ndX0_firstWith_38 (k38 : Nat → Int32 → Int32 → Int32 → Int32 → hf_H → Option (Int32 × hf_H)) (l0 : Nat) (l1 : Int32) (l2 : Int32) (l3 : Int32) (l4 : Int32) (V0 : hf_H) : Option (Int32 × hf_H) :=
  (hf_ob 1 0 V0 l0).bind fun _ =>
  hf_b2 (spX0_many l0 V0) fun x2 g1 =>
  if x2 ≤ l4 then (some ((-1 : Int32), g1)) else
  (spX0_has l3 l4).bind fun x3 =>
  if x3 = 0 then (ndX0_firstWith_99 k38 l0 l1 l2 l3 l4 g1) else
  (hf_ob 1 0 g1 l0).bind fun _ =>
  hf_b2 (spX0_pairOf l0 l2 l4 g1) fun x5 g4 =>
  if x5 ≤ 0 then (ndX0_firstWith_99 k38 l0 l1 l2 l3 l4 g4) else
  (hf_ob 1 0 g4 l0).bind fun _ =>
  hf_b2 (spX0_pairOf l0 l2 l4 g4) fun x7 g6 =>
  (hf_ob 1 0 g6 l0).bind fun _ =>
  (hf_ai 0 12 4096 g6 l0 (l3 &&& (((1 : Int32) <<< (l4 &&& 31)) ^^^ (-1 : Int32)))).bind fun x8 =>
  (hf_ob 1 0 g6 l0).bind fun _ =>
  (hf_ai 0 12 4096 g6 l0 l1).bind fun x9 =>
  if (x7 + x8) = x9 then (some (l4, g6)) else
  ndX0_firstWith_99 k38 l0 l1 l2 l3 l4 g6
theorem nlX0_firstWith_38 {C : hf_X} {gs : hf_gs} (o : hf_In C cX0_firstWith RX0 5 (some .int) 6 134) (og : hf_G C gs) (k38 : Nat → Int32 → Int32 → Int32 → Int32 → hf_H → Option (Int32 × hf_H)) (hk38 : ∀ (l0 : Nat) (l1 : Int32) (l2 : Int32) (l3 : Int32) (l4 : Int32) (V0 : hf_H), hf_J C hf_dHI (k38 l0 l1 l2 l3 l4 V0) V0 38 [(0, .ref l0), (1, .int l1), (2, .int l2), (3, .int l3), (4, .int l4)] []) (l0 : Nat) (l1 : Int32) (l2 : Int32) (l3 : Int32) (l4 : Int32) (V0 : hf_H) : hf_J C hf_dHI (ndX0_firstWith_38 k38 l0 l1 l2 l3 l4 V0) V0 38 [(0, .ref l0), (1, .int l1), (2, .int l2), (3, .int l3), (4, .int l4)] [] := by
  refine hr_iload o 4 dX0_firstWith_38 rfl ?_
  refine hr_aload_n o 0 dX0_firstWith_40 rfl ?_
  refine hx_callVI (q := (RX0, TX0, 23)) o og mvX0_103 dX0_firstWith_41 1 0 rfl [] (fun zr zg ze => mtX0_many l0 V0 zr zg ze) rfl rfl (Nat.le_of_ble_eq_true rfl) ⟨by decide, by decide⟩ (fun x2 g1 => ?_)
  refine hr_icmp_ge o 105 dX0_firstWith_44 (by decide) (fun _ => ?_) (fun _ => ?_)
  · refine hr_iconst o (-1 : Int32) dX0_firstWith_105 (by decide) ?_
    exact hr_iret o dX0_firstWith_106 rfl rfl
  refine hr_iload_n o 3 dX0_firstWith_47 rfl ?_
  refine hr_iload o 4 dX0_firstWith_48 rfl ?_
  refine pr_callI o msX0_175 dX0_firstWith_50 [.int l3, .int l4] (fun zr ze => mtX0_has l3 l4 zr ze) rfl rfl (Nat.le_of_ble_eq_true rfl) ⟨by decide, by decide⟩ (fun x3 => ?_)
  refine hr_if_eq o 99 dX0_firstWith_53 (by decide) (fun _ => ?_) (fun _ => ?_)
  · exact nlX0_firstWith_99 o og k38 hk38 l0 l1 l2 l3 l4 g1
  refine hr_aload_n o 0 dX0_firstWith_56 rfl ?_
  refine hr_iload_n o 2 dX0_firstWith_57 rfl ?_
  refine hr_iload o 4 dX0_firstWith_58 rfl ?_
  refine hx_callVI (q := (RX0, TX0, 23)) o og mvX0_220 dX0_firstWith_60 1 0 rfl [.int l2, .int l4] (fun zr zg ze => mtX0_pairOf l0 l2 l4 g1 zr zg ze) rfl rfl (Nat.le_of_ble_eq_true rfl) ⟨by decide, by decide⟩ (fun x5 g4 => ?_)
  refine hr_if_le o 99 dX0_firstWith_63 (by decide) (fun _ => ?_) (fun _ => ?_)
  · exact nlX0_firstWith_99 o og k38 hk38 l0 l1 l2 l3 l4 g4
  refine hr_aload_n o 0 dX0_firstWith_66 rfl ?_
  refine hr_iload_n o 2 dX0_firstWith_67 rfl ?_
  refine hr_iload o 4 dX0_firstWith_68 rfl ?_
  refine hx_callVI (q := (RX0, TX0, 23)) o og mvX0_220 dX0_firstWith_70 1 0 rfl [.int l2, .int l4] (fun zr zg ze => mtX0_pairOf l0 l2 l4 g4 zr zg ze) rfl rfl (Nat.le_of_ble_eq_true rfl) ⟨by decide, by decide⟩ (fun x7 g6 => ?_)
  refine hr_aload_n o 0 dX0_firstWith_73 rfl ?_
  refine hr_getO o flX0_57 dX0_firstWith_74 24 (fun _ => rfl) (fun _ _ => ?_)
  refine hr_iload_n o 3 dX0_firstWith_77 rfl ?_
  refine hr_iconst o (1 : Int32) dX0_firstWith_78 (by decide) ?_
  refine hr_iload o 4 dX0_firstWith_79 rfl ?_
  refine hr_ishl o dX0_firstWith_81 ?_
  refine hr_iconst o (-1 : Int32) dX0_firstWith_82 (by decide) ?_
  refine hr_ixor o dX0_firstWith_83 ?_
  refine hr_iand o dX0_firstWith_84 ?_
  refine hx_iald o 0 12 24 4096 rfl (by decide) rfl dX0_firstWith_85 (fun x8 => ?_)
  refine hr_iadd o dX0_firstWith_86 ?_
  refine hr_aload_n o 0 dX0_firstWith_87 rfl ?_
  refine hr_getO o flX0_57 dX0_firstWith_88 24 (fun _ => rfl) (fun _ _ => ?_)
  refine hr_iload_n o 1 dX0_firstWith_91 rfl ?_
  refine hx_iald o 0 12 24 4096 rfl (by decide) rfl dX0_firstWith_92 (fun x9 => ?_)
  refine hr_icmp_ne o 99 dX0_firstWith_93 (by decide) (fun _ => ?_) (fun _ => ?_)
  · refine hr_iload o 4 dX0_firstWith_96 rfl ?_
    exact hr_iret o dX0_firstWith_98 rfl rfl
  exact nlX0_firstWith_99 o og k38 hk38 l0 l1 l2 l3 l4 g6
def lpX0_firstWith_38  : Nat → Nat → Int32 → Int32 → Int32 → Int32 → hf_H → Option (Int32 × hf_H)
  | 0 => fun _ _ _ _ _ _ => none
  | n + 1 => fun l0 l1 l2 l3 l4 V0 => ndX0_firstWith_38  (lpX0_firstWith_38  n) l0 l1 l2 l3 l4 V0
theorem llX0_firstWith_38 {C : hf_X} {gs : hf_gs} (o : hf_In C cX0_firstWith RX0 5 (some .int) 6 134) (og : hf_G C gs)   (n : Nat) : ∀ (l0 : Nat) (l1 : Int32) (l2 : Int32) (l3 : Int32) (l4 : Int32) (V0 : hf_H), hf_J C hf_dHI ((lpX0_firstWith_38  n) l0 l1 l2 l3 l4 V0) V0 38 [(0, .ref l0), (1, .int l1), (2, .int l2), (3, .int l3), (4, .int l4)] [] := by
  induction n with
  | zero => exact fun _ _ _ _ _ _ => hr_none
  | succ n ih => exact fun l0 l1 l2 l3 l4 V0 => nlX0_firstWith_38 o og  (lpX0_firstWith_38  n)  ih l0 l1 l2 l3 l4 V0
def spX0_firstWith (l0 : Nat) (l1 : Int32) (V0 : hf_H) : Option (Int32 × hf_H) :=
  (spX0_least l1).bind fun x1 =>
  hf_let (l1 &&& (((1 : Int32) <<< (x1 &&& 31)) ^^^ (-1 : Int32))) fun x2 =>
  (hf_ob 1 0 V0 l0).bind fun _ =>
  (hf_ai 0 12 4096 V0 l0 x2).bind fun x3 =>
  (hf_ob 1 0 V0 l0).bind fun _ =>
  (hf_ai 0 12 4096 V0 l0 l1).bind fun x4 =>
  if ((9 : Int32) + x3) = x4 then (some ((-1 : Int32), V0)) else
  hf_let (x1 + (1 : Int32)) fun x5 =>
  lpX0_firstWith_38 hf_N l0 l1 x1 x2 x5 V0
theorem jtX0_firstWith {C : hf_X} {gs : hf_gs} (o : hf_In C cX0_firstWith RX0 5 (some .int) 6 134) (og : hf_G C gs) (l0 : Nat) (l1 : Int32) (V0 : hf_H) : hf_J C hf_dHI (spX0_firstWith l0 l1 V0) V0 0 [(0, .ref l0), (1, .int l1)] [] := by
  refine hr_iload_n o 1 dX0_firstWith_0 rfl ?_
  refine pr_callI o msX0_217 dX0_firstWith_1 [.int l1] (fun zr ze => mtX0_least l1 zr ze) rfl rfl (Nat.le_of_ble_eq_true rfl) ⟨by decide, by decide⟩ (fun x1 => ?_)
  refine hr_istore_n o [(2, .int x1), (0, .ref l0), (1, .int l1)] dX0_firstWith_4 (by decide) rfl ?_
  refine hr_iload_n o 2 dX0_firstWith_5 rfl ?_
  refine hr_iconst o (1 : Int32) dX0_firstWith_6 (by decide) ?_
  refine hr_iload_n o 0 dX0_firstWith_7 rfl ?_
  refine hr_ishl o dX0_firstWith_8 ?_
  refine hr_iconst o (-1 : Int32) dX0_firstWith_9 (by decide) ?_
  refine hr_ixor o dX0_firstWith_10 ?_
  refine hr_iand o dX0_firstWith_11 ?_
  refine hr_nmI (fun x2 => ?_)
  refine hr_istore_n o [(3, .int x2), (2, .int x1), (0, .ref l0), (1, .int l1)] dX0_firstWith_12 (by decide) rfl ?_
  refine hr_bipush o (9 : Int32) dX0_firstWith_13 (by decide) ?_
  refine hr_aload_n o 2 dX0_firstWith_15 rfl ?_
  refine hr_getO o flX0_57 dX0_firstWith_16 24 (fun _ => rfl) (fun _ _ => ?_)
  refine hr_iload_n o 0 dX0_firstWith_19 rfl ?_
  refine hx_iald o 0 12 24 4096 rfl (by decide) rfl dX0_firstWith_20 (fun x3 => ?_)
  refine hr_iadd o dX0_firstWith_21 ?_
  refine hr_aload_n o 2 dX0_firstWith_22 rfl ?_
  refine hr_getO o flX0_57 dX0_firstWith_23 24 (fun _ => rfl) (fun _ _ => ?_)
  refine hr_iload_n o 3 dX0_firstWith_26 rfl ?_
  refine hx_iald o 0 12 24 4096 rfl (by decide) rfl dX0_firstWith_27 (fun x4 => ?_)
  refine hr_icmp_ne o 33 dX0_firstWith_28 (by decide) (fun _ => ?_) (fun _ => ?_)
  · refine hr_iconst o (-1 : Int32) dX0_firstWith_31 (by decide) ?_
    exact hr_iret o dX0_firstWith_32 rfl rfl
  refine hr_iload_n o 1 dX0_firstWith_33 rfl ?_
  refine hr_iconst o (1 : Int32) dX0_firstWith_34 (by decide) ?_
  refine hr_iadd o dX0_firstWith_35 ?_
  refine hr_nmI (fun x5 => ?_)
  refine hr_istore o [(4, .int x5), (3, .int x2), (2, .int x1), (0, .ref l0), (1, .int l1)] dX0_firstWith_36 (by decide) rfl ?_
  refine hr_sub [3, 4, 2, 1, 0] rfl ?_
  exact llX0_firstWith_38 o og hf_N l0 l1 x1 x2 x5 V0
theorem mtX0_firstWith {gs : hf_gs} (l0 : Nat) (l1 : Int32) (V0 : hf_H) (r : Int32) (V1 : hf_H) (e : spX0_firstWith l0 l1 V0 = some (r, V1)) : hf_ConG gs yX0_firstWith cX0_firstWith 5 (some .int) 6 134 [.ref l0, .int l1] V0 (.returned (some (.int r)), V1) := hf_entryG (dec := hf_dHI) (by decide) [.ref l0, .int l1] (Nat.le_of_ble_eq_true rfl) [(0, .ref l0), (1, .int l1)] rfl e (fun C o og _ => jtX0_firstWith o og l0 l1 V0)

/-! X0_with -/
theorem mvX0_238 : hf_MV RX0 238 RX0 yX0_firstWith cX0_firstWith 5 (some .int) 1 := ⟨lw_V q1079 q1081 qs41 q153 q1082, by decide +kernel⟩
def ndX0_with_108 (k37 : Nat → Int32 → Int32 → Int32 → hf_H → Option (Int32 × hf_H)) (l0 : Nat) (l2 : Int32) (l3 : Int32) (l4 : Int32) (V0 : hf_H) : Option (Int32 × hf_H) :=
  k37 l0 l2 l3 l4 V0
theorem nlX0_with_108 {C : hf_X} {gs : hf_gs} (o : hf_In C cX0_with RX0 7 (some .int) 7 159) (og : hf_G C gs) (k37 : Nat → Int32 → Int32 → Int32 → hf_H → Option (Int32 × hf_H)) (hk37 : ∀ (l0 : Nat) (l2 : Int32) (l3 : Int32) (l4 : Int32) (V0 : hf_H), hf_J C hf_dHI (k37 l0 l2 l3 l4 V0) V0 37 [(0, .ref l0), (2, .int l2), (3, .int l3), (4, .int l4)] []) (l0 : Nat) (l2 : Int32) (l3 : Int32) (l4 : Int32) (V0 : hf_H) : hf_J C hf_dHI (ndX0_with_108 k37 l0 l2 l3 l4 V0) V0 108 [(0, .ref l0), (2, .int l2), (3, .int l3), (4, .int l4)] [] := by
  refine hr_goto o 37 dX0_with_108 (by decide) ?_
  exact hk37 l0 l2 l3 l4 V0
def ndX0_with_84 (k37 : Nat → Int32 → Int32 → Int32 → hf_H → Option (Int32 × hf_H)) (l0 : Nat) (l2 : Int32) (l3 : Int32) (l4 : Int32) (l5 : Int32) (l6 : Int32) (V0 : hf_H) : Option (Int32 × hf_H) :=
  hf_let (l3 &&& (((1 : Int32) <<< (l5 &&& 31)) ^^^ (-1 : Int32))) fun x1 =>
  if l6 = (-1 : Int32) then (ndX0_with_108 k37 l0 l2 x1 l4 V0) else
  hf_let (x1 &&& (((1 : Int32) <<< (l6 &&& 31)) ^^^ (-1 : Int32))) fun x2 =>
  ndX0_with_108 k37 l0 l2 x2 l4 V0
theorem nlX0_with_84 {C : hf_X} {gs : hf_gs} (o : hf_In C cX0_with RX0 7 (some .int) 7 159) (og : hf_G C gs) (k37 : Nat → Int32 → Int32 → Int32 → hf_H → Option (Int32 × hf_H)) (hk37 : ∀ (l0 : Nat) (l2 : Int32) (l3 : Int32) (l4 : Int32) (V0 : hf_H), hf_J C hf_dHI (k37 l0 l2 l3 l4 V0) V0 37 [(0, .ref l0), (2, .int l2), (3, .int l3), (4, .int l4)] []) (l0 : Nat) (l2 : Int32) (l3 : Int32) (l4 : Int32) (l5 : Int32) (l6 : Int32) (V0 : hf_H) : hf_J C hf_dHI (ndX0_with_84 k37 l0 l2 l3 l4 l5 l6 V0) V0 84 [(0, .ref l0), (2, .int l2), (3, .int l3), (4, .int l4), (5, .int l5), (6, .int l6)] [] := by
  refine hr_iload_n o 2 dX0_with_84 rfl ?_
  refine hr_iconst o (1 : Int32) dX0_with_85 (by decide) ?_
  refine hr_iload o 4 dX0_with_86 rfl ?_
  refine hr_ishl o dX0_with_88 ?_
  refine hr_iconst o (-1 : Int32) dX0_with_89 (by decide) ?_
  refine hr_ixor o dX0_with_90 ?_
  refine hr_iand o dX0_with_91 ?_
  refine hr_nmI (fun x1 => ?_)
  refine hr_istore_n o [(3, .int x1), (0, .ref l0), (2, .int l2), (4, .int l4), (5, .int l5), (6, .int l6)] dX0_with_92 (by decide) rfl ?_
  refine hr_iload o 5 dX0_with_93 rfl ?_
  refine hr_iconst o (-1 : Int32) dX0_with_95 (by decide) ?_
  refine hr_icmp_eq o 108 dX0_with_96 (by decide) (fun _ => ?_) (fun _ => ?_)
  · refine hr_sub [1, 2, 0, 3] rfl ?_
    exact nlX0_with_108 o og k37 hk37 l0 l2 x1 l4 V0
  refine hr_iload_n o 0 dX0_with_99 rfl ?_
  refine hr_iconst o (1 : Int32) dX0_with_100 (by decide) ?_
  refine hr_iload o 5 dX0_with_101 rfl ?_
  refine hr_ishl o dX0_with_103 ?_
  refine hr_iconst o (-1 : Int32) dX0_with_104 (by decide) ?_
  refine hr_ixor o dX0_with_105 ?_
  refine hr_iand o dX0_with_106 ?_
  refine hr_nmI (fun x2 => ?_)
  refine hr_istore_n o [(3, .int x2), (0, .ref l0), (2, .int l2), (4, .int l4), (5, .int l5), (6, .int l6)] dX0_with_107 (by decide) rfl ?_
  refine hr_sub [1, 2, 0, 3] rfl ?_
  exact nlX0_with_108 o og k37 hk37 l0 l2 x2 l4 V0
def ndX0_with_82 (k37 : Nat → Int32 → Int32 → Int32 → hf_H → Option (Int32 × hf_H)) (l0 : Nat) (l2 : Int32) (l3 : Int32) (l5 : Int32) (l6 : Int32) (s0 : Int32) (V0 : hf_H) : Option (Int32 × hf_H) :=
  ndX0_with_84 k37 l0 l2 l3 s0 l5 l6 V0
theorem nlX0_with_82 {C : hf_X} {gs : hf_gs} (o : hf_In C cX0_with RX0 7 (some .int) 7 159) (og : hf_G C gs) (k37 : Nat → Int32 → Int32 → Int32 → hf_H → Option (Int32 × hf_H)) (hk37 : ∀ (l0 : Nat) (l2 : Int32) (l3 : Int32) (l4 : Int32) (V0 : hf_H), hf_J C hf_dHI (k37 l0 l2 l3 l4 V0) V0 37 [(0, .ref l0), (2, .int l2), (3, .int l3), (4, .int l4)] []) (l0 : Nat) (l2 : Int32) (l3 : Int32) (l5 : Int32) (l6 : Int32) (s0 : Int32) (V0 : hf_H) : hf_J C hf_dHI (ndX0_with_82 k37 l0 l2 l3 l5 l6 s0 V0) V0 82 [(0, .ref l0), (2, .int l2), (3, .int l3), (5, .int l5), (6, .int l6)] [.int s0] := by
  refine hr_istore o [(4, .int s0), (0, .ref l0), (2, .int l2), (3, .int l3), (5, .int l5), (6, .int l6)] dX0_with_82 (by decide) rfl ?_
  refine hr_sub [1, 2, 3, 0, 4, 5] rfl ?_
  exact nlX0_with_84 o og k37 hk37 l0 l2 l3 s0 l5 l6 V0
def ndX0_with_69 (k37 : Nat → Int32 → Int32 → Int32 → hf_H → Option (Int32 × hf_H)) (l0 : Nat) (l2 : Int32) (l3 : Int32) (l5 : Int32) (l6 : Int32) (V0 : hf_H) : Option (Int32 × hf_H) :=
  if l6 = l2 then (ndX0_with_82 k37 l0 l2 l3 l5 l6 l5 V0) else
  ndX0_with_82 k37 l0 l2 l3 l5 l6 l6 V0
theorem nlX0_with_69 {C : hf_X} {gs : hf_gs} (o : hf_In C cX0_with RX0 7 (some .int) 7 159) (og : hf_G C gs) (k37 : Nat → Int32 → Int32 → Int32 → hf_H → Option (Int32 × hf_H)) (hk37 : ∀ (l0 : Nat) (l2 : Int32) (l3 : Int32) (l4 : Int32) (V0 : hf_H), hf_J C hf_dHI (k37 l0 l2 l3 l4 V0) V0 37 [(0, .ref l0), (2, .int l2), (3, .int l3), (4, .int l4)] []) (l0 : Nat) (l2 : Int32) (l3 : Int32) (l5 : Int32) (l6 : Int32) (V0 : hf_H) : hf_J C hf_dHI (ndX0_with_69 k37 l0 l2 l3 l5 l6 V0) V0 69 [(0, .ref l0), (2, .int l2), (3, .int l3), (5, .int l5), (6, .int l6)] [] := by
  refine hr_iload o 4 dX0_with_69 rfl ?_
  refine hr_iload_n o 1 dX0_with_71 rfl ?_
  refine hr_icmp_ne o 80 dX0_with_72 (by decide) (fun _ => ?_) (fun _ => ?_)
  · refine hr_iload o 3 dX0_with_75 rfl ?_
    refine hr_goto o 82 dX0_with_77 (by decide) ?_
    exact nlX0_with_82 o og k37 hk37 l0 l2 l3 l5 l6 l5 V0
  refine hr_iload o 4 dX0_with_80 rfl ?_
  exact nlX0_with_82 o og k37 hk37 l0 l2 l3 l5 l6 l6 V0
def ndX0_with_37 (k37 : Nat → Int32 → Int32 → Int32 → hf_H → Option (Int32 × hf_H)) (l0 : Nat) (l2 : Int32) (l3 : Int32) (l4 : Int32) (V0 : hf_H) : Option (Int32 × hf_H) :=
  if l4 = (-2 : Int32) then ((spX0_least l3).bind fun x1 =>
  (hf_ob 1 0 V0 l0).bind fun _ =>
  hf_b2 (spX0_firstWith l0 l3 V0) fun x3 g2 =>
  if x1 = l2 then (ndX0_with_69 k37 l0 l2 l3 x1 x3 g2) else
  if x3 = l2 then (ndX0_with_69 k37 l0 l2 l3 x1 x3 g2) else
  ndX0_with_84 k37 l0 l2 l3 l4 x1 x3 g2) else
  some (l4, V0)
theorem nlX0_with_37 {C : hf_X} {gs : hf_gs} (o : hf_In C cX0_with RX0 7 (some .int) 7 159) (og : hf_G C gs) (k37 : Nat → Int32 → Int32 → Int32 → hf_H → Option (Int32 × hf_H)) (hk37 : ∀ (l0 : Nat) (l2 : Int32) (l3 : Int32) (l4 : Int32) (V0 : hf_H), hf_J C hf_dHI (k37 l0 l2 l3 l4 V0) V0 37 [(0, .ref l0), (2, .int l2), (3, .int l3), (4, .int l4)] []) (l0 : Nat) (l2 : Int32) (l3 : Int32) (l4 : Int32) (V0 : hf_H) : hf_J C hf_dHI (ndX0_with_37 k37 l0 l2 l3 l4 V0) V0 37 [(0, .ref l0), (2, .int l2), (3, .int l3), (4, .int l4)] [] := by
  refine hr_iload o 3 dX0_with_37 rfl ?_
  refine hr_bipush o (-2 : Int32) dX0_with_39 (by decide) ?_
  refine hr_icmp_ne o 111 dX0_with_41 (by decide) (fun _ => ?_) (fun _ => ?_)
  · refine hr_iload_n o 2 dX0_with_44 rfl ?_
    refine pr_callI o msX0_217 dX0_with_45 [.int l3] (fun zr ze => mtX0_least l3 zr ze) rfl rfl (Nat.le_of_ble_eq_true rfl) ⟨by decide, by decide⟩ (fun x1 => ?_)
    refine hr_istore o [(5, .int x1), (0, .ref l0), (2, .int l2), (3, .int l3), (4, .int l4)] dX0_with_48 (by decide) rfl ?_
    refine hr_aload_n o 1 dX0_with_50 rfl ?_
    refine hr_iload_n o 3 dX0_with_51 rfl ?_
    refine hx_callVI (q := (RX0, TX0, 23)) o og mvX0_238 dX0_with_52 1 0 rfl [.int l3] (fun zr zg ze => mtX0_firstWith l0 l3 V0 zr zg ze) rfl rfl (Nat.le_of_ble_eq_true rfl) ⟨by decide, by decide⟩ (fun x3 g2 => ?_)
    refine hr_istore o [(6, .int x3), (5, .int x1), (0, .ref l0), (2, .int l2), (3, .int l3), (4, .int l4)] dX0_with_55 (by decide) rfl ?_
    refine hr_iload o 1 dX0_with_57 rfl ?_
    refine hr_iload_n o 3 dX0_with_59 rfl ?_
    refine hr_icmp_eq o 69 dX0_with_60 (by decide) (fun _ => ?_) (fun _ => ?_)
    · refine hr_sub [2, 3, 4, 1, 0] rfl ?_
      exact nlX0_with_69 o og k37 hk37 l0 l2 l3 x1 x3 g2
    refine hr_iload o 0 dX0_with_63 rfl ?_
    refine hr_iload_n o 3 dX0_with_65 rfl ?_
    refine hr_icmp_ne o 84 dX0_with_66 (by decide) (fun _ => ?_) (fun _ => ?_)
    · refine hr_sub [2, 3, 4, 1, 0] rfl ?_
      exact nlX0_with_69 o og k37 hk37 l0 l2 l3 x1 x3 g2
    refine hr_sub [2, 3, 4, 5, 1, 0] rfl ?_
    exact nlX0_with_84 o og k37 hk37 l0 l2 l3 l4 x1 x3 g2
  refine hr_iload o 3 dX0_with_111 rfl ?_
  exact hr_iret o dX0_with_113 rfl rfl
def lpX0_with_37  : Nat → Nat → Int32 → Int32 → Int32 → hf_H → Option (Int32 × hf_H)
  | 0 => fun _ _ _ _ _ => none
  | n + 1 => fun l0 l2 l3 l4 V0 => ndX0_with_37  (lpX0_with_37  n) l0 l2 l3 l4 V0
theorem llX0_with_37 {C : hf_X} {gs : hf_gs} (o : hf_In C cX0_with RX0 7 (some .int) 7 159) (og : hf_G C gs)   (n : Nat) : ∀ (l0 : Nat) (l2 : Int32) (l3 : Int32) (l4 : Int32) (V0 : hf_H), hf_J C hf_dHI ((lpX0_with_37  n) l0 l2 l3 l4 V0) V0 37 [(0, .ref l0), (2, .int l2), (3, .int l3), (4, .int l4)] [] := by
  induction n with
  | zero => exact fun _ _ _ _ _ => hr_none
  | succ n ih => exact fun l0 l2 l3 l4 V0 => nlX0_with_37 o og  (lpX0_with_37  n)  ih l0 l2 l3 l4 V0
def spX0_with (l0 : Nat) (l1 : Int32) (l2 : Int32) (V0 : hf_H) : Option (Int32 × hf_H) :=
  (hf_ob 1 0 V0 l0).bind fun _ =>
  hf_b2 (spX0_isSet l0 l1 V0) fun x2 g1 =>
  if x2 = 0 then (some ((-2 : Int32), g1)) else
  (hf_ob 1 0 g1 l0).bind fun _ =>
  hf_b2 (spX0_isHalf l0 l2 g1) fun x4 g3 =>
  if x4 = 0 then (some ((-2 : Int32), g3)) else
  (spX0_has l1 l2).bind fun x5 =>
  if x5 = 0 then (some ((-2 : Int32), g3)) else
  (hf_ob 1 0 g3 l0).bind fun _ =>
  (spX0_fillsWorths l0 g3).bind fun g6 =>
  lpX0_with_37 hf_N l0 l2 l1 (-2 : Int32) g6
theorem jtX0_with {C : hf_X} {gs : hf_gs} (o : hf_In C cX0_with RX0 7 (some .int) 7 159) (og : hf_G C gs) (l0 : Nat) (l1 : Int32) (l2 : Int32) (V0 : hf_H) : hf_J C hf_dHI (spX0_with l0 l1 l2 V0) V0 0 [(0, .ref l0), (1, .int l1), (2, .int l2)] [] := by
  refine hr_aload_n o 0 dX0_with_0 rfl ?_
  refine hr_iload_n o 1 dX0_with_1 rfl ?_
  refine hx_callVI (q := (RX0, TX0, 23)) o og mvX0_235 dX0_with_2 1 0 rfl [.int l1] (fun zr zg ze => mtX0_isSet l0 l1 V0 zr zg ze) rfl rfl (Nat.le_of_ble_eq_true rfl) ⟨by decide, by decide⟩ (fun x2 g1 => ?_)
  refine hr_if_eq o 24 dX0_with_5 (by decide) (fun _ => ?_) (fun _ => ?_)
  · refine hr_bipush o (-2 : Int32) dX0_with_24 (by decide) ?_
    exact hr_iret o dX0_with_26 rfl rfl
  refine hr_aload_n o 0 dX0_with_8 rfl ?_
  refine hr_iload_n o 2 dX0_with_9 rfl ?_
  refine hx_callVI (q := (RX0, TX0, 23)) o og mvX0_149 dX0_with_10 1 0 rfl [.int l2] (fun zr zg ze => mtX0_isHalf l0 l2 g1 zr zg ze) rfl rfl (Nat.le_of_ble_eq_true rfl) ⟨by decide, by decide⟩ (fun x4 g3 => ?_)
  refine hr_if_eq o 24 dX0_with_13 (by decide) (fun _ => ?_) (fun _ => ?_)
  · refine hr_bipush o (-2 : Int32) dX0_with_24 (by decide) ?_
    exact hr_iret o dX0_with_26 rfl rfl
  refine hr_iload_n o 1 dX0_with_16 rfl ?_
  refine hr_iload_n o 2 dX0_with_17 rfl ?_
  refine pr_callI o msX0_175 dX0_with_18 [.int l1, .int l2] (fun zr ze => mtX0_has l1 l2 zr ze) rfl rfl (Nat.le_of_ble_eq_true rfl) ⟨by decide, by decide⟩ (fun x5 => ?_)
  refine hr_if_ne o 27 dX0_with_21 (by decide) (fun _ => ?_) (fun _ => ?_)
  · refine hr_bipush o (-2 : Int32) dX0_with_24 (by decide) ?_
    exact hr_iret o dX0_with_26 rfl rfl
  refine hr_aload_n o 0 dX0_with_27 rfl ?_
  refine hx_callVV (q := (RX0, TX0, 23)) o og mvX0_228 dX0_with_28 1 0 rfl [] (fun zg ze => mtX0_fillsWorths l0 g3 zg ze) rfl rfl (Nat.le_of_ble_eq_true rfl) ⟨by decide, by decide⟩ (fun g6 => ?_)
  refine hr_iload_n o 1 dX0_with_31 rfl ?_
  refine hr_istore_n o [(3, .int l1), (0, .ref l0), (1, .int l1), (2, .int l2)] dX0_with_32 (by decide) rfl ?_
  refine hr_bipush o (-2 : Int32) dX0_with_33 (by decide) ?_
  refine hr_istore o [(4, .int (-2 : Int32)), (3, .int l1), (0, .ref l0), (1, .int l1), (2, .int l2)] dX0_with_35 (by decide) rfl ?_
  refine hr_sub [2, 4, 1, 0] rfl ?_
  exact llX0_with_37 o og hf_N l0 l2 l1 (-2 : Int32) g6
theorem mtX0_with {gs : hf_gs} (l0 : Nat) (l1 : Int32) (l2 : Int32) (V0 : hf_H) (r : Int32) (V1 : hf_H) (e : spX0_with l0 l1 l2 V0 = some (r, V1)) : hf_ConG gs yX0_with cX0_with 7 (some .int) 7 159 [.ref l0, .int l1, .int l2] V0 (.returned (some (.int r)), V1) := hf_entryG (dec := hf_dHI) (by decide) [.ref l0, .int l1, .int l2] (Nat.le_of_ble_eq_true rfl) [(0, .ref l0), (1, .int l1), (2, .int l2)] rfl e (fun C o og _ => jtX0_with o og l0 l1 l2 V0)

/-! X0_undo -/
theorem flX0_241 : hf_Fl RX0 241 0 15 := ⟨(RX0, TX0, 23), RX0, rfl, by decide, in_X0, tyX0_ok, nmX0, Or.inl q412, Or.inl rfl⟩
theorem nf_0_15 : hf_Nf 0 15 := ⟨(RX0, TX0, 23), rfl, rfl⟩
theorem flX0_64 : hf_Fl RX0 64 0 13 := ⟨(RX0, TX0, 23), RX0, rfl, by decide, in_X0, tyX0_ok, nmX0, Or.inl q410, Or.inl rfl⟩
theorem mvX0_244 : hf_MV RX0 244 RX2 yX2_copyFrom cX2_copyFrom 3 (none) 1 := ⟨lw_V q1087 q1088 q1089 q158 q1090, by decide +kernel⟩
def spX0_undo (l0 : Nat) (V0 : hf_H) : Option (Int32 × hf_H) :=
  (hf_gi 1 0 14 V0 l0).bind fun x1 =>
  if x1 = 0 then (some ((-1 : Int32), V0)) else
  (hf_gi 1 0 15 V0 l0).bind fun x2 =>
  if (20 : Int32) = 0 then none else
  (hf_pi 1 0 15 V0 l0 (((x2 + (20 : Int32)) - (1 : Int32)) - ((x2 + (20 : Int32)) - (1 : Int32)) / (20 : Int32) * (20 : Int32))).bind fun g3 =>
  (hf_gi 1 0 14 g3 l0).bind fun x4 =>
  (hf_pi 1 0 14 g3 l0 (x4 - (1 : Int32))).bind fun g5 =>
  (hf_ga 1 0 1 g5 l0).bind fun x6 =>
  (hf_ob 1 0 g5 l0).bind fun _ =>
  (hf_gi 1 0 15 g5 l0).bind fun x7 =>
  (hf_nn (hf_aq 0 13 20 g5 l0 x7)).bind fun x8 =>
  (hf_ob 1 2 g5 x6).bind fun _ =>
  (spX2_copyFrom x6 x8 g5).bind fun g9 =>
  (hf_gi 1 0 14 g9 l0).bind fun x10 =>
  some (x10, g9)
theorem jtX0_undo {C : hf_X} {gs : hf_gs} (o : hf_In C cX0_undo RX0 1 (some .int) 1 22) (og : hf_G C gs) (l0 : Nat) (V0 : hf_H) : hf_J C hf_dHI (spX0_undo l0 V0) V0 0 [(0, .ref l0)] [] := by
  refine hr_aload_n o 0 dX0_undo_0 rfl ?_
  refine hr_getI (md := 1) o flX0_248 dX0_undo_1 (fun _ => rfl) (fun x1 => ?_)
  refine hr_if_ne o 9 dX0_undo_4 (by decide) (fun _ => ?_) (fun _ => ?_)
  · refine hr_iconst o (-1 : Int32) dX0_undo_7 (by decide) ?_
    exact hr_iret o dX0_undo_8 rfl rfl
  refine hr_aload_n o 0 dX0_undo_9 rfl ?_
  refine hr_aload_n o 0 dX0_undo_10 rfl ?_
  refine hr_getI (md := 1) o flX0_241 dX0_undo_11 (fun _ => rfl) (fun x2 => ?_)
  refine hr_bipush o (20 : Int32) dX0_undo_14 (by decide) ?_
  refine hr_iadd o dX0_undo_16 ?_
  refine hr_iconst o (1 : Int32) dX0_undo_17 (by decide) ?_
  refine hr_isub o dX0_undo_18 ?_
  refine hr_bipush o (20 : Int32) dX0_undo_19 (by decide) ?_
  refine hr_irem o dX0_undo_21 (fun _ => ?_)
  refine hx_putI (md := 1) o flX0_241 dX0_undo_22 rfl (Or.inl nf_0_15) rfl rfl (fun _ => rfl) (fun g3 => ?_)
  refine hr_aload_n o 0 dX0_undo_25 rfl ?_
  refine hr_dup o dX0_undo_26 rfl ?_
  refine hr_getI (md := 1) o flX0_248 dX0_undo_27 (fun _ => rfl) (fun x4 => ?_)
  refine hr_iconst o (1 : Int32) dX0_undo_30 (by decide) ?_
  refine hr_isub o dX0_undo_31 ?_
  refine hx_putI (md := 1) o flX0_248 dX0_undo_32 rfl (Or.inl nf_0_14) rfl rfl (fun _ => rfl) (fun g5 => ?_)
  refine hr_aload_n o 0 dX0_undo_35 rfl ?_
  refine hr_getA (md := 1) o flX0_19 dX0_undo_36 (fun _ => rfl) (fun x6 => ?_)
  refine hr_aload_n o 0 dX0_undo_39 rfl ?_
  refine hr_getO o flX0_64 dX0_undo_40 25 (fun _ => rfl) (fun _ _ => ?_)
  refine hr_aload_n o 0 dX0_undo_43 rfl ?_
  refine hr_getI (md := 1) o flX0_241 dX0_undo_44 (fun _ => rfl) (fun x7 => ?_)
  refine hx_aald o 0 13 25 20 rfl (by decide) "HalfFair$State" rfl (by simp [hf_tys]) dX0_undo_47 (fun x8 => ?_)
  refine hx_callVV (q := (RX2, TX2, 5)) o og mvX0_244 dX0_undo_48 1 2 rfl [.ref x8] (fun zg ze => mtX2_copyFrom x6 x8 g5 zg ze) rfl rfl (Nat.le_of_ble_eq_true rfl) ⟨by decide, by decide⟩ (fun g9 => ?_)
  refine hr_aload_n o 0 dX0_undo_51 rfl ?_
  refine hr_getI (md := 1) o flX0_248 dX0_undo_52 (fun _ => rfl) (fun x10 => ?_)
  exact hr_iret o dX0_undo_55 rfl rfl
theorem mtX0_undo {gs : hf_gs} (l0 : Nat) (V0 : hf_H) (r : Int32) (V1 : hf_H) (e : spX0_undo l0 V0 = some (r, V1)) : hf_ConG gs yX0_undo cX0_undo 1 (some .int) 1 22 [.ref l0] V0 (.returned (some (.int r)), V1) := hf_entryG (dec := hf_dHI) (by decide) [.ref l0] (Nat.le_of_ble_eq_true rfl) [(0, .ref l0)] rfl e (fun C o og _ => jtX0_undo o og l0 V0)

/-! X0_keeps -/
def spX0_keeps (l0 : Nat) (V0 : hf_H) : Option hf_H :=
  (hf_ob 1 0 V0 l0).bind fun _ =>
  (hf_gi 1 0 15 V0 l0).bind fun x1 =>
  (hf_nn (hf_aq 0 13 20 V0 l0 x1)).bind fun x2 =>
  (hf_ga 1 0 1 V0 l0).bind fun x3 =>
  (hf_ob 1 2 V0 x2).bind fun _ =>
  (spX2_copyFrom x2 x3 V0).bind fun g4 =>
  (hf_gi 1 0 15 g4 l0).bind fun x5 =>
  if (20 : Int32) = 0 then none else
  (hf_pi 1 0 15 g4 l0 ((x5 + (1 : Int32)) - (x5 + (1 : Int32)) / (20 : Int32) * (20 : Int32))).bind fun g6 =>
  (hf_gi 1 0 14 g6 l0).bind fun x7 =>
  hf_let (if (x7 + (1 : Int32)) < (20 : Int32) then (x7 + (1 : Int32)) else (20 : Int32)) fun x8 =>
  (hf_pi 1 0 14 g6 l0 x8).bind fun g9 =>
  some g9
theorem jtX0_keeps {C : hf_X} {gs : hf_gs} (o : hf_In C cX0_keeps RX0 1 (none) 1 22) (og : hf_G C gs) (l0 : Nat) (V0 : hf_H) : hf_J C hf_dHV (spX0_keeps l0 V0) V0 0 [(0, .ref l0)] [] := by
  refine hr_aload_n o 0 dX0_keeps_0 rfl ?_
  refine hr_getO o flX0_64 dX0_keeps_1 25 (fun _ => rfl) (fun _ _ => ?_)
  refine hr_aload_n o 0 dX0_keeps_4 rfl ?_
  refine hr_getI (md := 1) o flX0_241 dX0_keeps_5 (fun _ => rfl) (fun x1 => ?_)
  refine hx_aald o 0 13 25 20 rfl (by decide) "HalfFair$State" rfl (by simp [hf_tys]) dX0_keeps_8 (fun x2 => ?_)
  refine hr_aload_n o 0 dX0_keeps_9 rfl ?_
  refine hr_getA (md := 1) o flX0_19 dX0_keeps_10 (fun _ => rfl) (fun x3 => ?_)
  refine hx_callVV (q := (RX2, TX2, 5)) o og mvX0_244 dX0_keeps_13 1 2 rfl [.ref x3] (fun zg ze => mtX2_copyFrom x2 x3 V0 zg ze) rfl rfl (Nat.le_of_ble_eq_true rfl) ⟨by decide, by decide⟩ (fun g4 => ?_)
  refine hr_aload_n o 0 dX0_keeps_16 rfl ?_
  refine hr_aload_n o 0 dX0_keeps_17 rfl ?_
  refine hr_getI (md := 1) o flX0_241 dX0_keeps_18 (fun _ => rfl) (fun x5 => ?_)
  refine hr_iconst o (1 : Int32) dX0_keeps_21 (by decide) ?_
  refine hr_iadd o dX0_keeps_22 ?_
  refine hr_bipush o (20 : Int32) dX0_keeps_23 (by decide) ?_
  refine hr_irem o dX0_keeps_25 (fun _ => ?_)
  refine hx_putI (md := 1) o flX0_241 dX0_keeps_26 rfl (Or.inl nf_0_15) rfl rfl (fun _ => rfl) (fun g6 => ?_)
  refine hr_aload_n o 0 dX0_keeps_29 rfl ?_
  refine hr_bipush o (20 : Int32) dX0_keeps_30 (by decide) ?_
  refine hr_aload_n o 0 dX0_keeps_32 rfl ?_
  refine hr_getI (md := 1) o flX0_248 dX0_keeps_33 (fun _ => rfl) (fun x7 => ?_)
  refine hr_iconst o (1 : Int32) dX0_keeps_36 (by decide) ?_
  refine hr_iadd o dX0_keeps_37 ?_
  refine hx_mmin o q1100 q709 q171 q710 (by decide) (Nat.le_of_ble_eq_true rfl) dX0_keeps_38 ?_
  refine hr_nmI (fun x8 => ?_)
  refine hx_putI (md := 1) o flX0_248 dX0_keeps_41 rfl (Or.inl nf_0_14) rfl rfl (fun _ => rfl) (fun g9 => ?_)
  exact hr_vret o dX0_keeps_44 rfl
theorem mtX0_keeps {gs : hf_gs} (l0 : Nat) (V0 V1 : hf_H) (e : spX0_keeps l0 V0 = some V1) : hf_ConG gs yX0_keeps cX0_keeps 1 (none) 1 22 [.ref l0] V0 (.returned none, V1) := hf_entryG (dec := hf_dHV) (by decide) [.ref l0] (Nat.le_of_ble_eq_true rfl) [(0, .ref l0)] rfl e (fun C o og _ => jtX0_keeps o og l0 V0)

/-! X0_go -/
theorem mvX0_256 : hf_MV RX0 256 RX0 yX0_keeps cX0_keeps 1 (none) 0 := ⟨lw_V q1096 q1098 qs42 q153 q1099, by decide +kernel⟩
theorem mvX0_259 : hf_MV RX0 259 RX2 yX2_goes cX2_goes 4 (none) 3 := ⟨lw_V q1101 q1102 q1103 q158 q1104, by decide +kernel⟩
theorem mvX0_263 : hf_MV RX0 263 RX2 yX2_passes cX2_passes 2 (none) 1 := ⟨lw_V q1105 q1106 q1107 q158 q1108, by decide +kernel⟩
def spX0_go (l0 : Nat) (l1 : Int32) (l2 : Int32) (V0 : hf_H) : Option (Int32 × hf_H) :=
  (hf_ob 1 0 V0 l0).bind fun _ =>
  hf_b2 (spX0_isBuyer l0 l1 V0) fun x2 g1 =>
  if x2 = 0 then (some ((-1 : Int32), g1)) else
  (spX0_in (Int32.toInt64 l2) (-1 : Int64) (1 : Int64)).bind fun x3 =>
  if x3 = 0 then (some ((-1 : Int32), g1)) else
  (hf_ga 1 0 1 g1 l0).bind fun x4 =>
  (hf_gi 1 2 4 g1 x4).bind fun x5 =>
  if x5 = (99 : Int32) then (some ((-1 : Int32), g1)) else
  (hf_ob 1 0 g1 l0).bind fun _ =>
  (spX0_keeps l0 g1).bind fun g6 =>
  (hf_ga 1 0 1 g6 l0).bind fun x7 =>
  (hf_ga 1 0 0 g6 l0).bind fun x8 =>
  (hf_ob 1 2 g6 x7).bind fun _ =>
  (spX2_goes x7 x8 l1 l2 g6).bind fun g9 =>
  (hf_ga 1 0 1 g9 l0).bind fun x10 =>
  (hf_ga 1 0 0 g9 l0).bind fun x11 =>
  (hf_ob 1 2 g9 x10).bind fun _ =>
  (spX2_passes x10 x11 g9).bind fun g12 =>
  (hf_ga 1 0 1 g12 l0).bind fun x13 =>
  (hf_gi 1 2 4 g12 x13).bind fun x14 =>
  some (x14, g12)
theorem jtX0_go {C : hf_X} {gs : hf_gs} (o : hf_In C cX0_go RX0 3 (some .int) 5 110) (og : hf_G C gs) (l0 : Nat) (l1 : Int32) (l2 : Int32) (V0 : hf_H) : hf_J C hf_dHI (spX0_go l0 l1 l2 V0) V0 0 [(0, .ref l0), (1, .int l1), (2, .int l2)] [] := by
  refine hr_aload_n o 0 dX0_go_0 rfl ?_
  refine hr_iload_n o 1 dX0_go_1 rfl ?_
  refine hx_callVI (q := (RX0, TX0, 23)) o og mvX0_186 dX0_go_2 1 0 rfl [.int l1] (fun zr zg ze => mtX0_isBuyer l0 l1 V0 zr zg ze) rfl rfl (Nat.le_of_ble_eq_true rfl) ⟨by decide, by decide⟩ (fun x2 g1 => ?_)
  refine hr_if_eq o 32 dX0_go_5 (by decide) (fun _ => ?_) (fun _ => ?_)
  · refine hr_iconst o (-1 : Int32) dX0_go_32 (by decide) ?_
    exact hr_iret o dX0_go_33 rfl rfl
  refine hr_iload_n o 2 dX0_go_8 rfl ?_
  refine hr_i2l o dX0_go_9 ?_
  refine hr_ldc2 o (-1 : Int64) q1095 dX0_go_10 ?_
  refine hr_lconst o (1 : Int64) dX0_go_13 (by decide) ?_
  refine pr_callI o msX0_106 dX0_go_14 [.long (Int32.toInt64 l2), .long (-1 : Int64), .long (1 : Int64)] (fun zr ze => mtX0_in (Int32.toInt64 l2) (-1 : Int64) (1 : Int64) zr ze) rfl rfl (Nat.le_of_ble_eq_true rfl) ⟨by decide, by decide⟩ (fun x3 => ?_)
  refine hr_if_eq o 32 dX0_go_17 (by decide) (fun _ => ?_) (fun _ => ?_)
  · refine hr_iconst o (-1 : Int32) dX0_go_32 (by decide) ?_
    exact hr_iret o dX0_go_33 rfl rfl
  refine hr_aload_n o 0 dX0_go_20 rfl ?_
  refine hr_getA (md := 1) o flX0_19 dX0_go_21 (fun _ => rfl) (fun x4 => ?_)
  refine hr_getI (md := 1) o flX0_165 dX0_go_24 (fun _ => rfl) (fun x5 => ?_)
  refine hr_bipush o (99 : Int32) dX0_go_27 (by decide) ?_
  refine hr_icmp_ne o 34 dX0_go_29 (by decide) (fun _ => ?_) (fun _ => ?_)
  · refine hr_iconst o (-1 : Int32) dX0_go_32 (by decide) ?_
    exact hr_iret o dX0_go_33 rfl rfl
  refine hr_aload_n o 0 dX0_go_34 rfl ?_
  refine hx_callVV (q := (RX0, TX0, 23)) o og mvX0_256 dX0_go_35 1 0 rfl [] (fun zg ze => mtX0_keeps l0 g1 zg ze) rfl rfl (Nat.le_of_ble_eq_true rfl) ⟨by decide, by decide⟩ (fun g6 => ?_)
  refine hr_aload_n o 0 dX0_go_38 rfl ?_
  refine hr_getA (md := 1) o flX0_19 dX0_go_39 (fun _ => rfl) (fun x7 => ?_)
  refine hr_aload_n o 0 dX0_go_42 rfl ?_
  refine hr_getA (md := 1) o flX0_12 dX0_go_43 (fun _ => rfl) (fun x8 => ?_)
  refine hr_iload_n o 1 dX0_go_46 rfl ?_
  refine hr_iload_n o 2 dX0_go_47 rfl ?_
  refine hx_callVV (q := (RX2, TX2, 5)) o og mvX0_259 dX0_go_48 1 2 rfl [.ref x8, .int l1, .int l2] (fun zg ze => mtX2_goes x7 x8 l1 l2 g6 zg ze) rfl rfl (Nat.le_of_ble_eq_true rfl) ⟨by decide, by decide⟩ (fun g9 => ?_)
  refine hr_aload_n o 0 dX0_go_51 rfl ?_
  refine hr_getA (md := 1) o flX0_19 dX0_go_52 (fun _ => rfl) (fun x10 => ?_)
  refine hr_aload_n o 0 dX0_go_55 rfl ?_
  refine hr_getA (md := 1) o flX0_12 dX0_go_56 (fun _ => rfl) (fun x11 => ?_)
  refine hx_callVV (q := (RX2, TX2, 5)) o og mvX0_263 dX0_go_59 1 2 rfl [.ref x11] (fun zg ze => mtX2_passes x10 x11 g9 zg ze) rfl rfl (Nat.le_of_ble_eq_true rfl) ⟨by decide, by decide⟩ (fun g12 => ?_)
  refine hr_aload_n o 0 dX0_go_62 rfl ?_
  refine hr_getA (md := 1) o flX0_19 dX0_go_63 (fun _ => rfl) (fun x13 => ?_)
  refine hr_getI (md := 1) o flX0_165 dX0_go_66 (fun _ => rfl) (fun x14 => ?_)
  exact hr_iret o dX0_go_69 rfl rfl
theorem mtX0_go {gs : hf_gs} (l0 : Nat) (l1 : Int32) (l2 : Int32) (V0 : hf_H) (r : Int32) (V1 : hf_H) (e : spX0_go l0 l1 l2 V0 = some (r, V1)) : hf_ConG gs yX0_go cX0_go 3 (some .int) 5 110 [.ref l0, .int l1, .int l2] V0 (.returned (some (.int r)), V1) := hf_entryG (dec := hf_dHI) (by decide) [.ref l0, .int l1, .int l2] (Nat.le_of_ble_eq_true rfl) [(0, .ref l0), (1, .int l1), (2, .int l2)] rfl e (fun C o og _ => jtX0_go o og l0 l1 l2 V0)

/-! X0_buy -/
theorem mvX0_266 : hf_MV RX0 266 RX2 yX2_canBuy cX2_canBuy 4 (some .boolean) 3 := ⟨lw_V q1113 q1114 q1115 q158 q1116, by decide +kernel⟩
theorem mvX0_270 : hf_MV RX0 270 RX2 yX2_buys cX2_buys 4 (none) 3 := ⟨lw_V q1118 q1119 q1120 q158 q1121, by decide +kernel⟩
def spX0_buy (l0 : Nat) (l1 : Int32) (l2 : Int32) (V0 : hf_H) : Option (Int32 × hf_H) :=
  (hf_ob 1 0 V0 l0).bind fun _ =>
  hf_b2 (spX0_isBuyer l0 l1 V0) fun x2 g1 =>
  if x2 = 0 then (some ((-1 : Int32), g1)) else
  (hf_ob 1 0 g1 l0).bind fun _ =>
  hf_b2 (spX0_isHalf l0 l2 g1) fun x4 g3 =>
  if x4 = 0 then (some ((-1 : Int32), g3)) else
  (hf_ga 1 0 1 g3 l0).bind fun x5 =>
  (hf_ga 1 0 0 g3 l0).bind fun x6 =>
  (hf_ob 1 2 g3 x5).bind fun _ =>
  hf_b2 (spX2_canBuy x5 x6 l1 l2 g3) fun x8 g7 =>
  if x8 = 0 then (some ((-1 : Int32), g7)) else
  (hf_ob 1 0 g7 l0).bind fun _ =>
  (spX0_keeps l0 g7).bind fun g9 =>
  (hf_ga 1 0 1 g9 l0).bind fun x10 =>
  (hf_ga 1 0 0 g9 l0).bind fun x11 =>
  (hf_ob 1 2 g9 x10).bind fun _ =>
  (spX2_buys x10 x11 l1 l2 g9).bind fun g12 =>
  (hf_ga 1 0 1 g12 l0).bind fun x13 =>
  (hf_ob 1 2 g12 x13).bind fun _ =>
  (hf_ai 2 1 4 g12 x13 l1).bind fun x14 =>
  some (x14, g12)
theorem jtX0_buy {C : hf_X} {gs : hf_gs} (o : hf_In C cX0_buy RX0 3 (some .int) 5 109) (og : hf_G C gs) (l0 : Nat) (l1 : Int32) (l2 : Int32) (V0 : hf_H) : hf_J C hf_dHI (spX0_buy l0 l1 l2 V0) V0 0 [(0, .ref l0), (1, .int l1), (2, .int l2)] [] := by
  refine hr_aload_n o 0 dX0_buy_0 rfl ?_
  refine hr_iload_n o 1 dX0_buy_1 rfl ?_
  refine hx_callVI (q := (RX0, TX0, 23)) o og mvX0_186 dX0_buy_2 1 0 rfl [.int l1] (fun zr zg ze => mtX0_isBuyer l0 l1 V0 zr zg ze) rfl rfl (Nat.le_of_ble_eq_true rfl) ⟨by decide, by decide⟩ (fun x2 g1 => ?_)
  refine hr_if_eq o 32 dX0_buy_5 (by decide) (fun _ => ?_) (fun _ => ?_)
  · refine hr_iconst o (-1 : Int32) dX0_buy_32 (by decide) ?_
    exact hr_iret o dX0_buy_33 rfl rfl
  refine hr_aload_n o 0 dX0_buy_8 rfl ?_
  refine hr_iload_n o 2 dX0_buy_9 rfl ?_
  refine hx_callVI (q := (RX0, TX0, 23)) o og mvX0_149 dX0_buy_10 1 0 rfl [.int l2] (fun zr zg ze => mtX0_isHalf l0 l2 g1 zr zg ze) rfl rfl (Nat.le_of_ble_eq_true rfl) ⟨by decide, by decide⟩ (fun x4 g3 => ?_)
  refine hr_if_eq o 32 dX0_buy_13 (by decide) (fun _ => ?_) (fun _ => ?_)
  · refine hr_iconst o (-1 : Int32) dX0_buy_32 (by decide) ?_
    exact hr_iret o dX0_buy_33 rfl rfl
  refine hr_aload_n o 0 dX0_buy_16 rfl ?_
  refine hr_getA (md := 1) o flX0_19 dX0_buy_17 (fun _ => rfl) (fun x5 => ?_)
  refine hr_aload_n o 0 dX0_buy_20 rfl ?_
  refine hr_getA (md := 1) o flX0_12 dX0_buy_21 (fun _ => rfl) (fun x6 => ?_)
  refine hr_iload_n o 1 dX0_buy_24 rfl ?_
  refine hr_iload_n o 2 dX0_buy_25 rfl ?_
  refine hx_callVI (q := (RX2, TX2, 5)) o og mvX0_266 dX0_buy_26 1 2 rfl [.ref x6, .int l1, .int l2] (fun zr zg ze => mtX2_canBuy x5 x6 l1 l2 g3 zr zg ze) rfl rfl (Nat.le_of_ble_eq_true rfl) ⟨by decide, by decide⟩ (fun x8 g7 => ?_)
  refine hr_if_ne o 34 dX0_buy_29 (by decide) (fun _ => ?_) (fun _ => ?_)
  · refine hr_iconst o (-1 : Int32) dX0_buy_32 (by decide) ?_
    exact hr_iret o dX0_buy_33 rfl rfl
  refine hr_aload_n o 0 dX0_buy_34 rfl ?_
  refine hx_callVV (q := (RX0, TX0, 23)) o og mvX0_256 dX0_buy_35 1 0 rfl [] (fun zg ze => mtX0_keeps l0 g7 zg ze) rfl rfl (Nat.le_of_ble_eq_true rfl) ⟨by decide, by decide⟩ (fun g9 => ?_)
  refine hr_aload_n o 0 dX0_buy_38 rfl ?_
  refine hr_getA (md := 1) o flX0_19 dX0_buy_39 (fun _ => rfl) (fun x10 => ?_)
  refine hr_aload_n o 0 dX0_buy_42 rfl ?_
  refine hr_getA (md := 1) o flX0_12 dX0_buy_43 (fun _ => rfl) (fun x11 => ?_)
  refine hr_iload_n o 1 dX0_buy_46 rfl ?_
  refine hr_iload_n o 2 dX0_buy_47 rfl ?_
  refine hx_callVV (q := (RX2, TX2, 5)) o og mvX0_270 dX0_buy_48 1 2 rfl [.ref x11, .int l1, .int l2] (fun zg ze => mtX2_buys x10 x11 l1 l2 g9 zg ze) rfl rfl (Nat.le_of_ble_eq_true rfl) ⟨by decide, by decide⟩ (fun g12 => ?_)
  refine hr_aload_n o 0 dX0_buy_51 rfl ?_
  refine hr_getA (md := 1) o flX0_19 dX0_buy_52 (fun _ => rfl) (fun x13 => ?_)
  refine hr_getO o flX0_189 dX0_buy_55 2 (fun _ => rfl) (fun _ _ => ?_)
  refine hr_iload_n o 1 dX0_buy_58 rfl ?_
  refine hx_iald o 2 1 2 4 rfl (by decide) rfl dX0_buy_59 (fun x14 => ?_)
  exact hr_iret o dX0_buy_60 rfl rfl
theorem mtX0_buy {gs : hf_gs} (l0 : Nat) (l1 : Int32) (l2 : Int32) (V0 : hf_H) (r : Int32) (V1 : hf_H) (e : spX0_buy l0 l1 l2 V0 = some (r, V1)) : hf_ConG gs yX0_buy cX0_buy 3 (some .int) 5 109 [.ref l0, .int l1, .int l2] V0 (.returned (some (.int r)), V1) := hf_entryG (dec := hf_dHI) (by decide) [.ref l0, .int l1, .int l2] (Nat.le_of_ble_eq_true rfl) [(0, .ref l0), (1, .int l1), (2, .int l2)] rfl e (fun C o og _ => jtX0_buy o og l0 l1 l2 V0)

/-! X0_heard -/
theorem flX0_276 : hf_Fl RX0 276 1 5 := ⟨(RX1, TX1, 13), RX1, rfl, by decide, in_X1, tyX1_ok, nmX1, Or.inr ⟨"HalfFair", q249⟩, Or.inl rfl⟩
theorem mvX0_279 : hf_MV RX0 279 RX1 yX1_far cX1_far 4 (some .int) 2 := ⟨lw_V q1131 q1132 q1133 q154 q1134, by decide +kernel⟩
theorem flX0_282 : hf_Fl RX0 282 1 8 := ⟨(RX1, TX1, 13), RX1, rfl, by decide, in_X1, tyX1_ok, nmX1, Or.inr ⟨"HalfFair", q256⟩, Or.inl rfl⟩
def ndX0_heard_130 (k5 : Nat → Int32 → Int32 → Int32 → Int32 → hf_H → Option (Int32 × hf_H)) (l0 : Nat) (l1 : Int32) (l2 : Int32) (l3 : Int32) (l4 : Int32) (V0 : hf_H) : Option (Int32 × hf_H) :=
  hf_let (l4 + (1 : Int32)) fun x1 =>
  k5 l0 l1 l2 l3 x1 V0
theorem nlX0_heard_130 {C : hf_X} {gs : hf_gs} (o : hf_In C cX0_heard RX0 6 (some .int) 3 64) (og : hf_G C gs) (k5 : Nat → Int32 → Int32 → Int32 → Int32 → hf_H → Option (Int32 × hf_H)) (hk5 : ∀ (l0 : Nat) (l1 : Int32) (l2 : Int32) (l3 : Int32) (l4 : Int32) (V0 : hf_H), hf_J C hf_dHI (k5 l0 l1 l2 l3 l4 V0) V0 5 [(0, .ref l0), (1, .int l1), (2, .int l2), (3, .int l3), (4, .int l4)] []) (l0 : Nat) (l1 : Int32) (l2 : Int32) (l3 : Int32) (l4 : Int32) (V0 : hf_H) : hf_J C hf_dHI (ndX0_heard_130 k5 l0 l1 l2 l3 l4 V0) V0 130 [(0, .ref l0), (1, .int l1), (2, .int l2), (3, .int l3), (4, .int l4)] [] := by
  refine hr_iincN o (1 : Int32) 4 (fun y => [(4, .int y), (0, .ref l0), (1, .int l1), (2, .int l2), (3, .int l3)]) dX0_heard_130 rfl (by decide) (by decide) (fun y => rfl) (fun x1 => ?_)
  refine hr_goto o 5 dX0_heard_133 (by decide) ?_
  refine hr_sub [1, 2, 3, 4, 0] rfl ?_
  exact hk5 l0 l1 l2 l3 x1 V0
def ndX0_heard_128 (k5 : Nat → Int32 → Int32 → Int32 → Int32 → hf_H → Option (Int32 × hf_H)) (l0 : Nat) (l1 : Int32) (l2 : Int32) (l4 : Int32) (s0 : Int32) (s1 : Int32) (V0 : hf_H) : Option (Int32 × hf_H) :=
  hf_let (s0 ||| s1) fun x1 =>
  ndX0_heard_130 k5 l0 l1 l2 x1 l4 V0
theorem nlX0_heard_128 {C : hf_X} {gs : hf_gs} (o : hf_In C cX0_heard RX0 6 (some .int) 3 64) (og : hf_G C gs) (k5 : Nat → Int32 → Int32 → Int32 → Int32 → hf_H → Option (Int32 × hf_H)) (hk5 : ∀ (l0 : Nat) (l1 : Int32) (l2 : Int32) (l3 : Int32) (l4 : Int32) (V0 : hf_H), hf_J C hf_dHI (k5 l0 l1 l2 l3 l4 V0) V0 5 [(0, .ref l0), (1, .int l1), (2, .int l2), (3, .int l3), (4, .int l4)] []) (l0 : Nat) (l1 : Int32) (l2 : Int32) (l4 : Int32) (s0 : Int32) (s1 : Int32) (V0 : hf_H) : hf_J C hf_dHI (ndX0_heard_128 k5 l0 l1 l2 l4 s0 s1 V0) V0 128 [(0, .ref l0), (1, .int l1), (2, .int l2), (4, .int l4)] [.int s1, .int s0] := by
  refine hr_ior o dX0_heard_128 ?_
  refine hr_nmI (fun x1 => ?_)
  refine hr_istore_n o [(3, .int x1), (0, .ref l0), (1, .int l1), (2, .int l2), (4, .int l4)] dX0_heard_129 (by decide) rfl ?_
  refine hr_sub [1, 2, 3, 0, 4] rfl ?_
  exact nlX0_heard_130 o og k5 hk5 l0 l1 l2 x1 l4 V0
def ndX0_heard_5 (k5 : Nat → Int32 → Int32 → Int32 → Int32 → hf_H → Option (Int32 × hf_H)) (l0 : Nat) (l1 : Int32) (l2 : Int32) (l3 : Int32) (l4 : Int32) (V0 : hf_H) : Option (Int32 × hf_H) :=
  (hf_ob 1 0 V0 l0).bind fun _ =>
  hf_b2 (spX0_many l0 V0) fun x2 g1 =>
  if x2 ≤ l4 then (some (l3, g1)) else
  (hf_ga 1 0 1 g1 l0).bind fun x3 =>
  (hf_ob 1 2 g1 x3).bind fun _ =>
  (hf_ai 2 0 12 g1 x3 l4).bind fun x4 =>
  if (100 : Int32) ≤ x4 then (ndX0_heard_130 k5 l0 l1 l2 l3 l4 g1) else
  (hf_ga 1 0 0 g1 l0).bind fun x5 =>
  (hf_ga 1 1 0 g1 x5).bind fun x6 =>
  (hf_ob 0 19 g1 x6).bind fun _ =>
  hf_b2 (spJ2_get x6 l4 g1) fun x8 g7 =>
  (hf_ob 0 6 g7 x8).bind fun _ =>
  (hf_gi 0 6 1 g7 x8).bind fun x9 =>
  hf_let (if 0 ≤ (x9 - l2) then (x9 - l2) else 0 - (x9 - l2)) fun x10 =>
  (hf_ga 1 0 0 g7 l0).bind fun x11 =>
  (hf_gi 1 1 5 g7 x11).bind fun x12 =>
  if x10 ≤ x12 then ((hf_ga 1 0 0 g7 l0).bind fun x13 =>
  (hf_ga 1 0 1 g7 l0).bind fun x14 =>
  (hf_ob 1 2 g7 x14).bind fun _ =>
  (hf_ai 2 0 12 g7 x14 l4).bind fun x15 =>
  (hf_ga 1 0 1 g7 l0).bind fun x16 =>
  (hf_gi 1 2 4 g7 x16).bind fun x17 =>
  (hf_ob 1 1 g7 x13).bind fun _ =>
  hf_b2 (spX1_spotOf x13 x15 x17 g7) fun x19 g18 =>
  (hf_ga 1 0 0 g18 l0).bind fun x20 =>
  (hf_ga 1 0 1 g18 l0).bind fun x21 =>
  (hf_ob 1 2 g18 x21).bind fun _ =>
  (hf_ai 2 2 4 g18 x21 l1).bind fun x22 =>
  (hf_ob 1 1 g18 x20).bind fun _ =>
  hf_b2 (spX1_far x20 x19 x22 g18) fun x24 g23 =>
  (hf_ga 1 0 0 g23 l0).bind fun x25 =>
  (hf_gi 1 1 8 g23 x25).bind fun x26 =>
  if x26 < x24 then (ndX0_heard_128 k5 l0 l1 l2 l4 l3 (0 : Int32) g23) else
  ndX0_heard_128 k5 l0 l1 l2 l4 l3 ((1 : Int32) <<< (l4 &&& 31)) g23) else
  ndX0_heard_130 k5 l0 l1 l2 l3 l4 g7
theorem nlX0_heard_5 {C : hf_X} {gs : hf_gs} (o : hf_In C cX0_heard RX0 6 (some .int) 3 64) (og : hf_G C gs) (k5 : Nat → Int32 → Int32 → Int32 → Int32 → hf_H → Option (Int32 × hf_H)) (hk5 : ∀ (l0 : Nat) (l1 : Int32) (l2 : Int32) (l3 : Int32) (l4 : Int32) (V0 : hf_H), hf_J C hf_dHI (k5 l0 l1 l2 l3 l4 V0) V0 5 [(0, .ref l0), (1, .int l1), (2, .int l2), (3, .int l3), (4, .int l4)] []) (l0 : Nat) (l1 : Int32) (l2 : Int32) (l3 : Int32) (l4 : Int32) (V0 : hf_H) : hf_J C hf_dHI (ndX0_heard_5 k5 l0 l1 l2 l3 l4 V0) V0 5 [(0, .ref l0), (1, .int l1), (2, .int l2), (3, .int l3), (4, .int l4)] [] := by
  refine hr_iload o 4 dX0_heard_5 rfl ?_
  refine hr_aload_n o 0 dX0_heard_7 rfl ?_
  refine hx_callVI (q := (RX0, TX0, 23)) o og mvX0_103 dX0_heard_8 1 0 rfl [] (fun zr zg ze => mtX0_many l0 V0 zr zg ze) rfl rfl (Nat.le_of_ble_eq_true rfl) ⟨by decide, by decide⟩ (fun x2 g1 => ?_)
  refine hr_icmp_ge o 136 dX0_heard_11 (by decide) (fun _ => ?_) (fun _ => ?_)
  · refine hr_iload_n o 3 dX0_heard_136 rfl ?_
    exact hr_iret o dX0_heard_137 rfl rfl
  refine hr_aload_n o 0 dX0_heard_14 rfl ?_
  refine hr_getA (md := 1) o flX0_19 dX0_heard_15 (fun _ => rfl) (fun x3 => ?_)
  refine hr_getO o flX0_172 dX0_heard_18 1 (fun _ => rfl) (fun _ _ => ?_)
  refine hr_iload o 4 dX0_heard_21 rfl ?_
  refine hx_iald o 2 0 1 12 rfl (by decide) rfl dX0_heard_23 (fun x4 => ?_)
  refine hr_bipush o (100 : Int32) dX0_heard_24 (by decide) ?_
  refine hr_icmp_ge o 130 dX0_heard_26 (by decide) (fun _ => ?_) (fun _ => ?_)
  · exact nlX0_heard_130 o og k5 hk5 l0 l1 l2 l3 l4 g1
  refine hr_aload_n o 0 dX0_heard_29 rfl ?_
  refine hr_getA (md := 1) o flX0_12 dX0_heard_30 (fun _ => rfl) (fun x5 => ?_)
  refine hr_getA (md := 1) o flX0_93 dX0_heard_33 (fun _ => rfl) (fun x6 => ?_)
  refine hr_iload o 4 dX0_heard_36 rfl ?_
  refine hx_callVA (q := (RJ2, TJ2, 3)) o og mvX0_153 dX0_heard_38 0 19 rfl [.int l4] (fun zr zg ze => mtJ2_get x6 l4 g1 zr zg ze) rfl rfl (Nat.le_of_ble_eq_true rfl) ⟨by decide, by decide⟩ (fun x8 g7 => ?_)
  refine hx_cast (md := 0) (ci := 6) (q := (RX6, TX6, 4)) o q990 rfl dX0_heard_41 (fun _ => ?_)
  refine hr_getI (md := 0) o flX0_159 dX0_heard_44 (fun _ => rfl) (fun x9 => ?_)
  refine hr_iload_n o 2 dX0_heard_47 rfl ?_
  refine hr_isub o dX0_heard_48 ?_
  refine hx_mabs o q1130 q1014 q171 q1015 (by decide) (Nat.le_of_ble_eq_true rfl) dX0_heard_49 ?_
  refine hr_nmI (fun x10 => ?_)
  refine hr_aload_n o 0 dX0_heard_52 rfl ?_
  refine hr_getA (md := 1) o flX0_12 dX0_heard_53 (fun _ => rfl) (fun x11 => ?_)
  refine hr_getI (md := 1) o flX0_276 dX0_heard_56 (fun _ => rfl) (fun x12 => ?_)
  refine hr_icmp_le o 65 dX0_heard_59 (by decide) (fun _ => ?_) (fun _ => ?_)
  · refine hr_aload_n o 0 dX0_heard_65 rfl ?_
    refine hr_getA (md := 1) o flX0_12 dX0_heard_66 (fun _ => rfl) (fun x13 => ?_)
    refine hr_aload_n o 0 dX0_heard_69 rfl ?_
    refine hr_getA (md := 1) o flX0_19 dX0_heard_70 (fun _ => rfl) (fun x14 => ?_)
    refine hr_getO o flX0_172 dX0_heard_73 1 (fun _ => rfl) (fun _ _ => ?_)
    refine hr_iload o 4 dX0_heard_76 rfl ?_
    refine hx_iald o 2 0 1 12 rfl (by decide) rfl dX0_heard_78 (fun x15 => ?_)
    refine hr_aload_n o 0 dX0_heard_79 rfl ?_
    refine hr_getA (md := 1) o flX0_19 dX0_heard_80 (fun _ => rfl) (fun x16 => ?_)
    refine hr_getI (md := 1) o flX0_165 dX0_heard_83 (fun _ => rfl) (fun x17 => ?_)
    refine hx_callVI (q := (RX1, TX1, 13)) o og mvX0_214 dX0_heard_86 1 1 rfl [.int x15, .int x17] (fun zr zg ze => mtX1_spotOf x13 x15 x17 g7 zr zg ze) rfl rfl (Nat.le_of_ble_eq_true rfl) ⟨by decide, by decide⟩ (fun x19 g18 => ?_)
    refine hr_istore o [(5, .int x19), (0, .ref l0), (1, .int l1), (2, .int l2), (3, .int l3), (4, .int l4)] dX0_heard_89 (by decide) rfl ?_
    refine hr_iload_n o 4 dX0_heard_91 rfl ?_
    refine hr_aload_n o 1 dX0_heard_92 rfl ?_
    refine hr_getA (md := 1) o flX0_12 dX0_heard_93 (fun _ => rfl) (fun x20 => ?_)
    refine hr_iload o 0 dX0_heard_96 rfl ?_
    refine hr_aload_n o 1 dX0_heard_98 rfl ?_
    refine hr_getA (md := 1) o flX0_19 dX0_heard_99 (fun _ => rfl) (fun x21 => ?_)
    refine hr_getO o flX0_192 dX0_heard_102 3 (fun _ => rfl) (fun _ _ => ?_)
    refine hr_iload_n o 2 dX0_heard_105 rfl ?_
    refine hx_iald o 2 2 3 4 rfl (by decide) rfl dX0_heard_106 (fun x22 => ?_)
    refine hx_callVI (q := (RX1, TX1, 13)) o og mvX0_279 dX0_heard_107 1 1 rfl [.int x19, .int x22] (fun zr zg ze => mtX1_far x20 x19 x22 g18 zr zg ze) rfl rfl (Nat.le_of_ble_eq_true rfl) ⟨by decide, by decide⟩ (fun x24 g23 => ?_)
    refine hr_aload_n o 1 dX0_heard_110 rfl ?_
    refine hr_getA (md := 1) o flX0_12 dX0_heard_111 (fun _ => rfl) (fun x25 => ?_)
    refine hr_getI (md := 1) o flX0_282 dX0_heard_114 (fun _ => rfl) (fun x26 => ?_)
    refine hr_icmp_gt o 127 dX0_heard_117 (by decide) (fun _ => ?_) (fun _ => ?_)
    · refine hr_iconst o (0 : Int32) dX0_heard_127 (by decide) ?_
      refine hr_sub [1, 2, 3, 5] rfl ?_
      exact nlX0_heard_128 o og k5 hk5 l0 l1 l2 l4 l3 (0 : Int32) g23
    refine hr_iconst o (1 : Int32) dX0_heard_120 (by decide) ?_
    refine hr_iload o 5 dX0_heard_121 rfl ?_
    refine hr_ishl o dX0_heard_123 ?_
    refine hr_goto o 128 dX0_heard_124 (by decide) ?_
    refine hr_sub [1, 2, 3, 5] rfl ?_
    exact nlX0_heard_128 o og k5 hk5 l0 l1 l2 l4 l3 ((1 : Int32) <<< (l4 &&& 31)) g23
  refine hr_goto o 130 dX0_heard_62 (by decide) ?_
  exact nlX0_heard_130 o og k5 hk5 l0 l1 l2 l3 l4 g7
def lpX0_heard_5  : Nat → Nat → Int32 → Int32 → Int32 → Int32 → hf_H → Option (Int32 × hf_H)
  | 0 => fun _ _ _ _ _ _ => none
  | n + 1 => fun l0 l1 l2 l3 l4 V0 => ndX0_heard_5  (lpX0_heard_5  n) l0 l1 l2 l3 l4 V0
theorem llX0_heard_5 {C : hf_X} {gs : hf_gs} (o : hf_In C cX0_heard RX0 6 (some .int) 3 64) (og : hf_G C gs)   (n : Nat) : ∀ (l0 : Nat) (l1 : Int32) (l2 : Int32) (l3 : Int32) (l4 : Int32) (V0 : hf_H), hf_J C hf_dHI ((lpX0_heard_5  n) l0 l1 l2 l3 l4 V0) V0 5 [(0, .ref l0), (1, .int l1), (2, .int l2), (3, .int l3), (4, .int l4)] [] := by
  induction n with
  | zero => exact fun _ _ _ _ _ _ => hr_none
  | succ n ih => exact fun l0 l1 l2 l3 l4 V0 => nlX0_heard_5 o og  (lpX0_heard_5  n)  ih l0 l1 l2 l3 l4 V0
def spX0_heard (l0 : Nat) (l1 : Int32) (l2 : Int32) (V0 : hf_H) : Option (Int32 × hf_H) :=
  lpX0_heard_5 hf_N l0 l1 l2 (0 : Int32) (0 : Int32) V0
theorem jtX0_heard {C : hf_X} {gs : hf_gs} (o : hf_In C cX0_heard RX0 6 (some .int) 3 64) (og : hf_G C gs) (l0 : Nat) (l1 : Int32) (l2 : Int32) (V0 : hf_H) : hf_J C hf_dHI (spX0_heard l0 l1 l2 V0) V0 0 [(0, .ref l0), (1, .int l1), (2, .int l2)] [] := by
  refine hr_iconst o (0 : Int32) dX0_heard_0 (by decide) ?_
  refine hr_istore_n o [(3, .int (0 : Int32)), (0, .ref l0), (1, .int l1), (2, .int l2)] dX0_heard_1 (by decide) rfl ?_
  refine hr_iconst o (0 : Int32) dX0_heard_2 (by decide) ?_
  refine hr_istore o [(4, .int (0 : Int32)), (3, .int (0 : Int32)), (0, .ref l0), (1, .int l1), (2, .int l2)] dX0_heard_3 (by decide) rfl ?_
  refine hr_sub [2, 3, 4, 1, 0] rfl ?_
  exact llX0_heard_5 o og hf_N l0 l1 l2 (0 : Int32) (0 : Int32) V0
theorem mtX0_heard {gs : hf_gs} (l0 : Nat) (l1 : Int32) (l2 : Int32) (V0 : hf_H) (r : Int32) (V1 : hf_H) (e : spX0_heard l0 l1 l2 V0 = some (r, V1)) : hf_ConG gs yX0_heard cX0_heard 6 (some .int) 3 64 [.ref l0, .int l1, .int l2] V0 (.returned (some (.int r)), V1) := hf_entryG (dec := hf_dHI) (by decide) [.ref l0, .int l1, .int l2] (Nat.le_of_ble_eq_true rfl) [(0, .ref l0), (1, .int l1), (2, .int l2)] rfl e (fun C o og _ => jtX0_heard o og l0 l1 l2 V0)

/-! X0_shout -/
theorem mvX0_285 : hf_MV RX0 285 RX0 yX0_heard cX0_heard 6 (some .int) 2 := ⟨lw_V q1126 q1128 qs43 q153 q1129, by decide +kernel⟩
theorem flX0_288 : hf_Fl RX0 288 2 3 := ⟨(RX2, TX2, 5), RX2, rfl, by decide, in_X2, tyX2_ok, nmX2, Or.inr ⟨"HalfFair", q303⟩, Or.inl rfl⟩
theorem msX0_291 : hf_MS RX0 291 yJ14_bitCount cJ14_bitCount 1 (some .int) 1 := ⟨lw_S q1136 q1137 q186 q1138, by decide +kernel⟩
def spX0_shout (l0 : Nat) (l1 : Int32) (l2 : Int32) (V0 : hf_H) : Option (Int32 × hf_H) :=
  (hf_ob 1 0 V0 l0).bind fun _ =>
  hf_b2 (spX0_isBuyer l0 l1 V0) fun x2 g1 =>
  if x2 = 0 then (some ((-1 : Int32), g1)) else
  (spX0_in (Int32.toInt64 l2) (0 : Int64) (99 : Int64)).bind fun x3 =>
  if x3 = 0 then (some ((-1 : Int32), g1)) else
  (hf_ga 1 0 1 g1 l0).bind fun x4 =>
  (hf_ob 1 2 g1 x4).bind fun _ =>
  (hf_ai 2 1 4 g1 x4 l1).bind fun x5 =>
  if x5 = 0 then (some ((-1 : Int32), g1)) else
  (hf_ob 1 0 g1 l0).bind fun _ =>
  (spX0_keeps l0 g1).bind fun g6 =>
  (hf_ob 1 0 g6 l0).bind fun _ =>
  hf_b2 (spX0_heard l0 l1 l2 g6) fun x8 g7 =>
  (hf_ga 1 0 1 g7 l0).bind fun x9 =>
  (hf_ob 1 2 g7 x9).bind fun _ =>
  (hf_ai 2 3 4 g7 x9 l1).bind fun x10 =>
  hf_let (x8 &&& (x10 ^^^ (-1 : Int32))) fun x11 =>
  (hf_ga 1 0 1 g7 l0).bind fun x12 =>
  (hf_ob 1 2 g7 x12).bind fun _ =>
  (hf_ai 2 1 4 g7 x12 l1).bind fun x13 =>
  (hf_si 2 1 4 g7 x12 l1 (x13 - (1 : Int32))).bind fun g14 =>
  (hf_ga 1 0 1 g14 l0).bind fun x15 =>
  (hf_ob 1 2 g14 x15).bind fun _ =>
  (hf_ai 2 3 4 g14 x15 l1).bind fun x16 =>
  (hf_si 2 3 4 g14 x15 l1 (x16 ||| x11)).bind fun g17 =>
  (spJ14_bitCount x11).bind fun x18 =>
  some (x18, g17)
theorem jtX0_shout {C : hf_X} {gs : hf_gs} (o : hf_In C cX0_shout RX0 4 (some .int) 4 89) (og : hf_G C gs) (l0 : Nat) (l1 : Int32) (l2 : Int32) (V0 : hf_H) : hf_J C hf_dHI (spX0_shout l0 l1 l2 V0) V0 0 [(0, .ref l0), (1, .int l1), (2, .int l2)] [] := by
  refine hr_aload_n o 0 dX0_shout_0 rfl ?_
  refine hr_iload_n o 1 dX0_shout_1 rfl ?_
  refine hx_callVI (q := (RX0, TX0, 23)) o og mvX0_186 dX0_shout_2 1 0 rfl [.int l1] (fun zr zg ze => mtX0_isBuyer l0 l1 V0 zr zg ze) rfl rfl (Nat.le_of_ble_eq_true rfl) ⟨by decide, by decide⟩ (fun x2 g1 => ?_)
  refine hr_if_eq o 32 dX0_shout_5 (by decide) (fun _ => ?_) (fun _ => ?_)
  · refine hr_iconst o (-1 : Int32) dX0_shout_32 (by decide) ?_
    exact hr_iret o dX0_shout_33 rfl rfl
  refine hr_iload_n o 2 dX0_shout_8 rfl ?_
  refine hr_i2l o dX0_shout_9 ?_
  refine hr_lconst o (0 : Int64) dX0_shout_10 (by decide) ?_
  refine hr_ldc2 o (99 : Int64) q1061 dX0_shout_11 ?_
  refine pr_callI o msX0_106 dX0_shout_14 [.long (Int32.toInt64 l2), .long (0 : Int64), .long (99 : Int64)] (fun zr ze => mtX0_in (Int32.toInt64 l2) (0 : Int64) (99 : Int64) zr ze) rfl rfl (Nat.le_of_ble_eq_true rfl) ⟨by decide, by decide⟩ (fun x3 => ?_)
  refine hr_if_eq o 32 dX0_shout_17 (by decide) (fun _ => ?_) (fun _ => ?_)
  · refine hr_iconst o (-1 : Int32) dX0_shout_32 (by decide) ?_
    exact hr_iret o dX0_shout_33 rfl rfl
  refine hr_aload_n o 0 dX0_shout_20 rfl ?_
  refine hr_getA (md := 1) o flX0_19 dX0_shout_21 (fun _ => rfl) (fun x4 => ?_)
  refine hr_getO o flX0_189 dX0_shout_24 2 (fun _ => rfl) (fun _ _ => ?_)
  refine hr_iload_n o 1 dX0_shout_27 rfl ?_
  refine hx_iald o 2 1 2 4 rfl (by decide) rfl dX0_shout_28 (fun x5 => ?_)
  refine hr_if_ne o 34 dX0_shout_29 (by decide) (fun _ => ?_) (fun _ => ?_)
  · refine hr_iconst o (-1 : Int32) dX0_shout_32 (by decide) ?_
    exact hr_iret o dX0_shout_33 rfl rfl
  refine hr_aload_n o 0 dX0_shout_34 rfl ?_
  refine hx_callVV (q := (RX0, TX0, 23)) o og mvX0_256 dX0_shout_35 1 0 rfl [] (fun zg ze => mtX0_keeps l0 g1 zg ze) rfl rfl (Nat.le_of_ble_eq_true rfl) ⟨by decide, by decide⟩ (fun g6 => ?_)
  refine hr_aload_n o 0 dX0_shout_38 rfl ?_
  refine hr_iload_n o 1 dX0_shout_39 rfl ?_
  refine hr_iload_n o 2 dX0_shout_40 rfl ?_
  refine hx_callVI (q := (RX0, TX0, 23)) o og mvX0_285 dX0_shout_41 1 0 rfl [.int l1, .int l2] (fun zr zg ze => mtX0_heard l0 l1 l2 g6 zr zg ze) rfl rfl (Nat.le_of_ble_eq_true rfl) ⟨by decide, by decide⟩ (fun x8 g7 => ?_)
  refine hr_aload_n o 0 dX0_shout_44 rfl ?_
  refine hr_getA (md := 1) o flX0_19 dX0_shout_45 (fun _ => rfl) (fun x9 => ?_)
  refine hr_getO o flX0_288 dX0_shout_48 4 (fun _ => rfl) (fun _ _ => ?_)
  refine hr_iload_n o 1 dX0_shout_51 rfl ?_
  refine hx_iald o 2 3 4 4 rfl (by decide) rfl dX0_shout_52 (fun x10 => ?_)
  refine hr_iconst o (-1 : Int32) dX0_shout_53 (by decide) ?_
  refine hr_ixor o dX0_shout_54 ?_
  refine hr_iand o dX0_shout_55 ?_
  refine hr_nmI (fun x11 => ?_)
  refine hr_istore_n o [(3, .int x11), (0, .ref l0), (1, .int l1), (2, .int l2)] dX0_shout_56 (by decide) rfl ?_
  refine hr_aload_n o 1 dX0_shout_57 rfl ?_
  refine hr_getA (md := 1) o flX0_19 dX0_shout_58 (fun _ => rfl) (fun x12 => ?_)
  refine hr_getO o flX0_189 dX0_shout_61 2 (fun _ => rfl) (fun _ _ => ?_)
  refine hr_iload_n o 2 dX0_shout_64 rfl ?_
  refine hr_dup2 o dX0_shout_65 rfl rfl ?_
  refine hx_iald o 2 1 2 4 rfl (by decide) rfl dX0_shout_66 (fun x13 => ?_)
  refine hr_iconst o (1 : Int32) dX0_shout_67 (by decide) ?_
  refine hr_isub o dX0_shout_68 ?_
  refine hx_iast o 2 1 2 4 rfl (by decide) (fun j h1 h2 => hf_of2_inj j 1 h1 h2) rfl dX0_shout_69 (fun g14 => ?_)
  refine hr_aload_n o 1 dX0_shout_70 rfl ?_
  refine hr_getA (md := 1) o flX0_19 dX0_shout_71 (fun _ => rfl) (fun x15 => ?_)
  refine hr_getO o flX0_288 dX0_shout_74 4 (fun _ => rfl) (fun _ _ => ?_)
  refine hr_iload_n o 2 dX0_shout_77 rfl ?_
  refine hr_dup2 o dX0_shout_78 rfl rfl ?_
  refine hx_iald o 2 3 4 4 rfl (by decide) rfl dX0_shout_79 (fun x16 => ?_)
  refine hr_iload_n o 0 dX0_shout_80 rfl ?_
  refine hr_ior o dX0_shout_81 ?_
  refine hx_iast o 2 3 4 4 rfl (by decide) (fun j h1 h2 => hf_of2_inj j 3 h1 h2) rfl dX0_shout_82 (fun g17 => ?_)
  refine hr_iload_n o 0 dX0_shout_83 rfl ?_
  refine pr_callI o msX0_291 dX0_shout_84 [.int x11] (fun zr ze => mtJ14_bitCount x11 zr ze) rfl rfl (Nat.le_of_ble_eq_true rfl) ⟨by decide, by decide⟩ (fun x18 => ?_)
  exact hr_iret o dX0_shout_87 rfl rfl
theorem mtX0_shout {gs : hf_gs} (l0 : Nat) (l1 : Int32) (l2 : Int32) (V0 : hf_H) (r : Int32) (V1 : hf_H) (e : spX0_shout l0 l1 l2 V0 = some (r, V1)) : hf_ConG gs yX0_shout cX0_shout 4 (some .int) 4 89 [.ref l0, .int l1, .int l2] V0 (.returned (some (.int r)), V1) := hf_entryG (dec := hf_dHI) (by decide) [.ref l0, .int l1, .int l2] (Nat.le_of_ble_eq_true rfl) [(0, .ref l0), (1, .int l1), (2, .int l2)] rfl e (fun C o og _ => jtX0_shout o og l0 l1 l2 V0)

/-! X0_isTheirs -/
def spX0_isTheirs (l0 : Nat) (l1 : Int32) (l2 : Int32) (V0 : hf_H) : Option (Int32 × hf_H) :=
  (hf_ob 1 0 V0 l0).bind fun _ =>
  hf_b2 (spX0_isBuyer l0 l1 V0) fun x2 g1 =>
  if x2 = 0 then (some ((0 : Int32), g1)) else
  (hf_ob 1 0 g1 l0).bind fun _ =>
  hf_b2 (spX0_isHalf l0 l2 g1) fun x4 g3 =>
  if x4 = 0 then (some ((0 : Int32), g3)) else
  (hf_ga 1 0 1 g3 l0).bind fun x5 =>
  (hf_ob 1 2 g3 x5).bind fun _ =>
  (hf_ai 2 0 12 g3 x5 l2).bind fun x6 =>
  if x6 = ((100 : Int32) + l1) then (some ((1 : Int32), g3)) else
  some ((0 : Int32), g3)
theorem jtX0_isTheirs {C : hf_X} {gs : hf_gs} (o : hf_In C cX0_isTheirs RX0 3 (some .boolean) 3 61) (og : hf_G C gs) (l0 : Nat) (l1 : Int32) (l2 : Int32) (V0 : hf_H) : hf_J C hf_dHI (spX0_isTheirs l0 l1 l2 V0) V0 0 [(0, .ref l0), (1, .int l1), (2, .int l2)] [] := by
  refine hr_aload_n o 0 dX0_isTheirs_0 rfl ?_
  refine hr_iload_n o 1 dX0_isTheirs_1 rfl ?_
  refine hx_callVI (q := (RX0, TX0, 23)) o og mvX0_186 dX0_isTheirs_2 1 0 rfl [.int l1] (fun zr zg ze => mtX0_isBuyer l0 l1 V0 zr zg ze) rfl rfl (Nat.le_of_ble_eq_true rfl) ⟨by decide, by decide⟩ (fun x2 g1 => ?_)
  refine hr_if_eq o 36 dX0_isTheirs_5 (by decide) (fun _ => ?_) (fun _ => ?_)
  · refine hr_iconst o (0 : Int32) dX0_isTheirs_36 (by decide) ?_
    exact hr_iret o dX0_isTheirs_37 rfl (by decide)
  refine hr_aload_n o 0 dX0_isTheirs_8 rfl ?_
  refine hr_iload_n o 2 dX0_isTheirs_9 rfl ?_
  refine hx_callVI (q := (RX0, TX0, 23)) o og mvX0_149 dX0_isTheirs_10 1 0 rfl [.int l2] (fun zr zg ze => mtX0_isHalf l0 l2 g1 zr zg ze) rfl rfl (Nat.le_of_ble_eq_true rfl) ⟨by decide, by decide⟩ (fun x4 g3 => ?_)
  refine hr_if_eq o 36 dX0_isTheirs_13 (by decide) (fun _ => ?_) (fun _ => ?_)
  · refine hr_iconst o (0 : Int32) dX0_isTheirs_36 (by decide) ?_
    exact hr_iret o dX0_isTheirs_37 rfl (by decide)
  refine hr_aload_n o 0 dX0_isTheirs_16 rfl ?_
  refine hr_getA (md := 1) o flX0_19 dX0_isTheirs_17 (fun _ => rfl) (fun x5 => ?_)
  refine hr_getO o flX0_172 dX0_isTheirs_20 1 (fun _ => rfl) (fun _ _ => ?_)
  refine hr_iload_n o 2 dX0_isTheirs_23 rfl ?_
  refine hx_iald o 2 0 1 12 rfl (by decide) rfl dX0_isTheirs_24 (fun x6 => ?_)
  refine hr_bipush o (100 : Int32) dX0_isTheirs_25 (by decide) ?_
  refine hr_iload_n o 1 dX0_isTheirs_27 rfl ?_
  refine hr_iadd o dX0_isTheirs_28 ?_
  refine hr_icmp_ne o 36 dX0_isTheirs_29 (by decide) (fun _ => ?_) (fun _ => ?_)
  · refine hr_iconst o (1 : Int32) dX0_isTheirs_32 (by decide) ?_
    refine hr_goto o 37 dX0_isTheirs_33 (by decide) ?_
    exact hr_iret o dX0_isTheirs_37 rfl (by decide)
  refine hr_iconst o (0 : Int32) dX0_isTheirs_36 (by decide) ?_
  exact hr_iret o dX0_isTheirs_37 rfl (by decide)
theorem mtX0_isTheirs {gs : hf_gs} (l0 : Nat) (l1 : Int32) (l2 : Int32) (V0 : hf_H) (r : Int32) (V1 : hf_H) (e : spX0_isTheirs l0 l1 l2 V0 = some (r, V1)) : hf_ConG gs yX0_isTheirs cX0_isTheirs 3 (some .boolean) 3 61 [.ref l0, .int l1, .int l2] V0 (.returned (some (.int r)), V1) := hf_entryG (dec := hf_dHI) (by decide) [.ref l0, .int l1, .int l2] (Nat.le_of_ble_eq_true rfl) [(0, .ref l0), (1, .int l1), (2, .int l2)] rfl e (fun C o og _ => jtX0_isTheirs o og l0 l1 l2 V0)

/-! X0_areTheirs -/
theorem mvX0_296 : hf_MV RX0 296 RX0 yX0_isTheirs cX0_isTheirs 3 (some .boolean) 2 := ⟨lw_V q1150 q1152 qs45 q153 q1153, by decide +kernel⟩
def spX0_areTheirs (l0 : Nat) (l1 : Int32) (l2 : Int32) (l3 : Int32) (l4 : Int32) (V0 : hf_H) : Option (Int32 × hf_H) :=
  if l1 = l3 then (some ((0 : Int32), V0)) else
  (hf_ob 1 0 V0 l0).bind fun _ =>
  hf_b2 (spX0_isTheirs l0 l1 l2 V0) fun x2 g1 =>
  if x2 = 0 then (some ((0 : Int32), g1)) else
  (hf_ob 1 0 g1 l0).bind fun _ =>
  hf_b2 (spX0_isTheirs l0 l3 l4 g1) fun x4 g3 =>
  if x4 = 0 then (some ((0 : Int32), g3)) else
  some ((1 : Int32), g3)
theorem jtX0_areTheirs {C : hf_X} {gs : hf_gs} (o : hf_In C cX0_areTheirs RX0 5 (some .boolean) 4 83) (og : hf_G C gs) (l0 : Nat) (l1 : Int32) (l2 : Int32) (l3 : Int32) (l4 : Int32) (V0 : hf_H) : hf_J C hf_dHI (spX0_areTheirs l0 l1 l2 l3 l4 V0) V0 0 [(0, .ref l0), (1, .int l1), (2, .int l2), (3, .int l3), (4, .int l4)] [] := by
  refine hr_iload_n o 1 dX0_areTheirs_0 rfl ?_
  refine hr_iload_n o 3 dX0_areTheirs_1 rfl ?_
  refine hr_icmp_eq o 28 dX0_areTheirs_2 (by decide) (fun _ => ?_) (fun _ => ?_)
  · refine hr_iconst o (0 : Int32) dX0_areTheirs_28 (by decide) ?_
    exact hr_iret o dX0_areTheirs_29 rfl (by decide)
  refine hr_aload_n o 0 dX0_areTheirs_5 rfl ?_
  refine hr_iload_n o 1 dX0_areTheirs_6 rfl ?_
  refine hr_iload_n o 2 dX0_areTheirs_7 rfl ?_
  refine hx_callVI (q := (RX0, TX0, 23)) o og mvX0_296 dX0_areTheirs_8 1 0 rfl [.int l1, .int l2] (fun zr zg ze => mtX0_isTheirs l0 l1 l2 V0 zr zg ze) rfl rfl (Nat.le_of_ble_eq_true rfl) ⟨by decide, by decide⟩ (fun x2 g1 => ?_)
  refine hr_if_eq o 28 dX0_areTheirs_11 (by decide) (fun _ => ?_) (fun _ => ?_)
  · refine hr_iconst o (0 : Int32) dX0_areTheirs_28 (by decide) ?_
    exact hr_iret o dX0_areTheirs_29 rfl (by decide)
  refine hr_aload_n o 0 dX0_areTheirs_14 rfl ?_
  refine hr_iload_n o 3 dX0_areTheirs_15 rfl ?_
  refine hr_iload o 4 dX0_areTheirs_16 rfl ?_
  refine hx_callVI (q := (RX0, TX0, 23)) o og mvX0_296 dX0_areTheirs_18 1 0 rfl [.int l3, .int l4] (fun zr zg ze => mtX0_isTheirs l0 l3 l4 g1 zr zg ze) rfl rfl (Nat.le_of_ble_eq_true rfl) ⟨by decide, by decide⟩ (fun x4 g3 => ?_)
  refine hr_if_eq o 28 dX0_areTheirs_21 (by decide) (fun _ => ?_) (fun _ => ?_)
  · refine hr_iconst o (0 : Int32) dX0_areTheirs_28 (by decide) ?_
    exact hr_iret o dX0_areTheirs_29 rfl (by decide)
  refine hr_iconst o (1 : Int32) dX0_areTheirs_24 (by decide) ?_
  refine hr_goto o 29 dX0_areTheirs_25 (by decide) ?_
  exact hr_iret o dX0_areTheirs_29 rfl (by decide)
theorem mtX0_areTheirs {gs : hf_gs} (l0 : Nat) (l1 : Int32) (l2 : Int32) (l3 : Int32) (l4 : Int32) (V0 : hf_H) (r : Int32) (V1 : hf_H) (e : spX0_areTheirs l0 l1 l2 l3 l4 V0 = some (r, V1)) : hf_ConG gs yX0_areTheirs cX0_areTheirs 5 (some .boolean) 4 83 [.ref l0, .int l1, .int l2, .int l3, .int l4] V0 (.returned (some (.int r)), V1) := hf_entryG (dec := hf_dHI) (by decide) [.ref l0, .int l1, .int l2, .int l3, .int l4] (Nat.le_of_ble_eq_true rfl) [(0, .ref l0), (1, .int l1), (2, .int l2), (3, .int l3), (4, .int l4)] rfl e (fun C o og _ => jtX0_areTheirs o og l0 l1 l2 l3 l4 V0)

/-! X0_swap -/
theorem mvX0_299 : hf_MV RX0 299 RX0 yX0_areTheirs cX0_areTheirs 5 (some .boolean) 4 := ⟨lw_V q1146 q1148 qs44 q153 q1149, by decide +kernel⟩
def spX0_swap (l0 : Nat) (l1 : Int32) (l2 : Int32) (l3 : Int32) (l4 : Int32) (V0 : hf_H) : Option (Int32 × hf_H) :=
  (hf_ob 1 0 V0 l0).bind fun _ =>
  hf_b2 (spX0_areTheirs l0 l1 l2 l3 l4 V0) fun x2 g1 =>
  if x2 = 0 then (some ((0 : Int32), g1)) else
  (hf_ga 1 0 1 g1 l0).bind fun x3 =>
  (hf_ob 1 2 g1 x3).bind fun _ =>
  (hf_ai 2 2 4 g1 x3 l1).bind fun x4 =>
  (hf_ga 1 0 1 g1 l0).bind fun x5 =>
  (hf_ob 1 2 g1 x5).bind fun _ =>
  (hf_ai 2 2 4 g1 x5 l3).bind fun x6 =>
  if x4 = x6 then ((hf_ob 1 0 g1 l0).bind fun _ =>
  (spX0_keeps l0 g1).bind fun g7 =>
  (hf_ga 1 0 1 g7 l0).bind fun x8 =>
  (hf_ob 1 2 g7 x8).bind fun _ =>
  (hf_si 2 0 12 g7 x8 l2 ((100 : Int32) + l3)).bind fun g9 =>
  (hf_ga 1 0 1 g9 l0).bind fun x10 =>
  (hf_ob 1 2 g9 x10).bind fun _ =>
  (hf_si 2 0 12 g9 x10 l4 ((100 : Int32) + l1)).bind fun g11 =>
  (hf_ga 1 0 1 g11 l0).bind fun x12 =>
  (hf_ob 1 2 g11 x12).bind fun _ =>
  (hf_ai 2 3 4 g11 x12 l1).bind fun x13 =>
  (hf_si 2 3 4 g11 x12 l1 (x13 ||| ((1 : Int32) <<< (l4 &&& 31)))).bind fun g14 =>
  (hf_ga 1 0 1 g14 l0).bind fun x15 =>
  (hf_ob 1 2 g14 x15).bind fun _ =>
  (hf_ai 2 3 4 g14 x15 l3).bind fun x16 =>
  (hf_si 2 3 4 g14 x15 l3 (x16 ||| ((1 : Int32) <<< (l2 &&& 31)))).bind fun g17 =>
  some ((1 : Int32), g17)) else
  some ((0 : Int32), g1)
theorem jtX0_swap {C : hf_X} {gs : hf_gs} (o : hf_In C cX0_swap RX0 5 (some .boolean) 5 107) (og : hf_G C gs) (l0 : Nat) (l1 : Int32) (l2 : Int32) (l3 : Int32) (l4 : Int32) (V0 : hf_H) : hf_J C hf_dHI (spX0_swap l0 l1 l2 l3 l4 V0) V0 0 [(0, .ref l0), (1, .int l1), (2, .int l2), (3, .int l3), (4, .int l4)] [] := by
  refine hr_aload_n o 0 dX0_swap_0 rfl ?_
  refine hr_iload_n o 1 dX0_swap_1 rfl ?_
  refine hr_iload_n o 2 dX0_swap_2 rfl ?_
  refine hr_iload_n o 3 dX0_swap_3 rfl ?_
  refine hr_iload o 4 dX0_swap_4 rfl ?_
  refine hx_callVI (q := (RX0, TX0, 23)) o og mvX0_299 dX0_swap_6 1 0 rfl [.int l1, .int l2, .int l3, .int l4] (fun zr zg ze => mtX0_areTheirs l0 l1 l2 l3 l4 V0 zr zg ze) rfl rfl (Nat.le_of_ble_eq_true rfl) ⟨by decide, by decide⟩ (fun x2 g1 => ?_)
  refine hr_if_eq o 33 dX0_swap_9 (by decide) (fun _ => ?_) (fun _ => ?_)
  · refine hr_iconst o (0 : Int32) dX0_swap_33 (by decide) ?_
    exact hr_iret o dX0_swap_34 rfl (by decide)
  refine hr_aload_n o 0 dX0_swap_12 rfl ?_
  refine hr_getA (md := 1) o flX0_19 dX0_swap_13 (fun _ => rfl) (fun x3 => ?_)
  refine hr_getO o flX0_192 dX0_swap_16 3 (fun _ => rfl) (fun _ _ => ?_)
  refine hr_iload_n o 1 dX0_swap_19 rfl ?_
  refine hx_iald o 2 2 3 4 rfl (by decide) rfl dX0_swap_20 (fun x4 => ?_)
  refine hr_aload_n o 0 dX0_swap_21 rfl ?_
  refine hr_getA (md := 1) o flX0_19 dX0_swap_22 (fun _ => rfl) (fun x5 => ?_)
  refine hr_getO o flX0_192 dX0_swap_25 3 (fun _ => rfl) (fun _ _ => ?_)
  refine hr_iload_n o 3 dX0_swap_28 rfl ?_
  refine hx_iald o 2 2 3 4 rfl (by decide) rfl dX0_swap_29 (fun x6 => ?_)
  refine hr_icmp_eq o 35 dX0_swap_30 (by decide) (fun _ => ?_) (fun _ => ?_)
  · refine hr_aload_n o 0 dX0_swap_35 rfl ?_
    refine hx_callVV (q := (RX0, TX0, 23)) o og mvX0_256 dX0_swap_36 1 0 rfl [] (fun zg ze => mtX0_keeps l0 g1 zg ze) rfl rfl (Nat.le_of_ble_eq_true rfl) ⟨by decide, by decide⟩ (fun g7 => ?_)
    refine hr_aload_n o 0 dX0_swap_39 rfl ?_
    refine hr_getA (md := 1) o flX0_19 dX0_swap_40 (fun _ => rfl) (fun x8 => ?_)
    refine hr_getO o flX0_172 dX0_swap_43 1 (fun _ => rfl) (fun _ _ => ?_)
    refine hr_iload_n o 2 dX0_swap_46 rfl ?_
    refine hr_bipush o (100 : Int32) dX0_swap_47 (by decide) ?_
    refine hr_iload_n o 3 dX0_swap_49 rfl ?_
    refine hr_iadd o dX0_swap_50 ?_
    refine hx_iast o 2 0 1 12 rfl (by decide) (fun j h1 h2 => hf_of2_inj j 0 h1 h2) rfl dX0_swap_51 (fun g9 => ?_)
    refine hr_aload_n o 0 dX0_swap_52 rfl ?_
    refine hr_getA (md := 1) o flX0_19 dX0_swap_53 (fun _ => rfl) (fun x10 => ?_)
    refine hr_getO o flX0_172 dX0_swap_56 1 (fun _ => rfl) (fun _ _ => ?_)
    refine hr_iload o 4 dX0_swap_59 rfl ?_
    refine hr_bipush o (100 : Int32) dX0_swap_61 (by decide) ?_
    refine hr_iload_n o 1 dX0_swap_63 rfl ?_
    refine hr_iadd o dX0_swap_64 ?_
    refine hx_iast o 2 0 1 12 rfl (by decide) (fun j h1 h2 => hf_of2_inj j 0 h1 h2) rfl dX0_swap_65 (fun g11 => ?_)
    refine hr_aload_n o 0 dX0_swap_66 rfl ?_
    refine hr_getA (md := 1) o flX0_19 dX0_swap_67 (fun _ => rfl) (fun x12 => ?_)
    refine hr_getO o flX0_288 dX0_swap_70 4 (fun _ => rfl) (fun _ _ => ?_)
    refine hr_iload_n o 1 dX0_swap_73 rfl ?_
    refine hr_dup2 o dX0_swap_74 rfl rfl ?_
    refine hx_iald o 2 3 4 4 rfl (by decide) rfl dX0_swap_75 (fun x13 => ?_)
    refine hr_iconst o (1 : Int32) dX0_swap_76 (by decide) ?_
    refine hr_iload o 4 dX0_swap_77 rfl ?_
    refine hr_ishl o dX0_swap_79 ?_
    refine hr_ior o dX0_swap_80 ?_
    refine hx_iast o 2 3 4 4 rfl (by decide) (fun j h1 h2 => hf_of2_inj j 3 h1 h2) rfl dX0_swap_81 (fun g14 => ?_)
    refine hr_aload_n o 0 dX0_swap_82 rfl ?_
    refine hr_getA (md := 1) o flX0_19 dX0_swap_83 (fun _ => rfl) (fun x15 => ?_)
    refine hr_getO o flX0_288 dX0_swap_86 4 (fun _ => rfl) (fun _ _ => ?_)
    refine hr_iload_n o 3 dX0_swap_89 rfl ?_
    refine hr_dup2 o dX0_swap_90 rfl rfl ?_
    refine hx_iald o 2 3 4 4 rfl (by decide) rfl dX0_swap_91 (fun x16 => ?_)
    refine hr_iconst o (1 : Int32) dX0_swap_92 (by decide) ?_
    refine hr_iload_n o 2 dX0_swap_93 rfl ?_
    refine hr_ishl o dX0_swap_94 ?_
    refine hr_ior o dX0_swap_95 ?_
    refine hx_iast o 2 3 4 4 rfl (by decide) (fun j h1 h2 => hf_of2_inj j 3 h1 h2) rfl dX0_swap_96 (fun g17 => ?_)
    refine hr_iconst o (1 : Int32) dX0_swap_97 (by decide) ?_
    exact hr_iret o dX0_swap_98 rfl (by decide)
  refine hr_iconst o (0 : Int32) dX0_swap_33 (by decide) ?_
  exact hr_iret o dX0_swap_34 rfl (by decide)
theorem mtX0_swap {gs : hf_gs} (l0 : Nat) (l1 : Int32) (l2 : Int32) (l3 : Int32) (l4 : Int32) (V0 : hf_H) (r : Int32) (V1 : hf_H) (e : spX0_swap l0 l1 l2 l3 l4 V0 = some (r, V1)) : hf_ConG gs yX0_swap cX0_swap 5 (some .boolean) 5 107 [.ref l0, .int l1, .int l2, .int l3, .int l4] V0 (.returned (some (.int r)), V1) := hf_entryG (dec := hf_dHI) (by decide) [.ref l0, .int l1, .int l2, .int l3, .int l4] (Nat.le_of_ble_eq_true rfl) [(0, .ref l0), (1, .int l1), (2, .int l2), (3, .int l3), (4, .int l4)] rfl e (fun C o og _ => jtX0_swap o og l0 l1 l2 l3 l4 V0)

/-! X0_giveUp -/
theorem mvX0_303 : hf_MV RX0 303 RX2 yX2_stallOf cX2_stallOf 3 (some .int) 2 := ⟨lw_V q1158 q783 q784 q158 q785, by decide +kernel⟩
def spX0_giveUp (l0 : Nat) (l1 : Int32) (l2 : Int32) (V0 : hf_H) : Option (Int32 × hf_H) :=
  (hf_ob 1 0 V0 l0).bind fun _ =>
  hf_b2 (spX0_isTheirs l0 l1 l2 V0) fun x2 g1 =>
  if x2 = 0 then (some ((-1 : Int32), g1)) else
  (hf_ob 1 0 g1 l0).bind fun _ =>
  (spX0_keeps l0 g1).bind fun g3 =>
  (hf_ga 1 0 1 g3 l0).bind fun x4 =>
  (hf_ob 1 2 g3 x4).bind fun _ =>
  (hf_ga 1 0 1 g3 l0).bind fun x5 =>
  (hf_ga 1 0 0 g3 l0).bind fun x6 =>
  (hf_ob 1 2 g3 x5).bind fun _ =>
  hf_b2 (spX2_stallOf x5 x6 l1 g3) fun x8 g7 =>
  (hf_si 2 0 12 g7 x4 l2 x8).bind fun g9 =>
  (hf_ga 1 0 1 g9 l0).bind fun x10 =>
  (hf_ob 1 2 g9 x10).bind fun _ =>
  (hf_ai 2 1 4 g9 x10 l1).bind fun x11 =>
  (hf_ga 1 0 0 g9 l0).bind fun x12 =>
  (hf_ga 1 0 1 g9 l0).bind fun x13 =>
  (hf_gi 1 2 4 g9 x13).bind fun x14 =>
  (hf_ob 1 1 g9 x12).bind fun _ =>
  hf_b2 (spX1_priceAt x12 l2 x14 g9) fun x16 g15 =>
  if (2 : Int32) = 0 then none else
  (hf_si 2 1 4 g15 x10 l1 (x11 + (x16 / (2 : Int32)))).bind fun g17 =>
  (hf_ga 1 0 1 g17 l0).bind fun x18 =>
  (hf_ob 1 2 g17 x18).bind fun _ =>
  (hf_ai 2 1 4 g17 x18 l1).bind fun x19 =>
  some (x19, g17)
theorem jtX0_giveUp {C : hf_X} {gs : hf_gs} (o : hf_In C cX0_giveUp RX0 3 (some .int) 4 86) (og : hf_G C gs) (l0 : Nat) (l1 : Int32) (l2 : Int32) (V0 : hf_H) : hf_J C hf_dHI (spX0_giveUp l0 l1 l2 V0) V0 0 [(0, .ref l0), (1, .int l1), (2, .int l2)] [] := by
  refine hr_aload_n o 0 dX0_giveUp_0 rfl ?_
  refine hr_iload_n o 1 dX0_giveUp_1 rfl ?_
  refine hr_iload_n o 2 dX0_giveUp_2 rfl ?_
  refine hx_callVI (q := (RX0, TX0, 23)) o og mvX0_296 dX0_giveUp_3 1 0 rfl [.int l1, .int l2] (fun zr zg ze => mtX0_isTheirs l0 l1 l2 V0 zr zg ze) rfl rfl (Nat.le_of_ble_eq_true rfl) ⟨by decide, by decide⟩ (fun x2 g1 => ?_)
  refine hr_if_ne o 11 dX0_giveUp_6 (by decide) (fun _ => ?_) (fun _ => ?_)
  · refine hr_iconst o (-1 : Int32) dX0_giveUp_9 (by decide) ?_
    exact hr_iret o dX0_giveUp_10 rfl rfl
  refine hr_aload_n o 0 dX0_giveUp_11 rfl ?_
  refine hx_callVV (q := (RX0, TX0, 23)) o og mvX0_256 dX0_giveUp_12 1 0 rfl [] (fun zg ze => mtX0_keeps l0 g1 zg ze) rfl rfl (Nat.le_of_ble_eq_true rfl) ⟨by decide, by decide⟩ (fun g3 => ?_)
  refine hr_aload_n o 0 dX0_giveUp_15 rfl ?_
  refine hr_getA (md := 1) o flX0_19 dX0_giveUp_16 (fun _ => rfl) (fun x4 => ?_)
  refine hr_getO o flX0_172 dX0_giveUp_19 1 (fun _ => rfl) (fun _ _ => ?_)
  refine hr_iload_n o 2 dX0_giveUp_22 rfl ?_
  refine hr_aload_n o 0 dX0_giveUp_23 rfl ?_
  refine hr_getA (md := 1) o flX0_19 dX0_giveUp_24 (fun _ => rfl) (fun x5 => ?_)
  refine hr_aload_n o 0 dX0_giveUp_27 rfl ?_
  refine hr_getA (md := 1) o flX0_12 dX0_giveUp_28 (fun _ => rfl) (fun x6 => ?_)
  refine hr_iload_n o 1 dX0_giveUp_31 rfl ?_
  refine hx_callVI (q := (RX2, TX2, 5)) o og mvX0_303 dX0_giveUp_32 1 2 rfl [.ref x6, .int l1] (fun zr zg ze => mtX2_stallOf x5 x6 l1 g3 zr zg ze) rfl rfl (Nat.le_of_ble_eq_true rfl) ⟨by decide, by decide⟩ (fun x8 g7 => ?_)
  refine hx_iast o 2 0 1 12 rfl (by decide) (fun j h1 h2 => hf_of2_inj j 0 h1 h2) rfl dX0_giveUp_35 (fun g9 => ?_)
  refine hr_aload_n o 0 dX0_giveUp_36 rfl ?_
  refine hr_getA (md := 1) o flX0_19 dX0_giveUp_37 (fun _ => rfl) (fun x10 => ?_)
  refine hr_getO o flX0_189 dX0_giveUp_40 2 (fun _ => rfl) (fun _ _ => ?_)
  refine hr_iload_n o 1 dX0_giveUp_43 rfl ?_
  refine hr_dup2 o dX0_giveUp_44 rfl rfl ?_
  refine hx_iald o 2 1 2 4 rfl (by decide) rfl dX0_giveUp_45 (fun x11 => ?_)
  refine hr_aload_n o 0 dX0_giveUp_46 rfl ?_
  refine hr_getA (md := 1) o flX0_12 dX0_giveUp_47 (fun _ => rfl) (fun x12 => ?_)
  refine hr_iload_n o 2 dX0_giveUp_50 rfl ?_
  refine hr_aload_n o 0 dX0_giveUp_51 rfl ?_
  refine hr_getA (md := 1) o flX0_19 dX0_giveUp_52 (fun _ => rfl) (fun x13 => ?_)
  refine hr_getI (md := 1) o flX0_165 dX0_giveUp_55 (fun _ => rfl) (fun x14 => ?_)
  refine hx_callVI (q := (RX1, TX1, 13)) o og mvX0_168 dX0_giveUp_58 1 1 rfl [.int l2, .int x14] (fun zr zg ze => mtX1_priceAt x12 l2 x14 g9 zr zg ze) rfl rfl (Nat.le_of_ble_eq_true rfl) ⟨by decide, by decide⟩ (fun x16 g15 => ?_)
  refine hr_iconst o (2 : Int32) dX0_giveUp_61 (by decide) ?_
  refine hr_idiv o dX0_giveUp_62 (fun _ => ?_)
  refine hr_iadd o dX0_giveUp_63 ?_
  refine hx_iast o 2 1 2 4 rfl (by decide) (fun j h1 h2 => hf_of2_inj j 1 h1 h2) rfl dX0_giveUp_64 (fun g17 => ?_)
  refine hr_aload_n o 0 dX0_giveUp_65 rfl ?_
  refine hr_getA (md := 1) o flX0_19 dX0_giveUp_66 (fun _ => rfl) (fun x18 => ?_)
  refine hr_getO o flX0_189 dX0_giveUp_69 2 (fun _ => rfl) (fun _ _ => ?_)
  refine hr_iload_n o 1 dX0_giveUp_72 rfl ?_
  refine hx_iald o 2 1 2 4 rfl (by decide) rfl dX0_giveUp_73 (fun x19 => ?_)
  exact hr_iret o dX0_giveUp_74 rfl rfl
theorem mtX0_giveUp {gs : hf_gs} (l0 : Nat) (l1 : Int32) (l2 : Int32) (V0 : hf_H) (r : Int32) (V1 : hf_H) (e : spX0_giveUp l0 l1 l2 V0 = some (r, V1)) : hf_ConG gs yX0_giveUp cX0_giveUp 3 (some .int) 4 86 [.ref l0, .int l1, .int l2] V0 (.returned (some (.int r)), V1) := hf_entryG (dec := hf_dHI) (by decide) [.ref l0, .int l1, .int l2] (Nat.le_of_ble_eq_true rfl) [(0, .ref l0), (1, .int l1), (2, .int l2)] rfl e (fun C o og _ => jtX0_giveUp o og l0 l1 l2 V0)

/-! X0_fitting -/
def ndX0_fitting_48 (k6 : Nat → Int32 → Int32 → Int32 → Int32 → Int32 → hf_H → Option (Int32 × hf_H)) (l0 : Nat) (l1 : Int32) (l2 : Int32) (l3 : Int32) (l5 : Int32) (s0 : Int32) (s1 : Int32) (V0 : hf_H) : Option (Int32 × hf_H) :=
  (spX0_bit s1).bind fun x1 =>
  hf_let (s0 + x1) fun x2 =>
  hf_let (l5 + (1 : Int32)) fun x3 =>
  k6 l0 l1 l2 l3 x2 x3 V0
theorem nlX0_fitting_48 {C : hf_X} {gs : hf_gs} (o : hf_In C cX0_fitting RX0 6 (some .int) 5 111) (og : hf_G C gs) (k6 : Nat → Int32 → Int32 → Int32 → Int32 → Int32 → hf_H → Option (Int32 × hf_H)) (hk6 : ∀ (l0 : Nat) (l1 : Int32) (l2 : Int32) (l3 : Int32) (l4 : Int32) (l5 : Int32) (V0 : hf_H), hf_J C hf_dHI (k6 l0 l1 l2 l3 l4 l5 V0) V0 6 [(0, .ref l0), (1, .int l1), (2, .int l2), (3, .int l3), (4, .int l4), (5, .int l5)] []) (l0 : Nat) (l1 : Int32) (l2 : Int32) (l3 : Int32) (l5 : Int32) (s0 : Int32) (s1 : Int32) (V0 : hf_H) : hf_J C hf_dHI (ndX0_fitting_48 k6 l0 l1 l2 l3 l5 s0 s1 V0) V0 48 [(0, .ref l0), (1, .int l1), (2, .int l2), (3, .int l3), (5, .int l5)] [.int s1, .int s0] := by
  refine pr_callI o msX0_179 dX0_fitting_48 [.int s1] (fun zr ze => mtX0_bit s1 zr ze) rfl rfl (Nat.le_of_ble_eq_true rfl) ⟨by decide, by decide⟩ (fun x1 => ?_)
  refine hr_iadd o dX0_fitting_51 ?_
  refine hr_nmI (fun x2 => ?_)
  refine hr_istore o [(4, .int x2), (0, .ref l0), (1, .int l1), (2, .int l2), (3, .int l3), (5, .int l5)] dX0_fitting_52 (by decide) rfl ?_
  refine hr_iincN o (1 : Int32) 5 (fun y => [(5, .int y), (4, .int x2), (0, .ref l0), (1, .int l1), (2, .int l2), (3, .int l3)]) dX0_fitting_54 rfl (by decide) (by decide) (fun y => rfl) (fun x3 => ?_)
  refine hr_goto o 6 dX0_fitting_57 (by decide) ?_
  refine hr_sub [2, 3, 4, 5, 1, 0] rfl ?_
  exact hk6 l0 l1 l2 l3 x2 x3 V0
def ndX0_fitting_47 (k6 : Nat → Int32 → Int32 → Int32 → Int32 → Int32 → hf_H → Option (Int32 × hf_H)) (l0 : Nat) (l1 : Int32) (l2 : Int32) (l3 : Int32) (l5 : Int32) (s0 : Int32) (V0 : hf_H) : Option (Int32 × hf_H) :=
  ndX0_fitting_48 k6 l0 l1 l2 l3 l5 s0 (0 : Int32) V0
theorem nlX0_fitting_47 {C : hf_X} {gs : hf_gs} (o : hf_In C cX0_fitting RX0 6 (some .int) 5 111) (og : hf_G C gs) (k6 : Nat → Int32 → Int32 → Int32 → Int32 → Int32 → hf_H → Option (Int32 × hf_H)) (hk6 : ∀ (l0 : Nat) (l1 : Int32) (l2 : Int32) (l3 : Int32) (l4 : Int32) (l5 : Int32) (V0 : hf_H), hf_J C hf_dHI (k6 l0 l1 l2 l3 l4 l5 V0) V0 6 [(0, .ref l0), (1, .int l1), (2, .int l2), (3, .int l3), (4, .int l4), (5, .int l5)] []) (l0 : Nat) (l1 : Int32) (l2 : Int32) (l3 : Int32) (l5 : Int32) (s0 : Int32) (V0 : hf_H) : hf_J C hf_dHI (ndX0_fitting_47 k6 l0 l1 l2 l3 l5 s0 V0) V0 47 [(0, .ref l0), (1, .int l1), (2, .int l2), (3, .int l3), (5, .int l5)] [.int s0] := by
  refine hr_iconst o (0 : Int32) dX0_fitting_47 (by decide) ?_
  exact nlX0_fitting_48 o og k6 hk6 l0 l1 l2 l3 l5 s0 (0 : Int32) V0
def ndX0_fitting_6 (k6 : Nat → Int32 → Int32 → Int32 → Int32 → Int32 → hf_H → Option (Int32 × hf_H)) (l0 : Nat) (l1 : Int32) (l2 : Int32) (l3 : Int32) (l4 : Int32) (l5 : Int32) (V0 : hf_H) : Option (Int32 × hf_H) :=
  (hf_ob 1 0 V0 l0).bind fun _ =>
  hf_b2 (spX0_many l0 V0) fun x2 g1 =>
  if x2 ≤ l5 then (some (l4, g1)) else
  (spX0_has l2 l5).bind fun x3 =>
  if x3 = 0 then (ndX0_fitting_47 k6 l0 l1 l2 l3 l5 l4 g1) else
  if l5 = l1 then (ndX0_fitting_47 k6 l0 l1 l2 l3 l5 l4 g1) else
  (hf_ob 1 0 g1 l0).bind fun _ =>
  hf_b2 (spX0_fit2 l0 l1 l5 g1) fun x5 g4 =>
  if x5 = l3 then (ndX0_fitting_48 k6 l0 l1 l2 l3 l5 l4 (1 : Int32) g4) else
  ndX0_fitting_47 k6 l0 l1 l2 l3 l5 l4 g4
theorem nlX0_fitting_6 {C : hf_X} {gs : hf_gs} (o : hf_In C cX0_fitting RX0 6 (some .int) 5 111) (og : hf_G C gs) (k6 : Nat → Int32 → Int32 → Int32 → Int32 → Int32 → hf_H → Option (Int32 × hf_H)) (hk6 : ∀ (l0 : Nat) (l1 : Int32) (l2 : Int32) (l3 : Int32) (l4 : Int32) (l5 : Int32) (V0 : hf_H), hf_J C hf_dHI (k6 l0 l1 l2 l3 l4 l5 V0) V0 6 [(0, .ref l0), (1, .int l1), (2, .int l2), (3, .int l3), (4, .int l4), (5, .int l5)] []) (l0 : Nat) (l1 : Int32) (l2 : Int32) (l3 : Int32) (l4 : Int32) (l5 : Int32) (V0 : hf_H) : hf_J C hf_dHI (ndX0_fitting_6 k6 l0 l1 l2 l3 l4 l5 V0) V0 6 [(0, .ref l0), (1, .int l1), (2, .int l2), (3, .int l3), (4, .int l4), (5, .int l5)] [] := by
  refine hr_iload o 5 dX0_fitting_6 rfl ?_
  refine hr_aload_n o 0 dX0_fitting_8 rfl ?_
  refine hx_callVI (q := (RX0, TX0, 23)) o og mvX0_103 dX0_fitting_9 1 0 rfl [] (fun zr zg ze => mtX0_many l0 V0 zr zg ze) rfl rfl (Nat.le_of_ble_eq_true rfl) ⟨by decide, by decide⟩ (fun x2 g1 => ?_)
  refine hr_icmp_ge o 60 dX0_fitting_12 (by decide) (fun _ => ?_) (fun _ => ?_)
  · refine hr_iload o 4 dX0_fitting_60 rfl ?_
    exact hr_iret o dX0_fitting_62 rfl rfl
  refine hr_iload o 4 dX0_fitting_15 rfl ?_
  refine hr_iload_n o 2 dX0_fitting_17 rfl ?_
  refine hr_iload o 5 dX0_fitting_18 rfl ?_
  refine pr_callI o msX0_175 dX0_fitting_20 [.int l2, .int l5] (fun zr ze => mtX0_has l2 l5 zr ze) rfl rfl (Nat.le_of_ble_eq_true rfl) ⟨by decide, by decide⟩ (fun x3 => ?_)
  refine hr_if_eq o 47 dX0_fitting_23 (by decide) (fun _ => ?_) (fun _ => ?_)
  · refine hr_sub [0, 1, 2, 3, 5] rfl ?_
    exact nlX0_fitting_47 o og k6 hk6 l0 l1 l2 l3 l5 l4 g1
  refine hr_iload o 5 dX0_fitting_26 rfl ?_
  refine hr_iload_n o 1 dX0_fitting_28 rfl ?_
  refine hr_icmp_eq o 47 dX0_fitting_29 (by decide) (fun _ => ?_) (fun _ => ?_)
  · refine hr_sub [0, 1, 2, 3, 5] rfl ?_
    exact nlX0_fitting_47 o og k6 hk6 l0 l1 l2 l3 l5 l4 g1
  refine hr_aload_n o 0 dX0_fitting_32 rfl ?_
  refine hr_iload_n o 1 dX0_fitting_33 rfl ?_
  refine hr_iload o 5 dX0_fitting_34 rfl ?_
  refine hx_callVI (q := (RX0, TX0, 23)) o og mvX0_183 dX0_fitting_36 1 0 rfl [.int l1, .int l5] (fun zr zg ze => mtX0_fit2 l0 l1 l5 g1 zr zg ze) rfl rfl (Nat.le_of_ble_eq_true rfl) ⟨by decide, by decide⟩ (fun x5 g4 => ?_)
  refine hr_iload_n o 3 dX0_fitting_39 rfl ?_
  refine hr_icmp_ne o 47 dX0_fitting_40 (by decide) (fun _ => ?_) (fun _ => ?_)
  · refine hr_iconst o (1 : Int32) dX0_fitting_43 (by decide) ?_
    refine hr_goto o 48 dX0_fitting_44 (by decide) ?_
    refine hr_sub [0, 1, 2, 3, 5] rfl ?_
    exact nlX0_fitting_48 o og k6 hk6 l0 l1 l2 l3 l5 l4 (1 : Int32) g4
  refine hr_sub [0, 1, 2, 3, 5] rfl ?_
  exact nlX0_fitting_47 o og k6 hk6 l0 l1 l2 l3 l5 l4 g4
def lpX0_fitting_6  : Nat → Nat → Int32 → Int32 → Int32 → Int32 → Int32 → hf_H → Option (Int32 × hf_H)
  | 0 => fun _ _ _ _ _ _ _ => none
  | n + 1 => fun l0 l1 l2 l3 l4 l5 V0 => ndX0_fitting_6  (lpX0_fitting_6  n) l0 l1 l2 l3 l4 l5 V0
theorem llX0_fitting_6 {C : hf_X} {gs : hf_gs} (o : hf_In C cX0_fitting RX0 6 (some .int) 5 111) (og : hf_G C gs)   (n : Nat) : ∀ (l0 : Nat) (l1 : Int32) (l2 : Int32) (l3 : Int32) (l4 : Int32) (l5 : Int32) (V0 : hf_H), hf_J C hf_dHI ((lpX0_fitting_6  n) l0 l1 l2 l3 l4 l5 V0) V0 6 [(0, .ref l0), (1, .int l1), (2, .int l2), (3, .int l3), (4, .int l4), (5, .int l5)] [] := by
  induction n with
  | zero => exact fun _ _ _ _ _ _ _ => hr_none
  | succ n ih => exact fun l0 l1 l2 l3 l4 l5 V0 => nlX0_fitting_6 o og  (lpX0_fitting_6  n)  ih l0 l1 l2 l3 l4 l5 V0
def spX0_fitting (l0 : Nat) (l1 : Int32) (l2 : Int32) (l3 : Int32) (V0 : hf_H) : Option (Int32 × hf_H) :=
  lpX0_fitting_6 hf_N l0 l1 l2 l3 (0 : Int32) (0 : Int32) V0
theorem jtX0_fitting {C : hf_X} {gs : hf_gs} (o : hf_In C cX0_fitting RX0 6 (some .int) 5 111) (og : hf_G C gs) (l0 : Nat) (l1 : Int32) (l2 : Int32) (l3 : Int32) (V0 : hf_H) : hf_J C hf_dHI (spX0_fitting l0 l1 l2 l3 V0) V0 0 [(0, .ref l0), (1, .int l1), (2, .int l2), (3, .int l3)] [] := by
  refine hr_iconst o (0 : Int32) dX0_fitting_0 (by decide) ?_
  refine hr_istore o [(4, .int (0 : Int32)), (0, .ref l0), (1, .int l1), (2, .int l2), (3, .int l3)] dX0_fitting_1 (by decide) rfl ?_
  refine hr_iconst o (0 : Int32) dX0_fitting_3 (by decide) ?_
  refine hr_istore o [(5, .int (0 : Int32)), (4, .int (0 : Int32)), (0, .ref l0), (1, .int l1), (2, .int l2), (3, .int l3)] dX0_fitting_4 (by decide) rfl ?_
  refine hr_sub [2, 3, 4, 5, 1, 0] rfl ?_
  exact llX0_fitting_6 o og hf_N l0 l1 l2 l3 (0 : Int32) (0 : Int32) V0
theorem mtX0_fitting {gs : hf_gs} (l0 : Nat) (l1 : Int32) (l2 : Int32) (l3 : Int32) (V0 : hf_H) (r : Int32) (V1 : hf_H) (e : spX0_fitting l0 l1 l2 l3 V0 = some (r, V1)) : hf_ConG gs yX0_fitting cX0_fitting 6 (some .int) 5 111 [.ref l0, .int l1, .int l2, .int l3] V0 (.returned (some (.int r)), V1) := hf_entryG (dec := hf_dHI) (by decide) [.ref l0, .int l1, .int l2, .int l3] (Nat.le_of_ble_eq_true rfl) [(0, .ref l0), (1, .int l1), (2, .int l2), (3, .int l3)] rfl e (fun C o og _ => jtX0_fitting o og l0 l1 l2 l3 V0)
