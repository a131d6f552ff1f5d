set_option maxRecDepth 100000
set_option maxHeartbeats 4000000
/-! X18_back -/
theorem flX18_3 : hf_Fl RX18 3 18 7 := ⟨(RX18, TX18, 8), RX18, rfl, by decide, in_X18, tyX18_ok, nmX18, Or.inl q1362, Or.inl rfl⟩
theorem flX18_60 : hf_Fl RX18 60 18 5 := ⟨(RX18, TX18, 8), RX18, rfl, by decide, in_X18, tyX18_ok, nmX18, Or.inl q1360, Or.inl rfl⟩
theorem flX18_56 : hf_Fl RX18 56 0 10 := ⟨(RX0, TX0, 23), RX0, rfl, by decide, in_X0, tyX0_ok, nmX0, Or.inr ⟨"HalfFair", q405⟩, Or.inl rfl⟩
theorem flX18_66 : hf_Fl RX18 66 18 6 := ⟨(RX18, TX18, 8), RX18, rfl, by decide, in_X18, tyX18_ok, nmX18, Or.inl q1361, Or.inl rfl⟩
theorem flX18_63 : hf_Fl RX18 63 0 11 := ⟨(RX0, TX0, 23), RX0, rfl, by decide, in_X0, tyX0_ok, nmX0, Or.inr ⟨"HalfFair", q407⟩, Or.inl rfl⟩
theorem mvnX18_69 : hf_MVN RX18 69 "HalfFair" RX0 yX0_forgets cX0_forgets 1 (none) 0 := ⟨⟨q1393, q800, qs19, q153, q801⟩, by decide +kernel⟩
theorem flX18_47 : hf_Fl RX18 47 0 7 := ⟨(RX0, TX0, 23), RX0, rfl, by decide, in_X0, tyX0_ok, nmX0, Or.inr ⟨"HalfFair", q399⟩, Or.inl rfl⟩
theorem flX18_22 : hf_Fl RX18 22 18 2 := ⟨(RX18, TX18, 8), RX18, rfl, by decide, in_X18, tyX18_ok, nmX18, Or.inl q1357, Or.inl rfl⟩
theorem flX18_50 : hf_Fl RX18 50 0 8 := ⟨(RX0, TX0, 23), RX0, rfl, by decide, in_X0, tyX0_ok, nmX0, Or.inr ⟨"HalfFair", q401⟩, Or.inl rfl⟩
theorem flX18_26 : hf_Fl RX18 26 18 3 := ⟨(RX18, TX18, 8), RX18, rfl, by decide, in_X18, tyX18_ok, nmX18, Or.inl q1358, Or.inl rfl⟩
theorem flX18_53 : hf_Fl RX18 53 0 9 := ⟨(RX0, TX0, 23), RX0, rfl, by decide, in_X0, tyX0_ok, nmX0, Or.inr ⟨"HalfFair", q403⟩, Or.inl rfl⟩
theorem flX18_29 : hf_Fl RX18 29 18 4 := ⟨(RX18, TX18, 8), RX18, rfl, by decide, in_X18, tyX18_ok, nmX18, Or.inl q1359, Or.inl rfl⟩
theorem flX18_37 : hf_Fl RX18 37 18 0 := ⟨(RX18, TX18, 8), RX18, rfl, by decide, in_X18, tyX18_ok, nmX18, Or.inl q1355, Or.inl rfl⟩
theorem flX18_33 : hf_Fl RX18 33 0 0 := ⟨(RX0, TX0, 23), RX0, rfl, by decide, in_X0, tyX0_ok, nmX0, Or.inr ⟨"HalfFair", q387⟩, Or.inl rfl⟩
theorem nf_0_0 : hf_Nf 0 0 := ⟨(RX0, TX0, 23), rfl, rfl⟩
theorem flX18_40 : hf_Fl RX18 40 0 1 := ⟨(RX0, TX0, 23), RX0, rfl, by decide, in_X0, tyX0_ok, nmX0, Or.inr ⟨"HalfFair", q389⟩, Or.inl rfl⟩
theorem flX18_18 : hf_Fl RX18 18 18 1 := ⟨(RX18, TX18, 8), RX18, rfl, by decide, in_X18, tyX18_ok, nmX18, Or.inl q1356, Or.inl rfl⟩
theorem mvX18_43 : hf_MV RX18 43 RX2 yX2_copyFrom cX2_copyFrom 3 (none) 1 := ⟨lw_V q1384 q1088 q1089 q158 q1090, by decide +kernel⟩
def ndX18_back_27 (k27 : Nat → Int32 → hf_H → Option hf_H) (l0 : Nat) (l1 : Int32) (V0 : hf_H) : Option hf_H :=
  if (12 : Int32) ≤ l1 then ((hf_ga 1 18 7 V0 l0).bind fun x1 =>
  (hf_gi 1 18 5 V0 l0).bind fun x2 =>
  (hf_pi 1 0 10 V0 x1 x2).bind fun g3 =>
  (hf_ga 1 18 7 g3 l0).bind fun x4 =>
  (hf_gi 1 18 6 g3 l0).bind fun x5 =>
  (hf_pi 1 0 11 g3 x4 x5).bind fun g6 =>
  (hf_ga 1 18 7 g6 l0).bind fun x7 =>
  (hf_ob 1 0 g6 x7).bind fun _ =>
  (spX0_forgets x7 g6).bind fun g8 =>
  some g8) else
  (hf_ga 1 18 7 V0 l0).bind fun x9 =>
  (hf_ob 1 0 V0 x9).bind fun _ =>
  (hf_ob 1 18 V0 l0).bind fun _ =>
  (hf_ai 18 2 12 V0 l0 l1).bind fun x10 =>
  (hf_si 0 7 12 V0 x9 l1 x10).bind fun g11 =>
  (hf_ga 1 18 7 g11 l0).bind fun x12 =>
  (hf_ob 1 0 g11 x12).bind fun _ =>
  (hf_ob 1 18 g11 l0).bind fun _ =>
  (hf_ai 18 3 12 g11 l0 l1).bind fun x13 =>
  (hf_si 0 8 12 g11 x12 l1 x13).bind fun g14 =>
  (hf_ga 1 18 7 g14 l0).bind fun x15 =>
  (hf_ob 1 0 g14 x15).bind fun _ =>
  (hf_ob 1 18 g14 l0).bind fun _ =>
  (hf_ai 18 4 12 g14 l0 l1).bind fun x16 =>
  (hf_si 0 9 12 g14 x15 l1 (vp_nar .boolean x16)).bind fun g17 =>
  hf_let (l1 + (1 : Int32)) fun x18 =>
  k27 l0 x18 g17
theorem nlX18_back_27 {C : hf_X} {gs : hf_gs} (o : hf_In C cX18_back RX18 2 (none) 1 22) (og : hf_G C gs) (k27 : Nat → Int32 → hf_H → Option hf_H) (hk27 : ∀ (l0 : Nat) (l1 : Int32) (V0 : hf_H), hf_J C hf_dHV (k27 l0 l1 V0) V0 27 [(0, .ref l0), (1, .int l1)] []) (l0 : Nat) (l1 : Int32) (V0 : hf_H) : hf_J C hf_dHV (ndX18_back_27 k27 l0 l1 V0) V0 27 [(0, .ref l0), (1, .int l1)] [] := by
  refine hr_iload_n o 1 dX18_back_27 rfl ?_
  refine hr_bipush o (12 : Int32) dX18_back_28 (by decide) ?_
  refine hr_icmp_ge o 84 dX18_back_30 (by decide) (fun _ => ?_) (fun _ => ?_)
  · refine hr_aload_n o 0 dX18_back_84 rfl ?_
    refine hr_getA (md := 1) o flX18_3 dX18_back_85 (fun _ => rfl) (fun x1 => ?_)
    refine hr_aload_n o 0 dX18_back_88 rfl ?_
    refine hr_getI (md := 1) o flX18_60 dX18_back_89 (fun _ => rfl) (fun x2 => ?_)
    refine hx_putI (md := 1) o flX18_56 dX18_back_92 rfl (Or.inl nf_0_10) rfl rfl (fun _ => rfl) (fun g3 => ?_)
    refine hr_aload_n o 0 dX18_back_95 rfl ?_
    refine hr_getA (md := 1) o flX18_3 dX18_back_96 (fun _ => rfl) (fun x4 => ?_)
    refine hr_aload_n o 0 dX18_back_99 rfl ?_
    refine hr_getI (md := 1) o flX18_66 dX18_back_100 (fun _ => rfl) (fun x5 => ?_)
    refine hx_putI (md := 1) o flX18_63 dX18_back_103 rfl (Or.inl nf_0_11) rfl rfl (fun _ => rfl) (fun g6 => ?_)
    refine hr_aload_n o 0 dX18_back_106 rfl ?_
    refine hr_getA (md := 1) o flX18_3 dX18_back_107 (fun _ => rfl) (fun x7 => ?_)
    refine hx_callVNV (q := (RX0, TX0, 23)) o og mvnX18_69 dX18_back_110 1 0 rfl [] (fun zg ze => mtX0_forgets x7 g6 zg ze) rfl rfl (Nat.le_of_ble_eq_true rfl) ⟨by decide, by decide⟩ (fun g8 => ?_)
    exact hr_vret o dX18_back_113 rfl
  refine hr_aload_n o 0 dX18_back_33 rfl ?_
  refine hr_getA (md := 1) o flX18_3 dX18_back_34 (fun _ => rfl) (fun x9 => ?_)
  refine hr_getO o flX18_47 dX18_back_37 21 (fun _ => rfl) (fun _ _ => ?_)
  refine hr_iload_n o 1 dX18_back_40 rfl ?_
  refine hr_aload_n o 0 dX18_back_41 rfl ?_
  refine hr_getO o flX18_22 dX18_back_42 6 (fun _ => rfl) (fun _ _ => ?_)
  refine hr_iload_n o 1 dX18_back_45 rfl ?_
  refine hx_iald o 18 2 6 12 rfl (by decide) rfl dX18_back_46 (fun x10 => ?_)
  refine hx_iast o 0 7 21 12 rfl (by decide) (fun j h1 h2 => hf_of0_inj j 7 h1 h2) rfl dX18_back_47 (fun g11 => ?_)
  refine hr_aload_n o 0 dX18_back_48 rfl ?_
  refine hr_getA (md := 1) o flX18_3 dX18_back_49 (fun _ => rfl) (fun x12 => ?_)
  refine hr_getO o flX18_50 dX18_back_52 22 (fun _ => rfl) (fun _ _ => ?_)
  refine hr_iload_n o 1 dX18_back_55 rfl ?_
  refine hr_aload_n o 0 dX18_back_56 rfl ?_
  refine hr_getO o flX18_26 dX18_back_57 7 (fun _ => rfl) (fun _ _ => ?_)
  refine hr_iload_n o 1 dX18_back_60 rfl ?_
  refine hx_iald o 18 3 7 12 rfl (by decide) rfl dX18_back_61 (fun x13 => ?_)
  refine hx_iast o 0 8 22 12 rfl (by decide) (fun j h1 h2 => hf_of0_inj j 8 h1 h2) rfl dX18_back_62 (fun g14 => ?_)
  refine hr_aload_n o 0 dX18_back_63 rfl ?_
  refine hr_getA (md := 1) o flX18_3 dX18_back_64 (fun _ => rfl) (fun x15 => ?_)
  refine hr_getO o flX18_53 dX18_back_67 23 (fun _ => rfl) (fun _ _ => ?_)
  refine hr_iload_n o 1 dX18_back_70 rfl ?_
  refine hr_aload_n o 0 dX18_back_71 rfl ?_
  refine hr_getO o flX18_29 dX18_back_72 8 (fun _ => rfl) (fun _ _ => ?_)
  refine hr_iload_n o 1 dX18_back_75 rfl ?_
  refine hx_zald o 18 4 8 12 rfl (by decide) rfl dX18_back_76 (fun x16 => ?_)
  refine hx_zast o 0 9 23 12 rfl (by decide) (fun j h1 h2 => hf_of0_inj j 9 h1 h2) rfl dX18_back_77 (fun g17 => ?_)
  refine hr_iincN o (1 : Int32) 1 (fun y => [(1, .int y), (0, .ref l0)]) dX18_back_78 rfl (by decide) (by decide) (fun y => rfl) (fun x18 => ?_)
  refine hr_goto o 27 dX18_back_81 (by decide) ?_
  refine hr_sub [1, 0] rfl ?_
  exact hk27 l0 x18 g17
def lpX18_back_27  : Nat → Nat → Int32 → hf_H → Option hf_H
  | 0 => fun _ _ _ => none
  | n + 1 => fun l0 l1 V0 => ndX18_back_27  (lpX18_back_27  n) l0 l1 V0
theorem llX18_back_27 {C : hf_X} {gs : hf_gs} (o : hf_In C cX18_back RX18 2 (none) 1 22) (og : hf_G C gs)   (n : Nat) : ∀ (l0 : Nat) (l1 : Int32) (V0 : hf_H), hf_J C hf_dHV ((lpX18_back_27  n) l0 l1 V0) V0 27 [(0, .ref l0), (1, .int l1)] [] := by
  induction n with
  | zero => exact fun _ _ _ => hr_none
  | succ n ih => exact fun l0 l1 V0 => nlX18_back_27 o og  (lpX18_back_27  n)  ih l0 l1 V0
def spX18_back (l0 : Nat) (V0 : hf_H) : Option hf_H :=
  (hf_ga 1 18 7 V0 l0).bind fun x1 =>
  (hf_ga 1 18 0 V0 l0).bind fun x2 =>
  (hf_pq 1 0 0 V0 x1 (some x2)).bind fun g3 =>
  (hf_ga 1 18 7 g3 l0).bind fun x4 =>
  (hf_ga 1 0 1 g3 x4).bind fun x5 =>
  (hf_ga 1 18 1 g3 l0).bind fun x6 =>
  (hf_ob 1 2 g3 x5).bind fun _ =>
  (spX2_copyFrom x5 x6 g3).bind fun g7 =>
  lpX18_back_27 hf_N l0 (0 : Int32) g7
theorem jtX18_back {C : hf_X} {gs : hf_gs} (o : hf_In C cX18_back RX18 2 (none) 1 22) (og : hf_G C gs) (l0 : Nat) (V0 : hf_H) : hf_J C hf_dHV (spX18_back l0 V0) V0 0 [(0, .ref l0)] [] := by
  refine hr_aload_n o 0 dX18_back_0 rfl ?_
  refine hr_getA (md := 1) o flX18_3 dX18_back_1 (fun _ => rfl) (fun x1 => ?_)
  refine hr_aload_n o 0 dX18_back_4 rfl ?_
  refine hr_getA (md := 1) o flX18_37 dX18_back_5 (fun _ => rfl) (fun x2 => ?_)
  refine hx_putQ (md := 1) (x := (some x2)) o flX18_33 dX18_back_8 rfl (Or.inl nf_0_0) rfl (Or.inl ⟨_, rfl⟩) (fun _ => rfl) (fun g3 => ?_)
  refine hr_aload_n o 0 dX18_back_11 rfl ?_
  refine hr_getA (md := 1) o flX18_3 dX18_back_12 (fun _ => rfl) (fun x4 => ?_)
  refine hr_getA (md := 1) o flX18_40 dX18_back_15 (fun _ => rfl) (fun x5 => ?_)
  refine hr_aload_n o 0 dX18_back_18 rfl ?_
  refine hr_getA (md := 1) o flX18_18 dX18_back_19 (fun _ => rfl) (fun x6 => ?_)
  refine hx_callVV (q := (RX2, TX2, 5)) o og mvX18_43 dX18_back_22 1 2 rfl [.ref x6] (fun zg ze => mtX2_copyFrom x5 x6 g3 zg ze) rfl rfl (Nat.le_of_ble_eq_true rfl) ⟨by decide, by decide⟩ (fun g7 => ?_)
  refine hr_iconst o (0 : Int32) dX18_back_25 (by decide) ?_
  refine hr_istore_n o [(1, .int (0 : Int32)), (0, .ref l0)] dX18_back_26 (by decide) rfl ?_
  refine hr_sub [1, 0] rfl ?_
  exact llX18_back_27 o og hf_N l0 (0 : Int32) g7
theorem mtX18_back {gs : hf_gs} (l0 : Nat) (V0 V1 : hf_H) (e : spX18_back l0 V0 = some V1) : hf_ConG gs yX18_back cX18_back 2 (none) 1 22 [.ref l0] V0 (.returned none, V1) := hf_entryG (dec := hf_dHV) (by decide) [.ref l0] (Nat.le_of_ble_eq_true rfl) [(0, .ref l0)] rfl e (fun C o og _ => jtX18_back o og l0 V0)

/-! X0_back -/
theorem flX0_85 : hf_Fl RX0 85 0 22 := ⟨(RX0, TX0, 23), RX0, rfl, by decide, in_X0, tyX0_ok, nmX0, Or.inl q419, Or.inl rfl⟩
theorem mvX0_430 : hf_MV RX0 430 RX18 yX18_back cX18_back 2 (none) 0 := ⟨lw_V q1389 q1390 q1391 q187 q1392, by decide +kernel⟩
def spX0_back (l0 : Nat) (l1 : Int32) (V0 : hf_H) : Option (Int32 × hf_H) :=
  (spX0_in (Int32.toInt64 l1) (0 : Int64) (3 : Int64)).bind fun x1 =>
  if x1 = 0 then (some ((-1 : Int32), V0)) else
  (hf_ob 1 0 V0 l0).bind fun _ =>
  (hf_aq 0 22 4 V0 l0 l1).bind fun x2 =>
  if x2 = none then (some ((-1 : Int32), V0)) else
  (hf_ob 1 0 V0 l0).bind fun _ =>
  (hf_nn (hf_aq 0 22 4 V0 l0 l1)).bind fun x3 =>
  (hf_ob 1 18 V0 x3).bind fun _ =>
  (spX18_back x3 V0).bind fun g4 =>
  (hf_ga 1 0 1 g4 l0).bind fun x5 =>
  (hf_gi 1 2 4 g4 x5).bind fun x6 =>
  some (x6, g4)
theorem jtX0_back {C : hf_X} {gs : hf_gs} (o : hf_In C cX0_back RX0 2 (some .int) 2 43) (og : hf_G C gs) (l0 : Nat) (l1 : Int32) (V0 : hf_H) : hf_J C hf_dHI (spX0_back l0 l1 V0) V0 0 [(0, .ref l0), (1, .int l1)] [] := by
  refine hr_iload_n o 1 dX0_back_0 rfl ?_
  refine hr_i2l o dX0_back_1 ?_
  refine hr_lconst o (0 : Int64) dX0_back_2 (by decide) ?_
  refine hr_ldc2 o (3 : Int64) q1347 dX0_back_3 ?_
  refine pr_callI o msX0_106 dX0_back_6 [.long (Int32.toInt64 l1), .long (0 : Int64), .long (3 : Int64)] (fun zr ze => mtX0_in (Int32.toInt64 l1) (0 : Int64) (3 : Int64) zr ze) rfl rfl (Nat.le_of_ble_eq_true rfl) ⟨by decide, by decide⟩ (fun x1 => ?_)
  refine hr_if_eq o 21 dX0_back_9 (by decide) (fun _ => ?_) (fun _ => ?_)
  · refine hr_iconst o (-1 : Int32) dX0_back_21 (by decide) ?_
    exact hr_iret o dX0_back_22 rfl rfl
  refine hr_aload_n o 0 dX0_back_12 rfl ?_
  refine hr_getO o flX0_85 dX0_back_13 129 (fun _ => rfl) (fun _ _ => ?_)
  refine hr_iload_n o 1 dX0_back_16 rfl ?_
  refine hx_aaldQ o 0 22 129 4 rfl (by decide) "HalfFair$Image" rfl (by simp [hf_tys]) dX0_back_17 (fun x2 => ?_)
  refine hx_ifnonnull o 23 dX0_back_18 (by decide) (fun _ => ?_) (fun _ => ?_)
  · refine hr_iconst o (-1 : Int32) dX0_back_21 (by decide) ?_
    exact hr_iret o dX0_back_22 rfl rfl
  refine hr_aload_n o 0 dX0_back_23 rfl ?_
  refine hr_getO o flX0_85 dX0_back_24 129 (fun _ => rfl) (fun _ _ => ?_)
  refine hr_iload_n o 1 dX0_back_27 rfl ?_
  refine hx_aald o 0 22 129 4 rfl (by decide) "HalfFair$Image" rfl (by simp [hf_tys]) dX0_back_28 (fun x3 => ?_)
  refine hx_callVV (q := (RX18, TX18, 8)) o og mvX0_430 dX0_back_29 1 18 rfl [] (fun zg ze => mtX18_back x3 V0 zg ze) rfl rfl (Nat.le_of_ble_eq_true rfl) ⟨by decide, by decide⟩ (fun g4 => ?_)
  refine hr_aload_n o 0 dX0_back_32 rfl ?_
  refine hr_getA (md := 1) o flX0_19 dX0_back_33 (fun _ => rfl) (fun x5 => ?_)
  refine hr_getI (md := 1) o flX0_165 dX0_back_36 (fun _ => rfl) (fun x6 => ?_)
  exact hr_iret o dX0_back_39 rfl rfl
theorem mtX0_back {gs : hf_gs} (l0 : Nat) (l1 : Int32) (V0 : hf_H) (r : Int32) (V1 : hf_H) (e : spX0_back l0 l1 V0 = some (r, V1)) : hf_ConG gs yX0_back cX0_back 2 (some .int) 2 43 [.ref l0, .int l1] V0 (.returned (some (.int r)), V1) := hf_entryG (dec := hf_dHI) (by decide) [.ref l0, .int l1] (Nat.le_of_ble_eq_true rfl) [(0, .ref l0), (1, .int l1)] rfl e (fun C o og _ => jtX0_back o og l0 l1 V0)

/-! X18_keep -/
theorem nf_18_5 : hf_Nf 18 5 := ⟨(RX18, TX18, 8), rfl, rfl⟩
theorem nf_18_6 : hf_Nf 18 6 := ⟨(RX18, TX18, 8), rfl, rfl⟩
theorem nf_18_0 : hf_Nf 18 0 := ⟨(RX18, TX18, 8), rfl, rfl⟩
def ndX18_keep_27 (k27 : Nat → Int32 → hf_H → Option hf_H) (l0 : Nat) (l1 : Int32) (V0 : hf_H) : Option hf_H :=
  if (12 : Int32) ≤ l1 then ((hf_ga 1 18 7 V0 l0).bind fun x1 =>
  (hf_gi 1 0 10 V0 x1).bind fun x2 =>
  (hf_pi 1 18 5 V0 l0 x2).bind fun g3 =>
  (hf_ga 1 18 7 g3 l0).bind fun x4 =>
  (hf_gi 1 0 11 g3 x4).bind fun x5 =>
  (hf_pi 1 18 6 g3 l0 x5).bind fun g6 =>
  some g6) else
  (hf_ob 1 18 V0 l0).bind fun _ =>
  (hf_ga 1 18 7 V0 l0).bind fun x7 =>
  (hf_ob 1 0 V0 x7).bind fun _ =>
  (hf_ai 0 7 12 V0 x7 l1).bind fun x8 =>
  (hf_si 18 2 12 V0 l0 l1 x8).bind fun g9 =>
  (hf_ob 1 18 g9 l0).bind fun _ =>
  (hf_ga 1 18 7 g9 l0).bind fun x10 =>
  (hf_ob 1 0 g9 x10).bind fun _ =>
  (hf_ai 0 8 12 g9 x10 l1).bind fun x11 =>
  (hf_si 18 3 12 g9 l0 l1 x11).bind fun g12 =>
  (hf_ob 1 18 g12 l0).bind fun _ =>
  (hf_ga 1 18 7 g12 l0).bind fun x13 =>
  (hf_ob 1 0 g12 x13).bind fun _ =>
  (hf_ai 0 9 12 g12 x13 l1).bind fun x14 =>
  (hf_si 18 4 12 g12 l0 l1 (vp_nar .boolean x14)).bind fun g15 =>
  hf_let (l1 + (1 : Int32)) fun x16 =>
  k27 l0 x16 g15
theorem nlX18_keep_27 {C : hf_X} {gs : hf_gs} (o : hf_In C cX18_keep RX18 2 (none) 1 22) (og : hf_G C gs) (k27 : Nat → Int32 → hf_H → Option hf_H) (hk27 : ∀ (l0 : Nat) (l1 : Int32) (V0 : hf_H), hf_J C hf_dHV (k27 l0 l1 V0) V0 27 [(0, .ref l0), (1, .int l1)] []) (l0 : Nat) (l1 : Int32) (V0 : hf_H) : hf_J C hf_dHV (ndX18_keep_27 k27 l0 l1 V0) V0 27 [(0, .ref l0), (1, .int l1)] [] := by
  refine hr_iload_n o 1 dX18_keep_27 rfl ?_
  refine hr_bipush o (12 : Int32) dX18_keep_28 (by decide) ?_
  refine hr_icmp_ge o 84 dX18_keep_30 (by decide) (fun _ => ?_) (fun _ => ?_)
  · refine hr_aload_n o 0 dX18_keep_84 rfl ?_
    refine hr_aload_n o 0 dX18_keep_85 rfl ?_
    refine hr_getA (md := 1) o flX18_3 dX18_keep_86 (fun _ => rfl) (fun x1 => ?_)
    refine hr_getI (md := 1) o flX18_56 dX18_keep_89 (fun _ => rfl) (fun x2 => ?_)
    refine hx_putI (md := 1) o flX18_60 dX18_keep_92 rfl (Or.inl nf_18_5) rfl rfl (fun _ => rfl) (fun g3 => ?_)
    refine hr_aload_n o 0 dX18_keep_95 rfl ?_
    refine hr_aload_n o 0 dX18_keep_96 rfl ?_
    refine hr_getA (md := 1) o flX18_3 dX18_keep_97 (fun _ => rfl) (fun x4 => ?_)
    refine hr_getI (md := 1) o flX18_63 dX18_keep_100 (fun _ => rfl) (fun x5 => ?_)
    refine hx_putI (md := 1) o flX18_66 dX18_keep_103 rfl (Or.inl nf_18_6) rfl rfl (fun _ => rfl) (fun g6 => ?_)
    exact hr_vret o dX18_keep_106 rfl
  refine hr_aload_n o 0 dX18_keep_33 rfl ?_
  refine hr_getO o flX18_22 dX18_keep_34 6 (fun _ => rfl) (fun _ _ => ?_)
  refine hr_iload_n o 1 dX18_keep_37 rfl ?_
  refine hr_aload_n o 0 dX18_keep_38 rfl ?_
  refine hr_getA (md := 1) o flX18_3 dX18_keep_39 (fun _ => rfl) (fun x7 => ?_)
  refine hr_getO o flX18_47 dX18_keep_42 21 (fun _ => rfl) (fun _ _ => ?_)
  refine hr_iload_n o 1 dX18_keep_45 rfl ?_
  refine hx_iald o 0 7 21 12 rfl (by decide) rfl dX18_keep_46 (fun x8 => ?_)
  refine hx_iast o 18 2 6 12 rfl (by decide) (fun j h1 h2 => hf_of18_inj j 2 h1 h2) rfl dX18_keep_47 (fun g9 => ?_)
  refine hr_aload_n o 0 dX18_keep_48 rfl ?_
  refine hr_getO o flX18_26 dX18_keep_49 7 (fun _ => rfl) (fun _ _ => ?_)
  refine hr_iload_n o 1 dX18_keep_52 rfl ?_
  refine hr_aload_n o 0 dX18_keep_53 rfl ?_
  refine hr_getA (md := 1) o flX18_3 dX18_keep_54 (fun _ => rfl) (fun x10 => ?_)
  refine hr_getO o flX18_50 dX18_keep_57 22 (fun _ => rfl) (fun _ _ => ?_)
  refine hr_iload_n o 1 dX18_keep_60 rfl ?_
  refine hx_iald o 0 8 22 12 rfl (by decide) rfl dX18_keep_61 (fun x11 => ?_)
  refine hx_iast o 18 3 7 12 rfl (by decide) (fun j h1 h2 => hf_of18_inj j 3 h1 h2) rfl dX18_keep_62 (fun g12 => ?_)
  refine hr_aload_n o 0 dX18_keep_63 rfl ?_
  refine hr_getO o flX18_29 dX18_keep_64 8 (fun _ => rfl) (fun _ _ => ?_)
  refine hr_iload_n o 1 dX18_keep_67 rfl ?_
  refine hr_aload_n o 0 dX18_keep_68 rfl ?_
  refine hr_getA (md := 1) o flX18_3 dX18_keep_69 (fun _ => rfl) (fun x13 => ?_)
  refine hr_getO o flX18_53 dX18_keep_72 23 (fun _ => rfl) (fun _ _ => ?_)
  refine hr_iload_n o 1 dX18_keep_75 rfl ?_
  refine hx_zald o 0 9 23 12 rfl (by decide) rfl dX18_keep_76 (fun x14 => ?_)
  refine hx_zast o 18 4 8 12 rfl (by decide) (fun j h1 h2 => hf_of18_inj j 4 h1 h2) rfl dX18_keep_77 (fun g15 => ?_)
  refine hr_iincN o (1 : Int32) 1 (fun y => [(1, .int y), (0, .ref l0)]) dX18_keep_78 rfl (by decide) (by decide) (fun y => rfl) (fun x16 => ?_)
  refine hr_goto o 27 dX18_keep_81 (by decide) ?_
  refine hr_sub [1, 0] rfl ?_
  exact hk27 l0 x16 g15
def lpX18_keep_27  : Nat → Nat → Int32 → hf_H → Option hf_H
  | 0 => fun _ _ _ => none
  | n + 1 => fun l0 l1 V0 => ndX18_keep_27  (lpX18_keep_27  n) l0 l1 V0
theorem llX18_keep_27 {C : hf_X} {gs : hf_gs} (o : hf_In C cX18_keep RX18 2 (none) 1 22) (og : hf_G C gs)   (n : Nat) : ∀ (l0 : Nat) (l1 : Int32) (V0 : hf_H), hf_J C hf_dHV ((lpX18_keep_27  n) l0 l1 V0) V0 27 [(0, .ref l0), (1, .int l1)] [] := by
  induction n with
  | zero => exact fun _ _ _ => hr_none
  | succ n ih => exact fun l0 l1 V0 => nlX18_keep_27 o og  (lpX18_keep_27  n)  ih l0 l1 V0
def spX18_keep (l0 : Nat) (V0 : hf_H) : Option hf_H :=
  (hf_ga 1 18 7 V0 l0).bind fun x1 =>
  (hf_ga 1 0 0 V0 x1).bind fun x2 =>
  (hf_pq 1 18 0 V0 l0 (some x2)).bind fun g3 =>
  (hf_ga 1 18 1 g3 l0).bind fun x4 =>
  (hf_ga 1 18 7 g3 l0).bind fun x5 =>
  (hf_ga 1 0 1 g3 x5).bind fun x6 =>
  (hf_ob 1 2 g3 x4).bind fun _ =>
  (spX2_copyFrom x4 x6 g3).bind fun g7 =>
  lpX18_keep_27 hf_N l0 (0 : Int32) g7
theorem jtX18_keep {C : hf_X} {gs : hf_gs} (o : hf_In C cX18_keep RX18 2 (none) 1 22) (og : hf_G C gs) (l0 : Nat) (V0 : hf_H) : hf_J C hf_dHV (spX18_keep l0 V0) V0 0 [(0, .ref l0)] [] := by
  refine hr_aload_n o 0 dX18_keep_0 rfl ?_
  refine hr_aload_n o 0 dX18_keep_1 rfl ?_
  refine hr_getA (md := 1) o flX18_3 dX18_keep_2 (fun _ => rfl) (fun x1 => ?_)
  refine hr_getA (md := 1) o flX18_33 dX18_keep_5 (fun _ => rfl) (fun x2 => ?_)
  refine hx_putQ (md := 1) (x := (some x2)) o flX18_37 dX18_keep_8 rfl (Or.inl nf_18_0) rfl (Or.inl ⟨_, rfl⟩) (fun _ => rfl) (fun g3 => ?_)
  refine hr_aload_n o 0 dX18_keep_11 rfl ?_
  refine hr_getA (md := 1) o flX18_18 dX18_keep_12 (fun _ => rfl) (fun x4 => ?_)
  refine hr_aload_n o 0 dX18_keep_15 rfl ?_
  refine hr_getA (md := 1) o flX18_3 dX18_keep_16 (fun _ => rfl) (fun x5 => ?_)
  refine hr_getA (md := 1) o flX18_40 dX18_keep_19 (fun _ => rfl) (fun x6 => ?_)
  refine hx_callVV (q := (RX2, TX2, 5)) o og mvX18_43 dX18_keep_22 1 2 rfl [.ref x6] (fun zg ze => mtX2_copyFrom x4 x6 g3 zg ze) rfl rfl (Nat.le_of_ble_eq_true rfl) ⟨by decide, by decide⟩ (fun g7 => ?_)
  refine hr_iconst o (0 : Int32) dX18_keep_25 (by decide) ?_
  refine hr_istore_n o [(1, .int (0 : Int32)), (0, .ref l0)] dX18_keep_26 (by decide) rfl ?_
  refine hr_sub [1, 0] rfl ?_
  exact llX18_keep_27 o og hf_N l0 (0 : Int32) g7
theorem mtX18_keep {gs : hf_gs} (l0 : Nat) (V0 V1 : hf_H) (e : spX18_keep l0 V0 = some V1) : hf_ConG gs yX18_keep cX18_keep 2 (none) 1 22 [.ref l0] V0 (.returned none, V1) := hf_entryG (dec := hf_dHV) (by decide) [.ref l0] (Nat.le_of_ble_eq_true rfl) [(0, .ref l0)] rfl e (fun C o og _ => jtX18_keep o og l0 V0)
