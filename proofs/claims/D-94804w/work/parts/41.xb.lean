set_option maxRecDepth 100000
set_option maxHeartbeats 4000000
/-! X10_of -/
theorem flX10_7 : hf_Fl RX10 7 10 0 := ⟨(RX10, TX10, 1), RX10, rfl, by decide, in_X10, tyX10_ok, nmX10, Or.inl q856, Or.inl rfl⟩
def spX10_of (l0 : Nat) (l1 : Nat) (V0 : hf_H) : Option (Int64 × hf_H) :=
  (hf_gi 0 10 0 V0 l0).bind fun x1 =>
  some ((Int32.toInt64 x1), V0)
theorem jtX10_of {C : hf_X} {gs : hf_gs} {fr lc : Nat} (o : hf_In C cX10_of RX10 2 (some .long) fr lc) (og : hf_G C gs) (l0 : Nat) (l1 : Nat) (V0 : hf_H) : hf_J C hf_dHL (spX10_of l0 l1 V0) V0 0 [(0, .ref l0), (1, .ref (l1 + 126))] [] := by
  refine hr_aload_n o 0 dX10_of_0 rfl ?_
  refine hr_getI (md := 0) o flX10_7 dX10_of_1 (fun _ => rfl) (fun x1 => ?_)
  refine hr_i2l o dX10_of_4 ?_
  exact hr_lret o dX10_of_5 rfl
theorem mtX10_of {gs : hf_gs} {fr lc : Nat} (l0 : Nat) (l1 : Nat) (V0 : hf_H) (r : Int64) (V1 : hf_H) (e : spX10_of l0 l1 V0 = some (r, V1)) : hf_ConG gs yX10_of cX10_of 2 (some .long) fr lc [.ref l0, .ref (l1 + 126)] V0 (.returned (some (.long r)), V1) := hf_entryG (dec := hf_dHL) (by decide) [.ref l0, .ref (l1 + 126)] (Nat.le_of_ble_eq_true rfl) [(0, .ref l0), (1, .ref (l1 + 126))] rfl e (fun C o og _ => jtX10_of o og l0 l1 V0)

/-! X11_of -/
theorem flX11_7 : hf_Fl RX11 7 11 0 := ⟨(RX11, TX11, 1), RX11, rfl, by decide, in_X11, tyX11_ok, nmX11, Or.inl q870, Or.inl rfl⟩
def spX11_of (l0 : Nat) (l1 : Nat) (V0 : hf_H) : Option (Int64 × hf_H) :=
  (hf_gi 0 11 0 V0 l0).bind fun x1 =>
  (hf_al 0 16 13 V0 l1 x1).bind fun x2 =>
  some (x2, V0)
theorem jtX11_of {C : hf_X} {gs : hf_gs} {fr lc : Nat} (o : hf_In C cX11_of RX11 2 (some .long) fr lc) (og : hf_G C gs) (l0 : Nat) (l1 : Nat) (V0 : hf_H) : hf_J C hf_dHL (spX11_of l0 l1 V0) V0 0 [(0, .ref l0), (1, .ref (l1 + 126))] [] := by
  refine hr_aload_n o 1 dX11_of_0 rfl ?_
  refine hr_aload_n o 0 dX11_of_1 rfl ?_
  refine hr_getI (md := 0) o flX11_7 dX11_of_2 (fun _ => rfl) (fun x1 => ?_)
  refine hx_lald o 0 16 126 13 rfl (by decide) rfl dX11_of_5 (fun x2 => ?_)
  exact hr_lret o dX11_of_6 rfl
theorem mtX11_of {gs : hf_gs} {fr lc : Nat} (l0 : Nat) (l1 : Nat) (V0 : hf_H) (r : Int64) (V1 : hf_H) (e : spX11_of l0 l1 V0 = some (r, V1)) : hf_ConG gs yX11_of cX11_of 2 (some .long) fr lc [.ref l0, .ref (l1 + 126)] V0 (.returned (some (.long r)), V1) := hf_entryG (dec := hf_dHL) (by decide) [.ref l0, .ref (l1 + 126)] (Nat.le_of_ble_eq_true rfl) [(0, .ref l0), (1, .ref (l1 + 126))] rfl e (fun C o og _ => jtX11_of o og l0 l1 V0)

/-! X12_of -/
theorem flX12_7 : hf_Fl RX12 7 12 0 := ⟨(RX12, TX12, 3), RX12, rfl, by decide, in_X12, tyX12_ok, nmX12, Or.inl q880, Or.inl rfl⟩
theorem maX12_20_10 : hf_MA RX12 20 RX10 ⟨"HalfFair$Value", "of", "([J)J"⟩ yX10_of cX10_of 2 (some .long) 1 := ⟨hf_five q1227 q1220 q1230 q1228 q178, q1229, q1219, by decide +kernel⟩
theorem maX12_20_11 : hf_MA RX12 20 RX11 ⟨"HalfFair$Value", "of", "([J)J"⟩ yX11_of cX11_of 2 (some .long) 1 := ⟨hf_five q1227 q1220 q1221 q1222 q179, q1223, q1219, by decide +kernel⟩
theorem maX12_20_12 : hf_MA RX12 20 RX12 ⟨"HalfFair$Value", "of", "([J)J"⟩ yX12_of cX12_of 6 (some .long) 1 := ⟨hf_five q1227 q1220 q1224 q1225 q180, q1226, q1219, by decide +kernel⟩
theorem flX12_13 : hf_Fl RX12 13 12 1 := ⟨(RX12, TX12, 3), RX12, rfl, by decide, in_X12, tyX12_ok, nmX12, Or.inl q881, Or.inl rfl⟩
theorem flX12_16 : hf_Fl RX12 16 12 2 := ⟨(RX12, TX12, 3), RX12, rfl, by decide, in_X12, tyX12_ok, nmX12, Or.inl q882, Or.inl rfl⟩
def spX12_of (kv : Nat → Nat → hf_H → Option (Int64 × hf_H)) (l0 : Nat) (l1 : Nat) (V0 : hf_H) : Option (Int64 × hf_H) :=
  (hf_ga 0 12 0 V0 l0).bind fun x1 =>
  hf_b2 (kv x1 l1 V0) fun x3 g2 =>
  (hf_ga 0 12 1 g2 l0).bind fun x4 =>
  hf_b2 (kv x4 l1 g2) fun x6 g5 =>
  (hf_gi 0 12 2 g5 l0).bind fun x7 =>
  if x7 = (43 : Int32) then (some ((x3 + x6), g5)) else
  (hf_gi 0 12 2 g5 l0).bind fun x8 =>
  if x8 = (45 : Int32) then (some ((x3 - x6), g5)) else
  (hf_gi 0 12 2 g5 l0).bind fun x9 =>
  if x9 = (42 : Int32) then (some ((x3 * x6), g5)) else
  if (lg_cmp x6 (0 : Int64)) = 0 then (some ((0 : Int64), g5)) else
  (hf_gi 0 12 2 g5 l0).bind fun x10 =>
  if x10 = (47 : Int32) then (if x6 = 0 then none else
  some ((x3 / x6), g5)) else
  if x6 = 0 then none else
  some ((x3 - x3 / x6 * x6), g5)
theorem jtX12_of {C : hf_X} {gs : hf_gs} {fr lc : Nat} (o : hf_In C cX12_of RX12 6 (some .long) fr lc) (og : hf_G C gs) (kv : Nat → Nat → hf_H → Option (Int64 × hf_H)) {fr' lc' : Nat} (hkv : ∀ (a w : Nat) (h : hf_H) (r : Int64) (g : hf_H), kv a w h = some (r, g) → hf_VCon gs fr' lc' a w h r g) (hfr : fr' + 1 ≤ fr ∧ 25 + lc' ≤ lc) (l0 : Nat) (l1 : Nat) (V0 : hf_H) : hf_J C hf_dHL (spX12_of kv l0 l1 V0) V0 0 [(0, .ref l0), (1, .ref (l1 + 126))] [] := by
  refine hr_aload_n o 0 dX12_of_0 rfl ?_
  refine hr_getA (md := 0) o flX12_7 dX12_of_1 (fun _ => rfl) (fun x1 => ?_)
  refine hr_aload_n o 1 dX12_of_4 rfl ?_
  refine hx_callVal o og maX12_20_10 maX12_20_11 maX12_20_12 dX12_of_5 (hkv x1 l1 V0) rfl (Nat.le_of_ble_eq_true rfl) hfr (fun x3 g2 => ?_)
  refine hr_lstore_n o [(2, .long x3), (0, .ref l0), (1, .ref (l1 + 126))] dX12_of_8 (by decide) rfl ?_
  refine hr_aload_n o 1 dX12_of_9 rfl ?_
  refine hr_getA (md := 0) o flX12_13 dX12_of_10 (fun _ => rfl) (fun x4 => ?_)
  refine hr_aload_n o 2 dX12_of_13 rfl ?_
  refine hx_callVal o og maX12_20_10 maX12_20_11 maX12_20_12 dX12_of_14 (hkv x4 l1 g2) rfl (Nat.le_of_ble_eq_true rfl) hfr (fun x6 g5 => ?_)
  refine hr_lstore o [(4, .long x6), (2, .long x3), (0, .ref l0), (1, .ref (l1 + 126))] dX12_of_17 (by decide) rfl ?_
  refine hr_aload_n o 2 dX12_of_19 rfl ?_
  refine hr_getI (md := 0) o flX12_16 dX12_of_20 (fun _ => rfl) (fun x7 => ?_)
  refine hr_bipush o (43 : Int32) dX12_of_23 (by decide) ?_
  refine hr_icmp_ne o 35 dX12_of_25 (by decide) (fun _ => ?_) (fun _ => ?_)
  · refine hr_lload_n o 1 dX12_of_28 rfl ?_
    refine hr_lload o 0 dX12_of_29 rfl ?_
    refine hr_ladd o dX12_of_31 ?_
    refine hr_goto o 98 dX12_of_32 (by decide) ?_
    exact hr_lret o dX12_of_98 rfl
  refine hr_aload_n o 2 dX12_of_35 rfl ?_
  refine hr_getI (md := 0) o flX12_16 dX12_of_36 (fun _ => rfl) (fun x8 => ?_)
  refine hr_bipush o (45 : Int32) dX12_of_39 (by decide) ?_
  refine hr_icmp_ne o 51 dX12_of_41 (by decide) (fun _ => ?_) (fun _ => ?_)
  · refine hr_lload_n o 1 dX12_of_44 rfl ?_
    refine hr_lload o 0 dX12_of_45 rfl ?_
    refine hr_lsub o dX12_of_47 ?_
    refine hr_goto o 98 dX12_of_48 (by decide) ?_
    exact hr_lret o dX12_of_98 rfl
  refine hr_aload_n o 2 dX12_of_51 rfl ?_
  refine hr_getI (md := 0) o flX12_16 dX12_of_52 (fun _ => rfl) (fun x9 => ?_)
  refine hr_bipush o (42 : Int32) dX12_of_55 (by decide) ?_
  refine hr_icmp_ne o 67 dX12_of_57 (by decide) (fun _ => ?_) (fun _ => ?_)
  · refine hr_lload_n o 1 dX12_of_60 rfl ?_
    refine hr_lload o 0 dX12_of_61 rfl ?_
    refine hr_lmul o dX12_of_63 ?_
    refine hr_goto o 98 dX12_of_64 (by decide) ?_
    exact hr_lret o dX12_of_98 rfl
  refine hr_lload o 0 dX12_of_67 rfl ?_
  refine hr_lconst o (0 : Int64) dX12_of_69 (by decide) ?_
  refine hr_lcmp o dX12_of_70 ?_
  refine hr_if_ne o 78 dX12_of_71 (by decide) (fun _ => ?_) (fun _ => ?_)
  · refine hr_lconst o (0 : Int64) dX12_of_74 (by decide) ?_
    refine hr_goto o 98 dX12_of_75 (by decide) ?_
    exact hr_lret o dX12_of_98 rfl
  refine hr_aload_n o 2 dX12_of_78 rfl ?_
  refine hr_getI (md := 0) o flX12_16 dX12_of_79 (fun _ => rfl) (fun x10 => ?_)
  refine hr_bipush o (47 : Int32) dX12_of_82 (by decide) ?_
  refine hr_icmp_ne o 94 dX12_of_84 (by decide) (fun _ => ?_) (fun _ => ?_)
  · refine hr_lload_n o 1 dX12_of_87 rfl ?_
    refine hr_lload o 0 dX12_of_88 rfl ?_
    refine hr_ldiv o dX12_of_90 (fun _ => ?_)
    refine hr_goto o 98 dX12_of_91 (by decide) ?_
    exact hr_lret o dX12_of_98 rfl
  refine hr_lload_n o 1 dX12_of_94 rfl ?_
  refine hr_lload o 0 dX12_of_95 rfl ?_
  refine hr_lrem o dX12_of_97 (fun _ => ?_)
  exact hr_lret o dX12_of_98 rfl
theorem mtX12_of {gs : hf_gs} {fr lc : Nat} (kv : Nat → Nat → hf_H → Option (Int64 × hf_H)) {fr' lc' : Nat} (hkv : ∀ (a w : Nat) (h : hf_H) (r : Int64) (g : hf_H), kv a w h = some (r, g) → hf_VCon gs fr' lc' a w h r g) (hfr : fr' + 1 ≤ fr ∧ 25 + lc' ≤ lc) (l0 : Nat) (l1 : Nat) (V0 : hf_H) (r : Int64) (V1 : hf_H) (e : spX12_of kv l0 l1 V0 = some (r, V1)) : hf_ConG gs yX12_of cX12_of 6 (some .long) fr lc [.ref l0, .ref (l1 + 126)] V0 (.returned (some (.long r)), V1) := hf_entryG (dec := hf_dHL) (by decide) [.ref l0, .ref (l1 + 126)] (Nat.le_of_ble_eq_true rfl) [(0, .ref l0), (1, .ref (l1 + 126))] rfl e (fun C o og _ => jtX12_of o og kv hkv hfr l0 l1 V0)

def spVal : Nat → Nat → Nat → hf_H → Option (Int64 × hf_H)
  | 0 => fun _ _ _ => none
  | d + 1 => fun a w h => match h.1 a with
    | some (.inl (_, 10, _)) => spX10_of a w h
    | some (.inl (_, 11, _)) => spX11_of a w h
    | some (.inl (_, 12, _)) => spX12_of (spVal d) a w h
    | _ => none
theorem mtVal {gs : hf_gs} (d : Nat) : ∀ (a w : Nat) (h : hf_H) (r : Int64) (g : hf_H), spVal d a w h = some (r, g) → hf_VCon gs d (25 * d) a w h r g := by
  induction d with
  | zero => intro a w h r g e; cases e
  | succ d ih =>
    intro a w h r g e
    unfold spVal at e
    split at e
    · next md V h1 => exact ⟨md, 10, V, h1, Or.inl ⟨rfl, mtX10_of a w h r g e⟩⟩
    · next md V h1 => exact ⟨md, 11, V, h1, Or.inr (Or.inl ⟨rfl, mtX11_of a w h r g e⟩)⟩
    · next md V h1 => exact ⟨md, 12, V, h1, Or.inr (Or.inr ⟨rfl, mtX12_of (spVal d) ih ⟨Nat.le_refl _, by omega⟩ a w h r g e⟩)⟩
    · cases e

/-! X16_is -/
theorem flX16_16 : hf_Fl RX16 16 16 2 := ⟨(RX16, TX16, 4), RX16, rfl, by decide, in_X16, tyX16_ok, nmX16, Or.inl q935, Or.inl rfl⟩
theorem flX16_7 : hf_Fl RX16 7 16 0 := ⟨(RX16, TX16, 4), RX16, rfl, by decide, in_X16, tyX16_ok, nmX16, Or.inl q933, Or.inl rfl⟩
theorem maX16_24_10 : hf_MA RX16 24 RX10 ⟨"HalfFair$Value", "of", "([J)J"⟩ yX10_of cX10_of 2 (some .long) 1 := ⟨hf_five q1218 q1220 q1230 q1228 q178, q1229, q1219, by decide +kernel⟩
theorem maX16_24_11 : hf_MA RX16 24 RX11 ⟨"HalfFair$Value", "of", "([J)J"⟩ yX11_of cX11_of 2 (some .long) 1 := ⟨hf_five q1218 q1220 q1221 q1222 q179, q1223, q1219, by decide +kernel⟩
theorem maX16_24_12 : hf_MA RX16 24 RX12 ⟨"HalfFair$Value", "of", "([J)J"⟩ yX12_of cX12_of 6 (some .long) 1 := ⟨hf_five q1218 q1220 q1224 q1225 q180, q1226, q1219, by decide +kernel⟩
theorem flX16_13 : hf_Fl RX16 13 16 1 := ⟨(RX16, TX16, 4), RX16, rfl, by decide, in_X16, tyX16_ok, nmX16, Or.inl q934, Or.inl rfl⟩
theorem flX16_20 : hf_Fl RX16 20 16 3 := ⟨(RX16, TX16, 4), RX16, rfl, by decide, in_X16, tyX16_ok, nmX16, Or.inl q936, Or.inl rfl⟩
def ndX16_is_66  (l0 : Nat) (l2 : Int64) (l4 : Int64) (V0 : hf_H) : Option (Int32 × hf_H) :=
  (hf_gi 0 16 2 V0 l0).bind fun x1 =>
  if x1 = (62 : Int32) then (if (lg_cmp l2 l4) ≤ 0 then (some ((0 : Int32), V0)) else
  some ((1 : Int32), V0)) else
  some ((0 : Int32), V0)
theorem nlX16_is_66 {C : hf_X} {gs : hf_gs} {fr lc : Nat} (o : hf_In C cX16_is RX16 6 (some .boolean) fr lc) (og : hf_G C gs)   (l0 : Nat) (l2 : Int64) (l4 : Int64) (V0 : hf_H) : hf_J C hf_dHI (ndX16_is_66 l0 l2 l4 V0) V0 66 [(0, .ref l0), (2, .long l2), (4, .long l4)] [] := by
  refine hr_aload_n o 0 dX16_is_66 rfl ?_
  refine hr_getI (md := 0) o flX16_16 dX16_is_67 (fun _ => rfl) (fun x1 => ?_)
  refine hr_bipush o (62 : Int32) dX16_is_70 (by decide) ?_
  refine hr_icmp_ne o 86 dX16_is_72 (by decide) (fun _ => ?_) (fun _ => ?_)
  · refine hr_lload_n o 1 dX16_is_75 rfl ?_
    refine hr_lload o 2 dX16_is_76 rfl ?_
    refine hr_lcmp o dX16_is_78 ?_
    refine hr_if_le o 86 dX16_is_79 (by decide) (fun _ => ?_) (fun _ => ?_)
    · refine hr_iconst o (0 : Int32) dX16_is_86 (by decide) ?_
      exact hr_iret o dX16_is_87 rfl (by decide)
    refine hr_iconst o (1 : Int32) dX16_is_82 (by decide) ?_
    refine hr_goto o 87 dX16_is_83 (by decide) ?_
    exact hr_iret o dX16_is_87 rfl (by decide)
  refine hr_iconst o (0 : Int32) dX16_is_86 (by decide) ?_
  exact hr_iret o dX16_is_87 rfl (by decide)
def spX16_is (kv : Nat → Nat → hf_H → Option (Int64 × hf_H)) (l0 : Nat) (l1 : Nat) (V0 : hf_H) : Option (Int32 × hf_H) :=
  (hf_ga 0 16 0 V0 l0).bind fun x1 =>
  hf_b2 (kv x1 l1 V0) fun x3 g2 =>
  (hf_ga 0 16 1 g2 l0).bind fun x4 =>
  hf_b2 (kv x4 l1 g2) fun x6 g5 =>
  if (lg_cmp x3 x6) = 0 then ((hf_gi 0 16 2 g5 l0).bind fun x8 =>
  if x8 = (61 : Int32) then (some ((1 : Int32), g5)) else
  (hf_gi 0 16 3 g5 l0).bind fun x9 =>
  if x9 = 0 then (some ((0 : Int32), g5)) else
  some ((1 : Int32), g5)) else
  (hf_gi 0 16 2 g5 l0).bind fun x7 =>
  if x7 = (60 : Int32) then (if (lg_cmp x3 x6) < 0 then (some ((1 : Int32), g5)) else
  ndX16_is_66 l0 x3 x6 g5) else
  ndX16_is_66 l0 x3 x6 g5
theorem jtX16_is {C : hf_X} {gs : hf_gs} {fr lc : Nat} (o : hf_In C cX16_is RX16 6 (some .boolean) fr lc) (og : hf_G C gs) (kv : Nat → Nat → hf_H → Option (Int64 × hf_H)) {fr' lc' : Nat} (hkv : ∀ (a w : Nat) (h : hf_H) (r : Int64) (g : hf_H), kv a w h = some (r, g) → hf_VCon gs fr' lc' a w h r g) (hfr : fr' + 1 ≤ fr ∧ 25 + lc' ≤ lc) (l0 : Nat) (l1 : Nat) (V0 : hf_H) : hf_J C hf_dHI (spX16_is kv l0 l1 V0) V0 0 [(0, .ref l0), (1, .ref (l1 + 126))] [] := by
  refine hr_aload_n o 0 dX16_is_0 rfl ?_
  refine hr_getA (md := 0) o flX16_7 dX16_is_1 (fun _ => rfl) (fun x1 => ?_)
  refine hr_aload_n o 1 dX16_is_4 rfl ?_
  refine hx_callVal o og maX16_24_10 maX16_24_11 maX16_24_12 dX16_is_5 (hkv x1 l1 V0) rfl (Nat.le_of_ble_eq_true rfl) hfr (fun x3 g2 => ?_)
  refine hr_lstore_n o [(2, .long x3), (0, .ref l0), (1, .ref (l1 + 126))] dX16_is_8 (by decide) rfl ?_
  refine hr_aload_n o 1 dX16_is_9 rfl ?_
  refine hr_getA (md := 0) o flX16_13 dX16_is_10 (fun _ => rfl) (fun x4 => ?_)
  refine hr_aload_n o 2 dX16_is_13 rfl ?_
  refine hx_callVal o og maX16_24_10 maX16_24_11 maX16_24_12 dX16_is_14 (hkv x4 l1 g2) rfl (Nat.le_of_ble_eq_true rfl) hfr (fun x6 g5 => ?_)
  refine hr_lstore o [(4, .long x6), (2, .long x3), (0, .ref l0), (1, .ref (l1 + 126))] dX16_is_17 (by decide) rfl ?_
  refine hr_lload_n o 1 dX16_is_19 rfl ?_
  refine hr_lload o 0 dX16_is_20 rfl ?_
  refine hr_lcmp o dX16_is_22 ?_
  refine hr_if_ne o 50 dX16_is_23 (by decide) (fun _ => ?_) (fun _ => ?_)
  · refine hr_aload_n o 2 dX16_is_26 rfl ?_
    refine hr_getI (md := 0) o flX16_16 dX16_is_27 (fun _ => rfl) (fun x8 => ?_)
    refine hr_bipush o (61 : Int32) dX16_is_30 (by decide) ?_
    refine hr_icmp_eq o 42 dX16_is_32 (by decide) (fun _ => ?_) (fun _ => ?_)
    · refine hr_iconst o (1 : Int32) dX16_is_42 (by decide) ?_
      refine hr_goto o 87 dX16_is_43 (by decide) ?_
      exact hr_iret o dX16_is_87 rfl (by decide)
    refine hr_aload_n o 2 dX16_is_35 rfl ?_
    refine hr_getI (md := 0) o flX16_20 dX16_is_36 (fun _ => rfl) (fun x9 => ?_)
    refine hr_if_eq o 46 dX16_is_39 (by decide) (fun _ => ?_) (fun _ => ?_)
    · refine hr_iconst o (0 : Int32) dX16_is_46 (by decide) ?_
      refine hr_goto o 87 dX16_is_47 (by decide) ?_
      exact hr_iret o dX16_is_87 rfl (by decide)
    refine hr_iconst o (1 : Int32) dX16_is_42 (by decide) ?_
    refine hr_goto o 87 dX16_is_43 (by decide) ?_
    exact hr_iret o dX16_is_87 rfl (by decide)
  refine hr_aload_n o 2 dX16_is_50 rfl ?_
  refine hr_getI (md := 0) o flX16_16 dX16_is_51 (fun _ => rfl) (fun x7 => ?_)
  refine hr_bipush o (60 : Int32) dX16_is_54 (by decide) ?_
  refine hr_icmp_ne o 66 dX16_is_56 (by decide) (fun _ => ?_) (fun _ => ?_)
  · refine hr_lload_n o 1 dX16_is_59 rfl ?_
    refine hr_lload o 0 dX16_is_60 rfl ?_
    refine hr_lcmp o dX16_is_62 ?_
    refine hr_if_lt o 82 dX16_is_63 (by decide) (fun _ => ?_) (fun _ => ?_)
    · refine hr_iconst o (1 : Int32) dX16_is_82 (by decide) ?_
      refine hr_goto o 87 dX16_is_83 (by decide) ?_
      exact hr_iret o dX16_is_87 rfl (by decide)
    refine hr_sub [2, 1, 0] rfl ?_
    exact nlX16_is_66 o og l0 x3 x6 g5
  refine hr_sub [2, 1, 0] rfl ?_
  exact nlX16_is_66 o og l0 x3 x6 g5
theorem mtX16_is {gs : hf_gs} {fr lc : Nat} (kv : Nat → Nat → hf_H → Option (Int64 × hf_H)) {fr' lc' : Nat} (hkv : ∀ (a w : Nat) (h : hf_H) (r : Int64) (g : hf_H), kv a w h = some (r, g) → hf_VCon gs fr' lc' a w h r g) (hfr : fr' + 1 ≤ fr ∧ 25 + lc' ≤ lc) (l0 : Nat) (l1 : Nat) (V0 : hf_H) (r : Int32) (V1 : hf_H) (e : spX16_is kv l0 l1 V0 = some (r, V1)) : hf_ConG gs yX16_is cX16_is 6 (some .boolean) fr lc [.ref l0, .ref (l1 + 126)] V0 (.returned (some (.int r)), V1) := hf_entryG (dec := hf_dHI) (by decide) [.ref l0, .ref (l1 + 126)] (Nat.le_of_ble_eq_true rfl) [(0, .ref l0), (1, .ref (l1 + 126))] rfl e (fun C o og _ => jtX16_is o og kv hkv hfr l0 l1 V0)

/-! X15_is -/
theorem flX15_7 : hf_Fl RX15 7 15 0 := ⟨(RX15, TX15, 1), RX15, rfl, by decide, in_X15, tyX15_ok, nmX15, Or.inl q923, Or.inl rfl⟩
theorem maX15_13_15 : hf_MA RX15 13 RX15 ⟨"HalfFair$Condition", "is", "([J)Z"⟩ yX15_is cX15_is 2 (some .boolean) 1 := ⟨hf_five q1233 q1211 q1235 q1231 q183, q1232, q1210, by decide +kernel⟩
theorem maX15_13_16 : hf_MA RX15 13 RX16 ⟨"HalfFair$Condition", "is", "([J)Z"⟩ yX16_is cX16_is 6 (some .boolean) 1 := ⟨hf_five q1233 q1211 q1234 q1216 q184, q1217, q1210, by decide +kernel⟩
theorem maX15_13_17 : hf_MA RX15 13 RX17 ⟨"HalfFair$Condition", "is", "([J)Z"⟩ yX17_is cX17_is 2 (some .boolean) 1 := ⟨hf_five q1233 q1211 q1212 q1213 q185, q1214, q1210, by decide +kernel⟩
def spX15_is (kc : Nat → Nat → hf_H → Option (Int32 × hf_H)) (l0 : Nat) (l1 : Nat) (V0 : hf_H) : Option (Int32 × hf_H) :=
  (hf_ga 0 15 0 V0 l0).bind fun x1 =>
  hf_b2 (kc x1 l1 V0) fun x3 g2 =>
  if x3 = 0 then (some ((1 : Int32), g2)) else
  some ((0 : Int32), g2)
theorem jtX15_is {C : hf_X} {gs : hf_gs} {fr lc : Nat} (o : hf_In C cX15_is RX15 2 (some .boolean) fr lc) (og : hf_G C gs) (kc : Nat → Nat → hf_H → Option (Int32 × hf_H)) {fr' lc' : Nat} (hkc : ∀ (a w : Nat) (h : hf_H) (r : Int32) (g : hf_H), kc a w h = some (r, g) → hf_CCon gs fr' lc' a w h r g) (hfr : fr' + 1 ≤ fr ∧ 25 + lc' ≤ lc) (l0 : Nat) (l1 : Nat) (V0 : hf_H) : hf_J C hf_dHI (spX15_is kc l0 l1 V0) V0 0 [(0, .ref l0), (1, .ref (l1 + 126))] [] := by
  refine hr_aload_n o 0 dX15_is_0 rfl ?_
  refine hr_getA (md := 0) o flX15_7 dX15_is_1 (fun _ => rfl) (fun x1 => ?_)
  refine hr_aload_n o 1 dX15_is_4 rfl ?_
  refine hx_callCnd o og maX15_13_15 maX15_13_16 maX15_13_17 dX15_is_5 (hkc x1 l1 V0) rfl (Nat.le_of_ble_eq_true rfl) hfr (fun x3 g2 => ?_)
  refine hr_if_ne o 15 dX15_is_8 (by decide) (fun _ => ?_) (fun _ => ?_)
  · refine hr_iconst o (1 : Int32) dX15_is_11 (by decide) ?_
    refine hr_goto o 16 dX15_is_12 (by decide) ?_
    exact hr_iret o dX15_is_16 rfl (by decide)
  refine hr_iconst o (0 : Int32) dX15_is_15 (by decide) ?_
  exact hr_iret o dX15_is_16 rfl (by decide)
theorem mtX15_is {gs : hf_gs} {fr lc : Nat} (kc : Nat → Nat → hf_H → Option (Int32 × hf_H)) {fr' lc' : Nat} (hkc : ∀ (a w : Nat) (h : hf_H) (r : Int32) (g : hf_H), kc a w h = some (r, g) → hf_CCon gs fr' lc' a w h r g) (hfr : fr' + 1 ≤ fr ∧ 25 + lc' ≤ lc) (l0 : Nat) (l1 : Nat) (V0 : hf_H) (r : Int32) (V1 : hf_H) (e : spX15_is kc l0 l1 V0 = some (r, V1)) : hf_ConG gs yX15_is cX15_is 2 (some .boolean) fr lc [.ref l0, .ref (l1 + 126)] V0 (.returned (some (.int r)), V1) := hf_entryG (dec := hf_dHI) (by decide) [.ref l0, .ref (l1 + 126)] (Nat.le_of_ble_eq_true rfl) [(0, .ref l0), (1, .ref (l1 + 126))] rfl e (fun C o og _ => jtX15_is o og kc hkc hfr l0 l1 V0)

/-! X17_is -/
theorem flX17_16 : hf_Fl RX17 16 17 2 := ⟨(RX17, TX17, 3), RX17, rfl, by decide, in_X17, tyX17_ok, nmX17, Or.inl q955, Or.inl rfl⟩
theorem flX17_7 : hf_Fl RX17 7 17 0 := ⟨(RX17, TX17, 3), RX17, rfl, by decide, in_X17, tyX17_ok, nmX17, Or.inl q953, Or.inl rfl⟩
theorem maX17_20_15 : hf_MA RX17 20 RX15 ⟨"HalfFair$Condition", "is", "([J)Z"⟩ yX15_is cX15_is 2 (some .boolean) 1 := ⟨hf_five q1215 q1211 q1235 q1231 q183, q1232, q1210, by decide +kernel⟩
theorem maX17_20_16 : hf_MA RX17 20 RX16 ⟨"HalfFair$Condition", "is", "([J)Z"⟩ yX16_is cX16_is 6 (some .boolean) 1 := ⟨hf_five q1215 q1211 q1234 q1216 q184, q1217, q1210, by decide +kernel⟩
theorem maX17_20_17 : hf_MA RX17 20 RX17 ⟨"HalfFair$Condition", "is", "([J)Z"⟩ yX17_is cX17_is 2 (some .boolean) 1 := ⟨hf_five q1215 q1211 q1212 q1213 q185, q1214, q1210, by decide +kernel⟩
theorem flX17_13 : hf_Fl RX17 13 17 1 := ⟨(RX17, TX17, 3), RX17, rfl, by decide, in_X17, tyX17_ok, nmX17, Or.inl q954, Or.inl rfl⟩
def spX17_is (kc : Nat → Nat → hf_H → Option (Int32 × hf_H)) (l0 : Nat) (l1 : Nat) (V0 : hf_H) : Option (Int32 × hf_H) :=
  (hf_gi 0 17 2 V0 l0).bind fun x1 =>
  if x1 = 0 then ((hf_ga 0 17 0 V0 l0).bind fun x2 =>
  hf_b2 (kc x2 l1 V0) fun x4 g3 =>
  if x4 = 0 then (some ((0 : Int32), g3)) else
  (hf_ga 0 17 1 g3 l0).bind fun x5 =>
  hf_b2 (kc x5 l1 g3) fun x7 g6 =>
  if x7 = 0 then (some ((0 : Int32), g6)) else
  some ((1 : Int32), g6)) else
  (hf_ga 0 17 0 V0 l0).bind fun x8 =>
  hf_b2 (kc x8 l1 V0) fun x10 g9 =>
  if x10 = 0 then ((hf_ga 0 17 1 g9 l0).bind fun x11 =>
  hf_b2 (kc x11 l1 g9) fun x13 g12 =>
  if x13 = 0 then (some ((0 : Int32), g12)) else
  some ((1 : Int32), g12)) else
  some ((1 : Int32), g9)
theorem jtX17_is {C : hf_X} {gs : hf_gs} {fr lc : Nat} (o : hf_In C cX17_is RX17 2 (some .boolean) fr lc) (og : hf_G C gs) (kc : Nat → Nat → hf_H → Option (Int32 × hf_H)) {fr' lc' : Nat} (hkc : ∀ (a w : Nat) (h : hf_H) (r : Int32) (g : hf_H), kc a w h = some (r, g) → hf_CCon gs fr' lc' a w h r g) (hfr : fr' + 1 ≤ fr ∧ 25 + lc' ≤ lc) (l0 : Nat) (l1 : Nat) (V0 : hf_H) : hf_J C hf_dHI (spX17_is kc l0 l1 V0) V0 0 [(0, .ref l0), (1, .ref (l1 + 126))] [] := by
  refine hr_aload_n o 0 dX17_is_0 rfl ?_
  refine hr_getI (md := 0) o flX17_16 dX17_is_1 (fun _ => rfl) (fun x1 => ?_)
  refine hr_if_eq o 37 dX17_is_4 (by decide) (fun _ => ?_) (fun _ => ?_)
  · refine hr_aload_n o 0 dX17_is_37 rfl ?_
    refine hr_getA (md := 0) o flX17_7 dX17_is_38 (fun _ => rfl) (fun x2 => ?_)
    refine hr_aload_n o 1 dX17_is_41 rfl ?_
    refine hx_callCnd o og maX17_20_15 maX17_20_16 maX17_20_17 dX17_is_42 (hkc x2 l1 V0) rfl (Nat.le_of_ble_eq_true rfl) hfr (fun x4 g3 => ?_)
    refine hr_if_eq o 63 dX17_is_45 (by decide) (fun _ => ?_) (fun _ => ?_)
    · refine hr_iconst o (0 : Int32) dX17_is_63 (by decide) ?_
      exact hr_iret o dX17_is_64 rfl (by decide)
    refine hr_aload_n o 0 dX17_is_48 rfl ?_
    refine hr_getA (md := 0) o flX17_13 dX17_is_49 (fun _ => rfl) (fun x5 => ?_)
    refine hr_aload_n o 1 dX17_is_52 rfl ?_
    refine hx_callCnd o og maX17_20_15 maX17_20_16 maX17_20_17 dX17_is_53 (hkc x5 l1 g3) rfl (Nat.le_of_ble_eq_true rfl) hfr (fun x7 g6 => ?_)
    refine hr_if_eq o 63 dX17_is_56 (by decide) (fun _ => ?_) (fun _ => ?_)
    · refine hr_iconst o (0 : Int32) dX17_is_63 (by decide) ?_
      exact hr_iret o dX17_is_64 rfl (by decide)
    refine hr_iconst o (1 : Int32) dX17_is_59 (by decide) ?_
    refine hr_goto o 64 dX17_is_60 (by decide) ?_
    exact hr_iret o dX17_is_64 rfl (by decide)
  refine hr_aload_n o 0 dX17_is_7 rfl ?_
  refine hr_getA (md := 0) o flX17_7 dX17_is_8 (fun _ => rfl) (fun x8 => ?_)
  refine hr_aload_n o 1 dX17_is_11 rfl ?_
  refine hx_callCnd o og maX17_20_15 maX17_20_16 maX17_20_17 dX17_is_12 (hkc x8 l1 V0) rfl (Nat.le_of_ble_eq_true rfl) hfr (fun x10 g9 => ?_)
  refine hr_if_ne o 29 dX17_is_15 (by decide) (fun _ => ?_) (fun _ => ?_)
  · refine hr_aload_n o 0 dX17_is_18 rfl ?_
    refine hr_getA (md := 0) o flX17_13 dX17_is_19 (fun _ => rfl) (fun x11 => ?_)
    refine hr_aload_n o 1 dX17_is_22 rfl ?_
    refine hx_callCnd o og maX17_20_15 maX17_20_16 maX17_20_17 dX17_is_23 (hkc x11 l1 g9) rfl (Nat.le_of_ble_eq_true rfl) hfr (fun x13 g12 => ?_)
    refine hr_if_eq o 33 dX17_is_26 (by decide) (fun _ => ?_) (fun _ => ?_)
    · refine hr_iconst o (0 : Int32) dX17_is_33 (by decide) ?_
      refine hr_goto o 64 dX17_is_34 (by decide) ?_
      exact hr_iret o dX17_is_64 rfl (by decide)
    refine hr_iconst o (1 : Int32) dX17_is_29 (by decide) ?_
    refine hr_goto o 64 dX17_is_30 (by decide) ?_
    exact hr_iret o dX17_is_64 rfl (by decide)
  refine hr_iconst o (1 : Int32) dX17_is_29 (by decide) ?_
  refine hr_goto o 64 dX17_is_30 (by decide) ?_
  exact hr_iret o dX17_is_64 rfl (by decide)
theorem mtX17_is {gs : hf_gs} {fr lc : Nat} (kc : Nat → Nat → hf_H → Option (Int32 × hf_H)) {fr' lc' : Nat} (hkc : ∀ (a w : Nat) (h : hf_H) (r : Int32) (g : hf_H), kc a w h = some (r, g) → hf_CCon gs fr' lc' a w h r g) (hfr : fr' + 1 ≤ fr ∧ 25 + lc' ≤ lc) (l0 : Nat) (l1 : Nat) (V0 : hf_H) (r : Int32) (V1 : hf_H) (e : spX17_is kc l0 l1 V0 = some (r, V1)) : hf_ConG gs yX17_is cX17_is 2 (some .boolean) fr lc [.ref l0, .ref (l1 + 126)] V0 (.returned (some (.int r)), V1) := hf_entryG (dec := hf_dHI) (by decide) [.ref l0, .ref (l1 + 126)] (Nat.le_of_ble_eq_true rfl) [(0, .ref l0), (1, .ref (l1 + 126))] rfl e (fun C o og _ => jtX17_is o og kc hkc hfr l0 l1 V0)

def spCnd : Nat → Nat → Nat → hf_H → Option (Int32 × hf_H)
  | 0 => fun _ _ _ => none
  | d + 1 => fun a w h => match h.1 a with
    | some (.inl (_, 15, _)) => spX15_is (spCnd d) a w h
    | some (.inl (_, 16, _)) => spX16_is (spVal 64) a w h
    | some (.inl (_, 17, _)) => spX17_is (spCnd d) a w h
    | _ => none
theorem mtCnd {gs : hf_gs} (d : Nat) : ∀ (a w : Nat) (h : hf_H) (r : Int32) (g : hf_H), spCnd d a w h = some (r, g) → hf_CCon gs (d + 64) (25 * d + 1600) a w h r g := by
  induction d with
  | zero => intro a w h r g e; cases e
  | succ d ih =>
    intro a w h r g e
    unfold spCnd at e
    split at e
    · next md V h1 => exact ⟨md, 15, V, h1, Or.inl ⟨rfl, mtX15_is (spCnd d) ih ⟨by omega, by omega⟩ a w h r g e⟩⟩
    · next md V h1 => exact ⟨md, 16, V, h1, Or.inr (Or.inl ⟨rfl, mtX16_is (spVal 64) (mtVal 64) ⟨by omega, by omega⟩ a w h r g e⟩)⟩
    · next md V h1 => exact ⟨md, 17, V, h1, Or.inr (Or.inr ⟨rfl, mtX17_is (spCnd d) ih ⟨by omega, by omega⟩ a w h r g e⟩)⟩
    · cases e

/-! X13_holds -/
theorem flX13_17 : hf_Fl RX13 17 13 2 := ⟨(RX13, TX13, 3), RX13, rfl, by decide, in_X13, tyX13_ok, nmX13, Or.inl q972, Or.inl rfl⟩
theorem maX13_21_15 : hf_MA RX13 21 RX15 ⟨"HalfFair$Condition", "is", "([J)Z"⟩ yX15_is cX15_is 2 (some .boolean) 1 := ⟨hf_five q1209 q1211 q1235 q1231 q183, q1232, q1210, by decide +kernel⟩
theorem maX13_21_16 : hf_MA RX13 21 RX16 ⟨"HalfFair$Condition", "is", "([J)Z"⟩ yX16_is cX16_is 6 (some .boolean) 1 := ⟨hf_five q1209 q1211 q1234 q1216 q184, q1217, q1210, by decide +kernel⟩
theorem maX13_21_17 : hf_MA RX13 21 RX17 ⟨"HalfFair$Condition", "is", "([J)Z"⟩ yX17_is cX17_is 2 (some .boolean) 1 := ⟨hf_five q1209 q1211 q1212 q1213 q185, q1214, q1210, by decide +kernel⟩
def spX13_holds (l0 : Nat) (l1 : Nat) (V0 : hf_H) : Option (Int32 × hf_H) :=
  (hf_gq 0 13 2 V0 l0).bind fun x1 =>
  if x1 = none then (some ((1 : Int32), V0)) else
  (hf_ga 0 13 2 V0 l0).bind fun x2 =>
  hf_b2 ((spCnd 64) x2 l1 V0) fun x4 g3 =>
  if x4 = 0 then (some ((0 : Int32), g3)) else
  some ((1 : Int32), g3)
theorem jtX13_holds {C : hf_X} {gs : hf_gs} (o : hf_In C cX13_holds RX13 2 (some .boolean) 129 3225) (og : hf_G C gs) (l0 : Nat) (l1 : Nat) (V0 : hf_H) : hf_J C hf_dHI (spX13_holds l0 l1 V0) V0 0 [(0, .ref l0), (1, .ref (l1 + 126))] [] := by
  refine hr_aload_n o 0 dX13_holds_0 rfl ?_
  refine hr_getQ (md := 0) o flX13_17 dX13_holds_1 (fun _ => rfl) (fun x1 => ?_)
  refine hx_ifnull o 18 dX13_holds_4 (by decide) (fun _ => ?_) (fun _ => ?_)
  · refine hr_iconst o (1 : Int32) dX13_holds_18 (by decide) ?_
    refine hr_goto o 23 dX13_holds_19 (by decide) ?_
    exact hr_iret o dX13_holds_23 rfl (by decide)
  refine hr_aload_n o 0 dX13_holds_7 rfl ?_
  refine hr_getA (md := 0) o flX13_17 dX13_holds_8 (fun _ => rfl) (fun x2 => ?_)
  refine hr_aload_n o 1 dX13_holds_11 rfl ?_
  refine hx_callCnd o og maX13_21_15 maX13_21_16 maX13_21_17 dX13_holds_12 (fun zr zg ze => mtCnd 64 x2 l1 V0 zr zg ze) rfl (Nat.le_of_ble_eq_true rfl) ⟨by decide, by decide⟩ (fun x4 g3 => ?_)
  refine hr_if_eq o 22 dX13_holds_15 (by decide) (fun _ => ?_) (fun _ => ?_)
  · refine hr_iconst o (0 : Int32) dX13_holds_22 (by decide) ?_
    exact hr_iret o dX13_holds_23 rfl (by decide)
  refine hr_iconst o (1 : Int32) dX13_holds_18 (by decide) ?_
  refine hr_goto o 23 dX13_holds_19 (by decide) ?_
  exact hr_iret o dX13_holds_23 rfl (by decide)
theorem mtX13_holds {gs : hf_gs} (l0 : Nat) (l1 : Nat) (V0 : hf_H) (r : Int32) (V1 : hf_H) (e : spX13_holds l0 l1 V0 = some (r, V1)) : hf_ConG gs yX13_holds cX13_holds 2 (some .boolean) 129 3225 [.ref l0, .ref (l1 + 126)] V0 (.returned (some (.int r)), V1) := hf_entryG (dec := hf_dHI) (by decide) [.ref l0, .ref (l1 + 126)] (Nat.le_of_ble_eq_true rfl) [(0, .ref l0), (1, .ref (l1 + 126))] rfl e (fun C o og _ => jtX13_holds o og l0 l1 V0)

/-! X8_sum -/
theorem flX8_12 : hf_Fl RX8 12 8 0 := ⟨(RX8, TX8, 1), RX8, rfl, by decide, in_X8, tyX8_ok, nmX8, Or.inl q823, Or.inl rfl⟩
theorem mvX8_18 : hf_MV RX8 18 RJ2 yJ2_size cJ2_size 1 (some .int) 0 := ⟨lw_V q1202 q614 q615 q157 q616, by decide +kernel⟩
theorem mvX8_22 : hf_MV RX8 22 RJ2 yJ2_get cJ2_get 2 (some (.object "java/lang/Object")) 1 := ⟨lw_V q1203 q765 q766 q157 q767, by decide +kernel⟩
theorem flX8_28 : hf_Fl RX8 28 13 0 := ⟨(RX13, TX13, 3), RX13, rfl, by decide, in_X13, tyX13_ok, nmX13, Or.inr ⟨"HalfFair", q969⟩, Or.inl rfl⟩
theorem mvX8_32 : hf_MV RX8 32 RX13 yX13_holds cX13_holds 2 (some .boolean) 1 := ⟨lw_V q1205 q1206 q1207 q181 q1208, by decide +kernel⟩
theorem flX8_36 : hf_Fl RX8 36 13 1 := ⟨(RX13, TX13, 3), RX13, rfl, by decide, in_X13, tyX13_ok, nmX13, Or.inr ⟨"HalfFair", q971⟩, Or.inl rfl⟩
theorem maX8_40_10 : hf_MA RX8 40 RX10 ⟨"HalfFair$Value", "of", "([J)J"⟩ yX10_of cX10_of 2 (some .long) 1 := ⟨hf_five q1236 q1220 q1230 q1228 q178, q1229, q1219, by decide +kernel⟩
theorem maX8_40_11 : hf_MA RX8 40 RX11 ⟨"HalfFair$Value", "of", "([J)J"⟩ yX11_of cX11_of 2 (some .long) 1 := ⟨hf_five q1236 q1220 q1221 q1222 q179, q1223, q1219, by decide +kernel⟩
theorem maX8_40_12 : hf_MA RX8 40 RX12 ⟨"HalfFair$Value", "of", "([J)J"⟩ yX12_of cX12_of 6 (some .long) 1 := ⟨hf_five q1236 q1220 q1224 q1225 q180, q1226, q1219, by decide +kernel⟩
def ndX8_sum_68 (k2 : Nat → Int32 → Nat → Int32 → hf_H → Option (Int64 × hf_H)) (l0 : Nat) (l1 : Int32) (l2 : Nat) (l3 : Int32) (V0 : hf_H) : Option (Int64 × hf_H) :=
  hf_let (l3 + (1 : Int32)) fun x1 =>
  k2 l0 l1 l2 x1 V0
theorem nlX8_sum_68 {C : hf_X} {gs : hf_gs} (o : hf_In C cX8_sum RX8 4 (some .long) 130 3246) (og : hf_G C gs) (k2 : Nat → Int32 → Nat → Int32 → hf_H → Option (Int64 × hf_H)) (hk2 : ∀ (l0 : Nat) (l1 : Int32) (l2 : Nat) (l3 : Int32) (V0 : hf_H), hf_J C hf_dHL (k2 l0 l1 l2 l3 V0) V0 2 [(0, .ref l0), (1, .int l1), (2, .ref (l2 + 126)), (3, .int l3)] []) (l0 : Nat) (l1 : Int32) (l2 : Nat) (l3 : Int32) (V0 : hf_H) : hf_J C hf_dHL (ndX8_sum_68 k2 l0 l1 l2 l3 V0) V0 68 [(0, .ref l0), (1, .int l1), (2, .ref (l2 + 126)), (3, .int l3)] [] := by
  refine hr_iincN o (1 : Int32) 3 (fun y => [(3, .int y), (0, .ref l0), (1, .int l1), (2, .ref (l2 + 126))]) dX8_sum_68 rfl (by decide) (by decide) (fun y => rfl) (fun x1 => ?_)
  refine hr_goto o 2 dX8_sum_71 (by decide) ?_
  refine hr_sub [1, 2, 3, 0] rfl ?_
  exact hk2 l0 l1 l2 x1 V0
def ndX8_sum_2 (k2 : Nat → Int32 → Nat → Int32 → hf_H → Option (Int64 × hf_H)) (l0 : Nat) (l1 : Int32) (l2 : Nat) (l3 : Int32) (V0 : hf_H) : Option (Int64 × hf_H) :=
  (hf_ga 0 8 0 V0 l0).bind fun x1 =>
  (hf_ob 0 19 V0 x1).bind fun _ =>
  hf_b2 (spJ2_size x1 V0) fun x3 g2 =>
  if x3 ≤ l3 then (some ((0 : Int64), g2)) else
  (hf_ga 0 8 0 g2 l0).bind fun x4 =>
  (hf_ob 0 19 g2 x4).bind fun _ =>
  hf_b2 (spJ2_get x4 l3 g2) fun x6 g5 =>
  (hf_ob 0 13 g5 x6).bind fun _ =>
  (hf_gi 0 13 0 g5 x6).bind fun x7 =>
  if x7 = l1 then ((hf_ga 0 8 0 g5 l0).bind fun x8 =>
  (hf_ob 0 19 g5 x8).bind fun _ =>
  hf_b2 (spJ2_get x8 l3 g5) fun x10 g9 =>
  (hf_ob 0 13 g9 x10).bind fun _ =>
  (hf_ob 0 13 g9 x10).bind fun _ =>
  hf_b2 (spX13_holds x10 l2 g9) fun x12 g11 =>
  if x12 = 0 then (ndX8_sum_68 k2 l0 l1 l2 l3 g11) else
  (hf_ga 0 8 0 g11 l0).bind fun x13 =>
  (hf_ob 0 19 g11 x13).bind fun _ =>
  hf_b2 (spJ2_get x13 l3 g11) fun x15 g14 =>
  (hf_ob 0 13 g14 x15).bind fun _ =>
  (hf_ga 0 13 1 g14 x15).bind fun x16 =>
  hf_b2 ((spVal 64) x16 l2 g14) fun x18 g17 =>
  some (x18, g17)) else
  ndX8_sum_68 k2 l0 l1 l2 l3 g5
theorem nlX8_sum_2 {C : hf_X} {gs : hf_gs} (o : hf_In C cX8_sum RX8 4 (some .long) 130 3246) (og : hf_G C gs) (k2 : Nat → Int32 → Nat → Int32 → hf_H → Option (Int64 × hf_H)) (hk2 : ∀ (l0 : Nat) (l1 : Int32) (l2 : Nat) (l3 : Int32) (V0 : hf_H), hf_J C hf_dHL (k2 l0 l1 l2 l3 V0) V0 2 [(0, .ref l0), (1, .int l1), (2, .ref (l2 + 126)), (3, .int l3)] []) (l0 : Nat) (l1 : Int32) (l2 : Nat) (l3 : Int32) (V0 : hf_H) : hf_J C hf_dHL (ndX8_sum_2 k2 l0 l1 l2 l3 V0) V0 2 [(0, .ref l0), (1, .int l1), (2, .ref (l2 + 126)), (3, .int l3)] [] := by
  refine hr_iload_n o 3 dX8_sum_2 rfl ?_
  refine hr_aload_n o 0 dX8_sum_3 rfl ?_
  refine hr_getA (md := 0) o flX8_12 dX8_sum_4 (fun _ => rfl) (fun x1 => ?_)
  refine hx_callVI (q := (RJ2, TJ2, 3)) o og mvX8_18 dX8_sum_7 0 19 rfl [] (fun zr zg ze => mtJ2_size x1 V0 zr zg ze) rfl rfl (Nat.le_of_ble_eq_true rfl) ⟨by decide, by decide⟩ (fun x3 g2 => ?_)
  refine hr_icmp_ge o 74 dX8_sum_10 (by decide) (fun _ => ?_) (fun _ => ?_)
  · refine hr_lconst o (0 : Int64) dX8_sum_74 (by decide) ?_
    exact hr_lret o dX8_sum_75 rfl
  refine hr_aload_n o 0 dX8_sum_13 rfl ?_
  refine hr_getA (md := 0) o flX8_12 dX8_sum_14 (fun _ => rfl) (fun x4 => ?_)
  refine hr_iload_n o 3 dX8_sum_17 rfl ?_
  refine hx_callVA (q := (RJ2, TJ2, 3)) o og mvX8_22 dX8_sum_18 0 19 rfl [.int l3] (fun zr zg ze => mtJ2_get x4 l3 g2 zr zg ze) rfl rfl (Nat.le_of_ble_eq_true rfl) ⟨by decide, by decide⟩ (fun x6 g5 => ?_)
  refine hx_cast (md := 0) (ci := 13) (q := (RX13, TX13, 3)) o q1204 rfl dX8_sum_21 (fun _ => ?_)
  refine hr_getI (md := 0) o flX8_28 dX8_sum_24 (fun _ => rfl) (fun x7 => ?_)
  refine hr_iload_n o 1 dX8_sum_27 rfl ?_
  refine hr_icmp_ne o 68 dX8_sum_28 (by decide) (fun _ => ?_) (fun _ => ?_)
  · refine hr_aload_n o 0 dX8_sum_31 rfl ?_
    refine hr_getA (md := 0) o flX8_12 dX8_sum_32 (fun _ => rfl) (fun x8 => ?_)
    refine hr_iload_n o 3 dX8_sum_35 rfl ?_
    refine hx_callVA (q := (RJ2, TJ2, 3)) o og mvX8_22 dX8_sum_36 0 19 rfl [.int l3] (fun zr zg ze => mtJ2_get x8 l3 g5 zr zg ze) rfl rfl (Nat.le_of_ble_eq_true rfl) ⟨by decide, by decide⟩ (fun x10 g9 => ?_)
    refine hx_cast (md := 0) (ci := 13) (q := (RX13, TX13, 3)) o q1204 rfl dX8_sum_39 (fun _ => ?_)
    refine hr_aload_n o 2 dX8_sum_42 rfl ?_
    refine hx_callVI (q := (RX13, TX13, 3)) o og mvX8_32 dX8_sum_43 0 13 rfl [.ref (l2 + 126)] (fun zr zg ze => mtX13_holds x10 l2 g9 zr zg ze) rfl rfl (Nat.le_of_ble_eq_true rfl) ⟨by decide, by decide⟩ (fun x12 g11 => ?_)
    refine hr_if_eq o 68 dX8_sum_46 (by decide) (fun _ => ?_) (fun _ => ?_)
    · exact nlX8_sum_68 o og k2 hk2 l0 l1 l2 l3 g11
    refine hr_aload_n o 0 dX8_sum_49 rfl ?_
    refine hr_getA (md := 0) o flX8_12 dX8_sum_50 (fun _ => rfl) (fun x13 => ?_)
    refine hr_iload_n o 3 dX8_sum_53 rfl ?_
    refine hx_callVA (q := (RJ2, TJ2, 3)) o og mvX8_22 dX8_sum_54 0 19 rfl [.int l3] (fun zr zg ze => mtJ2_get x13 l3 g11 zr zg ze) rfl rfl (Nat.le_of_ble_eq_true rfl) ⟨by decide, by decide⟩ (fun x15 g14 => ?_)
    refine hx_cast (md := 0) (ci := 13) (q := (RX13, TX13, 3)) o q1204 rfl dX8_sum_57 (fun _ => ?_)
    refine hr_getA (md := 0) o flX8_36 dX8_sum_60 (fun _ => rfl) (fun x16 => ?_)
    refine hr_aload_n o 2 dX8_sum_63 rfl ?_
    refine hx_callVal o og maX8_40_10 maX8_40_11 maX8_40_12 dX8_sum_64 (fun zr zg ze => mtVal 64 x16 l2 g14 zr zg ze) rfl (Nat.le_of_ble_eq_true rfl) ⟨by decide, by decide⟩ (fun x18 g17 => ?_)
    exact hr_lret o dX8_sum_67 rfl
  exact nlX8_sum_68 o og k2 hk2 l0 l1 l2 l3 g5
def lpX8_sum_2  : Nat → Nat → Int32 → Nat → Int32 → hf_H → Option (Int64 × hf_H)
  | 0 => fun _ _ _ _ _ => none
  | n + 1 => fun l0 l1 l2 l3 V0 => ndX8_sum_2  (lpX8_sum_2  n) l0 l1 l2 l3 V0
theorem llX8_sum_2 {C : hf_X} {gs : hf_gs} (o : hf_In C cX8_sum RX8 4 (some .long) 130 3246) (og : hf_G C gs)   (n : Nat) : ∀ (l0 : Nat) (l1 : Int32) (l2 : Nat) (l3 : Int32) (V0 : hf_H), hf_J C hf_dHL ((lpX8_sum_2  n) l0 l1 l2 l3 V0) V0 2 [(0, .ref l0), (1, .int l1), (2, .ref (l2 + 126)), (3, .int l3)] [] := by
  induction n with
  | zero => exact fun _ _ _ _ _ => hr_none
  | succ n ih => exact fun l0 l1 l2 l3 V0 => nlX8_sum_2 o og  (lpX8_sum_2  n)  ih l0 l1 l2 l3 V0
def spX8_sum (l0 : Nat) (l1 : Int32) (l2 : Nat) (V0 : hf_H) : Option (Int64 × hf_H) :=
  lpX8_sum_2 hf_N l0 l1 l2 (0 : Int32) V0
theorem jtX8_sum {C : hf_X} {gs : hf_gs} (o : hf_In C cX8_sum RX8 4 (some .long) 130 3246) (og : hf_G C gs) (l0 : Nat) (l1 : Int32) (l2 : Nat) (V0 : hf_H) : hf_J C hf_dHL (spX8_sum l0 l1 l2 V0) V0 0 [(0, .ref l0), (1, .int l1), (2, .ref (l2 + 126))] [] := by
  refine hr_iconst o (0 : Int32) dX8_sum_0 (by decide) ?_
  refine hr_istore_n o [(3, .int (0 : Int32)), (0, .ref l0), (1, .int l1), (2, .ref (l2 + 126))] dX8_sum_1 (by decide) rfl ?_
  refine hr_sub [1, 2, 3, 0] rfl ?_
  exact llX8_sum_2 o og hf_N l0 l1 l2 (0 : Int32) V0
theorem mtX8_sum {gs : hf_gs} (l0 : Nat) (l1 : Int32) (l2 : Nat) (V0 : hf_H) (r : Int64) (V1 : hf_H) (e : spX8_sum l0 l1 l2 V0 = some (r, V1)) : hf_ConG gs yX8_sum cX8_sum 4 (some .long) 130 3246 [.ref l0, .int l1, .ref (l2 + 126)] V0 (.returned (some (.long r)), V1) := hf_entryG (dec := hf_dHL) (by decide) [.ref l0, .int l1, .ref (l2 + 126)] (Nat.le_of_ble_eq_true rfl) [(0, .ref l0), (1, .int l1), (2, .ref (l2 + 126))] rfl e (fun C o og _ => jtX8_sum o og l0 l1 l2 V0)
