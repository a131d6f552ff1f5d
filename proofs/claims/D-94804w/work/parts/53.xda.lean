set_option maxRecDepth 100000
set_option maxHeartbeats 4000000
theorem hf_def {ci : Nat} {q : vw_C} (hci : ci < 20) (hq : q.2.2 ≤ 37) : ∀ a j, j < q.2.2 → defaultValue (hf_ty ci j) = hf_fv 0 ci a hf_V0 j := by
  have key : ((List.range 20).all fun ci => (List.range 37).all fun j => match hf_ty ci j with | .float => false | .double => false | _ => true) = true := by decide +kernel
  intro a j hj
  have h := List.all_eq_true.mp (List.all_eq_true.mp key ci (List.mem_range.mpr hci)) j (List.mem_range.mpr (Nat.lt_of_lt_of_le hj hq))
  have e : hf_fv 0 ci a hf_V0 j = hf_pv (hf_ty ci j) hf_V0 j := by
    unfold hf_fv
    split <;> first | rfl | (next h1 h2 => cases h2)
  rw [e]
  generalize hf_ty ci j = ty at h
  cases ty <;> first | rfl | cases h
/-! J0_init -/
def spJ0_init (l0 : Nat) (V0 : hf_H) : Option hf_H :=
  some V0
theorem jtJ0_init {C : hf_X} {gs : hf_gs} (o : hf_In C cJ0_init RJ0 1 (none) 1 12) (og : hf_G C gs) (oi : hf_Ini C) (l0 : Nat) (V0 : hf_H) : hf_J C hf_dHV (spJ0_init l0 V0) V0 0 [(0, .ref l0)] [] := by
  refine hr_aload_n o 0 dJ0_init_0 rfl ?_
  refine hr_objInit o q213 dJ0_init_1 q194 q195 (by decide) (Nat.le_of_ble_eq_true rfl) ?_
  exact hr_vret o dJ0_init_4 rfl
theorem mtJ0_init {gs : hf_gs} (l0 : Nat) (V0 V1 : hf_H) (e : spJ0_init l0 V0 = some V1) : hf_ConG gs yJ0_init cJ0_init 1 (none) 1 12 [.ref l0] V0 (.returned none, V1) := hf_entryG (dec := hf_dHV) (by decide) [.ref l0] (Nat.le_of_ble_eq_true rfl) [(0, .ref l0)] rfl e (fun C o og oi => jtJ0_init o og (oi rfl) l0 V0)

/-! J1_init -/
theorem miJ1_1 : hf_MI RJ1 1 yJ0_init cJ0_init 1 0 := ⟨⟨q212, q155, q210, q211, rfl⟩, by decide +kernel⟩
theorem flJ1_7 : hf_Fl RJ1 7 19 0 := ⟨(RJ2, TJ2, 3), RJ1, rfl, by decide, in_J2, tyJ2_ok, nmJ2, Or.inl q220, Or.inl rfl⟩
theorem nf_19_0 : hf_Nf 19 0 := ⟨(RJ2, TJ2, 3), rfl, rfl⟩
def spJ1_init (l0 : Nat) (V0 : hf_H) : Option hf_H :=
  (spJ0_init l0 V0).bind fun g1 =>
  (hf_pi 0 19 0 g1 l0 (0 : Int32)).bind fun g2 =>
  some g2
theorem jtJ1_init {C : hf_X} {gs : hf_gs} (o : hf_In C cJ1_init RJ1 1 (none) 2 32) (og : hf_G C gs) (oi : hf_Ini C) (l0 : Nat) (V0 : hf_H) : hf_J C hf_dHV (spJ1_init l0 V0) V0 0 [(0, .ref l0)] [] := by
  refine hr_aload_n o 0 dJ1_init_0 rfl ?_
  refine hx_callIV o og miJ1_1 dJ1_init_1 [] (fun zg ze => mtJ0_init l0 V0 zg ze) rfl rfl (Nat.le_of_ble_eq_true rfl) ⟨by decide, by decide⟩ (fun g1 => ?_)
  refine hr_aload_n o 0 dJ1_init_4 rfl ?_
  refine hr_iconst o (0 : Int32) dJ1_init_5 (by decide) ?_
  refine hx_putI (md := 0) o flJ1_7 dJ1_init_6 rfl (Or.inl nf_19_0) rfl rfl (fun _ => rfl) (fun g2 => ?_)
  exact hr_vret o dJ1_init_9 rfl
theorem mtJ1_init {gs : hf_gs} (l0 : Nat) (V0 V1 : hf_H) (e : spJ1_init l0 V0 = some V1) : hf_ConG gs yJ1_init cJ1_init 1 (none) 2 32 [.ref l0] V0 (.returned none, V1) := hf_entryG (dec := hf_dHV) (by decide) [.ref l0] (Nat.le_of_ble_eq_true rfl) [(0, .ref l0)] rfl e (fun C o og oi => jtJ1_init o og (oi rfl) l0 V0)

/-! J9_init -/
def spJ9_init (l0 : Nat) (V0 : hf_H) : Option hf_H :=
  some V0
theorem jtJ9_init {C : hf_X} {gs : hf_gs} (o : hf_In C cJ9_init RJ9 1 (none) 1 12) (og : hf_G C gs) (oi : hf_Ini C) (l0 : Nat) (V0 : hf_H) : hf_J C hf_dHV (spJ9_init l0 V0) V0 0 [(0, .ref l0)] [] := by
  refine hr_aload_n o 0 dJ9_init_0 rfl ?_
  refine hr_objInit o q629 dJ9_init_1 q194 q195 (by decide) (Nat.le_of_ble_eq_true rfl) ?_
  exact hr_vret o dJ9_init_4 rfl
theorem mtJ9_init {gs : hf_gs} (l0 : Nat) (V0 V1 : hf_H) (e : spJ9_init l0 V0 = some V1) : hf_ConG gs yJ9_init cJ9_init 1 (none) 1 12 [.ref l0] V0 (.returned none, V1) := hf_entryG (dec := hf_dHV) (by decide) [.ref l0] (Nat.le_of_ble_eq_true rfl) [(0, .ref l0)] rfl e (fun C o og oi => jtJ9_init o og (oi rfl) l0 V0)

/-! X9_init -/
def spX9_init (l0 : Nat) (V0 : hf_H) : Option hf_H :=
  some V0
theorem jtX9_init {C : hf_X} {gs : hf_gs} (o : hf_In C cX9_init RX9 1 (none) 1 12) (og : hf_G C gs) (oi : hf_Ini C) (l0 : Nat) (V0 : hf_H) : hf_J C hf_dHV (spX9_init l0 V0) V0 0 [(0, .ref l0)] [] := by
  refine hr_aload_n o 0 dX9_init_0 rfl ?_
  refine hr_objInit o q855 dX9_init_1 q194 q195 (by decide) (Nat.le_of_ble_eq_true rfl) ?_
  exact hr_vret o dX9_init_4 rfl
theorem mtX9_init {gs : hf_gs} (l0 : Nat) (V0 V1 : hf_H) (e : spX9_init l0 V0 = some V1) : hf_ConG gs yX9_init cX9_init 1 (none) 1 12 [.ref l0] V0 (.returned none, V1) := hf_entryG (dec := hf_dHV) (by decide) [.ref l0] (Nat.le_of_ble_eq_true rfl) [(0, .ref l0)] rfl e (fun C o og oi => jtX9_init o og (oi rfl) l0 V0)

/-! X14_init -/
def spX14_init (l0 : Nat) (V0 : hf_H) : Option hf_H :=
  some V0
theorem jtX14_init {C : hf_X} {gs : hf_gs} (o : hf_In C cX14_init RX14 1 (none) 1 12) (og : hf_G C gs) (oi : hf_Ini C) (l0 : Nat) (V0 : hf_H) : hf_J C hf_dHV (spX14_init l0 V0) V0 0 [(0, .ref l0)] [] := by
  refine hr_aload_n o 0 dX14_init_0 rfl ?_
  refine hr_objInit o q922 dX14_init_1 q194 q195 (by decide) (Nat.le_of_ble_eq_true rfl) ?_
  exact hr_vret o dX14_init_4 rfl
theorem mtX14_init {gs : hf_gs} (l0 : Nat) (V0 V1 : hf_H) (e : spX14_init l0 V0 = some V1) : hf_ConG gs yX14_init cX14_init 1 (none) 1 12 [.ref l0] V0 (.returned none, V1) := hf_entryG (dec := hf_dHV) (by decide) [.ref l0] (Nat.le_of_ble_eq_true rfl) [(0, .ref l0)] rfl e (fun C o og oi => jtX14_init o og (oi rfl) l0 V0)

/-! X6_init -/
theorem miX6_1 : hf_MI RX6 1 yJ9_init cJ9_init 1 0 := ⟨⟨q628, q168, q626, q627, rfl⟩, by decide +kernel⟩
theorem flX6_7 : hf_Fl RX6 7 6 0 := ⟨(RX6, TX6, 4), RX6, rfl, by decide, in_X6, tyX6_ok, nmX6, Or.inl q630, Or.inl rfl⟩
theorem ffX6_7 : hf_Ff RX6 7 6 0 := ⟨(RX6, TX6, 4), rfl, rfl, rfl, q630⟩
theorem flX6_13 : hf_Fl RX6 13 6 1 := ⟨(RX6, TX6, 4), RX6, rfl, by decide, in_X6, tyX6_ok, nmX6, Or.inl q632, Or.inl rfl⟩
theorem ffX6_13 : hf_Ff RX6 13 6 1 := ⟨(RX6, TX6, 4), rfl, rfl, rfl, q632⟩
theorem flX6_16 : hf_Fl RX6 16 6 2 := ⟨(RX6, TX6, 4), RX6, rfl, by decide, in_X6, tyX6_ok, nmX6, Or.inl q635, Or.inl rfl⟩
theorem ffX6_16 : hf_Ff RX6 16 6 2 := ⟨(RX6, TX6, 4), rfl, rfl, rfl, q635⟩
theorem flX6_19 : hf_Fl RX6 19 6 3 := ⟨(RX6, TX6, 4), RX6, rfl, by decide, in_X6, tyX6_ok, nmX6, Or.inl q638, Or.inl rfl⟩
theorem ffX6_19 : hf_Ff RX6 19 6 3 := ⟨(RX6, TX6, 4), rfl, rfl, rfl, q638⟩
def spX6_init (l0 : Nat) (l1 : Int32) (l2 : Int32) (l3 : Int32) (l4 : Int32) (V0 : hf_H) : Option hf_H :=
  (spJ9_init l0 V0).bind fun g1 =>
  (hf_pi 0 6 0 g1 l0 l1).bind fun g2 =>
  (hf_pi 0 6 1 g2 l0 l2).bind fun g3 =>
  (hf_pi 0 6 2 g3 l0 l3).bind fun g4 =>
  (hf_pi 0 6 3 g4 l0 l4).bind fun g5 =>
  some g5
theorem jtX6_init {C : hf_X} {gs : hf_gs} (o : hf_In C cX6_init RX6 5 (none) 2 32) (og : hf_G C gs) (oi : hf_Ini C) (l0 : Nat) (l1 : Int32) (l2 : Int32) (l3 : Int32) (l4 : Int32) (V0 : hf_H) : hf_J C hf_dHV (spX6_init l0 l1 l2 l3 l4 V0) V0 0 [(0, .ref l0), (1, .int l1), (2, .int l2), (3, .int l3), (4, .int l4)] [] := by
  refine hr_aload_n o 0 dX6_init_0 rfl ?_
  refine hx_callIV o og miX6_1 dX6_init_1 [] (fun zg ze => mtJ9_init l0 V0 zg ze) rfl rfl (Nat.le_of_ble_eq_true rfl) ⟨by decide, by decide⟩ (fun g1 => ?_)
  refine hr_aload_n o 0 dX6_init_4 rfl ?_
  refine hr_iload_n o 1 dX6_init_5 rfl ?_
  refine hx_putI (md := 0) o flX6_7 dX6_init_6 rfl (Or.inr ⟨oi, ffX6_7⟩) rfl rfl (fun _ => rfl) (fun g2 => ?_)
  refine hr_aload_n o 0 dX6_init_9 rfl ?_
  refine hr_iload_n o 2 dX6_init_10 rfl ?_
  refine hx_putI (md := 0) o flX6_13 dX6_init_11 rfl (Or.inr ⟨oi, ffX6_13⟩) rfl rfl (fun _ => rfl) (fun g3 => ?_)
  refine hr_aload_n o 0 dX6_init_14 rfl ?_
  refine hr_iload_n o 3 dX6_init_15 rfl ?_
  refine hx_putI (md := 0) o flX6_16 dX6_init_16 rfl (Or.inr ⟨oi, ffX6_16⟩) rfl rfl (fun _ => rfl) (fun g4 => ?_)
  refine hr_aload_n o 0 dX6_init_19 rfl ?_
  refine hr_iload o 4 dX6_init_20 rfl ?_
  refine hx_putI (md := 0) o flX6_19 dX6_init_22 rfl (Or.inr ⟨oi, ffX6_19⟩) rfl rfl (fun _ => rfl) (fun g5 => ?_)
  exact hr_vret o dX6_init_25 rfl
theorem mtX6_init {gs : hf_gs} (l0 : Nat) (l1 : Int32) (l2 : Int32) (l3 : Int32) (l4 : Int32) (V0 V1 : hf_H) (e : spX6_init l0 l1 l2 l3 l4 V0 = some V1) : hf_ConG gs yX6_init cX6_init 5 (none) 2 32 [.ref l0, .int l1, .int l2, .int l3, .int l4] V0 (.returned none, V1) := hf_entryG (dec := hf_dHV) (by decide) [.ref l0, .int l1, .int l2, .int l3, .int l4] (Nat.le_of_ble_eq_true rfl) [(0, .ref l0), (1, .int l1), (2, .int l2), (3, .int l3), (4, .int l4)] rfl e (fun C o og oi => jtX6_init o og (oi rfl) l0 l1 l2 l3 l4 V0)

/-! X7_init -/
theorem miX7_1 : hf_MI RX7 1 yJ9_init cJ9_init 1 0 := ⟨⟨q628, q168, q722, q627, rfl⟩, by decide +kernel⟩
theorem flX7_7 : hf_Fl RX7 7 7 0 := ⟨(RX7, TX7, 2), RX7, rfl, by decide, in_X7, tyX7_ok, nmX7, Or.inl q723, Or.inl rfl⟩
theorem ffX7_7 : hf_Ff RX7 7 7 0 := ⟨(RX7, TX7, 2), rfl, rfl, rfl, q723⟩
theorem flX7_13 : hf_Fl RX7 13 7 1 := ⟨(RX7, TX7, 2), RX7, rfl, by decide, in_X7, tyX7_ok, nmX7, Or.inl q725, Or.inl rfl⟩
theorem ffX7_13 : hf_Ff RX7 13 7 1 := ⟨(RX7, TX7, 2), rfl, rfl, rfl, q725⟩
def spX7_init (l0 : Nat) (l1 : Int32) (l2 : Int32) (V0 : hf_H) : Option hf_H :=
  (spJ9_init l0 V0).bind fun g1 =>
  (hf_pi 0 7 0 g1 l0 l1).bind fun g2 =>
  (hf_pi 0 7 1 g2 l0 l2).bind fun g3 =>
  some g3
theorem jtX7_init {C : hf_X} {gs : hf_gs} (o : hf_In C cX7_init RX7 3 (none) 2 32) (og : hf_G C gs) (oi : hf_Ini C) (l0 : Nat) (l1 : Int32) (l2 : Int32) (V0 : hf_H) : hf_J C hf_dHV (spX7_init l0 l1 l2 V0) V0 0 [(0, .ref l0), (1, .int l1), (2, .int l2)] [] := by
  refine hr_aload_n o 0 dX7_init_0 rfl ?_
  refine hx_callIV o og miX7_1 dX7_init_1 [] (fun zg ze => mtJ9_init l0 V0 zg ze) rfl rfl (Nat.le_of_ble_eq_true rfl) ⟨by decide, by decide⟩ (fun g1 => ?_)
  refine hr_aload_n o 0 dX7_init_4 rfl ?_
  refine hr_iload_n o 1 dX7_init_5 rfl ?_
  refine hx_putI (md := 0) o flX7_7 dX7_init_6 rfl (Or.inr ⟨oi, ffX7_7⟩) rfl rfl (fun _ => rfl) (fun g2 => ?_)
  refine hr_aload_n o 0 dX7_init_9 rfl ?_
  refine hr_iload_n o 2 dX7_init_10 rfl ?_
  refine hx_putI (md := 0) o flX7_13 dX7_init_11 rfl (Or.inr ⟨oi, ffX7_13⟩) rfl rfl (fun _ => rfl) (fun g3 => ?_)
  exact hr_vret o dX7_init_14 rfl
theorem mtX7_init {gs : hf_gs} (l0 : Nat) (l1 : Int32) (l2 : Int32) (V0 V1 : hf_H) (e : spX7_init l0 l1 l2 V0 = some V1) : hf_ConG gs yX7_init cX7_init 3 (none) 2 32 [.ref l0, .int l1, .int l2] V0 (.returned none, V1) := hf_entryG (dec := hf_dHV) (by decide) [.ref l0, .int l1, .int l2] (Nat.le_of_ble_eq_true rfl) [(0, .ref l0), (1, .int l1), (2, .int l2)] rfl e (fun C o og oi => jtX7_init o og (oi rfl) l0 l1 l2 V0)

/-! J10_newLength -/
def ndJ10_newLength_21  (l0 : Int32) (l1 : Int32) : Option Int32 :=
  none
theorem nlJ10_newLength_21 {C : hf_X} {h : hf_H} (o : hf_In C cJ10_newLength RJ10 4 (some .int) 1 14)   (l0 : Int32) (l1 : Int32) : hf_J C (hf_dPI h) (ndJ10_newLength_21 l0 l1) h 21 [(0, .int l0), (1, .int l1)] [] := by
  refine hr_iload_n o 0 dJ10_newLength_21 rfl ?_
  refine hr_iload_n o 1 dJ10_newLength_22 rfl ?_
  exact hr_none
def spJ10_newLength (l0 : Int32) (l1 : Int32) (l2 : Int32) : Option Int32 :=
  hf_let (if l1 < l2 then l2 else l1) fun x1 =>
  hf_let (l0 + x1) fun x2 =>
  if x2 ≤ (0 : Int32) then (ndJ10_newLength_21 l0 l1) else
  if (2147483639 : Int32) < x2 then (ndJ10_newLength_21 l0 l1) else
  some x2
theorem jtJ10_newLength {C : hf_X} {h : hf_H} (o : hf_In C cJ10_newLength RJ10 4 (some .int) 1 14) (l0 : Int32) (l1 : Int32) (l2 : Int32) : hf_J C (hf_dPI h) (spJ10_newLength l0 l1 l2) h 0 [(0, .int l0), (1, .int l1), (2, .int l2)] [] := by
  refine hr_iload_n o 0 dJ10_newLength_0 rfl ?_
  refine hr_iload_n o 1 dJ10_newLength_1 rfl ?_
  refine hr_iload_n o 2 dJ10_newLength_2 rfl ?_
  refine hx_mmax o q671 q672 q171 q673 (by decide) (Nat.le_of_ble_eq_true rfl) dJ10_newLength_3 ?_
  refine hr_nmI (fun x1 => ?_)
  refine hr_iadd o dJ10_newLength_6 ?_
  refine hr_nmI (fun x2 => ?_)
  refine hr_istore_n o [(3, .int x2), (0, .int l0), (1, .int l1), (2, .int l2)] dJ10_newLength_7 (by decide) rfl ?_
  refine hr_iconst o (0 : Int32) dJ10_newLength_8 (by decide) ?_
  refine hr_iload_n o 0 dJ10_newLength_9 rfl ?_
  refine hr_icmp_ge o 21 dJ10_newLength_10 (by decide) (fun _ => ?_) (fun _ => ?_)
  · refine hr_sub [1, 2] rfl ?_
    exact nlJ10_newLength_21 o l0 l1
  refine hr_iload_n o 0 dJ10_newLength_13 rfl ?_
  refine hr_ldc o (2147483639 : Int32) q674 dJ10_newLength_14 ?_
  refine hr_icmp_gt o 21 dJ10_newLength_16 (by decide) (fun _ => ?_) (fun _ => ?_)
  · refine hr_sub [1, 2] rfl ?_
    exact nlJ10_newLength_21 o l0 l1
  refine hr_iload_n o 0 dJ10_newLength_19 rfl ?_
  exact hr_iret o dJ10_newLength_20 rfl rfl
theorem mtJ10_newLength {h : hf_H} (l0 : Int32) (l1 : Int32) (l2 : Int32) (r : Int32) (e : spJ10_newLength l0 l1 l2 = some r) : hf_Con yJ10_newLength cJ10_newLength 4 (some .int) 1 14 [.int l0, .int l1, .int l2] h (.returned (some (.int r)), h) := hf_entry (dec := hf_dPI h) (by decide) [.int l0, .int l1, .int l2] (Nat.le_of_ble_eq_true rfl) [(0, .int l0), (1, .int l1), (2, .int l2)] rfl e (fun C o _ => jtJ10_newLength o l0 l1 l2)

/-! J12_copyOf_2 -/
def spJ12_copyOf_2 (gs : hf_gs) (l0 : Nat) (l1 : Int32) (l2 : Nat) (V0 : hf_H) : Option (Nat × hf_H) :=
  if (some l2) = (some (gs.2 27)) then (if l1 < 0 ∨ 536870912 < l1.toNatClampNeg * 8 then none else hf_mk V0 (.inr (.inl (0, .object "java/lang/Object", l1.toNatClampNeg, .inr (.inr fun _ => none)))) l1.toNatClampNeg fun x1 g2 =>
  (hf_pal (.object "java/lang/Object") g2 l0).bind fun x3 =>
  hf_let (if l1 < x3 then l1 else x3) fun x4 =>
  (hf_cpO g2 l0 (0 : Int32) x1 (0 : Int32) x4).bind fun g5 =>
  some (x1, g5)) else
  none
theorem jtJ12_copyOf_2 {C : hf_X} {gs : hf_gs} (o : hf_In C cJ12_copyOf_2 RJ12 4 (some (.array (.object "java/lang/Object"))) 1 18) (og : hf_G C gs) (l0 : Nat) (l1 : Int32) (l2 : Nat) (V0 : hf_H) : hf_J C hf_dHA (spJ12_copyOf_2 gs l0 l1 l2 V0) V0 0 [(0, .ref l0), (1, .int l1), (2, .ref l2)] [] := by
  refine hr_aload_n o 2 dJ12_copyOf_2_0 rfl ?_
  refine hx_ldcM o og q706 dJ12_copyOf_2_1 ?_
  refine hx_acmp_ne (x := (some l2)) (y := (some (gs.2 27))) o 13 dJ12_copyOf_2_3 (by decide) rfl rfl (fun _ => ?_) (fun _ => ?_)
  · refine hr_iload_n o 1 dJ12_copyOf_2_6 rfl ?_
    refine hx_anew o "java/lang/Object" q707 q215 (by simp [hf_tys]) dJ12_copyOf_2_7 (fun x1 g2 => ?_)
    refine hr_goto o 24 dJ12_copyOf_2_10 (by decide) ?_
    refine hr_astore_n o [(3, .ref x1), (0, .ref l0), (1, .int l1), (2, .ref l2)] dJ12_copyOf_2_24 (by decide) rfl ?_
    refine hr_aload_n o 1 dJ12_copyOf_2_25 rfl ?_
    refine hr_iconst o (0 : Int32) dJ12_copyOf_2_26 (by decide) ?_
    refine hr_aload_n o 0 dJ12_copyOf_2_27 rfl ?_
    refine hr_iconst o (0 : Int32) dJ12_copyOf_2_28 (by decide) ?_
    refine hr_aload_n o 1 dJ12_copyOf_2_29 rfl ?_
    refine hx_palen o (.object "java/lang/Object") (by simp [hf_tys]) dJ12_copyOf_2_30 (fun x3 => ?_)
    refine hr_iload_n o 2 dJ12_copyOf_2_31 rfl ?_
    refine hx_mmin o q708 q709 q171 q710 (by decide) (Nat.le_of_ble_eq_true rfl) dJ12_copyOf_2_32 ?_
    refine hr_nmI (fun x4 => ?_)
    refine hx_copyO o q711 q173 (by decide) (Nat.le_of_ble_eq_true rfl) dJ12_copyOf_2_35 (fun g5 => ?_)
    refine hr_aload_n o 0 dJ12_copyOf_2_38 rfl ?_
    exact hr_aret o dJ12_copyOf_2_39 (Or.inr ⟨_, rfl⟩) (Or.inr ⟨_, rfl⟩) rfl
  refine hr_aload_n o 2 dJ12_copyOf_2_13 rfl ?_
  exact hr_none
theorem mtJ12_copyOf_2 {gs : hf_gs} (l0 : Nat) (l1 : Int32) (l2 : Nat) (V0 : hf_H) (r : Nat) (V1 : hf_H) (e : spJ12_copyOf_2 gs l0 l1 l2 V0 = some (r, V1)) : hf_ConG gs yJ12_copyOf_2 cJ12_copyOf_2 4 (some (.array (.object "java/lang/Object"))) 1 18 [.ref l0, .int l1, .ref l2] V0 (.returned (some (.ref r)), V1) := hf_entryG (dec := hf_dHA) (by decide) [.ref l0, .int l1, .ref l2] (Nat.le_of_ble_eq_true rfl) [(0, .ref l0), (1, .int l1), (2, .ref l2)] rfl e (fun C o og _ => jtJ12_copyOf_2 o og l0 l1 l2 V0)

/-! J12_copyOf -/
theorem msJ12_300 : hf_MS RJ12 300 yJ12_copyOf_2 cJ12_copyOf_2 4 (some (.array (.object "java/lang/Object"))) 3 := ⟨lw_S q703 q704 q172 q705, by decide +kernel⟩
def spJ12_copyOf (gs : hf_gs) (l0 : Nat) (l1 : Int32) (V0 : hf_H) : Option (Nat × hf_H) :=
  if hf_isO V0 l0 then
  hf_b2 (spJ12_copyOf_2 gs l0 l1 (gs.2 27) V0) fun x2 g1 =>
  some (x2, g1) else none
theorem jtJ12_copyOf {C : hf_X} {gs : hf_gs} (o : hf_In C cJ12_copyOf RJ12 2 (some (.array (.object "java/lang/Object"))) 2 41) (og : hf_G C gs) (l0 : Nat) (l1 : Int32) (V0 : hf_H) : hf_J C hf_dHA (spJ12_copyOf gs l0 l1 V0) V0 0 [(0, .ref l0), (1, .int l1)] [] := by
  refine hr_aload_n o 0 dJ12_copyOf_0 rfl ?_
  refine hr_iload_n o 1 dJ12_copyOf_1 rfl ?_
  refine hr_aload_n o 0 dJ12_copyOf_2 rfl ?_
  refine hx_getC o og q681 (by decide) (Nat.le_of_ble_eq_true rfl) dJ12_copyOf_3 ?_
  refine hx_callSA o og msJ12_300 dJ12_copyOf_6 [.ref l0, .int l1, .ref (gs.2 27)] (fun zr zg ze => mtJ12_copyOf_2 l0 l1 (gs.2 27) V0 zr zg ze) rfl rfl (Nat.le_of_ble_eq_true rfl) ⟨by decide, by decide⟩ (fun x2 g1 => ?_)
  exact hr_aret o dJ12_copyOf_9 (Or.inr ⟨_, rfl⟩) (Or.inr ⟨_, rfl⟩) rfl
theorem mtJ12_copyOf {gs : hf_gs} (l0 : Nat) (l1 : Int32) (V0 : hf_H) (r : Nat) (V1 : hf_H) (e : spJ12_copyOf gs l0 l1 V0 = some (r, V1)) : hf_ConG gs yJ12_copyOf cJ12_copyOf 2 (some (.array (.object "java/lang/Object"))) 2 41 [.ref l0, .int l1] V0 (.returned (some (.ref r)), V1) := hf_entryG (dec := hf_dHA) (by decide) [.ref l0, .int l1] (Nat.le_of_ble_eq_true rfl) [(0, .ref l0), (1, .int l1)] rfl e (fun C o og _ => jtJ12_copyOf o og l0 l1 V0)

/-! J2_init -/
theorem miJ2_1 : hf_MI RJ2 1 yJ1_init cJ1_init 1 0 := ⟨⟨q209, q156, q207, q208, rfl⟩, by decide +kernel⟩
theorem nf_19_1 : hf_Nf 19 1 := ⟨(RJ2, TJ2, 3), rfl, rfl⟩
def spJ2_init (gs : hf_gs) (l0 : Nat) (l1 : Int32) (V0 : hf_H) : Option hf_H :=
  (spJ1_init l0 V0).bind fun g1 =>
  if l1 ≤ 0 then (if l1 = 0 then (none) else
  none) else
  if l1 < 0 ∨ 536870912 < l1.toNatClampNeg * 8 then none else hf_mk g1 (.inr (.inl (0, .object "java/lang/Object", l1.toNatClampNeg, .inr (.inr fun _ => none)))) l1.toNatClampNeg fun x2 g3 =>
  (hf_pq 0 19 1 g3 l0 (some x2)).bind fun g4 =>
  some g4
theorem jtJ2_init {C : hf_X} {gs : hf_gs} (o : hf_In C cJ2_init RJ2 2 (none) 3 52) (og : hf_G C gs) (oi : hf_Ini C) (l0 : Nat) (l1 : Int32) (V0 : hf_H) : hf_J C hf_dHV (spJ2_init gs l0 l1 V0) V0 0 [(0, .ref l0), (1, .int l1)] [] := by
  refine hr_aload_n o 0 dJ2_init_0 rfl ?_
  refine hx_callIV o og miJ2_1 dJ2_init_1 [] (fun zg ze => mtJ1_init l0 V0 zg ze) rfl rfl (Nat.le_of_ble_eq_true rfl) ⟨by decide, by decide⟩ (fun g1 => ?_)
  refine hr_iload_n o 1 dJ2_init_4 rfl ?_
  refine hr_if_le o 19 dJ2_init_5 (by decide) (fun _ => ?_) (fun _ => ?_)
  · refine hr_iload_n o 1 dJ2_init_19 rfl ?_
    refine hr_if_ne o 33 dJ2_init_20 (by decide) (fun _ => ?_) (fun _ => ?_)
    · refine hr_aload_n o 0 dJ2_init_23 rfl ?_
      exact hr_none
    exact hr_none
  refine hr_aload_n o 0 dJ2_init_8 rfl ?_
  refine hr_iload_n o 1 dJ2_init_9 rfl ?_
  refine hx_anew o "java/lang/Object" q214 q215 (by simp [hf_tys]) dJ2_init_10 (fun x2 g3 => ?_)
  refine hx_putQ (md := 0) (x := (some x2)) o flJ2_9 dJ2_init_13 rfl (Or.inl nf_19_1) rfl (Or.inr ⟨_, rfl⟩) (fun _ => rfl) (fun g4 => ?_)
  refine hr_goto o 60 dJ2_init_16 (by decide) ?_
  exact hr_vret o dJ2_init_60 rfl
theorem mtJ2_init {gs : hf_gs} (l0 : Nat) (l1 : Int32) (V0 V1 : hf_H) (e : spJ2_init gs l0 l1 V0 = some V1) : hf_ConG gs yJ2_init cJ2_init 2 (none) 3 52 [.ref l0, .int l1] V0 (.returned none, V1) := hf_entryG (dec := hf_dHV) (by decide) [.ref l0, .int l1] (Nat.le_of_ble_eq_true rfl) [(0, .ref l0), (1, .int l1)] rfl e (fun C o og oi => jtJ2_init o og (oi rfl) l0 l1 V0)

/-! J2_grow_2 -/
theorem msJ2_73 : hf_MS RJ2 73 yJ10_newLength cJ10_newLength 4 (some .int) 3 := ⟨lw_S q668 q669 q170 q670, by decide +kernel⟩
theorem msJ2_66 : hf_MS RJ2 66 yJ12_copyOf cJ12_copyOf 2 (some (.array (.object "java/lang/Object"))) 2 := ⟨lw_S q678 q679 q172 q680, by decide +kernel⟩
def ndJ2_grow_2_20 (gs : hf_gs)  (l0 : Nat) (l1 : Int32) (l2 : Int32) (V0 : hf_H) : Option (Nat × hf_H) :=
  (spJ10_newLength l2 (l1 - l2) (l2 >>> ((1 : Int32) &&& 31))).bind fun x1 =>
  (hf_ga 0 19 1 V0 l0).bind fun x2 =>
  hf_b2 (spJ12_copyOf gs x2 x1 V0) fun x4 g3 =>
  (hf_pq 0 19 1 g3 l0 (some x4)).bind fun g5 =>
  some (x4, g5)
theorem nlJ2_grow_2_20 {C : hf_X} {gs : hf_gs} (o : hf_In C cJ2_grow_2 RJ2 4 (some (.array (.object "java/lang/Object"))) 3 62) (og : hf_G C gs)   (l0 : Nat) (l1 : Int32) (l2 : Int32) (V0 : hf_H) : hf_J C hf_dHA (ndJ2_grow_2_20 gs l0 l1 l2 V0) V0 20 [(0, .ref l0), (1, .int l1), (2, .int l2)] [] := by
  refine hr_iload_n o 2 dJ2_grow_2_20 rfl ?_
  refine hr_iload_n o 1 dJ2_grow_2_21 rfl ?_
  refine hr_iload_n o 2 dJ2_grow_2_22 rfl ?_
  refine hr_isub o dJ2_grow_2_23 ?_
  refine hr_iload_n o 2 dJ2_grow_2_24 rfl ?_
  refine hr_iconst o (1 : Int32) dJ2_grow_2_25 (by decide) ?_
  refine hr_ishr o dJ2_grow_2_26 ?_
  refine pr_callI o msJ2_73 dJ2_grow_2_27 [.int l2, .int (l1 - l2), .int (l2 >>> ((1 : Int32) &&& 31))] (fun zr ze => mtJ10_newLength l2 (l1 - l2) (l2 >>> ((1 : Int32) &&& 31)) zr ze) rfl rfl (Nat.le_of_ble_eq_true rfl) ⟨by decide, by decide⟩ (fun x1 => ?_)
  refine hr_istore_n o [(3, .int x1), (0, .ref l0), (1, .int l1), (2, .int l2)] dJ2_grow_2_30 (by decide) rfl ?_
  refine hr_aload_n o 1 dJ2_grow_2_31 rfl ?_
  refine hr_aload_n o 1 dJ2_grow_2_32 rfl ?_
  refine hr_getA (md := 0) o flJ2_9 dJ2_grow_2_33 (fun _ => rfl) (fun x2 => ?_)
  refine hr_iload_n o 0 dJ2_grow_2_36 rfl ?_
  refine hx_callSA o og msJ2_66 dJ2_grow_2_37 [.ref x2, .int x1] (fun zr zg ze => mtJ12_copyOf x2 x1 V0 zr zg ze) rfl rfl (Nat.le_of_ble_eq_true rfl) ⟨by decide, by decide⟩ (fun x4 g3 => ?_)
  refine hr_dup_x1 o dJ2_grow_2_40 rfl rfl ?_
  refine hx_putQ (md := 0) (x := (some x4)) o flJ2_9 dJ2_grow_2_41 rfl (Or.inl nf_19_1) rfl (Or.inr ⟨_, rfl⟩) (fun _ => rfl) (fun g5 => ?_)
  exact hr_aret o dJ2_grow_2_44 (Or.inr ⟨_, rfl⟩) (Or.inr ⟨_, rfl⟩) rfl
def spJ2_grow_2 (gs : hf_gs) (l0 : Nat) (l1 : Int32) (V0 : hf_H) : Option (Nat × hf_H) :=
  (hf_ga 0 19 1 V0 l0).bind fun x1 =>
  (hf_pal (.object "java/lang/Object") V0 x1).bind fun x2 =>
  if 0 < x2 then (ndJ2_grow_2_20 gs l0 l1 x2 V0) else
  (hf_ga 0 19 1 V0 l0).bind fun x3 =>
  if (some x3) = (gs.1 2) then (hf_let (if (10 : Int32) < l1 then l1 else (10 : Int32)) fun x4 =>
  if x4 < 0 ∨ 536870912 < x4.toNatClampNeg * 8 then none else hf_mk V0 (.inr (.inl (0, .object "java/lang/Object", x4.toNatClampNeg, .inr (.inr fun _ => none)))) x4.toNatClampNeg fun x5 g6 =>
  (hf_pq 0 19 1 g6 l0 (some x5)).bind fun g7 =>
  some (x5, g7)) else
  ndJ2_grow_2_20 gs l0 l1 x2 V0
theorem jtJ2_grow_2 {C : hf_X} {gs : hf_gs} (o : hf_In C cJ2_grow_2 RJ2 4 (some (.array (.object "java/lang/Object"))) 3 62) (og : hf_G C gs) (l0 : Nat) (l1 : Int32) (V0 : hf_H) : hf_J C hf_dHA (spJ2_grow_2 gs l0 l1 V0) V0 0 [(0, .ref l0), (1, .int l1)] [] := by
  refine hr_aload_n o 0 dJ2_grow_2_0 rfl ?_
  refine hr_getA (md := 0) o flJ2_9 dJ2_grow_2_1 (fun _ => rfl) (fun x1 => ?_)
  refine hx_palen o (.object "java/lang/Object") (by simp [hf_tys]) dJ2_grow_2_4 (fun x2 => ?_)
  refine hr_istore_n o [(2, .int x2), (0, .ref l0), (1, .int l1)] dJ2_grow_2_5 (by decide) rfl ?_
  refine hr_iload_n o 0 dJ2_grow_2_6 rfl ?_
  refine hr_if_gt o 20 dJ2_grow_2_7 (by decide) (fun _ => ?_) (fun _ => ?_)
  · refine hr_sub [1, 2, 0] rfl ?_
    exact nlJ2_grow_2_20 o og l0 l1 x2 V0
  refine hr_aload_n o 1 dJ2_grow_2_10 rfl ?_
  refine hr_getA (md := 0) o flJ2_9 dJ2_grow_2_11 (fun _ => rfl) (fun x3 => ?_)
  refine hx_getsQ o og 2 rfl q666 dJ2_grow_2_14 ?_
  refine hx_acmp_eq (x := (some x3)) (y := (gs.1 2)) o 45 dJ2_grow_2_17 (by decide) rfl rfl (fun _ => ?_) (fun _ => ?_)
  · refine hr_aload_n o 1 dJ2_grow_2_45 rfl ?_
    refine hr_bipush o (10 : Int32) dJ2_grow_2_46 (by decide) ?_
    refine hr_iload_n o 2 dJ2_grow_2_48 rfl ?_
    refine hx_mmax o q714 q672 q171 q673 (by decide) (Nat.le_of_ble_eq_true rfl) dJ2_grow_2_49 ?_
    refine hr_nmI (fun x4 => ?_)
    refine hx_anew o "java/lang/Object" q214 q215 (by simp [hf_tys]) dJ2_grow_2_52 (fun x5 g6 => ?_)
    refine hr_dup_x1 o dJ2_grow_2_55 rfl rfl ?_
    refine hx_putQ (md := 0) (x := (some x5)) o flJ2_9 dJ2_grow_2_56 rfl (Or.inl nf_19_1) rfl (Or.inr ⟨_, rfl⟩) (fun _ => rfl) (fun g7 => ?_)
    exact hr_aret o dJ2_grow_2_59 (Or.inr ⟨_, rfl⟩) (Or.inr ⟨_, rfl⟩) rfl
  refine hr_sub [1, 2, 0] rfl ?_
  exact nlJ2_grow_2_20 o og l0 l1 x2 V0
theorem mtJ2_grow_2 {gs : hf_gs} (l0 : Nat) (l1 : Int32) (V0 : hf_H) (r : Nat) (V1 : hf_H) (e : spJ2_grow_2 gs l0 l1 V0 = some (r, V1)) : hf_ConG gs yJ2_grow_2 cJ2_grow_2 4 (some (.array (.object "java/lang/Object"))) 3 62 [.ref l0, .int l1] V0 (.returned (some (.ref r)), V1) := hf_entryG (dec := hf_dHA) (by decide) [.ref l0, .int l1] (Nat.le_of_ble_eq_true rfl) [(0, .ref l0), (1, .int l1)] rfl e (fun C o og _ => jtJ2_grow_2 o og l0 l1 V0)

/-! J2_grow -/
theorem mvJ2_69 : hf_MV RJ2 69 RJ2 yJ2_grow_2 cJ2_grow_2 4 (some (.array (.object "java/lang/Object"))) 1 := ⟨lw_V q662 q664 qs14 q157 q665, by decide +kernel⟩
def spJ2_grow (gs : hf_gs) (l0 : Nat) (V0 : hf_H) : Option (Nat × hf_H) :=
  (hf_gi 0 19 2 V0 l0).bind fun x1 =>
  (hf_ob 0 19 V0 l0).bind fun _ =>
  hf_b2 (spJ2_grow_2 gs l0 (x1 + (1 : Int32)) V0) fun x3 g2 =>
  some (x3, g2)
theorem jtJ2_grow {C : hf_X} {gs : hf_gs} (o : hf_In C cJ2_grow RJ2 1 (some (.array (.object "java/lang/Object"))) 4 85) (og : hf_G C gs) (l0 : Nat) (V0 : hf_H) : hf_J C hf_dHA (spJ2_grow gs l0 V0) V0 0 [(0, .ref l0)] [] := by
  refine hr_aload_n o 0 dJ2_grow_0 rfl ?_
  refine hr_aload_n o 0 dJ2_grow_1 rfl ?_
  refine hr_getI (md := 0) o flJ2_48 dJ2_grow_2 (fun _ => rfl) (fun x1 => ?_)
  refine hr_iconst o (1 : Int32) dJ2_grow_5 (by decide) ?_
  refine hr_iadd o dJ2_grow_6 ?_
  refine hx_callVA (q := (RJ2, TJ2, 3)) o og mvJ2_69 dJ2_grow_7 0 19 rfl [.int (x1 + (1 : Int32))] (fun zr zg ze => mtJ2_grow_2 l0 (x1 + (1 : Int32)) V0 zr zg ze) rfl rfl (Nat.le_of_ble_eq_true rfl) ⟨by decide, by decide⟩ (fun x3 g2 => ?_)
  exact hr_aret o dJ2_grow_10 (Or.inr ⟨_, rfl⟩) (Or.inr ⟨_, rfl⟩) rfl
theorem mtJ2_grow {gs : hf_gs} (l0 : Nat) (V0 : hf_H) (r : Nat) (V1 : hf_H) (e : spJ2_grow gs l0 V0 = some (r, V1)) : hf_ConG gs yJ2_grow cJ2_grow 1 (some (.array (.object "java/lang/Object"))) 4 85 [.ref l0] V0 (.returned (some (.ref r)), V1) := hf_entryG (dec := hf_dHA) (by decide) [.ref l0] (Nat.le_of_ble_eq_true rfl) [(0, .ref l0)] rfl e (fun C o og _ => jtJ2_grow o og l0 V0)

/-! J2_add_2 -/
theorem nf_19_2 : hf_Nf 19 2 := ⟨(RJ2, TJ2, 3), rfl, rfl⟩
theorem mvJ2_129 : hf_MV RJ2 129 RJ2 yJ2_grow cJ2_grow 1 (some (.array (.object "java/lang/Object"))) 0 := ⟨lw_V q658 q660 qs13 q157 q661, by decide +kernel⟩
def ndJ2_add_2_11 (gs : hf_gs)  (l0 : Nat) (l1 : Nat) (l2 : Nat) (l3 : Int32) (V0 : hf_H) : Option hf_H :=
  if hf_okv V0 l1 then (hf_psq (.object "java/lang/Object") V0 l2 l3 l1).bind fun g1 =>
  (hf_pi 0 19 2 g1 l0 (l3 + (1 : Int32))).bind fun g2 =>
  some g2 else none
theorem nlJ2_add_2_11 {C : hf_X} {gs : hf_gs} (o : hf_In C cJ2_add_2 RJ2 4 (none) 5 105) (og : hf_G C gs)   (l0 : Nat) (l1 : Nat) (l2 : Nat) (l3 : Int32) (V0 : hf_H) : hf_J C hf_dHV (ndJ2_add_2_11 gs l0 l1 l2 l3 V0) V0 11 [(0, .ref l0), (1, .ref l1), (2, .ref l2), (3, .int l3)] [] := by
  refine hr_aload_n o 2 dJ2_add_2_11 rfl ?_
  refine hr_iload_n o 3 dJ2_add_2_12 rfl ?_
  refine hr_aload_n o 1 dJ2_add_2_13 rfl ?_
  refine hx_paastO o dJ2_add_2_14 (fun g1 => ?_)
  refine hr_aload_n o 0 dJ2_add_2_15 rfl ?_
  refine hr_iload_n o 3 dJ2_add_2_16 rfl ?_
  refine hr_iconst o (1 : Int32) dJ2_add_2_17 (by decide) ?_
  refine hr_iadd o dJ2_add_2_18 ?_
  refine hx_putI (md := 0) o flJ2_48 dJ2_add_2_19 rfl (Or.inl nf_19_2) rfl rfl (fun _ => rfl) (fun g2 => ?_)
  exact hr_vret o dJ2_add_2_22 rfl
def spJ2_add_2 (gs : hf_gs) (l0 : Nat) (l1 : Nat) (l2 : Nat) (l3 : Int32) (V0 : hf_H) : Option hf_H :=
  (hf_pal (.object "java/lang/Object") V0 l2).bind fun x1 =>
  if l3 = x1 then ((hf_ob 0 19 V0 l0).bind fun _ =>
  hf_b2 (spJ2_grow gs l0 V0) fun x3 g2 =>
  ndJ2_add_2_11 gs l0 l1 x3 l3 g2) else
  ndJ2_add_2_11 gs l0 l1 l2 l3 V0
theorem jtJ2_add_2 {C : hf_X} {gs : hf_gs} (o : hf_In C cJ2_add_2 RJ2 4 (none) 5 105) (og : hf_G C gs) (l0 : Nat) (l1 : Nat) (l2 : Nat) (l3 : Int32) (V0 : hf_H) : hf_J C hf_dHV (spJ2_add_2 gs l0 l1 l2 l3 V0) V0 0 [(0, .ref l0), (1, .ref l1), (2, .ref l2), (3, .int l3)] [] := by
  refine hr_iload_n o 3 dJ2_add_2_0 rfl ?_
  refine hr_aload_n o 2 dJ2_add_2_1 rfl ?_
  refine hx_palen o (.object "java/lang/Object") (by simp [hf_tys]) dJ2_add_2_2 (fun x1 => ?_)
  refine hr_icmp_ne o 11 dJ2_add_2_3 (by decide) (fun _ => ?_) (fun _ => ?_)
  · refine hr_aload_n o 0 dJ2_add_2_6 rfl ?_
    refine hx_callVA (q := (RJ2, TJ2, 3)) o og mvJ2_129 dJ2_add_2_7 0 19 rfl [] (fun zr zg ze => mtJ2_grow l0 V0 zr zg ze) rfl rfl (Nat.le_of_ble_eq_true rfl) ⟨by decide, by decide⟩ (fun x3 g2 => ?_)
    refine hr_astore_n o [(2, .ref x3), (0, .ref l0), (1, .ref l1), (3, .int l3)] dJ2_add_2_10 (by decide) rfl ?_
    refine hr_sub [1, 2, 0, 3] rfl ?_
    exact nlJ2_add_2_11 o og l0 l1 x3 l3 g2
  exact nlJ2_add_2_11 o og l0 l1 l2 l3 V0
theorem mtJ2_add_2 {gs : hf_gs} (l0 : Nat) (l1 : Nat) (l2 : Nat) (l3 : Int32) (V0 V1 : hf_H) (e : spJ2_add_2 gs l0 l1 l2 l3 V0 = some V1) : hf_ConG gs yJ2_add_2 cJ2_add_2 4 (none) 5 105 [.ref l0, .ref l1, .ref l2, .int l3] V0 (.returned none, V1) := hf_entryG (dec := hf_dHV) (by decide) [.ref l0, .ref l1, .ref l2, .int l3] (Nat.le_of_ble_eq_true rfl) [(0, .ref l0), (1, .ref l1), (2, .ref l2), (3, .int l3)] rfl e (fun C o og _ => jtJ2_add_2 o og l0 l1 l2 l3 V0)

/-! J2_add -/
theorem flJ2_63 : hf_Fl RJ2 63 19 0 := ⟨(RJ2, TJ2, 3), RJ2, rfl, by decide, in_J2, tyJ2_ok, nmJ2, Or.inl q221, Or.inr q222⟩
theorem mvJ2_131 : hf_MV RJ2 131 RJ2 yJ2_add_2 cJ2_add_2 4 (none) 3 := ⟨lw_V q654 q656 qs12 q157 q657, by decide +kernel⟩
def spJ2_add (gs : hf_gs) (l0 : Nat) (l1 : Nat) (V0 : hf_H) : Option (Int32 × hf_H) :=
  (hf_gi 0 19 0 V0 l0).bind fun x1 =>
  (hf_pi 0 19 0 V0 l0 (x1 + (1 : Int32))).bind fun g2 =>
  (hf_ga 0 19 1 g2 l0).bind fun x3 =>
  (hf_gi 0 19 2 g2 l0).bind fun x4 =>
  (hf_ob 0 19 g2 l0).bind fun _ =>
  (spJ2_add_2 gs l0 l1 x3 x4 g2).bind fun g5 =>
  some ((1 : Int32), g5)
theorem jtJ2_add {C : hf_X} {gs : hf_gs} (o : hf_In C cJ2_add RJ2 2 (some .boolean) 6 128) (og : hf_G C gs) (l0 : Nat) (l1 : Nat) (V0 : hf_H) : hf_J C hf_dHI (spJ2_add gs l0 l1 V0) V0 0 [(0, .ref l0), (1, .ref l1)] [] := by
  refine hr_aload_n o 0 dJ2_add_0 rfl ?_
  refine hr_dup o dJ2_add_1 rfl ?_
  refine hr_getI (md := 0) o flJ2_63 dJ2_add_2 (fun _ => rfl) (fun x1 => ?_)
  refine hr_iconst o (1 : Int32) dJ2_add_5 (by decide) ?_
  refine hr_iadd o dJ2_add_6 ?_
  refine hx_putI (md := 0) o flJ2_63 dJ2_add_7 rfl (Or.inl nf_19_0) rfl rfl (fun _ => rfl) (fun g2 => ?_)
  refine hr_aload_n o 0 dJ2_add_10 rfl ?_
  refine hr_aload_n o 1 dJ2_add_11 rfl ?_
  refine hr_aload_n o 0 dJ2_add_12 rfl ?_
  refine hr_getA (md := 0) o flJ2_9 dJ2_add_13 (fun _ => rfl) (fun x3 => ?_)
  refine hr_aload_n o 0 dJ2_add_16 rfl ?_
  refine hr_getI (md := 0) o flJ2_48 dJ2_add_17 (fun _ => rfl) (fun x4 => ?_)
  refine hx_callVV (q := (RJ2, TJ2, 3)) o og mvJ2_131 dJ2_add_20 0 19 rfl [.ref l1, .ref x3, .int x4] (fun zg ze => mtJ2_add_2 l0 l1 x3 x4 g2 zg ze) rfl rfl (Nat.le_of_ble_eq_true rfl) ⟨by decide, by decide⟩ (fun g5 => ?_)
  refine hr_iconst o (1 : Int32) dJ2_add_23 (by decide) ?_
  exact hr_iret o dJ2_add_24 rfl (by decide)
theorem mtJ2_add {gs : hf_gs} (l0 : Nat) (l1 : Nat) (V0 : hf_H) (r : Int32) (V1 : hf_H) (e : spJ2_add gs l0 l1 V0 = some (r, V1)) : hf_ConG gs yJ2_add cJ2_add 2 (some .boolean) 6 128 [.ref l0, .ref l1] V0 (.returned (some (.int r)), V1) := hf_entryG (dec := hf_dHI) (by decide) [.ref l0, .ref l1] (Nat.le_of_ble_eq_true rfl) [(0, .ref l0), (1, .ref l1)] rfl e (fun C o og _ => jtJ2_add o og l0 l1 V0)

/-! X8_init -/
theorem miX8_9 : hf_MI RX8 9 yJ2_init cJ2_init 2 1 := ⟨⟨q206, q157, q822, q205, rfl⟩, by decide +kernel⟩
theorem ffX8_12 : hf_Ff RX8 12 8 0 := ⟨(RX8, TX8, 1), rfl, rfl, rfl, q823⟩
def spX8_init (gs : hf_gs) (l0 : Nat) (V0 : hf_H) : Option hf_H :=
  hf_mk V0 (.inl (0, 19, hf_V0)) 3 fun x1 g2 =>
  (spJ2_init gs x1 (2 : Int32) g2).bind fun g3 =>
  (hf_pq 0 8 0 g3 l0 (some x1)).bind fun g4 =>
  some g4
theorem jtX8_init {C : hf_X} {gs : hf_gs} (o : hf_In C cX8_init RX8 1 (none) 4 73) (og : hf_G C gs) (oi : hf_Ini C) (l0 : Nat) (V0 : hf_H) : hf_J C hf_dHV (spX8_init gs l0 V0) V0 0 [(0, .ref l0)] [] := by
  refine hr_aload_n o 0 dX8_init_0 rfl ?_
  refine hr_objInit o q820 dX8_init_1 q194 q195 (by decide) (Nat.le_of_ble_eq_true rfl) ?_
  refine hr_aload_n o 0 dX8_init_4 rfl ?_
  refine hx_new (ci := 19) (q := (RJ2, TJ2, 3)) o rfl q821 q203 q157 in_J2 tyJ2_ok (hf_def (by decide) (by decide)) dX8_init_5 (fun x1 g2 => ?_)
  refine hr_dup o dX8_init_8 rfl ?_
  refine hr_iconst o (2 : Int32) dX8_init_9 (by decide) ?_
  refine hx_callIV o og miX8_9 dX8_init_10 [.int (2 : Int32)] (fun zg ze => mtJ2_init x1 (2 : Int32) g2 zg ze) rfl rfl (Nat.le_of_ble_eq_true rfl) ⟨by decide, by decide⟩ (fun g3 => ?_)
  refine hx_putQ (md := 0) (x := (some x1)) o flX8_12 dX8_init_13 rfl (Or.inr ⟨oi, ffX8_12⟩) rfl (Or.inl ⟨_, rfl⟩) (fun _ => rfl) (fun g4 => ?_)
  exact hr_vret o dX8_init_16 rfl
theorem mtX8_init {gs : hf_gs} (l0 : Nat) (V0 V1 : hf_H) (e : spX8_init gs l0 V0 = some V1) : hf_ConG gs yX8_init cX8_init 1 (none) 4 73 [.ref l0] V0 (.returned none, V1) := hf_entryG (dec := hf_dHV) (by decide) [.ref l0] (Nat.le_of_ble_eq_true rfl) [(0, .ref l0)] rfl e (fun C o og oi => jtX8_init o og (oi rfl) l0 V0)

/-! X10_init -/
theorem minX10_1 : hf_MIN RX10 1 "HalfFair" yX9_init cX9_init 1 0 := ⟨⟨q852, q853, q177, q854, rfl⟩, by decide +kernel⟩
theorem ffX10_7 : hf_Ff RX10 7 10 0 := ⟨(RX10, TX10, 1), rfl, rfl, rfl, q856⟩
def spX10_init (l0 : Nat) (l1 : Int32) (V0 : hf_H) : Option hf_H :=
  (spX9_init l0 V0).bind fun g1 =>
  (hf_pi 0 10 0 g1 l0 l1).bind fun g2 =>
  some g2
theorem jtX10_init {C : hf_X} {gs : hf_gs} (o : hf_In C cX10_init RX10 2 (none) 2 32) (og : hf_G C gs) (oi : hf_Ini C) (l0 : Nat) (l1 : Int32) (V0 : hf_H) : hf_J C hf_dHV (spX10_init l0 l1 V0) V0 0 [(0, .ref l0), (1, .int l1)] [] := by
  refine hr_aload_n o 0 dX10_init_0 rfl ?_
  refine hx_callINV o og minX10_1 dX10_init_1 [] (fun zg ze => mtX9_init l0 V0 zg ze) rfl rfl (Nat.le_of_ble_eq_true rfl) ⟨by decide, by decide⟩ (fun g1 => ?_)
  refine hr_aload_n o 0 dX10_init_4 rfl ?_
  refine hr_iload_n o 1 dX10_init_5 rfl ?_
  refine hx_putI (md := 0) o flX10_7 dX10_init_6 rfl (Or.inr ⟨oi, ffX10_7⟩) rfl rfl (fun _ => rfl) (fun g2 => ?_)
  exact hr_vret o dX10_init_9 rfl
theorem mtX10_init {gs : hf_gs} (l0 : Nat) (l1 : Int32) (V0 V1 : hf_H) (e : spX10_init l0 l1 V0 = some V1) : hf_ConG gs yX10_init cX10_init 2 (none) 2 32 [.ref l0, .int l1] V0 (.returned none, V1) := hf_entryG (dec := hf_dHV) (by decide) [.ref l0, .int l1] (Nat.le_of_ble_eq_true rfl) [(0, .ref l0), (1, .int l1)] rfl e (fun C o og oi => jtX10_init o og (oi rfl) l0 l1 V0)

/-! X11_init -/
theorem minX11_1 : hf_MIN RX11 1 "HalfFair" yX9_init cX9_init 1 0 := ⟨⟨q869, q853, q177, q854, rfl⟩, by decide +kernel⟩
theorem ffX11_7 : hf_Ff RX11 7 11 0 := ⟨(RX11, TX11, 1), rfl, rfl, rfl, q870⟩
def spX11_init (l0 : Nat) (l1 : Int32) (V0 : hf_H) : Option hf_H :=
  (spX9_init l0 V0).bind fun g1 =>
  (hf_pi 0 11 0 g1 l0 l1).bind fun g2 =>
  some g2
theorem jtX11_init {C : hf_X} {gs : hf_gs} (o : hf_In C cX11_init RX11 2 (none) 2 32) (og : hf_G C gs) (oi : hf_Ini C) (l0 : Nat) (l1 : Int32) (V0 : hf_H) : hf_J C hf_dHV (spX11_init l0 l1 V0) V0 0 [(0, .ref l0), (1, .int l1)] [] := by
  refine hr_aload_n o 0 dX11_init_0 rfl ?_
  refine hx_callINV o og minX11_1 dX11_init_1 [] (fun zg ze => mtX9_init l0 V0 zg ze) rfl rfl (Nat.le_of_ble_eq_true rfl) ⟨by decide, by decide⟩ (fun g1 => ?_)
  refine hr_aload_n o 0 dX11_init_4 rfl ?_
  refine hr_iload_n o 1 dX11_init_5 rfl ?_
  refine hx_putI (md := 0) o flX11_7 dX11_init_6 rfl (Or.inr ⟨oi, ffX11_7⟩) rfl rfl (fun _ => rfl) (fun g2 => ?_)
  exact hr_vret o dX11_init_9 rfl
theorem mtX11_init {gs : hf_gs} (l0 : Nat) (l1 : Int32) (V0 V1 : hf_H) (e : spX11_init l0 l1 V0 = some V1) : hf_ConG gs yX11_init cX11_init 2 (none) 2 32 [.ref l0, .int l1] V0 (.returned none, V1) := hf_entryG (dec := hf_dHV) (by decide) [.ref l0, .int l1] (Nat.le_of_ble_eq_true rfl) [(0, .ref l0), (1, .int l1)] rfl e (fun C o og oi => jtX11_init o og (oi rfl) l0 l1 V0)

/-! X12_init -/
theorem minX12_1 : hf_MIN RX12 1 "HalfFair" yX9_init cX9_init 1 0 := ⟨⟨q879, q853, q177, q854, rfl⟩, by decide +kernel⟩
theorem ffX12_7 : hf_Ff RX12 7 12 0 := ⟨(RX12, TX12, 3), rfl, rfl, rfl, q880⟩
theorem ffX12_13 : hf_Ff RX12 13 12 1 := ⟨(RX12, TX12, 3), rfl, rfl, rfl, q881⟩
theorem ffX12_16 : hf_Ff RX12 16 12 2 := ⟨(RX12, TX12, 3), rfl, rfl, rfl, q882⟩
def spX12_init (l0 : Nat) (l1 : Nat) (l2 : Nat) (l3 : Int32) (V0 : hf_H) : Option hf_H :=
  (spX9_init l0 V0).bind fun g1 =>
  (hf_pq 0 12 0 g1 l0 (some l1)).bind fun g2 =>
  (hf_pq 0 12 1 g2 l0 (some l2)).bind fun g3 =>
  (hf_pi 0 12 2 g3 l0 l3).bind fun g4 =>
  some g4
theorem jtX12_init {C : hf_X} {gs : hf_gs} (o : hf_In C cX12_init RX12 4 (none) 2 32) (og : hf_G C gs) (oi : hf_Ini C) (l0 : Nat) (l1 : Nat) (l2 : Nat) (l3 : Int32) (V0 : hf_H) : hf_J C hf_dHV (spX12_init l0 l1 l2 l3 V0) V0 0 [(0, .ref l0), (1, .ref l1), (2, .ref l2), (3, .int l3)] [] := by
  refine hr_aload_n o 0 dX12_init_0 rfl ?_
  refine hx_callINV o og minX12_1 dX12_init_1 [] (fun zg ze => mtX9_init l0 V0 zg ze) rfl rfl (Nat.le_of_ble_eq_true rfl) ⟨by decide, by decide⟩ (fun g1 => ?_)
  refine hr_aload_n o 0 dX12_init_4 rfl ?_
  refine hr_aload_n o 1 dX12_init_5 rfl ?_
  refine hx_putQ (md := 0) (x := (some l1)) o flX12_7 dX12_init_6 rfl (Or.inr ⟨oi, ffX12_7⟩) rfl (Or.inl ⟨_, rfl⟩) (fun _ => rfl) (fun g2 => ?_)
  refine hr_aload_n o 0 dX12_init_9 rfl ?_
  refine hr_aload_n o 2 dX12_init_10 rfl ?_
  refine hx_putQ (md := 0) (x := (some l2)) o flX12_13 dX12_init_11 rfl (Or.inr ⟨oi, ffX12_13⟩) rfl (Or.inl ⟨_, rfl⟩) (fun _ => rfl) (fun g3 => ?_)
  refine hr_aload_n o 0 dX12_init_14 rfl ?_
  refine hr_iload_n o 3 dX12_init_15 rfl ?_
  refine hx_putI (md := 0) o flX12_16 dX12_init_16 rfl (Or.inr ⟨oi, ffX12_16⟩) rfl rfl (fun _ => rfl) (fun g4 => ?_)
  exact hr_vret o dX12_init_19 rfl
theorem mtX12_init {gs : hf_gs} (l0 : Nat) (l1 : Nat) (l2 : Nat) (l3 : Int32) (V0 V1 : hf_H) (e : spX12_init l0 l1 l2 l3 V0 = some V1) : hf_ConG gs yX12_init cX12_init 4 (none) 2 32 [.ref l0, .ref l1, .ref l2, .int l3] V0 (.returned none, V1) := hf_entryG (dec := hf_dHV) (by decide) [.ref l0, .ref l1, .ref l2, .int l3] (Nat.le_of_ble_eq_true rfl) [(0, .ref l0), (1, .ref l1), (2, .ref l2), (3, .int l3)] rfl e (fun C o og oi => jtX12_init o og (oi rfl) l0 l1 l2 l3 V0)

/-! X13_init -/
theorem miX13_1 : hf_MI RX13 1 yJ9_init cJ9_init 1 0 := ⟨⟨q628, q168, q967, q627, rfl⟩, by decide +kernel⟩
theorem flX13_7 : hf_Fl RX13 7 13 0 := ⟨(RX13, TX13, 3), RX13, rfl, by decide, in_X13, tyX13_ok, nmX13, Or.inl q968, Or.inl rfl⟩
theorem ffX13_7 : hf_Ff RX13 7 13 0 := ⟨(RX13, TX13, 3), rfl, rfl, rfl, q968⟩
theorem flX13_13 : hf_Fl RX13 13 13 1 := ⟨(RX13, TX13, 3), RX13, rfl, by decide, in_X13, tyX13_ok, nmX13, Or.inl q970, Or.inl rfl⟩
theorem ffX13_13 : hf_Ff RX13 13 13 1 := ⟨(RX13, TX13, 3), rfl, rfl, rfl, q970⟩
theorem ffX13_17 : hf_Ff RX13 17 13 2 := ⟨(RX13, TX13, 3), rfl, rfl, rfl, q972⟩
def spX13_init (l0 : Nat) (l1 : Int32) (l2 : Nat) (l3 : Option Nat) (V0 : hf_H) : Option hf_H :=
  (spJ9_init l0 V0).bind fun g1 =>
  if l1 = 0 ∨ l1 = 1 then ((hf_pi 0 13 0 g1 l0 l1).bind fun g2 =>
  (hf_pq 0 13 1 g2 l0 (some l2)).bind fun g3 =>
  (hf_pq 0 13 2 g3 l0 l3).bind fun g4 =>
  some g4) else none
theorem jtX13_init {C : hf_X} {gs : hf_gs} (o : hf_In C cX13_init RX13 4 (none) 2 32) (og : hf_G C gs) (oi : hf_Ini C) (l0 : Nat) (l1 : Int32) (l2 : Nat) (l3 : Option Nat) (V0 : hf_H) : hf_J C hf_dHV (spX13_init l0 l1 l2 l3 V0) V0 0 [(0, .ref l0), (1, .int l1), (2, .ref l2), (3, va_rf l3)] [] := by
  refine hr_aload_n o 0 dX13_init_0 rfl ?_
  refine hx_callIV o og miX13_1 dX13_init_1 [] (fun zg ze => mtJ9_init l0 V0 zg ze) rfl rfl (Nat.le_of_ble_eq_true rfl) ⟨by decide, by decide⟩ (fun g1 => ?_)
  refine hr_aload_n o 0 dX13_init_4 rfl ?_
  refine hr_iload_n o 1 dX13_init_5 rfl ?_
  refine hr_ck (fun hz => ?_)
  refine hx_putI (md := 0) o flX13_7 dX13_init_6 rfl (Or.inr ⟨oi, ffX13_7⟩) (hf_nz hz) (hf_nzf hz) (fun _ => rfl) (fun g2 => ?_)
  refine hr_aload_n o 0 dX13_init_9 rfl ?_
  refine hr_aload_n o 2 dX13_init_10 rfl ?_
  refine hx_putQ (md := 0) (x := (some l2)) o flX13_13 dX13_init_11 rfl (Or.inr ⟨oi, ffX13_13⟩) rfl (Or.inl ⟨_, rfl⟩) (fun _ => rfl) (fun g3 => ?_)
  refine hr_aload_n o 0 dX13_init_14 rfl ?_
  refine hr_aload_nQ o 3 dX13_init_15 rfl ?_
  refine hx_putQ (md := 0) (x := l3) o flX13_17 dX13_init_16 rfl (Or.inr ⟨oi, ffX13_17⟩) rfl (Or.inl ⟨_, rfl⟩) (fun _ => rfl) (fun g4 => ?_)
  exact hr_vret o dX13_init_19 rfl
theorem mtX13_init {gs : hf_gs} (l0 : Nat) (l1 : Int32) (l2 : Nat) (l3 : Option Nat) (V0 V1 : hf_H) (e : spX13_init l0 l1 l2 l3 V0 = some V1) : hf_ConG gs yX13_init cX13_init 4 (none) 2 32 [.ref l0, .int l1, .ref l2, va_rf l3] V0 (.returned none, V1) := hf_entryG (dec := hf_dHV) (by decide) [.ref l0, .int l1, .ref l2, va_rf l3] (by cases l3 <;> exact Nat.le_of_ble_eq_true rfl) [(0, .ref l0), (1, .int l1), (2, .ref l2), (3, va_rf l3)] (by cases l3 <;> rfl) e (fun C o og oi => jtX13_init o og (oi rfl) l0 l1 l2 l3 V0)

/-! X15_init -/
theorem minX15_1 : hf_MIN RX15 1 "HalfFair" yX14_init cX14_init 1 0 := ⟨⟨q919, q920, q182, q921, rfl⟩, by decide +kernel⟩
theorem ffX15_7 : hf_Ff RX15 7 15 0 := ⟨(RX15, TX15, 1), rfl, rfl, rfl, q923⟩
def spX15_init (l0 : Nat) (l1 : Nat) (V0 : hf_H) : Option hf_H :=
  (spX14_init l0 V0).bind fun g1 =>
  (hf_pq 0 15 0 g1 l0 (some l1)).bind fun g2 =>
  some g2
theorem jtX15_init {C : hf_X} {gs : hf_gs} (o : hf_In C cX15_init RX15 2 (none) 2 32) (og : hf_G C gs) (oi : hf_Ini C) (l0 : Nat) (l1 : Nat) (V0 : hf_H) : hf_J C hf_dHV (spX15_init l0 l1 V0) V0 0 [(0, .ref l0), (1, .ref l1)] [] := by
  refine hr_aload_n o 0 dX15_init_0 rfl ?_
  refine hx_callINV o og minX15_1 dX15_init_1 [] (fun zg ze => mtX14_init l0 V0 zg ze) rfl rfl (Nat.le_of_ble_eq_true rfl) ⟨by decide, by decide⟩ (fun g1 => ?_)
  refine hr_aload_n o 0 dX15_init_4 rfl ?_
  refine hr_aload_n o 1 dX15_init_5 rfl ?_
  refine hx_putQ (md := 0) (x := (some l1)) o flX15_7 dX15_init_6 rfl (Or.inr ⟨oi, ffX15_7⟩) rfl (Or.inl ⟨_, rfl⟩) (fun _ => rfl) (fun g2 => ?_)
  exact hr_vret o dX15_init_9 rfl
theorem mtX15_init {gs : hf_gs} (l0 : Nat) (l1 : Nat) (V0 V1 : hf_H) (e : spX15_init l0 l1 V0 = some V1) : hf_ConG gs yX15_init cX15_init 2 (none) 2 32 [.ref l0, .ref l1] V0 (.returned none, V1) := hf_entryG (dec := hf_dHV) (by decide) [.ref l0, .ref l1] (Nat.le_of_ble_eq_true rfl) [(0, .ref l0), (1, .ref l1)] rfl e (fun C o og oi => jtX15_init o og (oi rfl) l0 l1 V0)

/-! X16_init -/
theorem minX16_1 : hf_MIN RX16 1 "HalfFair" yX14_init cX14_init 1 0 := ⟨⟨q932, q920, q182, q921, rfl⟩, by decide +kernel⟩
theorem ffX16_7 : hf_Ff RX16 7 16 0 := ⟨(RX16, TX16, 4), rfl, rfl, rfl, q933⟩
theorem ffX16_13 : hf_Ff RX16 13 16 1 := ⟨(RX16, TX16, 4), rfl, rfl, rfl, q934⟩
theorem ffX16_16 : hf_Ff RX16 16 16 2 := ⟨(RX16, TX16, 4), rfl, rfl, rfl, q935⟩
theorem ffX16_20 : hf_Ff RX16 20 16 3 := ⟨(RX16, TX16, 4), rfl, rfl, rfl, q936⟩
def spX16_init (l0 : Nat) (l1 : Nat) (l2 : Nat) (l3 : Int32) (l4 : Int32) (V0 : hf_H) : Option hf_H :=
  (spX14_init l0 V0).bind fun g1 =>
  (hf_pq 0 16 0 g1 l0 (some l1)).bind fun g2 =>
  (hf_pq 0 16 1 g2 l0 (some l2)).bind fun g3 =>
  (hf_pi 0 16 2 g3 l0 l3).bind fun g4 =>
  if l4 = 0 ∨ l4 = 1 then ((hf_pi 0 16 3 g4 l0 l4).bind fun g5 =>
  some g5) else none
theorem jtX16_init {C : hf_X} {gs : hf_gs} (o : hf_In C cX16_init RX16 5 (none) 2 32) (og : hf_G C gs) (oi : hf_Ini C) (l0 : Nat) (l1 : Nat) (l2 : Nat) (l3 : Int32) (l4 : Int32) (V0 : hf_H) : hf_J C hf_dHV (spX16_init l0 l1 l2 l3 l4 V0) V0 0 [(0, .ref l0), (1, .ref l1), (2, .ref l2), (3, .int l3), (4, .int l4)] [] := by
  refine hr_aload_n o 0 dX16_init_0 rfl ?_
  refine hx_callINV o og minX16_1 dX16_init_1 [] (fun zg ze => mtX14_init l0 V0 zg ze) rfl rfl (Nat.le_of_ble_eq_true rfl) ⟨by decide, by decide⟩ (fun g1 => ?_)
  refine hr_aload_n o 0 dX16_init_4 rfl ?_
  refine hr_aload_n o 1 dX16_init_5 rfl ?_
  refine hx_putQ (md := 0) (x := (some l1)) o flX16_7 dX16_init_6 rfl (Or.inr ⟨oi, ffX16_7⟩) rfl (Or.inl ⟨_, rfl⟩) (fun _ => rfl) (fun g2 => ?_)
  refine hr_aload_n o 0 dX16_init_9 rfl ?_
  refine hr_aload_n o 2 dX16_init_10 rfl ?_
  refine hx_putQ (md := 0) (x := (some l2)) o flX16_13 dX16_init_11 rfl (Or.inr ⟨oi, ffX16_13⟩) rfl (Or.inl ⟨_, rfl⟩) (fun _ => rfl) (fun g3 => ?_)
  refine hr_aload_n o 0 dX16_init_14 rfl ?_
  refine hr_iload_n o 3 dX16_init_15 rfl ?_
  refine hx_putI (md := 0) o flX16_16 dX16_init_16 rfl (Or.inr ⟨oi, ffX16_16⟩) rfl rfl (fun _ => rfl) (fun g4 => ?_)
  refine hr_aload_n o 0 dX16_init_19 rfl ?_
  refine hr_iload o 4 dX16_init_20 rfl ?_
  refine hr_ck (fun hz => ?_)
  refine hx_putI (md := 0) o flX16_20 dX16_init_22 rfl (Or.inr ⟨oi, ffX16_20⟩) (hf_nz hz) (hf_nzf hz) (fun _ => rfl) (fun g5 => ?_)
  exact hr_vret o dX16_init_25 rfl
theorem mtX16_init {gs : hf_gs} (l0 : Nat) (l1 : Nat) (l2 : Nat) (l3 : Int32) (l4 : Int32) (V0 V1 : hf_H) (e : spX16_init l0 l1 l2 l3 l4 V0 = some V1) : hf_ConG gs yX16_init cX16_init 5 (none) 2 32 [.ref l0, .ref l1, .ref l2, .int l3, .int l4] V0 (.returned none, V1) := hf_entryG (dec := hf_dHV) (by decide) [.ref l0, .ref l1, .ref l2, .int l3, .int l4] (Nat.le_of_ble_eq_true rfl) [(0, .ref l0), (1, .ref l1), (2, .ref l2), (3, .int l3), (4, .int l4)] rfl e (fun C o og oi => jtX16_init o og (oi rfl) l0 l1 l2 l3 l4 V0)

/-! X17_init -/
theorem minX17_1 : hf_MIN RX17 1 "HalfFair" yX14_init cX14_init 1 0 := ⟨⟨q952, q920, q182, q921, rfl⟩, by decide +kernel⟩
theorem ffX17_7 : hf_Ff RX17 7 17 0 := ⟨(RX17, TX17, 3), rfl, rfl, rfl, q953⟩
theorem ffX17_13 : hf_Ff RX17 13 17 1 := ⟨(RX17, TX17, 3), rfl, rfl, rfl, q954⟩
theorem ffX17_16 : hf_Ff RX17 16 17 2 := ⟨(RX17, TX17, 3), rfl, rfl, rfl, q955⟩
def spX17_init (l0 : Nat) (l1 : Nat) (l2 : Nat) (l3 : Int32) (V0 : hf_H) : Option hf_H :=
  (spX14_init l0 V0).bind fun g1 =>
  (hf_pq 0 17 0 g1 l0 (some l1)).bind fun g2 =>
  (hf_pq 0 17 1 g2 l0 (some l2)).bind fun g3 =>
  if l3 = 0 ∨ l3 = 1 then ((hf_pi 0 17 2 g3 l0 l3).bind fun g4 =>
  some g4) else none
theorem jtX17_init {C : hf_X} {gs : hf_gs} (o : hf_In C cX17_init RX17 4 (none) 2 32) (og : hf_G C gs) (oi : hf_Ini C) (l0 : Nat) (l1 : Nat) (l2 : Nat) (l3 : Int32) (V0 : hf_H) : hf_J C hf_dHV (spX17_init l0 l1 l2 l3 V0) V0 0 [(0, .ref l0), (1, .ref l1), (2, .ref l2), (3, .int l3)] [] := by
  refine hr_aload_n o 0 dX17_init_0 rfl ?_
  refine hx_callINV o og minX17_1 dX17_init_1 [] (fun zg ze => mtX14_init l0 V0 zg ze) rfl rfl (Nat.le_of_ble_eq_true rfl) ⟨by decide, by decide⟩ (fun g1 => ?_)
  refine hr_aload_n o 0 dX17_init_4 rfl ?_
  refine hr_aload_n o 1 dX17_init_5 rfl ?_
  refine hx_putQ (md := 0) (x := (some l1)) o flX17_7 dX17_init_6 rfl (Or.inr ⟨oi, ffX17_7⟩) rfl (Or.inl ⟨_, rfl⟩) (fun _ => rfl) (fun g2 => ?_)
  refine hr_aload_n o 0 dX17_init_9 rfl ?_
  refine hr_aload_n o 2 dX17_init_10 rfl ?_
  refine hx_putQ (md := 0) (x := (some l2)) o flX17_13 dX17_init_11 rfl (Or.inr ⟨oi, ffX17_13⟩) rfl (Or.inl ⟨_, rfl⟩) (fun _ => rfl) (fun g3 => ?_)
  refine hr_aload_n o 0 dX17_init_14 rfl ?_
  refine hr_iload_n o 3 dX17_init_15 rfl ?_
  refine hr_ck (fun hz => ?_)
  refine hx_putI (md := 0) o flX17_16 dX17_init_16 rfl (Or.inr ⟨oi, ffX17_16⟩) (hf_nz hz) (hf_nzf hz) (fun _ => rfl) (fun g4 => ?_)
  exact hr_vret o dX17_init_19 rfl
theorem mtX17_init {gs : hf_gs} (l0 : Nat) (l1 : Nat) (l2 : Nat) (l3 : Int32) (V0 V1 : hf_H) (e : spX17_init l0 l1 l2 l3 V0 = some V1) : hf_ConG gs yX17_init cX17_init 4 (none) 2 32 [.ref l0, .ref l1, .ref l2, .int l3] V0 (.returned none, V1) := hf_entryG (dec := hf_dHV) (by decide) [.ref l0, .ref l1, .ref l2, .int l3] (Nat.le_of_ble_eq_true rfl) [(0, .ref l0), (1, .ref l1), (2, .ref l2), (3, .int l3)] rfl e (fun C o og oi => jtX17_init o og (oi rfl) l0 l1 l2 l3 V0)

/-! X1_init -/
theorem miX1_11 : hf_MI RX1 11 yJ2_init cJ2_init 2 1 := ⟨⟨q206, q157, q204, q205, rfl⟩, by decide +kernel⟩
theorem ffX1_14 : hf_Ff RX1 14 1 0 := ⟨(RX1, TX1, 13), rfl, rfl, rfl, q230⟩
theorem flX1_20 : hf_Fl RX1 20 1 1 := ⟨(RX1, TX1, 13), RX1, rfl, by decide, in_X1, tyX1_ok, nmX1, Or.inl q234, Or.inl rfl⟩
theorem ffX1_20 : hf_Ff RX1 20 1 1 := ⟨(RX1, TX1, 13), rfl, rfl, rfl, q234⟩
theorem ffX1_23 : hf_Ff RX1 23 1 2 := ⟨(RX1, TX1, 13), rfl, rfl, rfl, q238⟩
theorem nf_1_6 : hf_Nf 1 6 := ⟨(RX1, TX1, 13), rfl, rfl⟩
theorem nf_1_7 : hf_Nf 1 7 := ⟨(RX1, TX1, 13), rfl, rfl⟩
theorem flX1_34 : hf_Fl RX1 34 1 8 := ⟨(RX1, TX1, 13), RX1, rfl, by decide, in_X1, tyX1_ok, nmX1, Or.inl q254, Or.inl rfl⟩
theorem nf_1_8 : hf_Nf 1 8 := ⟨(RX1, TX1, 13), rfl, rfl⟩
def spX1_init (gs : hf_gs) (l0 : Nat) (V0 : hf_H) : Option hf_H :=
  hf_mk V0 (.inl (0, 19, hf_V0)) 3 fun x1 g2 =>
  (spJ2_init gs x1 (2 : Int32) g2).bind fun g3 =>
  (hf_pq 0 1 0 g3 l0 (some x1)).bind fun g4 =>
  hf_mk g4 (.inl (0, 19, hf_V0)) 3 fun x5 g6 =>
  (spJ2_init gs x5 (2 : Int32) g6).bind fun g7 =>
  (hf_pq 0 1 1 g7 l0 (some x5)).bind fun g8 =>
  if (4 : Int32) < 0 ∨ 536870912 < (4 : Int32).toNatClampNeg * 8 then none else hf_mk g8 (.inr (.inl (0, .int, (4 : Int32).toNatClampNeg, hf_z .int))) (4 : Int32).toNatClampNeg fun x9 g10 =>
  (hf_psi .int g10 x9 (0 : Int32) (1 : Int32)).bind fun g11 =>
  (hf_psi .int g11 x9 (1 : Int32) (2 : Int32)).bind fun g12 =>
  (hf_psi .int g12 x9 (2 : Int32) (4 : Int32)).bind fun g13 =>
  (hf_psi .int g13 x9 (3 : Int32) (8 : Int32)).bind fun g14 =>
  (hf_pq 0 1 2 g14 l0 (some x9)).bind fun g15 =>
  (hf_pi 0 1 6 g15 l0 (12 : Int32)).bind fun g16 =>
  (hf_pi 0 1 7 g16 l0 (5 : Int32)).bind fun g17 =>
  (hf_pi 0 1 8 g17 l0 (1 : Int32)).bind fun g18 =>
  (hf_fold 1 g18 l0).bind fun g19 =>
  some g19
theorem jtX1_init {C : hf_X} {gs : hf_gs} (o : hf_In C cX1_init RX1 1 (none) 4 73) (og : hf_G C gs) (oi : hf_Ini C) (l0 : Nat) (V0 : hf_H) : hf_J C hf_dHV (spX1_init gs l0 V0) V0 0 [(0, .ref l0)] [] := by
  refine hr_aload_n o 0 dX1_init_0 rfl ?_
  refine hr_objInit o q201 dX1_init_1 q194 q195 (by decide) (Nat.le_of_ble_eq_true rfl) ?_
  refine hr_aload_n o 0 dX1_init_4 rfl ?_
  refine hx_new (ci := 19) (q := (RJ2, TJ2, 3)) o rfl q202 q203 q157 in_J2 tyJ2_ok (hf_def (by decide) (by decide)) dX1_init_5 (fun x1 g2 => ?_)
  refine hr_dup o dX1_init_8 rfl ?_
  refine hr_iconst o (2 : Int32) dX1_init_9 (by decide) ?_
  refine hx_callIV o og miX1_11 dX1_init_10 [.int (2 : Int32)] (fun zg ze => mtJ2_init x1 (2 : Int32) g2 zg ze) rfl rfl (Nat.le_of_ble_eq_true rfl) ⟨by decide, by decide⟩ (fun g3 => ?_)
  refine hx_putQ (md := 0) (x := (some x1)) o flX1_14 dX1_init_13 rfl (Or.inr ⟨oi, ffX1_14⟩) rfl (Or.inl ⟨_, rfl⟩) (fun _ => rfl) (fun g4 => ?_)
  refine hr_aload_n o 0 dX1_init_16 rfl ?_
  refine hx_new (ci := 19) (q := (RJ2, TJ2, 3)) o rfl q202 q203 q157 in_J2 tyJ2_ok (hf_def (by decide) (by decide)) dX1_init_17 (fun x5 g6 => ?_)
  refine hr_dup o dX1_init_20 rfl ?_
  refine hr_iconst o (2 : Int32) dX1_init_21 (by decide) ?_
  refine hx_callIV o og miX1_11 dX1_init_22 [.int (2 : Int32)] (fun zg ze => mtJ2_init x5 (2 : Int32) g6 zg ze) rfl rfl (Nat.le_of_ble_eq_true rfl) ⟨by decide, by decide⟩ (fun g7 => ?_)
  refine hx_putQ (md := 0) (x := (some x5)) o flX1_20 dX1_init_25 rfl (Or.inr ⟨oi, ffX1_20⟩) rfl (Or.inl ⟨_, rfl⟩) (fun _ => rfl) (fun g8 => ?_)
  refine hr_aload_n o 0 dX1_init_28 rfl ?_
  refine hr_iconst o (4 : Int32) dX1_init_29 (by decide) ?_
  refine hx_newa o .int rfl q289 (by simp [hf_tys]) (by decide) (fun _ _ => rfl) (fun _ _ h => h) dX1_init_30 (fun x9 g10 => ?_)
  refine hr_dup o dX1_init_32 rfl ?_
  refine hr_iconst o (0 : Int32) dX1_init_33 (by decide) ?_
  refine hr_iconst o (1 : Int32) dX1_init_34 (by decide) ?_
  refine hx_paist o dX1_init_35 (fun g11 => ?_)
  refine hr_dup o dX1_init_36 rfl ?_
  refine hr_iconst o (1 : Int32) dX1_init_37 (by decide) ?_
  refine hr_iconst o (2 : Int32) dX1_init_38 (by decide) ?_
  refine hx_paist o dX1_init_39 (fun g12 => ?_)
  refine hr_dup o dX1_init_40 rfl ?_
  refine hr_iconst o (2 : Int32) dX1_init_41 (by decide) ?_
  refine hr_iconst o (4 : Int32) dX1_init_42 (by decide) ?_
  refine hx_paist o dX1_init_43 (fun g13 => ?_)
  refine hr_dup o dX1_init_44 rfl ?_
  refine hr_iconst o (3 : Int32) dX1_init_45 (by decide) ?_
  refine hr_bipush o (8 : Int32) dX1_init_46 (by decide) ?_
  refine hx_paist o dX1_init_48 (fun g14 => ?_)
  refine hx_putQ (md := 0) (x := (some x9)) o flX1_23 dX1_init_49 rfl (Or.inr ⟨oi, ffX1_23⟩) rfl (Or.inr ⟨_, rfl⟩) (fun _ => rfl) (fun g15 => ?_)
  refine hr_aload_n o 0 dX1_init_52 rfl ?_
  refine hr_bipush o (12 : Int32) dX1_init_53 (by decide) ?_
  refine hx_putI (md := 0) o flX1_27 dX1_init_55 rfl (Or.inl nf_1_6) rfl rfl (fun _ => rfl) (fun g16 => ?_)
  refine hr_aload_n o 0 dX1_init_58 rfl ?_
  refine hr_iconst o (5 : Int32) dX1_init_59 (by decide) ?_
  refine hx_putI (md := 0) o flX1_31 dX1_init_60 rfl (Or.inl nf_1_7) rfl rfl (fun _ => rfl) (fun g17 => ?_)
  refine hr_aload_n o 0 dX1_init_63 rfl ?_
  refine hr_iconst o (1 : Int32) dX1_init_64 (by decide) ?_
  refine hx_putI (md := 0) o flX1_34 dX1_init_65 rfl (Or.inl nf_1_8) rfl rfl (fun _ => rfl) (fun g18 => ?_)
  refine hx_fold (fun g19 => ?_)
  exact hr_vret o dX1_init_68 rfl
theorem mtX1_init {gs : hf_gs} (l0 : Nat) (V0 V1 : hf_H) (e : spX1_init gs l0 V0 = some V1) : hf_ConG gs yX1_init cX1_init 1 (none) 4 73 [.ref l0] V0 (.returned none, V1) := hf_entryG (dec := hf_dHV) (by decide) [.ref l0] (Nat.le_of_ble_eq_true rfl) [(0, .ref l0)] rfl e (fun C o og oi => jtX1_init o og (oi rfl) l0 V0)

/-! X2_init -/
theorem ffX2_9 : hf_Ff RX2 9 2 0 := ⟨(RX2, TX2, 5), rfl, rfl, rfl, q296⟩
theorem ffX2_15 : hf_Ff RX2 15 2 1 := ⟨(RX2, TX2, 5), rfl, rfl, rfl, q298⟩
theorem ffX2_18 : hf_Ff RX2 18 2 2 := ⟨(RX2, TX2, 5), rfl, rfl, rfl, q300⟩
theorem ffX2_21 : hf_Ff RX2 21 2 3 := ⟨(RX2, TX2, 5), rfl, rfl, rfl, q302⟩
def spX2_init (l0 : Nat) (V0 : hf_H) : Option hf_H :=
  if (12 : Int32) < 0 ∨ 536870912 < (12 : Int32).toNatClampNeg * 8 then none else hf_mk V0 (.inr (.inl (0, .int, (12 : Int32).toNatClampNeg, hf_z .int))) (12 : Int32).toNatClampNeg fun x1 g2 =>
  (hf_pq 0 2 0 g2 l0 (some x1)).bind fun g3 =>
  if (4 : Int32) < 0 ∨ 536870912 < (4 : Int32).toNatClampNeg * 8 then none else hf_mk g3 (.inr (.inl (0, .int, (4 : Int32).toNatClampNeg, hf_z .int))) (4 : Int32).toNatClampNeg fun x4 g5 =>
  (hf_pq 0 2 1 g5 l0 (some x4)).bind fun g6 =>
  if (4 : Int32) < 0 ∨ 536870912 < (4 : Int32).toNatClampNeg * 8 then none else hf_mk g6 (.inr (.inl (0, .int, (4 : Int32).toNatClampNeg, hf_z .int))) (4 : Int32).toNatClampNeg fun x7 g8 =>
  (hf_pq 0 2 2 g8 l0 (some x7)).bind fun g9 =>
  if (4 : Int32) < 0 ∨ 536870912 < (4 : Int32).toNatClampNeg * 8 then none else hf_mk g9 (.inr (.inl (0, .int, (4 : Int32).toNatClampNeg, hf_z .int))) (4 : Int32).toNatClampNeg fun x10 g11 =>
  (hf_pq 0 2 3 g11 l0 (some x10)).bind fun g12 =>
  (hf_fold 2 g12 l0).bind fun g13 =>
  some g13
theorem jtX2_init {C : hf_X} {gs : hf_gs} (o : hf_In C cX2_init RX2 1 (none) 1 12) (og : hf_G C gs) (oi : hf_Ini C) (l0 : Nat) (V0 : hf_H) : hf_J C hf_dHV (spX2_init l0 V0) V0 0 [(0, .ref l0)] [] := by
  refine hr_aload_n o 0 dX2_init_0 rfl ?_
  refine hr_objInit o q295 dX2_init_1 q194 q195 (by decide) (Nat.le_of_ble_eq_true rfl) ?_
  refine hr_aload_n o 0 dX2_init_4 rfl ?_
  refine hr_bipush o (12 : Int32) dX2_init_5 (by decide) ?_
  refine hx_newa o .int rfl q289 (by simp [hf_tys]) (by decide) (fun _ _ => rfl) (fun _ _ h => h) dX2_init_7 (fun x1 g2 => ?_)
  refine hx_putQ (md := 0) (x := (some x1)) o flX2_9 dX2_init_9 rfl (Or.inr ⟨oi, ffX2_9⟩) rfl (Or.inr ⟨_, rfl⟩) (fun _ => rfl) (fun g3 => ?_)
  refine hr_aload_n o 0 dX2_init_12 rfl ?_
  refine hr_iconst o (4 : Int32) dX2_init_13 (by decide) ?_
  refine hx_newa o .int rfl q289 (by simp [hf_tys]) (by decide) (fun _ _ => rfl) (fun _ _ h => h) dX2_init_14 (fun x4 g5 => ?_)
  refine hx_putQ (md := 0) (x := (some x4)) o flX2_15 dX2_init_16 rfl (Or.inr ⟨oi, ffX2_15⟩) rfl (Or.inr ⟨_, rfl⟩) (fun _ => rfl) (fun g6 => ?_)
  refine hr_aload_n o 0 dX2_init_19 rfl ?_
  refine hr_iconst o (4 : Int32) dX2_init_20 (by decide) ?_
  refine hx_newa o .int rfl q289 (by simp [hf_tys]) (by decide) (fun _ _ => rfl) (fun _ _ h => h) dX2_init_21 (fun x7 g8 => ?_)
  refine hx_putQ (md := 0) (x := (some x7)) o flX2_18 dX2_init_23 rfl (Or.inr ⟨oi, ffX2_18⟩) rfl (Or.inr ⟨_, rfl⟩) (fun _ => rfl) (fun g9 => ?_)
  refine hr_aload_n o 0 dX2_init_26 rfl ?_
  refine hr_iconst o (4 : Int32) dX2_init_27 (by decide) ?_
  refine hx_newa o .int rfl q289 (by simp [hf_tys]) (by decide) (fun _ _ => rfl) (fun _ _ h => h) dX2_init_28 (fun x10 g11 => ?_)
  refine hx_putQ (md := 0) (x := (some x10)) o flX2_21 dX2_init_30 rfl (Or.inr ⟨oi, ffX2_21⟩) rfl (Or.inr ⟨_, rfl⟩) (fun _ => rfl) (fun g12 => ?_)
  refine hx_fold (fun g13 => ?_)
  exact hr_vret o dX2_init_33 rfl
theorem mtX2_init {gs : hf_gs} (l0 : Nat) (V0 V1 : hf_H) (e : spX2_init l0 V0 = some V1) : hf_ConG gs yX2_init cX2_init 1 (none) 1 12 [.ref l0] V0 (.returned none, V1) := hf_entryG (dec := hf_dHV) (by decide) [.ref l0] (Nat.le_of_ble_eq_true rfl) [(0, .ref l0)] rfl e (fun C o og oi => jtX2_init o og (oi rfl) l0 V0)

/-! X18_init -/
theorem ffX18_3 : hf_Ff RX18 3 18 7 := ⟨(RX18, TX18, 8), rfl, rfl, rfl, q1362⟩
theorem minX18_17 : hf_MIN RX18 17 "HalfFair" yX2_init cX2_init 1 0 := ⟨⟨q1354, q293, q158, q294, rfl⟩, by decide +kernel⟩
theorem ffX18_18 : hf_Ff RX18 18 18 1 := ⟨(RX18, TX18, 8), rfl, rfl, rfl, q1356⟩
theorem ffX18_22 : hf_Ff RX18 22 18 2 := ⟨(RX18, TX18, 8), rfl, rfl, rfl, q1357⟩
theorem ffX18_26 : hf_Ff RX18 26 18 3 := ⟨(RX18, TX18, 8), rfl, rfl, rfl, q1358⟩
theorem ffX18_29 : hf_Ff RX18 29 18 4 := ⟨(RX18, TX18, 8), rfl, rfl, rfl, q1359⟩
def spX18_init (l0 : Nat) (l1 : Nat) (V0 : hf_H) : Option hf_H :=
  (hf_pq 0 18 7 V0 l0 (some l1)).bind fun g1 =>
  hf_mk g1 (.inl (0, 2, hf_V0)) 5 fun x2 g3 =>
  (spX2_init x2 g3).bind fun g4 =>
  (hf_pq 0 18 1 g4 l0 (some x2)).bind fun g5 =>
  if (12 : Int32) < 0 ∨ 536870912 < (12 : Int32).toNatClampNeg * 8 then none else hf_mk g5 (.inr (.inl (0, .int, (12 : Int32).toNatClampNeg, hf_z .int))) (12 : Int32).toNatClampNeg fun x6 g7 =>
  (hf_pq 0 18 2 g7 l0 (some x6)).bind fun g8 =>
  if (12 : Int32) < 0 ∨ 536870912 < (12 : Int32).toNatClampNeg * 8 then none else hf_mk g8 (.inr (.inl (0, .int, (12 : Int32).toNatClampNeg, hf_z .int))) (12 : Int32).toNatClampNeg fun x9 g10 =>
  (hf_pq 0 18 3 g10 l0 (some x9)).bind fun g11 =>
  if (12 : Int32) < 0 ∨ 536870912 < (12 : Int32).toNatClampNeg * 8 then none else hf_mk g11 (.inr (.inl (0, .boolean, (12 : Int32).toNatClampNeg, hf_z .boolean))) (12 : Int32).toNatClampNeg fun x12 g13 =>
  (hf_pq 0 18 4 g13 l0 (some x12)).bind fun g14 =>
  (hf_fold 18 g14 l0).bind fun g15 =>
  some g15
theorem jtX18_init {C : hf_X} {gs : hf_gs} (o : hf_In C cX18_init RX18 2 (none) 2 32) (og : hf_G C gs) (oi : hf_Ini C) (l0 : Nat) (l1 : Nat) (V0 : hf_H) : hf_J C hf_dHV (spX18_init l0 l1 V0) V0 0 [(0, .ref l0), (1, .ref l1)] [] := by
  refine hr_aload_n o 0 dX18_init_0 rfl ?_
  refine hr_aload_n o 1 dX18_init_1 rfl ?_
  refine hx_putQ (md := 0) (x := (some l1)) o flX18_3 dX18_init_2 rfl (Or.inr ⟨oi, ffX18_3⟩) rfl (Or.inl ⟨_, rfl⟩) (fun _ => rfl) (fun g1 => ?_)
  refine hr_aload_n o 0 dX18_init_5 rfl ?_
  refine hr_objInit o q1352 dX18_init_6 q194 q195 (by decide) (Nat.le_of_ble_eq_true rfl) ?_
  refine hr_aload_n o 0 dX18_init_9 rfl ?_
  refine hx_new (ci := 2) (q := (RX2, TX2, 5)) o rfl q1353 q291 q158 in_X2 tyX2_ok (hf_def (by decide) (by decide)) dX18_init_10 (fun x2 g3 => ?_)
  refine hr_dup o dX18_init_13 rfl ?_
  refine hx_callINV o og minX18_17 dX18_init_14 [] (fun zg ze => mtX2_init x2 g3 zg ze) rfl rfl (Nat.le_of_ble_eq_true rfl) ⟨by decide, by decide⟩ (fun g4 => ?_)
  refine hx_putQ (md := 0) (x := (some x2)) o flX18_18 dX18_init_17 rfl (Or.inr ⟨oi, ffX18_18⟩) rfl (Or.inl ⟨_, rfl⟩) (fun _ => rfl) (fun g5 => ?_)
  refine hr_aload_n o 0 dX18_init_20 rfl ?_
  refine hr_bipush o (12 : Int32) dX18_init_21 (by decide) ?_
  refine hx_newa o .int rfl q289 (by simp [hf_tys]) (by decide) (fun _ _ => rfl) (fun _ _ h => h) dX18_init_23 (fun x6 g7 => ?_)
  refine hx_putQ (md := 0) (x := (some x6)) o flX18_22 dX18_init_25 rfl (Or.inr ⟨oi, ffX18_22⟩) rfl (Or.inr ⟨_, rfl⟩) (fun _ => rfl) (fun g8 => ?_)
  refine hr_aload_n o 0 dX18_init_28 rfl ?_
  refine hr_bipush o (12 : Int32) dX18_init_29 (by decide) ?_
  refine hx_newa o .int rfl q289 (by simp [hf_tys]) (by decide) (fun _ _ => rfl) (fun _ _ h => h) dX18_init_31 (fun x9 g10 => ?_)
  refine hx_putQ (md := 0) (x := (some x9)) o flX18_26 dX18_init_33 rfl (Or.inr ⟨oi, ffX18_26⟩) rfl (Or.inr ⟨_, rfl⟩) (fun _ => rfl) (fun g11 => ?_)
  refine hr_aload_n o 0 dX18_init_36 rfl ?_
  refine hr_bipush o (12 : Int32) dX18_init_37 (by decide) ?_
  refine hx_newa o .boolean rfl q468 (by simp [hf_tys]) (by decide) (fun _ _ => rfl) (fun _ _ h => h) dX18_init_39 (fun x12 g13 => ?_)
  refine hx_putQ (md := 0) (x := (some x12)) o flX18_29 dX18_init_41 rfl (Or.inr ⟨oi, ffX18_29⟩) rfl (Or.inr ⟨_, rfl⟩) (fun _ => rfl) (fun g14 => ?_)
  refine hx_fold (fun g15 => ?_)
  exact hr_vret o dX18_init_44 rfl
theorem mtX18_init {gs : hf_gs} (l0 : Nat) (l1 : Nat) (V0 V1 : hf_H) (e : spX18_init l0 l1 V0 = some V1) : hf_ConG gs yX18_init cX18_init 2 (none) 2 32 [.ref l0, .ref l1] V0 (.returned none, V1) := hf_entryG (dec := hf_dHV) (by decide) [.ref l0, .ref l1] (Nat.le_of_ble_eq_true rfl) [(0, .ref l0), (1, .ref l1)] rfl e (fun C o og oi => jtX18_init o og (oi rfl) l0 l1 V0)

/-! X0_newStates -/
theorem minX0_18 : hf_MIN RX0 18 "HalfFair" yX2_init cX2_init 1 0 := ⟨⟨q292, q293, q158, q294, rfl⟩, by decide +kernel⟩
def ndX0_newStates_7 (k7 : Int32 → Nat → Int32 → hf_H → Option (Nat × hf_H)) (l0 : Int32) (l1 : Nat) (l2 : Int32) (V0 : hf_H) : Option (Nat × hf_H) :=
  if l0 ≤ l2 then (some (l1, V0)) else
  hf_mk V0 (.inl (0, 2, hf_V0)) 5 fun x1 g2 =>
  (spX2_init x1 g2).bind fun g3 =>
  (hf_ob 1 2 g3 x1).bind fun _ => (hf_psq (.object RX2) g3 l1 l2 x1).bind fun g4 =>
  hf_let (l2 + (1 : Int32)) fun x5 =>
  k7 l0 l1 x5 g4
theorem nlX0_newStates_7 {C : hf_X} {gs : hf_gs} (o : hf_In C cX0_newStates RX0 3 (some (.array (.object "HalfFair$State"))) 2 32) (og : hf_G C gs) (k7 : Int32 → Nat → Int32 → hf_H → Option (Nat × hf_H)) (hk7 : ∀ (l0 : Int32) (l1 : Nat) (l2 : Int32) (V0 : hf_H), hf_J C hf_dHA (k7 l0 l1 l2 V0) V0 7 [(0, .int l0), (1, .ref l1), (2, .int l2)] []) (l0 : Int32) (l1 : Nat) (l2 : Int32) (V0 : hf_H) : hf_J C hf_dHA (ndX0_newStates_7 k7 l0 l1 l2 V0) V0 7 [(0, .int l0), (1, .ref l1), (2, .int l2)] [] := by
  refine hr_iload_n o 2 dX0_newStates_7 rfl ?_
  refine hr_iload_n o 0 dX0_newStates_8 rfl ?_
  refine hr_icmp_ge o 28 dX0_newStates_9 (by decide) (fun _ => ?_) (fun _ => ?_)
  · refine hr_aload_n o 1 dX0_newStates_28 rfl ?_
    exact hr_aret o dX0_newStates_29 (Or.inr ⟨_, rfl⟩) (Or.inr ⟨_, rfl⟩) rfl
  refine hr_aload_n o 1 dX0_newStates_12 rfl ?_
  refine hr_iload_n o 2 dX0_newStates_13 rfl ?_
  refine hx_new (ci := 2) (q := (RX2, TX2, 5)) o rfl q290 q291 q158 in_X2 tyX2_ok (hf_def (by decide) (by decide)) dX0_newStates_14 (fun x1 g2 => ?_)
  refine hr_dup o dX0_newStates_17 rfl ?_
  refine hx_callINV o og minX0_18 dX0_newStates_18 [] (fun zg ze => mtX2_init x1 g2 zg ze) rfl rfl (Nat.le_of_ble_eq_true rfl) ⟨by decide, by decide⟩ (fun g3 => ?_)
  refine hx_paastK (q2 := (RX2, TX2, 5)) o 2 1 rfl (by simp [hf_tys, RX2]) dX0_newStates_21 (fun g4 => ?_)
  refine hr_iincN o (1 : Int32) 2 (fun y => [(2, .int y), (0, .int l0), (1, .ref l1)]) dX0_newStates_22 rfl (by decide) (by decide) (fun y => rfl) (fun x5 => ?_)
  refine hr_goto o 7 dX0_newStates_25 (by decide) ?_
  refine hr_sub [1, 2, 0] rfl ?_
  exact hk7 l0 l1 x5 g4
def lpX0_newStates_7  : Nat → Int32 → Nat → Int32 → hf_H → Option (Nat × hf_H)
  | 0 => fun _ _ _ _ => none
  | n + 1 => fun l0 l1 l2 V0 => ndX0_newStates_7  (lpX0_newStates_7  n) l0 l1 l2 V0
theorem llX0_newStates_7 {C : hf_X} {gs : hf_gs} (o : hf_In C cX0_newStates RX0 3 (some (.array (.object "HalfFair$State"))) 2 32) (og : hf_G C gs)   (n : Nat) : ∀ (l0 : Int32) (l1 : Nat) (l2 : Int32) (V0 : hf_H), hf_J C hf_dHA ((lpX0_newStates_7  n) l0 l1 l2 V0) V0 7 [(0, .int l0), (1, .ref l1), (2, .int l2)] [] := by
  induction n with
  | zero => exact fun _ _ _ _ => hr_none
  | succ n ih => exact fun l0 l1 l2 V0 => nlX0_newStates_7 o og  (lpX0_newStates_7  n)  ih l0 l1 l2 V0
def spX0_newStates (l0 : Int32) (V0 : hf_H) : Option (Nat × hf_H) :=
  if l0 < 0 ∨ 536870912 < l0.toNatClampNeg * 8 then none else hf_mk V0 (.inr (.inl (0, .object "HalfFair$State", l0.toNatClampNeg, .inr (.inr fun _ => none)))) l0.toNatClampNeg fun x1 g2 =>
  lpX0_newStates_7 hf_N l0 x1 (0 : Int32) g2
theorem jtX0_newStates {C : hf_X} {gs : hf_gs} (o : hf_In C cX0_newStates RX0 3 (some (.array (.object "HalfFair$State"))) 2 32) (og : hf_G C gs) (l0 : Int32) (V0 : hf_H) : hf_J C hf_dHA (spX0_newStates l0 V0) V0 0 [(0, .int l0)] [] := by
  refine hr_iload_n o 0 dX0_newStates_0 rfl ?_
  refine hx_anew o "HalfFair$State" q290 q381 (by simp [hf_tys]) dX0_newStates_1 (fun x1 g2 => ?_)
  refine hr_astore_n o [(1, .ref x1), (0, .int l0)] dX0_newStates_4 (by decide) rfl ?_
  refine hr_iconst o (0 : Int32) dX0_newStates_5 (by decide) ?_
  refine hr_istore_n o [(2, .int (0 : Int32)), (1, .ref x1), (0, .int l0)] dX0_newStates_6 (by decide) rfl ?_
  refine hr_sub [2, 1, 0] rfl ?_
  exact llX0_newStates_7 o og hf_N l0 x1 (0 : Int32) g2
theorem mtX0_newStates {gs : hf_gs} (l0 : Int32) (V0 : hf_H) (r : Nat) (V1 : hf_H) (e : spX0_newStates l0 V0 = some (r, V1)) : hf_ConG gs yX0_newStates cX0_newStates 3 (some (.array (.object "HalfFair$State"))) 2 32 [.int l0] V0 (.returned (some (.ref r)), V1) := hf_entryG (dec := hf_dHA) (by decide) [.int l0] (Nat.le_of_ble_eq_true rfl) [(0, .int l0)] rfl e (fun C o og _ => jtX0_newStates o og l0 V0)

/-! X0_init -/
theorem minX0_11 : hf_MIN RX0 11 "HalfFair" yX1_init cX1_init 1 0 := ⟨⟨q198, q199, q154, q200, rfl⟩, by decide +kernel⟩
theorem ffX0_19 : hf_Ff RX0 19 0 1 := ⟨(RX0, TX0, 23), rfl, rfl, rfl, q390⟩
theorem ffX0_23 : hf_Ff RX0 23 0 2 := ⟨(RX0, TX0, 23), rfl, rfl, rfl, q391⟩
theorem miX0_28 : hf_MI RX0 28 yJ2_init cJ2_init 2 1 := ⟨⟨q206, q157, q318, q205, rfl⟩, by decide +kernel⟩
theorem ffX0_31 : hf_Ff RX0 31 0 3 := ⟨(RX0, TX0, 23), rfl, rfl, rfl, q392⟩
theorem ffX0_38 : hf_Ff RX0 38 0 4 := ⟨(RX0, TX0, 23), rfl, rfl, rfl, q394⟩
theorem ffX0_42 : hf_Ff RX0 42 0 5 := ⟨(RX0, TX0, 23), rfl, rfl, rfl, q396⟩
theorem ffX0_46 : hf_Ff RX0 46 0 7 := ⟨(RX0, TX0, 23), rfl, rfl, rfl, q400⟩
theorem ffX0_50 : hf_Ff RX0 50 0 8 := ⟨(RX0, TX0, 23), rfl, rfl, rfl, q402⟩
theorem ffX0_53 : hf_Ff RX0 53 0 9 := ⟨(RX0, TX0, 23), rfl, rfl, rfl, q404⟩
theorem ffX0_57 : hf_Ff RX0 57 0 12 := ⟨(RX0, TX0, 23), rfl, rfl, rfl, q409⟩
theorem msX0_60 : hf_MS RX0 60 yX0_newStates cX0_newStates 3 (some (.array (.object "HalfFair$State"))) 1 := ⟨lw_S q378 q379 q153 q380, by decide +kernel⟩
theorem ffX0_64 : hf_Ff RX0 64 0 13 := ⟨(RX0, TX0, 23), rfl, rfl, rfl, q410⟩
theorem ffX0_72 : hf_Ff RX0 72 0 16 := ⟨(RX0, TX0, 23), rfl, rfl, rfl, q413⟩
theorem ffX0_77 : hf_Ff RX0 77 0 17 := ⟨(RX0, TX0, 23), rfl, rfl, rfl, q414⟩
theorem ffX0_80 : hf_Ff RX0 80 0 18 := ⟨(RX0, TX0, 23), rfl, rfl, rfl, q415⟩
theorem ffX0_85 : hf_Ff RX0 85 0 22 := ⟨(RX0, TX0, 23), rfl, rfl, rfl, q419⟩
def spX0_init (gs : hf_gs) (l0 : Nat) (V0 : hf_H) : Option hf_H :=
  hf_mk V0 (.inl (0, 1, hf_V0)) 13 fun x1 g2 =>
  (spX1_init gs x1 g2).bind fun g3 =>
  (hf_pq 0 0 0 g3 l0 (some x1)).bind fun g4 =>
  hf_mk g4 (.inl (0, 2, hf_V0)) 5 fun x5 g6 =>
  (spX2_init x5 g6).bind fun g7 =>
  (hf_pq 0 0 1 g7 l0 (some x5)).bind fun g8 =>
  hf_mk g8 (.inl (0, 2, hf_V0)) 5 fun x9 g10 =>
  (spX2_init x9 g10).bind fun g11 =>
  (hf_pq 0 0 2 g11 l0 (some x9)).bind fun g12 =>
  hf_mk g12 (.inl (0, 19, hf_V0)) 3 fun x13 g14 =>
  (spJ2_init gs x13 (2 : Int32) g14).bind fun g15 =>
  (hf_pq 0 0 3 g15 l0 (some x13)).bind fun g16 =>
  hf_mk g16 (.inl (0, 3, hf_VW g16.2.1 gs)) 7 fun x17 g18 =>
  (hf_pq 0 0 4 g18 l0 (some x17)).bind fun g19 =>
  if (400 : Int32) < 0 ∨ 536870912 < (400 : Int32).toNatClampNeg * 8 then none else hf_mk g19 (.inr (.inl (0, .byte, (400 : Int32).toNatClampNeg, hf_z .byte))) (400 : Int32).toNatClampNeg fun x20 g21 =>
  (hf_pq 0 0 5 g21 l0 (some x20)).bind fun g22 =>
  if (12 : Int32) < 0 ∨ 536870912 < (12 : Int32).toNatClampNeg * 8 then none else hf_mk g22 (.inr (.inl (0, .int, (12 : Int32).toNatClampNeg, hf_z .int))) (12 : Int32).toNatClampNeg fun x23 g24 =>
  (hf_pq 0 0 7 g24 l0 (some x23)).bind fun g25 =>
  if (12 : Int32) < 0 ∨ 536870912 < (12 : Int32).toNatClampNeg * 8 then none else hf_mk g25 (.inr (.inl (0, .int, (12 : Int32).toNatClampNeg, hf_z .int))) (12 : Int32).toNatClampNeg fun x26 g27 =>
  (hf_pq 0 0 8 g27 l0 (some x26)).bind fun g28 =>
  if (12 : Int32) < 0 ∨ 536870912 < (12 : Int32).toNatClampNeg * 8 then none else hf_mk g28 (.inr (.inl (0, .boolean, (12 : Int32).toNatClampNeg, hf_z .boolean))) (12 : Int32).toNatClampNeg fun x29 g30 =>
  (hf_pq 0 0 9 g30 l0 (some x29)).bind fun g31 =>
  if (4096 : Int32) < 0 ∨ 536870912 < (4096 : Int32).toNatClampNeg * 8 then none else hf_mk g31 (.inr (.inl (0, .int, (4096 : Int32).toNatClampNeg, hf_z .int))) (4096 : Int32).toNatClampNeg fun x32 g33 =>
  (hf_pq 0 0 12 g33 l0 (some x32)).bind fun g34 =>
  hf_b2 (spX0_newStates (20 : Int32) g34) fun x36 g35 =>
  (hf_pq 0 0 13 g35 l0 (some x36)).bind fun g37 =>
  (gs.1 0).bind fun x38 =>
  (hf_pal (.object "java/lang/String") g37 x38).bind fun x39 =>
  if x39 < 0 ∨ 536870912 < x39.toNatClampNeg * 8 then none else hf_mk g37 (.inr (.inl (0, .long, x39.toNatClampNeg, hf_z .long))) x39.toNatClampNeg fun x40 g41 =>
  (hf_pq 0 0 16 g41 l0 (some x40)).bind fun g42 =>
  if (32768 : Int32) < 0 ∨ 536870912 < (32768 : Int32).toNatClampNeg * 8 then none else hf_mk g42 (.inr (.inl (0, .boolean, (32768 : Int32).toNatClampNeg, hf_z .boolean))) (32768 : Int32).toNatClampNeg fun x43 g44 =>
  (hf_pq 0 0 17 g44 l0 (some x43)).bind fun g45 =>
  if (32768 : Int32) < 0 ∨ 536870912 < (32768 : Int32).toNatClampNeg * 8 then none else hf_mk g45 (.inr (.inl (0, .boolean, (32768 : Int32).toNatClampNeg, hf_z .boolean))) (32768 : Int32).toNatClampNeg fun x46 g47 =>
  (hf_pq 0 0 18 g47 l0 (some x46)).bind fun g48 =>
  if (4 : Int32) < 0 ∨ 536870912 < (4 : Int32).toNatClampNeg * 8 then none else hf_mk g48 (.inr (.inl (0, .object "HalfFair$Image", (4 : Int32).toNatClampNeg, .inr (.inr fun _ => none)))) (4 : Int32).toNatClampNeg fun x49 g50 =>
  (hf_pq 0 0 22 g50 l0 (some x49)).bind fun g51 =>
  (hf_fold 0 g51 l0).bind fun g52 =>
  some g52
theorem jtX0_init {C : hf_X} {gs : hf_gs} (o : hf_In C cX0_init RX0 1 (none) 5 93) (og : hf_G C gs) (oi : hf_Ini C) (l0 : Nat) (V0 : hf_H) : hf_J C hf_dHV (spX0_init gs l0 V0) V0 0 [(0, .ref l0)] [] := by
  refine hr_aload_n o 0 dX0_init_0 rfl ?_
  refine hr_objInit o q193 dX0_init_1 q194 q195 (by decide) (Nat.le_of_ble_eq_true rfl) ?_
  refine hr_aload_n o 0 dX0_init_4 rfl ?_
  refine hx_new (ci := 1) (q := (RX1, TX1, 13)) o rfl q196 q197 q154 in_X1 tyX1_ok (hf_def (by decide) (by decide)) dX0_init_5 (fun x1 g2 => ?_)
  refine hr_dup o dX0_init_8 rfl ?_
  refine hx_callINV o og minX0_11 dX0_init_9 [] (fun zg ze => mtX1_init x1 g2 zg ze) rfl rfl (Nat.le_of_ble_eq_true rfl) ⟨by decide, by decide⟩ (fun g3 => ?_)
  refine hx_putQ (md := 0) (x := (some x1)) o flX0_12 dX0_init_12 rfl (Or.inl nf_0_0) rfl (Or.inl ⟨_, rfl⟩) (fun _ => rfl) (fun g4 => ?_)
  refine hr_aload_n o 0 dX0_init_15 rfl ?_
  refine hx_new (ci := 2) (q := (RX2, TX2, 5)) o rfl q290 q291 q158 in_X2 tyX2_ok (hf_def (by decide) (by decide)) dX0_init_16 (fun x5 g6 => ?_)
  refine hr_dup o dX0_init_19 rfl ?_
  refine hx_callINV o og minX0_18 dX0_init_20 [] (fun zg ze => mtX2_init x5 g6 zg ze) rfl rfl (Nat.le_of_ble_eq_true rfl) ⟨by decide, by decide⟩ (fun g7 => ?_)
  refine hx_putQ (md := 0) (x := (some x5)) o flX0_19 dX0_init_23 rfl (Or.inr ⟨oi, ffX0_19⟩) rfl (Or.inl ⟨_, rfl⟩) (fun _ => rfl) (fun g8 => ?_)
  refine hr_aload_n o 0 dX0_init_26 rfl ?_
  refine hx_new (ci := 2) (q := (RX2, TX2, 5)) o rfl q290 q291 q158 in_X2 tyX2_ok (hf_def (by decide) (by decide)) dX0_init_27 (fun x9 g10 => ?_)
  refine hr_dup o dX0_init_30 rfl ?_
  refine hx_callINV o og minX0_18 dX0_init_31 [] (fun zg ze => mtX2_init x9 g10 zg ze) rfl rfl (Nat.le_of_ble_eq_true rfl) ⟨by decide, by decide⟩ (fun g11 => ?_)
  refine hx_putQ (md := 0) (x := (some x9)) o flX0_23 dX0_init_34 rfl (Or.inr ⟨oi, ffX0_23⟩) rfl (Or.inl ⟨_, rfl⟩) (fun _ => rfl) (fun g12 => ?_)
  refine hr_aload_n o 0 dX0_init_37 rfl ?_
  refine hx_new (ci := 19) (q := (RJ2, TJ2, 3)) o rfl q317 q203 q157 in_J2 tyJ2_ok (hf_def (by decide) (by decide)) dX0_init_38 (fun x13 g14 => ?_)
  refine hr_dup o dX0_init_41 rfl ?_
  refine hr_iconst o (2 : Int32) dX0_init_42 (by decide) ?_
  refine hx_callIV o og miX0_28 dX0_init_43 [.int (2 : Int32)] (fun zg ze => mtJ2_init x13 (2 : Int32) g14 zg ze) rfl rfl (Nat.le_of_ble_eq_true rfl) ⟨by decide, by decide⟩ (fun g15 => ?_)
  refine hx_putQ (md := 0) (x := (some x13)) o flX0_31 dX0_init_46 rfl (Or.inr ⟨oi, ffX0_31⟩) rfl (Or.inl ⟨_, rfl⟩) (fun _ => rfl) (fun g16 => ?_)
  refine hr_aload_n o 0 dX0_init_49 rfl ?_
  refine hx_newW o og (by decide) (Nat.le_of_ble_eq_true rfl) dX0_init_50 dX0_init_53 dX0_init_54 (fun x17 g18 => ?_)
  refine hx_putQ (md := 0) (x := (some x17)) o flX0_38 dX0_init_57 rfl (Or.inr ⟨oi, ffX0_38⟩) rfl (Or.inl ⟨_, rfl⟩) (fun _ => rfl) (fun g19 => ?_)
  refine hr_aload_n o 0 dX0_init_60 rfl ?_
  refine hr_sipush o (400 : Int32) dX0_init_61 (by decide) ?_
  refine hx_newa o .byte rfl q467 (by simp [hf_tys]) (by decide) (fun _ _ => rfl) (fun _ _ h => h) dX0_init_64 (fun x20 g21 => ?_)
  refine hx_putQ (md := 0) (x := (some x20)) o flX0_42 dX0_init_66 rfl (Or.inr ⟨oi, ffX0_42⟩) rfl (Or.inr ⟨_, rfl⟩) (fun _ => rfl) (fun g22 => ?_)
  refine hr_aload_n o 0 dX0_init_69 rfl ?_
  refine hr_bipush o (12 : Int32) dX0_init_70 (by decide) ?_
  refine hx_newa o .int rfl q289 (by simp [hf_tys]) (by decide) (fun _ _ => rfl) (fun _ _ h => h) dX0_init_72 (fun x23 g24 => ?_)
  refine hx_putQ (md := 0) (x := (some x23)) o flX0_46 dX0_init_74 rfl (Or.inr ⟨oi, ffX0_46⟩) rfl (Or.inr ⟨_, rfl⟩) (fun _ => rfl) (fun g25 => ?_)
  refine hr_aload_n o 0 dX0_init_77 rfl ?_
  refine hr_bipush o (12 : Int32) dX0_init_78 (by decide) ?_
  refine hx_newa o .int rfl q289 (by simp [hf_tys]) (by decide) (fun _ _ => rfl) (fun _ _ h => h) dX0_init_80 (fun x26 g27 => ?_)
  refine hx_putQ (md := 0) (x := (some x26)) o flX0_50 dX0_init_82 rfl (Or.inr ⟨oi, ffX0_50⟩) rfl (Or.inr ⟨_, rfl⟩) (fun _ => rfl) (fun g28 => ?_)
  refine hr_aload_n o 0 dX0_init_85 rfl ?_
  refine hr_bipush o (12 : Int32) dX0_init_86 (by decide) ?_
  refine hx_newa o .boolean rfl q468 (by simp [hf_tys]) (by decide) (fun _ _ => rfl) (fun _ _ h => h) dX0_init_88 (fun x29 g30 => ?_)
  refine hx_putQ (md := 0) (x := (some x29)) o flX0_53 dX0_init_90 rfl (Or.inr ⟨oi, ffX0_53⟩) rfl (Or.inr ⟨_, rfl⟩) (fun _ => rfl) (fun g31 => ?_)
  refine hr_aload_n o 0 dX0_init_93 rfl ?_
  refine hr_sipush o (4096 : Int32) dX0_init_94 (by decide) ?_
  refine hx_newa o .int rfl q289 (by simp [hf_tys]) (by decide) (fun _ _ => rfl) (fun _ _ h => h) dX0_init_97 (fun x32 g33 => ?_)
  refine hx_putQ (md := 0) (x := (some x32)) o flX0_57 dX0_init_99 rfl (Or.inr ⟨oi, ffX0_57⟩) rfl (Or.inr ⟨_, rfl⟩) (fun _ => rfl) (fun g34 => ?_)
  refine hr_aload_n o 0 dX0_init_102 rfl ?_
  refine hr_bipush o (20 : Int32) dX0_init_103 (by decide) ?_
  refine hx_callSA o og msX0_60 dX0_init_105 [.int (20 : Int32)] (fun zr zg ze => mtX0_newStates (20 : Int32) g34 zr zg ze) rfl rfl (Nat.le_of_ble_eq_true rfl) ⟨by decide, by decide⟩ (fun x36 g35 => ?_)
  refine hx_putQ (md := 0) (x := (some x36)) o flX0_64 dX0_init_108 rfl (Or.inr ⟨oi, ffX0_64⟩) rfl (Or.inr ⟨_, rfl⟩) (fun _ => rfl) (fun g37 => ?_)
  refine hr_aload_n o 0 dX0_init_111 rfl ?_
  refine hx_getsA o og 0 rfl q382 dX0_init_112 (fun x38 => ?_)
  refine hx_palen o (.object "java/lang/String") (by simp [hf_tys]) dX0_init_115 (fun x39 => ?_)
  refine hx_newa o .long rfl q469 (by simp [hf_tys]) (by decide) (fun _ _ => rfl) (fun _ _ h => h) dX0_init_116 (fun x40 g41 => ?_)
  refine hx_putQ (md := 0) (x := (some x40)) o flX0_72 dX0_init_118 rfl (Or.inr ⟨oi, ffX0_72⟩) rfl (Or.inr ⟨_, rfl⟩) (fun _ => rfl) (fun g42 => ?_)
  refine hr_aload_n o 0 dX0_init_121 rfl ?_
  refine hr_ldc o (32768 : Int32) q384 dX0_init_122 ?_
  refine hx_newa o .boolean rfl q468 (by simp [hf_tys]) (by decide) (fun _ _ => rfl) (fun _ _ h => h) dX0_init_124 (fun x43 g44 => ?_)
  refine hx_putQ (md := 0) (x := (some x43)) o flX0_77 dX0_init_126 rfl (Or.inr ⟨oi, ffX0_77⟩) rfl (Or.inr ⟨_, rfl⟩) (fun _ => rfl) (fun g45 => ?_)
  refine hr_aload_n o 0 dX0_init_129 rfl ?_
  refine hr_ldc o (32768 : Int32) q384 dX0_init_130 ?_
  refine hx_newa o .boolean rfl q468 (by simp [hf_tys]) (by decide) (fun _ _ => rfl) (fun _ _ h => h) dX0_init_132 (fun x46 g47 => ?_)
  refine hx_putQ (md := 0) (x := (some x46)) o flX0_80 dX0_init_134 rfl (Or.inr ⟨oi, ffX0_80⟩) rfl (Or.inr ⟨_, rfl⟩) (fun _ => rfl) (fun g48 => ?_)
  refine hr_aload_n o 0 dX0_init_137 rfl ?_
  refine hr_iconst o (4 : Int32) dX0_init_138 (by decide) ?_
  refine hx_anew o "HalfFair$Image" q385 q386 (by simp [hf_tys]) dX0_init_139 (fun x49 g50 => ?_)
  refine hx_putQ (md := 0) (x := (some x49)) o flX0_85 dX0_init_142 rfl (Or.inr ⟨oi, ffX0_85⟩) rfl (Or.inr ⟨_, rfl⟩) (fun _ => rfl) (fun g51 => ?_)
  refine hx_fold (fun g52 => ?_)
  exact hr_vret o dX0_init_145 rfl
theorem mtX0_init {gs : hf_gs} (l0 : Nat) (V0 V1 : hf_H) (e : spX0_init gs l0 V0 = some V1) : hf_ConG gs yX0_init cX0_init 1 (none) 5 93 [.ref l0] V0 (.returned none, V1) := hf_entryG (dec := hf_dHV) (by decide) [.ref l0] (Nat.le_of_ble_eq_true rfl) [(0, .ref l0)] rfl e (fun C o og oi => jtX0_init o og (oi rfl) l0 V0)

/-! X0_image -/
theorem mvX0_427 : hf_MV RX0 427 RX18 yX18_keep cX18_keep 2 (none) 0 := ⟨lw_V q1380 q1381 q1382 q187 q1383, by decide +kernel⟩
theorem minX0_424 : hf_MIN RX0 424 "HalfFair" yX18_init cX18_init 2 1 := ⟨⟨q1349, q1350, q187, q1351, rfl⟩, by decide +kernel⟩
def ndX0_image_37  (l0 : Nat) (l1 : Int32) (V0 : hf_H) : Option (Int32 × hf_H) :=
  (hf_ob 1 0 V0 l0).bind fun _ =>
  (hf_nn (hf_aq 0 22 4 V0 l0 l1)).bind fun x1 =>
  (hf_ob 1 18 V0 x1).bind fun _ =>
  (spX18_keep x1 V0).bind fun g2 =>
  (hf_ga 1 0 1 g2 l0).bind fun x3 =>
  (hf_gi 1 2 4 g2 x3).bind fun x4 =>
  some (x4, g2)
theorem nlX0_image_37 {C : hf_X} {gs : hf_gs} (o : hf_In C cX0_image RX0 2 (some .int) 3 53) (og : hf_G C gs)   (l0 : Nat) (l1 : Int32) (V0 : hf_H) : hf_J C hf_dHI (ndX0_image_37 l0 l1 V0) V0 37 [(0, .ref l0), (1, .int l1)] [] := by
  refine hr_aload_n o 0 dX0_image_37 rfl ?_
  refine hr_getO o flX0_85 dX0_image_38 129 (fun _ => rfl) (fun _ _ => ?_)
  refine hr_iload_n o 1 dX0_image_41 rfl ?_
  refine hx_aald o 0 22 129 4 rfl (by decide) "HalfFair$Image" rfl (by simp [hf_tys]) dX0_image_42 (fun x1 => ?_)
  refine hx_callVV (q := (RX18, TX18, 8)) o og mvX0_427 dX0_image_43 1 18 rfl [] (fun zg ze => mtX18_keep x1 V0 zg ze) rfl rfl (Nat.le_of_ble_eq_true rfl) ⟨by decide, by decide⟩ (fun g2 => ?_)
  refine hr_aload_n o 0 dX0_image_46 rfl ?_
  refine hr_getA (md := 1) o flX0_19 dX0_image_47 (fun _ => rfl) (fun x3 => ?_)
  refine hr_getI (md := 1) o flX0_165 dX0_image_50 (fun _ => rfl) (fun x4 => ?_)
  exact hr_iret o dX0_image_53 rfl rfl
def spX0_image (l0 : Nat) (l1 : Int32) (V0 : hf_H) : Option (Int32 × hf_H) :=
  (spX0_in (Int32.toInt64 l1) (0 : Int64) (3 : Int64)).bind fun x1 =>
  if x1 = 0 then (some ((-1 : Int32), V0)) else
  (hf_ob 1 0 V0 l0).bind fun _ =>
  (hf_aq 0 22 4 V0 l0 l1).bind fun x2 =>
  if x2 = none then ((hf_ob 1 0 V0 l0).bind fun _ =>
  hf_mk V0 (.inl (0, 18, hf_V0)) 8 fun x3 g4 =>
  (spX18_init x3 l0 g4).bind fun g5 =>
  (hf_ob 1 18 g5 x3).bind fun _ => (hf_sq 0 22 4 g5 l0 l1 (some x3)).bind fun g6 =>
  ndX0_image_37 l0 l1 g6) else
  ndX0_image_37 l0 l1 V0
theorem jtX0_image {C : hf_X} {gs : hf_gs} (o : hf_In C cX0_image RX0 2 (some .int) 3 53) (og : hf_G C gs) (l0 : Nat) (l1 : Int32) (V0 : hf_H) : hf_J C hf_dHI (spX0_image l0 l1 V0) V0 0 [(0, .ref l0), (1, .int l1)] [] := by
  refine hr_iload_n o 1 dX0_image_0 rfl ?_
  refine hr_i2l o dX0_image_1 ?_
  refine hr_lconst o (0 : Int64) dX0_image_2 (by decide) ?_
  refine hr_ldc2 o (3 : Int64) q1347 dX0_image_3 ?_
  refine pr_callI o msX0_106 dX0_image_6 [.long (Int32.toInt64 l1), .long (0 : Int64), .long (3 : Int64)] (fun zr ze => mtX0_in (Int32.toInt64 l1) (0 : Int64) (3 : Int64) zr ze) rfl rfl (Nat.le_of_ble_eq_true rfl) ⟨by decide, by decide⟩ (fun x1 => ?_)
  refine hr_if_ne o 14 dX0_image_9 (by decide) (fun _ => ?_) (fun _ => ?_)
  · refine hr_iconst o (-1 : Int32) dX0_image_12 (by decide) ?_
    exact hr_iret o dX0_image_13 rfl rfl
  refine hr_aload_n o 0 dX0_image_14 rfl ?_
  refine hr_getO o flX0_85 dX0_image_15 129 (fun _ => rfl) (fun _ _ => ?_)
  refine hr_iload_n o 1 dX0_image_18 rfl ?_
  refine hx_aaldQ o 0 22 129 4 rfl (by decide) "HalfFair$Image" rfl (by simp [hf_tys]) dX0_image_19 (fun x2 => ?_)
  refine hx_ifnonnull o 37 dX0_image_20 (by decide) (fun _ => ?_) (fun _ => ?_)
  · refine hr_aload_n o 0 dX0_image_23 rfl ?_
    refine hr_getO o flX0_85 dX0_image_24 129 (fun _ => rfl) (fun _ _ => ?_)
    refine hr_iload_n o 1 dX0_image_27 rfl ?_
    refine hx_new (ci := 18) (q := (RX18, TX18, 8)) o rfl q385 q1348 q187 in_X18 tyX18_ok (hf_def (by decide) (by decide)) dX0_image_28 (fun x3 g4 => ?_)
    refine hr_dup o dX0_image_31 rfl ?_
    refine hr_aload_n o 0 dX0_image_32 rfl ?_
    refine hx_callINV o og minX0_424 dX0_image_33 [.ref l0] (fun zg ze => mtX18_init x3 l0 g4 zg ze) rfl rfl (Nat.le_of_ble_eq_true rfl) ⟨by decide, by decide⟩ (fun g5 => ?_)
    refine hx_aast (q2 := (RX18, TX18, 8)) o 0 22 129 4 rfl (by decide) (fun j h1 h2 => hf_of0_inj j 22 h1 h2) 1 18 rfl rfl (by simp [hf_tys, RX18]) dX0_image_36 (fun g6 => ?_)
    exact nlX0_image_37 o og l0 l1 g6
  exact nlX0_image_37 o og l0 l1 V0
theorem mtX0_image {gs : hf_gs} (l0 : Nat) (l1 : Int32) (V0 : hf_H) (r : Int32) (V1 : hf_H) (e : spX0_image l0 l1 V0 = some (r, V1)) : hf_ConG gs yX0_image cX0_image 2 (some .int) 3 53 [.ref l0, .int l1] V0 (.returned (some (.int r)), V1) := hf_entryG (dec := hf_dHI) (by decide) [.ref l0, .int l1] (Nat.le_of_ble_eq_true rfl) [(0, .ref l0), (1, .int l1)] rfl e (fun C o og _ => jtX0_image o og l0 l1 V0)

/-! J5_coder -/
def spJ5_coder (l0 : Nat) (V0 : hf_H) : Option (Int32 × hf_H) :=
  if (1 : Int32) = 0 then (if narrow .byte (.int (1 : Int32)) = .int (1 : Int32) then some ((1 : Int32), V0) else none) else
  (hf_st V0 l0).bind fun _ =>
  if narrow .byte (.int (0 : Int32)) = .int (0 : Int32) then some ((0 : Int32), V0) else none
theorem jtJ5_coder {C : hf_X} {gs : hf_gs} (o : hf_In C cJ5_coder RJ5 1 (some .byte) 0 0) (og : hf_G C gs) (l0 : Nat) (V0 : hf_H) : hf_J C hf_dHI (spJ5_coder l0 V0) V0 0 [(0, .ref l0)] [] := by
  refine hx_getsZ o q554 dJ5_coder_0 ?_
  refine hr_if_eq o 13 dJ5_coder_3 (by decide) (fun _ => ?_) (fun _ => ?_)
  · refine hr_iconst o (1 : Int32) dJ5_coder_13 (by decide) ?_
    refine hr_ck (fun hz => ?_)
    exact hr_iret o dJ5_coder_14 rfl hz
  refine hr_aload_n o 0 dJ5_coder_6 rfl ?_
  refine hx_strC o q2073 dJ5_coder_7 (fun _ => ?_)
  refine hr_goto o 14 dJ5_coder_10 (by decide) ?_
  refine hr_ck (fun hz => ?_)
  exact hr_iret o dJ5_coder_14 rfl hz
theorem mtJ5_coder {gs : hf_gs} (l0 : Nat) (V0 : hf_H) (r : Int32) (V1 : hf_H) (e : spJ5_coder l0 V0 = some (r, V1)) : hf_ConG gs yJ5_coder cJ5_coder 1 (some .byte) 0 0 [.ref l0] V0 (.returned (some (.int r)), V1) := hf_entryG (dec := hf_dHI) (by decide) [.ref l0] (Nat.le_of_ble_eq_true rfl) [(0, .ref l0)] rfl e (fun C o og _ => jtJ5_coder o og l0 V0)

/-! J5_isLatin1 -/
def spJ5_isLatin1 (l0 : Nat) (V0 : hf_H) : Option (Int32 × hf_H) :=
  if (1 : Int32) = 0 then (some ((0 : Int32), V0)) else
  (hf_st V0 l0).bind fun _ =>
  if (0 : Int32) = 0 then (some ((1 : Int32), V0)) else
  some ((0 : Int32), V0)
theorem jtJ5_isLatin1 {C : hf_X} {gs : hf_gs} (o : hf_In C cJ5_isLatin1 RJ5 1 (some .boolean) 0 0) (og : hf_G C gs) (l0 : Nat) (V0 : hf_H) : hf_J C hf_dHI (spJ5_isLatin1 l0 V0) V0 0 [(0, .ref l0)] [] := by
  refine hx_getsZ o q554 dJ5_isLatin1_0 ?_
  refine hr_if_eq o 17 dJ5_isLatin1_3 (by decide) (fun _ => ?_) (fun _ => ?_)
  · refine hr_iconst o (0 : Int32) dJ5_isLatin1_17 (by decide) ?_
    exact hr_iret o dJ5_isLatin1_18 rfl (by decide)
  refine hr_aload_n o 0 dJ5_isLatin1_6 rfl ?_
  refine hx_strC o q2073 dJ5_isLatin1_7 (fun _ => ?_)
  refine hr_if_ne o 17 dJ5_isLatin1_10 (by decide) (fun _ => ?_) (fun _ => ?_)
  · refine hr_iconst o (1 : Int32) dJ5_isLatin1_13 (by decide) ?_
    refine hr_goto o 18 dJ5_isLatin1_14 (by decide) ?_
    exact hr_iret o dJ5_isLatin1_18 rfl (by decide)
  refine hr_iconst o (0 : Int32) dJ5_isLatin1_17 (by decide) ?_
  exact hr_iret o dJ5_isLatin1_18 rfl (by decide)
theorem mtJ5_isLatin1 {gs : hf_gs} (l0 : Nat) (V0 : hf_H) (r : Int32) (V1 : hf_H) (e : spJ5_isLatin1 l0 V0 = some (r, V1)) : hf_ConG gs yJ5_isLatin1 cJ5_isLatin1 1 (some .boolean) 0 0 [.ref l0] V0 (.returned (some (.int r)), V1) := hf_entryG (dec := hf_dHI) (by decide) [.ref l0] (Nat.le_of_ble_eq_true rfl) [(0, .ref l0)] rfl e (fun C o og _ => jtJ5_isLatin1 o og l0 V0)

/-! J5_checkIndex -/
theorem msJ5_1059 : hf_MS RJ5 1059 yJ7_checkIndex cJ7_checkIndex 3 (some .int) 3 := ⟨lw_S q572 q573 q166 q574, by decide +kernel⟩
def spJ5_checkIndex (gs : hf_gs) (l0 : Int32) (l1 : Int32) (V0 : hf_H) : Option hf_H :=
  (spJ7_checkIndex l0 l1 (gs.1 3)).bind fun x1 =>
  some V0
theorem jtJ5_checkIndex {C : hf_X} {gs : hf_gs} (o : hf_In C cJ5_checkIndex RJ5 2 (none) 1 22) (og : hf_G C gs) (l0 : Int32) (l1 : Int32) (V0 : hf_H) : hf_J C hf_dHV (spJ5_checkIndex gs l0 l1 V0) V0 0 [(0, .int l0), (1, .int l1)] [] := by
  refine hr_iload_n o 0 dJ5_checkIndex_0 rfl ?_
  refine hr_iload_n o 1 dJ5_checkIndex_1 rfl ?_
  refine hx_getsQ o og 3 rfl q570 dJ5_checkIndex_2 ?_
  refine pr_callI o msJ5_1059 dJ5_checkIndex_5 [.int l0, .int l1, va_rf (gs.1 3)] (fun zr ze => mtJ7_checkIndex l0 l1 (gs.1 3) zr ze) rfl rfl (Nat.le_of_ble_eq_true rfl) ⟨by decide, by decide⟩ (fun x1 => ?_)
  refine hr_pop o dJ5_checkIndex_8 rfl ?_
  exact hr_vret o dJ5_checkIndex_9 rfl
theorem mtJ5_checkIndex {gs : hf_gs} (l0 : Int32) (l1 : Int32) (V0 V1 : hf_H) (e : spJ5_checkIndex gs l0 l1 V0 = some V1) : hf_ConG gs yJ5_checkIndex cJ5_checkIndex 2 (none) 1 22 [.int l0, .int l1] V0 (.returned none, V1) := hf_entryG (dec := hf_dHV) (by decide) [.int l0, .int l1] (Nat.le_of_ble_eq_true rfl) [(0, .int l0), (1, .int l1)] rfl e (fun C o og _ => jtJ5_checkIndex o og l0 l1 V0)

/-! J6_charAt -/
theorem msJ6_9 : hf_MS RJ6 9 yJ5_checkIndex cJ5_checkIndex 2 (none) 2 := ⟨lw_S q567 q568 q164 q569, by decide +kernel⟩
def spJ6_charAt (gs : hf_gs) (l0 : Nat) (l1 : Int32) (V0 : hf_H) : Option (Int32 × hf_H) :=
  (hf_pal .byte V0 l0).bind fun x1 =>
  (spJ5_checkIndex gs l1 x1 V0).bind fun g2 =>
  (hf_pai .byte g2 l0 l1).bind fun x3 =>
  if narrow .char (.int (UInt32.toInt32 (Int32.toUInt32 (x3 &&& (255 : Int32)) % 65536))) = .int (UInt32.toInt32 (Int32.toUInt32 (x3 &&& (255 : Int32)) % 65536)) then some ((UInt32.toInt32 (Int32.toUInt32 (x3 &&& (255 : Int32)) % 65536)), g2) else none
theorem jtJ6_charAt {C : hf_X} {gs : hf_gs} (o : hf_In C cJ6_charAt RJ6 2 (some .char) 2 43) (og : hf_G C gs) (l0 : Nat) (l1 : Int32) (V0 : hf_H) : hf_J C hf_dHI (spJ6_charAt gs l0 l1 V0) V0 0 [(0, .ref l0), (1, .int l1)] [] := by
  refine hr_iload_n o 1 dJ6_charAt_0 rfl ?_
  refine hr_aload_n o 0 dJ6_charAt_1 rfl ?_
  refine hx_palen o .byte (by simp [hf_tys]) dJ6_charAt_2 (fun x1 => ?_)
  refine hx_callSV o og msJ6_9 dJ6_charAt_3 [.int l1, .int x1] (fun zg ze => mtJ5_checkIndex l1 x1 V0 zg ze) rfl rfl (Nat.le_of_ble_eq_true rfl) ⟨by decide, by decide⟩ (fun g2 => ?_)
  refine hr_aload_n o 0 dJ6_charAt_6 rfl ?_
  refine hr_iload_n o 1 dJ6_charAt_7 rfl ?_
  refine hx_pabld o (by simp [hf_tys]) dJ6_charAt_8 (fun x3 => ?_)
  refine hr_sipush o (255 : Int32) dJ6_charAt_9 (by decide) ?_
  refine hr_iand o dJ6_charAt_12 ?_
  refine hr_i2c o dJ6_charAt_13 ?_
  refine hr_ck (fun hz => ?_)
  exact hr_iret o dJ6_charAt_14 rfl hz
theorem mtJ6_charAt {gs : hf_gs} (l0 : Nat) (l1 : Int32) (V0 : hf_H) (r : Int32) (V1 : hf_H) (e : spJ6_charAt gs l0 l1 V0 = some (r, V1)) : hf_ConG gs yJ6_charAt cJ6_charAt 2 (some .char) 2 43 [.ref l0, .int l1] V0 (.returned (some (.int r)), V1) := hf_entryG (dec := hf_dHI) (by decide) [.ref l0, .int l1] (Nat.le_of_ble_eq_true rfl) [(0, .ref l0), (1, .int l1)] rfl e (fun C o og _ => jtJ6_charAt o og l0 l1 V0)

/-! J5_charAt -/
theorem mvJ5_492 : hf_MV RJ5 492 RJ5 yJ5_isLatin1 cJ5_isLatin1 1 (some .boolean) 0 := ⟨lw_V q560 q561 q562 q164 q563, by decide +kernel⟩
theorem msJ5_495 : hf_MS RJ5 495 yJ6_charAt cJ6_charAt 2 (some .char) 2 := ⟨lw_S q564 q565 q165 q566, by decide +kernel⟩
def spJ5_charAt (gs : hf_gs) (l0 : Nat) (l1 : Int32) (V0 : hf_H) : Option (Int32 × hf_H) :=
  (hf_st V0 l0).bind fun _ =>
  hf_b2 (spJ5_isLatin1 l0 V0) fun x2 g1 =>
  if x2 = 0 then ((hf_st g1 l0).bind fun x3 =>
  none) else
  (hf_st g1 l0).bind fun x4 =>
  hf_b2 (spJ6_charAt gs x4 l1 g1) fun x6 g5 =>
  if narrow .char (.int x6) = .int x6 then some (x6, g5) else none
theorem jtJ5_charAt {C : hf_X} {gs : hf_gs} (o : hf_In C cJ5_charAt RJ5 2 (some .char) 3 64) (og : hf_G C gs) (l0 : Nat) (l1 : Int32) (V0 : hf_H) : hf_J C hf_dHI (spJ5_charAt gs l0 l1 V0) V0 0 [(0, .ref l0), (1, .int l1)] [] := by
  refine hr_aload_n o 0 dJ5_charAt_0 rfl ?_
  refine hx_S_callVI o og mvJ5_492 dJ5_charAt_1 [] (fun zr zg ze => mtJ5_isLatin1 l0 V0 zr zg ze) rfl rfl (Nat.le_of_ble_eq_true rfl) ⟨by decide, by decide⟩ (fun x2 g1 => ?_)
  refine hr_if_eq o 16 dJ5_charAt_4 (by decide) (fun _ => ?_) (fun _ => ?_)
  · refine hr_aload_n o 0 dJ5_charAt_16 rfl ?_
    refine hx_strV o q2072 dJ5_charAt_17 (fun x3 => ?_)
    refine hr_iload_n o 1 dJ5_charAt_20 rfl ?_
    exact hr_none
  refine hr_aload_n o 0 dJ5_charAt_7 rfl ?_
  refine hx_strV o q2072 dJ5_charAt_8 (fun x4 => ?_)
  refine hr_iload_n o 1 dJ5_charAt_11 rfl ?_
  refine hx_callSI o og msJ5_495 dJ5_charAt_12 [.ref x4, .int l1] (fun zr zg ze => mtJ6_charAt x4 l1 g1 zr zg ze) rfl rfl (Nat.le_of_ble_eq_true rfl) ⟨by decide, by decide⟩ (fun x6 g5 => ?_)
  refine hr_ck (fun hz => ?_)
  exact hr_iret o dJ5_charAt_15 rfl hz
theorem mtJ5_charAt {gs : hf_gs} (l0 : Nat) (l1 : Int32) (V0 : hf_H) (r : Int32) (V1 : hf_H) (e : spJ5_charAt gs l0 l1 V0 = some (r, V1)) : hf_ConG gs yJ5_charAt cJ5_charAt 2 (some .char) 3 64 [.ref l0, .int l1] V0 (.returned (some (.int r)), V1) := hf_entryG (dec := hf_dHI) (by decide) [.ref l0, .int l1] (Nat.le_of_ble_eq_true rfl) [(0, .ref l0), (1, .int l1)] rfl e (fun C o og _ => jtJ5_charAt o og l0 l1 V0)

/-! J5_length -/
theorem mvJ5_335 : hf_MV RJ5 335 RJ5 yJ5_coder cJ5_coder 1 (some .byte) 0 := ⟨lw_V q550 q551 q552 q164 q553, by decide +kernel⟩
def spJ5_length (l0 : Nat) (V0 : hf_H) : Option (Int32 × hf_H) :=
  (hf_st V0 l0).bind fun x1 =>
  (hf_pal .byte V0 x1).bind fun x2 =>
  (hf_st V0 l0).bind fun _ =>
  hf_b2 (spJ5_coder l0 V0) fun x4 g3 =>
  some ((x2 >>> (x4 &&& 31)), g3)
theorem jtJ5_length {C : hf_X} {gs : hf_gs} (o : hf_In C cJ5_length RJ5 1 (some .int) 1 20) (og : hf_G C gs) (l0 : Nat) (V0 : hf_H) : hf_J C hf_dHI (spJ5_length l0 V0) V0 0 [(0, .ref l0)] [] := by
  refine hr_aload_n o 0 dJ5_length_0 rfl ?_
  refine hx_strV o q2072 dJ5_length_1 (fun x1 => ?_)
  refine hx_palen o .byte (by simp [hf_tys]) dJ5_length_4 (fun x2 => ?_)
  refine hr_aload_n o 0 dJ5_length_5 rfl ?_
  refine hx_S_callVI o og mvJ5_335 dJ5_length_6 [] (fun zr zg ze => mtJ5_coder l0 V0 zr zg ze) rfl rfl (Nat.le_of_ble_eq_true rfl) ⟨by decide, by decide⟩ (fun x4 g3 => ?_)
  refine hr_ishr o dJ5_length_9 ?_
  exact hr_iret o dJ5_length_10 rfl rfl
theorem mtJ5_length {gs : hf_gs} (l0 : Nat) (V0 : hf_H) (r : Int32) (V1 : hf_H) (e : spJ5_length l0 V0 = some (r, V1)) : hf_ConG gs yJ5_length cJ5_length 1 (some .int) 1 20 [.ref l0] V0 (.returned (some (.int r)), V1) := hf_entryG (dec := hf_dHI) (by decide) [.ref l0] (Nat.le_of_ble_eq_true rfl) [(0, .ref l0)] rfl e (fun C o og _ => jtJ5_length o og l0 V0)

/-! X5_init -/
theorem flX5_3 : hf_Fl RX5 3 5 6 := ⟨(RX5, TX5, 7), RX5, rfl, by decide, in_X5, tyX5_ok, nmX5, Or.inl q498, Or.inl rfl⟩
theorem ffX5_3 : hf_Ff RX5 3 5 6 := ⟨(RX5, TX5, 7), rfl, rfl, rfl, q498⟩
theorem flX5_15 : hf_Fl RX5 15 5 0 := ⟨(RX5, TX5, 7), RX5, rfl, by decide, in_X5, tyX5_ok, nmX5, Or.inl q492, Or.inl rfl⟩
theorem ffX5_15 : hf_Ff RX5 15 5 0 := ⟨(RX5, TX5, 7), rfl, rfl, rfl, q492⟩
theorem flX5_19 : hf_Fl RX5 19 5 5 := ⟨(RX5, TX5, 7), RX5, rfl, by decide, in_X5, tyX5_ok, nmX5, Or.inl q497, Or.inl rfl⟩
theorem ffX5_19 : hf_Ff RX5 19 5 5 := ⟨(RX5, TX5, 7), rfl, rfl, rfl, q497⟩
def spX5_init (l0 : Nat) (l1 : Nat) (l2 : Nat) (l3 : Int32) (V0 : hf_H) : Option hf_H :=
  (hf_pq 0 5 6 V0 l0 (some l1)).bind fun g1 =>
  (hf_pq 0 5 0 g1 l0 (some l2)).bind fun g2 =>
  (hf_pi 0 5 5 g2 l0 l3).bind fun g3 =>
  some g3
theorem jtX5_init {C : hf_X} {gs : hf_gs} (o : hf_In C cX5_init RX5 4 (none) 1 12) (og : hf_G C gs) (oi : hf_Ini C) (l0 : Nat) (l1 : Nat) (l2 : Nat) (l3 : Int32) (V0 : hf_H) : hf_J C hf_dHV (spX5_init l0 l1 l2 l3 V0) V0 0 [(0, .ref l0), (1, .ref l1), (2, .ref l2), (3, .int l3)] [] := by
  refine hr_aload_n o 0 dX5_init_0 rfl ?_
  refine hr_aload_n o 1 dX5_init_1 rfl ?_
  refine hx_putQ (md := 0) (x := (some l1)) o flX5_3 dX5_init_2 rfl (Or.inr ⟨oi, ffX5_3⟩) rfl (Or.inl ⟨_, rfl⟩) (fun _ => rfl) (fun g1 => ?_)
  refine hr_aload_n o 0 dX5_init_5 rfl ?_
  refine hr_objInit o q491 dX5_init_6 q194 q195 (by decide) (Nat.le_of_ble_eq_true rfl) ?_
  refine hr_aload_n o 0 dX5_init_9 rfl ?_
  refine hr_aload_n o 2 dX5_init_10 rfl ?_
  refine hx_putQ (md := 0) (x := (some l2)) o flX5_15 dX5_init_11 rfl (Or.inr ⟨oi, ffX5_15⟩) rfl (Or.inr ⟨_, rfl⟩) (fun _ => rfl) (fun g2 => ?_)
  refine hr_aload_n o 0 dX5_init_14 rfl ?_
  refine hr_iload_n o 3 dX5_init_15 rfl ?_
  refine hx_putI (md := 0) o flX5_19 dX5_init_16 rfl (Or.inr ⟨oi, ffX5_19⟩) rfl rfl (fun _ => rfl) (fun g3 => ?_)
  exact hr_vret o dX5_init_19 rfl
theorem mtX5_init {gs : hf_gs} (l0 : Nat) (l1 : Nat) (l2 : Nat) (l3 : Int32) (V0 V1 : hf_H) (e : spX5_init l0 l1 l2 l3 V0 = some V1) : hf_ConG gs yX5_init cX5_init 4 (none) 1 12 [.ref l0, .ref l1, .ref l2, .int l3] V0 (.returned none, V1) := hf_entryG (dec := hf_dHV) (by decide) [.ref l0, .ref l1, .ref l2, .int l3] (Nat.le_of_ble_eq_true rfl) [(0, .ref l0), (1, .ref l1), (2, .ref l2), (3, .int l3)] rfl e (fun C o og oi => jtX5_init o og (oi rfl) l0 l1 l2 l3 V0)

/-! X5_sign -/
theorem flX5_23 : hf_Fl RX5 23 5 1 := ⟨(RX5, TX5, 7), RX5, rfl, by decide, in_X5, tyX5_ok, nmX5, Or.inl q493, Or.inl rfl⟩
theorem flX5_26 : hf_Fl RX5 26 0 6 := ⟨(RX0, TX0, 23), RX0, rfl, by decide, in_X0, tyX0_ok, nmX0, Or.inr ⟨"HalfFair", q397⟩, Or.inl rfl⟩
theorem flX5_29 : hf_Fl RX5 29 0 5 := ⟨(RX0, TX0, 23), RX0, rfl, by decide, in_X0, tyX0_ok, nmX0, Or.inr ⟨"HalfFair", q395⟩, Or.inl rfl⟩
def spX5_sign (l0 : Nat) (V0 : hf_H) : Option (Int32 × hf_H) :=
  (hf_gi 0 5 1 V0 l0).bind fun x1 =>
  (hf_ga 0 5 6 V0 l0).bind fun x2 =>
  (hf_gi 1 0 6 V0 x2).bind fun x3 =>
  if x3 ≤ x1 then (some ((-1 : Int32), V0)) else
  (hf_ga 0 5 6 V0 l0).bind fun x4 =>
  (hf_ob 1 0 V0 x4).bind fun _ =>
  (hf_gi 0 5 1 V0 l0).bind fun x5 =>
  (hf_ai 0 5 400 V0 x4 x5).bind fun x6 =>
  some ((x6 &&& (255 : Int32)), V0)
theorem jtX5_sign {C : hf_X} {gs : hf_gs} (o : hf_In C cX5_sign RX5 1 (some .int) 0 0) (og : hf_G C gs) (l0 : Nat) (V0 : hf_H) : hf_J C hf_dHI (spX5_sign l0 V0) V0 0 [(0, .ref l0)] [] := by
  refine hr_aload_n o 0 dX5_sign_0 rfl ?_
  refine hr_getI (md := 0) o flX5_23 dX5_sign_1 (fun _ => rfl) (fun x1 => ?_)
  refine hr_aload_n o 0 dX5_sign_4 rfl ?_
  refine hr_getA (md := 0) o flX5_3 dX5_sign_5 (fun _ => rfl) (fun x2 => ?_)
  refine hr_getI (md := 1) o flX5_26 dX5_sign_8 (fun _ => rfl) (fun x3 => ?_)
  refine hr_icmp_ge o 33 dX5_sign_11 (by decide) (fun _ => ?_) (fun _ => ?_)
  · refine hr_iconst o (-1 : Int32) dX5_sign_33 (by decide) ?_
    exact hr_iret o dX5_sign_34 rfl rfl
  refine hr_aload_n o 0 dX5_sign_14 rfl ?_
  refine hr_getA (md := 0) o flX5_3 dX5_sign_15 (fun _ => rfl) (fun x4 => ?_)
  refine hr_getO o flX5_29 dX5_sign_18 20 (fun _ => rfl) (fun _ _ => ?_)
  refine hr_aload_n o 0 dX5_sign_21 rfl ?_
  refine hr_getI (md := 0) o flX5_23 dX5_sign_22 (fun _ => rfl) (fun x5 => ?_)
  refine hx_bald o 0 5 20 400 rfl (by decide) rfl dX5_sign_25 (fun x6 => ?_)
  refine hr_sipush o (255 : Int32) dX5_sign_26 (by decide) ?_
  refine hr_iand o dX5_sign_29 ?_
  refine hr_goto o 34 dX5_sign_30 (by decide) ?_
  exact hr_iret o dX5_sign_34 rfl rfl
theorem mtX5_sign {gs : hf_gs} (l0 : Nat) (V0 : hf_H) (r : Int32) (V1 : hf_H) (e : spX5_sign l0 V0 = some (r, V1)) : hf_ConG gs yX5_sign cX5_sign 1 (some .int) 0 0 [.ref l0] V0 (.returned (some (.int r)), V1) := hf_entryG (dec := hf_dHI) (by decide) [.ref l0] (Nat.le_of_ble_eq_true rfl) [(0, .ref l0)] rfl e (fun C o og _ => jtX5_sign o og l0 V0)

/-! X5_next -/
theorem mvX5_33 : hf_MV RX5 33 RX5 yX5_sign cX5_sign 1 (some .int) 0 := ⟨lw_V q537 q539 qs6 q163 q540, by decide +kernel⟩
theorem nf_5_1 : hf_Nf 5 1 := ⟨(RX5, TX5, 7), rfl, rfl⟩
def ndX5_next_0 (k0 : Nat → hf_H → Option (Int32 × hf_H)) (l0 : Nat) (V0 : hf_H) : Option (Int32 × hf_H) :=
  (hf_ob 0 5 V0 l0).bind fun _ =>
  hf_b2 (spX5_sign l0 V0) fun x2 g1 =>
  if x2 = (32 : Int32) then ((hf_gi 0 5 1 g1 l0).bind fun x5 =>
  (hf_pi 0 5 1 g1 l0 (x5 + (1 : Int32))).bind fun g6 =>
  k0 l0 g6) else
  (hf_ob 0 5 g1 l0).bind fun _ =>
  hf_b2 (spX5_sign l0 g1) fun x4 g3 =>
  some (x4, g3)
theorem nlX5_next_0 {C : hf_X} {gs : hf_gs} (o : hf_In C cX5_next RX5 1 (some .int) 1 20) (og : hf_G C gs) (k0 : Nat → hf_H → Option (Int32 × hf_H)) (hk0 : ∀ (l0 : Nat) (V0 : hf_H), hf_J C hf_dHI (k0 l0 V0) V0 0 [(0, .ref l0)] []) (l0 : Nat) (V0 : hf_H) : hf_J C hf_dHI (ndX5_next_0 k0 l0 V0) V0 0 [(0, .ref l0)] [] := by
  refine hr_aload_n o 0 dX5_next_0 rfl ?_
  refine hx_callVI (q := (RX5, TX5, 7)) o og mvX5_33 dX5_next_1 0 5 rfl [] (fun zr zg ze => mtX5_sign l0 V0 zr zg ze) rfl rfl (Nat.le_of_ble_eq_true rfl) ⟨by decide, by decide⟩ (fun x2 g1 => ?_)
  refine hr_bipush o (32 : Int32) dX5_next_4 (by decide) ?_
  refine hr_icmp_ne o 22 dX5_next_6 (by decide) (fun _ => ?_) (fun _ => ?_)
  · refine hr_aload_n o 0 dX5_next_9 rfl ?_
    refine hr_dup o dX5_next_10 rfl ?_
    refine hr_getI (md := 0) o flX5_23 dX5_next_11 (fun _ => rfl) (fun x5 => ?_)
    refine hr_iconst o (1 : Int32) dX5_next_14 (by decide) ?_
    refine hr_iadd o dX5_next_15 ?_
    refine hx_putI (md := 0) o flX5_23 dX5_next_16 rfl (Or.inl nf_5_1) rfl rfl (fun _ => rfl) (fun g6 => ?_)
    refine hr_goto o 0 dX5_next_19 (by decide) ?_
    exact hk0 l0 g6
  refine hr_aload_n o 0 dX5_next_22 rfl ?_
  refine hx_callVI (q := (RX5, TX5, 7)) o og mvX5_33 dX5_next_23 0 5 rfl [] (fun zr zg ze => mtX5_sign l0 g1 zr zg ze) rfl rfl (Nat.le_of_ble_eq_true rfl) ⟨by decide, by decide⟩ (fun x4 g3 => ?_)
  exact hr_iret o dX5_next_26 rfl rfl
def lpX5_next_0  : Nat → Nat → hf_H → Option (Int32 × hf_H)
  | 0 => fun _ _ => none
  | n + 1 => fun l0 V0 => ndX5_next_0  (lpX5_next_0  n) l0 V0
theorem llX5_next_0 {C : hf_X} {gs : hf_gs} (o : hf_In C cX5_next RX5 1 (some .int) 1 20) (og : hf_G C gs)   (n : Nat) : ∀ (l0 : Nat) (V0 : hf_H), hf_J C hf_dHI ((lpX5_next_0  n) l0 V0) V0 0 [(0, .ref l0)] [] := by
  induction n with
  | zero => exact fun _ _ => hr_none
  | succ n ih => exact fun l0 V0 => nlX5_next_0 o og  (lpX5_next_0  n)  ih l0 V0
def spX5_next (l0 : Nat) (V0 : hf_H) : Option (Int32 × hf_H) :=
  lpX5_next_0 hf_N l0 V0
theorem jtX5_next {C : hf_X} {gs : hf_gs} (o : hf_In C cX5_next RX5 1 (some .int) 1 20) (og : hf_G C gs) (l0 : Nat) (V0 : hf_H) : hf_J C hf_dHI (spX5_next l0 V0) V0 0 [(0, .ref l0)] [] := by
  exact llX5_next_0 o og hf_N l0 V0
theorem mtX5_next {gs : hf_gs} (l0 : Nat) (V0 : hf_H) (r : Int32) (V1 : hf_H) (e : spX5_next l0 V0 = some (r, V1)) : hf_ConG gs yX5_next cX5_next 1 (some .int) 1 20 [.ref l0] V0 (.returned (some (.int r)), V1) := hf_entryG (dec := hf_dHI) (by decide) [.ref l0] (Nat.le_of_ble_eq_true rfl) [(0, .ref l0)] rfl e (fun C o og _ => jtX5_next o og l0 V0)

/-! X5_isDigit -/
theorem msnX5_41 : hf_MSN RX5 41 "HalfFair" yX0_in cX0_in 6 (some .boolean) 3 := ⟨⟨q543, q544, q153, q545⟩, by decide +kernel⟩
def spX5_isDigit (l0 : Nat) (V0 : hf_H) : Option (Int32 × hf_H) :=
  (hf_ob 0 5 V0 l0).bind fun _ =>
  hf_b2 (spX5_sign l0 V0) fun x2 g1 =>
  (spX0_in (Int32.toInt64 x2) (48 : Int64) (57 : Int64)).bind fun x3 =>
  if x3 = 0 ∨ x3 = 1 then some (x3, g1) else none
theorem jtX5_isDigit {C : hf_X} {gs : hf_gs} (o : hf_In C cX5_isDigit RX5 1 (some .boolean) 1 25) (og : hf_G C gs) (l0 : Nat) (V0 : hf_H) : hf_J C hf_dHI (spX5_isDigit l0 V0) V0 0 [(0, .ref l0)] [] := by
  refine hr_aload_n o 0 dX5_isDigit_0 rfl ?_
  refine hx_callVI (q := (RX5, TX5, 7)) o og mvX5_33 dX5_isDigit_1 0 5 rfl [] (fun zr zg ze => mtX5_sign l0 V0 zr zg ze) rfl rfl (Nat.le_of_ble_eq_true rfl) ⟨by decide, by decide⟩ (fun x2 g1 => ?_)
  refine hr_i2l o dX5_isDigit_4 ?_
  refine hr_ldc2 o (48 : Int64) q610 dX5_isDigit_5 ?_
  refine hr_ldc2 o (57 : Int64) q611 dX5_isDigit_8 ?_
  refine px_callSNI o og msnX5_41 dX5_isDigit_11 [.long (Int32.toInt64 x2), .long (48 : Int64), .long (57 : Int64)] (fun zr ze => mtX0_in (Int32.toInt64 x2) (48 : Int64) (57 : Int64) zr ze) rfl rfl (Nat.le_of_ble_eq_true rfl) ⟨by decide, by decide⟩ (fun x3 => ?_)
  refine hr_ck (fun hz => ?_)
  exact hr_iret o dX5_isDigit_14 rfl (hf_nz hz)
theorem mtX5_isDigit {gs : hf_gs} (l0 : Nat) (V0 : hf_H) (r : Int32) (V1 : hf_H) (e : spX5_isDigit l0 V0 = some (r, V1)) : hf_ConG gs yX5_isDigit cX5_isDigit 1 (some .boolean) 1 25 [.ref l0] V0 (.returned (some (.int r)), V1) := hf_entryG (dec := hf_dHI) (by decide) [.ref l0] (Nat.le_of_ble_eq_true rfl) [(0, .ref l0)] rfl e (fun C o og _ => jtX5_isDigit o og l0 V0)

/-! X5_isWord -/
theorem mvX5_52 : hf_MV RX5 52 RJ5 yJ5_length cJ5_length 1 (some .int) 0 := ⟨lw_V q546 q547 q548 q164 q549, by decide +kernel⟩
theorem mvX5_57 : hf_MV RX5 57 RJ5 yJ5_charAt cJ5_charAt 2 (some .char) 1 := ⟨lw_V q556 q557 q558 q164 q559, by decide +kernel⟩
theorem mvX5_45 : hf_MV RX5 45 RX5 yX5_next cX5_next 1 (some .int) 0 := ⟨lw_V q533 q535 qs5 q163 q536, by decide +kernel⟩
def ndX5_isWord_113 (gs : hf_gs) (k71 : Nat → Nat → Int32 → Int32 → hf_H → Option (Int32 × hf_H)) (l0 : Nat) (l1 : Nat) (l4 : Int32) (s0 : Int32) (V0 : hf_H) : Option (Int32 × hf_H) :=
  hf_let (l4 + (1 : Int32)) fun x1 =>
  k71 l0 l1 s0 x1 V0
theorem nlX5_isWord_113 {C : hf_X} {gs : hf_gs} (o : hf_In C cX5_isWord RX5 5 (some .boolean) 4 85) (og : hf_G C gs) (k71 : Nat → Nat → Int32 → Int32 → hf_H → Option (Int32 × hf_H)) (hk71 : ∀ (l0 : Nat) (l1 : Nat) (l3 : Int32) (l4 : Int32) (V0 : hf_H), hf_J C hf_dHI (k71 l0 l1 l3 l4 V0) V0 71 [(0, .ref l0), (1, .ref l1), (3, .int l3), (4, .int l4)] []) (l0 : Nat) (l1 : Nat) (l4 : Int32) (s0 : Int32) (V0 : hf_H) : hf_J C hf_dHI (ndX5_isWord_113 gs k71 l0 l1 l4 s0 V0) V0 113 [(0, .ref l0), (1, .ref l1), (4, .int l4)] [.int s0] := by
  refine hr_istore_n o [(3, .int s0), (0, .ref l0), (1, .ref l1), (4, .int l4)] dX5_isWord_113 (by decide) rfl ?_
  refine hr_iincN o (1 : Int32) 3 (fun y => [(4, .int y), (3, .int s0), (0, .ref l0), (1, .ref l1)]) dX5_isWord_114 rfl (by decide) (by decide) (fun y => rfl) (fun x1 => ?_)
  refine hr_goto o 71 dX5_isWord_117 (by decide) ?_
  refine hr_sub [2, 3, 1, 0] rfl ?_
  exact hk71 l0 l1 s0 x1 V0
def ndX5_isWord_71 (gs : hf_gs) (k71 : Nat → Nat → Int32 → Int32 → hf_H → Option (Int32 × hf_H)) (l0 : Nat) (l1 : Nat) (l3 : Int32) (l4 : Int32) (V0 : hf_H) : Option (Int32 × hf_H) :=
  (hf_st V0 l1).bind fun _ =>
  hf_b2 (spJ5_length l1 V0) fun x2 g1 =>
  if x2 ≤ l4 then (if l3 = 0 ∨ l3 = 1 then some (l3, g1) else none) else
  if l3 = 0 then (if l3 = 0 ∨ l3 = 1 then some (l3, g1) else none) else
  (hf_ga 0 5 6 g1 l0).bind fun x3 =>
  (hf_ob 1 0 g1 x3).bind fun _ =>
  (hf_gi 0 5 1 g1 l0).bind fun x4 =>
  (hf_ai 0 5 400 g1 x3 (x4 + l4)).bind fun x5 =>
  (hf_st g1 l1).bind fun _ =>
  hf_b2 (spJ5_charAt gs l1 l4 g1) fun x7 g6 =>
  if x5 = x7 then (ndX5_isWord_113 gs k71 l0 l1 l4 (1 : Int32) g6) else
  ndX5_isWord_113 gs k71 l0 l1 l4 (0 : Int32) g6
theorem nlX5_isWord_71 {C : hf_X} {gs : hf_gs} (o : hf_In C cX5_isWord RX5 5 (some .boolean) 4 85) (og : hf_G C gs) (k71 : Nat → Nat → Int32 → Int32 → hf_H → Option (Int32 × hf_H)) (hk71 : ∀ (l0 : Nat) (l1 : Nat) (l3 : Int32) (l4 : Int32) (V0 : hf_H), hf_J C hf_dHI (k71 l0 l1 l3 l4 V0) V0 71 [(0, .ref l0), (1, .ref l1), (3, .int l3), (4, .int l4)] []) (l0 : Nat) (l1 : Nat) (l3 : Int32) (l4 : Int32) (V0 : hf_H) : hf_J C hf_dHI (ndX5_isWord_71 gs k71 l0 l1 l3 l4 V0) V0 71 [(0, .ref l0), (1, .ref l1), (3, .int l3), (4, .int l4)] [] := by
  refine hr_iload o 3 dX5_isWord_71 rfl ?_
  refine hr_aload_n o 1 dX5_isWord_73 rfl ?_
  refine hx_S_callVI o og mvX5_52 dX5_isWord_74 [] (fun zr zg ze => mtJ5_length l1 V0 zr zg ze) rfl rfl (Nat.le_of_ble_eq_true rfl) ⟨by decide, by decide⟩ (fun x2 g1 => ?_)
  refine hr_icmp_ge o 120 dX5_isWord_77 (by decide) (fun _ => ?_) (fun _ => ?_)
  · refine hr_iload_n o 2 dX5_isWord_120 rfl ?_
    refine hr_ck (fun hz => ?_)
    exact hr_iret o dX5_isWord_121 rfl (hf_nz hz)
  refine hr_iload_n o 2 dX5_isWord_80 rfl ?_
  refine hr_if_eq o 120 dX5_isWord_81 (by decide) (fun _ => ?_) (fun _ => ?_)
  · refine hr_iload_n o 2 dX5_isWord_120 rfl ?_
    refine hr_ck (fun hz => ?_)
    exact hr_iret o dX5_isWord_121 rfl (hf_nz hz)
  refine hr_aload_n o 0 dX5_isWord_84 rfl ?_
  refine hr_getA (md := 0) o flX5_3 dX5_isWord_85 (fun _ => rfl) (fun x3 => ?_)
  refine hr_getO o flX5_29 dX5_isWord_88 20 (fun _ => rfl) (fun _ _ => ?_)
  refine hr_aload_n o 0 dX5_isWord_91 rfl ?_
  refine hr_getI (md := 0) o flX5_23 dX5_isWord_92 (fun _ => rfl) (fun x4 => ?_)
  refine hr_iload o 3 dX5_isWord_95 rfl ?_
  refine hr_iadd o dX5_isWord_97 ?_
  refine hx_bald o 0 5 20 400 rfl (by decide) rfl dX5_isWord_98 (fun x5 => ?_)
  refine hr_aload_n o 1 dX5_isWord_99 rfl ?_
  refine hr_iload o 3 dX5_isWord_100 rfl ?_
  refine hx_S_callVI o og mvX5_57 dX5_isWord_102 [.int l4] (fun zr zg ze => mtJ5_charAt l1 l4 g1 zr zg ze) rfl rfl (Nat.le_of_ble_eq_true rfl) ⟨by decide, by decide⟩ (fun x7 g6 => ?_)
  refine hr_icmp_ne o 112 dX5_isWord_105 (by decide) (fun _ => ?_) (fun _ => ?_)
  · refine hr_iconst o (1 : Int32) dX5_isWord_108 (by decide) ?_
    refine hr_goto o 113 dX5_isWord_109 (by decide) ?_
    refine hr_sub [0, 1, 3] rfl ?_
    exact nlX5_isWord_113 o og k71 hk71 l0 l1 l4 (1 : Int32) g6
  refine hr_iconst o (0 : Int32) dX5_isWord_112 (by decide) ?_
  refine hr_sub [0, 1, 3] rfl ?_
  exact nlX5_isWord_113 o og k71 hk71 l0 l1 l4 (0 : Int32) g6
def lpX5_isWord_71 (gs : hf_gs)  : Nat → Nat → Nat → Int32 → Int32 → hf_H → Option (Int32 × hf_H)
  | 0 => fun _ _ _ _ _ => none
  | n + 1 => fun l0 l1 l3 l4 V0 => ndX5_isWord_71 gs  (lpX5_isWord_71 gs  n) l0 l1 l3 l4 V0
theorem llX5_isWord_71 {C : hf_X} {gs : hf_gs} (o : hf_In C cX5_isWord RX5 5 (some .boolean) 4 85) (og : hf_G C gs)   (n : Nat) : ∀ (l0 : Nat) (l1 : Nat) (l3 : Int32) (l4 : Int32) (V0 : hf_H), hf_J C hf_dHI ((lpX5_isWord_71 gs  n) l0 l1 l3 l4 V0) V0 71 [(0, .ref l0), (1, .ref l1), (3, .int l3), (4, .int l4)] [] := by
  induction n with
  | zero => exact fun _ _ _ _ _ => hr_none
  | succ n ih => exact fun l0 l1 l3 l4 V0 => nlX5_isWord_71 o og  (lpX5_isWord_71 gs  n)  ih l0 l1 l3 l4 V0
def ndX5_isWord_67 (gs : hf_gs)  (l0 : Nat) (l1 : Nat) (s0 : Int32) (V0 : hf_H) : Option (Int32 × hf_H) :=
  lpX5_isWord_71 gs hf_N l0 l1 s0 (0 : Int32) V0
theorem nlX5_isWord_67 {C : hf_X} {gs : hf_gs} (o : hf_In C cX5_isWord RX5 5 (some .boolean) 4 85) (og : hf_G C gs)   (l0 : Nat) (l1 : Nat) (s0 : Int32) (V0 : hf_H) : hf_J C hf_dHI (ndX5_isWord_67 gs l0 l1 s0 V0) V0 67 [(0, .ref l0), (1, .ref l1)] [.int s0] := by
  refine hr_istore_n o [(3, .int s0), (0, .ref l0), (1, .ref l1)] dX5_isWord_67 (by decide) rfl ?_
  refine hr_iconst o (0 : Int32) dX5_isWord_68 (by decide) ?_
  refine hr_istore o [(4, .int (0 : Int32)), (3, .int s0), (0, .ref l0), (1, .ref l1)] dX5_isWord_69 (by decide) rfl ?_
  refine hr_sub [2, 3, 1, 0] rfl ?_
  exact llX5_isWord_71 o og hf_N l0 l1 s0 (0 : Int32) V0
def ndX5_isWord_49 (gs : hf_gs)  (l0 : Nat) (l1 : Nat) (l2 : Int32) (V0 : hf_H) : Option (Int32 × hf_H) :=
  (hf_gi 0 5 1 V0 l0).bind fun x1 =>
  (hf_st V0 l1).bind fun _ =>
  hf_b2 (spJ5_length l1 V0) fun x3 g2 =>
  if (l2 - x1) = x3 then (ndX5_isWord_67 gs l0 l1 (1 : Int32) g2) else
  ndX5_isWord_67 gs l0 l1 (0 : Int32) g2
theorem nlX5_isWord_49 {C : hf_X} {gs : hf_gs} (o : hf_In C cX5_isWord RX5 5 (some .boolean) 4 85) (og : hf_G C gs)   (l0 : Nat) (l1 : Nat) (l2 : Int32) (V0 : hf_H) : hf_J C hf_dHI (ndX5_isWord_49 gs l0 l1 l2 V0) V0 49 [(0, .ref l0), (1, .ref l1), (2, .int l2)] [] := by
  refine hr_iload_n o 2 dX5_isWord_49 rfl ?_
  refine hr_aload_n o 0 dX5_isWord_50 rfl ?_
  refine hr_getI (md := 0) o flX5_23 dX5_isWord_51 (fun _ => rfl) (fun x1 => ?_)
  refine hr_isub o dX5_isWord_54 ?_
  refine hr_aload_n o 1 dX5_isWord_55 rfl ?_
  refine hx_S_callVI o og mvX5_52 dX5_isWord_56 [] (fun zr zg ze => mtJ5_length l1 V0 zr zg ze) rfl rfl (Nat.le_of_ble_eq_true rfl) ⟨by decide, by decide⟩ (fun x3 g2 => ?_)
  refine hr_icmp_ne o 66 dX5_isWord_59 (by decide) (fun _ => ?_) (fun _ => ?_)
  · refine hr_iconst o (1 : Int32) dX5_isWord_62 (by decide) ?_
    refine hr_goto o 67 dX5_isWord_63 (by decide) ?_
    refine hr_sub [0, 1] rfl ?_
    exact nlX5_isWord_67 o og l0 l1 (1 : Int32) g2
  refine hr_iconst o (0 : Int32) dX5_isWord_66 (by decide) ?_
  refine hr_sub [0, 1] rfl ?_
  exact nlX5_isWord_67 o og l0 l1 (0 : Int32) g2
def ndX5_isWord_10 (gs : hf_gs) (k10 : Nat → Nat → Int32 → hf_H → Option (Int32 × hf_H)) (l0 : Nat) (l1 : Nat) (l2 : Int32) (V0 : hf_H) : Option (Int32 × hf_H) :=
  (hf_ga 0 5 6 V0 l0).bind fun x1 =>
  (hf_gi 1 0 6 V0 x1).bind fun x2 =>
  if x2 ≤ l2 then (ndX5_isWord_49 gs l0 l1 l2 V0) else
  (hf_ga 0 5 6 V0 l0).bind fun x3 =>
  (hf_ob 1 0 V0 x3).bind fun _ =>
  (hf_ai 0 5 400 V0 x3 l2).bind fun x4 =>
  (spX0_in (Int32.toInt64 x4) (97 : Int64) (122 : Int64)).bind fun x5 =>
  if x5 = 0 then (ndX5_isWord_49 gs l0 l1 l2 V0) else
  hf_let (l2 + (1 : Int32)) fun x6 =>
  k10 l0 l1 x6 V0
theorem nlX5_isWord_10 {C : hf_X} {gs : hf_gs} (o : hf_In C cX5_isWord RX5 5 (some .boolean) 4 85) (og : hf_G C gs) (k10 : Nat → Nat → Int32 → hf_H → Option (Int32 × hf_H)) (hk10 : ∀ (l0 : Nat) (l1 : Nat) (l2 : Int32) (V0 : hf_H), hf_J C hf_dHI (k10 l0 l1 l2 V0) V0 10 [(0, .ref l0), (1, .ref l1), (2, .int l2)] []) (l0 : Nat) (l1 : Nat) (l2 : Int32) (V0 : hf_H) : hf_J C hf_dHI (ndX5_isWord_10 gs k10 l0 l1 l2 V0) V0 10 [(0, .ref l0), (1, .ref l1), (2, .int l2)] [] := by
  refine hr_iload_n o 2 dX5_isWord_10 rfl ?_
  refine hr_aload_n o 0 dX5_isWord_11 rfl ?_
  refine hr_getA (md := 0) o flX5_3 dX5_isWord_12 (fun _ => rfl) (fun x1 => ?_)
  refine hr_getI (md := 1) o flX5_26 dX5_isWord_15 (fun _ => rfl) (fun x2 => ?_)
  refine hr_icmp_ge o 49 dX5_isWord_18 (by decide) (fun _ => ?_) (fun _ => ?_)
  · exact nlX5_isWord_49 o og l0 l1 l2 V0
  refine hr_aload_n o 0 dX5_isWord_21 rfl ?_
  refine hr_getA (md := 0) o flX5_3 dX5_isWord_22 (fun _ => rfl) (fun x3 => ?_)
  refine hr_getO o flX5_29 dX5_isWord_25 20 (fun _ => rfl) (fun _ _ => ?_)
  refine hr_iload_n o 2 dX5_isWord_28 rfl ?_
  refine hx_bald o 0 5 20 400 rfl (by decide) rfl dX5_isWord_29 (fun x4 => ?_)
  refine hr_i2l o dX5_isWord_30 ?_
  refine hr_ldc2 o (97 : Int64) q541 dX5_isWord_31 ?_
  refine hr_ldc2 o (122 : Int64) q542 dX5_isWord_34 ?_
  refine px_callSNI o og msnX5_41 dX5_isWord_37 [.long (Int32.toInt64 x4), .long (97 : Int64), .long (122 : Int64)] (fun zr ze => mtX0_in (Int32.toInt64 x4) (97 : Int64) (122 : Int64) zr ze) rfl rfl (Nat.le_of_ble_eq_true rfl) ⟨by decide, by decide⟩ (fun x5 => ?_)
  refine hr_if_eq o 49 dX5_isWord_40 (by decide) (fun _ => ?_) (fun _ => ?_)
  · exact nlX5_isWord_49 o og l0 l1 l2 V0
  refine hr_iincN o (1 : Int32) 2 (fun y => [(2, .int y), (0, .ref l0), (1, .ref l1)]) dX5_isWord_43 rfl (by decide) (by decide) (fun y => rfl) (fun x6 => ?_)
  refine hr_goto o 10 dX5_isWord_46 (by decide) ?_
  refine hr_sub [1, 2, 0] rfl ?_
  exact hk10 l0 l1 x6 V0
def lpX5_isWord_10 (gs : hf_gs)  : Nat → Nat → Nat → Int32 → hf_H → Option (Int32 × hf_H)
  | 0 => fun _ _ _ _ => none
  | n + 1 => fun l0 l1 l2 V0 => ndX5_isWord_10 gs  (lpX5_isWord_10 gs  n) l0 l1 l2 V0
theorem llX5_isWord_10 {C : hf_X} {gs : hf_gs} (o : hf_In C cX5_isWord RX5 5 (some .boolean) 4 85) (og : hf_G C gs)   (n : Nat) : ∀ (l0 : Nat) (l1 : Nat) (l2 : Int32) (V0 : hf_H), hf_J C hf_dHI ((lpX5_isWord_10 gs  n) l0 l1 l2 V0) V0 10 [(0, .ref l0), (1, .ref l1), (2, .int l2)] [] := by
  induction n with
  | zero => exact fun _ _ _ _ => hr_none
  | succ n ih => exact fun l0 l1 l2 V0 => nlX5_isWord_10 o og  (lpX5_isWord_10 gs  n)  ih l0 l1 l2 V0
def spX5_isWord (gs : hf_gs) (l0 : Nat) (l1 : Nat) (V0 : hf_H) : Option (Int32 × hf_H) :=
  (hf_ob 0 5 V0 l0).bind fun _ =>
  hf_b2 (spX5_next l0 V0) fun x2 g1 =>
  (hf_gi 0 5 1 g1 l0).bind fun x3 =>
  lpX5_isWord_10 gs hf_N l0 l1 x3 g1
theorem jtX5_isWord {C : hf_X} {gs : hf_gs} (o : hf_In C cX5_isWord RX5 5 (some .boolean) 4 85) (og : hf_G C gs) (l0 : Nat) (l1 : Nat) (V0 : hf_H) : hf_J C hf_dHI (spX5_isWord gs l0 l1 V0) V0 0 [(0, .ref l0), (1, .ref l1)] [] := by
  refine hr_aload_n o 0 dX5_isWord_0 rfl ?_
  refine hx_callVI (q := (RX5, TX5, 7)) o og mvX5_45 dX5_isWord_1 0 5 rfl [] (fun zr zg ze => mtX5_next l0 V0 zr zg ze) rfl rfl (Nat.le_of_ble_eq_true rfl) ⟨by decide, by decide⟩ (fun x2 g1 => ?_)
  refine hr_pop o dX5_isWord_4 rfl ?_
  refine hr_aload_n o 0 dX5_isWord_5 rfl ?_
  refine hr_getI (md := 0) o flX5_23 dX5_isWord_6 (fun _ => rfl) (fun x3 => ?_)
  refine hr_istore_n o [(2, .int x3), (0, .ref l0), (1, .ref l1)] dX5_isWord_9 (by decide) rfl ?_
  refine hr_sub [1, 2, 0] rfl ?_
  exact llX5_isWord_10 o og hf_N l0 l1 x3 g1
theorem mtX5_isWord {gs : hf_gs} (l0 : Nat) (l1 : Nat) (V0 : hf_H) (r : Int32) (V1 : hf_H) (e : spX5_isWord gs l0 l1 V0 = some (r, V1)) : hf_ConG gs yX5_isWord cX5_isWord 5 (some .boolean) 4 85 [.ref l0, .ref l1] V0 (.returned (some (.int r)), V1) := hf_entryG (dec := hf_dHI) (by decide) [.ref l0, .ref l1] (Nat.le_of_ble_eq_true rfl) [(0, .ref l0), (1, .ref l1)] rfl e (fun C o og _ => jtX5_isWord o og l0 l1 V0)

/-! X5_takes -/
theorem mvX5_61 : hf_MV RX5 61 RX5 yX5_isWord cX5_isWord 5 (some .boolean) 1 := ⟨lw_V q529 q531 qs4 q163 q532, by decide +kernel⟩
def ndX5_takes_23 (gs : hf_gs)  (l2 : Int32) (s0 : Nat) (s1 : Int32) (s2 : Int32) (V0 : hf_H) : Option (Int32 × hf_H) :=
  (hf_pi 0 5 1 V0 s0 (s1 + s2)).bind fun g1 =>
  if l2 = 0 ∨ l2 = 1 then some (l2, g1) else none
theorem nlX5_takes_23 {C : hf_X} {gs : hf_gs} (o : hf_In C cX5_takes RX5 3 (some .boolean) 5 109) (og : hf_G C gs)   (l2 : Int32) (s0 : Nat) (s1 : Int32) (s2 : Int32) (V0 : hf_H) : hf_J C hf_dHI (ndX5_takes_23 gs l2 s0 s1 s2 V0) V0 23 [(2, .int l2)] [.int s2, .int s1, .ref s0] := by
  refine hr_iadd o dX5_takes_23 ?_
  refine hx_putI (md := 0) o flX5_23 dX5_takes_24 rfl (Or.inl nf_5_1) rfl rfl (fun _ => rfl) (fun g1 => ?_)
  refine hr_iload_n o 0 dX5_takes_27 rfl ?_
  refine hr_ck (fun hz => ?_)
  exact hr_iret o dX5_takes_28 rfl (hf_nz hz)
def spX5_takes (gs : hf_gs) (l0 : Nat) (l1 : Nat) (V0 : hf_H) : Option (Int32 × hf_H) :=
  (hf_ob 0 5 V0 l0).bind fun _ =>
  hf_b2 (spX5_isWord gs l0 l1 V0) fun x2 g1 =>
  (hf_gi 0 5 1 g1 l0).bind fun x3 =>
  if x2 = 0 then (ndX5_takes_23 gs x2 l0 x3 (0 : Int32) g1) else
  (hf_st g1 l1).bind fun _ =>
  hf_b2 (spJ5_length l1 g1) fun x5 g4 =>
  ndX5_takes_23 gs x2 l0 x3 x5 g4
theorem jtX5_takes {C : hf_X} {gs : hf_gs} (o : hf_In C cX5_takes RX5 3 (some .boolean) 5 109) (og : hf_G C gs) (l0 : Nat) (l1 : Nat) (V0 : hf_H) : hf_J C hf_dHI (spX5_takes gs l0 l1 V0) V0 0 [(0, .ref l0), (1, .ref l1)] [] := by
  refine hr_aload_n o 0 dX5_takes_0 rfl ?_
  refine hr_aload_n o 1 dX5_takes_1 rfl ?_
  refine hx_callVI (q := (RX5, TX5, 7)) o og mvX5_61 dX5_takes_2 0 5 rfl [.ref l1] (fun zr zg ze => mtX5_isWord l0 l1 V0 zr zg ze) rfl rfl (Nat.le_of_ble_eq_true rfl) ⟨by decide, by decide⟩ (fun x2 g1 => ?_)
  refine hr_istore_n o [(2, .int x2), (0, .ref l0), (1, .ref l1)] dX5_takes_5 (by decide) rfl ?_
  refine hr_aload_n o 1 dX5_takes_6 rfl ?_
  refine hr_dup o dX5_takes_7 rfl ?_
  refine hr_getI (md := 0) o flX5_23 dX5_takes_8 (fun _ => rfl) (fun x3 => ?_)
  refine hr_iload_n o 0 dX5_takes_11 rfl ?_
  refine hr_if_eq o 22 dX5_takes_12 (by decide) (fun _ => ?_) (fun _ => ?_)
  · refine hr_iconst o (0 : Int32) dX5_takes_22 (by decide) ?_
    refine hr_sub [0] rfl ?_
    exact nlX5_takes_23 o og x2 l0 x3 (0 : Int32) g1
  refine hr_aload_n o 2 dX5_takes_15 rfl ?_
  refine hx_S_callVI o og mvX5_52 dX5_takes_16 [] (fun zr zg ze => mtJ5_length l1 g1 zr zg ze) rfl rfl (Nat.le_of_ble_eq_true rfl) ⟨by decide, by decide⟩ (fun x5 g4 => ?_)
  refine hr_goto o 23 dX5_takes_19 (by decide) ?_
  refine hr_sub [0] rfl ?_
  exact nlX5_takes_23 o og x2 l0 x3 x5 g4
theorem mtX5_takes {gs : hf_gs} (l0 : Nat) (l1 : Nat) (V0 : hf_H) (r : Int32) (V1 : hf_H) (e : spX5_takes gs l0 l1 V0 = some (r, V1)) : hf_ConG gs yX5_takes cX5_takes 3 (some .boolean) 5 109 [.ref l0, .ref l1] V0 (.returned (some (.int r)), V1) := hf_entryG (dec := hf_dHI) (by decide) [.ref l0, .ref l1] (Nat.le_of_ble_eq_true rfl) [(0, .ref l0), (1, .ref l1)] rfl e (fun C o og _ => jtX5_takes o og l0 l1 V0)

/-! X5_number -/
theorem mvnX5_69 : hf_MVN RX5 69 "HalfFair" RX0 yX0_fails cX0_fails 3 (some (.object "HalfFair$Wrong")) 2 := ⟨⟨q594, q596, qs7, q153, q597⟩, by decide +kernel⟩
theorem mvX5_65 : hf_MV RX5 65 RX5 yX5_isDigit cX5_isDigit 1 (some .boolean) 0 := ⟨lw_V q606 q608 qs10 q163 q609, by decide +kernel⟩
def ndX5_number_68 (k33 : Nat → Int32 → Int32 → Int32 → Int32 → hf_H → Option ((Nat ⊕ Int32) × hf_H)) (l0 : Nat) (l1 : Int32) (l2 : Int32) (l3 : Int32) (s0 : Int32) (V0 : hf_H) : Option ((Nat ⊕ Int32) × hf_H) :=
  (hf_gi 0 5 1 V0 l0).bind fun x1 =>
  (hf_pi 0 5 1 V0 l0 (x1 + (1 : Int32))).bind fun g2 =>
  k33 l0 l1 l2 l3 s0 g2
theorem nlX5_number_68 {C : hf_X} {gs : hf_gs} (o : hf_In C cX5_number RX5 5 (some .int) 2 45) (og : hf_G C gs) (ot : hf_Thr C) (k33 : Nat → Int32 → Int32 → Int32 → Int32 → hf_H → Option ((Nat ⊕ Int32) × hf_H)) (hk33 : ∀ (l0 : Nat) (l1 : Int32) (l2 : Int32) (l3 : Int32) (l4 : Int32) (V0 : hf_H), hf_J C hf_dTI (k33 l0 l1 l2 l3 l4 V0) V0 33 [(0, .ref l0), (1, .int l1), (2, .int l2), (3, .int l3), (4, .int l4)] []) (l0 : Nat) (l1 : Int32) (l2 : Int32) (l3 : Int32) (s0 : Int32) (V0 : hf_H) : hf_J C hf_dTI (ndX5_number_68 k33 l0 l1 l2 l3 s0 V0) V0 68 [(0, .ref l0), (1, .int l1), (2, .int l2), (3, .int l3)] [.int s0] := by
  refine hr_istore o [(4, .int s0), (0, .ref l0), (1, .int l1), (2, .int l2), (3, .int l3)] dX5_number_68 (by decide) rfl ?_
  refine hr_aload_n o 1 dX5_number_70 rfl ?_
  refine hr_dup o dX5_number_71 rfl ?_
  refine hr_getI (md := 0) o flX5_23 dX5_number_72 (fun _ => rfl) (fun x1 => ?_)
  refine hr_iconst o (1 : Int32) dX5_number_75 (by decide) ?_
  refine hr_iadd o dX5_number_76 ?_
  refine hx_putI (md := 0) o flX5_23 dX5_number_77 rfl (Or.inl nf_5_1) rfl rfl (fun _ => rfl) (fun g2 => ?_)
  refine hr_goto o 33 dX5_number_80 (by decide) ?_
  refine hr_sub [1, 2, 3, 4, 0] rfl ?_
  exact hk33 l0 l1 l2 l3 s0 g2
def ndX5_number_106  (l0 : Nat) (l3 : Int32) (V0 : hf_H) : Option ((Nat ⊕ Int32) × hf_H) :=
  (hf_ga 0 5 6 V0 l0).bind fun x1 =>
  (hf_ob 1 0 V0 x1).bind fun _ =>
  hf_b2 (spX0_fails x1 (1 : Int32) l3 V0) fun x3 g2 =>
  (hf_ob 0 3 g2 x3).bind fun _ => some (.inl x3, g2)
theorem nlX5_number_106 {C : hf_X} {gs : hf_gs} (o : hf_In C cX5_number RX5 5 (some .int) 2 45) (og : hf_G C gs) (ot : hf_Thr C)   (l0 : Nat) (l3 : Int32) (V0 : hf_H) : hf_J C hf_dTI (ndX5_number_106 l0 l3 V0) V0 106 [(0, .ref l0), (3, .int l3)] [] := by
  refine hr_aload_n o 0 dX5_number_106 rfl ?_
  refine hr_getA (md := 0) o flX5_3 dX5_number_107 (fun _ => rfl) (fun x1 => ?_)
  refine hr_iconst o (1 : Int32) dX5_number_110 (by decide) ?_
  refine hr_iload_n o 1 dX5_number_111 rfl ?_
  refine hx_callVNA (q := (RX0, TX0, 23)) o og mvnX5_69 dX5_number_112 1 0 rfl [.int (1 : Int32), .int l3] (fun zr zg ze => mtX0_fails x1 (1 : Int32) l3 V0 zr zg ze) rfl rfl (Nat.le_of_ble_eq_true rfl) ⟨by decide, by decide⟩ (fun x3 g2 => ?_)
  exact hT_athrow o ot dX5_number_115
def ndX5_number_33 (k33 : Nat → Int32 → Int32 → Int32 → Int32 → hf_H → Option ((Nat ⊕ Int32) × hf_H)) (l0 : Nat) (l1 : Int32) (l2 : Int32) (l3 : Int32) (l4 : Int32) (V0 : hf_H) : Option ((Nat ⊕ Int32) × hf_H) :=
  (hf_ob 0 5 V0 l0).bind fun _ =>
  hf_b2 (spX5_isDigit l0 V0) fun x2 g1 =>
  if x2 = 0 then ((hf_gi 0 5 1 g1 l0).bind fun x3 =>
  if (5 : Int32) < (x3 - l3) then (ndX5_number_106 l0 l3 g1) else
  (spX0_in (Int32.toInt64 l4) (Int32.toInt64 l1) (Int32.toInt64 l2)).bind fun x4 =>
  if x4 = 0 then (ndX5_number_106 l0 l3 g1) else
  some (.inr l4, g1)) else
  (hf_gi 0 5 1 g1 l0).bind fun x5 =>
  if (5 : Int32) ≤ (x5 - l3) then (ndX5_number_68 k33 l0 l1 l2 l3 l4 g1) else
  (hf_ob 0 5 g1 l0).bind fun _ =>
  hf_b2 (spX5_sign l0 g1) fun x7 g6 =>
  ndX5_number_68 k33 l0 l1 l2 l3 ((((10 : Int32) * l4) + x7) - (48 : Int32)) g6
theorem nlX5_number_33 {C : hf_X} {gs : hf_gs} (o : hf_In C cX5_number RX5 5 (some .int) 2 45) (og : hf_G C gs) (ot : hf_Thr C) (k33 : Nat → Int32 → Int32 → Int32 → Int32 → hf_H → Option ((Nat ⊕ Int32) × hf_H)) (hk33 : ∀ (l0 : Nat) (l1 : Int32) (l2 : Int32) (l3 : Int32) (l4 : Int32) (V0 : hf_H), hf_J C hf_dTI (k33 l0 l1 l2 l3 l4 V0) V0 33 [(0, .ref l0), (1, .int l1), (2, .int l2), (3, .int l3), (4, .int l4)] []) (l0 : Nat) (l1 : Int32) (l2 : Int32) (l3 : Int32) (l4 : Int32) (V0 : hf_H) : hf_J C hf_dTI (ndX5_number_33 k33 l0 l1 l2 l3 l4 V0) V0 33 [(0, .ref l0), (1, .int l1), (2, .int l2), (3, .int l3), (4, .int l4)] [] := by
  refine hr_aload_n o 0 dX5_number_33 rfl ?_
  refine hx_callVI (q := (RX5, TX5, 7)) o og mvX5_65 dX5_number_34 0 5 rfl [] (fun zr zg ze => mtX5_isDigit l0 V0 zr zg ze) rfl rfl (Nat.le_of_ble_eq_true rfl) ⟨by decide, by decide⟩ (fun x2 g1 => ?_)
  refine hr_if_eq o 83 dX5_number_37 (by decide) (fun _ => ?_) (fun _ => ?_)
  · refine hr_aload_n o 0 dX5_number_83 rfl ?_
    refine hr_getI (md := 0) o flX5_23 dX5_number_84 (fun _ => rfl) (fun x3 => ?_)
    refine hr_iload_n o 3 dX5_number_87 rfl ?_
    refine hr_isub o dX5_number_88 ?_
    refine hr_iconst o (5 : Int32) dX5_number_89 (by decide) ?_
    refine hr_icmp_gt o 106 dX5_number_90 (by decide) (fun _ => ?_) (fun _ => ?_)
    · refine hr_sub [0, 3] rfl ?_
      exact nlX5_number_106 o og ot l0 l3 g1
    refine hr_iload o 4 dX5_number_93 rfl ?_
    refine hr_i2l o dX5_number_95 ?_
    refine hr_iload_n o 1 dX5_number_96 rfl ?_
    refine hr_i2l o dX5_number_97 ?_
    refine hr_iload_n o 2 dX5_number_98 rfl ?_
    refine hr_i2l o dX5_number_99 ?_
    refine px_callSNI o og msnX5_41 dX5_number_100 [.long (Int32.toInt64 l4), .long (Int32.toInt64 l1), .long (Int32.toInt64 l2)] (fun zr ze => mtX0_in (Int32.toInt64 l4) (Int32.toInt64 l1) (Int32.toInt64 l2) zr ze) rfl rfl (Nat.le_of_ble_eq_true rfl) ⟨by decide, by decide⟩ (fun x4 => ?_)
    refine hr_if_ne o 116 dX5_number_103 (by decide) (fun _ => ?_) (fun _ => ?_)
    · refine hr_sub [0, 3] rfl ?_
      exact nlX5_number_106 o og ot l0 l3 g1
    refine hr_iload o 4 dX5_number_116 rfl ?_
    exact hr_iret o dX5_number_118 rfl rfl
  refine hr_aload_n o 0 dX5_number_40 rfl ?_
  refine hr_getI (md := 0) o flX5_23 dX5_number_41 (fun _ => rfl) (fun x5 => ?_)
  refine hr_iload_n o 3 dX5_number_44 rfl ?_
  refine hr_isub o dX5_number_45 ?_
  refine hr_iconst o (5 : Int32) dX5_number_46 (by decide) ?_
  refine hr_icmp_ge o 66 dX5_number_47 (by decide) (fun _ => ?_) (fun _ => ?_)
  · refine hr_iload o 4 dX5_number_66 rfl ?_
    refine hr_sub [0, 1, 2, 3] rfl ?_
    exact nlX5_number_68 o og ot k33 hk33 l0 l1 l2 l3 l4 g1
  refine hr_bipush o (10 : Int32) dX5_number_50 (by decide) ?_
  refine hr_iload o 4 dX5_number_52 rfl ?_
  refine hr_imul o dX5_number_54 ?_
  refine hr_aload_n o 0 dX5_number_55 rfl ?_
  refine hx_callVI (q := (RX5, TX5, 7)) o og mvX5_33 dX5_number_56 0 5 rfl [] (fun zr zg ze => mtX5_sign l0 g1 zr zg ze) rfl rfl (Nat.le_of_ble_eq_true rfl) ⟨by decide, by decide⟩ (fun x7 g6 => ?_)
  refine hr_iadd o dX5_number_59 ?_
  refine hr_bipush o (48 : Int32) dX5_number_60 (by decide) ?_
  refine hr_isub o dX5_number_62 ?_
  refine hr_goto o 68 dX5_number_63 (by decide) ?_
  refine hr_sub [0, 1, 2, 3] rfl ?_
  exact nlX5_number_68 o og ot k33 hk33 l0 l1 l2 l3 ((((10 : Int32) * l4) + x7) - (48 : Int32)) g6
def lpX5_number_33  : Nat → Nat → Int32 → Int32 → Int32 → Int32 → hf_H → Option ((Nat ⊕ Int32) × hf_H)
  | 0 => fun _ _ _ _ _ _ => none
  | n + 1 => fun l0 l1 l2 l3 l4 V0 => ndX5_number_33  (lpX5_number_33  n) l0 l1 l2 l3 l4 V0
theorem llX5_number_33 {C : hf_X} {gs : hf_gs} (o : hf_In C cX5_number RX5 5 (some .int) 2 45) (og : hf_G C gs) (ot : hf_Thr C)   (n : Nat) : ∀ (l0 : Nat) (l1 : Int32) (l2 : Int32) (l3 : Int32) (l4 : Int32) (V0 : hf_H), hf_J C hf_dTI ((lpX5_number_33  n) l0 l1 l2 l3 l4 V0) V0 33 [(0, .ref l0), (1, .int l1), (2, .int l2), (3, .int l3), (4, .int l4)] [] := by
  induction n with
  | zero => exact fun _ _ _ _ _ _ => hr_none
  | succ n ih => exact fun l0 l1 l2 l3 l4 V0 => nlX5_number_33 o og ot  (lpX5_number_33  n)  ih l0 l1 l2 l3 l4 V0
def spX5_number (l0 : Nat) (l1 : Int32) (l2 : Int32) (V0 : hf_H) : Option ((Nat ⊕ Int32) × hf_H) :=
  (hf_ob 0 5 V0 l0).bind fun _ =>
  hf_b2 (spX5_next l0 V0) fun x2 g1 =>
  (hf_ob 0 5 g1 l0).bind fun _ =>
  hf_b2 (spX5_isDigit l0 g1) fun x4 g3 =>
  if x4 = 0 then ((hf_ga 0 5 6 g3 l0).bind fun x6 =>
  (hf_gi 0 5 1 g3 l0).bind fun x7 =>
  (hf_ob 1 0 g3 x6).bind fun _ =>
  hf_b2 (spX0_fails x6 (0 : Int32) x7 g3) fun x9 g8 =>
  (hf_ob 0 3 g8 x9).bind fun _ => some (.inl x9, g8)) else
  (hf_gi 0 5 1 g3 l0).bind fun x5 =>
  lpX5_number_33 hf_N l0 l1 l2 x5 (0 : Int32) g3
theorem jtX5_number {C : hf_X} {gs : hf_gs} (o : hf_In C cX5_number RX5 5 (some .int) 2 45) (og : hf_G C gs) (ot : hf_Thr C) (l0 : Nat) (l1 : Int32) (l2 : Int32) (V0 : hf_H) : hf_J C hf_dTI (spX5_number l0 l1 l2 V0) V0 0 [(0, .ref l0), (1, .int l1), (2, .int l2)] [] := by
  refine hr_aload_n o 0 dX5_number_0 rfl ?_
  refine hx_callVI (q := (RX5, TX5, 7)) o og mvX5_45 dX5_number_1 0 5 rfl [] (fun zr zg ze => mtX5_next l0 V0 zr zg ze) rfl rfl (Nat.le_of_ble_eq_true rfl) ⟨by decide, by decide⟩ (fun x2 g1 => ?_)
  refine hr_pop o dX5_number_4 rfl ?_
  refine hr_aload_n o 0 dX5_number_5 rfl ?_
  refine hx_callVI (q := (RX5, TX5, 7)) o og mvX5_65 dX5_number_6 0 5 rfl [] (fun zr zg ze => mtX5_isDigit l0 g1 zr zg ze) rfl rfl (Nat.le_of_ble_eq_true rfl) ⟨by decide, by decide⟩ (fun x4 g3 => ?_)
  refine hr_if_ne o 25 dX5_number_9 (by decide) (fun _ => ?_) (fun _ => ?_)
  · refine hr_aload_n o 0 dX5_number_12 rfl ?_
    refine hr_getA (md := 0) o flX5_3 dX5_number_13 (fun _ => rfl) (fun x6 => ?_)
    refine hr_iconst o (0 : Int32) dX5_number_16 (by decide) ?_
    refine hr_aload_n o 0 dX5_number_17 rfl ?_
    refine hr_getI (md := 0) o flX5_23 dX5_number_18 (fun _ => rfl) (fun x7 => ?_)
    refine hx_callVNA (q := (RX0, TX0, 23)) o og mvnX5_69 dX5_number_21 1 0 rfl [.int (0 : Int32), .int x7] (fun zr zg ze => mtX0_fails x6 (0 : Int32) x7 g3 zr zg ze) rfl rfl (Nat.le_of_ble_eq_true rfl) ⟨by decide, by decide⟩ (fun x9 g8 => ?_)
    exact hT_athrow o ot dX5_number_24
  refine hr_aload_n o 0 dX5_number_25 rfl ?_
  refine hr_getI (md := 0) o flX5_23 dX5_number_26 (fun _ => rfl) (fun x5 => ?_)
  refine hr_istore_n o [(3, .int x5), (0, .ref l0), (1, .int l1), (2, .int l2)] dX5_number_29 (by decide) rfl ?_
  refine hr_iconst o (0 : Int32) dX5_number_30 (by decide) ?_
  refine hr_istore o [(4, .int (0 : Int32)), (3, .int x5), (0, .ref l0), (1, .int l1), (2, .int l2)] dX5_number_31 (by decide) rfl ?_
  refine hr_sub [2, 3, 4, 1, 0] rfl ?_
  exact llX5_number_33 o og ot hf_N l0 l1 l2 x5 (0 : Int32) g3
theorem mtX5_number {gs : hf_gs}  (l0 : Nat) (l1 : Int32) (l2 : Int32) (V0 : hf_H) (t : (Nat ⊕ Int32) × hf_H) (e : spX5_number l0 l1 l2 V0 = some t) : hf_ConT gs yX5_number cX5_number 5 (some .int) 2 45 [.ref l0, .int l1, .int l2] V0 (hf_dTI t) := hf_entryT (by decide) [.ref l0, .int l1, .int l2] (Nat.le_of_ble_eq_true rfl) [(0, .ref l0), (1, .int l1), (2, .int l2)] rfl e (fun C o og ot => jtX5_number o og ot l0 l1 l2 V0)

/-! X5_counts -/
theorem flX5_73 : hf_Fl RX5 73 5 3 := ⟨(RX5, TX5, 7), RX5, rfl, by decide, in_X5, tyX5_ok, nmX5, Or.inl q495, Or.inl rfl⟩
theorem nf_5_3 : hf_Nf 5 3 := ⟨(RX5, TX5, 7), rfl, rfl⟩
def spX5_counts (l0 : Nat) (l1 : Int32) (V0 : hf_H) : Option ((Nat ⊕ Unit) × hf_H) :=
  (hf_gi 0 5 3 V0 l0).bind fun x1 =>
  if x1 = (60 : Int32) then ((hf_ga 0 5 6 V0 l0).bind fun x4 =>
  (hf_ob 1 0 V0 x4).bind fun _ =>
  hf_b2 (spX0_fails x4 (3 : Int32) l1 V0) fun x6 g5 =>
  (hf_ob 0 3 g5 x6).bind fun _ => some (.inl x6, g5)) else
  (hf_gi 0 5 3 V0 l0).bind fun x2 =>
  (hf_pi 0 5 3 V0 l0 (x2 + (1 : Int32))).bind fun g3 =>
  some (.inr (), g3)
theorem jtX5_counts {C : hf_X} {gs : hf_gs} (o : hf_In C cX5_counts RX5 2 (none) 1 22) (og : hf_G C gs) (ot : hf_Thr C) (l0 : Nat) (l1 : Int32) (V0 : hf_H) : hf_J C hf_dTV (spX5_counts l0 l1 V0) V0 0 [(0, .ref l0), (1, .int l1)] [] := by
  refine hr_aload_n o 0 dX5_counts_0 rfl ?_
  refine hr_getI (md := 0) o flX5_73 dX5_counts_1 (fun _ => rfl) (fun x1 => ?_)
  refine hr_bipush o (60 : Int32) dX5_counts_4 (by decide) ?_
  refine hr_icmp_ne o 19 dX5_counts_6 (by decide) (fun _ => ?_) (fun _ => ?_)
  · refine hr_aload_n o 0 dX5_counts_9 rfl ?_
    refine hr_getA (md := 0) o flX5_3 dX5_counts_10 (fun _ => rfl) (fun x4 => ?_)
    refine hr_iconst o (3 : Int32) dX5_counts_13 (by decide) ?_
    refine hr_iload_n o 1 dX5_counts_14 rfl ?_
    refine hx_callVNA (q := (RX0, TX0, 23)) o og mvnX5_69 dX5_counts_15 1 0 rfl [.int (3 : Int32), .int l1] (fun zr zg ze => mtX0_fails x4 (3 : Int32) l1 V0 zr zg ze) rfl rfl (Nat.le_of_ble_eq_true rfl) ⟨by decide, by decide⟩ (fun x6 g5 => ?_)
    exact hT_athrow o ot dX5_counts_18
  refine hr_aload_n o 0 dX5_counts_19 rfl ?_
  refine hr_dup o dX5_counts_20 rfl ?_
  refine hr_getI (md := 0) o flX5_73 dX5_counts_21 (fun _ => rfl) (fun x2 => ?_)
  refine hr_iconst o (1 : Int32) dX5_counts_24 (by decide) ?_
  refine hr_iadd o dX5_counts_25 ?_
  refine hx_putI (md := 0) o flX5_73 dX5_counts_26 rfl (Or.inl nf_5_3) rfl rfl (fun _ => rfl) (fun g3 => ?_)
  exact hr_vret o dX5_counts_29 rfl
theorem mtX5_counts {gs : hf_gs}  (l0 : Nat) (l1 : Int32) (V0 : hf_H) (t : (Nat ⊕ Unit) × hf_H) (e : spX5_counts l0 l1 V0 = some t) : hf_ConT gs yX5_counts cX5_counts 2 (none) 1 22 [.ref l0, .int l1] V0 (hf_dTV t) := hf_entryT (by decide) [.ref l0, .int l1] (Nat.le_of_ble_eq_true rfl) [(0, .ref l0), (1, .int l1)] rfl e (fun C o og ot => jtX5_counts o og ot l0 l1 V0)

/-! X5_goesDeeper -/
theorem flX5_76 : hf_Fl RX5 76 5 2 := ⟨(RX5, TX5, 7), RX5, rfl, by decide, in_X5, tyX5_ok, nmX5, Or.inl q494, Or.inl rfl⟩
theorem nf_5_2 : hf_Nf 5 2 := ⟨(RX5, TX5, 7), rfl, rfl⟩
def spX5_goesDeeper (l0 : Nat) (l1 : Int32) (V0 : hf_H) : Option ((Nat ⊕ Unit) × hf_H) :=
  (hf_gi 0 5 2 V0 l0).bind fun x1 =>
  if x1 = (10 : Int32) then ((hf_ga 0 5 6 V0 l0).bind fun x4 =>
  (hf_ob 1 0 V0 x4).bind fun _ =>
  hf_b2 (spX0_fails x4 (2 : Int32) l1 V0) fun x6 g5 =>
  (hf_ob 0 3 g5 x6).bind fun _ => some (.inl x6, g5)) else
  (hf_gi 0 5 2 V0 l0).bind fun x2 =>
  (hf_pi 0 5 2 V0 l0 (x2 + (1 : Int32))).bind fun g3 =>
  some (.inr (), g3)
theorem jtX5_goesDeeper {C : hf_X} {gs : hf_gs} (o : hf_In C cX5_goesDeeper RX5 2 (none) 1 22) (og : hf_G C gs) (ot : hf_Thr C) (l0 : Nat) (l1 : Int32) (V0 : hf_H) : hf_J C hf_dTV (spX5_goesDeeper l0 l1 V0) V0 0 [(0, .ref l0), (1, .int l1)] [] := by
  refine hr_aload_n o 0 dX5_goesDeeper_0 rfl ?_
  refine hr_getI (md := 0) o flX5_76 dX5_goesDeeper_1 (fun _ => rfl) (fun x1 => ?_)
  refine hr_bipush o (10 : Int32) dX5_goesDeeper_4 (by decide) ?_
  refine hr_icmp_ne o 19 dX5_goesDeeper_6 (by decide) (fun _ => ?_) (fun _ => ?_)
  · refine hr_aload_n o 0 dX5_goesDeeper_9 rfl ?_
    refine hr_getA (md := 0) o flX5_3 dX5_goesDeeper_10 (fun _ => rfl) (fun x4 => ?_)
    refine hr_iconst o (2 : Int32) dX5_goesDeeper_13 (by decide) ?_
    refine hr_iload_n o 1 dX5_goesDeeper_14 rfl ?_
    refine hx_callVNA (q := (RX0, TX0, 23)) o og mvnX5_69 dX5_goesDeeper_15 1 0 rfl [.int (2 : Int32), .int l1] (fun zr zg ze => mtX0_fails x4 (2 : Int32) l1 V0 zr zg ze) rfl rfl (Nat.le_of_ble_eq_true rfl) ⟨by decide, by decide⟩ (fun x6 g5 => ?_)
    exact hT_athrow o ot dX5_goesDeeper_18
  refine hr_aload_n o 0 dX5_goesDeeper_19 rfl ?_
  refine hr_dup o dX5_goesDeeper_20 rfl ?_
  refine hr_getI (md := 0) o flX5_76 dX5_goesDeeper_21 (fun _ => rfl) (fun x2 => ?_)
  refine hr_iconst o (1 : Int32) dX5_goesDeeper_24 (by decide) ?_
  refine hr_iadd o dX5_goesDeeper_25 ?_
  refine hx_putI (md := 0) o flX5_76 dX5_goesDeeper_26 rfl (Or.inl nf_5_2) rfl rfl (fun _ => rfl) (fun g3 => ?_)
  exact hr_vret o dX5_goesDeeper_29 rfl
theorem mtX5_goesDeeper {gs : hf_gs}  (l0 : Nat) (l1 : Int32) (V0 : hf_H) (t : (Nat ⊕ Unit) × hf_H) (e : spX5_goesDeeper l0 l1 V0 = some t) : hf_ConT gs yX5_goesDeeper cX5_goesDeeper 2 (none) 1 22 [.ref l0, .int l1] V0 (hf_dTV t) := hf_entryT (by decide) [.ref l0, .int l1] (Nat.le_of_ble_eq_true rfl) [(0, .ref l0), (1, .int l1)] rfl e (fun C o og ot => jtX5_goesDeeper o og ot l0 l1 V0)

/-! X5_value -/
theorem mvX5_89 : hf_MV RX5 89 RX5 yX5_counts cX5_counts 2 (none) 1 := ⟨lw_V q860 q862 qs25 q163 q863, by decide +kernel⟩
theorem miX5_94 : hf_MI RX5 94 yX11_init cX11_init 2 1 := ⟨⟨q868, q179, q866, q867, rfl⟩, by decide +kernel⟩
theorem mvX5_82 : hf_MV RX5 82 RX5 yX5_number cX5_number 5 (some .int) 2 := ⟨lw_V q602 q604 qs9 q163 q605, by decide +kernel⟩
theorem miX5_86 : hf_MI RX5 86 yX10_init cX10_init 2 1 := ⟨⟨q851, q178, q849, q850, rfl⟩, by decide +kernel⟩
def ndX5_value_41 (gs : hf_gs) (k41 : Nat → Int32 → Int32 → hf_H → Option ((Nat ⊕ Nat) × hf_H)) (l0 : Nat) (l1 : Int32) (l2 : Int32) (V0 : hf_H) : Option ((Nat ⊕ Nat) × hf_H) :=
  (hf_ga 0 5 0 V0 l0).bind fun x1 =>
  (hf_pal (.object "java/lang/String") V0 x1).bind fun x2 =>
  if x2 ≤ l2 then ((hf_ga 0 5 6 V0 l0).bind fun x3 =>
  (hf_ob 1 0 V0 x3).bind fun _ =>
  hf_b2 (spX0_fails x3 (0 : Int32) l1 V0) fun x5 g4 =>
  (hf_ob 0 3 g4 x5).bind fun _ => some (.inl x5, g4)) else
  (hf_ga 0 5 0 V0 l0).bind fun x6 =>
  (hf_nn (hf_paq (.object "java/lang/String") V0 x6 l2)).bind fun x7 =>
  (hf_ob 0 5 V0 l0).bind fun _ =>
  hf_b2 (spX5_isWord gs l0 x7 V0) fun x9 g8 =>
  if x9 = 0 then (hf_let (l2 + (1 : Int32)) fun x20 =>
  k41 l0 l1 x20 g8) else
  (hf_ob 0 5 g8 l0).bind fun _ =>
  hf_bT (spX5_counts l0 l1 g8) fun _ g10 =>
  (hf_gi 0 5 1 g10 l0).bind fun x11 =>
  (hf_ga 0 5 0 g10 l0).bind fun x12 =>
  (hf_nn (hf_paq (.object "java/lang/String") g10 x12 l2)).bind fun x13 =>
  (hf_st g10 x13).bind fun _ =>
  hf_b2 (spJ5_length x13 g10) fun x15 g14 =>
  (hf_pi 0 5 1 g14 l0 (x11 + x15)).bind fun g16 =>
  hf_mk g16 (.inl (0, 11, hf_V0)) 1 fun x17 g18 =>
  (spX11_init x17 l2 g18).bind fun g19 =>
  some (.inr x17, g19)
theorem nlX5_value_41 {C : hf_X} {gs : hf_gs} (o : hf_In C cX5_value RX5 3 (some (.object "HalfFair$Value")) 5 109) (og : hf_G C gs) (ot : hf_Thr C) (k41 : Nat → Int32 → Int32 → hf_H → Option ((Nat ⊕ Nat) × hf_H)) (hk41 : ∀ (l0 : Nat) (l1 : Int32) (l2 : Int32) (V0 : hf_H), hf_J C hf_dTA (k41 l0 l1 l2 V0) V0 41 [(0, .ref l0), (1, .int l1), (2, .int l2)] []) (l0 : Nat) (l1 : Int32) (l2 : Int32) (V0 : hf_H) : hf_J C hf_dTA (ndX5_value_41 gs k41 l0 l1 l2 V0) V0 41 [(0, .ref l0), (1, .int l1), (2, .int l2)] [] := by
  refine hr_iload_n o 2 dX5_value_41 rfl ?_
  refine hr_aload_n o 0 dX5_value_42 rfl ?_
  refine hr_getA (md := 0) o flX5_15 dX5_value_43 (fun _ => rfl) (fun x1 => ?_)
  refine hx_palen o (.object "java/lang/String") (by simp [hf_tys]) dX5_value_46 (fun x2 => ?_)
  refine hr_icmp_ge o 104 dX5_value_47 (by decide) (fun _ => ?_) (fun _ => ?_)
  · refine hr_aload_n o 0 dX5_value_104 rfl ?_
    refine hr_getA (md := 0) o flX5_3 dX5_value_105 (fun _ => rfl) (fun x3 => ?_)
    refine hr_iconst o (0 : Int32) dX5_value_108 (by decide) ?_
    refine hr_iload_n o 1 dX5_value_109 rfl ?_
    refine hx_callVNA (q := (RX0, TX0, 23)) o og mvnX5_69 dX5_value_110 1 0 rfl [.int (0 : Int32), .int l1] (fun zr zg ze => mtX0_fails x3 (0 : Int32) l1 V0 zr zg ze) rfl rfl (Nat.le_of_ble_eq_true rfl) ⟨by decide, by decide⟩ (fun x5 g4 => ?_)
    exact hT_athrow o ot dX5_value_113
  refine hr_aload_n o 0 dX5_value_50 rfl ?_
  refine hr_aload_n o 0 dX5_value_51 rfl ?_
  refine hr_getA (md := 0) o flX5_15 dX5_value_52 (fun _ => rfl) (fun x6 => ?_)
  refine hr_iload_n o 2 dX5_value_55 rfl ?_
  refine hx_paald o "java/lang/String" (by simp [hf_tys]) dX5_value_56 (fun x7 => ?_)
  refine hx_callVI (q := (RX5, TX5, 7)) o og mvX5_61 dX5_value_57 0 5 rfl [.ref x7] (fun zr zg ze => mtX5_isWord l0 x7 V0 zr zg ze) rfl rfl (Nat.le_of_ble_eq_true rfl) ⟨by decide, by decide⟩ (fun x9 g8 => ?_)
  refine hr_if_ne o 66 dX5_value_60 (by decide) (fun _ => ?_) (fun _ => ?_)
  · refine hr_goto o 98 dX5_value_63 (by decide) ?_
    refine hr_iincN o (1 : Int32) 2 (fun y => [(2, .int y), (0, .ref l0), (1, .int l1)]) dX5_value_98 rfl (by decide) (by decide) (fun y => rfl) (fun x20 => ?_)
    refine hr_goto o 41 dX5_value_101 (by decide) ?_
    refine hr_sub [1, 2, 0] rfl ?_
    exact hk41 l0 l1 x20 g8
  refine hr_aload_n o 0 dX5_value_66 rfl ?_
  refine hr_iload_n o 1 dX5_value_67 rfl ?_
  refine hT_callV (q := (RX5, TX5, 7)) o og ot mvX5_89 dX5_value_68 rfl [.int l1] (fun z ze => mtX5_counts l0 l1 g8 z ze) rfl rfl (Nat.le_of_ble_eq_true rfl) ⟨by decide, by decide⟩ (fun _ g10 => ?_)
  refine hr_aload_n o 0 dX5_value_71 rfl ?_
  refine hr_dup o dX5_value_72 rfl ?_
  refine hr_getI (md := 0) o flX5_23 dX5_value_73 (fun _ => rfl) (fun x11 => ?_)
  refine hr_aload_n o 0 dX5_value_76 rfl ?_
  refine hr_getA (md := 0) o flX5_15 dX5_value_77 (fun _ => rfl) (fun x12 => ?_)
  refine hr_iload_n o 2 dX5_value_80 rfl ?_
  refine hx_paald o "java/lang/String" (by simp [hf_tys]) dX5_value_81 (fun x13 => ?_)
  refine hx_S_callVI o og mvX5_52 dX5_value_82 [] (fun zr zg ze => mtJ5_length x13 g10 zr zg ze) rfl rfl (Nat.le_of_ble_eq_true rfl) ⟨by decide, by decide⟩ (fun x15 g14 => ?_)
  refine hr_iadd o dX5_value_85 ?_
  refine hx_putI (md := 0) o flX5_23 dX5_value_86 rfl (Or.inl nf_5_1) rfl rfl (fun _ => rfl) (fun g16 => ?_)
  refine hx_new (ci := 11) (q := (RX11, TX11, 1)) o rfl q864 q865 q179 in_X11 tyX11_ok (hf_def (by decide) (by decide)) dX5_value_89 (fun x17 g18 => ?_)
  refine hr_dup o dX5_value_92 rfl ?_
  refine hr_iload_n o 2 dX5_value_93 rfl ?_
  refine hx_callIV o og miX5_94 dX5_value_94 [.int l2] (fun zg ze => mtX11_init x17 l2 g18 zg ze) rfl rfl (Nat.le_of_ble_eq_true rfl) ⟨by decide, by decide⟩ (fun g19 => ?_)
  exact hr_aret o dX5_value_97 (Or.inl ⟨_, rfl⟩) (Or.inr ⟨_, rfl⟩) rfl
def lpX5_value_41 (gs : hf_gs)  : Nat → Nat → Int32 → Int32 → hf_H → Option ((Nat ⊕ Nat) × hf_H)
  | 0 => fun _ _ _ _ => none
  | n + 1 => fun l0 l1 l2 V0 => ndX5_value_41 gs  (lpX5_value_41 gs  n) l0 l1 l2 V0
theorem llX5_value_41 {C : hf_X} {gs : hf_gs} (o : hf_In C cX5_value RX5 3 (some (.object "HalfFair$Value")) 5 109) (og : hf_G C gs) (ot : hf_Thr C)   (n : Nat) : ∀ (l0 : Nat) (l1 : Int32) (l2 : Int32) (V0 : hf_H), hf_J C hf_dTA ((lpX5_value_41 gs  n) l0 l1 l2 V0) V0 41 [(0, .ref l0), (1, .int l1), (2, .int l2)] [] := by
  induction n with
  | zero => exact fun _ _ _ _ => hr_none
  | succ n ih => exact fun l0 l1 l2 V0 => nlX5_value_41 o og ot  (lpX5_value_41 gs  n)  ih l0 l1 l2 V0
def spX5_value (gs : hf_gs) (l0 : Nat) (V0 : hf_H) : Option ((Nat ⊕ Nat) × hf_H) :=
  (hf_ob 0 5 V0 l0).bind fun _ =>
  hf_b2 (spX5_next l0 V0) fun x2 g1 =>
  (hf_gi 0 5 1 g1 l0).bind fun x3 =>
  (hf_ob 0 5 g1 l0).bind fun _ =>
  hf_b2 (spX5_isDigit l0 g1) fun x5 g4 =>
  if x5 = 0 then (lpX5_value_41 gs hf_N l0 x3 (0 : Int32) g4) else
  hf_mk g4 (.inl (0, 10, hf_V0)) 1 fun x6 g7 =>
  (hf_ob 0 5 g7 l0).bind fun _ =>
  hf_bT (spX5_number l0 (0 : Int32) (99999 : Int32) g7) fun x9 g8 =>
  (spX10_init x6 x9 g8).bind fun g10 =>
  (hf_ob 0 5 g10 l0).bind fun _ =>
  hf_bT (spX5_counts l0 x3 g10) fun _ g11 =>
  some (.inr x6, g11)
theorem jtX5_value {C : hf_X} {gs : hf_gs} (o : hf_In C cX5_value RX5 3 (some (.object "HalfFair$Value")) 5 109) (og : hf_G C gs) (ot : hf_Thr C) (l0 : Nat) (V0 : hf_H) : hf_J C hf_dTA (spX5_value gs l0 V0) V0 0 [(0, .ref l0)] [] := by
  refine hr_aload_n o 0 dX5_value_0 rfl ?_
  refine hx_callVI (q := (RX5, TX5, 7)) o og mvX5_45 dX5_value_1 0 5 rfl [] (fun zr zg ze => mtX5_next l0 V0 zr zg ze) rfl rfl (Nat.le_of_ble_eq_true rfl) ⟨by decide, by decide⟩ (fun x2 g1 => ?_)
  refine hr_pop o dX5_value_4 rfl ?_
  refine hr_aload_n o 0 dX5_value_5 rfl ?_
  refine hr_getI (md := 0) o flX5_23 dX5_value_6 (fun _ => rfl) (fun x3 => ?_)
  refine hr_istore_n o [(1, .int x3), (0, .ref l0)] dX5_value_9 (by decide) rfl ?_
  refine hr_aload_n o 1 dX5_value_10 rfl ?_
  refine hx_callVI (q := (RX5, TX5, 7)) o og mvX5_65 dX5_value_11 0 5 rfl [] (fun zr zg ze => mtX5_isDigit l0 g1 zr zg ze) rfl rfl (Nat.le_of_ble_eq_true rfl) ⟨by decide, by decide⟩ (fun x5 g4 => ?_)
  refine hr_if_eq o 39 dX5_value_14 (by decide) (fun _ => ?_) (fun _ => ?_)
  · refine hr_iconst o (0 : Int32) dX5_value_39 (by decide) ?_
    refine hr_istore_n o [(2, .int (0 : Int32)), (1, .int x3), (0, .ref l0)] dX5_value_40 (by decide) rfl ?_
    refine hr_sub [2, 1, 0] rfl ?_
    exact llX5_value_41 o og ot hf_N l0 x3 (0 : Int32) g4
  refine hx_new (ci := 10) (q := (RX10, TX10, 1)) o rfl q846 q847 q178 in_X10 tyX10_ok (hf_def (by decide) (by decide)) dX5_value_17 (fun x6 g7 => ?_)
  refine hr_dup o dX5_value_20 rfl ?_
  refine hr_aload_n o 1 dX5_value_21 rfl ?_
  refine hr_iconst o (0 : Int32) dX5_value_22 (by decide) ?_
  refine hr_ldc o (99999 : Int32) q848 dX5_value_23 ?_
  refine hT_callV (q := (RX5, TX5, 7)) o og ot mvX5_82 dX5_value_25 rfl [.int (0 : Int32), .int (99999 : Int32)] (fun z ze => mtX5_number l0 (0 : Int32) (99999 : Int32) g7 z ze) rfl rfl (Nat.le_of_ble_eq_true rfl) ⟨by decide, by decide⟩ (fun x9 g8 => ?_)
  refine hx_callIV o og miX5_86 dX5_value_28 [.int x9] (fun zg ze => mtX10_init x6 x9 g8 zg ze) rfl rfl (Nat.le_of_ble_eq_true rfl) ⟨by decide, by decide⟩ (fun g10 => ?_)
  refine hr_astore_n o [(2, .ref x6), (1, .int x3), (0, .ref l0)] dX5_value_31 (by decide) rfl ?_
  refine hr_aload_n o 2 dX5_value_32 rfl ?_
  refine hr_iload_n o 1 dX5_value_33 rfl ?_
  refine hT_callV (q := (RX5, TX5, 7)) o og ot mvX5_89 dX5_value_34 rfl [.int x3] (fun z ze => mtX5_counts l0 x3 g10 z ze) rfl rfl (Nat.le_of_ble_eq_true rfl) ⟨by decide, by decide⟩ (fun _ g11 => ?_)
  refine hr_aload_n o 0 dX5_value_37 rfl ?_
  exact hr_aret o dX5_value_38 (Or.inl ⟨_, rfl⟩) (Or.inr ⟨_, rfl⟩) rfl
theorem mtX5_value {gs : hf_gs}  (l0 : Nat) (V0 : hf_H) (t : (Nat ⊕ Nat) × hf_H) (e : spX5_value gs l0 V0 = some t) : hf_ConT gs yX5_value cX5_value 3 (some (.object "HalfFair$Value")) 5 109 [.ref l0] V0 (hf_dTA t) := hf_entryT (by decide) [.ref l0] (Nat.le_of_ble_eq_true rfl) [(0, .ref l0)] rfl e (fun C o og ot => jtX5_value o og ot l0 V0)

/-! X5_term -/
theorem mvX5_95 : hf_MV RX5 95 RX5 yX5_value cX5_value 3 (some (.object "HalfFair$Value")) 0 := ⟨lw_V q842 q844 qs24 q163 q845, by decide +kernel⟩
theorem miX5_101 : hf_MI RX5 101 yX12_init cX12_init 4 3 := ⟨⟨q878, q180, q876, q877, rfl⟩, by decide +kernel⟩
def ndX5_term_32 (gs : hf_gs) (k5 : Nat → Nat → hf_H → Option ((Nat ⊕ Nat) × hf_H)) (l0 : Nat) (l1 : Nat) (V0 : hf_H) : Option ((Nat ⊕ Nat) × hf_H) :=
  (hf_ob 0 5 V0 l0).bind fun _ =>
  hf_b2 (spX5_sign l0 V0) fun x2 g1 =>
  (hf_gi 0 5 1 g1 l0).bind fun x3 =>
  (hf_pi 0 5 1 g1 l0 (x3 + (1 : Int32))).bind fun g4 =>
  hf_mk g4 (.inl (0, 12, hf_V0)) 3 fun x5 g6 =>
  (hf_ob 0 5 g6 l0).bind fun _ =>
  hf_bT (spX5_value gs l0 g6) fun x8 g7 =>
  (spX12_init x5 l1 x8 x2 g7).bind fun g9 =>
  k5 l0 x5 g9
theorem nlX5_term_32 {C : hf_X} {gs : hf_gs} (o : hf_In C cX5_term RX5 3 (some (.object "HalfFair$Value")) 6 131) (og : hf_G C gs) (ot : hf_Thr C) (k5 : Nat → Nat → hf_H → Option ((Nat ⊕ Nat) × hf_H)) (hk5 : ∀ (l0 : Nat) (l1 : Nat) (V0 : hf_H), hf_J C hf_dTA (k5 l0 l1 V0) V0 5 [(0, .ref l0), (1, .ref l1)] []) (l0 : Nat) (l1 : Nat) (V0 : hf_H) : hf_J C hf_dTA (ndX5_term_32 gs k5 l0 l1 V0) V0 32 [(0, .ref l0), (1, .ref l1)] [] := by
  refine hr_aload_n o 0 dX5_term_32 rfl ?_
  refine hx_callVI (q := (RX5, TX5, 7)) o og mvX5_33 dX5_term_33 0 5 rfl [] (fun zr zg ze => mtX5_sign l0 V0 zr zg ze) rfl rfl (Nat.le_of_ble_eq_true rfl) ⟨by decide, by decide⟩ (fun x2 g1 => ?_)
  refine hr_istore_n o [(2, .int x2), (0, .ref l0), (1, .ref l1)] dX5_term_36 (by decide) rfl ?_
  refine hr_aload_n o 1 dX5_term_37 rfl ?_
  refine hr_dup o dX5_term_38 rfl ?_
  refine hr_getI (md := 0) o flX5_23 dX5_term_39 (fun _ => rfl) (fun x3 => ?_)
  refine hr_iconst o (1 : Int32) dX5_term_42 (by decide) ?_
  refine hr_iadd o dX5_term_43 ?_
  refine hx_putI (md := 0) o flX5_23 dX5_term_44 rfl (Or.inl nf_5_1) rfl rfl (fun _ => rfl) (fun g4 => ?_)
  refine hx_new (ci := 12) (q := (RX12, TX12, 3)) o rfl q874 q875 q180 in_X12 tyX12_ok (hf_def (by decide) (by decide)) dX5_term_47 (fun x5 g6 => ?_)
  refine hr_dup o dX5_term_50 rfl ?_
  refine hr_aload_n o 2 dX5_term_51 rfl ?_
  refine hr_aload_n o 1 dX5_term_52 rfl ?_
  refine hT_callV (q := (RX5, TX5, 7)) o og ot mvX5_95 dX5_term_53 rfl [] (fun z ze => mtX5_value l0 g6 z ze) rfl rfl (Nat.le_of_ble_eq_true rfl) ⟨by decide, by decide⟩ (fun x8 g7 => ?_)
  refine hr_iload_n o 0 dX5_term_56 rfl ?_
  refine hx_callIV o og miX5_101 dX5_term_57 [.ref l1, .ref x8, .int x2] (fun zg ze => mtX12_init x5 l1 x8 x2 g7 zg ze) rfl rfl (Nat.le_of_ble_eq_true rfl) ⟨by decide, by decide⟩ (fun g9 => ?_)
  refine hr_astore_n o [(1, .ref x5), (2, .int x2), (0, .ref l0)] dX5_term_60 (by decide) rfl ?_
  refine hr_goto o 5 dX5_term_61 (by decide) ?_
  refine hr_sub [2, 0] rfl ?_
  exact hk5 l0 x5 g9
def ndX5_term_5 (gs : hf_gs) (k5 : Nat → Nat → hf_H → Option ((Nat ⊕ Nat) × hf_H)) (l0 : Nat) (l1 : Nat) (V0 : hf_H) : Option ((Nat ⊕ Nat) × hf_H) :=
  (hf_ob 0 5 V0 l0).bind fun _ =>
  hf_b2 (spX5_next l0 V0) fun x2 g1 =>
  if x2 = (42 : Int32) then (ndX5_term_32 gs k5 l0 l1 g1) else
  (hf_ob 0 5 g1 l0).bind fun _ =>
  hf_b2 (spX5_sign l0 g1) fun x4 g3 =>
  if x4 = (47 : Int32) then (ndX5_term_32 gs k5 l0 l1 g3) else
  (hf_ob 0 5 g3 l0).bind fun _ =>
  hf_b2 (spX5_sign l0 g3) fun x6 g5 =>
  if x6 = (37 : Int32) then (ndX5_term_32 gs k5 l0 l1 g5) else
  some (.inr l1, g5)
theorem nlX5_term_5 {C : hf_X} {gs : hf_gs} (o : hf_In C cX5_term RX5 3 (some (.object "HalfFair$Value")) 6 131) (og : hf_G C gs) (ot : hf_Thr C) (k5 : Nat → Nat → hf_H → Option ((Nat ⊕ Nat) × hf_H)) (hk5 : ∀ (l0 : Nat) (l1 : Nat) (V0 : hf_H), hf_J C hf_dTA (k5 l0 l1 V0) V0 5 [(0, .ref l0), (1, .ref l1)] []) (l0 : Nat) (l1 : Nat) (V0 : hf_H) : hf_J C hf_dTA (ndX5_term_5 gs k5 l0 l1 V0) V0 5 [(0, .ref l0), (1, .ref l1)] [] := by
  refine hr_aload_n o 0 dX5_term_5 rfl ?_
  refine hx_callVI (q := (RX5, TX5, 7)) o og mvX5_45 dX5_term_6 0 5 rfl [] (fun zr zg ze => mtX5_next l0 V0 zr zg ze) rfl rfl (Nat.le_of_ble_eq_true rfl) ⟨by decide, by decide⟩ (fun x2 g1 => ?_)
  refine hr_bipush o (42 : Int32) dX5_term_9 (by decide) ?_
  refine hr_icmp_eq o 32 dX5_term_11 (by decide) (fun _ => ?_) (fun _ => ?_)
  · exact nlX5_term_32 o og ot k5 hk5 l0 l1 g1
  refine hr_aload_n o 0 dX5_term_14 rfl ?_
  refine hx_callVI (q := (RX5, TX5, 7)) o og mvX5_33 dX5_term_15 0 5 rfl [] (fun zr zg ze => mtX5_sign l0 g1 zr zg ze) rfl rfl (Nat.le_of_ble_eq_true rfl) ⟨by decide, by decide⟩ (fun x4 g3 => ?_)
  refine hr_bipush o (47 : Int32) dX5_term_18 (by decide) ?_
  refine hr_icmp_eq o 32 dX5_term_20 (by decide) (fun _ => ?_) (fun _ => ?_)
  · exact nlX5_term_32 o og ot k5 hk5 l0 l1 g3
  refine hr_aload_n o 0 dX5_term_23 rfl ?_
  refine hx_callVI (q := (RX5, TX5, 7)) o og mvX5_33 dX5_term_24 0 5 rfl [] (fun zr zg ze => mtX5_sign l0 g3 zr zg ze) rfl rfl (Nat.le_of_ble_eq_true rfl) ⟨by decide, by decide⟩ (fun x6 g5 => ?_)
  refine hr_bipush o (37 : Int32) dX5_term_27 (by decide) ?_
  refine hr_icmp_ne o 64 dX5_term_29 (by decide) (fun _ => ?_) (fun _ => ?_)
  · exact nlX5_term_32 o og ot k5 hk5 l0 l1 g5
  refine hr_aload_n o 1 dX5_term_64 rfl ?_
  exact hr_aret o dX5_term_65 (Or.inl ⟨_, rfl⟩) (Or.inr ⟨_, rfl⟩) rfl
def lpX5_term_5 (gs : hf_gs)  : Nat → Nat → Nat → hf_H → Option ((Nat ⊕ Nat) × hf_H)
  | 0 => fun _ _ _ => none
  | n + 1 => fun l0 l1 V0 => ndX5_term_5 gs  (lpX5_term_5 gs  n) l0 l1 V0
theorem llX5_term_5 {C : hf_X} {gs : hf_gs} (o : hf_In C cX5_term RX5 3 (some (.object "HalfFair$Value")) 6 131) (og : hf_G C gs) (ot : hf_Thr C)   (n : Nat) : ∀ (l0 : Nat) (l1 : Nat) (V0 : hf_H), hf_J C hf_dTA ((lpX5_term_5 gs  n) l0 l1 V0) V0 5 [(0, .ref l0), (1, .ref l1)] [] := by
  induction n with
  | zero => exact fun _ _ _ => hr_none
  | succ n ih => exact fun l0 l1 V0 => nlX5_term_5 o og ot  (lpX5_term_5 gs  n)  ih l0 l1 V0
def spX5_term (gs : hf_gs) (l0 : Nat) (V0 : hf_H) : Option ((Nat ⊕ Nat) × hf_H) :=
  (hf_ob 0 5 V0 l0).bind fun _ =>
  hf_bT (spX5_value gs l0 V0) fun x2 g1 =>
  lpX5_term_5 gs hf_N l0 x2 g1
theorem jtX5_term {C : hf_X} {gs : hf_gs} (o : hf_In C cX5_term RX5 3 (some (.object "HalfFair$Value")) 6 131) (og : hf_G C gs) (ot : hf_Thr C) (l0 : Nat) (V0 : hf_H) : hf_J C hf_dTA (spX5_term gs l0 V0) V0 0 [(0, .ref l0)] [] := by
  refine hr_aload_n o 0 dX5_term_0 rfl ?_
  refine hT_callV (q := (RX5, TX5, 7)) o og ot mvX5_95 dX5_term_1 rfl [] (fun z ze => mtX5_value l0 V0 z ze) rfl rfl (Nat.le_of_ble_eq_true rfl) ⟨by decide, by decide⟩ (fun x2 g1 => ?_)
  refine hr_astore_n o [(1, .ref x2), (0, .ref l0)] dX5_term_4 (by decide) rfl ?_
  refine hr_sub [1, 0] rfl ?_
  exact llX5_term_5 o og ot hf_N l0 x2 g1
theorem mtX5_term {gs : hf_gs}  (l0 : Nat) (V0 : hf_H) (t : (Nat ⊕ Nat) × hf_H) (e : spX5_term gs l0 V0 = some t) : hf_ConT gs yX5_term cX5_term 3 (some (.object "HalfFair$Value")) 6 131 [.ref l0] V0 (hf_dTA t) := hf_entryT (by decide) [.ref l0] (Nat.le_of_ble_eq_true rfl) [(0, .ref l0)] rfl e (fun C o og ot => jtX5_term o og ot l0 V0)

/-! X5_sum -/
theorem mvX5_104 : hf_MV RX5 104 RX5 yX5_term cX5_term 3 (some (.object "HalfFair$Value")) 0 := ⟨lw_V q838 q840 qs23 q163 q841, by decide +kernel⟩
def ndX5_sum_23 (gs : hf_gs) (k5 : Nat → Nat → hf_H → Option ((Nat ⊕ Nat) × hf_H)) (l0 : Nat) (l1 : Nat) (V0 : hf_H) : Option ((Nat ⊕ Nat) × hf_H) :=
  (hf_ob 0 5 V0 l0).bind fun _ =>
  hf_b2 (spX5_sign l0 V0) fun x2 g1 =>
  (hf_gi 0 5 1 g1 l0).bind fun x3 =>
  (hf_pi 0 5 1 g1 l0 (x3 + (1 : Int32))).bind fun g4 =>
  hf_mk g4 (.inl (0, 12, hf_V0)) 3 fun x5 g6 =>
  (hf_ob 0 5 g6 l0).bind fun _ =>
  hf_bT (spX5_term gs l0 g6) fun x8 g7 =>
  (spX12_init x5 l1 x8 x2 g7).bind fun g9 =>
  k5 l0 x5 g9
theorem nlX5_sum_23 {C : hf_X} {gs : hf_gs} (o : hf_In C cX5_sum RX5 3 (some (.object "HalfFair$Value")) 7 153) (og : hf_G C gs) (ot : hf_Thr C) (k5 : Nat → Nat → hf_H → Option ((Nat ⊕ Nat) × hf_H)) (hk5 : ∀ (l0 : Nat) (l1 : Nat) (V0 : hf_H), hf_J C hf_dTA (k5 l0 l1 V0) V0 5 [(0, .ref l0), (1, .ref l1)] []) (l0 : Nat) (l1 : Nat) (V0 : hf_H) : hf_J C hf_dTA (ndX5_sum_23 gs k5 l0 l1 V0) V0 23 [(0, .ref l0), (1, .ref l1)] [] := by
  refine hr_aload_n o 0 dX5_sum_23 rfl ?_
  refine hx_callVI (q := (RX5, TX5, 7)) o og mvX5_33 dX5_sum_24 0 5 rfl [] (fun zr zg ze => mtX5_sign l0 V0 zr zg ze) rfl rfl (Nat.le_of_ble_eq_true rfl) ⟨by decide, by decide⟩ (fun x2 g1 => ?_)
  refine hr_istore_n o [(2, .int x2), (0, .ref l0), (1, .ref l1)] dX5_sum_27 (by decide) rfl ?_
  refine hr_aload_n o 1 dX5_sum_28 rfl ?_
  refine hr_dup o dX5_sum_29 rfl ?_
  refine hr_getI (md := 0) o flX5_23 dX5_sum_30 (fun _ => rfl) (fun x3 => ?_)
  refine hr_iconst o (1 : Int32) dX5_sum_33 (by decide) ?_
  refine hr_iadd o dX5_sum_34 ?_
  refine hx_putI (md := 0) o flX5_23 dX5_sum_35 rfl (Or.inl nf_5_1) rfl rfl (fun _ => rfl) (fun g4 => ?_)
  refine hx_new (ci := 12) (q := (RX12, TX12, 3)) o rfl q874 q875 q180 in_X12 tyX12_ok (hf_def (by decide) (by decide)) dX5_sum_38 (fun x5 g6 => ?_)
  refine hr_dup o dX5_sum_41 rfl ?_
  refine hr_aload_n o 2 dX5_sum_42 rfl ?_
  refine hr_aload_n o 1 dX5_sum_43 rfl ?_
  refine hT_callV (q := (RX5, TX5, 7)) o og ot mvX5_104 dX5_sum_44 rfl [] (fun z ze => mtX5_term l0 g6 z ze) rfl rfl (Nat.le_of_ble_eq_true rfl) ⟨by decide, by decide⟩ (fun x8 g7 => ?_)
  refine hr_iload_n o 0 dX5_sum_47 rfl ?_
  refine hx_callIV o og miX5_101 dX5_sum_48 [.ref l1, .ref x8, .int x2] (fun zg ze => mtX12_init x5 l1 x8 x2 g7 zg ze) rfl rfl (Nat.le_of_ble_eq_true rfl) ⟨by decide, by decide⟩ (fun g9 => ?_)
  refine hr_astore_n o [(1, .ref x5), (2, .int x2), (0, .ref l0)] dX5_sum_51 (by decide) rfl ?_
  refine hr_goto o 5 dX5_sum_52 (by decide) ?_
  refine hr_sub [2, 0] rfl ?_
  exact hk5 l0 x5 g9
def ndX5_sum_5 (gs : hf_gs) (k5 : Nat → Nat → hf_H → Option ((Nat ⊕ Nat) × hf_H)) (l0 : Nat) (l1 : Nat) (V0 : hf_H) : Option ((Nat ⊕ Nat) × hf_H) :=
  (hf_ob 0 5 V0 l0).bind fun _ =>
  hf_b2 (spX5_next l0 V0) fun x2 g1 =>
  if x2 = (43 : Int32) then (ndX5_sum_23 gs k5 l0 l1 g1) else
  (hf_ob 0 5 g1 l0).bind fun _ =>
  hf_b2 (spX5_sign l0 g1) fun x4 g3 =>
  if x4 = (45 : Int32) then (ndX5_sum_23 gs k5 l0 l1 g3) else
  some (.inr l1, g3)
theorem nlX5_sum_5 {C : hf_X} {gs : hf_gs} (o : hf_In C cX5_sum RX5 3 (some (.object "HalfFair$Value")) 7 153) (og : hf_G C gs) (ot : hf_Thr C) (k5 : Nat → Nat → hf_H → Option ((Nat ⊕ Nat) × hf_H)) (hk5 : ∀ (l0 : Nat) (l1 : Nat) (V0 : hf_H), hf_J C hf_dTA (k5 l0 l1 V0) V0 5 [(0, .ref l0), (1, .ref l1)] []) (l0 : Nat) (l1 : Nat) (V0 : hf_H) : hf_J C hf_dTA (ndX5_sum_5 gs k5 l0 l1 V0) V0 5 [(0, .ref l0), (1, .ref l1)] [] := by
  refine hr_aload_n o 0 dX5_sum_5 rfl ?_
  refine hx_callVI (q := (RX5, TX5, 7)) o og mvX5_45 dX5_sum_6 0 5 rfl [] (fun zr zg ze => mtX5_next l0 V0 zr zg ze) rfl rfl (Nat.le_of_ble_eq_true rfl) ⟨by decide, by decide⟩ (fun x2 g1 => ?_)
  refine hr_bipush o (43 : Int32) dX5_sum_9 (by decide) ?_
  refine hr_icmp_eq o 23 dX5_sum_11 (by decide) (fun _ => ?_) (fun _ => ?_)
  · exact nlX5_sum_23 o og ot k5 hk5 l0 l1 g1
  refine hr_aload_n o 0 dX5_sum_14 rfl ?_
  refine hx_callVI (q := (RX5, TX5, 7)) o og mvX5_33 dX5_sum_15 0 5 rfl [] (fun zr zg ze => mtX5_sign l0 g1 zr zg ze) rfl rfl (Nat.le_of_ble_eq_true rfl) ⟨by decide, by decide⟩ (fun x4 g3 => ?_)
  refine hr_bipush o (45 : Int32) dX5_sum_18 (by decide) ?_
  refine hr_icmp_ne o 55 dX5_sum_20 (by decide) (fun _ => ?_) (fun _ => ?_)
  · exact nlX5_sum_23 o og ot k5 hk5 l0 l1 g3
  refine hr_aload_n o 1 dX5_sum_55 rfl ?_
  exact hr_aret o dX5_sum_56 (Or.inl ⟨_, rfl⟩) (Or.inr ⟨_, rfl⟩) rfl
def lpX5_sum_5 (gs : hf_gs)  : Nat → Nat → Nat → hf_H → Option ((Nat ⊕ Nat) × hf_H)
  | 0 => fun _ _ _ => none
  | n + 1 => fun l0 l1 V0 => ndX5_sum_5 gs  (lpX5_sum_5 gs  n) l0 l1 V0
theorem llX5_sum_5 {C : hf_X} {gs : hf_gs} (o : hf_In C cX5_sum RX5 3 (some (.object "HalfFair$Value")) 7 153) (og : hf_G C gs) (ot : hf_Thr C)   (n : Nat) : ∀ (l0 : Nat) (l1 : Nat) (V0 : hf_H), hf_J C hf_dTA ((lpX5_sum_5 gs  n) l0 l1 V0) V0 5 [(0, .ref l0), (1, .ref l1)] [] := by
  induction n with
  | zero => exact fun _ _ _ => hr_none
  | succ n ih => exact fun l0 l1 V0 => nlX5_sum_5 o og ot  (lpX5_sum_5 gs  n)  ih l0 l1 V0
def spX5_sum (gs : hf_gs) (l0 : Nat) (V0 : hf_H) : Option ((Nat ⊕ Nat) × hf_H) :=
  (hf_ob 0 5 V0 l0).bind fun _ =>
  hf_bT (spX5_term gs l0 V0) fun x2 g1 =>
  lpX5_sum_5 gs hf_N l0 x2 g1
theorem jtX5_sum {C : hf_X} {gs : hf_gs} (o : hf_In C cX5_sum RX5 3 (some (.object "HalfFair$Value")) 7 153) (og : hf_G C gs) (ot : hf_Thr C) (l0 : Nat) (V0 : hf_H) : hf_J C hf_dTA (spX5_sum gs l0 V0) V0 0 [(0, .ref l0)] [] := by
  refine hr_aload_n o 0 dX5_sum_0 rfl ?_
  refine hT_callV (q := (RX5, TX5, 7)) o og ot mvX5_104 dX5_sum_1 rfl [] (fun z ze => mtX5_term l0 V0 z ze) rfl rfl (Nat.le_of_ble_eq_true rfl) ⟨by decide, by decide⟩ (fun x2 g1 => ?_)
  refine hr_astore_n o [(1, .ref x2), (0, .ref l0)] dX5_sum_4 (by decide) rfl ?_
  refine hr_sub [1, 0] rfl ?_
  exact llX5_sum_5 o og ot hf_N l0 x2 g1
theorem mtX5_sum {gs : hf_gs}  (l0 : Nat) (V0 : hf_H) (t : (Nat ⊕ Nat) × hf_H) (e : spX5_sum gs l0 V0 = some t) : hf_ConT gs yX5_sum cX5_sum 3 (some (.object "HalfFair$Value")) 7 153 [.ref l0] V0 (hf_dTA t) := hf_entryT (by decide) [.ref l0] (Nat.le_of_ble_eq_true rfl) [(0, .ref l0)] rfl e (fun C o og ot => jtX5_sum o og ot l0 V0)

/-! X5_fact -/
theorem mvX5_124 : hf_MV RX5 124 RX5 yX5_sum cX5_sum 3 (some (.object "HalfFair$Value")) 0 := ⟨lw_V q834 q836 qs22 q163 q837, by decide +kernel⟩
theorem miX5_129 : hf_MI RX5 129 yX16_init cX16_init 5 4 := ⟨⟨q931, q184, q929, q930, rfl⟩, by decide +kernel⟩
theorem mvX5_109 : hf_MV RX5 109 RX5 yX5_goesDeeper cX5_goesDeeper 2 (none) 1 := ⟨lw_V q910 q912 qs30 q163 q913, by decide +kernel⟩
theorem mvX5_121 : hf_MV RX5 121 RX5 yX5_test cX5_test 2 (some (.object "HalfFair$Condition")) 0 := ⟨lw_V q897 q899 qs27 q163 q900, by decide +kernel⟩
theorem mvX5_114 : hf_MV RX5 114 RX5 yX5_fact cX5_fact 5 (some (.object "HalfFair$Condition")) 0 := ⟨lw_V q905 q907 qs29 q163 q908, by decide +kernel⟩
theorem miX5_118 : hf_MI RX5 118 yX15_init cX15_init 2 1 := ⟨⟨q918, q183, q916, q917, rfl⟩, by decide +kernel⟩
def ndX5_fact_227 (gs : hf_gs) (kf : Nat → hf_H → Option ((Nat ⊕ Nat) × hf_H)) (kt : Nat → hf_H → Option ((Nat ⊕ Nat) × hf_H))  (l0 : Nat) (l2 : Nat) (l3 : Int32) (l4 : Int32) (s0 : Nat) (s1 : Int32) (s2 : Int32) (V0 : hf_H) : Option ((Nat ⊕ Nat) × hf_H) :=
  (hf_pi 0 5 1 V0 s0 (s1 + s2)).bind fun g1 =>
  hf_mk g1 (.inl (0, 16, hf_V0)) 4 fun x2 g3 =>
  (hf_ob 0 5 g3 l0).bind fun _ =>
  hf_bT (spX5_sum gs l0 g3) fun x5 g4 =>
  (spX16_init x2 l2 x5 l3 l4 g4).bind fun g6 =>
  some (.inr x2, g6)
theorem nlX5_fact_227 {C : hf_X} {gs : hf_gs} {fr lc : Nat} {frkf lckf : Nat} {frkt lckt : Nat} (o : hf_In C cX5_fact RX5 5 (some (.object "HalfFair$Condition")) fr lc) (og : hf_G C gs) (ot : hf_Thr C) (kf : Nat → hf_H → Option ((Nat ⊕ Nat) × hf_H)) (hkf : ∀ (z : Nat) (h : hf_H) (t : (Nat ⊕ Nat) × hf_H), kf z h = some t → hf_ConT gs yX5_fact cX5_fact 5 (some (.object "HalfFair$Condition")) frkf lckf [.ref z] h (hf_dTA t)) (bkf : frkf + 1 ≤ fr ∧ 24 + lckf ≤ lc) (kt : Nat → hf_H → Option ((Nat ⊕ Nat) × hf_H)) (hkt : ∀ (z : Nat) (h : hf_H) (t : (Nat ⊕ Nat) × hf_H), kt z h = some t → hf_ConT gs yX5_test cX5_test 2 (some (.object "HalfFair$Condition")) frkt lckt [.ref z] h (hf_dTA t)) (bkt : frkt + 1 ≤ fr ∧ 21 + lckt ≤ lc) (hb : 8 ≤ fr ∧ 175 ≤ lc)   (l0 : Nat) (l2 : Nat) (l3 : Int32) (l4 : Int32) (s0 : Nat) (s1 : Int32) (s2 : Int32) (V0 : hf_H) : hf_J C hf_dTA (ndX5_fact_227 gs kf kt l0 l2 l3 l4 s0 s1 s2 V0) V0 227 [(0, .ref l0), (2, .ref l2), (3, .int l3), (4, .int l4)] [.int s2, .int s1, .ref s0] := by
  refine hr_iadd o dX5_fact_227 ?_
  refine hx_putI (md := 0) o flX5_23 dX5_fact_228 rfl (Or.inl nf_5_1) rfl rfl (fun _ => rfl) (fun g1 => ?_)
  refine hx_new (ci := 16) (q := (RX16, TX16, 4)) o rfl q927 q928 q184 in_X16 tyX16_ok (hf_def (by decide) (by decide)) dX5_fact_231 (fun x2 g3 => ?_)
  refine hr_dup o dX5_fact_234 rfl ?_
  refine hr_aload_n o 1 dX5_fact_235 rfl ?_
  refine hr_aload_n o 0 dX5_fact_236 rfl ?_
  refine hT_callV (q := (RX5, TX5, 7)) o og ot mvX5_124 dX5_fact_237 rfl [] (fun z ze => mtX5_sum l0 g3 z ze) rfl rfl (Nat.le_of_ble_eq_true rfl) ⟨Nat.le_trans (by decide) hb.1, Nat.le_trans (by decide) hb.2⟩ (fun x5 g4 => ?_)
  refine hr_iload_n o 2 dX5_fact_240 rfl ?_
  refine hr_iload o 3 dX5_fact_241 rfl ?_
  refine hx_callIV o og miX5_129 dX5_fact_243 [.ref l2, .ref x5, .int l3, .int l4] (fun zg ze => mtX16_init x2 l2 x5 l3 l4 g4 zg ze) rfl rfl (Nat.le_of_ble_eq_true rfl) ⟨Nat.le_trans (by decide) hb.1, Nat.le_trans (by decide) hb.2⟩ (fun g6 => ?_)
  exact hr_aret o dX5_fact_246 (Or.inl ⟨_, rfl⟩) (Or.inr ⟨_, rfl⟩) rfl
def ndX5_fact_210 (gs : hf_gs) (kf : Nat → hf_H → Option ((Nat ⊕ Nat) × hf_H)) (kt : Nat → hf_H → Option ((Nat ⊕ Nat) × hf_H))  (l0 : Nat) (l2 : Nat) (l3 : Int32) (s0 : Int32) (V0 : hf_H) : Option ((Nat ⊕ Nat) × hf_H) :=
  (hf_gi 0 5 1 V0 l0).bind fun x1 =>
  if s0 = 0 then (ndX5_fact_227 gs kf kt l0 l2 l3 s0 l0 x1 (0 : Int32) V0) else
  ndX5_fact_227 gs kf kt l0 l2 l3 s0 l0 x1 (1 : Int32) V0
theorem nlX5_fact_210 {C : hf_X} {gs : hf_gs} {fr lc : Nat} {frkf lckf : Nat} {frkt lckt : Nat} (o : hf_In C cX5_fact RX5 5 (some (.object "HalfFair$Condition")) fr lc) (og : hf_G C gs) (ot : hf_Thr C) (kf : Nat → hf_H → Option ((Nat ⊕ Nat) × hf_H)) (hkf : ∀ (z : Nat) (h : hf_H) (t : (Nat ⊕ Nat) × hf_H), kf z h = some t → hf_ConT gs yX5_fact cX5_fact 5 (some (.object "HalfFair$Condition")) frkf lckf [.ref z] h (hf_dTA t)) (bkf : frkf + 1 ≤ fr ∧ 24 + lckf ≤ lc) (kt : Nat → hf_H → Option ((Nat ⊕ Nat) × hf_H)) (hkt : ∀ (z : Nat) (h : hf_H) (t : (Nat ⊕ Nat) × hf_H), kt z h = some t → hf_ConT gs yX5_test cX5_test 2 (some (.object "HalfFair$Condition")) frkt lckt [.ref z] h (hf_dTA t)) (bkt : frkt + 1 ≤ fr ∧ 21 + lckt ≤ lc) (hb : 8 ≤ fr ∧ 175 ≤ lc)   (l0 : Nat) (l2 : Nat) (l3 : Int32) (s0 : Int32) (V0 : hf_H) : hf_J C hf_dTA (ndX5_fact_210 gs kf kt l0 l2 l3 s0 V0) V0 210 [(0, .ref l0), (2, .ref l2), (3, .int l3)] [.int s0] := by
  refine hr_istore o [(4, .int s0), (0, .ref l0), (2, .ref l2), (3, .int l3)] dX5_fact_210 (by decide) rfl ?_
  refine hr_aload_n o 1 dX5_fact_212 rfl ?_
  refine hr_dup o dX5_fact_213 rfl ?_
  refine hr_getI (md := 0) o flX5_23 dX5_fact_214 (fun _ => rfl) (fun x1 => ?_)
  refine hr_iload o 0 dX5_fact_217 rfl ?_
  refine hr_if_eq o 226 dX5_fact_219 (by decide) (fun _ => ?_) (fun _ => ?_)
  · refine hr_iconst o (0 : Int32) dX5_fact_226 (by decide) ?_
    refine hr_sub [1, 2, 3, 0] rfl ?_
    exact nlX5_fact_227 o og ot kf hkf bkf kt hkt bkt hb l0 l2 l3 s0 l0 x1 (0 : Int32) V0
  refine hr_iconst o (1 : Int32) dX5_fact_222 (by decide) ?_
  refine hr_goto o 227 dX5_fact_223 (by decide) ?_
  refine hr_sub [1, 2, 3, 0] rfl ?_
  exact nlX5_fact_227 o og ot kf hkf bkf kt hkt bkt hb l0 l2 l3 s0 l0 x1 (1 : Int32) V0
def ndX5_fact_209 (gs : hf_gs) (kf : Nat → hf_H → Option ((Nat ⊕ Nat) × hf_H)) (kt : Nat → hf_H → Option ((Nat ⊕ Nat) × hf_H))  (l0 : Nat) (l2 : Nat) (l3 : Int32) (V0 : hf_H) : Option ((Nat ⊕ Nat) × hf_H) :=
  ndX5_fact_210 gs kf kt l0 l2 l3 (0 : Int32) V0
theorem nlX5_fact_209 {C : hf_X} {gs : hf_gs} {fr lc : Nat} {frkf lckf : Nat} {frkt lckt : Nat} (o : hf_In C cX5_fact RX5 5 (some (.object "HalfFair$Condition")) fr lc) (og : hf_G C gs) (ot : hf_Thr C) (kf : Nat → hf_H → Option ((Nat ⊕ Nat) × hf_H)) (hkf : ∀ (z : Nat) (h : hf_H) (t : (Nat ⊕ Nat) × hf_H), kf z h = some t → hf_ConT gs yX5_fact cX5_fact 5 (some (.object "HalfFair$Condition")) frkf lckf [.ref z] h (hf_dTA t)) (bkf : frkf + 1 ≤ fr ∧ 24 + lckf ≤ lc) (kt : Nat → hf_H → Option ((Nat ⊕ Nat) × hf_H)) (hkt : ∀ (z : Nat) (h : hf_H) (t : (Nat ⊕ Nat) × hf_H), kt z h = some t → hf_ConT gs yX5_test cX5_test 2 (some (.object "HalfFair$Condition")) frkt lckt [.ref z] h (hf_dTA t)) (bkt : frkt + 1 ≤ fr ∧ 21 + lckt ≤ lc) (hb : 8 ≤ fr ∧ 175 ≤ lc)   (l0 : Nat) (l2 : Nat) (l3 : Int32) (V0 : hf_H) : hf_J C hf_dTA (ndX5_fact_209 gs kf kt l0 l2 l3 V0) V0 209 [(0, .ref l0), (2, .ref l2), (3, .int l3)] [] := by
  refine hr_iconst o (0 : Int32) dX5_fact_209 (by decide) ?_
  exact nlX5_fact_210 o og ot kf hkf bkf kt hkt bkt hb l0 l2 l3 (0 : Int32) V0
def ndX5_fact_172 (gs : hf_gs) (kf : Nat → hf_H → Option ((Nat ⊕ Nat) × hf_H)) (kt : Nat → hf_H → Option ((Nat ⊕ Nat) × hf_H))  (l0 : Nat) (l2 : Nat) (l3 : Int32) (V0 : hf_H) : Option ((Nat ⊕ Nat) × hf_H) :=
  (hf_gi 0 5 1 V0 l0).bind fun x1 =>
  (hf_ob 0 5 V0 l0).bind fun _ =>
  hf_bT (spX5_counts l0 x1 V0) fun _ g2 =>
  (hf_gi 0 5 1 g2 l0).bind fun x3 =>
  (hf_pi 0 5 1 g2 l0 (x3 + (1 : Int32))).bind fun g4 =>
  if l3 = (61 : Int32) then (ndX5_fact_209 gs kf kt l0 l2 l3 g4) else
  (hf_ob 0 5 g4 l0).bind fun _ =>
  hf_b2 (spX5_sign l0 g4) fun x6 g5 =>
  if x6 = (61 : Int32) then (ndX5_fact_210 gs kf kt l0 l2 l3 (1 : Int32) g5) else
  ndX5_fact_209 gs kf kt l0 l2 l3 g5
theorem nlX5_fact_172 {C : hf_X} {gs : hf_gs} {fr lc : Nat} {frkf lckf : Nat} {frkt lckt : Nat} (o : hf_In C cX5_fact RX5 5 (some (.object "HalfFair$Condition")) fr lc) (og : hf_G C gs) (ot : hf_Thr C) (kf : Nat → hf_H → Option ((Nat ⊕ Nat) × hf_H)) (hkf : ∀ (z : Nat) (h : hf_H) (t : (Nat ⊕ Nat) × hf_H), kf z h = some t → hf_ConT gs yX5_fact cX5_fact 5 (some (.object "HalfFair$Condition")) frkf lckf [.ref z] h (hf_dTA t)) (bkf : frkf + 1 ≤ fr ∧ 24 + lckf ≤ lc) (kt : Nat → hf_H → Option ((Nat ⊕ Nat) × hf_H)) (hkt : ∀ (z : Nat) (h : hf_H) (t : (Nat ⊕ Nat) × hf_H), kt z h = some t → hf_ConT gs yX5_test cX5_test 2 (some (.object "HalfFair$Condition")) frkt lckt [.ref z] h (hf_dTA t)) (bkt : frkt + 1 ≤ fr ∧ 21 + lckt ≤ lc) (hb : 8 ≤ fr ∧ 175 ≤ lc)   (l0 : Nat) (l2 : Nat) (l3 : Int32) (V0 : hf_H) : hf_J C hf_dTA (ndX5_fact_172 gs kf kt l0 l2 l3 V0) V0 172 [(0, .ref l0), (2, .ref l2), (3, .int l3)] [] := by
  refine hr_aload_n o 0 dX5_fact_172 rfl ?_
  refine hr_aload_n o 0 dX5_fact_173 rfl ?_
  refine hr_getI (md := 0) o flX5_23 dX5_fact_174 (fun _ => rfl) (fun x1 => ?_)
  refine hT_callV (q := (RX5, TX5, 7)) o og ot mvX5_89 dX5_fact_177 rfl [.int x1] (fun z ze => mtX5_counts l0 x1 V0 z ze) rfl rfl (Nat.le_of_ble_eq_true rfl) ⟨Nat.le_trans (by decide) hb.1, Nat.le_trans (by decide) hb.2⟩ (fun _ g2 => ?_)
  refine hr_aload_n o 0 dX5_fact_180 rfl ?_
  refine hr_dup o dX5_fact_181 rfl ?_
  refine hr_getI (md := 0) o flX5_23 dX5_fact_182 (fun _ => rfl) (fun x3 => ?_)
  refine hr_iconst o (1 : Int32) dX5_fact_185 (by decide) ?_
  refine hr_iadd o dX5_fact_186 ?_
  refine hx_putI (md := 0) o flX5_23 dX5_fact_187 rfl (Or.inl nf_5_1) rfl rfl (fun _ => rfl) (fun g4 => ?_)
  refine hr_iload_n o 2 dX5_fact_190 rfl ?_
  refine hr_bipush o (61 : Int32) dX5_fact_191 (by decide) ?_
  refine hr_icmp_eq o 209 dX5_fact_193 (by decide) (fun _ => ?_) (fun _ => ?_)
  · exact nlX5_fact_209 o og ot kf hkf bkf kt hkt bkt hb l0 l2 l3 g4
  refine hr_aload_n o 0 dX5_fact_196 rfl ?_
  refine hx_callVI (q := (RX5, TX5, 7)) o og mvX5_33 dX5_fact_197 0 5 rfl [] (fun zr zg ze => mtX5_sign l0 g4 zr zg ze) rfl rfl (Nat.le_of_ble_eq_true rfl) ⟨Nat.le_trans (by decide) hb.1, Nat.le_trans (by decide) hb.2⟩ (fun x6 g5 => ?_)
  refine hr_bipush o (61 : Int32) dX5_fact_200 (by decide) ?_
  refine hr_icmp_ne o 209 dX5_fact_202 (by decide) (fun _ => ?_) (fun _ => ?_)
  · refine hr_iconst o (1 : Int32) dX5_fact_205 (by decide) ?_
    refine hr_goto o 210 dX5_fact_206 (by decide) ?_
    exact nlX5_fact_210 o og ot kf hkf bkf kt hkt bkt hb l0 l2 l3 (1 : Int32) g5
  exact nlX5_fact_209 o og ot kf hkf bkf kt hkt bkt hb l0 l2 l3 g5
def spX5_fact (gs : hf_gs) (kf : Nat → hf_H → Option ((Nat ⊕ Nat) × hf_H)) (kt : Nat → hf_H → Option ((Nat ⊕ Nat) × hf_H)) (l0 : Nat) (V0 : hf_H) : Option ((Nat ⊕ Nat) × hf_H) :=
  (hf_ob 0 5 V0 l0).bind fun _ =>
  hf_b2 (spX5_next l0 V0) fun x2 g1 =>
  (hf_gi 0 5 1 g1 l0).bind fun x3 =>
  (hf_ob 0 5 g1 l0).bind fun _ =>
  hf_b2 (spX5_isWord gs l0 (gs.2 13) g1) fun x5 g4 =>
  if x5 = 0 then ((hf_ob 0 5 g4 l0).bind fun _ =>
  hf_b2 (spX5_sign l0 g4) fun x7 g6 =>
  if x7 = (91 : Int32) then ((hf_ob 0 5 g6 l0).bind fun _ =>
  hf_bT (spX5_goesDeeper l0 x3 g6) fun _ g16 =>
  (hf_gi 0 5 1 g16 l0).bind fun x17 =>
  (hf_pi 0 5 1 g16 l0 (x17 + (1 : Int32))).bind fun g18 =>
  (hf_ob 0 5 g18 l0).bind fun _ =>
  hf_bT (kt l0 g18) fun x20 g19 =>
  (hf_ob 0 5 g19 l0).bind fun _ =>
  hf_b2 (spX5_next l0 g19) fun x22 g21 =>
  if x22 = (93 : Int32) then ((hf_gi 0 5 1 g21 l0).bind fun x23 =>
  (hf_pi 0 5 1 g21 l0 (x23 + (1 : Int32))).bind fun g24 =>
  (hf_gi 0 5 2 g24 l0).bind fun x25 =>
  (hf_pi 0 5 2 g24 l0 (x25 - (1 : Int32))).bind fun g26 =>
  some (.inr x20, g26)) else
  (hf_ga 0 5 6 g21 l0).bind fun x27 =>
  (hf_gi 0 5 1 g21 l0).bind fun x28 =>
  (hf_ob 1 0 g21 x27).bind fun _ =>
  hf_b2 (spX0_fails x27 (0 : Int32) x28 g21) fun x30 g29 =>
  (hf_ob 0 3 g29 x30).bind fun _ => some (.inl x30, g29)) else
  (hf_ob 0 5 g6 l0).bind fun _ =>
  hf_bT (spX5_sum gs l0 g6) fun x9 g8 =>
  (hf_ob 0 5 g8 l0).bind fun _ =>
  hf_b2 (spX5_next l0 g8) fun x11 g10 =>
  if x11 = (60 : Int32) then (ndX5_fact_172 gs kf kt l0 x9 x11 g10) else
  if x11 = (61 : Int32) then (ndX5_fact_172 gs kf kt l0 x9 x11 g10) else
  if x11 = (62 : Int32) then (ndX5_fact_172 gs kf kt l0 x9 x11 g10) else
  (hf_ga 0 5 6 g10 l0).bind fun x12 =>
  (hf_gi 0 5 1 g10 l0).bind fun x13 =>
  (hf_ob 1 0 g10 x12).bind fun _ =>
  hf_b2 (spX0_fails x12 (0 : Int32) x13 g10) fun x15 g14 =>
  (hf_ob 0 3 g14 x15).bind fun _ => some (.inl x15, g14)) else
  (hf_ob 0 5 g4 l0).bind fun _ =>
  hf_bT (spX5_goesDeeper l0 x3 g4) fun _ g31 =>
  (hf_gi 0 5 1 g31 l0).bind fun x32 =>
  (hf_pi 0 5 1 g31 l0 (x32 + (3 : Int32))).bind fun g33 =>
  hf_mk g33 (.inl (0, 15, hf_V0)) 1 fun x34 g35 =>
  (hf_ob 0 5 g35 l0).bind fun _ =>
  hf_bT (kf l0 g35) fun x37 g36 =>
  (spX15_init x34 x37 g36).bind fun g38 =>
  (hf_gi 0 5 2 g38 l0).bind fun x39 =>
  (hf_pi 0 5 2 g38 l0 (x39 - (1 : Int32))).bind fun g40 =>
  some (.inr x34, g40)
theorem jtX5_fact {C : hf_X} {gs : hf_gs} {fr lc : Nat} {frkf lckf : Nat} {frkt lckt : Nat} (o : hf_In C cX5_fact RX5 5 (some (.object "HalfFair$Condition")) fr lc) (og : hf_G C gs) (ot : hf_Thr C) (kf : Nat → hf_H → Option ((Nat ⊕ Nat) × hf_H)) (hkf : ∀ (z : Nat) (h : hf_H) (t : (Nat ⊕ Nat) × hf_H), kf z h = some t → hf_ConT gs yX5_fact cX5_fact 5 (some (.object "HalfFair$Condition")) frkf lckf [.ref z] h (hf_dTA t)) (bkf : frkf + 1 ≤ fr ∧ 24 + lckf ≤ lc) (kt : Nat → hf_H → Option ((Nat ⊕ Nat) × hf_H)) (hkt : ∀ (z : Nat) (h : hf_H) (t : (Nat ⊕ Nat) × hf_H), kt z h = some t → hf_ConT gs yX5_test cX5_test 2 (some (.object "HalfFair$Condition")) frkt lckt [.ref z] h (hf_dTA t)) (bkt : frkt + 1 ≤ fr ∧ 21 + lckt ≤ lc) (hb : 8 ≤ fr ∧ 175 ≤ lc) (l0 : Nat) (V0 : hf_H) : hf_J C hf_dTA (spX5_fact gs kf kt l0 V0) V0 0 [(0, .ref l0)] [] := by
  refine hr_aload_n o 0 dX5_fact_0 rfl ?_
  refine hx_callVI (q := (RX5, TX5, 7)) o og mvX5_45 dX5_fact_1 0 5 rfl [] (fun zr zg ze => mtX5_next l0 V0 zr zg ze) rfl rfl (Nat.le_of_ble_eq_true rfl) ⟨Nat.le_trans (by decide) hb.1, Nat.le_trans (by decide) hb.2⟩ (fun x2 g1 => ?_)
  refine hr_pop o dX5_fact_4 rfl ?_
  refine hr_aload_n o 0 dX5_fact_5 rfl ?_
  refine hr_getI (md := 0) o flX5_23 dX5_fact_6 (fun _ => rfl) (fun x3 => ?_)
  refine hr_istore_n o [(1, .int x3), (0, .ref l0)] dX5_fact_9 (by decide) rfl ?_
  refine hr_aload_n o 1 dX5_fact_10 rfl ?_
  refine hx_ldcS o og 13 rfl dX5_fact_11 ?_
  refine hx_callVI (q := (RX5, TX5, 7)) o og mvX5_61 dX5_fact_13 0 5 rfl [.ref (gs.2 13)] (fun zr zg ze => mtX5_isWord l0 (gs.2 13) g1 zr zg ze) rfl rfl (Nat.le_of_ble_eq_true rfl) ⟨Nat.le_trans (by decide) hb.1, Nat.le_trans (by decide) hb.2⟩ (fun x5 g4 => ?_)
  refine hr_if_eq o 58 dX5_fact_16 (by decide) (fun _ => ?_) (fun _ => ?_)
  · refine hr_aload_n o 1 dX5_fact_58 rfl ?_
    refine hx_callVI (q := (RX5, TX5, 7)) o og mvX5_33 dX5_fact_59 0 5 rfl [] (fun zr zg ze => mtX5_sign l0 g4 zr zg ze) rfl rfl (Nat.le_of_ble_eq_true rfl) ⟨Nat.le_trans (by decide) hb.1, Nat.le_trans (by decide) hb.2⟩ (fun x7 g6 => ?_)
    refine hr_bipush o (91 : Int32) dX5_fact_62 (by decide) ?_
    refine hr_icmp_ne o 131 dX5_fact_64 (by decide) (fun _ => ?_) (fun _ => ?_)
    · refine hr_aload_n o 1 dX5_fact_67 rfl ?_
      refine hr_iload_n o 0 dX5_fact_68 rfl ?_
      refine hT_callV (q := (RX5, TX5, 7)) o og ot mvX5_109 dX5_fact_69 rfl [.int x3] (fun z ze => mtX5_goesDeeper l0 x3 g6 z ze) rfl rfl (Nat.le_of_ble_eq_true rfl) ⟨Nat.le_trans (by decide) hb.1, Nat.le_trans (by decide) hb.2⟩ (fun _ g16 => ?_)
      refine hr_aload_n o 1 dX5_fact_72 rfl ?_
      refine hr_dup o dX5_fact_73 rfl ?_
      refine hr_getI (md := 0) o flX5_23 dX5_fact_74 (fun _ => rfl) (fun x17 => ?_)
      refine hr_iconst o (1 : Int32) dX5_fact_77 (by decide) ?_
      refine hr_iadd o dX5_fact_78 ?_
      refine hx_putI (md := 0) o flX5_23 dX5_fact_79 rfl (Or.inl nf_5_1) rfl rfl (fun _ => rfl) (fun g18 => ?_)
      refine hr_aload_n o 1 dX5_fact_82 rfl ?_
      refine hT_callV (q := (RX5, TX5, 7)) o og ot mvX5_121 dX5_fact_83 rfl [] (fun z ze => hkt l0 g18 z ze) rfl rfl (Nat.le_of_ble_eq_true rfl) bkt (fun x20 g19 => ?_)
      refine hr_astore_n o [(2, .ref x20), (1, .int x3), (0, .ref l0)] dX5_fact_86 (by decide) rfl ?_
      refine hr_aload_n o 2 dX5_fact_87 rfl ?_
      refine hx_callVI (q := (RX5, TX5, 7)) o og mvX5_45 dX5_fact_88 0 5 rfl [] (fun zr zg ze => mtX5_next l0 g19 zr zg ze) rfl rfl (Nat.le_of_ble_eq_true rfl) ⟨Nat.le_trans (by decide) hb.1, Nat.le_trans (by decide) hb.2⟩ (fun x22 g21 => ?_)
      refine hr_bipush o (93 : Int32) dX5_fact_91 (by decide) ?_
      refine hr_icmp_eq o 109 dX5_fact_93 (by decide) (fun _ => ?_) (fun _ => ?_)
      · refine hr_aload_n o 2 dX5_fact_109 rfl ?_
        refine hr_dup o dX5_fact_110 rfl ?_
        refine hr_getI (md := 0) o flX5_23 dX5_fact_111 (fun _ => rfl) (fun x23 => ?_)
        refine hr_iconst o (1 : Int32) dX5_fact_114 (by decide) ?_
        refine hr_iadd o dX5_fact_115 ?_
        refine hx_putI (md := 0) o flX5_23 dX5_fact_116 rfl (Or.inl nf_5_1) rfl rfl (fun _ => rfl) (fun g24 => ?_)
        refine hr_aload_n o 2 dX5_fact_119 rfl ?_
        refine hr_dup o dX5_fact_120 rfl ?_
        refine hr_getI (md := 0) o flX5_76 dX5_fact_121 (fun _ => rfl) (fun x25 => ?_)
        refine hr_iconst o (1 : Int32) dX5_fact_124 (by decide) ?_
        refine hr_isub o dX5_fact_125 ?_
        refine hx_putI (md := 0) o flX5_76 dX5_fact_126 rfl (Or.inl nf_5_2) rfl rfl (fun _ => rfl) (fun g26 => ?_)
        refine hr_aload_n o 0 dX5_fact_129 rfl ?_
        exact hr_aret o dX5_fact_130 (Or.inl ⟨_, rfl⟩) (Or.inr ⟨_, rfl⟩) rfl
      refine hr_aload_n o 2 dX5_fact_96 rfl ?_
      refine hr_getA (md := 0) o flX5_3 dX5_fact_97 (fun _ => rfl) (fun x27 => ?_)
      refine hr_iconst o (0 : Int32) dX5_fact_100 (by decide) ?_
      refine hr_aload_n o 2 dX5_fact_101 rfl ?_
      refine hr_getI (md := 0) o flX5_23 dX5_fact_102 (fun _ => rfl) (fun x28 => ?_)
      refine hx_callVNA (q := (RX0, TX0, 23)) o og mvnX5_69 dX5_fact_105 1 0 rfl [.int (0 : Int32), .int x28] (fun zr zg ze => mtX0_fails x27 (0 : Int32) x28 g21 zr zg ze) rfl rfl (Nat.le_of_ble_eq_true rfl) ⟨Nat.le_trans (by decide) hb.1, Nat.le_trans (by decide) hb.2⟩ (fun x30 g29 => ?_)
      exact hT_athrow o ot dX5_fact_108
    refine hr_aload_n o 1 dX5_fact_131 rfl ?_
    refine hT_callV (q := (RX5, TX5, 7)) o og ot mvX5_124 dX5_fact_132 rfl [] (fun z ze => mtX5_sum l0 g6 z ze) rfl rfl (Nat.le_of_ble_eq_true rfl) ⟨Nat.le_trans (by decide) hb.1, Nat.le_trans (by decide) hb.2⟩ (fun x9 g8 => ?_)
    refine hr_astore_n o [(2, .ref x9), (1, .int x3), (0, .ref l0)] dX5_fact_135 (by decide) rfl ?_
    refine hr_aload_n o 2 dX5_fact_136 rfl ?_
    refine hx_callVI (q := (RX5, TX5, 7)) o og mvX5_45 dX5_fact_137 0 5 rfl [] (fun zr zg ze => mtX5_next l0 g8 zr zg ze) rfl rfl (Nat.le_of_ble_eq_true rfl) ⟨Nat.le_trans (by decide) hb.1, Nat.le_trans (by decide) hb.2⟩ (fun x11 g10 => ?_)
    refine hr_istore_n o [(3, .int x11), (2, .ref x9), (1, .int x3), (0, .ref l0)] dX5_fact_140 (by decide) rfl ?_
    refine hr_iload_n o 0 dX5_fact_141 rfl ?_
    refine hr_bipush o (60 : Int32) dX5_fact_142 (by decide) ?_
    refine hr_icmp_eq o 172 dX5_fact_144 (by decide) (fun _ => ?_) (fun _ => ?_)
    · refine hr_sub [3, 1, 0] rfl ?_
      exact nlX5_fact_172 o og ot kf hkf bkf kt hkt bkt hb l0 x9 x11 g10
    refine hr_iload_n o 0 dX5_fact_147 rfl ?_
    refine hr_bipush o (61 : Int32) dX5_fact_148 (by decide) ?_
    refine hr_icmp_eq o 172 dX5_fact_150 (by decide) (fun _ => ?_) (fun _ => ?_)
    · refine hr_sub [3, 1, 0] rfl ?_
      exact nlX5_fact_172 o og ot kf hkf bkf kt hkt bkt hb l0 x9 x11 g10
    refine hr_iload_n o 0 dX5_fact_153 rfl ?_
    refine hr_bipush o (62 : Int32) dX5_fact_154 (by decide) ?_
    refine hr_icmp_eq o 172 dX5_fact_156 (by decide) (fun _ => ?_) (fun _ => ?_)
    · refine hr_sub [3, 1, 0] rfl ?_
      exact nlX5_fact_172 o og ot kf hkf bkf kt hkt bkt hb l0 x9 x11 g10
    refine hr_aload_n o 3 dX5_fact_159 rfl ?_
    refine hr_getA (md := 0) o flX5_3 dX5_fact_160 (fun _ => rfl) (fun x12 => ?_)
    refine hr_iconst o (0 : Int32) dX5_fact_163 (by decide) ?_
    refine hr_aload_n o 3 dX5_fact_164 rfl ?_
    refine hr_getI (md := 0) o flX5_23 dX5_fact_165 (fun _ => rfl) (fun x13 => ?_)
    refine hx_callVNA (q := (RX0, TX0, 23)) o og mvnX5_69 dX5_fact_168 1 0 rfl [.int (0 : Int32), .int x13] (fun zr zg ze => mtX0_fails x12 (0 : Int32) x13 g10 zr zg ze) rfl rfl (Nat.le_of_ble_eq_true rfl) ⟨Nat.le_trans (by decide) hb.1, Nat.le_trans (by decide) hb.2⟩ (fun x15 g14 => ?_)
    exact hT_athrow o ot dX5_fact_171
  refine hr_aload_n o 1 dX5_fact_19 rfl ?_
  refine hr_iload_n o 0 dX5_fact_20 rfl ?_
  refine hT_callV (q := (RX5, TX5, 7)) o og ot mvX5_109 dX5_fact_21 rfl [.int x3] (fun z ze => mtX5_goesDeeper l0 x3 g4 z ze) rfl rfl (Nat.le_of_ble_eq_true rfl) ⟨Nat.le_trans (by decide) hb.1, Nat.le_trans (by decide) hb.2⟩ (fun _ g31 => ?_)
  refine hr_aload_n o 1 dX5_fact_24 rfl ?_
  refine hr_dup o dX5_fact_25 rfl ?_
  refine hr_getI (md := 0) o flX5_23 dX5_fact_26 (fun _ => rfl) (fun x32 => ?_)
  refine hr_iconst o (3 : Int32) dX5_fact_29 (by decide) ?_
  refine hr_iadd o dX5_fact_30 ?_
  refine hx_putI (md := 0) o flX5_23 dX5_fact_31 rfl (Or.inl nf_5_1) rfl rfl (fun _ => rfl) (fun g33 => ?_)
  refine hx_new (ci := 15) (q := (RX15, TX15, 1)) o rfl q914 q915 q183 in_X15 tyX15_ok (hf_def (by decide) (by decide)) dX5_fact_34 (fun x34 g35 => ?_)
  refine hr_dup o dX5_fact_37 rfl ?_
  refine hr_aload_n o 1 dX5_fact_38 rfl ?_
  refine hT_callV (q := (RX5, TX5, 7)) o og ot mvX5_114 dX5_fact_39 rfl [] (fun z ze => hkf l0 g35 z ze) rfl rfl (Nat.le_of_ble_eq_true rfl) bkf (fun x37 g36 => ?_)
  refine hx_callIV o og miX5_118 dX5_fact_42 [.ref x37] (fun zg ze => mtX15_init x34 x37 g36 zg ze) rfl rfl (Nat.le_of_ble_eq_true rfl) ⟨Nat.le_trans (by decide) hb.1, Nat.le_trans (by decide) hb.2⟩ (fun g38 => ?_)
  refine hr_astore_n o [(2, .ref x34), (1, .int x3), (0, .ref l0)] dX5_fact_45 (by decide) rfl ?_
  refine hr_aload_n o 2 dX5_fact_46 rfl ?_
  refine hr_dup o dX5_fact_47 rfl ?_
  refine hr_getI (md := 0) o flX5_76 dX5_fact_48 (fun _ => rfl) (fun x39 => ?_)
  refine hr_iconst o (1 : Int32) dX5_fact_51 (by decide) ?_
  refine hr_isub o dX5_fact_52 ?_
  refine hx_putI (md := 0) o flX5_76 dX5_fact_53 rfl (Or.inl nf_5_2) rfl rfl (fun _ => rfl) (fun g40 => ?_)
  refine hr_aload_n o 0 dX5_fact_56 rfl ?_
  exact hr_aret o dX5_fact_57 (Or.inl ⟨_, rfl⟩) (Or.inr ⟨_, rfl⟩) rfl
theorem mtX5_fact {gs : hf_gs} {fr lc : Nat} {frkf lckf : Nat} {frkt lckt : Nat}  (kf : Nat → hf_H → Option ((Nat ⊕ Nat) × hf_H)) (hkf : ∀ (z : Nat) (h : hf_H) (t : (Nat ⊕ Nat) × hf_H), kf z h = some t → hf_ConT gs yX5_fact cX5_fact 5 (some (.object "HalfFair$Condition")) frkf lckf [.ref z] h (hf_dTA t)) (bkf : frkf + 1 ≤ fr ∧ 24 + lckf ≤ lc) (kt : Nat → hf_H → Option ((Nat ⊕ Nat) × hf_H)) (hkt : ∀ (z : Nat) (h : hf_H) (t : (Nat ⊕ Nat) × hf_H), kt z h = some t → hf_ConT gs yX5_test cX5_test 2 (some (.object "HalfFair$Condition")) frkt lckt [.ref z] h (hf_dTA t)) (bkt : frkt + 1 ≤ fr ∧ 21 + lckt ≤ lc) (hb : 8 ≤ fr ∧ 175 ≤ lc) (l0 : Nat) (V0 : hf_H) (t : (Nat ⊕ Nat) × hf_H) (e : spX5_fact gs kf kt l0 V0 = some t) : hf_ConT gs yX5_fact cX5_fact 5 (some (.object "HalfFair$Condition")) fr lc [.ref l0] V0 (hf_dTA t) := hf_entryT (by decide) [.ref l0] (Nat.le_of_ble_eq_true rfl) [(0, .ref l0)] rfl e (fun C o og ot => jtX5_fact o og ot kf hkf bkf kt hkt bkt hb l0 V0)

/-! X5_part -/
theorem mvX5_134 : hf_MV RX5 134 RX5 yX5_takes cX5_takes 3 (some .boolean) 1 := ⟨lw_V q893 q895 qs26 q163 q896, by decide +kernel⟩
theorem miX5_139 : hf_MI RX5 139 yX17_init cX17_init 4 3 := ⟨⟨q951, q185, q949, q950, rfl⟩, by decide +kernel⟩
def ndX5_part_5 (gs : hf_gs) (kf : Nat → hf_H → Option ((Nat ⊕ Nat) × hf_H)) (k5 : Nat → Nat → hf_H → Option ((Nat ⊕ Nat) × hf_H)) (l0 : Nat) (l1 : Nat) (V0 : hf_H) : Option ((Nat ⊕ Nat) × hf_H) :=
  (hf_ob 0 5 V0 l0).bind fun _ =>
  hf_b2 (spX5_takes gs l0 (gs.2 14) V0) fun x2 g1 =>
  if x2 = 0 then (some (.inr l1, g1)) else
  hf_mk g1 (.inl (0, 17, hf_V0)) 3 fun x3 g4 =>
  (hf_ob 0 5 g4 l0).bind fun _ =>
  hf_bT (kf l0 g4) fun x6 g5 =>
  (spX17_init x3 l1 x6 (0 : Int32) g5).bind fun g7 =>
  k5 l0 x3 g7
theorem nlX5_part_5 {C : hf_X} {gs : hf_gs} {fr lc : Nat} {frkf lckf : Nat} (o : hf_In C cX5_part RX5 2 (some (.object "HalfFair$Condition")) fr lc) (og : hf_G C gs) (ot : hf_Thr C) (kf : Nat → hf_H → Option ((Nat ⊕ Nat) × hf_H)) (hkf : ∀ (z : Nat) (h : hf_H) (t : (Nat ⊕ Nat) × hf_H), kf z h = some t → hf_ConT gs yX5_fact cX5_fact 5 (some (.object "HalfFair$Condition")) frkf lckf [.ref z] h (hf_dTA t)) (bkf : frkf + 1 ≤ fr ∧ 24 + lckf ≤ lc) (hb : 6 ≤ fr ∧ 131 ≤ lc) (k5 : Nat → Nat → hf_H → Option ((Nat ⊕ Nat) × hf_H)) (hk5 : ∀ (l0 : Nat) (l1 : Nat) (V0 : hf_H), hf_J C hf_dTA (k5 l0 l1 V0) V0 5 [(0, .ref l0), (1, .ref l1)] []) (l0 : Nat) (l1 : Nat) (V0 : hf_H) : hf_J C hf_dTA (ndX5_part_5 gs kf k5 l0 l1 V0) V0 5 [(0, .ref l0), (1, .ref l1)] [] := by
  refine hr_aload_n o 0 dX5_part_5 rfl ?_
  refine hx_ldcS o og 14 rfl dX5_part_6 ?_
  refine hx_callVI (q := (RX5, TX5, 7)) o og mvX5_134 dX5_part_8 0 5 rfl [.ref (gs.2 14)] (fun zr zg ze => mtX5_takes l0 (gs.2 14) V0 zr zg ze) rfl rfl (Nat.le_of_ble_eq_true rfl) ⟨Nat.le_trans (by decide) hb.1, Nat.le_trans (by decide) hb.2⟩ (fun x2 g1 => ?_)
  refine hr_if_eq o 31 dX5_part_11 (by decide) (fun _ => ?_) (fun _ => ?_)
  · refine hr_aload_n o 1 dX5_part_31 rfl ?_
    exact hr_aret o dX5_part_32 (Or.inl ⟨_, rfl⟩) (Or.inr ⟨_, rfl⟩) rfl
  refine hx_new (ci := 17) (q := (RX17, TX17, 3)) o rfl q947 q948 q185 in_X17 tyX17_ok (hf_def (by decide) (by decide)) dX5_part_14 (fun x3 g4 => ?_)
  refine hr_dup o dX5_part_17 rfl ?_
  refine hr_aload_n o 1 dX5_part_18 rfl ?_
  refine hr_aload_n o 0 dX5_part_19 rfl ?_
  refine hT_callV (q := (RX5, TX5, 7)) o og ot mvX5_114 dX5_part_20 rfl [] (fun z ze => hkf l0 g4 z ze) rfl rfl (Nat.le_of_ble_eq_true rfl) bkf (fun x6 g5 => ?_)
  refine hr_iconst o (0 : Int32) dX5_part_23 (by decide) ?_
  refine hx_callIV o og miX5_139 dX5_part_24 [.ref l1, .ref x6, .int (0 : Int32)] (fun zg ze => mtX17_init x3 l1 x6 (0 : Int32) g5 zg ze) rfl rfl (Nat.le_of_ble_eq_true rfl) ⟨Nat.le_trans (by decide) hb.1, Nat.le_trans (by decide) hb.2⟩ (fun g7 => ?_)
  refine hr_astore_n o [(1, .ref x3), (0, .ref l0)] dX5_part_27 (by decide) rfl ?_
  refine hr_goto o 5 dX5_part_28 (by decide) ?_
  refine hr_sub [1, 0] rfl ?_
  exact hk5 l0 x3 g7
def lpX5_part_5 (gs : hf_gs) (kf : Nat → hf_H → Option ((Nat ⊕ Nat) × hf_H))  : Nat → Nat → Nat → hf_H → Option ((Nat ⊕ Nat) × hf_H)
  | 0 => fun _ _ _ => none
  | n + 1 => fun l0 l1 V0 => ndX5_part_5 gs kf  (lpX5_part_5 gs kf  n) l0 l1 V0
theorem llX5_part_5 {C : hf_X} {gs : hf_gs} {fr lc : Nat} {frkf lckf : Nat} (o : hf_In C cX5_part RX5 2 (some (.object "HalfFair$Condition")) fr lc) (og : hf_G C gs) (ot : hf_Thr C) (kf : Nat → hf_H → Option ((Nat ⊕ Nat) × hf_H)) (hkf : ∀ (z : Nat) (h : hf_H) (t : (Nat ⊕ Nat) × hf_H), kf z h = some t → hf_ConT gs yX5_fact cX5_fact 5 (some (.object "HalfFair$Condition")) frkf lckf [.ref z] h (hf_dTA t)) (bkf : frkf + 1 ≤ fr ∧ 24 + lckf ≤ lc) (hb : 6 ≤ fr ∧ 131 ≤ lc)   (n : Nat) : ∀ (l0 : Nat) (l1 : Nat) (V0 : hf_H), hf_J C hf_dTA ((lpX5_part_5 gs kf  n) l0 l1 V0) V0 5 [(0, .ref l0), (1, .ref l1)] [] := by
  induction n with
  | zero => exact fun _ _ _ => hr_none
  | succ n ih => exact fun l0 l1 V0 => nlX5_part_5 o og ot kf hkf bkf hb  (lpX5_part_5 gs kf  n)  ih l0 l1 V0
def spX5_part (gs : hf_gs) (kf : Nat → hf_H → Option ((Nat ⊕ Nat) × hf_H)) (l0 : Nat) (V0 : hf_H) : Option ((Nat ⊕ Nat) × hf_H) :=
  (hf_ob 0 5 V0 l0).bind fun _ =>
  hf_bT (kf l0 V0) fun x2 g1 =>
  lpX5_part_5 gs kf hf_N l0 x2 g1
theorem jtX5_part {C : hf_X} {gs : hf_gs} {fr lc : Nat} {frkf lckf : Nat} (o : hf_In C cX5_part RX5 2 (some (.object "HalfFair$Condition")) fr lc) (og : hf_G C gs) (ot : hf_Thr C) (kf : Nat → hf_H → Option ((Nat ⊕ Nat) × hf_H)) (hkf : ∀ (z : Nat) (h : hf_H) (t : (Nat ⊕ Nat) × hf_H), kf z h = some t → hf_ConT gs yX5_fact cX5_fact 5 (some (.object "HalfFair$Condition")) frkf lckf [.ref z] h (hf_dTA t)) (bkf : frkf + 1 ≤ fr ∧ 24 + lckf ≤ lc) (hb : 6 ≤ fr ∧ 131 ≤ lc) (l0 : Nat) (V0 : hf_H) : hf_J C hf_dTA (spX5_part gs kf l0 V0) V0 0 [(0, .ref l0)] [] := by
  refine hr_aload_n o 0 dX5_part_0 rfl ?_
  refine hT_callV (q := (RX5, TX5, 7)) o og ot mvX5_114 dX5_part_1 rfl [] (fun z ze => hkf l0 V0 z ze) rfl rfl (Nat.le_of_ble_eq_true rfl) bkf (fun x2 g1 => ?_)
  refine hr_astore_n o [(1, .ref x2), (0, .ref l0)] dX5_part_4 (by decide) rfl ?_
  refine hr_sub [1, 0] rfl ?_
  exact llX5_part_5 o og ot kf hkf bkf hb hf_N l0 x2 g1
theorem mtX5_part {gs : hf_gs} {fr lc : Nat} {frkf lckf : Nat}  (kf : Nat → hf_H → Option ((Nat ⊕ Nat) × hf_H)) (hkf : ∀ (z : Nat) (h : hf_H) (t : (Nat ⊕ Nat) × hf_H), kf z h = some t → hf_ConT gs yX5_fact cX5_fact 5 (some (.object "HalfFair$Condition")) frkf lckf [.ref z] h (hf_dTA t)) (bkf : frkf + 1 ≤ fr ∧ 24 + lckf ≤ lc) (hb : 6 ≤ fr ∧ 131 ≤ lc) (l0 : Nat) (V0 : hf_H) (t : (Nat ⊕ Nat) × hf_H) (e : spX5_part gs kf l0 V0 = some t) : hf_ConT gs yX5_part cX5_part 2 (some (.object "HalfFair$Condition")) fr lc [.ref l0] V0 (hf_dTA t) := hf_entryT (by decide) [.ref l0] (Nat.le_of_ble_eq_true rfl) [(0, .ref l0)] rfl e (fun C o og ot => jtX5_part o og ot kf hkf bkf hb l0 V0)

/-! X5_test -/
theorem mvX5_142 : hf_MV RX5 142 RX5 yX5_part cX5_part 2 (some (.object "HalfFair$Condition")) 0 := ⟨lw_V q901 q903 qs28 q163 q904, by decide +kernel⟩
def ndX5_test_5 (gs : hf_gs) (kp : Nat → hf_H → Option ((Nat ⊕ Nat) × hf_H)) (k5 : Nat → Nat → hf_H → Option ((Nat ⊕ Nat) × hf_H)) (l0 : Nat) (l1 : Nat) (V0 : hf_H) : Option ((Nat ⊕ Nat) × hf_H) :=
  (hf_ob 0 5 V0 l0).bind fun _ =>
  hf_b2 (spX5_takes gs l0 (gs.2 15) V0) fun x2 g1 =>
  if x2 = 0 then (some (.inr l1, g1)) else
  hf_mk g1 (.inl (0, 17, hf_V0)) 3 fun x3 g4 =>
  (hf_ob 0 5 g4 l0).bind fun _ =>
  hf_bT (kp l0 g4) fun x6 g5 =>
  (spX17_init x3 l1 x6 (1 : Int32) g5).bind fun g7 =>
  k5 l0 x3 g7
theorem nlX5_test_5 {C : hf_X} {gs : hf_gs} {fr lc : Nat} {frkp lckp : Nat} (o : hf_In C cX5_test RX5 2 (some (.object "HalfFair$Condition")) fr lc) (og : hf_G C gs) (ot : hf_Thr C) (kp : Nat → hf_H → Option ((Nat ⊕ Nat) × hf_H)) (hkp : ∀ (z : Nat) (h : hf_H) (t : (Nat ⊕ Nat) × hf_H), kp z h = some t → hf_ConT gs yX5_part cX5_part 2 (some (.object "HalfFair$Condition")) frkp lckp [.ref z] h (hf_dTA t)) (bkp : frkp + 1 ≤ fr ∧ 21 + lckp ≤ lc) (hb : 6 ≤ fr ∧ 131 ≤ lc) (k5 : Nat → Nat → hf_H → Option ((Nat ⊕ Nat) × hf_H)) (hk5 : ∀ (l0 : Nat) (l1 : Nat) (V0 : hf_H), hf_J C hf_dTA (k5 l0 l1 V0) V0 5 [(0, .ref l0), (1, .ref l1)] []) (l0 : Nat) (l1 : Nat) (V0 : hf_H) : hf_J C hf_dTA (ndX5_test_5 gs kp k5 l0 l1 V0) V0 5 [(0, .ref l0), (1, .ref l1)] [] := by
  refine hr_aload_n o 0 dX5_test_5 rfl ?_
  refine hx_ldcS o og 15 rfl dX5_test_6 ?_
  refine hx_callVI (q := (RX5, TX5, 7)) o og mvX5_134 dX5_test_8 0 5 rfl [.ref (gs.2 15)] (fun zr zg ze => mtX5_takes l0 (gs.2 15) V0 zr zg ze) rfl rfl (Nat.le_of_ble_eq_true rfl) ⟨Nat.le_trans (by decide) hb.1, Nat.le_trans (by decide) hb.2⟩ (fun x2 g1 => ?_)
  refine hr_if_eq o 31 dX5_test_11 (by decide) (fun _ => ?_) (fun _ => ?_)
  · refine hr_aload_n o 1 dX5_test_31 rfl ?_
    exact hr_aret o dX5_test_32 (Or.inl ⟨_, rfl⟩) (Or.inr ⟨_, rfl⟩) rfl
  refine hx_new (ci := 17) (q := (RX17, TX17, 3)) o rfl q947 q948 q185 in_X17 tyX17_ok (hf_def (by decide) (by decide)) dX5_test_14 (fun x3 g4 => ?_)
  refine hr_dup o dX5_test_17 rfl ?_
  refine hr_aload_n o 1 dX5_test_18 rfl ?_
  refine hr_aload_n o 0 dX5_test_19 rfl ?_
  refine hT_callV (q := (RX5, TX5, 7)) o og ot mvX5_142 dX5_test_20 rfl [] (fun z ze => hkp l0 g4 z ze) rfl rfl (Nat.le_of_ble_eq_true rfl) bkp (fun x6 g5 => ?_)
  refine hr_iconst o (1 : Int32) dX5_test_23 (by decide) ?_
  refine hx_callIV o og miX5_139 dX5_test_24 [.ref l1, .ref x6, .int (1 : Int32)] (fun zg ze => mtX17_init x3 l1 x6 (1 : Int32) g5 zg ze) rfl rfl (Nat.le_of_ble_eq_true rfl) ⟨Nat.le_trans (by decide) hb.1, Nat.le_trans (by decide) hb.2⟩ (fun g7 => ?_)
  refine hr_astore_n o [(1, .ref x3), (0, .ref l0)] dX5_test_27 (by decide) rfl ?_
  refine hr_goto o 5 dX5_test_28 (by decide) ?_
  refine hr_sub [1, 0] rfl ?_
  exact hk5 l0 x3 g7
def lpX5_test_5 (gs : hf_gs) (kp : Nat → hf_H → Option ((Nat ⊕ Nat) × hf_H))  : Nat → Nat → Nat → hf_H → Option ((Nat ⊕ Nat) × hf_H)
  | 0 => fun _ _ _ => none
  | n + 1 => fun l0 l1 V0 => ndX5_test_5 gs kp  (lpX5_test_5 gs kp  n) l0 l1 V0
theorem llX5_test_5 {C : hf_X} {gs : hf_gs} {fr lc : Nat} {frkp lckp : Nat} (o : hf_In C cX5_test RX5 2 (some (.object "HalfFair$Condition")) fr lc) (og : hf_G C gs) (ot : hf_Thr C) (kp : Nat → hf_H → Option ((Nat ⊕ Nat) × hf_H)) (hkp : ∀ (z : Nat) (h : hf_H) (t : (Nat ⊕ Nat) × hf_H), kp z h = some t → hf_ConT gs yX5_part cX5_part 2 (some (.object "HalfFair$Condition")) frkp lckp [.ref z] h (hf_dTA t)) (bkp : frkp + 1 ≤ fr ∧ 21 + lckp ≤ lc) (hb : 6 ≤ fr ∧ 131 ≤ lc)   (n : Nat) : ∀ (l0 : Nat) (l1 : Nat) (V0 : hf_H), hf_J C hf_dTA ((lpX5_test_5 gs kp  n) l0 l1 V0) V0 5 [(0, .ref l0), (1, .ref l1)] [] := by
  induction n with
  | zero => exact fun _ _ _ => hr_none
  | succ n ih => exact fun l0 l1 V0 => nlX5_test_5 o og ot kp hkp bkp hb  (lpX5_test_5 gs kp  n)  ih l0 l1 V0
def spX5_test (gs : hf_gs) (kp : Nat → hf_H → Option ((Nat ⊕ Nat) × hf_H)) (l0 : Nat) (V0 : hf_H) : Option ((Nat ⊕ Nat) × hf_H) :=
  (hf_ob 0 5 V0 l0).bind fun _ =>
  hf_bT (kp l0 V0) fun x2 g1 =>
  lpX5_test_5 gs kp hf_N l0 x2 g1
theorem jtX5_test {C : hf_X} {gs : hf_gs} {fr lc : Nat} {frkp lckp : Nat} (o : hf_In C cX5_test RX5 2 (some (.object "HalfFair$Condition")) fr lc) (og : hf_G C gs) (ot : hf_Thr C) (kp : Nat → hf_H → Option ((Nat ⊕ Nat) × hf_H)) (hkp : ∀ (z : Nat) (h : hf_H) (t : (Nat ⊕ Nat) × hf_H), kp z h = some t → hf_ConT gs yX5_part cX5_part 2 (some (.object "HalfFair$Condition")) frkp lckp [.ref z] h (hf_dTA t)) (bkp : frkp + 1 ≤ fr ∧ 21 + lckp ≤ lc) (hb : 6 ≤ fr ∧ 131 ≤ lc) (l0 : Nat) (V0 : hf_H) : hf_J C hf_dTA (spX5_test gs kp l0 V0) V0 0 [(0, .ref l0)] [] := by
  refine hr_aload_n o 0 dX5_test_0 rfl ?_
  refine hT_callV (q := (RX5, TX5, 7)) o og ot mvX5_142 dX5_test_1 rfl [] (fun z ze => hkp l0 V0 z ze) rfl rfl (Nat.le_of_ble_eq_true rfl) bkp (fun x2 g1 => ?_)
  refine hr_astore_n o [(1, .ref x2), (0, .ref l0)] dX5_test_4 (by decide) rfl ?_
  refine hr_sub [1, 0] rfl ?_
  exact llX5_test_5 o og ot kp hkp bkp hb hf_N l0 x2 g1
theorem mtX5_test {gs : hf_gs} {fr lc : Nat} {frkp lckp : Nat}  (kp : Nat → hf_H → Option ((Nat ⊕ Nat) × hf_H)) (hkp : ∀ (z : Nat) (h : hf_H) (t : (Nat ⊕ Nat) × hf_H), kp z h = some t → hf_ConT gs yX5_part cX5_part 2 (some (.object "HalfFair$Condition")) frkp lckp [.ref z] h (hf_dTA t)) (bkp : frkp + 1 ≤ fr ∧ 21 + lckp ≤ lc) (hb : 6 ≤ fr ∧ 131 ≤ lc) (l0 : Nat) (V0 : hf_H) (t : (Nat ⊕ Nat) × hf_H) (e : spX5_test gs kp l0 V0 = some t) : hf_ConT gs yX5_test cX5_test 2 (some (.object "HalfFair$Condition")) fr lc [.ref l0] V0 (hf_dTA t) := hf_entryT (by decide) [.ref l0] (Nat.le_of_ble_eq_true rfl) [(0, .ref l0)] rfl e (fun C o og ot => jtX5_test o og ot kp hkp bkp hb l0 V0)

def spX5_factD (gs : hf_gs) : Nat → Nat → hf_H → Option ((Nat ⊕ Nat) × hf_H)
  | 0 => fun _ _ => none
  | d + 1 => fun l0 V0 => spX5_fact gs (spX5_factD gs d) (spX5_test gs (spX5_part gs (spX5_factD gs d))) l0 V0
theorem mtX5_factD {gs : hf_gs} (d : Nat) : ∀ (z : Nat) (h : hf_H) (t : (Nat ⊕ Nat) × hf_H), spX5_factD gs d z h = some t → hf_ConT gs yX5_fact cX5_fact 5 (some (.object "HalfFair$Condition")) (9 + 3 * d) (205 + 90 * d) [.ref z] h (hf_dTA t) := by
  induction d with
  | zero => intro z h t e; cases e
  | succ d ih =>
    intro z h t e
    have h1 : ∀ (z : Nat) (h : hf_H) (t : (Nat ⊕ Nat) × hf_H), spX5_part gs (spX5_factD gs d) z h = some t → hf_ConT gs yX5_part cX5_part 2 (some (.object "HalfFair$Condition")) (9 + 3 * d + 1) (205 + 90 * d + 30) [.ref z] h (hf_dTA t) := fun z h t e => mtX5_part (spX5_factD gs d) ih ⟨by omega, by omega⟩ ⟨by omega, by omega⟩ z h t e
    have h2 : ∀ (z : Nat) (h : hf_H) (t : (Nat ⊕ Nat) × hf_H), spX5_test gs (spX5_part gs (spX5_factD gs d)) z h = some t → hf_ConT gs yX5_test cX5_test 2 (some (.object "HalfFair$Condition")) (9 + 3 * d + 2) (205 + 90 * d + 60) [.ref z] h (hf_dTA t) := fun z h t e => mtX5_test (spX5_part gs (spX5_factD gs d)) h1 ⟨by omega, by omega⟩ ⟨by omega, by omega⟩ z h t e
    exact mtX5_fact (spX5_factD gs d) ih ⟨by omega, by omega⟩ (spX5_test gs (spX5_part gs (spX5_factD gs d))) h2 ⟨by omega, by omega⟩ ⟨by omega, by omega⟩ z h t e
def spX5_testD (gs : hf_gs) (l0 : Nat) (V0 : hf_H) : Option ((Nat ⊕ Nat) × hf_H) := spX5_test gs (spX5_part gs (spX5_factD gs 16)) l0 V0
theorem mtX5_testD {gs : hf_gs} (z : Nat) (h : hf_H) (t : (Nat ⊕ Nat) × hf_H) (e : spX5_testD gs z h = some t) : hf_ConT gs yX5_test cX5_test 2 (some (.object "HalfFair$Condition")) 59 1705 [.ref z] h (hf_dTA t) :=
  mtX5_test (spX5_part gs (spX5_factD gs 16)) (fun z h t e => mtX5_part (lc := 1675) (fr := 58) (spX5_factD gs 16) (mtX5_factD 16) ⟨by omega, by omega⟩ ⟨by omega, by omega⟩ z h t e) ⟨by omega, by omega⟩ ⟨by omega, by omega⟩ z h t e

/-! X5_begins -/
theorem flX5_147 : hf_Fl RX5 147 5 4 := ⟨(RX5, TX5, 7), RX5, rfl, by decide, in_X5, tyX5_ok, nmX5, Or.inl q496, Or.inl rfl⟩
theorem nf_5_4 : hf_Nf 5 4 := ⟨(RX5, TX5, 7), rfl, rfl⟩
def ndX5_begins_25 (gs : hf_gs)  (l0 : Nat) (V0 : hf_H) : Option ((Nat ⊕ Int32) × hf_H) :=
  (hf_ga 0 5 6 V0 l0).bind fun x1 =>
  (hf_gi 0 5 1 V0 l0).bind fun x2 =>
  (hf_ob 1 0 V0 x1).bind fun _ =>
  hf_b2 (spX0_fails x1 (4 : Int32) x2 V0) fun x4 g3 =>
  (hf_ob 0 3 g3 x4).bind fun _ => some (.inl x4, g3)
theorem nlX5_begins_25 {C : hf_X} {gs : hf_gs} (o : hf_In C cX5_begins RX5 3 (some .boolean) 5 109) (og : hf_G C gs) (ot : hf_Thr C)   (l0 : Nat) (V0 : hf_H) : hf_J C hf_dTI (ndX5_begins_25 gs l0 V0) V0 25 [(0, .ref l0)] [] := by
  refine hr_aload_n o 0 dX5_begins_25 rfl ?_
  refine hr_getA (md := 0) o flX5_3 dX5_begins_26 (fun _ => rfl) (fun x1 => ?_)
  refine hr_iconst o (4 : Int32) dX5_begins_29 (by decide) ?_
  refine hr_aload_n o 0 dX5_begins_30 rfl ?_
  refine hr_getI (md := 0) o flX5_23 dX5_begins_31 (fun _ => rfl) (fun x2 => ?_)
  refine hx_callVNA (q := (RX0, TX0, 23)) o og mvnX5_69 dX5_begins_34 1 0 rfl [.int (4 : Int32), .int x2] (fun zr zg ze => mtX0_fails x1 (4 : Int32) x2 V0 zr zg ze) rfl rfl (Nat.le_of_ble_eq_true rfl) ⟨by decide, by decide⟩ (fun x4 g3 => ?_)
  exact hT_athrow o ot dX5_begins_37
def spX5_begins (gs : hf_gs) (l0 : Nat) (l1 : Nat) (l2 : Int32) (V0 : hf_H) : Option ((Nat ⊕ Int32) × hf_H) :=
  (hf_ob 0 5 V0 l0).bind fun _ =>
  hf_b2 (spX5_isWord gs l0 l1 V0) fun x2 g1 =>
  if x2 = 0 then (some (.inr (0 : Int32), g1)) else
  (hf_gi 0 5 4 g1 l0).bind fun x3 =>
  (hf_gi 0 5 5 g1 l0).bind fun x4 =>
  if x3 = x4 then (ndX5_begins_25 gs l0 g1) else
  if l2 = 0 then (ndX5_begins_25 gs l0 g1) else
  (hf_gi 0 5 4 g1 l0).bind fun x5 =>
  (hf_pi 0 5 4 g1 l0 (x5 + (1 : Int32))).bind fun g6 =>
  (hf_gi 0 5 1 g6 l0).bind fun x7 =>
  (hf_st g6 l1).bind fun _ =>
  hf_b2 (spJ5_length l1 g6) fun x9 g8 =>
  (hf_pi 0 5 1 g8 l0 (x7 + x9)).bind fun g10 =>
  some (.inr (1 : Int32), g10)
theorem jtX5_begins {C : hf_X} {gs : hf_gs} (o : hf_In C cX5_begins RX5 3 (some .boolean) 5 109) (og : hf_G C gs) (ot : hf_Thr C) (l0 : Nat) (l1 : Nat) (l2 : Int32) (V0 : hf_H) : hf_J C hf_dTI (spX5_begins gs l0 l1 l2 V0) V0 0 [(0, .ref l0), (1, .ref l1), (2, .int l2)] [] := by
  refine hr_aload_n o 0 dX5_begins_0 rfl ?_
  refine hr_aload_n o 1 dX5_begins_1 rfl ?_
  refine hx_callVI (q := (RX5, TX5, 7)) o og mvX5_61 dX5_begins_2 0 5 rfl [.ref l1] (fun zr zg ze => mtX5_isWord l0 l1 V0 zr zg ze) rfl rfl (Nat.le_of_ble_eq_true rfl) ⟨by decide, by decide⟩ (fun x2 g1 => ?_)
  refine hr_if_ne o 10 dX5_begins_5 (by decide) (fun _ => ?_) (fun _ => ?_)
  · refine hr_iconst o (0 : Int32) dX5_begins_8 (by decide) ?_
    exact hr_iret o dX5_begins_9 rfl (by decide)
  refine hr_aload_n o 0 dX5_begins_10 rfl ?_
  refine hr_getI (md := 0) o flX5_147 dX5_begins_11 (fun _ => rfl) (fun x3 => ?_)
  refine hr_aload_n o 0 dX5_begins_14 rfl ?_
  refine hr_getI (md := 0) o flX5_19 dX5_begins_15 (fun _ => rfl) (fun x4 => ?_)
  refine hr_icmp_eq o 25 dX5_begins_18 (by decide) (fun _ => ?_) (fun _ => ?_)
  · refine hr_sub [0] rfl ?_
    exact nlX5_begins_25 o og ot l0 g1
  refine hr_iload_n o 2 dX5_begins_21 rfl ?_
  refine hr_if_ne o 38 dX5_begins_22 (by decide) (fun _ => ?_) (fun _ => ?_)
  · refine hr_sub [0] rfl ?_
    exact nlX5_begins_25 o og ot l0 g1
  refine hr_aload_n o 0 dX5_begins_38 rfl ?_
  refine hr_dup o dX5_begins_39 rfl ?_
  refine hr_getI (md := 0) o flX5_147 dX5_begins_40 (fun _ => rfl) (fun x5 => ?_)
  refine hr_iconst o (1 : Int32) dX5_begins_43 (by decide) ?_
  refine hr_iadd o dX5_begins_44 ?_
  refine hx_putI (md := 0) o flX5_147 dX5_begins_45 rfl (Or.inl nf_5_4) rfl rfl (fun _ => rfl) (fun g6 => ?_)
  refine hr_aload_n o 0 dX5_begins_48 rfl ?_
  refine hr_dup o dX5_begins_49 rfl ?_
  refine hr_getI (md := 0) o flX5_23 dX5_begins_50 (fun _ => rfl) (fun x7 => ?_)
  refine hr_aload_n o 1 dX5_begins_53 rfl ?_
  refine hx_S_callVI o og mvX5_52 dX5_begins_54 [] (fun zr zg ze => mtJ5_length l1 g6 zr zg ze) rfl rfl (Nat.le_of_ble_eq_true rfl) ⟨by decide, by decide⟩ (fun x9 g8 => ?_)
  refine hr_iadd o dX5_begins_57 ?_
  refine hx_putI (md := 0) o flX5_23 dX5_begins_58 rfl (Or.inl nf_5_1) rfl rfl (fun _ => rfl) (fun g10 => ?_)
  refine hr_iconst o (1 : Int32) dX5_begins_61 (by decide) ?_
  exact hr_iret o dX5_begins_62 rfl (by decide)
theorem mtX5_begins {gs : hf_gs}  (l0 : Nat) (l1 : Nat) (l2 : Int32) (V0 : hf_H) (t : (Nat ⊕ Int32) × hf_H) (e : spX5_begins gs l0 l1 l2 V0 = some t) : hf_ConT gs yX5_begins cX5_begins 3 (some .boolean) 5 109 [.ref l0, .ref l1, .int l2] V0 (hf_dTI t) := hf_entryT (by decide) [.ref l0, .ref l1, .int l2] (Nat.le_of_ble_eq_true rfl) [(0, .ref l0), (1, .ref l1), (2, .int l2)] rfl e (fun C o og ot => jtX5_begins o og ot l0 l1 l2 V0)

/-! X5_half -/
theorem flX5_150 : hf_Fl RX5 150 1 3 := ⟨(RX1, TX1, 13), RX1, rfl, by decide, in_X1, tyX1_ok, nmX1, Or.inr ⟨"HalfFair", q244⟩, Or.inl rfl⟩
theorem flX5_155 : hf_Fl RX5 155 1 0 := ⟨(RX1, TX1, 13), RX1, rfl, by decide, in_X1, tyX1_ok, nmX1, Or.inr ⟨"HalfFair", q233⟩, Or.inl rfl⟩
theorem minX5_161 : hf_MIN RX5 161 "HalfFair" yX6_init cX6_init 5 4 := ⟨⟨q623, q624, q169, q625, rfl⟩, by decide +kernel⟩
theorem mvX5_164 : hf_MV RX5 164 RJ2 yJ2_add cJ2_add 2 (some .boolean) 1 := ⟨lw_V q650 q651 q652 q157 q653, by decide +kernel⟩
def spX5_half (gs : hf_gs) (l0 : Nat) (l1 : Nat) (V0 : hf_H) : Option ((Nat ⊕ Unit) × hf_H) :=
  (hf_gi 1 1 3 V0 l1).bind fun x1 =>
  (hf_ob 0 5 V0 l0).bind fun _ =>
  hf_bT (spX5_number l0 (0 : Int32) (x1 - (1 : Int32)) V0) fun x3 g2 =>
  (hf_ob 0 5 g2 l0).bind fun _ =>
  hf_bT (spX5_number l0 (0 : Int32) (99 : Int32) g2) fun x5 g4 =>
  (hf_ob 0 5 g4 l0).bind fun _ =>
  hf_bT (spX5_number l0 (0 : Int32) (1 : Int32) g4) fun x7 g6 =>
  (hf_ga 1 1 0 g6 l1).bind fun x8 =>
  hf_mk g6 (.inl (0, 6, hf_V0)) 4 fun x9 g10 =>
  (hf_ob 0 5 g10 l0).bind fun _ =>
  hf_bT (spX5_number l0 (1 : Int32) (99 : Int32) g10) fun x12 g11 =>
  (spX6_init x9 x3 x5 x7 x12 g11).bind fun g13 =>
  (hf_ob 0 19 g13 x8).bind fun _ =>
  hf_b2 (spJ2_add gs x8 x9 g13) fun x15 g14 =>
  some (.inr (), g14)
theorem jtX5_half {C : hf_X} {gs : hf_gs} (o : hf_In C cX5_half RX5 5 (none) 7 149) (og : hf_G C gs) (ot : hf_Thr C) (l0 : Nat) (l1 : Nat) (V0 : hf_H) : hf_J C hf_dTV (spX5_half gs l0 l1 V0) V0 0 [(0, .ref l0), (1, .ref l1)] [] := by
  refine hr_aload_n o 0 dX5_half_0 rfl ?_
  refine hr_iconst o (0 : Int32) dX5_half_1 (by decide) ?_
  refine hr_aload_n o 1 dX5_half_2 rfl ?_
  refine hr_getI (md := 1) o flX5_150 dX5_half_3 (fun _ => rfl) (fun x1 => ?_)
  refine hr_iconst o (1 : Int32) dX5_half_6 (by decide) ?_
  refine hr_isub o dX5_half_7 ?_
  refine hT_callV (q := (RX5, TX5, 7)) o og ot mvX5_82 dX5_half_8 rfl [.int (0 : Int32), .int (x1 - (1 : Int32))] (fun z ze => mtX5_number l0 (0 : Int32) (x1 - (1 : Int32)) V0 z ze) rfl rfl (Nat.le_of_ble_eq_true rfl) ⟨by decide, by decide⟩ (fun x3 g2 => ?_)
  refine hr_istore_n o [(2, .int x3), (0, .ref l0), (1, .ref l1)] dX5_half_11 (by decide) rfl ?_
  refine hr_aload_n o 1 dX5_half_12 rfl ?_
  refine hr_iconst o (0 : Int32) dX5_half_13 (by decide) ?_
  refine hr_bipush o (99 : Int32) dX5_half_14 (by decide) ?_
  refine hT_callV (q := (RX5, TX5, 7)) o og ot mvX5_82 dX5_half_16 rfl [.int (0 : Int32), .int (99 : Int32)] (fun z ze => mtX5_number l0 (0 : Int32) (99 : Int32) g2 z ze) rfl rfl (Nat.le_of_ble_eq_true rfl) ⟨by decide, by decide⟩ (fun x5 g4 => ?_)
  refine hr_istore_n o [(3, .int x5), (2, .int x3), (0, .ref l0), (1, .ref l1)] dX5_half_19 (by decide) rfl ?_
  refine hr_aload_n o 2 dX5_half_20 rfl ?_
  refine hr_iconst o (0 : Int32) dX5_half_21 (by decide) ?_
  refine hr_iconst o (1 : Int32) dX5_half_22 (by decide) ?_
  refine hT_callV (q := (RX5, TX5, 7)) o og ot mvX5_82 dX5_half_23 rfl [.int (0 : Int32), .int (1 : Int32)] (fun z ze => mtX5_number l0 (0 : Int32) (1 : Int32) g4 z ze) rfl rfl (Nat.le_of_ble_eq_true rfl) ⟨by decide, by decide⟩ (fun x7 g6 => ?_)
  refine hr_istore o [(4, .int x7), (3, .int x5), (2, .int x3), (0, .ref l0), (1, .ref l1)] dX5_half_26 (by decide) rfl ?_
  refine hr_aload_n o 4 dX5_half_28 rfl ?_
  refine hr_getA (md := 1) o flX5_155 dX5_half_29 (fun _ => rfl) (fun x8 => ?_)
  refine hx_new (ci := 6) (q := (RX6, TX6, 4)) o rfl q621 q622 q169 in_X6 tyX6_ok (hf_def (by decide) (by decide)) dX5_half_32 (fun x9 g10 => ?_)
  refine hr_dup o dX5_half_35 rfl ?_
  refine hr_iload_n o 2 dX5_half_36 rfl ?_
  refine hr_iload_n o 1 dX5_half_37 rfl ?_
  refine hr_iload o 0 dX5_half_38 rfl ?_
  refine hr_aload_n o 3 dX5_half_40 rfl ?_
  refine hr_iconst o (1 : Int32) dX5_half_41 (by decide) ?_
  refine hr_bipush o (99 : Int32) dX5_half_42 (by decide) ?_
  refine hT_callV (q := (RX5, TX5, 7)) o og ot mvX5_82 dX5_half_44 rfl [.int (1 : Int32), .int (99 : Int32)] (fun z ze => mtX5_number l0 (1 : Int32) (99 : Int32) g10 z ze) rfl rfl (Nat.le_of_ble_eq_true rfl) ⟨by decide, by decide⟩ (fun x12 g11 => ?_)
  refine hx_callINV o og minX5_161 dX5_half_47 [.int x3, .int x5, .int x7, .int x12] (fun zg ze => mtX6_init x9 x3 x5 x7 x12 g11 zg ze) rfl rfl (Nat.le_of_ble_eq_true rfl) ⟨by decide, by decide⟩ (fun g13 => ?_)
  refine hx_callVI (q := (RJ2, TJ2, 3)) o og mvX5_164 dX5_half_50 0 19 rfl [.ref x9] (fun zr zg ze => mtJ2_add x8 x9 g13 zr zg ze) rfl rfl (Nat.le_of_ble_eq_true rfl) ⟨by decide, by decide⟩ (fun x15 g14 => ?_)
  refine hr_pop o dX5_half_53 rfl ?_
  exact hr_vret o dX5_half_54 rfl
theorem mtX5_half {gs : hf_gs}  (l0 : Nat) (l1 : Nat) (V0 : hf_H) (t : (Nat ⊕ Unit) × hf_H) (e : spX5_half gs l0 l1 V0 = some t) : hf_ConT gs yX5_half cX5_half 5 (none) 7 149 [.ref l0, .ref l1] V0 (hf_dTV t) := hf_entryT (by decide) [.ref l0, .ref l1] (Nat.le_of_ble_eq_true rfl) [(0, .ref l0), (1, .ref l1)] rfl e (fun C o og ot => jtX5_half o og ot l0 l1 V0)

/-! X5_club -/
theorem flX5_170 : hf_Fl RX5 170 1 1 := ⟨(RX1, TX1, 13), RX1, rfl, by decide, in_X1, tyX1_ok, nmX1, Or.inr ⟨"HalfFair", q237⟩, Or.inl rfl⟩
theorem mvX5_173 : hf_MV RX5 173 RJ2 yJ2_size cJ2_size 1 (some .int) 0 := ⟨lw_V q613 q614 q615 q157 q616, by decide +kernel⟩
theorem mvX5_176 : hf_MV RX5 176 RX1 yX1_joins cX1_joins 5 (none) 2 := ⟨lw_V q737 q738 q739 q154 q740, by decide +kernel⟩
def spX5_club (l0 : Nat) (l1 : Nat) (V0 : hf_H) : Option ((Nat ⊕ Unit) × hf_H) :=
  (hf_ga 1 1 1 V0 l1).bind fun x1 =>
  (hf_ob 0 19 V0 x1).bind fun _ =>
  hf_b2 (spJ2_size x1 V0) fun x3 g2 =>
  (hf_ob 0 5 g2 l0).bind fun _ =>
  hf_bT (spX5_number l0 (0 : Int32) (x3 - (1 : Int32)) g2) fun x5 g4 =>
  (hf_ob 0 5 g4 l0).bind fun _ =>
  hf_b2 (spX5_next l0 g4) fun x7 g6 =>
  (hf_gi 0 5 1 g6 l0).bind fun x8 =>
  (hf_ga 1 1 1 g6 l1).bind fun x9 =>
  (hf_ob 0 19 g6 x9).bind fun _ =>
  hf_b2 (spJ2_size x9 g6) fun x11 g10 =>
  (hf_ob 0 5 g10 l0).bind fun _ =>
  hf_bT (spX5_number l0 (0 : Int32) (x11 - (1 : Int32)) g10) fun x13 g12 =>
  if x13 = x5 then ((hf_ga 0 5 6 g12 l0).bind fun x15 =>
  (hf_ob 1 0 g12 x15).bind fun _ =>
  hf_b2 (spX0_fails x15 (1 : Int32) x8 g12) fun x17 g16 =>
  (hf_ob 0 3 g16 x17).bind fun _ => some (.inl x17, g16)) else
  (hf_ob 1 1 g12 l1).bind fun _ =>
  (spX1_joins l1 x5 x13 g12).bind fun g14 =>
  some (.inr (), g14)
theorem jtX5_club {C : hf_X} {gs : hf_gs} (o : hf_In C cX5_club RX5 5 (none) 3 69) (og : hf_G C gs) (ot : hf_Thr C) (l0 : Nat) (l1 : Nat) (V0 : hf_H) : hf_J C hf_dTV (spX5_club l0 l1 V0) V0 0 [(0, .ref l0), (1, .ref l1)] [] := by
  refine hr_aload_n o 0 dX5_club_0 rfl ?_
  refine hr_iconst o (0 : Int32) dX5_club_1 (by decide) ?_
  refine hr_aload_n o 1 dX5_club_2 rfl ?_
  refine hr_getA (md := 1) o flX5_170 dX5_club_3 (fun _ => rfl) (fun x1 => ?_)
  refine hx_callVI (q := (RJ2, TJ2, 3)) o og mvX5_173 dX5_club_6 0 19 rfl [] (fun zr zg ze => mtJ2_size x1 V0 zr zg ze) rfl rfl (Nat.le_of_ble_eq_true rfl) ⟨by decide, by decide⟩ (fun x3 g2 => ?_)
  refine hr_iconst o (1 : Int32) dX5_club_9 (by decide) ?_
  refine hr_isub o dX5_club_10 ?_
  refine hT_callV (q := (RX5, TX5, 7)) o og ot mvX5_82 dX5_club_11 rfl [.int (0 : Int32), .int (x3 - (1 : Int32))] (fun z ze => mtX5_number l0 (0 : Int32) (x3 - (1 : Int32)) g2 z ze) rfl rfl (Nat.le_of_ble_eq_true rfl) ⟨by decide, by decide⟩ (fun x5 g4 => ?_)
  refine hr_istore_n o [(2, .int x5), (0, .ref l0), (1, .ref l1)] dX5_club_14 (by decide) rfl ?_
  refine hr_aload_n o 1 dX5_club_15 rfl ?_
  refine hx_callVI (q := (RX5, TX5, 7)) o og mvX5_45 dX5_club_16 0 5 rfl [] (fun zr zg ze => mtX5_next l0 g4 zr zg ze) rfl rfl (Nat.le_of_ble_eq_true rfl) ⟨by decide, by decide⟩ (fun x7 g6 => ?_)
  refine hr_pop o dX5_club_19 rfl ?_
  refine hr_aload_n o 1 dX5_club_20 rfl ?_
  refine hr_getI (md := 0) o flX5_23 dX5_club_21 (fun _ => rfl) (fun x8 => ?_)
  refine hr_istore_n o [(3, .int x8), (2, .int x5), (0, .ref l0), (1, .ref l1)] dX5_club_24 (by decide) rfl ?_
  refine hr_aload_n o 2 dX5_club_25 rfl ?_
  refine hr_iconst o (0 : Int32) dX5_club_26 (by decide) ?_
  refine hr_aload_n o 3 dX5_club_27 rfl ?_
  refine hr_getA (md := 1) o flX5_170 dX5_club_28 (fun _ => rfl) (fun x9 => ?_)
  refine hx_callVI (q := (RJ2, TJ2, 3)) o og mvX5_173 dX5_club_31 0 19 rfl [] (fun zr zg ze => mtJ2_size x9 g6 zr zg ze) rfl rfl (Nat.le_of_ble_eq_true rfl) ⟨by decide, by decide⟩ (fun x11 g10 => ?_)
  refine hr_iconst o (1 : Int32) dX5_club_34 (by decide) ?_
  refine hr_isub o dX5_club_35 ?_
  refine hT_callV (q := (RX5, TX5, 7)) o og ot mvX5_82 dX5_club_36 rfl [.int (0 : Int32), .int (x11 - (1 : Int32))] (fun z ze => mtX5_number l0 (0 : Int32) (x11 - (1 : Int32)) g10 z ze) rfl rfl (Nat.le_of_ble_eq_true rfl) ⟨by decide, by decide⟩ (fun x13 g12 => ?_)
  refine hr_istore o [(4, .int x13), (3, .int x8), (2, .int x5), (0, .ref l0), (1, .ref l1)] dX5_club_39 (by decide) rfl ?_
  refine hr_iload o 0 dX5_club_41 rfl ?_
  refine hr_iload_n o 2 dX5_club_43 rfl ?_
  refine hr_icmp_ne o 57 dX5_club_44 (by decide) (fun _ => ?_) (fun _ => ?_)
  · refine hr_aload_n o 3 dX5_club_47 rfl ?_
    refine hr_getA (md := 0) o flX5_3 dX5_club_48 (fun _ => rfl) (fun x15 => ?_)
    refine hr_iconst o (1 : Int32) dX5_club_51 (by decide) ?_
    refine hr_iload_n o 1 dX5_club_52 rfl ?_
    refine hx_callVNA (q := (RX0, TX0, 23)) o og mvnX5_69 dX5_club_53 1 0 rfl [.int (1 : Int32), .int x8] (fun zr zg ze => mtX0_fails x15 (1 : Int32) x8 g12 zr zg ze) rfl rfl (Nat.le_of_ble_eq_true rfl) ⟨by decide, by decide⟩ (fun x17 g16 => ?_)
    exact hT_athrow o ot dX5_club_56
  refine hr_aload_n o 4 dX5_club_57 rfl ?_
  refine hr_iload_n o 2 dX5_club_58 rfl ?_
  refine hr_iload o 0 dX5_club_59 rfl ?_
  refine hx_callVV (q := (RX1, TX1, 13)) o og mvX5_176 dX5_club_61 1 1 rfl [.int x5, .int x13] (fun zg ze => mtX1_joins l1 x5 x13 g12 zg ze) rfl rfl (Nat.le_of_ble_eq_true rfl) ⟨by decide, by decide⟩ (fun g14 => ?_)
  exact hr_vret o dX5_club_64 rfl
theorem mtX5_club {gs : hf_gs}  (l0 : Nat) (l1 : Nat) (V0 : hf_H) (t : (Nat ⊕ Unit) × hf_H) (e : spX5_club l0 l1 V0 = some t) : hf_ConT gs yX5_club cX5_club 5 (none) 3 69 [.ref l0, .ref l1] V0 (hf_dTV t) := hf_entryT (by decide) [.ref l0, .ref l1] (Nat.le_of_ble_eq_true rfl) [(0, .ref l0), (1, .ref l1)] rfl e (fun C o og ot => jtX5_club o og ot l0 l1 V0)

/-! X5_stalls -/
theorem nf_1_3 : hf_Nf 1 3 := ⟨(RX1, TX1, 13), rfl, rfl⟩
theorem flX5_180 : hf_Fl RX5 180 1 4 := ⟨(RX1, TX1, 13), RX1, rfl, by decide, in_X1, tyX1_ok, nmX1, Or.inr ⟨"HalfFair", q246⟩, Or.inl rfl⟩
theorem nf_1_4 : hf_Nf 1 4 := ⟨(RX1, TX1, 13), rfl, rfl⟩
def spX5_stalls (l0 : Nat) (l1 : Nat) (V0 : hf_H) : Option ((Nat ⊕ Unit) × hf_H) :=
  (hf_ob 0 5 V0 l0).bind fun _ =>
  hf_bT (spX5_number l0 (2 : Int32) (8 : Int32) V0) fun x2 g1 =>
  (hf_pi 1 1 3 g1 l1 x2).bind fun g3 =>
  (hf_ob 0 5 g3 l0).bind fun _ =>
  hf_bT (spX5_number l0 (0 : Int32) (7 : Int32) g3) fun x5 g4 =>
  (hf_pi 1 1 4 g4 l1 x5).bind fun g6 =>
  some (.inr (), g6)
theorem jtX5_stalls {C : hf_X} {gs : hf_gs} (o : hf_In C cX5_stalls RX5 2 (none) 3 69) (og : hf_G C gs) (ot : hf_Thr C) (l0 : Nat) (l1 : Nat) (V0 : hf_H) : hf_J C hf_dTV (spX5_stalls l0 l1 V0) V0 0 [(0, .ref l0), (1, .ref l1)] [] := by
  refine hr_aload_n o 1 dX5_stalls_0 rfl ?_
  refine hr_aload_n o 0 dX5_stalls_1 rfl ?_
  refine hr_iconst o (2 : Int32) dX5_stalls_2 (by decide) ?_
  refine hr_bipush o (8 : Int32) dX5_stalls_3 (by decide) ?_
  refine hT_callV (q := (RX5, TX5, 7)) o og ot mvX5_82 dX5_stalls_5 rfl [.int (2 : Int32), .int (8 : Int32)] (fun z ze => mtX5_number l0 (2 : Int32) (8 : Int32) V0 z ze) rfl rfl (Nat.le_of_ble_eq_true rfl) ⟨by decide, by decide⟩ (fun x2 g1 => ?_)
  refine hx_putI (md := 1) o flX5_150 dX5_stalls_8 rfl (Or.inl nf_1_3) rfl rfl (fun _ => rfl) (fun g3 => ?_)
  refine hr_aload_n o 1 dX5_stalls_11 rfl ?_
  refine hr_aload_n o 0 dX5_stalls_12 rfl ?_
  refine hr_iconst o (0 : Int32) dX5_stalls_13 (by decide) ?_
  refine hr_bipush o (7 : Int32) dX5_stalls_14 (by decide) ?_
  refine hT_callV (q := (RX5, TX5, 7)) o og ot mvX5_82 dX5_stalls_16 rfl [.int (0 : Int32), .int (7 : Int32)] (fun z ze => mtX5_number l0 (0 : Int32) (7 : Int32) g3 z ze) rfl rfl (Nat.le_of_ble_eq_true rfl) ⟨by decide, by decide⟩ (fun x5 g4 => ?_)
  refine hx_putI (md := 1) o flX5_180 dX5_stalls_19 rfl (Or.inl nf_1_4) rfl rfl (fun _ => rfl) (fun g6 => ?_)
  exact hr_vret o dX5_stalls_22 rfl
theorem mtX5_stalls {gs : hf_gs}  (l0 : Nat) (l1 : Nat) (V0 : hf_H) (t : (Nat ⊕ Unit) × hf_H) (e : spX5_stalls l0 l1 V0 = some t) : hf_ConT gs yX5_stalls cX5_stalls 2 (none) 3 69 [.ref l0, .ref l1] V0 (hf_dTV t) := hf_entryT (by decide) [.ref l0, .ref l1] (Nat.le_of_ble_eq_true rfl) [(0, .ref l0), (1, .ref l1)] rfl e (fun C o og ot => jtX5_stalls o og ot l0 l1 V0)

/-! X5_dusk -/
theorem flX5_183 : hf_Fl RX5 183 1 6 := ⟨(RX1, TX1, 13), RX1, rfl, by decide, in_X1, tyX1_ok, nmX1, Or.inr ⟨"HalfFair", q251⟩, Or.inl rfl⟩
theorem flX5_186 : hf_Fl RX5 186 1 7 := ⟨(RX1, TX1, 13), RX1, rfl, by decide, in_X1, tyX1_ok, nmX1, Or.inr ⟨"HalfFair", q253⟩, Or.inl rfl⟩
theorem flX5_189 : hf_Fl RX5 189 1 11 := ⟨(RX1, TX1, 13), RX1, rfl, by decide, in_X1, tyX1_ok, nmX1, Or.inr ⟨"HalfFair", q260⟩, Or.inl rfl⟩
theorem nf_1_11 : hf_Nf 1 11 := ⟨(RX1, TX1, 13), rfl, rfl⟩
def spX5_dusk (l0 : Nat) (l1 : Nat) (V0 : hf_H) : Option ((Nat ⊕ Unit) × hf_H) :=
  (hf_ob 0 5 V0 l0).bind fun _ =>
  hf_bT (spX5_number l0 (1 : Int32) (24 : Int32) V0) fun x2 g1 =>
  (hf_pi 1 1 6 g1 l1 x2).bind fun g3 =>
  (hf_ob 0 5 g3 l0).bind fun _ =>
  hf_bT (spX5_number l0 (1 : Int32) (99 : Int32) g3) fun x5 g4 =>
  (hf_pi 1 1 7 g4 l1 x5).bind fun g6 =>
  (hf_pi 1 1 11 g6 l1 (1 : Int32)).bind fun g7 =>
  some (.inr (), g7)
theorem jtX5_dusk {C : hf_X} {gs : hf_gs} (o : hf_In C cX5_dusk RX5 2 (none) 3 69) (og : hf_G C gs) (ot : hf_Thr C) (l0 : Nat) (l1 : Nat) (V0 : hf_H) : hf_J C hf_dTV (spX5_dusk l0 l1 V0) V0 0 [(0, .ref l0), (1, .ref l1)] [] := by
  refine hr_aload_n o 1 dX5_dusk_0 rfl ?_
  refine hr_aload_n o 0 dX5_dusk_1 rfl ?_
  refine hr_iconst o (1 : Int32) dX5_dusk_2 (by decide) ?_
  refine hr_bipush o (24 : Int32) dX5_dusk_3 (by decide) ?_
  refine hT_callV (q := (RX5, TX5, 7)) o og ot mvX5_82 dX5_dusk_5 rfl [.int (1 : Int32), .int (24 : Int32)] (fun z ze => mtX5_number l0 (1 : Int32) (24 : Int32) V0 z ze) rfl rfl (Nat.le_of_ble_eq_true rfl) ⟨by decide, by decide⟩ (fun x2 g1 => ?_)
  refine hx_putI (md := 1) o flX5_183 dX5_dusk_8 rfl (Or.inl nf_1_6) rfl rfl (fun _ => rfl) (fun g3 => ?_)
  refine hr_aload_n o 1 dX5_dusk_11 rfl ?_
  refine hr_aload_n o 0 dX5_dusk_12 rfl ?_
  refine hr_iconst o (1 : Int32) dX5_dusk_13 (by decide) ?_
  refine hr_bipush o (99 : Int32) dX5_dusk_14 (by decide) ?_
  refine hT_callV (q := (RX5, TX5, 7)) o og ot mvX5_82 dX5_dusk_16 rfl [.int (1 : Int32), .int (99 : Int32)] (fun z ze => mtX5_number l0 (1 : Int32) (99 : Int32) g3 z ze) rfl rfl (Nat.le_of_ble_eq_true rfl) ⟨by decide, by decide⟩ (fun x5 g4 => ?_)
  refine hx_putI (md := 1) o flX5_186 dX5_dusk_19 rfl (Or.inl nf_1_7) rfl rfl (fun _ => rfl) (fun g6 => ?_)
  refine hr_aload_n o 1 dX5_dusk_22 rfl ?_
  refine hr_iconst o (1 : Int32) dX5_dusk_23 (by decide) ?_
  refine hx_putI (md := 1) o flX5_189 dX5_dusk_24 rfl (Or.inl nf_1_11) (by decide) (by decide) (fun _ => rfl) (fun g7 => ?_)
  exact hr_vret o dX5_dusk_27 rfl
theorem mtX5_dusk {gs : hf_gs}  (l0 : Nat) (l1 : Nat) (V0 : hf_H) (t : (Nat ⊕ Unit) × hf_H) (e : spX5_dusk l0 l1 V0 = some t) : hf_ConT gs yX5_dusk cX5_dusk 2 (none) 3 69 [.ref l0, .ref l1] V0 (hf_dTV t) := hf_entryT (by decide) [.ref l0, .ref l1] (Nat.le_of_ble_eq_true rfl) [(0, .ref l0), (1, .ref l1)] rfl e (fun C o og ot => jtX5_dusk o og ot l0 l1 V0)

/-! X5_once -/
theorem mvX5_198 : hf_MV RX5 198 RX5 yX5_begins cX5_begins 3 (some .boolean) 2 := ⟨lw_V q525 q527 qs3 q163 q528, by decide +kernel⟩
theorem flX5_213 : hf_Fl RX5 213 1 8 := ⟨(RX1, TX1, 13), RX1, rfl, by decide, in_X1, tyX1_ok, nmX1, Or.inr ⟨"HalfFair", q255⟩, Or.inl rfl⟩
theorem flX5_210 : hf_Fl RX5 210 1 12 := ⟨(RX1, TX1, 13), RX1, rfl, by decide, in_X1, tyX1_ok, nmX1, Or.inr ⟨"HalfFair", q261⟩, Or.inl rfl⟩
theorem nf_1_12 : hf_Nf 1 12 := ⟨(RX1, TX1, 13), rfl, rfl⟩
theorem mvX5_205 : hf_MV RX5 205 RX5 yX5_dusk cX5_dusk 2 (none) 1 := ⟨lw_V q750 q752 qs17 q163 q753, by decide +kernel⟩
theorem flX5_202 : hf_Fl RX5 202 1 5 := ⟨(RX1, TX1, 13), RX1, rfl, by decide, in_X1, tyX1_ok, nmX1, Or.inr ⟨"HalfFair", q248⟩, Or.inl rfl⟩
theorem nf_1_5 : hf_Nf 1 5 := ⟨(RX1, TX1, 13), rfl, rfl⟩
theorem flX5_195 : hf_Fl RX5 195 1 10 := ⟨(RX1, TX1, 13), RX1, rfl, by decide, in_X1, tyX1_ok, nmX1, Or.inr ⟨"HalfFair", q259⟩, Or.inl rfl⟩
theorem nf_1_10 : hf_Nf 1 10 := ⟨(RX1, TX1, 13), rfl, rfl⟩
def ndX5_once_96 (gs : hf_gs)  (l0 : Nat) (l1 : Nat) (s0 : Nat) (s1 : Nat) (s2 : Int32) (V0 : hf_H) : Option ((Nat ⊕ Unit) × hf_H) :=
  (hf_ob 0 5 V0 s0).bind fun _ =>
  hf_bT (spX5_begins gs s0 s1 s2 V0) fun x2 g1 =>
  if x2 = 0 then ((hf_ga 0 5 6 g1 l0).bind fun x3 =>
  (hf_gi 0 5 1 g1 l0).bind fun x4 =>
  (hf_ob 1 0 g1 x3).bind fun _ =>
  hf_b2 (spX0_fails x3 (0 : Int32) x4 g1) fun x6 g5 =>
  (hf_ob 0 3 g5 x6).bind fun _ => some (.inl x6, g5)) else
  (hf_ob 0 5 g1 l0).bind fun _ =>
  hf_bT (spX5_number l0 (0 : Int32) (7 : Int32) g1) fun x8 g7 =>
  (hf_pi 1 1 8 g7 l1 x8).bind fun g9 =>
  (hf_pi 1 1 12 g9 l1 (1 : Int32)).bind fun g10 =>
  some (.inr (), g10)
theorem nlX5_once_96 {C : hf_X} {gs : hf_gs} (o : hf_In C cX5_once RX5 3 (none) 6 131) (og : hf_G C gs) (ot : hf_Thr C)   (l0 : Nat) (l1 : Nat) (s0 : Nat) (s1 : Nat) (s2 : Int32) (V0 : hf_H) : hf_J C hf_dTV (ndX5_once_96 gs l0 l1 s0 s1 s2 V0) V0 96 [(0, .ref l0), (1, .ref l1)] [.int s2, .ref s1, .ref s0] := by
  refine hT_callV (q := (RX5, TX5, 7)) o og ot mvX5_198 dX5_once_96 rfl [.ref s1, .int s2] (fun z ze => mtX5_begins s0 s1 s2 V0 z ze) rfl rfl (Nat.le_of_ble_eq_true rfl) ⟨by decide, by decide⟩ (fun x2 g1 => ?_)
  refine hr_if_eq o 121 dX5_once_99 (by decide) (fun _ => ?_) (fun _ => ?_)
  · refine hr_aload_n o 0 dX5_once_121 rfl ?_
    refine hr_getA (md := 0) o flX5_3 dX5_once_122 (fun _ => rfl) (fun x3 => ?_)
    refine hr_iconst o (0 : Int32) dX5_once_125 (by decide) ?_
    refine hr_aload_n o 0 dX5_once_126 rfl ?_
    refine hr_getI (md := 0) o flX5_23 dX5_once_127 (fun _ => rfl) (fun x4 => ?_)
    refine hx_callVNA (q := (RX0, TX0, 23)) o og mvnX5_69 dX5_once_130 1 0 rfl [.int (0 : Int32), .int x4] (fun zr zg ze => mtX0_fails x3 (0 : Int32) x4 g1 zr zg ze) rfl rfl (Nat.le_of_ble_eq_true rfl) ⟨by decide, by decide⟩ (fun x6 g5 => ?_)
    exact hT_athrow o ot dX5_once_133
  refine hr_aload_n o 1 dX5_once_102 rfl ?_
  refine hr_aload_n o 0 dX5_once_103 rfl ?_
  refine hr_iconst o (0 : Int32) dX5_once_104 (by decide) ?_
  refine hr_bipush o (7 : Int32) dX5_once_105 (by decide) ?_
  refine hT_callV (q := (RX5, TX5, 7)) o og ot mvX5_82 dX5_once_107 rfl [.int (0 : Int32), .int (7 : Int32)] (fun z ze => mtX5_number l0 (0 : Int32) (7 : Int32) g1 z ze) rfl rfl (Nat.le_of_ble_eq_true rfl) ⟨by decide, by decide⟩ (fun x8 g7 => ?_)
  refine hx_putI (md := 1) o flX5_213 dX5_once_110 rfl (Or.inl nf_1_8) rfl rfl (fun _ => rfl) (fun g9 => ?_)
  refine hr_aload_n o 1 dX5_once_113 rfl ?_
  refine hr_iconst o (1 : Int32) dX5_once_114 (by decide) ?_
  refine hx_putI (md := 1) o flX5_210 dX5_once_115 rfl (Or.inl nf_1_12) (by decide) (by decide) (fun _ => rfl) (fun g10 => ?_)
  refine hr_goto o 134 dX5_once_118 (by decide) ?_
  exact hr_vret o dX5_once_134 rfl
def ndX5_once_95 (gs : hf_gs)  (l0 : Nat) (l1 : Nat) (s0 : Nat) (s1 : Nat) (V0 : hf_H) : Option ((Nat ⊕ Unit) × hf_H) :=
  ndX5_once_96 gs l0 l1 s0 s1 (0 : Int32) V0
theorem nlX5_once_95 {C : hf_X} {gs : hf_gs} (o : hf_In C cX5_once RX5 3 (none) 6 131) (og : hf_G C gs) (ot : hf_Thr C)   (l0 : Nat) (l1 : Nat) (s0 : Nat) (s1 : Nat) (V0 : hf_H) : hf_J C hf_dTV (ndX5_once_95 gs l0 l1 s0 s1 V0) V0 95 [(0, .ref l0), (1, .ref l1)] [.ref s1, .ref s0] := by
  refine hr_iconst o (0 : Int32) dX5_once_95 (by decide) ?_
  exact nlX5_once_96 o og ot l0 l1 s0 s1 (0 : Int32) V0
def ndX5_once_63 (gs : hf_gs)  (l0 : Nat) (l1 : Nat) (l2 : Int32) (s0 : Nat) (s1 : Nat) (s2 : Int32) (V0 : hf_H) : Option ((Nat ⊕ Unit) × hf_H) :=
  (hf_ob 0 5 V0 s0).bind fun _ =>
  hf_bT (spX5_begins gs s0 s1 s2 V0) fun x2 g1 =>
  if x2 = 0 then (if l2 = 0 then (ndX5_once_95 gs l0 l1 l0 (gs.2 18) g1) else
  (hf_gi 1 1 12 g1 l1).bind fun x3 =>
  if x3 = 0 then (ndX5_once_96 gs l0 l1 l0 (gs.2 18) (1 : Int32) g1) else
  ndX5_once_95 gs l0 l1 l0 (gs.2 18) g1) else
  (hf_ob 0 5 g1 l0).bind fun _ =>
  hf_bT (spX5_dusk l0 l1 g1) fun _ g4 =>
  some (.inr (), g4)
theorem nlX5_once_63 {C : hf_X} {gs : hf_gs} (o : hf_In C cX5_once RX5 3 (none) 6 131) (og : hf_G C gs) (ot : hf_Thr C)   (l0 : Nat) (l1 : Nat) (l2 : Int32) (s0 : Nat) (s1 : Nat) (s2 : Int32) (V0 : hf_H) : hf_J C hf_dTV (ndX5_once_63 gs l0 l1 l2 s0 s1 s2 V0) V0 63 [(0, .ref l0), (1, .ref l1), (2, .int l2)] [.int s2, .ref s1, .ref s0] := by
  refine hT_callV (q := (RX5, TX5, 7)) o og ot mvX5_198 dX5_once_63 rfl [.ref s1, .int s2] (fun z ze => mtX5_begins s0 s1 s2 V0 z ze) rfl rfl (Nat.le_of_ble_eq_true rfl) ⟨by decide, by decide⟩ (fun x2 g1 => ?_)
  refine hr_if_eq o 77 dX5_once_66 (by decide) (fun _ => ?_) (fun _ => ?_)
  · refine hr_aload_n o 0 dX5_once_77 rfl ?_
    refine hx_ldcS o og 18 rfl dX5_once_78 ?_
    refine hr_iload_n o 2 dX5_once_80 rfl ?_
    refine hr_if_eq o 95 dX5_once_81 (by decide) (fun _ => ?_) (fun _ => ?_)
    · refine hr_sub [0, 1] rfl ?_
      exact nlX5_once_95 o og ot l0 l1 l0 (gs.2 18) g1
    refine hr_aload_n o 1 dX5_once_84 rfl ?_
    refine hr_getI (md := 1) o flX5_210 dX5_once_85 (fun _ => rfl) (fun x3 => ?_)
    refine hr_if_ne o 95 dX5_once_88 (by decide) (fun _ => ?_) (fun _ => ?_)
    · refine hr_iconst o (1 : Int32) dX5_once_91 (by decide) ?_
      refine hr_goto o 96 dX5_once_92 (by decide) ?_
      refine hr_sub [0, 1] rfl ?_
      exact nlX5_once_96 o og ot l0 l1 l0 (gs.2 18) (1 : Int32) g1
    refine hr_sub [0, 1] rfl ?_
    exact nlX5_once_95 o og ot l0 l1 l0 (gs.2 18) g1
  refine hr_aload_n o 0 dX5_once_69 rfl ?_
  refine hr_aload_n o 1 dX5_once_70 rfl ?_
  refine hT_callV (q := (RX5, TX5, 7)) o og ot mvX5_205 dX5_once_71 rfl [.ref l1] (fun z ze => mtX5_dusk l0 l1 g1 z ze) rfl rfl (Nat.le_of_ble_eq_true rfl) ⟨by decide, by decide⟩ (fun _ g4 => ?_)
  refine hr_goto o 134 dX5_once_74 (by decide) ?_
  exact hr_vret o dX5_once_134 rfl
def ndX5_once_62 (gs : hf_gs)  (l0 : Nat) (l1 : Nat) (l2 : Int32) (s0 : Nat) (s1 : Nat) (V0 : hf_H) : Option ((Nat ⊕ Unit) × hf_H) :=
  ndX5_once_63 gs l0 l1 l2 s0 s1 (0 : Int32) V0
theorem nlX5_once_62 {C : hf_X} {gs : hf_gs} (o : hf_In C cX5_once RX5 3 (none) 6 131) (og : hf_G C gs) (ot : hf_Thr C)   (l0 : Nat) (l1 : Nat) (l2 : Int32) (s0 : Nat) (s1 : Nat) (V0 : hf_H) : hf_J C hf_dTV (ndX5_once_62 gs l0 l1 l2 s0 s1 V0) V0 62 [(0, .ref l0), (1, .ref l1), (2, .int l2)] [.ref s1, .ref s0] := by
  refine hr_iconst o (0 : Int32) dX5_once_62 (by decide) ?_
  exact nlX5_once_63 o og ot l0 l1 l2 s0 s1 (0 : Int32) V0
def ndX5_once_19 (gs : hf_gs)  (l0 : Nat) (l1 : Nat) (l2 : Int32) (s0 : Nat) (s1 : Nat) (s2 : Int32) (V0 : hf_H) : Option ((Nat ⊕ Unit) × hf_H) :=
  (hf_ob 0 5 V0 s0).bind fun _ =>
  hf_bT (spX5_begins gs s0 s1 s2 V0) fun x2 g1 =>
  if x2 = 0 then (if l2 = 0 then (ndX5_once_62 gs l0 l1 l2 l0 (gs.2 17) g1) else
  (hf_gi 1 1 11 g1 l1).bind fun x3 =>
  if x3 = 0 then (ndX5_once_63 gs l0 l1 l2 l0 (gs.2 17) (1 : Int32) g1) else
  ndX5_once_62 gs l0 l1 l2 l0 (gs.2 17) g1) else
  (hf_ob 0 5 g1 l0).bind fun _ =>
  hf_bT (spX5_number l0 (0 : Int32) (9 : Int32) g1) fun x5 g4 =>
  (hf_pi 1 1 5 g4 l1 x5).bind fun g6 =>
  (hf_pi 1 1 10 g6 l1 (1 : Int32)).bind fun g7 =>
  some (.inr (), g7)
theorem nlX5_once_19 {C : hf_X} {gs : hf_gs} (o : hf_In C cX5_once RX5 3 (none) 6 131) (og : hf_G C gs) (ot : hf_Thr C)   (l0 : Nat) (l1 : Nat) (l2 : Int32) (s0 : Nat) (s1 : Nat) (s2 : Int32) (V0 : hf_H) : hf_J C hf_dTV (ndX5_once_19 gs l0 l1 l2 s0 s1 s2 V0) V0 19 [(0, .ref l0), (1, .ref l1), (2, .int l2)] [.int s2, .ref s1, .ref s0] := by
  refine hT_callV (q := (RX5, TX5, 7)) o og ot mvX5_198 dX5_once_19 rfl [.ref s1, .int s2] (fun z ze => mtX5_begins s0 s1 s2 V0 z ze) rfl rfl (Nat.le_of_ble_eq_true rfl) ⟨by decide, by decide⟩ (fun x2 g1 => ?_)
  refine hr_if_eq o 44 dX5_once_22 (by decide) (fun _ => ?_) (fun _ => ?_)
  · refine hr_aload_n o 0 dX5_once_44 rfl ?_
    refine hx_ldcS o og 17 rfl dX5_once_45 ?_
    refine hr_iload_n o 2 dX5_once_47 rfl ?_
    refine hr_if_eq o 62 dX5_once_48 (by decide) (fun _ => ?_) (fun _ => ?_)
    · exact nlX5_once_62 o og ot l0 l1 l2 l0 (gs.2 17) g1
    refine hr_aload_n o 1 dX5_once_51 rfl ?_
    refine hr_getI (md := 1) o flX5_189 dX5_once_52 (fun _ => rfl) (fun x3 => ?_)
    refine hr_if_ne o 62 dX5_once_55 (by decide) (fun _ => ?_) (fun _ => ?_)
    · refine hr_iconst o (1 : Int32) dX5_once_58 (by decide) ?_
      refine hr_goto o 63 dX5_once_59 (by decide) ?_
      exact nlX5_once_63 o og ot l0 l1 l2 l0 (gs.2 17) (1 : Int32) g1
    exact nlX5_once_62 o og ot l0 l1 l2 l0 (gs.2 17) g1
  refine hr_aload_n o 1 dX5_once_25 rfl ?_
  refine hr_aload_n o 0 dX5_once_26 rfl ?_
  refine hr_iconst o (0 : Int32) dX5_once_27 (by decide) ?_
  refine hr_bipush o (9 : Int32) dX5_once_28 (by decide) ?_
  refine hT_callV (q := (RX5, TX5, 7)) o og ot mvX5_82 dX5_once_30 rfl [.int (0 : Int32), .int (9 : Int32)] (fun z ze => mtX5_number l0 (0 : Int32) (9 : Int32) g1 z ze) rfl rfl (Nat.le_of_ble_eq_true rfl) ⟨by decide, by decide⟩ (fun x5 g4 => ?_)
  refine hx_putI (md := 1) o flX5_202 dX5_once_33 rfl (Or.inl nf_1_5) rfl rfl (fun _ => rfl) (fun g6 => ?_)
  refine hr_aload_n o 1 dX5_once_36 rfl ?_
  refine hr_iconst o (1 : Int32) dX5_once_37 (by decide) ?_
  refine hx_putI (md := 1) o flX5_195 dX5_once_38 rfl (Or.inl nf_1_10) (by decide) (by decide) (fun _ => rfl) (fun g7 => ?_)
  refine hr_goto o 134 dX5_once_41 (by decide) ?_
  exact hr_vret o dX5_once_134 rfl
def ndX5_once_18 (gs : hf_gs)  (l0 : Nat) (l1 : Nat) (l2 : Int32) (s0 : Nat) (s1 : Nat) (V0 : hf_H) : Option ((Nat ⊕ Unit) × hf_H) :=
  ndX5_once_19 gs l0 l1 l2 s0 s1 (0 : Int32) V0
theorem nlX5_once_18 {C : hf_X} {gs : hf_gs} (o : hf_In C cX5_once RX5 3 (none) 6 131) (og : hf_G C gs) (ot : hf_Thr C)   (l0 : Nat) (l1 : Nat) (l2 : Int32) (s0 : Nat) (s1 : Nat) (V0 : hf_H) : hf_J C hf_dTV (ndX5_once_18 gs l0 l1 l2 s0 s1 V0) V0 18 [(0, .ref l0), (1, .ref l1), (2, .int l2)] [.ref s1, .ref s0] := by
  refine hr_iconst o (0 : Int32) dX5_once_18 (by decide) ?_
  exact nlX5_once_19 o og ot l0 l1 l2 s0 s1 (0 : Int32) V0
def spX5_once (gs : hf_gs) (l0 : Nat) (l1 : Nat) (l2 : Int32) (V0 : hf_H) : Option ((Nat ⊕ Unit) × hf_H) :=
  if l2 = 0 then (ndX5_once_18 gs l0 l1 l2 l0 (gs.2 16) V0) else
  (hf_gi 1 1 10 V0 l1).bind fun x1 =>
  if x1 = 0 then (ndX5_once_19 gs l0 l1 l2 l0 (gs.2 16) (1 : Int32) V0) else
  ndX5_once_18 gs l0 l1 l2 l0 (gs.2 16) V0
theorem jtX5_once {C : hf_X} {gs : hf_gs} (o : hf_In C cX5_once RX5 3 (none) 6 131) (og : hf_G C gs) (ot : hf_Thr C) (l0 : Nat) (l1 : Nat) (l2 : Int32) (V0 : hf_H) : hf_J C hf_dTV (spX5_once gs l0 l1 l2 V0) V0 0 [(0, .ref l0), (1, .ref l1), (2, .int l2)] [] := by
  refine hr_aload_n o 0 dX5_once_0 rfl ?_
  refine hx_ldcS o og 16 rfl dX5_once_1 ?_
  refine hr_iload_n o 2 dX5_once_3 rfl ?_
  refine hr_if_eq o 18 dX5_once_4 (by decide) (fun _ => ?_) (fun _ => ?_)
  · exact nlX5_once_18 o og ot l0 l1 l2 l0 (gs.2 16) V0
  refine hr_aload_n o 1 dX5_once_7 rfl ?_
  refine hr_getI (md := 1) o flX5_195 dX5_once_8 (fun _ => rfl) (fun x1 => ?_)
  refine hr_if_ne o 18 dX5_once_11 (by decide) (fun _ => ?_) (fun _ => ?_)
  · refine hr_iconst o (1 : Int32) dX5_once_14 (by decide) ?_
    refine hr_goto o 19 dX5_once_15 (by decide) ?_
    exact nlX5_once_19 o og ot l0 l1 l2 l0 (gs.2 16) (1 : Int32) V0
  exact nlX5_once_18 o og ot l0 l1 l2 l0 (gs.2 16) V0
theorem mtX5_once {gs : hf_gs}  (l0 : Nat) (l1 : Nat) (l2 : Int32) (V0 : hf_H) (t : (Nat ⊕ Unit) × hf_H) (e : spX5_once gs l0 l1 l2 V0 = some t) : hf_ConT gs yX5_once cX5_once 3 (none) 6 131 [.ref l0, .ref l1, .int l2] V0 (hf_dTV t) := hf_entryT (by decide) [.ref l0, .ref l1, .int l2] (Nat.le_of_ble_eq_true rfl) [(0, .ref l0), (1, .ref l1), (2, .int l2)] rfl e (fun C o og ot => jtX5_once o og ot l0 l1 l2 V0)

/-! X5_clause -/
theorem mvX5_236 : hf_MV RX5 236 RX5 yX5_once cX5_once 3 (none) 2 := ⟨lw_V q744 q746 qs16 q163 q747, by decide +kernel⟩
theorem mvX5_234 : hf_MV RX5 234 RX5 yX5_club cX5_club 5 (none) 1 := ⟨lw_V q733 q735 qs15 q163 q736, by decide +kernel⟩
theorem minX5_230 : hf_MIN RX5 230 "HalfFair" yX7_init cX7_init 3 2 := ⟨⟨q719, q720, q174, q721, rfl⟩, by decide +kernel⟩
theorem flX5_224 : hf_Fl RX5 224 1 9 := ⟨(RX1, TX1, 13), RX1, rfl, by decide, in_X1, tyX1_ok, nmX1, Or.inr ⟨"HalfFair", q258⟩, Or.inl rfl⟩
theorem nf_1_9 : hf_Nf 1 9 := ⟨(RX1, TX1, 13), rfl, rfl⟩
theorem mvX5_220 : hf_MV RX5 220 RX5 yX5_half cX5_half 5 (none) 1 := ⟨lw_V q617 q619 qs11 q163 q620, by decide +kernel⟩
theorem mvX5_216 : hf_MV RX5 216 RX5 yX5_stalls cX5_stalls 2 (none) 1 := ⟨lw_V q598 q600 qs8 q163 q601, by decide +kernel⟩
def ndX5_clause_138 (gs : hf_gs)  (l0 : Nat) (l1 : Nat) (l2 : Int32) (s0 : Nat) (s1 : Nat) (s2 : Int32) (V0 : hf_H) : Option ((Nat ⊕ Unit) × hf_H) :=
  (hf_ob 0 5 V0 s0).bind fun _ =>
  hf_bT (spX5_begins gs s0 s1 s2 V0) fun x2 g1 =>
  if x2 = 0 then ((hf_ob 0 5 g1 l0).bind fun _ =>
  hf_bT (spX5_begins gs l0 (gs.2 23) l2 g1) fun x4 g3 =>
  if x4 = 0 then ((hf_ob 0 5 g3 l0).bind fun _ =>
  hf_bT (spX5_once gs l0 l1 l2 g3) fun _ g5 =>
  some (.inr (), g5)) else
  (hf_ob 0 5 g3 l0).bind fun _ =>
  hf_bT (spX5_club l0 l1 g3) fun _ g6 =>
  some (.inr (), g6)) else
  (hf_ob 0 5 g1 l0).bind fun _ =>
  hf_bT (spX5_number l0 (0 : Int32) (999 : Int32) g1) fun x8 g7 =>
  (hf_ga 1 1 1 g7 l1).bind fun x9 =>
  hf_mk g7 (.inl (0, 7, hf_V0)) 2 fun x10 g11 =>
  (hf_gi 1 1 3 g11 l1).bind fun x12 =>
  (hf_ob 0 5 g11 l0).bind fun _ =>
  hf_bT (spX5_number l0 (0 : Int32) (x12 - (1 : Int32)) g11) fun x14 g13 =>
  (spX7_init x10 x8 x14 g13).bind fun g15 =>
  (hf_ob 0 19 g15 x9).bind fun _ =>
  hf_b2 (spJ2_add gs x9 x10 g15) fun x17 g16 =>
  some (.inr (), g16)
theorem nlX5_clause_138 {C : hf_X} {gs : hf_gs} (o : hf_In C cX5_clause RX5 4 (none) 8 173) (og : hf_G C gs) (ot : hf_Thr C)   (l0 : Nat) (l1 : Nat) (l2 : Int32) (s0 : Nat) (s1 : Nat) (s2 : Int32) (V0 : hf_H) : hf_J C hf_dTV (ndX5_clause_138 gs l0 l1 l2 s0 s1 s2 V0) V0 138 [(0, .ref l0), (1, .ref l1), (2, .int l2)] [.int s2, .ref s1, .ref s0] := by
  refine hT_callV (q := (RX5, TX5, 7)) o og ot mvX5_198 dX5_clause_138 rfl [.ref s1, .int s2] (fun z ze => mtX5_begins s0 s1 s2 V0 z ze) rfl rfl (Nat.le_of_ble_eq_true rfl) ⟨by decide, by decide⟩ (fun x2 g1 => ?_)
  refine hr_if_eq o 183 dX5_clause_141 (by decide) (fun _ => ?_) (fun _ => ?_)
  · refine hr_aload_n o 0 dX5_clause_183 rfl ?_
    refine hx_ldcS o og 23 rfl dX5_clause_184 ?_
    refine hr_iload_n o 2 dX5_clause_186 rfl ?_
    refine hT_callV (q := (RX5, TX5, 7)) o og ot mvX5_198 dX5_clause_187 rfl [.ref (gs.2 23), .int l2] (fun z ze => mtX5_begins l0 (gs.2 23) l2 g1 z ze) rfl rfl (Nat.le_of_ble_eq_true rfl) ⟨by decide, by decide⟩ (fun x4 g3 => ?_)
    refine hr_if_eq o 201 dX5_clause_190 (by decide) (fun _ => ?_) (fun _ => ?_)
    · refine hr_aload_n o 0 dX5_clause_201 rfl ?_
      refine hr_aload_n o 1 dX5_clause_202 rfl ?_
      refine hr_iload_n o 2 dX5_clause_203 rfl ?_
      refine hT_callV (q := (RX5, TX5, 7)) o og ot mvX5_236 dX5_clause_204 rfl [.ref l1, .int l2] (fun z ze => mtX5_once l0 l1 l2 g3 z ze) rfl rfl (Nat.le_of_ble_eq_true rfl) ⟨by decide, by decide⟩ (fun _ g5 => ?_)
      exact hr_vret o dX5_clause_207 rfl
    refine hr_aload_n o 0 dX5_clause_193 rfl ?_
    refine hr_aload_n o 1 dX5_clause_194 rfl ?_
    refine hT_callV (q := (RX5, TX5, 7)) o og ot mvX5_234 dX5_clause_195 rfl [.ref l1] (fun z ze => mtX5_club l0 l1 g3 z ze) rfl rfl (Nat.le_of_ble_eq_true rfl) ⟨by decide, by decide⟩ (fun _ g6 => ?_)
    refine hr_goto o 207 dX5_clause_198 (by decide) ?_
    exact hr_vret o dX5_clause_207 rfl
  refine hr_aload_n o 0 dX5_clause_144 rfl ?_
  refine hr_iconst o (0 : Int32) dX5_clause_145 (by decide) ?_
  refine hr_sipush o (999 : Int32) dX5_clause_146 (by decide) ?_
  refine hT_callV (q := (RX5, TX5, 7)) o og ot mvX5_82 dX5_clause_149 rfl [.int (0 : Int32), .int (999 : Int32)] (fun z ze => mtX5_number l0 (0 : Int32) (999 : Int32) g1 z ze) rfl rfl (Nat.le_of_ble_eq_true rfl) ⟨by decide, by decide⟩ (fun x8 g7 => ?_)
  refine hr_istore_n o [(3, .int x8), (0, .ref l0), (1, .ref l1), (2, .int l2)] dX5_clause_152 (by decide) rfl ?_
  refine hr_aload_n o 2 dX5_clause_153 rfl ?_
  refine hr_getA (md := 1) o flX5_170 dX5_clause_154 (fun _ => rfl) (fun x9 => ?_)
  refine hx_new (ci := 7) (q := (RX7, TX7, 2)) o rfl q717 q718 q174 in_X7 tyX7_ok (hf_def (by decide) (by decide)) dX5_clause_157 (fun x10 g11 => ?_)
  refine hr_dup o dX5_clause_160 rfl ?_
  refine hr_iload_n o 0 dX5_clause_161 rfl ?_
  refine hr_aload_n o 1 dX5_clause_162 rfl ?_
  refine hr_iconst o (0 : Int32) dX5_clause_163 (by decide) ?_
  refine hr_aload_n o 2 dX5_clause_164 rfl ?_
  refine hr_getI (md := 1) o flX5_150 dX5_clause_165 (fun _ => rfl) (fun x12 => ?_)
  refine hr_iconst o (1 : Int32) dX5_clause_168 (by decide) ?_
  refine hr_isub o dX5_clause_169 ?_
  refine hT_callV (q := (RX5, TX5, 7)) o og ot mvX5_82 dX5_clause_170 rfl [.int (0 : Int32), .int (x12 - (1 : Int32))] (fun z ze => mtX5_number l0 (0 : Int32) (x12 - (1 : Int32)) g11 z ze) rfl rfl (Nat.le_of_ble_eq_true rfl) ⟨by decide, by decide⟩ (fun x14 g13 => ?_)
  refine hx_callINV o og minX5_230 dX5_clause_173 [.int x8, .int x14] (fun zg ze => mtX7_init x10 x8 x14 g13 zg ze) rfl rfl (Nat.le_of_ble_eq_true rfl) ⟨by decide, by decide⟩ (fun g15 => ?_)
  refine hx_callVI (q := (RJ2, TJ2, 3)) o og mvX5_164 dX5_clause_176 0 19 rfl [.ref x10] (fun zr zg ze => mtJ2_add x9 x10 g15 zr zg ze) rfl rfl (Nat.le_of_ble_eq_true rfl) ⟨by decide, by decide⟩ (fun x17 g16 => ?_)
  refine hr_pop o dX5_clause_179 rfl ?_
  refine hr_goto o 207 dX5_clause_180 (by decide) ?_
  exact hr_vret o dX5_clause_207 rfl
def ndX5_clause_137 (gs : hf_gs)  (l0 : Nat) (l1 : Nat) (l2 : Int32) (s0 : Nat) (s1 : Nat) (V0 : hf_H) : Option ((Nat ⊕ Unit) × hf_H) :=
  ndX5_clause_138 gs l0 l1 l2 s0 s1 (0 : Int32) V0
theorem nlX5_clause_137 {C : hf_X} {gs : hf_gs} (o : hf_In C cX5_clause RX5 4 (none) 8 173) (og : hf_G C gs) (ot : hf_Thr C)   (l0 : Nat) (l1 : Nat) (l2 : Int32) (s0 : Nat) (s1 : Nat) (V0 : hf_H) : hf_J C hf_dTV (ndX5_clause_137 gs l0 l1 l2 s0 s1 V0) V0 137 [(0, .ref l0), (1, .ref l1), (2, .int l2)] [.ref s1, .ref s0] := by
  refine hr_iconst o (0 : Int32) dX5_clause_137 (by decide) ?_
  exact nlX5_clause_138 o og ot l0 l1 l2 s0 s1 (0 : Int32) V0
def ndX5_clause_63 (gs : hf_gs)  (l0 : Nat) (l1 : Nat) (l2 : Int32) (s0 : Nat) (s1 : Nat) (s2 : Int32) (V0 : hf_H) : Option ((Nat ⊕ Unit) × hf_H) :=
  (hf_ob 0 5 V0 s0).bind fun _ =>
  hf_bT (spX5_begins gs s0 s1 s2 V0) fun x2 g1 =>
  if x2 = 0 then ((hf_ob 0 5 g1 l0).bind fun _ =>
  hf_bT (spX5_begins gs l0 (gs.2 21) l2 g1) fun x4 g3 =>
  if x4 = 0 then (if l2 = 0 then (ndX5_clause_137 gs l0 l1 l2 l0 (gs.2 22) g3) else
  (hf_ga 1 1 1 g3 l1).bind fun x5 =>
  (hf_ob 0 19 g3 x5).bind fun _ =>
  hf_b2 (spJ2_size x5 g3) fun x7 g6 =>
  if (4 : Int32) ≤ x7 then (ndX5_clause_137 gs l0 l1 l2 l0 (gs.2 22) g6) else
  ndX5_clause_138 gs l0 l1 l2 l0 (gs.2 22) (1 : Int32) g6) else
  (hf_gi 1 1 9 g3 l1).bind fun x8 =>
  (hf_ga 1 1 0 g3 l1).bind fun x9 =>
  (hf_ob 0 19 g3 x9).bind fun _ =>
  hf_b2 (spJ2_size x9 g3) fun x11 g10 =>
  (hf_ob 0 5 g10 l0).bind fun _ =>
  hf_bT (spX5_number l0 (0 : Int32) (x11 - (1 : Int32)) g10) fun x13 g12 =>
  (hf_pi 1 1 9 g12 l1 (x8 ||| ((1 : Int32) <<< (x13 &&& 31)))).bind fun g14 =>
  some (.inr (), g14)) else
  (hf_ob 0 5 g1 l0).bind fun _ =>
  hf_bT (spX5_half gs l0 l1 g1) fun _ g15 =>
  some (.inr (), g15)
theorem nlX5_clause_63 {C : hf_X} {gs : hf_gs} (o : hf_In C cX5_clause RX5 4 (none) 8 173) (og : hf_G C gs) (ot : hf_Thr C)   (l0 : Nat) (l1 : Nat) (l2 : Int32) (s0 : Nat) (s1 : Nat) (s2 : Int32) (V0 : hf_H) : hf_J C hf_dTV (ndX5_clause_63 gs l0 l1 l2 s0 s1 s2 V0) V0 63 [(0, .ref l0), (1, .ref l1), (2, .int l2)] [.int s2, .ref s1, .ref s0] := by
  refine hT_callV (q := (RX5, TX5, 7)) o og ot mvX5_198 dX5_clause_63 rfl [.ref s1, .int s2] (fun z ze => mtX5_begins s0 s1 s2 V0 z ze) rfl rfl (Nat.le_of_ble_eq_true rfl) ⟨by decide, by decide⟩ (fun x2 g1 => ?_)
  refine hr_if_eq o 77 dX5_clause_66 (by decide) (fun _ => ?_) (fun _ => ?_)
  · refine hr_aload_n o 0 dX5_clause_77 rfl ?_
    refine hx_ldcS o og 21 rfl dX5_clause_78 ?_
    refine hr_iload_n o 2 dX5_clause_80 rfl ?_
    refine hT_callV (q := (RX5, TX5, 7)) o og ot mvX5_198 dX5_clause_81 rfl [.ref (gs.2 21), .int l2] (fun z ze => mtX5_begins l0 (gs.2 21) l2 g1 z ze) rfl rfl (Nat.le_of_ble_eq_true rfl) ⟨by decide, by decide⟩ (fun x4 g3 => ?_)
    refine hr_if_eq o 115 dX5_clause_84 (by decide) (fun _ => ?_) (fun _ => ?_)
    · refine hr_aload_n o 0 dX5_clause_115 rfl ?_
      refine hx_ldcS o og 22 rfl dX5_clause_116 ?_
      refine hr_iload_n o 2 dX5_clause_118 rfl ?_
      refine hr_if_eq o 137 dX5_clause_119 (by decide) (fun _ => ?_) (fun _ => ?_)
      · exact nlX5_clause_137 o og ot l0 l1 l2 l0 (gs.2 22) g3
      refine hr_aload_n o 1 dX5_clause_122 rfl ?_
      refine hr_getA (md := 1) o flX5_170 dX5_clause_123 (fun _ => rfl) (fun x5 => ?_)
      refine hx_callVI (q := (RJ2, TJ2, 3)) o og mvX5_173 dX5_clause_126 0 19 rfl [] (fun zr zg ze => mtJ2_size x5 g3 zr zg ze) rfl rfl (Nat.le_of_ble_eq_true rfl) ⟨by decide, by decide⟩ (fun x7 g6 => ?_)
      refine hr_iconst o (4 : Int32) dX5_clause_129 (by decide) ?_
      refine hr_icmp_ge o 137 dX5_clause_130 (by decide) (fun _ => ?_) (fun _ => ?_)
      · exact nlX5_clause_137 o og ot l0 l1 l2 l0 (gs.2 22) g6
      refine hr_iconst o (1 : Int32) dX5_clause_133 (by decide) ?_
      refine hr_goto o 138 dX5_clause_134 (by decide) ?_
      exact nlX5_clause_138 o og ot l0 l1 l2 l0 (gs.2 22) (1 : Int32) g6
    refine hr_aload_n o 1 dX5_clause_87 rfl ?_
    refine hr_dup o dX5_clause_88 rfl ?_
    refine hr_getI (md := 1) o flX5_224 dX5_clause_89 (fun _ => rfl) (fun x8 => ?_)
    refine hr_iconst o (1 : Int32) dX5_clause_92 (by decide) ?_
    refine hr_aload_n o 0 dX5_clause_93 rfl ?_
    refine hr_iconst o (0 : Int32) dX5_clause_94 (by decide) ?_
    refine hr_aload_n o 1 dX5_clause_95 rfl ?_
    refine hr_getA (md := 1) o flX5_155 dX5_clause_96 (fun _ => rfl) (fun x9 => ?_)
    refine hx_callVI (q := (RJ2, TJ2, 3)) o og mvX5_173 dX5_clause_99 0 19 rfl [] (fun zr zg ze => mtJ2_size x9 g3 zr zg ze) rfl rfl (Nat.le_of_ble_eq_true rfl) ⟨by decide, by decide⟩ (fun x11 g10 => ?_)
    refine hr_iconst o (1 : Int32) dX5_clause_102 (by decide) ?_
    refine hr_isub o dX5_clause_103 ?_
    refine hT_callV (q := (RX5, TX5, 7)) o og ot mvX5_82 dX5_clause_104 rfl [.int (0 : Int32), .int (x11 - (1 : Int32))] (fun z ze => mtX5_number l0 (0 : Int32) (x11 - (1 : Int32)) g10 z ze) rfl rfl (Nat.le_of_ble_eq_true rfl) ⟨by decide, by decide⟩ (fun x13 g12 => ?_)
    refine hr_ishl o dX5_clause_107 ?_
    refine hr_ior o dX5_clause_108 ?_
    refine hx_putI (md := 1) o flX5_224 dX5_clause_109 rfl (Or.inl nf_1_9) rfl rfl (fun _ => rfl) (fun g14 => ?_)
    refine hr_goto o 207 dX5_clause_112 (by decide) ?_
    exact hr_vret o dX5_clause_207 rfl
  refine hr_aload_n o 0 dX5_clause_69 rfl ?_
  refine hr_aload_n o 1 dX5_clause_70 rfl ?_
  refine hT_callV (q := (RX5, TX5, 7)) o og ot mvX5_220 dX5_clause_71 rfl [.ref l1] (fun z ze => mtX5_half l0 l1 g1 z ze) rfl rfl (Nat.le_of_ble_eq_true rfl) ⟨by decide, by decide⟩ (fun _ g15 => ?_)
  refine hr_goto o 207 dX5_clause_74 (by decide) ?_
  exact hr_vret o dX5_clause_207 rfl
def ndX5_clause_62 (gs : hf_gs)  (l0 : Nat) (l1 : Nat) (l2 : Int32) (s0 : Nat) (s1 : Nat) (V0 : hf_H) : Option ((Nat ⊕ Unit) × hf_H) :=
  ndX5_clause_63 gs l0 l1 l2 s0 s1 (0 : Int32) V0
theorem nlX5_clause_62 {C : hf_X} {gs : hf_gs} (o : hf_In C cX5_clause RX5 4 (none) 8 173) (og : hf_G C gs) (ot : hf_Thr C)   (l0 : Nat) (l1 : Nat) (l2 : Int32) (s0 : Nat) (s1 : Nat) (V0 : hf_H) : hf_J C hf_dTV (ndX5_clause_62 gs l0 l1 l2 s0 s1 V0) V0 62 [(0, .ref l0), (1, .ref l1), (2, .int l2)] [.ref s1, .ref s0] := by
  refine hr_iconst o (0 : Int32) dX5_clause_62 (by decide) ?_
  exact nlX5_clause_63 o og ot l0 l1 l2 s0 s1 (0 : Int32) V0
def ndX5_clause_25 (gs : hf_gs)  (l0 : Nat) (l1 : Nat) (l2 : Int32) (s0 : Nat) (s1 : Nat) (s2 : Int32) (V0 : hf_H) : Option ((Nat ⊕ Unit) × hf_H) :=
  (hf_ob 0 5 V0 s0).bind fun _ =>
  hf_bT (spX5_begins gs s0 s1 s2 V0) fun x2 g1 =>
  if x2 = 0 then (if l2 = 0 then (ndX5_clause_62 gs l0 l1 l2 l0 (gs.2 20) g1) else
  (hf_ga 1 1 0 g1 l1).bind fun x3 =>
  (hf_ob 0 19 g1 x3).bind fun _ =>
  hf_b2 (spJ2_size x3 g1) fun x5 g4 =>
  if (12 : Int32) ≤ x5 then (ndX5_clause_62 gs l0 l1 l2 l0 (gs.2 20) g4) else
  ndX5_clause_63 gs l0 l1 l2 l0 (gs.2 20) (1 : Int32) g4) else
  (hf_ob 0 5 g1 l0).bind fun _ =>
  hf_bT (spX5_stalls l0 l1 g1) fun _ g6 =>
  some (.inr (), g6)
theorem nlX5_clause_25 {C : hf_X} {gs : hf_gs} (o : hf_In C cX5_clause RX5 4 (none) 8 173) (og : hf_G C gs) (ot : hf_Thr C)   (l0 : Nat) (l1 : Nat) (l2 : Int32) (s0 : Nat) (s1 : Nat) (s2 : Int32) (V0 : hf_H) : hf_J C hf_dTV (ndX5_clause_25 gs l0 l1 l2 s0 s1 s2 V0) V0 25 [(0, .ref l0), (1, .ref l1), (2, .int l2)] [.int s2, .ref s1, .ref s0] := by
  refine hT_callV (q := (RX5, TX5, 7)) o og ot mvX5_198 dX5_clause_25 rfl [.ref s1, .int s2] (fun z ze => mtX5_begins s0 s1 s2 V0 z ze) rfl rfl (Nat.le_of_ble_eq_true rfl) ⟨by decide, by decide⟩ (fun x2 g1 => ?_)
  refine hr_if_eq o 39 dX5_clause_28 (by decide) (fun _ => ?_) (fun _ => ?_)
  · refine hr_aload_n o 0 dX5_clause_39 rfl ?_
    refine hx_ldcS o og 20 rfl dX5_clause_40 ?_
    refine hr_iload_n o 2 dX5_clause_42 rfl ?_
    refine hr_if_eq o 62 dX5_clause_43 (by decide) (fun _ => ?_) (fun _ => ?_)
    · exact nlX5_clause_62 o og ot l0 l1 l2 l0 (gs.2 20) g1
    refine hr_aload_n o 1 dX5_clause_46 rfl ?_
    refine hr_getA (md := 1) o flX5_155 dX5_clause_47 (fun _ => rfl) (fun x3 => ?_)
    refine hx_callVI (q := (RJ2, TJ2, 3)) o og mvX5_173 dX5_clause_50 0 19 rfl [] (fun zr zg ze => mtJ2_size x3 g1 zr zg ze) rfl rfl (Nat.le_of_ble_eq_true rfl) ⟨by decide, by decide⟩ (fun x5 g4 => ?_)
    refine hr_bipush o (12 : Int32) dX5_clause_53 (by decide) ?_
    refine hr_icmp_ge o 62 dX5_clause_55 (by decide) (fun _ => ?_) (fun _ => ?_)
    · exact nlX5_clause_62 o og ot l0 l1 l2 l0 (gs.2 20) g4
    refine hr_iconst o (1 : Int32) dX5_clause_58 (by decide) ?_
    refine hr_goto o 63 dX5_clause_59 (by decide) ?_
    exact nlX5_clause_63 o og ot l0 l1 l2 l0 (gs.2 20) (1 : Int32) g4
  refine hr_aload_n o 0 dX5_clause_31 rfl ?_
  refine hr_aload_n o 1 dX5_clause_32 rfl ?_
  refine hT_callV (q := (RX5, TX5, 7)) o og ot mvX5_216 dX5_clause_33 rfl [.ref l1] (fun z ze => mtX5_stalls l0 l1 g1 z ze) rfl rfl (Nat.le_of_ble_eq_true rfl) ⟨by decide, by decide⟩ (fun _ g6 => ?_)
  refine hr_goto o 207 dX5_clause_36 (by decide) ?_
  exact hr_vret o dX5_clause_207 rfl
def ndX5_clause_12 (gs : hf_gs)  (l0 : Nat) (l1 : Nat) (s0 : Int32) (V0 : hf_H) : Option ((Nat ⊕ Unit) × hf_H) :=
  if s0 = 0 then (ndX5_clause_25 gs l0 l1 s0 l0 (gs.2 19) (1 : Int32) V0) else
  ndX5_clause_25 gs l0 l1 s0 l0 (gs.2 19) (0 : Int32) V0
theorem nlX5_clause_12 {C : hf_X} {gs : hf_gs} (o : hf_In C cX5_clause RX5 4 (none) 8 173) (og : hf_G C gs) (ot : hf_Thr C)   (l0 : Nat) (l1 : Nat) (s0 : Int32) (V0 : hf_H) : hf_J C hf_dTV (ndX5_clause_12 gs l0 l1 s0 V0) V0 12 [(0, .ref l0), (1, .ref l1)] [.int s0] := by
  refine hr_istore_n o [(2, .int s0), (0, .ref l0), (1, .ref l1)] dX5_clause_12 (by decide) rfl ?_
  refine hr_aload_n o 1 dX5_clause_13 rfl ?_
  refine hx_ldcS o og 19 rfl dX5_clause_14 ?_
  refine hr_iload_n o 0 dX5_clause_16 rfl ?_
  refine hr_if_ne o 24 dX5_clause_17 (by decide) (fun _ => ?_) (fun _ => ?_)
  · refine hr_iconst o (1 : Int32) dX5_clause_20 (by decide) ?_
    refine hr_goto o 25 dX5_clause_21 (by decide) ?_
    refine hr_sub [1, 2, 0] rfl ?_
    exact nlX5_clause_25 o og ot l0 l1 s0 l0 (gs.2 19) (1 : Int32) V0
  refine hr_iconst o (0 : Int32) dX5_clause_24 (by decide) ?_
  refine hr_sub [1, 2, 0] rfl ?_
  exact nlX5_clause_25 o og ot l0 l1 s0 l0 (gs.2 19) (0 : Int32) V0
def spX5_clause (gs : hf_gs) (l0 : Nat) (l1 : Nat) (V0 : hf_H) : Option ((Nat ⊕ Unit) × hf_H) :=
  (hf_gi 1 1 3 V0 l1).bind fun x1 =>
  if x1 ≤ 0 then (ndX5_clause_12 gs l0 l1 (0 : Int32) V0) else
  ndX5_clause_12 gs l0 l1 (1 : Int32) V0
theorem jtX5_clause {C : hf_X} {gs : hf_gs} (o : hf_In C cX5_clause RX5 4 (none) 8 173) (og : hf_G C gs) (ot : hf_Thr C) (l0 : Nat) (l1 : Nat) (V0 : hf_H) : hf_J C hf_dTV (spX5_clause gs l0 l1 V0) V0 0 [(0, .ref l0), (1, .ref l1)] [] := by
  refine hr_aload_n o 1 dX5_clause_0 rfl ?_
  refine hr_getI (md := 1) o flX5_150 dX5_clause_1 (fun _ => rfl) (fun x1 => ?_)
  refine hr_if_le o 11 dX5_clause_4 (by decide) (fun _ => ?_) (fun _ => ?_)
  · refine hr_iconst o (0 : Int32) dX5_clause_11 (by decide) ?_
    exact nlX5_clause_12 o og ot l0 l1 (0 : Int32) V0
  refine hr_iconst o (1 : Int32) dX5_clause_7 (by decide) ?_
  refine hr_goto o 12 dX5_clause_8 (by decide) ?_
  exact nlX5_clause_12 o og ot l0 l1 (1 : Int32) V0
theorem mtX5_clause {gs : hf_gs}  (l0 : Nat) (l1 : Nat) (V0 : hf_H) (t : (Nat ⊕ Unit) × hf_H) (e : spX5_clause gs l0 l1 V0 = some t) : hf_ConT gs yX5_clause cX5_clause 4 (none) 8 173 [.ref l0, .ref l1] V0 (hf_dTV t) := hf_entryT (by decide) [.ref l0, .ref l1] (Nat.le_of_ble_eq_true rfl) [(0, .ref l0), (1, .ref l1)] rfl e (fun C o og ot => jtX5_clause o og ot l0 l1 V0)

/-! X5_clause_2 -/
theorem minX5_253 : hf_MIN RX5 253 "HalfFair" yX13_init cX13_init 4 3 := ⟨⟨q964, q965, q181, q966, rfl⟩, by decide +kernel⟩
theorem flX5_244 : hf_Fl RX5 244 8 0 := ⟨(RX8, TX8, 1), RX8, rfl, by decide, in_X8, tyX8_ok, nmX8, Or.inr ⟨"HalfFair", q824⟩, Or.inl rfl⟩
def ndX5_clause_2_67 (gs : hf_gs)  (s0 : Nat) (s1 : Nat) (s2 : Nat) (s3 : Int32) (s4 : Nat) (s5 : Option Nat) (V0 : hf_H) : Option ((Nat ⊕ Unit) × hf_H) :=
  (spX13_init s2 s3 s4 s5 V0).bind fun g1 =>
  (hf_ob 0 19 g1 s0).bind fun _ =>
  hf_b2 (spJ2_add gs s0 s1 g1) fun x3 g2 =>
  some (.inr (), g2)
theorem nlX5_clause_2_67 {C : hf_X} {gs : hf_gs} (o : hf_In C cX5_clause_2 RX5 4 (none) 60 1726) (og : hf_G C gs) (ot : hf_Thr C)   (s0 : Nat) (s1 : Nat) (s2 : Nat) (s3 : Int32) (s4 : Nat) (s5 : Option Nat) (V0 : hf_H) : hf_J C hf_dTV (ndX5_clause_2_67 gs s0 s1 s2 s3 s4 s5 V0) V0 67 [] [va_rf s5, .ref s4, .int s3, .ref s2, .ref s1, .ref s0] := by
  refine hx_callINV o og minX5_253 dX5_clause_2_67 [.int s3, .ref s4, va_rf s5] (fun zg ze => mtX13_init s2 s3 s4 s5 V0 zg ze) rfl rfl (Nat.le_of_ble_eq_true rfl) ⟨by decide, by decide⟩ (fun g1 => ?_)
  refine hx_callVI (q := (RJ2, TJ2, 3)) o og mvX5_164 dX5_clause_2_70 0 19 rfl [.ref s1] (fun zr zg ze => mtJ2_add s0 s1 g1 zr zg ze) rfl rfl (Nat.le_of_ble_eq_true rfl) ⟨by decide, by decide⟩ (fun x3 g2 => ?_)
  refine hr_pop o dX5_clause_2_73 rfl ?_
  exact hr_vret o dX5_clause_2_74 rfl
def ndX5_clause_2_35 (gs : hf_gs)  (l0 : Nat) (l1 : Nat) (l2 : Int32) (V0 : hf_H) : Option ((Nat ⊕ Unit) × hf_H) :=
  (hf_ob 0 5 V0 l0).bind fun _ =>
  hf_bT (spX5_sum gs l0 V0) fun x2 g1 =>
  (hf_ga 0 8 0 g1 l1).bind fun x3 =>
  hf_mk g1 (.inl (0, 13, hf_V0)) 3 fun x4 g5 =>
  (hf_ob 0 5 g5 l0).bind fun _ =>
  hf_b2 (spX5_takes gs l0 (gs.2 26) g5) fun x7 g6 =>
  if x7 = 0 then (ndX5_clause_2_67 gs x3 x4 x4 l2 x2 none g6) else
  (hf_ob 0 5 g6 l0).bind fun _ =>
  hf_bT (spX5_testD gs l0 g6) fun x9 g8 =>
  ndX5_clause_2_67 gs x3 x4 x4 l2 x2 (some x9) g8
theorem nlX5_clause_2_35 {C : hf_X} {gs : hf_gs} (o : hf_In C cX5_clause_2 RX5 4 (none) 60 1726) (og : hf_G C gs) (ot : hf_Thr C)   (l0 : Nat) (l1 : Nat) (l2 : Int32) (V0 : hf_H) : hf_J C hf_dTV (ndX5_clause_2_35 gs l0 l1 l2 V0) V0 35 [(0, .ref l0), (1, .ref l1), (2, .int l2)] [] := by
  refine hr_aload_n o 0 dX5_clause_2_35 rfl ?_
  refine hT_callV (q := (RX5, TX5, 7)) o og ot mvX5_124 dX5_clause_2_36 rfl [] (fun z ze => mtX5_sum l0 V0 z ze) rfl rfl (Nat.le_of_ble_eq_true rfl) ⟨by decide, by decide⟩ (fun x2 g1 => ?_)
  refine hr_astore_n o [(3, .ref x2), (0, .ref l0), (1, .ref l1), (2, .int l2)] dX5_clause_2_39 (by decide) rfl ?_
  refine hr_aload_n o 2 dX5_clause_2_40 rfl ?_
  refine hr_getA (md := 0) o flX5_244 dX5_clause_2_41 (fun _ => rfl) (fun x3 => ?_)
  refine hx_new (ci := 13) (q := (RX13, TX13, 3)) o rfl q890 q891 q181 in_X13 tyX13_ok (hf_def (by decide) (by decide)) dX5_clause_2_44 (fun x4 g5 => ?_)
  refine hr_dup o dX5_clause_2_47 rfl ?_
  refine hr_iload_n o 3 dX5_clause_2_48 rfl ?_
  refine hr_aload_n o 0 dX5_clause_2_49 rfl ?_
  refine hr_aload_n o 1 dX5_clause_2_50 rfl ?_
  refine hx_ldcS o og 26 rfl dX5_clause_2_51 ?_
  refine hx_callVI (q := (RX5, TX5, 7)) o og mvX5_134 dX5_clause_2_53 0 5 rfl [.ref (gs.2 26)] (fun zr zg ze => mtX5_takes l0 (gs.2 26) g5 zr zg ze) rfl rfl (Nat.le_of_ble_eq_true rfl) ⟨by decide, by decide⟩ (fun x7 g6 => ?_)
  refine hr_if_eq o 66 dX5_clause_2_56 (by decide) (fun _ => ?_) (fun _ => ?_)
  · refine hx_null o dX5_clause_2_66 ?_
    refine hr_sub [] rfl ?_
    exact nlX5_clause_2_67 o og ot x3 x4 x4 l2 x2 none g6
  refine hr_aload_n o 1 dX5_clause_2_59 rfl ?_
  refine hT_callV (q := (RX5, TX5, 7)) o og ot mvX5_121 dX5_clause_2_60 rfl [] (fun z ze => mtX5_testD l0 g6 z ze) rfl rfl (Nat.le_of_ble_eq_true rfl) ⟨by decide, by decide⟩ (fun x9 g8 => ?_)
  refine hr_goto o 67 dX5_clause_2_63 (by decide) ?_
  refine hr_sub [] rfl ?_
  exact nlX5_clause_2_67 o og ot x3 x4 x4 l2 x2 (some x9) g8
def spX5_clause_2 (gs : hf_gs) (l0 : Nat) (l1 : Nat) (V0 : hf_H) : Option ((Nat ⊕ Unit) × hf_H) :=
  (hf_ob 0 5 V0 l0).bind fun _ =>
  hf_bT (spX5_begins gs l0 (gs.2 24) (1 : Int32) V0) fun x2 g1 =>
  if x2 = 0 then ((hf_ob 0 5 g1 l0).bind fun _ =>
  hf_bT (spX5_begins gs l0 (gs.2 25) (1 : Int32) g1) fun x4 g3 =>
  if x4 = 0 then ((hf_ga 0 5 6 g3 l0).bind fun x5 =>
  (hf_gi 0 5 1 g3 l0).bind fun x6 =>
  (hf_ob 1 0 g3 x5).bind fun _ =>
  hf_b2 (spX0_fails x5 (0 : Int32) x6 g3) fun x8 g7 =>
  (hf_ob 0 3 g7 x8).bind fun _ => some (.inl x8, g7)) else
  ndX5_clause_2_35 gs l0 l1 x2 g3) else
  ndX5_clause_2_35 gs l0 l1 x2 g1
theorem jtX5_clause_2 {C : hf_X} {gs : hf_gs} (o : hf_In C cX5_clause_2 RX5 4 (none) 60 1726) (og : hf_G C gs) (ot : hf_Thr C) (l0 : Nat) (l1 : Nat) (V0 : hf_H) : hf_J C hf_dTV (spX5_clause_2 gs l0 l1 V0) V0 0 [(0, .ref l0), (1, .ref l1)] [] := by
  refine hr_aload_n o 0 dX5_clause_2_0 rfl ?_
  refine hx_ldcS o og 24 rfl dX5_clause_2_1 ?_
  refine hr_iconst o (1 : Int32) dX5_clause_2_3 (by decide) ?_
  refine hT_callV (q := (RX5, TX5, 7)) o og ot mvX5_198 dX5_clause_2_4 rfl [.ref (gs.2 24), .int (1 : Int32)] (fun z ze => mtX5_begins l0 (gs.2 24) (1 : Int32) V0 z ze) rfl rfl (Nat.le_of_ble_eq_true rfl) ⟨by decide, by decide⟩ (fun x2 g1 => ?_)
  refine hr_istore_n o [(2, .int x2), (0, .ref l0), (1, .ref l1)] dX5_clause_2_7 (by decide) rfl ?_
  refine hr_iload_n o 0 dX5_clause_2_8 rfl ?_
  refine hr_if_ne o 35 dX5_clause_2_9 (by decide) (fun _ => ?_) (fun _ => ?_)
  · refine hr_aload_n o 1 dX5_clause_2_12 rfl ?_
    refine hx_ldcS o og 25 rfl dX5_clause_2_13 ?_
    refine hr_iconst o (1 : Int32) dX5_clause_2_15 (by decide) ?_
    refine hT_callV (q := (RX5, TX5, 7)) o og ot mvX5_198 dX5_clause_2_16 rfl [.ref (gs.2 25), .int (1 : Int32)] (fun z ze => mtX5_begins l0 (gs.2 25) (1 : Int32) g1 z ze) rfl rfl (Nat.le_of_ble_eq_true rfl) ⟨by decide, by decide⟩ (fun x4 g3 => ?_)
    refine hr_if_ne o 35 dX5_clause_2_19 (by decide) (fun _ => ?_) (fun _ => ?_)
    · refine hr_aload_n o 1 dX5_clause_2_22 rfl ?_
      refine hr_getA (md := 0) o flX5_3 dX5_clause_2_23 (fun _ => rfl) (fun x5 => ?_)
      refine hr_iconst o (0 : Int32) dX5_clause_2_26 (by decide) ?_
      refine hr_aload_n o 1 dX5_clause_2_27 rfl ?_
      refine hr_getI (md := 0) o flX5_23 dX5_clause_2_28 (fun _ => rfl) (fun x6 => ?_)
      refine hx_callVNA (q := (RX0, TX0, 23)) o og mvnX5_69 dX5_clause_2_31 1 0 rfl [.int (0 : Int32), .int x6] (fun zr zg ze => mtX0_fails x5 (0 : Int32) x6 g3 zr zg ze) rfl rfl (Nat.le_of_ble_eq_true rfl) ⟨by decide, by decide⟩ (fun x8 g7 => ?_)
      exact hT_athrow o ot dX5_clause_2_34
    refine hr_sub [1, 2, 0] rfl ?_
    exact nlX5_clause_2_35 o og ot l0 l1 x2 g3
  refine hr_sub [1, 2, 0] rfl ?_
  exact nlX5_clause_2_35 o og ot l0 l1 x2 g1
theorem mtX5_clause_2 {gs : hf_gs}  (l0 : Nat) (l1 : Nat) (V0 : hf_H) (t : (Nat ⊕ Unit) × hf_H) (e : spX5_clause_2 gs l0 l1 V0 = some t) : hf_ConT gs yX5_clause_2 cX5_clause_2 4 (none) 60 1726 [.ref l0, .ref l1] V0 (hf_dTV t) := hf_entryT (by decide) [.ref l0, .ref l1] (Nat.le_of_ble_eq_true rfl) [(0, .ref l0), (1, .ref l1)] rfl e (fun C o og ot => jtX5_clause_2 o og ot l0 l1 V0)

/-! X5_goesOn -/
def spX5_goesOn (l0 : Nat) (V0 : hf_H) : Option ((Nat ⊕ Int32) × hf_H) :=
  (hf_ob 0 5 V0 l0).bind fun _ =>
  hf_b2 (spX5_next l0 V0) fun x2 g1 =>
  if x2 = (-1 : Int32) then (some (.inr (0 : Int32), g1)) else
  if x2 = (59 : Int32) then ((hf_gi 0 5 1 g1 l0).bind fun x3 =>
  (hf_pi 0 5 1 g1 l0 (x3 + (1 : Int32))).bind fun g4 =>
  some (.inr (1 : Int32), g4)) else
  (hf_ga 0 5 6 g1 l0).bind fun x5 =>
  (hf_gi 0 5 1 g1 l0).bind fun x6 =>
  (hf_ob 1 0 g1 x5).bind fun _ =>
  hf_b2 (spX0_fails x5 (0 : Int32) x6 g1) fun x8 g7 =>
  (hf_ob 0 3 g7 x8).bind fun _ => some (.inl x8, g7)
theorem jtX5_goesOn {C : hf_X} {gs : hf_gs} (o : hf_In C cX5_goesOn RX5 2 (some .boolean) 2 40) (og : hf_G C gs) (ot : hf_Thr C) (l0 : Nat) (V0 : hf_H) : hf_J C hf_dTI (spX5_goesOn l0 V0) V0 0 [(0, .ref l0)] [] := by
  refine hr_aload_n o 0 dX5_goesOn_0 rfl ?_
  refine hx_callVI (q := (RX5, TX5, 7)) o og mvX5_45 dX5_goesOn_1 0 5 rfl [] (fun zr zg ze => mtX5_next l0 V0 zr zg ze) rfl rfl (Nat.le_of_ble_eq_true rfl) ⟨by decide, by decide⟩ (fun x2 g1 => ?_)
  refine hr_istore_n o [(1, .int x2), (0, .ref l0)] dX5_goesOn_4 (by decide) rfl ?_
  refine hr_iload_n o 0 dX5_goesOn_5 rfl ?_
  refine hr_iconst o (-1 : Int32) dX5_goesOn_6 (by decide) ?_
  refine hr_icmp_ne o 12 dX5_goesOn_7 (by decide) (fun _ => ?_) (fun _ => ?_)
  · refine hr_iconst o (0 : Int32) dX5_goesOn_10 (by decide) ?_
    exact hr_iret o dX5_goesOn_11 rfl (by decide)
  refine hr_iload_n o 0 dX5_goesOn_12 rfl ?_
  refine hr_bipush o (59 : Int32) dX5_goesOn_13 (by decide) ?_
  refine hr_icmp_eq o 31 dX5_goesOn_15 (by decide) (fun _ => ?_) (fun _ => ?_)
  · refine hr_aload_n o 1 dX5_goesOn_31 rfl ?_
    refine hr_dup o dX5_goesOn_32 rfl ?_
    refine hr_getI (md := 0) o flX5_23 dX5_goesOn_33 (fun _ => rfl) (fun x3 => ?_)
    refine hr_iconst o (1 : Int32) dX5_goesOn_36 (by decide) ?_
    refine hr_iadd o dX5_goesOn_37 ?_
    refine hx_putI (md := 0) o flX5_23 dX5_goesOn_38 rfl (Or.inl nf_5_1) rfl rfl (fun _ => rfl) (fun g4 => ?_)
    refine hr_iconst o (1 : Int32) dX5_goesOn_41 (by decide) ?_
    exact hr_iret o dX5_goesOn_42 rfl (by decide)
  refine hr_aload_n o 1 dX5_goesOn_18 rfl ?_
  refine hr_getA (md := 0) o flX5_3 dX5_goesOn_19 (fun _ => rfl) (fun x5 => ?_)
  refine hr_iconst o (0 : Int32) dX5_goesOn_22 (by decide) ?_
  refine hr_aload_n o 1 dX5_goesOn_23 rfl ?_
  refine hr_getI (md := 0) o flX5_23 dX5_goesOn_24 (fun _ => rfl) (fun x6 => ?_)
  refine hx_callVNA (q := (RX0, TX0, 23)) o og mvnX5_69 dX5_goesOn_27 1 0 rfl [.int (0 : Int32), .int x6] (fun zr zg ze => mtX0_fails x5 (0 : Int32) x6 g1 zr zg ze) rfl rfl (Nat.le_of_ble_eq_true rfl) ⟨by decide, by decide⟩ (fun x8 g7 => ?_)
  exact hT_athrow o ot dX5_goesOn_30
theorem mtX5_goesOn {gs : hf_gs}  (l0 : Nat) (V0 : hf_H) (t : (Nat ⊕ Int32) × hf_H) (e : spX5_goesOn l0 V0 = some t) : hf_ConT gs yX5_goesOn cX5_goesOn 2 (some .boolean) 2 40 [.ref l0] V0 (hf_dTI t) := hf_entryT (by decide) [.ref l0] (Nat.le_of_ble_eq_true rfl) [(0, .ref l0)] rfl e (fun C o og ot => jtX5_goesOn o og ot l0 V0)

/-! X5_fair -/
theorem mvX5_260 : hf_MV RX5 260 RX5 yX5_goesOn cX5_goesOn 2 (some .boolean) 0 := ⟨lw_V q755 q757 qs18 q163 q758, by decide +kernel⟩
theorem mvX5_257 : hf_MV RX5 257 RX5 yX5_clause cX5_clause 4 (none) 1 := ⟨lw_V q520 q522 qs2 q163 q523, by decide +kernel⟩
theorem minX5_256 : hf_MIN RX5 256 "HalfFair" yX1_init cX1_init 1 0 := ⟨⟨q519, q199, q154, q200, rfl⟩, by decide +kernel⟩
def ndX5_fair_13 (gs : hf_gs) (k13 : Nat → Nat → hf_H → Option ((Nat ⊕ Nat) × hf_H)) (l0 : Nat) (l1 : Nat) (V0 : hf_H) : Option ((Nat ⊕ Nat) × hf_H) :=
  (hf_ob 0 5 V0 l0).bind fun _ =>
  hf_bT (spX5_goesOn l0 V0) fun x2 g1 =>
  if x2 = 0 then (some (.inr l1, g1)) else
  (hf_ob 0 5 g1 l0).bind fun _ =>
  hf_bT (spX5_clause gs l0 l1 g1) fun _ g3 =>
  k13 l0 l1 g3
theorem nlX5_fair_13 {C : hf_X} {gs : hf_gs} (o : hf_In C cX5_fair RX5 2 (some (.object "HalfFair$Fair")) 9 196) (og : hf_G C gs) (ot : hf_Thr C) (k13 : Nat → Nat → hf_H → Option ((Nat ⊕ Nat) × hf_H)) (hk13 : ∀ (l0 : Nat) (l1 : Nat) (V0 : hf_H), hf_J C hf_dTA (k13 l0 l1 V0) V0 13 [(0, .ref l0), (1, .ref l1)] []) (l0 : Nat) (l1 : Nat) (V0 : hf_H) : hf_J C hf_dTA (ndX5_fair_13 gs k13 l0 l1 V0) V0 13 [(0, .ref l0), (1, .ref l1)] [] := by
  refine hr_aload_n o 0 dX5_fair_13 rfl ?_
  refine hT_callV (q := (RX5, TX5, 7)) o og ot mvX5_260 dX5_fair_14 rfl [] (fun z ze => mtX5_goesOn l0 V0 z ze) rfl rfl (Nat.le_of_ble_eq_true rfl) ⟨by decide, by decide⟩ (fun x2 g1 => ?_)
  refine hr_if_eq o 28 dX5_fair_17 (by decide) (fun _ => ?_) (fun _ => ?_)
  · refine hr_aload_n o 1 dX5_fair_28 rfl ?_
    exact hr_aret o dX5_fair_29 (Or.inl ⟨_, rfl⟩) (Or.inr ⟨_, rfl⟩) rfl
  refine hr_aload_n o 0 dX5_fair_20 rfl ?_
  refine hr_aload_n o 1 dX5_fair_21 rfl ?_
  refine hT_callV (q := (RX5, TX5, 7)) o og ot mvX5_257 dX5_fair_22 rfl [.ref l1] (fun z ze => mtX5_clause l0 l1 g1 z ze) rfl rfl (Nat.le_of_ble_eq_true rfl) ⟨by decide, by decide⟩ (fun _ g3 => ?_)
  refine hr_goto o 13 dX5_fair_25 (by decide) ?_
  exact hk13 l0 l1 g3
def lpX5_fair_13 (gs : hf_gs)  : Nat → Nat → Nat → hf_H → Option ((Nat ⊕ Nat) × hf_H)
  | 0 => fun _ _ _ => none
  | n + 1 => fun l0 l1 V0 => ndX5_fair_13 gs  (lpX5_fair_13 gs  n) l0 l1 V0
theorem llX5_fair_13 {C : hf_X} {gs : hf_gs} (o : hf_In C cX5_fair RX5 2 (some (.object "HalfFair$Fair")) 9 196) (og : hf_G C gs) (ot : hf_Thr C)   (n : Nat) : ∀ (l0 : Nat) (l1 : Nat) (V0 : hf_H), hf_J C hf_dTA ((lpX5_fair_13 gs  n) l0 l1 V0) V0 13 [(0, .ref l0), (1, .ref l1)] [] := by
  induction n with
  | zero => exact fun _ _ _ => hr_none
  | succ n ih => exact fun l0 l1 V0 => nlX5_fair_13 o og ot  (lpX5_fair_13 gs  n)  ih l0 l1 V0
def spX5_fair (gs : hf_gs) (l0 : Nat) (V0 : hf_H) : Option ((Nat ⊕ Nat) × hf_H) :=
  hf_mk V0 (.inl (0, 1, hf_V0)) 13 fun x1 g2 =>
  (spX1_init gs x1 g2).bind fun g3 =>
  (hf_ob 0 5 g3 l0).bind fun _ =>
  hf_bT (spX5_clause gs l0 x1 g3) fun _ g4 =>
  lpX5_fair_13 gs hf_N l0 x1 g4
theorem jtX5_fair {C : hf_X} {gs : hf_gs} (o : hf_In C cX5_fair RX5 2 (some (.object "HalfFair$Fair")) 9 196) (og : hf_G C gs) (ot : hf_Thr C) (l0 : Nat) (V0 : hf_H) : hf_J C hf_dTA (spX5_fair gs l0 V0) V0 0 [(0, .ref l0)] [] := by
  refine hx_new (ci := 1) (q := (RX1, TX1, 13)) o rfl q518 q197 q154 in_X1 tyX1_ok (hf_def (by decide) (by decide)) dX5_fair_0 (fun x1 g2 => ?_)
  refine hr_dup o dX5_fair_3 rfl ?_
  refine hx_callINV o og minX5_256 dX5_fair_4 [] (fun zg ze => mtX1_init x1 g2 zg ze) rfl rfl (Nat.le_of_ble_eq_true rfl) ⟨by decide, by decide⟩ (fun g3 => ?_)
  refine hr_astore_n o [(1, .ref x1), (0, .ref l0)] dX5_fair_7 (by decide) rfl ?_
  refine hr_aload_n o 1 dX5_fair_8 rfl ?_
  refine hr_aload_n o 0 dX5_fair_9 rfl ?_
  refine hT_callV (q := (RX5, TX5, 7)) o og ot mvX5_257 dX5_fair_10 rfl [.ref x1] (fun z ze => mtX5_clause l0 x1 g3 z ze) rfl rfl (Nat.le_of_ble_eq_true rfl) ⟨by decide, by decide⟩ (fun _ g4 => ?_)
  refine hr_sub [1, 0] rfl ?_
  exact llX5_fair_13 o og ot hf_N l0 x1 g4
theorem mtX5_fair {gs : hf_gs}  (l0 : Nat) (V0 : hf_H) (t : (Nat ⊕ Nat) × hf_H) (e : spX5_fair gs l0 V0 = some t) : hf_ConT gs yX5_fair cX5_fair 2 (some (.object "HalfFair$Fair")) 9 196 [.ref l0] V0 (hf_dTA t) := hf_entryT (by decide) [.ref l0] (Nat.le_of_ble_eq_true rfl) [(0, .ref l0)] rfl e (fun C o og ot => jtX5_fair o og ot l0 V0)

/-! X5_rule -/
theorem flX5_267 : hf_Fl RX5 267 0 3 := ⟨(RX0, TX0, 23), RX0, rfl, by decide, in_X0, tyX0_ok, nmX0, Or.inr ⟨"HalfFair", q393⟩, Or.inl rfl⟩
theorem mvX5_264 : hf_MV RX5 264 RX5 yX5_clause_2 cX5_clause_2 4 (none) 1 := ⟨lw_V q828 q830 qs21 q163 q831, by decide +kernel⟩
theorem minX5_263 : hf_MIN RX5 263 "HalfFair" yX8_init cX8_init 1 0 := ⟨⟨q817, q818, q176, q819, rfl⟩, by decide +kernel⟩
def ndX5_rule_13 (gs : hf_gs) (k13 : Nat → Nat → hf_H → Option ((Nat ⊕ Int32) × hf_H)) (l0 : Nat) (l1 : Nat) (V0 : hf_H) : Option ((Nat ⊕ Int32) × hf_H) :=
  (hf_ob 0 5 V0 l0).bind fun _ =>
  hf_bT (spX5_goesOn l0 V0) fun x2 g1 =>
  if x2 = 0 then ((hf_ga 0 5 6 g1 l0).bind fun x3 =>
  (hf_ga 1 0 3 g1 x3).bind fun x4 =>
  (hf_ob 0 19 g1 x4).bind fun _ =>
  hf_b2 (spJ2_add gs x4 l1 g1) fun x6 g5 =>
  (hf_ga 0 5 6 g5 l0).bind fun x7 =>
  (hf_ga 1 0 3 g5 x7).bind fun x8 =>
  (hf_ob 0 19 g5 x8).bind fun _ =>
  hf_b2 (spJ2_size x8 g5) fun x10 g9 =>
  some (.inr (x10 - (1 : Int32)), g9)) else
  (hf_ob 0 5 g1 l0).bind fun _ =>
  hf_bT (spX5_clause_2 gs l0 l1 g1) fun _ g11 =>
  k13 l0 l1 g11
theorem nlX5_rule_13 {C : hf_X} {gs : hf_gs} (o : hf_In C cX5_rule RX5 2 (some .int) 61 1749) (og : hf_G C gs) (ot : hf_Thr C) (k13 : Nat → Nat → hf_H → Option ((Nat ⊕ Int32) × hf_H)) (hk13 : ∀ (l0 : Nat) (l1 : Nat) (V0 : hf_H), hf_J C hf_dTI (k13 l0 l1 V0) V0 13 [(0, .ref l0), (1, .ref l1)] []) (l0 : Nat) (l1 : Nat) (V0 : hf_H) : hf_J C hf_dTI (ndX5_rule_13 gs k13 l0 l1 V0) V0 13 [(0, .ref l0), (1, .ref l1)] [] := by
  refine hr_aload_n o 0 dX5_rule_13 rfl ?_
  refine hT_callV (q := (RX5, TX5, 7)) o og ot mvX5_260 dX5_rule_14 rfl [] (fun z ze => mtX5_goesOn l0 V0 z ze) rfl rfl (Nat.le_of_ble_eq_true rfl) ⟨by decide, by decide⟩ (fun x2 g1 => ?_)
  refine hr_if_eq o 28 dX5_rule_17 (by decide) (fun _ => ?_) (fun _ => ?_)
  · refine hr_aload_n o 0 dX5_rule_28 rfl ?_
    refine hr_getA (md := 0) o flX5_3 dX5_rule_29 (fun _ => rfl) (fun x3 => ?_)
    refine hr_getA (md := 1) o flX5_267 dX5_rule_32 (fun _ => rfl) (fun x4 => ?_)
    refine hr_aload_n o 1 dX5_rule_35 rfl ?_
    refine hx_callVI (q := (RJ2, TJ2, 3)) o og mvX5_164 dX5_rule_36 0 19 rfl [.ref l1] (fun zr zg ze => mtJ2_add x4 l1 g1 zr zg ze) rfl rfl (Nat.le_of_ble_eq_true rfl) ⟨by decide, by decide⟩ (fun x6 g5 => ?_)
    refine hr_pop o dX5_rule_39 rfl ?_
    refine hr_aload_n o 0 dX5_rule_40 rfl ?_
    refine hr_getA (md := 0) o flX5_3 dX5_rule_41 (fun _ => rfl) (fun x7 => ?_)
    refine hr_getA (md := 1) o flX5_267 dX5_rule_44 (fun _ => rfl) (fun x8 => ?_)
    refine hx_callVI (q := (RJ2, TJ2, 3)) o og mvX5_173 dX5_rule_47 0 19 rfl [] (fun zr zg ze => mtJ2_size x8 g5 zr zg ze) rfl rfl (Nat.le_of_ble_eq_true rfl) ⟨by decide, by decide⟩ (fun x10 g9 => ?_)
    refine hr_iconst o (1 : Int32) dX5_rule_50 (by decide) ?_
    refine hr_isub o dX5_rule_51 ?_
    exact hr_iret o dX5_rule_52 rfl rfl
  refine hr_aload_n o 0 dX5_rule_20 rfl ?_
  refine hr_aload_n o 1 dX5_rule_21 rfl ?_
  refine hT_callV (q := (RX5, TX5, 7)) o og ot mvX5_264 dX5_rule_22 rfl [.ref l1] (fun z ze => mtX5_clause_2 l0 l1 g1 z ze) rfl rfl (Nat.le_of_ble_eq_true rfl) ⟨by decide, by decide⟩ (fun _ g11 => ?_)
  refine hr_goto o 13 dX5_rule_25 (by decide) ?_
  exact hk13 l0 l1 g11
def lpX5_rule_13 (gs : hf_gs)  : Nat → Nat → Nat → hf_H → Option ((Nat ⊕ Int32) × hf_H)
  | 0 => fun _ _ _ => none
  | n + 1 => fun l0 l1 V0 => ndX5_rule_13 gs  (lpX5_rule_13 gs  n) l0 l1 V0
theorem llX5_rule_13 {C : hf_X} {gs : hf_gs} (o : hf_In C cX5_rule RX5 2 (some .int) 61 1749) (og : hf_G C gs) (ot : hf_Thr C)   (n : Nat) : ∀ (l0 : Nat) (l1 : Nat) (V0 : hf_H), hf_J C hf_dTI ((lpX5_rule_13 gs  n) l0 l1 V0) V0 13 [(0, .ref l0), (1, .ref l1)] [] := by
  induction n with
  | zero => exact fun _ _ _ => hr_none
  | succ n ih => exact fun l0 l1 V0 => nlX5_rule_13 o og ot  (lpX5_rule_13 gs  n)  ih l0 l1 V0
def spX5_rule (gs : hf_gs) (l0 : Nat) (V0 : hf_H) : Option ((Nat ⊕ Int32) × hf_H) :=
  hf_mk V0 (.inl (0, 8, hf_V0)) 1 fun x1 g2 =>
  (spX8_init gs x1 g2).bind fun g3 =>
  (hf_ob 0 5 g3 l0).bind fun _ =>
  hf_bT (spX5_clause_2 gs l0 x1 g3) fun _ g4 =>
  lpX5_rule_13 gs hf_N l0 x1 g4
theorem jtX5_rule {C : hf_X} {gs : hf_gs} (o : hf_In C cX5_rule RX5 2 (some .int) 61 1749) (og : hf_G C gs) (ot : hf_Thr C) (l0 : Nat) (V0 : hf_H) : hf_J C hf_dTI (spX5_rule gs l0 V0) V0 0 [(0, .ref l0)] [] := by
  refine hx_new (ci := 8) (q := (RX8, TX8, 1)) o rfl q815 q816 q176 in_X8 tyX8_ok (hf_def (by decide) (by decide)) dX5_rule_0 (fun x1 g2 => ?_)
  refine hr_dup o dX5_rule_3 rfl ?_
  refine hx_callINV o og minX5_263 dX5_rule_4 [] (fun zg ze => mtX8_init x1 g2 zg ze) rfl rfl (Nat.le_of_ble_eq_true rfl) ⟨by decide, by decide⟩ (fun g3 => ?_)
  refine hr_astore_n o [(1, .ref x1), (0, .ref l0)] dX5_rule_7 (by decide) rfl ?_
  refine hr_aload_n o 1 dX5_rule_8 rfl ?_
  refine hr_aload_n o 0 dX5_rule_9 rfl ?_
  refine hT_callV (q := (RX5, TX5, 7)) o og ot mvX5_264 dX5_rule_10 rfl [.ref x1] (fun z ze => mtX5_clause_2 l0 x1 g3 z ze) rfl rfl (Nat.le_of_ble_eq_true rfl) ⟨by decide, by decide⟩ (fun _ g4 => ?_)
  refine hr_sub [1, 0] rfl ?_
  exact llX5_rule_13 o og ot hf_N l0 x1 g4
theorem mtX5_rule {gs : hf_gs}  (l0 : Nat) (V0 : hf_H) (t : (Nat ⊕ Int32) × hf_H) (e : spX5_rule gs l0 V0 = some t) : hf_ConT gs yX5_rule cX5_rule 2 (some .int) 61 1749 [.ref l0] V0 (hf_dTI t) := hf_entryT (by decide) [.ref l0] (Nat.le_of_ble_eq_true rfl) [(0, .ref l0)] rfl e (fun C o og ot => jtX5_rule o og ot l0 V0)

/-! X0_fair -/
theorem miX0_130 : hf_MI RX0 130 yX5_init cX5_init 4 3 := ⟨⟨q490, q163, q488, q489, rfl⟩, by decide +kernel⟩
theorem mvX0_133 : hf_MV RX0 133 RX5 yX5_fair cX5_fair 2 (some (.object "HalfFair$Fair")) 0 := ⟨lw_V q514 q515 q516 q163 q517, by decide +kernel⟩
theorem mvX0_136 : hf_MV RX0 136 RX2 yX2_begin cX2_begin 3 (none) 1 := ⟨lw_V q759 q760 q761 q158 q762, by decide +kernel⟩
def spX0_fair (gs : hf_gs) (l0 : Nat) (V0 : hf_H) : Option (Int32 × hf_H) :=
  hf_mk V0 (.inl (0, 5, hf_V0)) 7 fun x1 g2 =>
  (gs.1 0).bind fun x3 =>
  (spX5_init x1 l0 x3 (40 : Int32) g2).bind fun g4 =>
  (hf_ob 0 5 g4 x1).bind fun _ =>
  hf_bC (spX5_fair gs x1 g4) (fun x7 g8 =>
  (hf_gi 0 3 6 g8 x7).bind fun x9 =>
  hf_let ((-2 : Int32) - x9) fun x10 =>
  (hf_pi 1 0 6 g8 l0 (0 : Int32)).bind fun g11 =>
  some (x10, g11)) fun x6 g5 =>
  (hf_pq 1 0 0 g5 l0 (some x6)).bind fun g12 =>
  (hf_ga 1 0 1 g12 l0).bind fun x13 =>
  (hf_ga 1 0 0 g12 l0).bind fun x14 =>
  (hf_ob 1 2 g12 x13).bind fun _ =>
  (spX2_begin x13 x14 g12).bind fun g15 =>
  (hf_pi 1 0 10 g15 l0 (0 : Int32)).bind fun g16 =>
  (hf_ob 1 0 g16 l0).bind fun _ =>
  (spX0_forgets l0 g16).bind fun g17 =>
  (hf_ob 1 0 g17 l0).bind fun _ =>
  hf_b2 (spX0_many l0 g17) fun x19 g18 =>
  (hf_pi 1 0 6 g18 l0 (0 : Int32)).bind fun g20 =>
  some (x19, g20)
theorem jtX0_fair {C : hf_X} {gs : hf_gs} (o : hf_In C cX0_fair RX0 4 (some .int) 10 217) (og : hf_G C gs) (otb : hf_Tb C [((0 : Nat), (45 : Nat), (52 : Nat), (35 : Nat)), ((0 : Nat), (45 : Nat), (68 : Nat), (0 : Nat)), ((52 : Nat), (61 : Nat), (68 : Nat), (0 : Nat))]) (l0 : Nat) (V0 : hf_H) : hf_J C hf_dHI (spX0_fair gs l0 V0) V0 0 [(0, .ref l0)] [] := by
  refine hr_aload_n o 0 dX0_fair_0 rfl ?_
  refine hx_new (ci := 5) (q := (RX5, TX5, 7)) o rfl q486 q487 q163 in_X5 tyX5_ok (hf_def (by decide) (by decide)) dX0_fair_1 (fun x1 g2 => ?_)
  refine hr_dup o dX0_fair_4 rfl ?_
  refine hr_aload_n o 0 dX0_fair_5 rfl ?_
  refine hx_getsA o og 0 rfl q382 dX0_fair_6 (fun x3 => ?_)
  refine hr_bipush o (40 : Int32) dX0_fair_9 (by decide) ?_
  refine hx_callIV o og miX0_130 dX0_fair_11 [.ref l0, .ref x3, .int (40 : Int32)] (fun zg ze => mtX5_init x1 l0 x3 (40 : Int32) g2 zg ze) rfl rfl (Nat.le_of_ble_eq_true rfl) ⟨by decide, by decide⟩ (fun g4 => ?_)
  refine hC_callV (q := (RX5, TX5, 7)) o og otb rfl (by decide) rfl mvX0_133 dX0_fair_14 rfl [] (fun z ze => mtX5_fair x1 g4 z ze) rfl rfl (Nat.le_of_ble_eq_true rfl) ⟨by decide, by decide⟩ (fun x7 g8 => ?_) (fun x6 g5 => ?_)
  · refine hr_astore_n o [(1, .ref x7), (0, .ref l0)] dX0_fair_52 (by decide) rfl ?_
    refine hr_bipush o (-2 : Int32) dX0_fair_53 (by decide) ?_
    refine hr_aload_n o 0 dX0_fair_55 rfl ?_
    refine hr_getI (md := 0) o flX0_119 dX0_fair_56 (fun _ => rfl) (fun x9 => ?_)
    refine hr_isub o dX0_fair_59 ?_
    refine hr_nmI (fun x10 => ?_)
    refine hr_istore_n o [(2, .int x10), (1, .ref x7), (0, .ref l0)] dX0_fair_60 (by decide) rfl ?_
    refine hr_aload_n o 2 dX0_fair_61 rfl ?_
    refine hr_iconst o (0 : Int32) dX0_fair_62 (by decide) ?_
    refine hx_putI (md := 1) o flX0_122 dX0_fair_63 rfl (Or.inl nf_0_6) rfl rfl (fun _ => rfl) (fun g11 => ?_)
    refine hr_iload_n o 0 dX0_fair_66 rfl ?_
    exact hr_iret o dX0_fair_67 rfl rfl
  refine hx_putQ (md := 1) (x := (some x6)) o flX0_12 dX0_fair_17 rfl (Or.inl nf_0_0) rfl (Or.inl ⟨_, rfl⟩) (fun _ => rfl) (fun g12 => ?_)
  refine hr_aload_n o 0 dX0_fair_20 rfl ?_
  refine hr_getA (md := 1) o flX0_19 dX0_fair_21 (fun _ => rfl) (fun x13 => ?_)
  refine hr_aload_n o 0 dX0_fair_24 rfl ?_
  refine hr_getA (md := 1) o flX0_12 dX0_fair_25 (fun _ => rfl) (fun x14 => ?_)
  refine hx_callVV (q := (RX2, TX2, 5)) o og mvX0_136 dX0_fair_28 1 2 rfl [.ref x14] (fun zg ze => mtX2_begin x13 x14 g12 zg ze) rfl rfl (Nat.le_of_ble_eq_true rfl) ⟨by decide, by decide⟩ (fun g15 => ?_)
  refine hr_aload_n o 0 dX0_fair_31 rfl ?_
  refine hr_iconst o (0 : Int32) dX0_fair_32 (by decide) ?_
  refine hx_putI (md := 1) o flX0_140 dX0_fair_33 rfl (Or.inl nf_0_10) rfl rfl (fun _ => rfl) (fun g16 => ?_)
  refine hr_aload_n o 0 dX0_fair_36 rfl ?_
  refine hx_callVV (q := (RX0, TX0, 23)) o og mvX0_143 dX0_fair_37 1 0 rfl [] (fun zg ze => mtX0_forgets l0 g16 zg ze) rfl rfl (Nat.le_of_ble_eq_true rfl) ⟨by decide, by decide⟩ (fun g17 => ?_)
  refine hr_aload_n o 0 dX0_fair_40 rfl ?_
  refine hx_callVI (q := (RX0, TX0, 23)) o og mvX0_103 dX0_fair_41 1 0 rfl [] (fun zr zg ze => mtX0_many l0 g17 zr zg ze) rfl rfl (Nat.le_of_ble_eq_true rfl) ⟨by decide, by decide⟩ (fun x19 g18 => ?_)
  refine hr_istore_n o [(1, .int x19), (0, .ref l0)] dX0_fair_44 (by decide) rfl ?_
  refine hr_aload_n o 1 dX0_fair_45 rfl ?_
  refine hr_iconst o (0 : Int32) dX0_fair_46 (by decide) ?_
  refine hx_putI (md := 1) o flX0_122 dX0_fair_47 rfl (Or.inl nf_0_6) rfl rfl (fun _ => rfl) (fun g20 => ?_)
  refine hr_iload_n o 0 dX0_fair_50 rfl ?_
  exact hr_iret o dX0_fair_51 rfl rfl
theorem mtX0_fair {gs : hf_gs} (l0 : Nat) (V0 : hf_H) (r : Int32) (V1 : hf_H) (e : spX0_fair gs l0 V0 = some (r, V1)) : hf_ConW gs yX0_fair cX0_fair 4 (some .int) [((0 : Nat), (45 : Nat), (52 : Nat), (35 : Nat)), ((0 : Nat), (45 : Nat), (68 : Nat), (0 : Nat)), ((52 : Nat), (61 : Nat), (68 : Nat), (0 : Nat))] 10 217 [.ref l0] V0 (.returned (some (.int r)), V1) := hf_entryW (dec := hf_dHI) (by decide) [.ref l0] (Nat.le_of_ble_eq_true rfl) [(0, .ref l0)] rfl e (fun C o og otb => jtX0_fair o og otb l0 V0)

/-! X0_rule -/
theorem mvX0_146 : hf_MV RX0 146 RX5 yX5_rule cX5_rule 2 (some .int) 0 := ⟨lw_V q811 q812 q813 q163 q814, by decide +kernel⟩
def spX0_rule (gs : hf_gs) (l0 : Nat) (V0 : hf_H) : Option (Int32 × hf_H) :=
  (hf_ga 1 0 3 V0 l0).bind fun x1 =>
  (hf_ob 0 19 V0 x1).bind fun _ =>
  hf_b2 (spJ2_size x1 V0) fun x3 g2 =>
  if x3 = (6 : Int32) then (some ((-1 : Int32), g2)) else
  hf_mk g2 (.inl (0, 5, hf_V0)) 7 fun x4 g5 =>
  (gs.1 0).bind fun x6 =>
  (spX5_init x4 l0 x6 (12 : Int32) g5).bind fun g7 =>
  (hf_ob 0 5 g7 x4).bind fun _ =>
  hf_bC (spX5_rule gs x4 g7) (fun x10 g11 =>
  (hf_gi 0 3 6 g11 x10).bind fun x12 =>
  hf_let ((-2 : Int32) - x12) fun x13 =>
  (hf_pi 1 0 6 g11 l0 (0 : Int32)).bind fun g14 =>
  some (x13, g14)) fun x9 g8 =>
  (hf_pi 1 0 6 g8 l0 (0 : Int32)).bind fun g15 =>
  some (x9, g15)
theorem jtX0_rule {C : hf_X} {gs : hf_gs} (o : hf_In C cX0_rule RX0 4 (some .int) 62 1770) (og : hf_G C gs) (otb : hf_Tb C [((14 : Nat), (31 : Nat), (38 : Nat), (35 : Nat)), ((14 : Nat), (31 : Nat), (54 : Nat), (0 : Nat)), ((38 : Nat), (47 : Nat), (54 : Nat), (0 : Nat))]) (l0 : Nat) (V0 : hf_H) : hf_J C hf_dHI (spX0_rule gs l0 V0) V0 0 [(0, .ref l0)] [] := by
  refine hr_aload_n o 0 dX0_rule_0 rfl ?_
  refine hr_getA (md := 1) o flX0_31 dX0_rule_1 (fun _ => rfl) (fun x1 => ?_)
  refine hx_callVI (q := (RJ2, TJ2, 3)) o og mvX0_96 dX0_rule_4 0 19 rfl [] (fun zr zg ze => mtJ2_size x1 V0 zr zg ze) rfl rfl (Nat.le_of_ble_eq_true rfl) ⟨by decide, by decide⟩ (fun x3 g2 => ?_)
  refine hr_bipush o (6 : Int32) dX0_rule_7 (by decide) ?_
  refine hr_icmp_ne o 14 dX0_rule_9 (by decide) (fun _ => ?_) (fun _ => ?_)
  · refine hr_iconst o (-1 : Int32) dX0_rule_12 (by decide) ?_
    exact hr_iret o dX0_rule_13 rfl rfl
  refine hx_new (ci := 5) (q := (RX5, TX5, 7)) o rfl q486 q487 q163 in_X5 tyX5_ok (hf_def (by decide) (by decide)) dX0_rule_14 (fun x4 g5 => ?_)
  refine hr_dup o dX0_rule_17 rfl ?_
  refine hr_aload_n o 0 dX0_rule_18 rfl ?_
  refine hx_getsA o og 0 rfl q382 dX0_rule_19 (fun x6 => ?_)
  refine hr_bipush o (12 : Int32) dX0_rule_22 (by decide) ?_
  refine hx_callIV o og miX0_130 dX0_rule_24 [.ref l0, .ref x6, .int (12 : Int32)] (fun zg ze => mtX5_init x4 l0 x6 (12 : Int32) g5 zg ze) rfl rfl (Nat.le_of_ble_eq_true rfl) ⟨by decide, by decide⟩ (fun g7 => ?_)
  refine hC_callV (q := (RX5, TX5, 7)) o og otb rfl (by decide) rfl mvX0_146 dX0_rule_27 rfl [] (fun z ze => mtX5_rule x4 g7 z ze) rfl rfl (Nat.le_of_ble_eq_true rfl) ⟨by decide, by decide⟩ (fun x10 g11 => ?_) (fun x9 g8 => ?_)
  · refine hr_astore_n o [(1, .ref x10), (0, .ref l0)] dX0_rule_38 (by decide) rfl ?_
    refine hr_bipush o (-2 : Int32) dX0_rule_39 (by decide) ?_
    refine hr_aload_n o 0 dX0_rule_41 rfl ?_
    refine hr_getI (md := 0) o flX0_119 dX0_rule_42 (fun _ => rfl) (fun x12 => ?_)
    refine hr_isub o dX0_rule_45 ?_
    refine hr_nmI (fun x13 => ?_)
    refine hr_istore_n o [(2, .int x13), (1, .ref x10), (0, .ref l0)] dX0_rule_46 (by decide) rfl ?_
    refine hr_aload_n o 2 dX0_rule_47 rfl ?_
    refine hr_iconst o (0 : Int32) dX0_rule_48 (by decide) ?_
    refine hx_putI (md := 1) o flX0_122 dX0_rule_49 rfl (Or.inl nf_0_6) rfl rfl (fun _ => rfl) (fun g14 => ?_)
    refine hr_iload_n o 0 dX0_rule_52 rfl ?_
    exact hr_iret o dX0_rule_53 rfl rfl
  refine hr_istore_n o [(1, .int x9), (0, .ref l0)] dX0_rule_30 (by decide) rfl ?_
  refine hr_aload_n o 1 dX0_rule_31 rfl ?_
  refine hr_iconst o (0 : Int32) dX0_rule_32 (by decide) ?_
  refine hx_putI (md := 1) o flX0_122 dX0_rule_33 rfl (Or.inl nf_0_6) rfl rfl (fun _ => rfl) (fun g15 => ?_)
  refine hr_iload_n o 0 dX0_rule_36 rfl ?_
  exact hr_iret o dX0_rule_37 rfl rfl
theorem mtX0_rule {gs : hf_gs} (l0 : Nat) (V0 : hf_H) (r : Int32) (V1 : hf_H) (e : spX0_rule gs l0 V0 = some (r, V1)) : hf_ConW gs yX0_rule cX0_rule 4 (some .int) [((14 : Nat), (31 : Nat), (38 : Nat), (35 : Nat)), ((14 : Nat), (31 : Nat), (54 : Nat), (0 : Nat)), ((38 : Nat), (47 : Nat), (54 : Nat), (0 : Nat))] 62 1770 [.ref l0] V0 (.returned (some (.int r)), V1) := hf_entryW (dec := hf_dHI) (by decide) [.ref l0] (Nat.le_of_ble_eq_true rfl) [(0, .ref l0)] rfl e (fun C o og otb => jtX0_rule o og otb l0 V0)
