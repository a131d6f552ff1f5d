set_option maxRecDepth 100000
set_option maxHeartbeats 4000000
theorem ffX4_7 : hf_Ff RX4 7 4 0 := ⟨(RX4, TX4, 37), rfl, rfl, rfl, q1400⟩
theorem ffX4_13 : hf_Ff RX4 13 4 3 := ⟨(RX4, TX4, 37), rfl, rfl, rfl, q1403⟩
theorem ffX4_17 : hf_Ff RX4 17 4 4 := ⟨(RX4, TX4, 37), rfl, rfl, rfl, q1404⟩
theorem ffX4_20 : hf_Ff RX4 20 4 5 := ⟨(RX4, TX4, 37), rfl, rfl, rfl, q1405⟩
theorem ffX4_23 : hf_Ff RX4 23 4 6 := ⟨(RX4, TX4, 37), rfl, rfl, rfl, q1406⟩
theorem ffX4_26 : hf_Ff RX4 26 4 7 := ⟨(RX4, TX4, 37), rfl, rfl, rfl, q1407⟩
theorem ffX4_29 : hf_Ff RX4 29 4 15 := ⟨(RX4, TX4, 37), rfl, rfl, rfl, q1415⟩
theorem ffX4_32 : hf_Ff RX4 32 4 17 := ⟨(RX4, TX4, 37), rfl, rfl, rfl, q1417⟩
theorem ffX4_36 : hf_Ff RX4 36 4 19 := ⟨(RX4, TX4, 37), rfl, rfl, rfl, q1419⟩
theorem ffX4_39 : hf_Ff RX4 39 4 20 := ⟨(RX4, TX4, 37), rfl, rfl, rfl, q1420⟩
theorem ffX4_42 : hf_Ff RX4 42 4 22 := ⟨(RX4, TX4, 37), rfl, rfl, rfl, q1422⟩
theorem ffX4_45 : hf_Ff RX4 45 4 23 := ⟨(RX4, TX4, 37), rfl, rfl, rfl, q1423⟩
theorem ffX4_48 : hf_Ff RX4 48 4 24 := ⟨(RX4, TX4, 37), rfl, rfl, rfl, q1424⟩
theorem ffX4_51 : hf_Ff RX4 51 4 27 := ⟨(RX4, TX4, 37), rfl, rfl, rfl, q1427⟩
theorem ffX4_54 : hf_Ff RX4 54 4 28 := ⟨(RX4, TX4, 37), rfl, rfl, rfl, q1428⟩
theorem ffX4_57 : hf_Ff RX4 57 4 32 := ⟨(RX4, TX4, 37), rfl, rfl, rfl, q1432⟩
theorem ffX4_60 : hf_Ff RX4 60 4 34 := ⟨(RX4, TX4, 37), rfl, rfl, rfl, q1434⟩
theorem ffX4_63 : hf_Ff RX4 63 4 35 := ⟨(RX4, TX4, 37), rfl, rfl, rfl, q1435⟩
theorem ffX4_66 : hf_Ff RX4 66 4 36 := ⟨(RX4, TX4, 37), rfl, rfl, rfl, q1436⟩
def spX4_init (l0 : Nat) (V0 : hf_H) : Option hf_H :=
  if (400 : Int32) < 0 ∨ 536870912 < (400 : Int32).toNatClampNeg * 8 then none else hf_mk V0 (.inr (.inl (0, .byte, (400 : Int32).toNatClampNeg, hf_z .byte))) (400 : Int32).toNatClampNeg fun x1 g2 =>
  (hf_pq 0 4 0 g2 l0 (some x1)).bind fun g3 =>
  if (2400 : Int32) < 0 ∨ 536870912 < (2400 : Int32).toNatClampNeg * 8 then none else hf_mk g3 (.inr (.inl (0, .int, (2400 : Int32).toNatClampNeg, hf_z .int))) (2400 : Int32).toNatClampNeg fun x4 g5 =>
  (hf_pq 0 4 3 g5 l0 (some x4)).bind fun g6 =>
  if (7 : Int32) < 0 ∨ 536870912 < (7 : Int32).toNatClampNeg * 8 then none else hf_mk g6 (.inr (.inl (0, .int, (7 : Int32).toNatClampNeg, hf_z .int))) (7 : Int32).toNatClampNeg fun x7 g8 =>
  (hf_pq 0 4 4 g8 l0 (some x7)).bind fun g9 =>
  if (360 : Int32) < 0 ∨ 536870912 < (360 : Int32).toNatClampNeg * 8 then none else hf_mk g9 (.inr (.inl (0, .int, (360 : Int32).toNatClampNeg, hf_z .int))) (360 : Int32).toNatClampNeg fun x10 g11 =>
  (hf_pq 0 4 5 g11 l0 (some x10)).bind fun g12 =>
  if (6 : Int32) < 0 ∨ 536870912 < (6 : Int32).toNatClampNeg * 8 then none else hf_mk g12 (.inr (.inl (0, .int, (6 : Int32).toNatClampNeg, hf_z .int))) (6 : Int32).toNatClampNeg fun x13 g14 =>
  (hf_pq 0 4 6 g14 l0 (some x13)).bind fun g15 =>
  if (86 : Int32) < 0 ∨ 536870912 < (86 : Int32).toNatClampNeg * 8 then none else hf_mk g15 (.inr (.inl (0, .int, (86 : Int32).toNatClampNeg, hf_z .int))) (86 : Int32).toNatClampNeg fun x16 g17 =>
  (hf_pq 0 4 7 g17 l0 (some x16)).bind fun g18 =>
  if (400 : Int32) < 0 ∨ 536870912 < (400 : Int32).toNatClampNeg * 8 then none else hf_mk g18 (.inr (.inl (0, .int, (400 : Int32).toNatClampNeg, hf_z .int))) (400 : Int32).toNatClampNeg fun x19 g20 =>
  (hf_pq 0 4 15 g20 l0 (some x19)).bind fun g21 =>
  if (64 : Int32) < 0 ∨ 536870912 < (64 : Int32).toNatClampNeg * 8 then none else hf_mk g21 (.inr (.inl (0, .long, (64 : Int32).toNatClampNeg, hf_z .long))) (64 : Int32).toNatClampNeg fun x22 g23 =>
  (hf_pq 0 4 17 g23 l0 (some x22)).bind fun g24 =>
  if (13 : Int32) < 0 ∨ 536870912 < (13 : Int32).toNatClampNeg * 8 then none else hf_mk g24 (.inr (.inl (0, .long, (13 : Int32).toNatClampNeg, hf_z .long))) (13 : Int32).toNatClampNeg fun x25 g26 =>
  (hf_pq 0 4 19 g26 l0 (some x25)).bind fun g27 =>
  if (123 : Int32) < 0 ∨ 536870912 < (123 : Int32).toNatClampNeg * 8 then none else hf_mk g27 (.inr (.inl (0, .int, (123 : Int32).toNatClampNeg, hf_z .int))) (123 : Int32).toNatClampNeg fun x28 g29 =>
  (hf_pq 0 4 20 g29 l0 (some x28)).bind fun g30 =>
  if (4096 : Int32) < 0 ∨ 536870912 < (4096 : Int32).toNatClampNeg * 8 then none else hf_mk g30 (.inr (.inl (0, .int, (4096 : Int32).toNatClampNeg, hf_z .int))) (4096 : Int32).toNatClampNeg fun x31 g32 =>
  (hf_pq 0 4 22 g32 l0 (some x31)).bind fun g33 =>
  if (4096 : Int32) < 0 ∨ 536870912 < (4096 : Int32).toNatClampNeg * 8 then none else hf_mk g33 (.inr (.inl (0, .int, (4096 : Int32).toNatClampNeg, hf_z .int))) (4096 : Int32).toNatClampNeg fun x34 g35 =>
  (hf_pq 0 4 23 g35 l0 (some x34)).bind fun g36 =>
  if (1720 : Int32) < 0 ∨ 536870912 < (1720 : Int32).toNatClampNeg * 8 then none else hf_mk g36 (.inr (.inl (0, .int, (1720 : Int32).toNatClampNeg, hf_z .int))) (1720 : Int32).toNatClampNeg fun x37 g38 =>
  (hf_pq 0 4 24 g38 l0 (some x37)).bind fun g39 =>
  if (2048 : Int32) < 0 ∨ 536870912 < (2048 : Int32).toNatClampNeg * 8 then none else hf_mk g39 (.inr (.inl (0, .int, (2048 : Int32).toNatClampNeg, hf_z .int))) (2048 : Int32).toNatClampNeg fun x40 g41 =>
  (hf_pq 0 4 27 g41 l0 (some x40)).bind fun g42 =>
  if (2048 : Int32) < 0 ∨ 536870912 < (2048 : Int32).toNatClampNeg * 8 then none else hf_mk g42 (.inr (.inl (0, .int, (2048 : Int32).toNatClampNeg, hf_z .int))) (2048 : Int32).toNatClampNeg fun x43 g44 =>
  (hf_pq 0 4 28 g44 l0 (some x43)).bind fun g45 =>
  if (86 : Int32) < 0 ∨ 536870912 < (86 : Int32).toNatClampNeg * 8 then none else hf_mk g45 (.inr (.inl (0, .int, (86 : Int32).toNatClampNeg, hf_z .int))) (86 : Int32).toNatClampNeg fun x46 g47 =>
  (hf_pq 0 4 32 g47 l0 (some x46)).bind fun g48 =>
  if (492 : Int32) < 0 ∨ 536870912 < (492 : Int32).toNatClampNeg * 8 then none else hf_mk g48 (.inr (.inl (0, .int, (492 : Int32).toNatClampNeg, hf_z .int))) (492 : Int32).toNatClampNeg fun x49 g50 =>
  (hf_pq 0 4 34 g50 l0 (some x49)).bind fun g51 =>
  if (4 : Int32) < 0 ∨ 536870912 < (4 : Int32).toNatClampNeg * 8 then none else hf_mk g51 (.inr (.inl (0, .int, (4 : Int32).toNatClampNeg, hf_z .int))) (4 : Int32).toNatClampNeg fun x52 g53 =>
  (hf_pq 0 4 35 g53 l0 (some x52)).bind fun g54 =>
  if (4 : Int32) < 0 ∨ 536870912 < (4 : Int32).toNatClampNeg * 8 then none else hf_mk g54 (.inr (.inl (0, .boolean, (4 : Int32).toNatClampNeg, hf_z .boolean))) (4 : Int32).toNatClampNeg fun x55 g56 =>
  (hf_pq 0 4 36 g56 l0 (some x55)).bind fun g57 =>
  (hf_fold 4 g57 l0).bind fun g58 =>
  some g58
theorem jtX4_init {C : hf_X} {gs : hf_gs} (o : hf_In C cX4_init RX4 1 (none) 1 12) (og : hf_G C gs) (oi : hf_Ini C) (l0 : Nat) (V0 : hf_H) : hf_J C hf_dHV (spX4_init l0 V0) V0 0 [(0, .ref l0)] [] := by
  refine hr_aload_n o 0 dX4_init_0 rfl ?_
  refine hr_objInit o q1399 dX4_init_1 q194 q195 (by decide) (Nat.le_of_ble_eq_true rfl) ?_
  refine hr_aload_n o 0 dX4_init_4 rfl ?_
  refine hr_sipush o (400 : Int32) dX4_init_5 (by decide) ?_
  refine hx_newa o .byte rfl q467 (by simp [hf_tys]) (by decide) (fun _ _ => rfl) (fun _ _ h => h) dX4_init_8 (fun x1 g2 => ?_)
  refine hx_putQ (md := 0) (x := (some x1)) o flX4_7 dX4_init_10 rfl (Or.inr ⟨oi, ffX4_7⟩) rfl (Or.inr ⟨_, rfl⟩) (fun _ => rfl) (fun g3 => ?_)
  refine hr_aload_n o 0 dX4_init_13 rfl ?_
  refine hr_sipush o (2400 : Int32) dX4_init_14 (by decide) ?_
  refine hx_newa o .int rfl q289 (by simp [hf_tys]) (by decide) (fun _ _ => rfl) (fun _ _ h => h) dX4_init_17 (fun x4 g5 => ?_)
  refine hx_putQ (md := 0) (x := (some x4)) o flX4_13 dX4_init_19 rfl (Or.inr ⟨oi, ffX4_13⟩) rfl (Or.inr ⟨_, rfl⟩) (fun _ => rfl) (fun g6 => ?_)
  refine hr_aload_n o 0 dX4_init_22 rfl ?_
  refine hr_bipush o (7 : Int32) dX4_init_23 (by decide) ?_
  refine hx_newa o .int rfl q289 (by simp [hf_tys]) (by decide) (fun _ _ => rfl) (fun _ _ h => h) dX4_init_25 (fun x7 g8 => ?_)
  refine hx_putQ (md := 0) (x := (some x7)) o flX4_17 dX4_init_27 rfl (Or.inr ⟨oi, ffX4_17⟩) rfl (Or.inr ⟨_, rfl⟩) (fun _ => rfl) (fun g9 => ?_)
  refine hr_aload_n o 0 dX4_init_30 rfl ?_
  refine hr_sipush o (360 : Int32) dX4_init_31 (by decide) ?_
  refine hx_newa o .int rfl q289 (by simp [hf_tys]) (by decide) (fun _ _ => rfl) (fun _ _ h => h) dX4_init_34 (fun x10 g11 => ?_)
  refine hx_putQ (md := 0) (x := (some x10)) o flX4_20 dX4_init_36 rfl (Or.inr ⟨oi, ffX4_20⟩) rfl (Or.inr ⟨_, rfl⟩) (fun _ => rfl) (fun g12 => ?_)
  refine hr_aload_n o 0 dX4_init_39 rfl ?_
  refine hr_bipush o (6 : Int32) dX4_init_40 (by decide) ?_
  refine hx_newa o .int rfl q289 (by simp [hf_tys]) (by decide) (fun _ _ => rfl) (fun _ _ h => h) dX4_init_42 (fun x13 g14 => ?_)
  refine hx_putQ (md := 0) (x := (some x13)) o flX4_23 dX4_init_44 rfl (Or.inr ⟨oi, ffX4_23⟩) rfl (Or.inr ⟨_, rfl⟩) (fun _ => rfl) (fun g15 => ?_)
  refine hr_aload_n o 0 dX4_init_47 rfl ?_
  refine hr_bipush o (86 : Int32) dX4_init_48 (by decide) ?_
  refine hx_newa o .int rfl q289 (by simp [hf_tys]) (by decide) (fun _ _ => rfl) (fun _ _ h => h) dX4_init_50 (fun x16 g17 => ?_)
  refine hx_putQ (md := 0) (x := (some x16)) o flX4_26 dX4_init_52 rfl (Or.inr ⟨oi, ffX4_26⟩) rfl (Or.inr ⟨_, rfl⟩) (fun _ => rfl) (fun g18 => ?_)
  refine hr_aload_n o 0 dX4_init_55 rfl ?_
  refine hr_sipush o (400 : Int32) dX4_init_56 (by decide) ?_
  refine hx_newa o .int rfl q289 (by simp [hf_tys]) (by decide) (fun _ _ => rfl) (fun _ _ h => h) dX4_init_59 (fun x19 g20 => ?_)
  refine hx_putQ (md := 0) (x := (some x19)) o flX4_29 dX4_init_61 rfl (Or.inr ⟨oi, ffX4_29⟩) rfl (Or.inr ⟨_, rfl⟩) (fun _ => rfl) (fun g21 => ?_)
  refine hr_aload_n o 0 dX4_init_64 rfl ?_
  refine hr_bipush o (64 : Int32) dX4_init_65 (by decide) ?_
  refine hx_newa o .long rfl q469 (by simp [hf_tys]) (by decide) (fun _ _ => rfl) (fun _ _ h => h) dX4_init_67 (fun x22 g23 => ?_)
  refine hx_putQ (md := 0) (x := (some x22)) o flX4_32 dX4_init_69 rfl (Or.inr ⟨oi, ffX4_32⟩) rfl (Or.inr ⟨_, rfl⟩) (fun _ => rfl) (fun g24 => ?_)
  refine hr_aload_n o 0 dX4_init_72 rfl ?_
  refine hr_bipush o (13 : Int32) dX4_init_73 (by decide) ?_
  refine hx_newa o .long rfl q469 (by simp [hf_tys]) (by decide) (fun _ _ => rfl) (fun _ _ h => h) dX4_init_75 (fun x25 g26 => ?_)
  refine hx_putQ (md := 0) (x := (some x25)) o flX4_36 dX4_init_77 rfl (Or.inr ⟨oi, ffX4_36⟩) rfl (Or.inr ⟨_, rfl⟩) (fun _ => rfl) (fun g27 => ?_)
  refine hr_aload_n o 0 dX4_init_80 rfl ?_
  refine hr_bipush o (123 : Int32) dX4_init_81 (by decide) ?_
  refine hx_newa o .int rfl q289 (by simp [hf_tys]) (by decide) (fun _ _ => rfl) (fun _ _ h => h) dX4_init_83 (fun x28 g29 => ?_)
  refine hx_putQ (md := 0) (x := (some x28)) o flX4_39 dX4_init_85 rfl (Or.inr ⟨oi, ffX4_39⟩) rfl (Or.inr ⟨_, rfl⟩) (fun _ => rfl) (fun g30 => ?_)
  refine hr_aload_n o 0 dX4_init_88 rfl ?_
  refine hr_sipush o (4096 : Int32) dX4_init_89 (by decide) ?_
  refine hx_newa o .int rfl q289 (by simp [hf_tys]) (by decide) (fun _ _ => rfl) (fun _ _ h => h) dX4_init_92 (fun x31 g32 => ?_)
  refine hx_putQ (md := 0) (x := (some x31)) o flX4_42 dX4_init_94 rfl (Or.inr ⟨oi, ffX4_42⟩) rfl (Or.inr ⟨_, rfl⟩) (fun _ => rfl) (fun g33 => ?_)
  refine hr_aload_n o 0 dX4_init_97 rfl ?_
  refine hr_sipush o (4096 : Int32) dX4_init_98 (by decide) ?_
  refine hx_newa o .int rfl q289 (by simp [hf_tys]) (by decide) (fun _ _ => rfl) (fun _ _ h => h) dX4_init_101 (fun x34 g35 => ?_)
  refine hx_putQ (md := 0) (x := (some x34)) o flX4_45 dX4_init_103 rfl (Or.inr ⟨oi, ffX4_45⟩) rfl (Or.inr ⟨_, rfl⟩) (fun _ => rfl) (fun g36 => ?_)
  refine hr_aload_n o 0 dX4_init_106 rfl ?_
  refine hr_sipush o (1720 : Int32) dX4_init_107 (by decide) ?_
  refine hx_newa o .int rfl q289 (by simp [hf_tys]) (by decide) (fun _ _ => rfl) (fun _ _ h => h) dX4_init_110 (fun x37 g38 => ?_)
  refine hx_putQ (md := 0) (x := (some x37)) o flX4_48 dX4_init_112 rfl (Or.inr ⟨oi, ffX4_48⟩) rfl (Or.inr ⟨_, rfl⟩) (fun _ => rfl) (fun g39 => ?_)
  refine hr_aload_n o 0 dX4_init_115 rfl ?_
  refine hr_sipush o (2048 : Int32) dX4_init_116 (by decide) ?_
  refine hx_newa o .int rfl q289 (by simp [hf_tys]) (by decide) (fun _ _ => rfl) (fun _ _ h => h) dX4_init_119 (fun x40 g41 => ?_)
  refine hx_putQ (md := 0) (x := (some x40)) o flX4_51 dX4_init_121 rfl (Or.inr ⟨oi, ffX4_51⟩) rfl (Or.inr ⟨_, rfl⟩) (fun _ => rfl) (fun g42 => ?_)
  refine hr_aload_n o 0 dX4_init_124 rfl ?_
  refine hr_sipush o (2048 : Int32) dX4_init_125 (by decide) ?_
  refine hx_newa o .int rfl q289 (by simp [hf_tys]) (by decide) (fun _ _ => rfl) (fun _ _ h => h) dX4_init_128 (fun x43 g44 => ?_)
  refine hx_putQ (md := 0) (x := (some x43)) o flX4_54 dX4_init_130 rfl (Or.inr ⟨oi, ffX4_54⟩) rfl (Or.inr ⟨_, rfl⟩) (fun _ => rfl) (fun g45 => ?_)
  refine hr_aload_n o 0 dX4_init_133 rfl ?_
  refine hr_bipush o (86 : Int32) dX4_init_134 (by decide) ?_
  refine hx_newa o .int rfl q289 (by simp [hf_tys]) (by decide) (fun _ _ => rfl) (fun _ _ h => h) dX4_init_136 (fun x46 g47 => ?_)
  refine hx_putQ (md := 0) (x := (some x46)) o flX4_57 dX4_init_138 rfl (Or.inr ⟨oi, ffX4_57⟩) rfl (Or.inr ⟨_, rfl⟩) (fun _ => rfl) (fun g48 => ?_)
  refine hr_aload_n o 0 dX4_init_141 rfl ?_
  refine hr_sipush o (492 : Int32) dX4_init_142 (by decide) ?_
  refine hx_newa o .int rfl q289 (by simp [hf_tys]) (by decide) (fun _ _ => rfl) (fun _ _ h => h) dX4_init_145 (fun x49 g50 => ?_)
  refine hx_putQ (md := 0) (x := (some x49)) o flX4_60 dX4_init_147 rfl (Or.inr ⟨oi, ffX4_60⟩) rfl (Or.inr ⟨_, rfl⟩) (fun _ => rfl) (fun g51 => ?_)
  refine hr_aload_n o 0 dX4_init_150 rfl ?_
  refine hr_iconst o (4 : Int32) dX4_init_151 (by decide) ?_
  refine hx_newa o .int rfl q289 (by simp [hf_tys]) (by decide) (fun _ _ => rfl) (fun _ _ h => h) dX4_init_152 (fun x52 g53 => ?_)
  refine hx_putQ (md := 0) (x := (some x52)) o flX4_63 dX4_init_154 rfl (Or.inr ⟨oi, ffX4_63⟩) rfl (Or.inr ⟨_, rfl⟩) (fun _ => rfl) (fun g54 => ?_)
  refine hr_aload_n o 0 dX4_init_157 rfl ?_
  refine hr_iconst o (4 : Int32) dX4_init_158 (by decide) ?_
  refine hx_newa o .boolean rfl q468 (by simp [hf_tys]) (by decide) (fun _ _ => rfl) (fun _ _ h => h) dX4_init_159 (fun x55 g56 => ?_)
  refine hx_putQ (md := 0) (x := (some x55)) o flX4_66 dX4_init_161 rfl (Or.inr ⟨oi, ffX4_66⟩) rfl (Or.inr ⟨_, rfl⟩) (fun _ => rfl) (fun g57 => ?_)
  refine hx_fold (fun g58 => ?_)
  exact hr_vret o dX4_init_164 rfl
theorem mtX4_init {gs : hf_gs} (l0 : Nat) (V0 V1 : hf_H) (e : spX4_init l0 V0 = some V1) : hf_ConG gs yX4_init cX4_init 1 (none) 1 12 [.ref l0] V0 (.returned none, V1) := hf_entryG (dec := hf_dHV) (by decide) [.ref l0] (Nat.le_of_ble_eq_true rfl) [(0, .ref l0)] rfl e (fun C o og oi => jtX4_init o og (oi rfl) l0 V0)

theorem mvL_13 : hf_MV RL 13 RX0 yX0_feed cX0_feed 6 (some .int) 5 := ⟨lw_V q470 q471 q472 q153 q473, by decide +kernel⟩
theorem mvL_17 : hf_MV RL 17 RX4 yX4_feed cX4_feed 6 (some .int) 5 := ⟨lw_V q1512 q1513 q1514 q162 q1515, by decide +kernel⟩
theorem mvL_18 : hf_MV RL 18 RX0 yX0_end cX0_end 2 (some .int) 1 := ⟨lw_V q478 q479 q480 q153 q481, by decide +kernel⟩
theorem mvL_22 : hf_MV RL 22 RX4 yX4_end cX4_end 2 (some .int) 1 := ⟨lw_V q1520 q1521 q1522 q162 q1523, by decide +kernel⟩
theorem mwL_23 : hf_MVW RL 23 RX0 yX0_fair cX0_fair 4 (some .int) [((0 : Nat), (45 : Nat), (52 : Nat), (35 : Nat)), ((0 : Nat), (45 : Nat), (68 : Nat), (0 : Nat)), ((52 : Nat), (61 : Nat), (68 : Nat), (0 : Nat))] 0 := ⟨lw_VW q482 q483 q484 q153 q485, by decide +kernel⟩
theorem mvL_27 : hf_MV RL 27 RX4 yX4_fair cX4_fair 2 (some .int) 0 := ⟨lw_V q1695 q1696 q1697 q162 q1698, by decide +kernel⟩
theorem mwL_28 : hf_MVW RL 28 RX0 yX0_rule cX0_rule 4 (some .int) [((14 : Nat), (31 : Nat), (38 : Nat), (35 : Nat)), ((14 : Nat), (31 : Nat), (54 : Nat), (0 : Nat)), ((38 : Nat), (47 : Nat), (54 : Nat), (0 : Nat))] 0 := ⟨lw_VW q807 q808 q809 q153 q810, by decide +kernel⟩
theorem mvL_31 : hf_MV RL 31 RX4 yX4_rule cX4_rule 1 (some .int) 0 := ⟨lw_V q1524 q1525 q1526 q162 q1527, by decide +kernel⟩
theorem mvL_32 : hf_MV RL 32 RX0 yX0_half cX0_half 3 (some .int) 2 := ⟨lw_V q980 q981 q982 q153 q983, by decide +kernel⟩
theorem mvL_36 : hf_MV RL 36 RX4 yX4_half cX4_half 3 (some .int) 2 := ⟨lw_V q1763 q1764 q1765 q162 q1766, by decide +kernel⟩
theorem mvL_37 : hf_MV RL 37 RX0 yX0_fit cX0_fit 3 (some .int) 2 := ⟨lw_V q1001 q1002 q1003 q153 q1004, by decide +kernel⟩
theorem mvL_40 : hf_MV RL 40 RX4 yX4_fit cX4_fit 3 (some .int) 2 := ⟨lw_V q1776 q1777 q1778 q162 q1779, by decide +kernel⟩
theorem mvL_41 : hf_MV RL 41 RX0 yX0_buyer cX0_buyer 3 (some .int) 2 := ⟨lw_V q1016 q1017 q1018 q153 q1019, by decide +kernel⟩
theorem mvL_44 : hf_MV RL 44 RX4 yX4_buyer cX4_buyer 3 (some .int) 2 := ⟨lw_V q1780 q1781 q1782 q162 q1783, by decide +kernel⟩
theorem mvL_45 : hf_MV RL 45 RX0 yX0_spot cX0_spot 3 (some .int) 2 := ⟨lw_V q1053 q1054 q1055 q153 q1056, by decide +kernel⟩
theorem mvL_48 : hf_MV RL 48 RX4 yX4_spot cX4_spot 3 (some .int) 2 := ⟨lw_V q1796 q1797 q1798 q162 q1799, by decide +kernel⟩
theorem mvL_49 : hf_MV RL 49 RX0 yX0_go cX0_go 3 (some .int) 2 := ⟨lw_V q1091 q1092 q1093 q153 q1094, by decide +kernel⟩
theorem mvL_52 : hf_MV RL 52 RX4 yX4_go cX4_go 3 (some .int) 2 := ⟨lw_V q1805 q1806 q1807 q162 q1808, by decide +kernel⟩
theorem mvL_53 : hf_MV RL 53 RX0 yX0_buy cX0_buy 3 (some .int) 2 := ⟨lw_V q1109 q1110 q1111 q153 q1112, by decide +kernel⟩
theorem mvL_56 : hf_MV RL 56 RX4 yX4_buy cX4_buy 3 (some .int) 2 := ⟨lw_V q1822 q1823 q1824 q162 q1825, by decide +kernel⟩
theorem mvL_57 : hf_MV RL 57 RX0 yX0_shout cX0_shout 4 (some .int) 2 := ⟨lw_V q1122 q1123 q1124 q153 q1125, by decide +kernel⟩
theorem mvL_60 : hf_MV RL 60 RX4 yX4_shout cX4_shout 6 (some .int) 2 := ⟨lw_V q1834 q1835 q1836 q162 q1837, by decide +kernel⟩
theorem mvL_61 : hf_MV RL 61 RX0 yX0_swap cX0_swap 5 (some .boolean) 4 := ⟨lw_V q1142 q1143 q1144 q153 q1145, by decide +kernel⟩
theorem mvL_65 : hf_MV RL 65 RX4 yX4_swap cX4_swap 5 (some .boolean) 4 := ⟨lw_V q1845 q1846 q1847 q162 q1848, by decide +kernel⟩
theorem mvL_66 : hf_MV RL 66 RX0 yX0_giveUp cX0_giveUp 3 (some .int) 2 := ⟨lw_V q1154 q1155 q1156 q153 q1157, by decide +kernel⟩
theorem mvL_69 : hf_MV RL 69 RX4 yX4_giveUp cX4_giveUp 3 (some .int) 2 := ⟨lw_V q1853 q1854 q1855 q162 q1856, by decide +kernel⟩
theorem mvL_70 : hf_MV RL 70 RX0 yX0_undo cX0_undo 1 (some .int) 0 := ⟨lw_V q1083 q1084 q1085 q153 q1086, by decide +kernel⟩
theorem mvL_73 : hf_MV RL 73 RX4 yX4_undo cX4_undo 2 (some .int) 0 := ⟨lw_V q1801 q1802 q1803 q162 q1804, by decide +kernel⟩
theorem mvL_74 : hf_MV RL 74 RX0 yX0_run cX0_run 4 (some .int) 2 := ⟨lw_V q1159 q1160 q1161 q153 q1162, by decide +kernel⟩
theorem mvL_77 : hf_MV RL 77 RX4 yX4_run cX4_run 4 (some .int) 2 := ⟨lw_V q1857 q1858 q1859 q162 q1860, by decide +kernel⟩
theorem mvL_78 : hf_MV RL 78 RX0 yX0_worth cX0_worth 2 (some .int) 1 := ⟨lw_V q1063 q1064 q1065 q153 q1066, by decide +kernel⟩
theorem mvL_81 : hf_MV RL 81 RX4 yX4_worth cX4_worth 2 (some .int) 1 := ⟨lw_V q1743 q1744 q1745 q162 q1746, by decide +kernel⟩
theorem mvL_82 : hf_MV RL 82 RX0 yX0_with cX0_with 7 (some .int) 2 := ⟨lw_V q1075 q1076 q1077 q153 q1078, by decide +kernel⟩
theorem mvL_85 : hf_MV RL 85 RX4 yX4_with cX4_with 6 (some .int) 2 := ⟨lw_V q1755 q1756 q1757 q162 q1758, by decide +kernel⟩
theorem mvL_86 : hf_MV RL 86 RX0 yX0_walk cX0_walk 5 (some .int) 2 := ⟨lw_V q1241 q1242 q1243 q153 q1244, by decide +kernel⟩
theorem mvL_89 : hf_MV RL 89 RX4 yX4_walk cX4_walk 6 (some .int) 2 := ⟨lw_V q1917 q1918 q1919 q162 q1920, by decide +kernel⟩
theorem mvL_90 : hf_MV RL 90 RX0 yX0_chance cX0_chance 8 (some .int) 3 := ⟨lw_V q1268 q1269 q1270 q153 q1271, by decide +kernel⟩
theorem mvL_94 : hf_MV RL 94 RX4 yX4_chance cX4_chance 6 (some .int) 3 := ⟨lw_V q1941 q1942 q1943 q162 q1944, by decide +kernel⟩
theorem mvL_95 : hf_MV RL 95 RX0 yX0_yields cX0_yields 9 (some .int) 5 := ⟨lw_V q1281 q1282 q1283 q153 q1284, by decide +kernel⟩
theorem mvL_98 : hf_MV RL 98 RX4 yX4_yields cX4_yields 8 (some .int) 5 := ⟨lw_V q1952 q1953 q1954 q162 q1955, by decide +kernel⟩
theorem mvL_99 : hf_MV RL 99 RX0 yX0_cry cX0_cry 9 (some .int) 2 := ⟨lw_V q1289 q1290 q1291 q153 q1292, by decide +kernel⟩
theorem mvL_102 : hf_MV RL 102 RX4 yX4_cry cX4_cry 7 (some .int) 2 := ⟨lw_V q1960 q1961 q1962 q162 q1963, by decide +kernel⟩
theorem mvL_103 : hf_MV RL 103 RX0 yX0_bring cX0_bring 8 (some .int) 3 := ⟨lw_V q1297 q1298 q1299 q153 q1300, by decide +kernel⟩
theorem mvL_106 : hf_MV RL 106 RX4 yX4_bring cX4_bring 9 (some .int) 3 := ⟨lw_V q1972 q1973 q1974 q162 q1975, by decide +kernel⟩
theorem mvL_111 : hf_MV RL 111 RX4 yX4_trial cX4_trial 5 (some .int) 3 := ⟨lw_V q1992 q1993 q1994 q162 q1995, by decide +kernel⟩
theorem mvL_107 : hf_MV RL 107 RX0 yX0_trial cX0_trial 4 (some .int) 3 := ⟨lw_V q1305 q1306 q1307 q153 q1308, by decide +kernel⟩
theorem mvL_112 : hf_MV RL 112 RX0 yX0_forgers cX0_forgers 6 (some .int) 1 := ⟨lw_V q1309 q1310 q1311 q153 q1312, by decide +kernel⟩
theorem mvL_115 : hf_MV RL 115 RX4 yX4_forgers cX4_forgers 5 (some .int) 1 := ⟨lw_V q1996 q1997 q1998 q162 q1999, by decide +kernel⟩
theorem mvL_116 : hf_MV RL 116 RX0 yX0_seed cX0_seed 3 (some .int) 1 := ⟨lw_V q1317 q1318 q1319 q153 q1320, by decide +kernel⟩
theorem mvL_119 : hf_MV RL 119 RX4 yX4_seed cX4_seed 3 (some .int) 1 := ⟨lw_V q2004 q2005 q2006 q162 q2007, by decide +kernel⟩
theorem mvL_120 : hf_MV RL 120 RX0 yX0_fairs cX0_fairs 11 (some .int) 4 := ⟨lw_V q1321 q1322 q1323 q153 q1324, by decide +kernel⟩
theorem mvL_124 : hf_MV RL 124 RX4 yX4_fairs cX4_fairs 9 (some .int) 4 := ⟨lw_V q2008 q2009 q2010 q162 q2011, by decide +kernel⟩
theorem mvL_125 : hf_MV RL 125 RX0 yX0_count cX0_count 2 (some .int) 1 := ⟨lw_V q1339 q1340 q1341 q153 q1342, by decide +kernel⟩
theorem mvL_128 : hf_MV RL 128 RX4 yX4_count cX4_count 2 (some .int) 1 := ⟨lw_V q2026 q2027 q2028 q162 q2029, by decide +kernel⟩
theorem mvL_129 : hf_MV RL 129 RX0 yX0_image cX0_image 2 (some .int) 1 := ⟨lw_V q1343 q1344 q1345 q153 q1346, by decide +kernel⟩
theorem mvL_132 : hf_MV RL 132 RX4 yX4_image cX4_image 3 (some .int) 1 := ⟨lw_V q2030 q2031 q2032 q162 q2033, by decide +kernel⟩
theorem mvL_133 : hf_MV RL 133 RX0 yX0_back cX0_back 2 (some .int) 1 := ⟨lw_V q1385 q1386 q1387 q153 q1388, by decide +kernel⟩
theorem mvL_136 : hf_MV RL 136 RX4 yX4_back cX4_back 3 (some .int) 1 := ⟨lw_V q2035 q2036 q2037 q162 q2038, by decide +kernel⟩
theorem miL_9 : hf_MI RL 9 yX0_init cX0_init 1 0 := ⟨⟨q192, q153, q190, q191, rfl⟩, by decide +kernel⟩
theorem miL_12 : hf_MI RL 12 yX4_init cX4_init 1 0 := ⟨⟨q1398, q162, q1396, q1397, rfl⟩, by decide +kernel⟩
def ndL_law_1137 (gs : hf_gs) (N : Nat × Nat) (k18 : Nat → Nat → Nat → Int32 → hf_H → Option hf_H) (l0 : Nat) (l1 : Nat) (l2 : Nat) (l3 : Int32) (V0 : hf_H) : Option hf_H :=
  hf_let (l3 + (6 : Int32)) fun x1 =>
  k18 l0 l1 l2 x1 V0
theorem nlL_law_1137 {C : hf_X} {gs : hf_gs} {N : Nat × Nat} (o : hf_In C cL_law RL 4 (some .boolean) 8192 100000) (og : hf_G C gs) (oL : hf_Lw C) (k18 : Nat → Nat → Nat → Int32 → hf_H → Option hf_H) (hk18 : ∀ (l0 : Nat) (l1 : Nat) (l2 : Nat) (l3 : Int32) (V0 : hf_H), hf_J C (hf_dL N) (k18 l0 l1 l2 l3 V0) V0 18 [(0, .ref l0), (1, .ref l1), (2, .ref l2), (3, .int l3)] []) (l0 : Nat) (l1 : Nat) (l2 : Nat) (l3 : Int32) (V0 : hf_H) : hf_J C (hf_dL N) (ndL_law_1137 gs N k18 l0 l1 l2 l3 V0) V0 1137 [(0, .ref l0), (1, .ref l1), (2, .ref l2), (3, .int l3)] [] := by
  refine hr_iincN o (6 : Int32) 3 (fun y => [(3, .int y), (0, .ref l0), (1, .ref l1), (2, .ref l2)]) dL_law_1137 rfl (by decide) (by decide) (fun y => rfl) (fun x1 => ?_)
  refine hr_goto o 18 dL_law_1140 (by decide) ?_
  refine hr_sub [1, 2, 3, 0] rfl ?_
  exact hk18 l0 l1 l2 x1 V0
def ndL_law_164 (gs : hf_gs) (N : Nat × Nat) (k18 : Nat → Nat → Nat → Int32 → hf_H → Option hf_H) (l0 : Nat) (l1 : Nat) (l2 : Nat) (l3 : Int32) (V0 : hf_H) : Option hf_H :=
  (hf_pai .int V0 l0 (l3 + (1 : Int32))).bind fun x1 =>
  (hf_pai .int V0 l0 (l3 + (2 : Int32))).bind fun x2 =>
  (hf_pai .int V0 l0 (l3 + (3 : Int32))).bind fun x3 =>
  (hf_pai .int V0 l0 (l3 + (4 : Int32))).bind fun x4 =>
  (hf_pai .int V0 l0 (l3 + (5 : Int32))).bind fun x5 =>
  (hf_ob 1 0 V0 l1).bind fun _ =>
  hf_b2 (spX0_feed l1 x1 x2 x3 x4 x5 V0) fun x7 g6 =>
  (hf_pai .int g6 l0 (l3 + (1 : Int32))).bind fun x8 =>
  (hf_pai .int g6 l0 (l3 + (2 : Int32))).bind fun x9 =>
  (hf_pai .int g6 l0 (l3 + (3 : Int32))).bind fun x10 =>
  (hf_pai .int g6 l0 (l3 + (4 : Int32))).bind fun x11 =>
  (hf_pai .int g6 l0 (l3 + (5 : Int32))).bind fun x12 =>
  hf_cm g6 l2 (fun zV => spX4_feed x8 x9 x10 x11 x12 zV) fun x13 g14 =>
  if x7 = x13 then (ndL_law_1137 gs N k18 l0 l1 l2 l3 g14) else
  none
theorem nlL_law_164 {C : hf_X} {gs : hf_gs} {N : Nat × Nat} (o : hf_In C cL_law RL 4 (some .boolean) 8192 100000) (og : hf_G C gs) (oL : hf_Lw C) (k18 : Nat → Nat → Nat → Int32 → hf_H → Option hf_H) (hk18 : ∀ (l0 : Nat) (l1 : Nat) (l2 : Nat) (l3 : Int32) (V0 : hf_H), hf_J C (hf_dL N) (k18 l0 l1 l2 l3 V0) V0 18 [(0, .ref l0), (1, .ref l1), (2, .ref l2), (3, .int l3)] []) (l0 : Nat) (l1 : Nat) (l2 : Nat) (l3 : Int32) (V0 : hf_H) : hf_J C (hf_dL N) (ndL_law_164 gs N k18 l0 l1 l2 l3 V0) V0 164 [(0, .ref l0), (1, .ref l1), (2, .ref l2), (3, .int l3)] [] := by
  refine hr_aload_n o 1 dL_law_164 rfl ?_
  refine hr_aload_n o 0 dL_law_165 rfl ?_
  refine hr_iload_n o 3 dL_law_166 rfl ?_
  refine hr_iconst o (1 : Int32) dL_law_167 (by decide) ?_
  refine hr_iadd o dL_law_168 ?_
  refine hx_paild o (by simp [hf_tys]) dL_law_169 (fun x1 => ?_)
  refine hr_aload_n o 0 dL_law_170 rfl ?_
  refine hr_iload_n o 3 dL_law_171 rfl ?_
  refine hr_iconst o (2 : Int32) dL_law_172 (by decide) ?_
  refine hr_iadd o dL_law_173 ?_
  refine hx_paild o (by simp [hf_tys]) dL_law_174 (fun x2 => ?_)
  refine hr_aload_n o 0 dL_law_175 rfl ?_
  refine hr_iload_n o 3 dL_law_176 rfl ?_
  refine hr_iconst o (3 : Int32) dL_law_177 (by decide) ?_
  refine hr_iadd o dL_law_178 ?_
  refine hx_paild o (by simp [hf_tys]) dL_law_179 (fun x3 => ?_)
  refine hr_aload_n o 0 dL_law_180 rfl ?_
  refine hr_iload_n o 3 dL_law_181 rfl ?_
  refine hr_iconst o (4 : Int32) dL_law_182 (by decide) ?_
  refine hr_iadd o dL_law_183 ?_
  refine hx_paild o (by simp [hf_tys]) dL_law_184 (fun x4 => ?_)
  refine hr_aload_n o 0 dL_law_185 rfl ?_
  refine hr_iload_n o 3 dL_law_186 rfl ?_
  refine hr_iconst o (5 : Int32) dL_law_187 (by decide) ?_
  refine hr_iadd o dL_law_188 ?_
  refine hx_paild o (by simp [hf_tys]) dL_law_189 (fun x5 => ?_)
  refine hx_callVI (q := (RX0, TX0, 23)) o og mvL_13 dL_law_190 1 0 rfl [.int x1, .int x2, .int x3, .int x4, .int x5] (fun zr zg ze => mtX0_feed l1 x1 x2 x3 x4 x5 V0 zr zg ze) rfl rfl (Nat.le_of_ble_eq_true rfl) ⟨by decide, by decide⟩ (fun x7 g6 => ?_)
  refine hr_aload_n o 2 dL_law_193 rfl ?_
  refine hr_aload_n o 0 dL_law_194 rfl ?_
  refine hr_iload_n o 3 dL_law_195 rfl ?_
  refine hr_iconst o (1 : Int32) dL_law_196 (by decide) ?_
  refine hr_iadd o dL_law_197 ?_
  refine hx_paild o (by simp [hf_tys]) dL_law_198 (fun x8 => ?_)
  refine hr_aload_n o 0 dL_law_199 rfl ?_
  refine hr_iload_n o 3 dL_law_200 rfl ?_
  refine hr_iconst o (2 : Int32) dL_law_201 (by decide) ?_
  refine hr_iadd o dL_law_202 ?_
  refine hx_paild o (by simp [hf_tys]) dL_law_203 (fun x9 => ?_)
  refine hr_aload_n o 0 dL_law_204 rfl ?_
  refine hr_iload_n o 3 dL_law_205 rfl ?_
  refine hr_iconst o (3 : Int32) dL_law_206 (by decide) ?_
  refine hr_iadd o dL_law_207 ?_
  refine hx_paild o (by simp [hf_tys]) dL_law_208 (fun x10 => ?_)
  refine hr_aload_n o 0 dL_law_209 rfl ?_
  refine hr_iload_n o 3 dL_law_210 rfl ?_
  refine hr_iconst o (4 : Int32) dL_law_211 (by decide) ?_
  refine hr_iadd o dL_law_212 ?_
  refine hx_paild o (by simp [hf_tys]) dL_law_213 (fun x11 => ?_)
  refine hr_aload_n o 0 dL_law_214 rfl ?_
  refine hr_iload_n o 3 dL_law_215 rfl ?_
  refine hr_iconst o (5 : Int32) dL_law_216 (by decide) ?_
  refine hr_iadd o dL_law_217 ?_
  refine hx_paild o (by simp [hf_tys]) dL_law_218 (fun x12 => ?_)
  refine hL_callM (dv := fun r => .int r) o mvL_17 dL_law_219 [.int x8, .int x9, .int x10, .int x11, .int x12] (fun zV zr zW ze => mtX4_feed x8 x9 x10 x11 x12 zV zr zW ze) rfl rfl (Nat.le_of_ble_eq_true rfl) ⟨by decide, by decide⟩ (fun x13 g14 => ?_)
  refine hr_icmp_eq o 1137 dL_law_222 (by decide) (fun _ => ?_) (fun _ => ?_)
  · exact nlL_law_1137 o og oL k18 hk18 l0 l1 l2 l3 g14
  refine hr_iconst o (0 : Int32) dL_law_225 (by decide) ?_
  exact hr_none
def ndL_law_227 (gs : hf_gs) (N : Nat × Nat) (k18 : Nat → Nat → Nat → Int32 → hf_H → Option hf_H) (l0 : Nat) (l1 : Nat) (l2 : Nat) (l3 : Int32) (V0 : hf_H) : Option hf_H :=
  (hf_pai .int V0 l0 (l3 + (1 : Int32))).bind fun x1 =>
  (hf_ob 1 0 V0 l1).bind fun _ =>
  hf_b2 (spX0_end l1 x1 V0) fun x3 g2 =>
  (hf_pai .int g2 l0 (l3 + (1 : Int32))).bind fun x4 =>
  hf_cm g2 l2 (fun zV => spX4_end x4 zV) fun x5 g6 =>
  if x3 = x5 then (ndL_law_1137 gs N k18 l0 l1 l2 l3 g6) else
  none
theorem nlL_law_227 {C : hf_X} {gs : hf_gs} {N : Nat × Nat} (o : hf_In C cL_law RL 4 (some .boolean) 8192 100000) (og : hf_G C gs) (oL : hf_Lw C) (k18 : Nat → Nat → Nat → Int32 → hf_H → Option hf_H) (hk18 : ∀ (l0 : Nat) (l1 : Nat) (l2 : Nat) (l3 : Int32) (V0 : hf_H), hf_J C (hf_dL N) (k18 l0 l1 l2 l3 V0) V0 18 [(0, .ref l0), (1, .ref l1), (2, .ref l2), (3, .int l3)] []) (l0 : Nat) (l1 : Nat) (l2 : Nat) (l3 : Int32) (V0 : hf_H) : hf_J C (hf_dL N) (ndL_law_227 gs N k18 l0 l1 l2 l3 V0) V0 227 [(0, .ref l0), (1, .ref l1), (2, .ref l2), (3, .int l3)] [] := by
  refine hr_aload_n o 1 dL_law_227 rfl ?_
  refine hr_aload_n o 0 dL_law_228 rfl ?_
  refine hr_iload_n o 3 dL_law_229 rfl ?_
  refine hr_iconst o (1 : Int32) dL_law_230 (by decide) ?_
  refine hr_iadd o dL_law_231 ?_
  refine hx_paild o (by simp [hf_tys]) dL_law_232 (fun x1 => ?_)
  refine hx_callVI (q := (RX0, TX0, 23)) o og mvL_18 dL_law_233 1 0 rfl [.int x1] (fun zr zg ze => mtX0_end l1 x1 V0 zr zg ze) rfl rfl (Nat.le_of_ble_eq_true rfl) ⟨by decide, by decide⟩ (fun x3 g2 => ?_)
  refine hr_aload_n o 2 dL_law_236 rfl ?_
  refine hr_aload_n o 0 dL_law_237 rfl ?_
  refine hr_iload_n o 3 dL_law_238 rfl ?_
  refine hr_iconst o (1 : Int32) dL_law_239 (by decide) ?_
  refine hr_iadd o dL_law_240 ?_
  refine hx_paild o (by simp [hf_tys]) dL_law_241 (fun x4 => ?_)
  refine hL_callM (dv := fun r => .int r) o mvL_22 dL_law_242 [.int x4] (fun zV zr zW ze => mtX4_end x4 zV zr zW ze) rfl rfl (Nat.le_of_ble_eq_true rfl) ⟨by decide, by decide⟩ (fun x5 g6 => ?_)
  refine hr_icmp_eq o 1137 dL_law_245 (by decide) (fun _ => ?_) (fun _ => ?_)
  · exact nlL_law_1137 o og oL k18 hk18 l0 l1 l2 l3 g6
  refine hr_iconst o (0 : Int32) dL_law_248 (by decide) ?_
  exact hr_none
def ndL_law_250 (gs : hf_gs) (N : Nat × Nat) (k18 : Nat → Nat → Nat → Int32 → hf_H → Option hf_H) (l0 : Nat) (l1 : Nat) (l2 : Nat) (l3 : Int32) (V0 : hf_H) : Option hf_H :=
  (hf_ob 1 0 V0 l1).bind fun _ =>
  hf_b2 (spX0_fair gs l1 V0) fun x1 g2 =>
  hf_cm g2 l2 (fun zV => spX4_fair zV) fun x3 g4 =>
  if x1 = x3 then (ndL_law_1137 gs N k18 l0 l1 l2 l3 g4) else
  none
theorem nlL_law_250 {C : hf_X} {gs : hf_gs} {N : Nat × Nat} (o : hf_In C cL_law RL 4 (some .boolean) 8192 100000) (og : hf_G C gs) (oL : hf_Lw C) (k18 : Nat → Nat → Nat → Int32 → hf_H → Option hf_H) (hk18 : ∀ (l0 : Nat) (l1 : Nat) (l2 : Nat) (l3 : Int32) (V0 : hf_H), hf_J C (hf_dL N) (k18 l0 l1 l2 l3 V0) V0 18 [(0, .ref l0), (1, .ref l1), (2, .ref l2), (3, .int l3)] []) (l0 : Nat) (l1 : Nat) (l2 : Nat) (l3 : Int32) (V0 : hf_H) : hf_J C (hf_dL N) (ndL_law_250 gs N k18 l0 l1 l2 l3 V0) V0 250 [(0, .ref l0), (1, .ref l1), (2, .ref l2), (3, .int l3)] [] := by
  refine hr_aload_n o 1 dL_law_250 rfl ?_
  refine hL_callW (q := (RX0, TX0, 23)) o og mwL_23 dL_law_251 1 0 rfl [] (fun zr zg ze => mtX0_fair l1 V0 zr zg ze) rfl rfl (Nat.le_of_ble_eq_true rfl) ⟨by decide, by decide⟩ (fun x1 g2 => ?_)
  refine hr_aload_n o 2 dL_law_254 rfl ?_
  refine hL_callM (dv := fun r => .int r) o mvL_27 dL_law_255 [] (fun zV zr zW ze => mtX4_fair  zV zr zW ze) rfl rfl (Nat.le_of_ble_eq_true rfl) ⟨by decide, by decide⟩ (fun x3 g4 => ?_)
  refine hr_icmp_eq o 1137 dL_law_258 (by decide) (fun _ => ?_) (fun _ => ?_)
  · exact nlL_law_1137 o og oL k18 hk18 l0 l1 l2 l3 g4
  refine hr_iconst o (0 : Int32) dL_law_261 (by decide) ?_
  exact hr_none
def ndL_law_263 (gs : hf_gs) (N : Nat × Nat) (k18 : Nat → Nat → Nat → Int32 → hf_H → Option hf_H) (l0 : Nat) (l1 : Nat) (l2 : Nat) (l3 : Int32) (V0 : hf_H) : Option hf_H :=
  (hf_ob 1 0 V0 l1).bind fun _ =>
  hf_b2 (spX0_rule gs l1 V0) fun x1 g2 =>
  hf_cm g2 l2 (fun zV => spX4_rule zV) fun x3 g4 =>
  if x1 = x3 then (ndL_law_1137 gs N k18 l0 l1 l2 l3 g4) else
  none
theorem nlL_law_263 {C : hf_X} {gs : hf_gs} {N : Nat × Nat} (o : hf_In C cL_law RL 4 (some .boolean) 8192 100000) (og : hf_G C gs) (oL : hf_Lw C) (k18 : Nat → Nat → Nat → Int32 → hf_H → Option hf_H) (hk18 : ∀ (l0 : Nat) (l1 : Nat) (l2 : Nat) (l3 : Int32) (V0 : hf_H), hf_J C (hf_dL N) (k18 l0 l1 l2 l3 V0) V0 18 [(0, .ref l0), (1, .ref l1), (2, .ref l2), (3, .int l3)] []) (l0 : Nat) (l1 : Nat) (l2 : Nat) (l3 : Int32) (V0 : hf_H) : hf_J C (hf_dL N) (ndL_law_263 gs N k18 l0 l1 l2 l3 V0) V0 263 [(0, .ref l0), (1, .ref l1), (2, .ref l2), (3, .int l3)] [] := by
  refine hr_aload_n o 1 dL_law_263 rfl ?_
  refine hL_callW (q := (RX0, TX0, 23)) o og mwL_28 dL_law_264 1 0 rfl [] (fun zr zg ze => mtX0_rule l1 V0 zr zg ze) rfl rfl (Nat.le_of_ble_eq_true rfl) ⟨by decide, by decide⟩ (fun x1 g2 => ?_)
  refine hr_aload_n o 2 dL_law_267 rfl ?_
  refine hL_callM (dv := fun r => .int r) o mvL_31 dL_law_268 [] (fun zV zr zW ze => mtX4_rule  zV zr zW ze) rfl rfl (Nat.le_of_ble_eq_true rfl) ⟨by decide, by decide⟩ (fun x3 g4 => ?_)
  refine hr_icmp_eq o 1137 dL_law_271 (by decide) (fun _ => ?_) (fun _ => ?_)
  · exact nlL_law_1137 o og oL k18 hk18 l0 l1 l2 l3 g4
  refine hr_iconst o (0 : Int32) dL_law_274 (by decide) ?_
  exact hr_none
def ndL_law_276 (gs : hf_gs) (N : Nat × Nat) (k18 : Nat → Nat → Nat → Int32 → hf_H → Option hf_H) (l0 : Nat) (l1 : Nat) (l2 : Nat) (l3 : Int32) (V0 : hf_H) : Option hf_H :=
  (hf_pai .int V0 l0 (l3 + (1 : Int32))).bind fun x1 =>
  (hf_pai .int V0 l0 (l3 + (2 : Int32))).bind fun x2 =>
  (hf_ob 1 0 V0 l1).bind fun _ =>
  hf_b2 (spX0_half l1 x1 x2 V0) fun x4 g3 =>
  (hf_pai .int g3 l0 (l3 + (1 : Int32))).bind fun x5 =>
  (hf_pai .int g3 l0 (l3 + (2 : Int32))).bind fun x6 =>
  hf_cm g3 l2 (fun zV => spX4_half x5 x6 zV) fun x7 g8 =>
  if x4 = x7 then (ndL_law_1137 gs N k18 l0 l1 l2 l3 g8) else
  none
theorem nlL_law_276 {C : hf_X} {gs : hf_gs} {N : Nat × Nat} (o : hf_In C cL_law RL 4 (some .boolean) 8192 100000) (og : hf_G C gs) (oL : hf_Lw C) (k18 : Nat → Nat → Nat → Int32 → hf_H → Option hf_H) (hk18 : ∀ (l0 : Nat) (l1 : Nat) (l2 : Nat) (l3 : Int32) (V0 : hf_H), hf_J C (hf_dL N) (k18 l0 l1 l2 l3 V0) V0 18 [(0, .ref l0), (1, .ref l1), (2, .ref l2), (3, .int l3)] []) (l0 : Nat) (l1 : Nat) (l2 : Nat) (l3 : Int32) (V0 : hf_H) : hf_J C (hf_dL N) (ndL_law_276 gs N k18 l0 l1 l2 l3 V0) V0 276 [(0, .ref l0), (1, .ref l1), (2, .ref l2), (3, .int l3)] [] := by
  refine hr_aload_n o 1 dL_law_276 rfl ?_
  refine hr_aload_n o 0 dL_law_277 rfl ?_
  refine hr_iload_n o 3 dL_law_278 rfl ?_
  refine hr_iconst o (1 : Int32) dL_law_279 (by decide) ?_
  refine hr_iadd o dL_law_280 ?_
  refine hx_paild o (by simp [hf_tys]) dL_law_281 (fun x1 => ?_)
  refine hr_aload_n o 0 dL_law_282 rfl ?_
  refine hr_iload_n o 3 dL_law_283 rfl ?_
  refine hr_iconst o (2 : Int32) dL_law_284 (by decide) ?_
  refine hr_iadd o dL_law_285 ?_
  refine hx_paild o (by simp [hf_tys]) dL_law_286 (fun x2 => ?_)
  refine hx_callVI (q := (RX0, TX0, 23)) o og mvL_32 dL_law_287 1 0 rfl [.int x1, .int x2] (fun zr zg ze => mtX0_half l1 x1 x2 V0 zr zg ze) rfl rfl (Nat.le_of_ble_eq_true rfl) ⟨by decide, by decide⟩ (fun x4 g3 => ?_)
  refine hr_aload_n o 2 dL_law_290 rfl ?_
  refine hr_aload_n o 0 dL_law_291 rfl ?_
  refine hr_iload_n o 3 dL_law_292 rfl ?_
  refine hr_iconst o (1 : Int32) dL_law_293 (by decide) ?_
  refine hr_iadd o dL_law_294 ?_
  refine hx_paild o (by simp [hf_tys]) dL_law_295 (fun x5 => ?_)
  refine hr_aload_n o 0 dL_law_296 rfl ?_
  refine hr_iload_n o 3 dL_law_297 rfl ?_
  refine hr_iconst o (2 : Int32) dL_law_298 (by decide) ?_
  refine hr_iadd o dL_law_299 ?_
  refine hx_paild o (by simp [hf_tys]) dL_law_300 (fun x6 => ?_)
  refine hL_callM (dv := fun r => .int r) o mvL_36 dL_law_301 [.int x5, .int x6] (fun zV zr zW ze => mtX4_half x5 x6 zV zr zW ze) rfl rfl (Nat.le_of_ble_eq_true rfl) ⟨by decide, by decide⟩ (fun x7 g8 => ?_)
  refine hr_icmp_eq o 1137 dL_law_304 (by decide) (fun _ => ?_) (fun _ => ?_)
  · exact nlL_law_1137 o og oL k18 hk18 l0 l1 l2 l3 g8
  refine hr_iconst o (0 : Int32) dL_law_307 (by decide) ?_
  exact hr_none
def ndL_law_309 (gs : hf_gs) (N : Nat × Nat) (k18 : Nat → Nat → Nat → Int32 → hf_H → Option hf_H) (l0 : Nat) (l1 : Nat) (l2 : Nat) (l3 : Int32) (V0 : hf_H) : Option hf_H :=
  (hf_pai .int V0 l0 (l3 + (1 : Int32))).bind fun x1 =>
  (hf_pai .int V0 l0 (l3 + (2 : Int32))).bind fun x2 =>
  (hf_ob 1 0 V0 l1).bind fun _ =>
  hf_b2 (spX0_fit l1 x1 x2 V0) fun x4 g3 =>
  (hf_pai .int g3 l0 (l3 + (1 : Int32))).bind fun x5 =>
  (hf_pai .int g3 l0 (l3 + (2 : Int32))).bind fun x6 =>
  hf_cm g3 l2 (fun zV => spX4_fit x5 x6 zV) fun x7 g8 =>
  if x4 = x7 then (ndL_law_1137 gs N k18 l0 l1 l2 l3 g8) else
  none
theorem nlL_law_309 {C : hf_X} {gs : hf_gs} {N : Nat × Nat} (o : hf_In C cL_law RL 4 (some .boolean) 8192 100000) (og : hf_G C gs) (oL : hf_Lw C) (k18 : Nat → Nat → Nat → Int32 → hf_H → Option hf_H) (hk18 : ∀ (l0 : Nat) (l1 : Nat) (l2 : Nat) (l3 : Int32) (V0 : hf_H), hf_J C (hf_dL N) (k18 l0 l1 l2 l3 V0) V0 18 [(0, .ref l0), (1, .ref l1), (2, .ref l2), (3, .int l3)] []) (l0 : Nat) (l1 : Nat) (l2 : Nat) (l3 : Int32) (V0 : hf_H) : hf_J C (hf_dL N) (ndL_law_309 gs N k18 l0 l1 l2 l3 V0) V0 309 [(0, .ref l0), (1, .ref l1), (2, .ref l2), (3, .int l3)] [] := by
  refine hr_aload_n o 1 dL_law_309 rfl ?_
  refine hr_aload_n o 0 dL_law_310 rfl ?_
  refine hr_iload_n o 3 dL_law_311 rfl ?_
  refine hr_iconst o (1 : Int32) dL_law_312 (by decide) ?_
  refine hr_iadd o dL_law_313 ?_
  refine hx_paild o (by simp [hf_tys]) dL_law_314 (fun x1 => ?_)
  refine hr_aload_n o 0 dL_law_315 rfl ?_
  refine hr_iload_n o 3 dL_law_316 rfl ?_
  refine hr_iconst o (2 : Int32) dL_law_317 (by decide) ?_
  refine hr_iadd o dL_law_318 ?_
  refine hx_paild o (by simp [hf_tys]) dL_law_319 (fun x2 => ?_)
  refine hx_callVI (q := (RX0, TX0, 23)) o og mvL_37 dL_law_320 1 0 rfl [.int x1, .int x2] (fun zr zg ze => mtX0_fit l1 x1 x2 V0 zr zg ze) rfl rfl (Nat.le_of_ble_eq_true rfl) ⟨by decide, by decide⟩ (fun x4 g3 => ?_)
  refine hr_aload_n o 2 dL_law_323 rfl ?_
  refine hr_aload_n o 0 dL_law_324 rfl ?_
  refine hr_iload_n o 3 dL_law_325 rfl ?_
  refine hr_iconst o (1 : Int32) dL_law_326 (by decide) ?_
  refine hr_iadd o dL_law_327 ?_
  refine hx_paild o (by simp [hf_tys]) dL_law_328 (fun x5 => ?_)
  refine hr_aload_n o 0 dL_law_329 rfl ?_
  refine hr_iload_n o 3 dL_law_330 rfl ?_
  refine hr_iconst o (2 : Int32) dL_law_331 (by decide) ?_
  refine hr_iadd o dL_law_332 ?_
  refine hx_paild o (by simp [hf_tys]) dL_law_333 (fun x6 => ?_)
  refine hL_callM (dv := fun r => .int r) o mvL_40 dL_law_334 [.int x5, .int x6] (fun zV zr zW ze => mtX4_fit x5 x6 zV zr zW ze) rfl rfl (Nat.le_of_ble_eq_true rfl) ⟨by decide, by decide⟩ (fun x7 g8 => ?_)
  refine hr_icmp_eq o 1137 dL_law_337 (by decide) (fun _ => ?_) (fun _ => ?_)
  · exact nlL_law_1137 o og oL k18 hk18 l0 l1 l2 l3 g8
  refine hr_iconst o (0 : Int32) dL_law_340 (by decide) ?_
  exact hr_none
def ndL_law_342 (gs : hf_gs) (N : Nat × Nat) (k18 : Nat → Nat → Nat → Int32 → hf_H → Option hf_H) (l0 : Nat) (l1 : Nat) (l2 : Nat) (l3 : Int32) (V0 : hf_H) : Option hf_H :=
  (hf_pai .int V0 l0 (l3 + (1 : Int32))).bind fun x1 =>
  (hf_pai .int V0 l0 (l3 + (2 : Int32))).bind fun x2 =>
  (hf_ob 1 0 V0 l1).bind fun _ =>
  hf_b2 (spX0_buyer l1 x1 x2 V0) fun x4 g3 =>
  (hf_pai .int g3 l0 (l3 + (1 : Int32))).bind fun x5 =>
  (hf_pai .int g3 l0 (l3 + (2 : Int32))).bind fun x6 =>
  hf_cm g3 l2 (fun zV => spX4_buyer x5 x6 zV) fun x7 g8 =>
  if x4 = x7 then (ndL_law_1137 gs N k18 l0 l1 l2 l3 g8) else
  none
theorem nlL_law_342 {C : hf_X} {gs : hf_gs} {N : Nat × Nat} (o : hf_In C cL_law RL 4 (some .boolean) 8192 100000) (og : hf_G C gs) (oL : hf_Lw C) (k18 : Nat → Nat → Nat → Int32 → hf_H → Option hf_H) (hk18 : ∀ (l0 : Nat) (l1 : Nat) (l2 : Nat) (l3 : Int32) (V0 : hf_H), hf_J C (hf_dL N) (k18 l0 l1 l2 l3 V0) V0 18 [(0, .ref l0), (1, .ref l1), (2, .ref l2), (3, .int l3)] []) (l0 : Nat) (l1 : Nat) (l2 : Nat) (l3 : Int32) (V0 : hf_H) : hf_J C (hf_dL N) (ndL_law_342 gs N k18 l0 l1 l2 l3 V0) V0 342 [(0, .ref l0), (1, .ref l1), (2, .ref l2), (3, .int l3)] [] := by
  refine hr_aload_n o 1 dL_law_342 rfl ?_
  refine hr_aload_n o 0 dL_law_343 rfl ?_
  refine hr_iload_n o 3 dL_law_344 rfl ?_
  refine hr_iconst o (1 : Int32) dL_law_345 (by decide) ?_
  refine hr_iadd o dL_law_346 ?_
  refine hx_paild o (by simp [hf_tys]) dL_law_347 (fun x1 => ?_)
  refine hr_aload_n o 0 dL_law_348 rfl ?_
  refine hr_iload_n o 3 dL_law_349 rfl ?_
  refine hr_iconst o (2 : Int32) dL_law_350 (by decide) ?_
  refine hr_iadd o dL_law_351 ?_
  refine hx_paild o (by simp [hf_tys]) dL_law_352 (fun x2 => ?_)
  refine hx_callVI (q := (RX0, TX0, 23)) o og mvL_41 dL_law_353 1 0 rfl [.int x1, .int x2] (fun zr zg ze => mtX0_buyer l1 x1 x2 V0 zr zg ze) rfl rfl (Nat.le_of_ble_eq_true rfl) ⟨by decide, by decide⟩ (fun x4 g3 => ?_)
  refine hr_aload_n o 2 dL_law_356 rfl ?_
  refine hr_aload_n o 0 dL_law_357 rfl ?_
  refine hr_iload_n o 3 dL_law_358 rfl ?_
  refine hr_iconst o (1 : Int32) dL_law_359 (by decide) ?_
  refine hr_iadd o dL_law_360 ?_
  refine hx_paild o (by simp [hf_tys]) dL_law_361 (fun x5 => ?_)
  refine hr_aload_n o 0 dL_law_362 rfl ?_
  refine hr_iload_n o 3 dL_law_363 rfl ?_
  refine hr_iconst o (2 : Int32) dL_law_364 (by decide) ?_
  refine hr_iadd o dL_law_365 ?_
  refine hx_paild o (by simp [hf_tys]) dL_law_366 (fun x6 => ?_)
  refine hL_callM (dv := fun r => .int r) o mvL_44 dL_law_367 [.int x5, .int x6] (fun zV zr zW ze => mtX4_buyer x5 x6 zV zr zW ze) rfl rfl (Nat.le_of_ble_eq_true rfl) ⟨by decide, by decide⟩ (fun x7 g8 => ?_)
  refine hr_icmp_eq o 1137 dL_law_370 (by decide) (fun _ => ?_) (fun _ => ?_)
  · exact nlL_law_1137 o og oL k18 hk18 l0 l1 l2 l3 g8
  refine hr_iconst o (0 : Int32) dL_law_373 (by decide) ?_
  exact hr_none
def ndL_law_375 (gs : hf_gs) (N : Nat × Nat) (k18 : Nat → Nat → Nat → Int32 → hf_H → Option hf_H) (l0 : Nat) (l1 : Nat) (l2 : Nat) (l3 : Int32) (V0 : hf_H) : Option hf_H :=
  (hf_pai .int V0 l0 (l3 + (1 : Int32))).bind fun x1 =>
  (hf_pai .int V0 l0 (l3 + (2 : Int32))).bind fun x2 =>
  (hf_ob 1 0 V0 l1).bind fun _ =>
  hf_b2 (spX0_spot l1 x1 x2 V0) fun x4 g3 =>
  (hf_pai .int g3 l0 (l3 + (1 : Int32))).bind fun x5 =>
  (hf_pai .int g3 l0 (l3 + (2 : Int32))).bind fun x6 =>
  hf_cm g3 l2 (fun zV => spX4_spot x5 x6 zV) fun x7 g8 =>
  if x4 = x7 then (ndL_law_1137 gs N k18 l0 l1 l2 l3 g8) else
  none
theorem nlL_law_375 {C : hf_X} {gs : hf_gs} {N : Nat × Nat} (o : hf_In C cL_law RL 4 (some .boolean) 8192 100000) (og : hf_G C gs) (oL : hf_Lw C) (k18 : Nat → Nat → Nat → Int32 → hf_H → Option hf_H) (hk18 : ∀ (l0 : Nat) (l1 : Nat) (l2 : Nat) (l3 : Int32) (V0 : hf_H), hf_J C (hf_dL N) (k18 l0 l1 l2 l3 V0) V0 18 [(0, .ref l0), (1, .ref l1), (2, .ref l2), (3, .int l3)] []) (l0 : Nat) (l1 : Nat) (l2 : Nat) (l3 : Int32) (V0 : hf_H) : hf_J C (hf_dL N) (ndL_law_375 gs N k18 l0 l1 l2 l3 V0) V0 375 [(0, .ref l0), (1, .ref l1), (2, .ref l2), (3, .int l3)] [] := by
  refine hr_aload_n o 1 dL_law_375 rfl ?_
  refine hr_aload_n o 0 dL_law_376 rfl ?_
  refine hr_iload_n o 3 dL_law_377 rfl ?_
  refine hr_iconst o (1 : Int32) dL_law_378 (by decide) ?_
  refine hr_iadd o dL_law_379 ?_
  refine hx_paild o (by simp [hf_tys]) dL_law_380 (fun x1 => ?_)
  refine hr_aload_n o 0 dL_law_381 rfl ?_
  refine hr_iload_n o 3 dL_law_382 rfl ?_
  refine hr_iconst o (2 : Int32) dL_law_383 (by decide) ?_
  refine hr_iadd o dL_law_384 ?_
  refine hx_paild o (by simp [hf_tys]) dL_law_385 (fun x2 => ?_)
  refine hx_callVI (q := (RX0, TX0, 23)) o og mvL_45 dL_law_386 1 0 rfl [.int x1, .int x2] (fun zr zg ze => mtX0_spot l1 x1 x2 V0 zr zg ze) rfl rfl (Nat.le_of_ble_eq_true rfl) ⟨by decide, by decide⟩ (fun x4 g3 => ?_)
  refine hr_aload_n o 2 dL_law_389 rfl ?_
  refine hr_aload_n o 0 dL_law_390 rfl ?_
  refine hr_iload_n o 3 dL_law_391 rfl ?_
  refine hr_iconst o (1 : Int32) dL_law_392 (by decide) ?_
  refine hr_iadd o dL_law_393 ?_
  refine hx_paild o (by simp [hf_tys]) dL_law_394 (fun x5 => ?_)
  refine hr_aload_n o 0 dL_law_395 rfl ?_
  refine hr_iload_n o 3 dL_law_396 rfl ?_
  refine hr_iconst o (2 : Int32) dL_law_397 (by decide) ?_
  refine hr_iadd o dL_law_398 ?_
  refine hx_paild o (by simp [hf_tys]) dL_law_399 (fun x6 => ?_)
  refine hL_callM (dv := fun r => .int r) o mvL_48 dL_law_400 [.int x5, .int x6] (fun zV zr zW ze => mtX4_spot x5 x6 zV zr zW ze) rfl rfl (Nat.le_of_ble_eq_true rfl) ⟨by decide, by decide⟩ (fun x7 g8 => ?_)
  refine hr_icmp_eq o 1137 dL_law_403 (by decide) (fun _ => ?_) (fun _ => ?_)
  · exact nlL_law_1137 o og oL k18 hk18 l0 l1 l2 l3 g8
  refine hr_iconst o (0 : Int32) dL_law_406 (by decide) ?_
  exact hr_none
def ndL_law_408 (gs : hf_gs) (N : Nat × Nat) (k18 : Nat → Nat → Nat → Int32 → hf_H → Option hf_H) (l0 : Nat) (l1 : Nat) (l2 : Nat) (l3 : Int32) (V0 : hf_H) : Option hf_H :=
  (hf_pai .int V0 l0 (l3 + (1 : Int32))).bind fun x1 =>
  (hf_pai .int V0 l0 (l3 + (2 : Int32))).bind fun x2 =>
  (hf_ob 1 0 V0 l1).bind fun _ =>
  hf_b2 (spX0_go l1 x1 x2 V0) fun x4 g3 =>
  (hf_pai .int g3 l0 (l3 + (1 : Int32))).bind fun x5 =>
  (hf_pai .int g3 l0 (l3 + (2 : Int32))).bind fun x6 =>
  hf_cm g3 l2 (fun zV => spX4_go x5 x6 zV) fun x7 g8 =>
  if x4 = x7 then (ndL_law_1137 gs N k18 l0 l1 l2 l3 g8) else
  none
theorem nlL_law_408 {C : hf_X} {gs : hf_gs} {N : Nat × Nat} (o : hf_In C cL_law RL 4 (some .boolean) 8192 100000) (og : hf_G C gs) (oL : hf_Lw C) (k18 : Nat → Nat → Nat → Int32 → hf_H → Option hf_H) (hk18 : ∀ (l0 : Nat) (l1 : Nat) (l2 : Nat) (l3 : Int32) (V0 : hf_H), hf_J C (hf_dL N) (k18 l0 l1 l2 l3 V0) V0 18 [(0, .ref l0), (1, .ref l1), (2, .ref l2), (3, .int l3)] []) (l0 : Nat) (l1 : Nat) (l2 : Nat) (l3 : Int32) (V0 : hf_H) : hf_J C (hf_dL N) (ndL_law_408 gs N k18 l0 l1 l2 l3 V0) V0 408 [(0, .ref l0), (1, .ref l1), (2, .ref l2), (3, .int l3)] [] := by
  refine hr_aload_n o 1 dL_law_408 rfl ?_
  refine hr_aload_n o 0 dL_law_409 rfl ?_
  refine hr_iload_n o 3 dL_law_410 rfl ?_
  refine hr_iconst o (1 : Int32) dL_law_411 (by decide) ?_
  refine hr_iadd o dL_law_412 ?_
  refine hx_paild o (by simp [hf_tys]) dL_law_413 (fun x1 => ?_)
  refine hr_aload_n o 0 dL_law_414 rfl ?_
  refine hr_iload_n o 3 dL_law_415 rfl ?_
  refine hr_iconst o (2 : Int32) dL_law_416 (by decide) ?_
  refine hr_iadd o dL_law_417 ?_
  refine hx_paild o (by simp [hf_tys]) dL_law_418 (fun x2 => ?_)
  refine hx_callVI (q := (RX0, TX0, 23)) o og mvL_49 dL_law_419 1 0 rfl [.int x1, .int x2] (fun zr zg ze => mtX0_go l1 x1 x2 V0 zr zg ze) rfl rfl (Nat.le_of_ble_eq_true rfl) ⟨by decide, by decide⟩ (fun x4 g3 => ?_)
  refine hr_aload_n o 2 dL_law_422 rfl ?_
  refine hr_aload_n o 0 dL_law_423 rfl ?_
  refine hr_iload_n o 3 dL_law_424 rfl ?_
  refine hr_iconst o (1 : Int32) dL_law_425 (by decide) ?_
  refine hr_iadd o dL_law_426 ?_
  refine hx_paild o (by simp [hf_tys]) dL_law_427 (fun x5 => ?_)
  refine hr_aload_n o 0 dL_law_428 rfl ?_
  refine hr_iload_n o 3 dL_law_429 rfl ?_
  refine hr_iconst o (2 : Int32) dL_law_430 (by decide) ?_
  refine hr_iadd o dL_law_431 ?_
  refine hx_paild o (by simp [hf_tys]) dL_law_432 (fun x6 => ?_)
  refine hL_callM (dv := fun r => .int r) o mvL_52 dL_law_433 [.int x5, .int x6] (fun zV zr zW ze => mtX4_go x5 x6 zV zr zW ze) rfl rfl (Nat.le_of_ble_eq_true rfl) ⟨by decide, by decide⟩ (fun x7 g8 => ?_)
  refine hr_icmp_eq o 1137 dL_law_436 (by decide) (fun _ => ?_) (fun _ => ?_)
  · exact nlL_law_1137 o og oL k18 hk18 l0 l1 l2 l3 g8
  refine hr_iconst o (0 : Int32) dL_law_439 (by decide) ?_
  exact hr_none
def ndL_law_441 (gs : hf_gs) (N : Nat × Nat) (k18 : Nat → Nat → Nat → Int32 → hf_H → Option hf_H) (l0 : Nat) (l1 : Nat) (l2 : Nat) (l3 : Int32) (V0 : hf_H) : Option hf_H :=
  (hf_pai .int V0 l0 (l3 + (1 : Int32))).bind fun x1 =>
  (hf_pai .int V0 l0 (l3 + (2 : Int32))).bind fun x2 =>
  (hf_ob 1 0 V0 l1).bind fun _ =>
  hf_b2 (spX0_buy l1 x1 x2 V0) fun x4 g3 =>
  (hf_pai .int g3 l0 (l3 + (1 : Int32))).bind fun x5 =>
  (hf_pai .int g3 l0 (l3 + (2 : Int32))).bind fun x6 =>
  hf_cm g3 l2 (fun zV => spX4_buy x5 x6 zV) fun x7 g8 =>
  if x4 = x7 then (ndL_law_1137 gs N k18 l0 l1 l2 l3 g8) else
  none
theorem nlL_law_441 {C : hf_X} {gs : hf_gs} {N : Nat × Nat} (o : hf_In C cL_law RL 4 (some .boolean) 8192 100000) (og : hf_G C gs) (oL : hf_Lw C) (k18 : Nat → Nat → Nat → Int32 → hf_H → Option hf_H) (hk18 : ∀ (l0 : Nat) (l1 : Nat) (l2 : Nat) (l3 : Int32) (V0 : hf_H), hf_J C (hf_dL N) (k18 l0 l1 l2 l3 V0) V0 18 [(0, .ref l0), (1, .ref l1), (2, .ref l2), (3, .int l3)] []) (l0 : Nat) (l1 : Nat) (l2 : Nat) (l3 : Int32) (V0 : hf_H) : hf_J C (hf_dL N) (ndL_law_441 gs N k18 l0 l1 l2 l3 V0) V0 441 [(0, .ref l0), (1, .ref l1), (2, .ref l2), (3, .int l3)] [] := by
  refine hr_aload_n o 1 dL_law_441 rfl ?_
  refine hr_aload_n o 0 dL_law_442 rfl ?_
  refine hr_iload_n o 3 dL_law_443 rfl ?_
  refine hr_iconst o (1 : Int32) dL_law_444 (by decide) ?_
  refine hr_iadd o dL_law_445 ?_
  refine hx_paild o (by simp [hf_tys]) dL_law_446 (fun x1 => ?_)
  refine hr_aload_n o 0 dL_law_447 rfl ?_
  refine hr_iload_n o 3 dL_law_448 rfl ?_
  refine hr_iconst o (2 : Int32) dL_law_449 (by decide) ?_
  refine hr_iadd o dL_law_450 ?_
  refine hx_paild o (by simp [hf_tys]) dL_law_451 (fun x2 => ?_)
  refine hx_callVI (q := (RX0, TX0, 23)) o og mvL_53 dL_law_452 1 0 rfl [.int x1, .int x2] (fun zr zg ze => mtX0_buy l1 x1 x2 V0 zr zg ze) rfl rfl (Nat.le_of_ble_eq_true rfl) ⟨by decide, by decide⟩ (fun x4 g3 => ?_)
  refine hr_aload_n o 2 dL_law_455 rfl ?_
  refine hr_aload_n o 0 dL_law_456 rfl ?_
  refine hr_iload_n o 3 dL_law_457 rfl ?_
  refine hr_iconst o (1 : Int32) dL_law_458 (by decide) ?_
  refine hr_iadd o dL_law_459 ?_
  refine hx_paild o (by simp [hf_tys]) dL_law_460 (fun x5 => ?_)
  refine hr_aload_n o 0 dL_law_461 rfl ?_
  refine hr_iload_n o 3 dL_law_462 rfl ?_
  refine hr_iconst o (2 : Int32) dL_law_463 (by decide) ?_
  refine hr_iadd o dL_law_464 ?_
  refine hx_paild o (by simp [hf_tys]) dL_law_465 (fun x6 => ?_)
  refine hL_callM (dv := fun r => .int r) o mvL_56 dL_law_466 [.int x5, .int x6] (fun zV zr zW ze => mtX4_buy x5 x6 zV zr zW ze) rfl rfl (Nat.le_of_ble_eq_true rfl) ⟨by decide, by decide⟩ (fun x7 g8 => ?_)
  refine hr_icmp_eq o 1137 dL_law_469 (by decide) (fun _ => ?_) (fun _ => ?_)
  · exact nlL_law_1137 o og oL k18 hk18 l0 l1 l2 l3 g8
  refine hr_iconst o (0 : Int32) dL_law_472 (by decide) ?_
  exact hr_none
def ndL_law_474 (gs : hf_gs) (N : Nat × Nat) (k18 : Nat → Nat → Nat → Int32 → hf_H → Option hf_H) (l0 : Nat) (l1 : Nat) (l2 : Nat) (l3 : Int32) (V0 : hf_H) : Option hf_H :=
  (hf_pai .int V0 l0 (l3 + (1 : Int32))).bind fun x1 =>
  (hf_pai .int V0 l0 (l3 + (2 : Int32))).bind fun x2 =>
  (hf_ob 1 0 V0 l1).bind fun _ =>
  hf_b2 (spX0_shout l1 x1 x2 V0) fun x4 g3 =>
  (hf_pai .int g3 l0 (l3 + (1 : Int32))).bind fun x5 =>
  (hf_pai .int g3 l0 (l3 + (2 : Int32))).bind fun x6 =>
  hf_cm g3 l2 (fun zV => spX4_shout x5 x6 zV) fun x7 g8 =>
  if x4 = x7 then (ndL_law_1137 gs N k18 l0 l1 l2 l3 g8) else
  none
theorem nlL_law_474 {C : hf_X} {gs : hf_gs} {N : Nat × Nat} (o : hf_In C cL_law RL 4 (some .boolean) 8192 100000) (og : hf_G C gs) (oL : hf_Lw C) (k18 : Nat → Nat → Nat → Int32 → hf_H → Option hf_H) (hk18 : ∀ (l0 : Nat) (l1 : Nat) (l2 : Nat) (l3 : Int32) (V0 : hf_H), hf_J C (hf_dL N) (k18 l0 l1 l2 l3 V0) V0 18 [(0, .ref l0), (1, .ref l1), (2, .ref l2), (3, .int l3)] []) (l0 : Nat) (l1 : Nat) (l2 : Nat) (l3 : Int32) (V0 : hf_H) : hf_J C (hf_dL N) (ndL_law_474 gs N k18 l0 l1 l2 l3 V0) V0 474 [(0, .ref l0), (1, .ref l1), (2, .ref l2), (3, .int l3)] [] := by
  refine hr_aload_n o 1 dL_law_474 rfl ?_
  refine hr_aload_n o 0 dL_law_475 rfl ?_
  refine hr_iload_n o 3 dL_law_476 rfl ?_
  refine hr_iconst o (1 : Int32) dL_law_477 (by decide) ?_
  refine hr_iadd o dL_law_478 ?_
  refine hx_paild o (by simp [hf_tys]) dL_law_479 (fun x1 => ?_)
  refine hr_aload_n o 0 dL_law_480 rfl ?_
  refine hr_iload_n o 3 dL_law_481 rfl ?_
  refine hr_iconst o (2 : Int32) dL_law_482 (by decide) ?_
  refine hr_iadd o dL_law_483 ?_
  refine hx_paild o (by simp [hf_tys]) dL_law_484 (fun x2 => ?_)
  refine hx_callVI (q := (RX0, TX0, 23)) o og mvL_57 dL_law_485 1 0 rfl [.int x1, .int x2] (fun zr zg ze => mtX0_shout l1 x1 x2 V0 zr zg ze) rfl rfl (Nat.le_of_ble_eq_true rfl) ⟨by decide, by decide⟩ (fun x4 g3 => ?_)
  refine hr_aload_n o 2 dL_law_488 rfl ?_
  refine hr_aload_n o 0 dL_law_489 rfl ?_
  refine hr_iload_n o 3 dL_law_490 rfl ?_
  refine hr_iconst o (1 : Int32) dL_law_491 (by decide) ?_
  refine hr_iadd o dL_law_492 ?_
  refine hx_paild o (by simp [hf_tys]) dL_law_493 (fun x5 => ?_)
  refine hr_aload_n o 0 dL_law_494 rfl ?_
  refine hr_iload_n o 3 dL_law_495 rfl ?_
  refine hr_iconst o (2 : Int32) dL_law_496 (by decide) ?_
  refine hr_iadd o dL_law_497 ?_
  refine hx_paild o (by simp [hf_tys]) dL_law_498 (fun x6 => ?_)
  refine hL_callM (dv := fun r => .int r) o mvL_60 dL_law_499 [.int x5, .int x6] (fun zV zr zW ze => mtX4_shout x5 x6 zV zr zW ze) rfl rfl (Nat.le_of_ble_eq_true rfl) ⟨by decide, by decide⟩ (fun x7 g8 => ?_)
  refine hr_icmp_eq o 1137 dL_law_502 (by decide) (fun _ => ?_) (fun _ => ?_)
  · exact nlL_law_1137 o og oL k18 hk18 l0 l1 l2 l3 g8
  refine hr_iconst o (0 : Int32) dL_law_505 (by decide) ?_
  exact hr_none
def ndL_law_507 (gs : hf_gs) (N : Nat × Nat) (k18 : Nat → Nat → Nat → Int32 → hf_H → Option hf_H) (l0 : Nat) (l1 : Nat) (l2 : Nat) (l3 : Int32) (V0 : hf_H) : Option hf_H :=
  (hf_pai .int V0 l0 (l3 + (1 : Int32))).bind fun x1 =>
  (hf_pai .int V0 l0 (l3 + (2 : Int32))).bind fun x2 =>
  (hf_pai .int V0 l0 (l3 + (3 : Int32))).bind fun x3 =>
  (hf_pai .int V0 l0 (l3 + (4 : Int32))).bind fun x4 =>
  (hf_ob 1 0 V0 l1).bind fun _ =>
  hf_b2 (spX0_swap l1 x1 x2 x3 x4 V0) fun x6 g5 =>
  (hf_pai .int g5 l0 (l3 + (1 : Int32))).bind fun x7 =>
  (hf_pai .int g5 l0 (l3 + (2 : Int32))).bind fun x8 =>
  (hf_pai .int g5 l0 (l3 + (3 : Int32))).bind fun x9 =>
  (hf_pai .int g5 l0 (l3 + (4 : Int32))).bind fun x10 =>
  hf_cm g5 l2 (fun zV => spX4_swap x7 x8 x9 x10 zV) fun x11 g12 =>
  if x6 = x11 then (ndL_law_1137 gs N k18 l0 l1 l2 l3 g12) else
  none
theorem nlL_law_507 {C : hf_X} {gs : hf_gs} {N : Nat × Nat} (o : hf_In C cL_law RL 4 (some .boolean) 8192 100000) (og : hf_G C gs) (oL : hf_Lw C) (k18 : Nat → Nat → Nat → Int32 → hf_H → Option hf_H) (hk18 : ∀ (l0 : Nat) (l1 : Nat) (l2 : Nat) (l3 : Int32) (V0 : hf_H), hf_J C (hf_dL N) (k18 l0 l1 l2 l3 V0) V0 18 [(0, .ref l0), (1, .ref l1), (2, .ref l2), (3, .int l3)] []) (l0 : Nat) (l1 : Nat) (l2 : Nat) (l3 : Int32) (V0 : hf_H) : hf_J C (hf_dL N) (ndL_law_507 gs N k18 l0 l1 l2 l3 V0) V0 507 [(0, .ref l0), (1, .ref l1), (2, .ref l2), (3, .int l3)] [] := by
  refine hr_aload_n o 1 dL_law_507 rfl ?_
  refine hr_aload_n o 0 dL_law_508 rfl ?_
  refine hr_iload_n o 3 dL_law_509 rfl ?_
  refine hr_iconst o (1 : Int32) dL_law_510 (by decide) ?_
  refine hr_iadd o dL_law_511 ?_
  refine hx_paild o (by simp [hf_tys]) dL_law_512 (fun x1 => ?_)
  refine hr_aload_n o 0 dL_law_513 rfl ?_
  refine hr_iload_n o 3 dL_law_514 rfl ?_
  refine hr_iconst o (2 : Int32) dL_law_515 (by decide) ?_
  refine hr_iadd o dL_law_516 ?_
  refine hx_paild o (by simp [hf_tys]) dL_law_517 (fun x2 => ?_)
  refine hr_aload_n o 0 dL_law_518 rfl ?_
  refine hr_iload_n o 3 dL_law_519 rfl ?_
  refine hr_iconst o (3 : Int32) dL_law_520 (by decide) ?_
  refine hr_iadd o dL_law_521 ?_
  refine hx_paild o (by simp [hf_tys]) dL_law_522 (fun x3 => ?_)
  refine hr_aload_n o 0 dL_law_523 rfl ?_
  refine hr_iload_n o 3 dL_law_524 rfl ?_
  refine hr_iconst o (4 : Int32) dL_law_525 (by decide) ?_
  refine hr_iadd o dL_law_526 ?_
  refine hx_paild o (by simp [hf_tys]) dL_law_527 (fun x4 => ?_)
  refine hx_callVI (q := (RX0, TX0, 23)) o og mvL_61 dL_law_528 1 0 rfl [.int x1, .int x2, .int x3, .int x4] (fun zr zg ze => mtX0_swap l1 x1 x2 x3 x4 V0 zr zg ze) rfl rfl (Nat.le_of_ble_eq_true rfl) ⟨by decide, by decide⟩ (fun x6 g5 => ?_)
  refine hr_aload_n o 2 dL_law_531 rfl ?_
  refine hr_aload_n o 0 dL_law_532 rfl ?_
  refine hr_iload_n o 3 dL_law_533 rfl ?_
  refine hr_iconst o (1 : Int32) dL_law_534 (by decide) ?_
  refine hr_iadd o dL_law_535 ?_
  refine hx_paild o (by simp [hf_tys]) dL_law_536 (fun x7 => ?_)
  refine hr_aload_n o 0 dL_law_537 rfl ?_
  refine hr_iload_n o 3 dL_law_538 rfl ?_
  refine hr_iconst o (2 : Int32) dL_law_539 (by decide) ?_
  refine hr_iadd o dL_law_540 ?_
  refine hx_paild o (by simp [hf_tys]) dL_law_541 (fun x8 => ?_)
  refine hr_aload_n o 0 dL_law_542 rfl ?_
  refine hr_iload_n o 3 dL_law_543 rfl ?_
  refine hr_iconst o (3 : Int32) dL_law_544 (by decide) ?_
  refine hr_iadd o dL_law_545 ?_
  refine hx_paild o (by simp [hf_tys]) dL_law_546 (fun x9 => ?_)
  refine hr_aload_n o 0 dL_law_547 rfl ?_
  refine hr_iload_n o 3 dL_law_548 rfl ?_
  refine hr_iconst o (4 : Int32) dL_law_549 (by decide) ?_
  refine hr_iadd o dL_law_550 ?_
  refine hx_paild o (by simp [hf_tys]) dL_law_551 (fun x10 => ?_)
  refine hL_callM (dv := fun r => .int r) o mvL_65 dL_law_552 [.int x7, .int x8, .int x9, .int x10] (fun zV zr zW ze => mtX4_swap x7 x8 x9 x10 zV zr zW ze) rfl rfl (Nat.le_of_ble_eq_true rfl) ⟨by decide, by decide⟩ (fun x11 g12 => ?_)
  refine hr_icmp_eq o 1137 dL_law_555 (by decide) (fun _ => ?_) (fun _ => ?_)
  · exact nlL_law_1137 o og oL k18 hk18 l0 l1 l2 l3 g12
  refine hr_iconst o (0 : Int32) dL_law_558 (by decide) ?_
  exact hr_none
def ndL_law_560 (gs : hf_gs) (N : Nat × Nat) (k18 : Nat → Nat → Nat → Int32 → hf_H → Option hf_H) (l0 : Nat) (l1 : Nat) (l2 : Nat) (l3 : Int32) (V0 : hf_H) : Option hf_H :=
  (hf_pai .int V0 l0 (l3 + (1 : Int32))).bind fun x1 =>
  (hf_pai .int V0 l0 (l3 + (2 : Int32))).bind fun x2 =>
  (hf_ob 1 0 V0 l1).bind fun _ =>
  hf_b2 (spX0_giveUp l1 x1 x2 V0) fun x4 g3 =>
  (hf_pai .int g3 l0 (l3 + (1 : Int32))).bind fun x5 =>
  (hf_pai .int g3 l0 (l3 + (2 : Int32))).bind fun x6 =>
  hf_cm g3 l2 (fun zV => spX4_giveUp x5 x6 zV) fun x7 g8 =>
  if x4 = x7 then (ndL_law_1137 gs N k18 l0 l1 l2 l3 g8) else
  none
theorem nlL_law_560 {C : hf_X} {gs : hf_gs} {N : Nat × Nat} (o : hf_In C cL_law RL 4 (some .boolean) 8192 100000) (og : hf_G C gs) (oL : hf_Lw C) (k18 : Nat → Nat → Nat → Int32 → hf_H → Option hf_H) (hk18 : ∀ (l0 : Nat) (l1 : Nat) (l2 : Nat) (l3 : Int32) (V0 : hf_H), hf_J C (hf_dL N) (k18 l0 l1 l2 l3 V0) V0 18 [(0, .ref l0), (1, .ref l1), (2, .ref l2), (3, .int l3)] []) (l0 : Nat) (l1 : Nat) (l2 : Nat) (l3 : Int32) (V0 : hf_H) : hf_J C (hf_dL N) (ndL_law_560 gs N k18 l0 l1 l2 l3 V0) V0 560 [(0, .ref l0), (1, .ref l1), (2, .ref l2), (3, .int l3)] [] := by
  refine hr_aload_n o 1 dL_law_560 rfl ?_
  refine hr_aload_n o 0 dL_law_561 rfl ?_
  refine hr_iload_n o 3 dL_law_562 rfl ?_
  refine hr_iconst o (1 : Int32) dL_law_563 (by decide) ?_
  refine hr_iadd o dL_law_564 ?_
  refine hx_paild o (by simp [hf_tys]) dL_law_565 (fun x1 => ?_)
  refine hr_aload_n o 0 dL_law_566 rfl ?_
  refine hr_iload_n o 3 dL_law_567 rfl ?_
  refine hr_iconst o (2 : Int32) dL_law_568 (by decide) ?_
  refine hr_iadd o dL_law_569 ?_
  refine hx_paild o (by simp [hf_tys]) dL_law_570 (fun x2 => ?_)
  refine hx_callVI (q := (RX0, TX0, 23)) o og mvL_66 dL_law_571 1 0 rfl [.int x1, .int x2] (fun zr zg ze => mtX0_giveUp l1 x1 x2 V0 zr zg ze) rfl rfl (Nat.le_of_ble_eq_true rfl) ⟨by decide, by decide⟩ (fun x4 g3 => ?_)
  refine hr_aload_n o 2 dL_law_574 rfl ?_
  refine hr_aload_n o 0 dL_law_575 rfl ?_
  refine hr_iload_n o 3 dL_law_576 rfl ?_
  refine hr_iconst o (1 : Int32) dL_law_577 (by decide) ?_
  refine hr_iadd o dL_law_578 ?_
  refine hx_paild o (by simp [hf_tys]) dL_law_579 (fun x5 => ?_)
  refine hr_aload_n o 0 dL_law_580 rfl ?_
  refine hr_iload_n o 3 dL_law_581 rfl ?_
  refine hr_iconst o (2 : Int32) dL_law_582 (by decide) ?_
  refine hr_iadd o dL_law_583 ?_
  refine hx_paild o (by simp [hf_tys]) dL_law_584 (fun x6 => ?_)
  refine hL_callM (dv := fun r => .int r) o mvL_69 dL_law_585 [.int x5, .int x6] (fun zV zr zW ze => mtX4_giveUp x5 x6 zV zr zW ze) rfl rfl (Nat.le_of_ble_eq_true rfl) ⟨by decide, by decide⟩ (fun x7 g8 => ?_)
  refine hr_icmp_eq o 1137 dL_law_588 (by decide) (fun _ => ?_) (fun _ => ?_)
  · exact nlL_law_1137 o og oL k18 hk18 l0 l1 l2 l3 g8
  refine hr_iconst o (0 : Int32) dL_law_591 (by decide) ?_
  exact hr_none
def ndL_law_593 (gs : hf_gs) (N : Nat × Nat) (k18 : Nat → Nat → Nat → Int32 → hf_H → Option hf_H) (l0 : Nat) (l1 : Nat) (l2 : Nat) (l3 : Int32) (V0 : hf_H) : Option hf_H :=
  (hf_ob 1 0 V0 l1).bind fun _ =>
  hf_b2 (spX0_undo l1 V0) fun x2 g1 =>
  hf_cm g1 l2 (fun zV => spX4_undo zV) fun x3 g4 =>
  if x2 = x3 then (ndL_law_1137 gs N k18 l0 l1 l2 l3 g4) else
  none
theorem nlL_law_593 {C : hf_X} {gs : hf_gs} {N : Nat × Nat} (o : hf_In C cL_law RL 4 (some .boolean) 8192 100000) (og : hf_G C gs) (oL : hf_Lw C) (k18 : Nat → Nat → Nat → Int32 → hf_H → Option hf_H) (hk18 : ∀ (l0 : Nat) (l1 : Nat) (l2 : Nat) (l3 : Int32) (V0 : hf_H), hf_J C (hf_dL N) (k18 l0 l1 l2 l3 V0) V0 18 [(0, .ref l0), (1, .ref l1), (2, .ref l2), (3, .int l3)] []) (l0 : Nat) (l1 : Nat) (l2 : Nat) (l3 : Int32) (V0 : hf_H) : hf_J C (hf_dL N) (ndL_law_593 gs N k18 l0 l1 l2 l3 V0) V0 593 [(0, .ref l0), (1, .ref l1), (2, .ref l2), (3, .int l3)] [] := by
  refine hr_aload_n o 1 dL_law_593 rfl ?_
  refine hx_callVI (q := (RX0, TX0, 23)) o og mvL_70 dL_law_594 1 0 rfl [] (fun zr zg ze => mtX0_undo l1 V0 zr zg ze) rfl rfl (Nat.le_of_ble_eq_true rfl) ⟨by decide, by decide⟩ (fun x2 g1 => ?_)
  refine hr_aload_n o 2 dL_law_597 rfl ?_
  refine hL_callM (dv := fun r => .int r) o mvL_73 dL_law_598 [] (fun zV zr zW ze => mtX4_undo  zV zr zW ze) rfl rfl (Nat.le_of_ble_eq_true rfl) ⟨by decide, by decide⟩ (fun x3 g4 => ?_)
  refine hr_icmp_eq o 1137 dL_law_601 (by decide) (fun _ => ?_) (fun _ => ?_)
  · exact nlL_law_1137 o og oL k18 hk18 l0 l1 l2 l3 g4
  refine hr_iconst o (0 : Int32) dL_law_604 (by decide) ?_
  exact hr_none
def ndL_law_606 (gs : hf_gs) (N : Nat × Nat) (k18 : Nat → Nat → Nat → Int32 → hf_H → Option hf_H) (l0 : Nat) (l1 : Nat) (l2 : Nat) (l3 : Int32) (V0 : hf_H) : Option hf_H :=
  (hf_pai .int V0 l0 (l3 + (1 : Int32))).bind fun x1 =>
  (hf_pai .int V0 l0 (l3 + (2 : Int32))).bind fun x2 =>
  (hf_ob 1 0 V0 l1).bind fun _ =>
  hf_b2 (spX0_run l1 x1 x2 V0) fun x4 g3 =>
  (hf_pai .int g3 l0 (l3 + (1 : Int32))).bind fun x5 =>
  (hf_pai .int g3 l0 (l3 + (2 : Int32))).bind fun x6 =>
  hf_cm g3 l2 (fun zV => spX4_run x5 x6 zV) fun x7 g8 =>
  if x4 = x7 then (ndL_law_1137 gs N k18 l0 l1 l2 l3 g8) else
  none
theorem nlL_law_606 {C : hf_X} {gs : hf_gs} {N : Nat × Nat} (o : hf_In C cL_law RL 4 (some .boolean) 8192 100000) (og : hf_G C gs) (oL : hf_Lw C) (k18 : Nat → Nat → Nat → Int32 → hf_H → Option hf_H) (hk18 : ∀ (l0 : Nat) (l1 : Nat) (l2 : Nat) (l3 : Int32) (V0 : hf_H), hf_J C (hf_dL N) (k18 l0 l1 l2 l3 V0) V0 18 [(0, .ref l0), (1, .ref l1), (2, .ref l2), (3, .int l3)] []) (l0 : Nat) (l1 : Nat) (l2 : Nat) (l3 : Int32) (V0 : hf_H) : hf_J C (hf_dL N) (ndL_law_606 gs N k18 l0 l1 l2 l3 V0) V0 606 [(0, .ref l0), (1, .ref l1), (2, .ref l2), (3, .int l3)] [] := by
  refine hr_aload_n o 1 dL_law_606 rfl ?_
  refine hr_aload_n o 0 dL_law_607 rfl ?_
  refine hr_iload_n o 3 dL_law_608 rfl ?_
  refine hr_iconst o (1 : Int32) dL_law_609 (by decide) ?_
  refine hr_iadd o dL_law_610 ?_
  refine hx_paild o (by simp [hf_tys]) dL_law_611 (fun x1 => ?_)
  refine hr_aload_n o 0 dL_law_612 rfl ?_
  refine hr_iload_n o 3 dL_law_613 rfl ?_
  refine hr_iconst o (2 : Int32) dL_law_614 (by decide) ?_
  refine hr_iadd o dL_law_615 ?_
  refine hx_paild o (by simp [hf_tys]) dL_law_616 (fun x2 => ?_)
  refine hx_callVI (q := (RX0, TX0, 23)) o og mvL_74 dL_law_617 1 0 rfl [.int x1, .int x2] (fun zr zg ze => mtX0_run l1 x1 x2 V0 zr zg ze) rfl rfl (Nat.le_of_ble_eq_true rfl) ⟨by decide, by decide⟩ (fun x4 g3 => ?_)
  refine hr_aload_n o 2 dL_law_620 rfl ?_
  refine hr_aload_n o 0 dL_law_621 rfl ?_
  refine hr_iload_n o 3 dL_law_622 rfl ?_
  refine hr_iconst o (1 : Int32) dL_law_623 (by decide) ?_
  refine hr_iadd o dL_law_624 ?_
  refine hx_paild o (by simp [hf_tys]) dL_law_625 (fun x5 => ?_)
  refine hr_aload_n o 0 dL_law_626 rfl ?_
  refine hr_iload_n o 3 dL_law_627 rfl ?_
  refine hr_iconst o (2 : Int32) dL_law_628 (by decide) ?_
  refine hr_iadd o dL_law_629 ?_
  refine hx_paild o (by simp [hf_tys]) dL_law_630 (fun x6 => ?_)
  refine hL_callM (dv := fun r => .int r) o mvL_77 dL_law_631 [.int x5, .int x6] (fun zV zr zW ze => mtX4_run x5 x6 zV zr zW ze) rfl rfl (Nat.le_of_ble_eq_true rfl) ⟨by decide, by decide⟩ (fun x7 g8 => ?_)
  refine hr_icmp_eq o 1137 dL_law_634 (by decide) (fun _ => ?_) (fun _ => ?_)
  · exact nlL_law_1137 o og oL k18 hk18 l0 l1 l2 l3 g8
  refine hr_iconst o (0 : Int32) dL_law_637 (by decide) ?_
  exact hr_none
def ndL_law_639 (gs : hf_gs) (N : Nat × Nat) (k18 : Nat → Nat → Nat → Int32 → hf_H → Option hf_H) (l0 : Nat) (l1 : Nat) (l2 : Nat) (l3 : Int32) (V0 : hf_H) : Option hf_H :=
  (hf_pai .int V0 l0 (l3 + (1 : Int32))).bind fun x1 =>
  (hf_ob 1 0 V0 l1).bind fun _ =>
  hf_b2 (spX0_worth l1 x1 V0) fun x3 g2 =>
  (hf_pai .int g2 l0 (l3 + (1 : Int32))).bind fun x4 =>
  hf_cm g2 l2 (fun zV => spX4_worth x4 zV) fun x5 g6 =>
  if x3 = x5 then (ndL_law_1137 gs N k18 l0 l1 l2 l3 g6) else
  none
theorem nlL_law_639 {C : hf_X} {gs : hf_gs} {N : Nat × Nat} (o : hf_In C cL_law RL 4 (some .boolean) 8192 100000) (og : hf_G C gs) (oL : hf_Lw C) (k18 : Nat → Nat → Nat → Int32 → hf_H → Option hf_H) (hk18 : ∀ (l0 : Nat) (l1 : Nat) (l2 : Nat) (l3 : Int32) (V0 : hf_H), hf_J C (hf_dL N) (k18 l0 l1 l2 l3 V0) V0 18 [(0, .ref l0), (1, .ref l1), (2, .ref l2), (3, .int l3)] []) (l0 : Nat) (l1 : Nat) (l2 : Nat) (l3 : Int32) (V0 : hf_H) : hf_J C (hf_dL N) (ndL_law_639 gs N k18 l0 l1 l2 l3 V0) V0 639 [(0, .ref l0), (1, .ref l1), (2, .ref l2), (3, .int l3)] [] := by
  refine hr_aload_n o 1 dL_law_639 rfl ?_
  refine hr_aload_n o 0 dL_law_640 rfl ?_
  refine hr_iload_n o 3 dL_law_641 rfl ?_
  refine hr_iconst o (1 : Int32) dL_law_642 (by decide) ?_
  refine hr_iadd o dL_law_643 ?_
  refine hx_paild o (by simp [hf_tys]) dL_law_644 (fun x1 => ?_)
  refine hx_callVI (q := (RX0, TX0, 23)) o og mvL_78 dL_law_645 1 0 rfl [.int x1] (fun zr zg ze => mtX0_worth l1 x1 V0 zr zg ze) rfl rfl (Nat.le_of_ble_eq_true rfl) ⟨by decide, by decide⟩ (fun x3 g2 => ?_)
  refine hr_aload_n o 2 dL_law_648 rfl ?_
  refine hr_aload_n o 0 dL_law_649 rfl ?_
  refine hr_iload_n o 3 dL_law_650 rfl ?_
  refine hr_iconst o (1 : Int32) dL_law_651 (by decide) ?_
  refine hr_iadd o dL_law_652 ?_
  refine hx_paild o (by simp [hf_tys]) dL_law_653 (fun x4 => ?_)
  refine hL_callM (dv := fun r => .int r) o mvL_81 dL_law_654 [.int x4] (fun zV zr zW ze => mtX4_worth x4 zV zr zW ze) rfl rfl (Nat.le_of_ble_eq_true rfl) ⟨by decide, by decide⟩ (fun x5 g6 => ?_)
  refine hr_icmp_eq o 1137 dL_law_657 (by decide) (fun _ => ?_) (fun _ => ?_)
  · exact nlL_law_1137 o og oL k18 hk18 l0 l1 l2 l3 g6
  refine hr_iconst o (0 : Int32) dL_law_660 (by decide) ?_
  exact hr_none
def ndL_law_662 (gs : hf_gs) (N : Nat × Nat) (k18 : Nat → Nat → Nat → Int32 → hf_H → Option hf_H) (l0 : Nat) (l1 : Nat) (l2 : Nat) (l3 : Int32) (V0 : hf_H) : Option hf_H :=
  (hf_pai .int V0 l0 (l3 + (1 : Int32))).bind fun x1 =>
  (hf_pai .int V0 l0 (l3 + (2 : Int32))).bind fun x2 =>
  (hf_ob 1 0 V0 l1).bind fun _ =>
  hf_b2 (spX0_with l1 x1 x2 V0) fun x4 g3 =>
  (hf_pai .int g3 l0 (l3 + (1 : Int32))).bind fun x5 =>
  (hf_pai .int g3 l0 (l3 + (2 : Int32))).bind fun x6 =>
  hf_cm g3 l2 (fun zV => spX4_with x5 x6 zV) fun x7 g8 =>
  if x4 = x7 then (ndL_law_1137 gs N k18 l0 l1 l2 l3 g8) else
  none
theorem nlL_law_662 {C : hf_X} {gs : hf_gs} {N : Nat × Nat} (o : hf_In C cL_law RL 4 (some .boolean) 8192 100000) (og : hf_G C gs) (oL : hf_Lw C) (k18 : Nat → Nat → Nat → Int32 → hf_H → Option hf_H) (hk18 : ∀ (l0 : Nat) (l1 : Nat) (l2 : Nat) (l3 : Int32) (V0 : hf_H), hf_J C (hf_dL N) (k18 l0 l1 l2 l3 V0) V0 18 [(0, .ref l0), (1, .ref l1), (2, .ref l2), (3, .int l3)] []) (l0 : Nat) (l1 : Nat) (l2 : Nat) (l3 : Int32) (V0 : hf_H) : hf_J C (hf_dL N) (ndL_law_662 gs N k18 l0 l1 l2 l3 V0) V0 662 [(0, .ref l0), (1, .ref l1), (2, .ref l2), (3, .int l3)] [] := by
  refine hr_aload_n o 1 dL_law_662 rfl ?_
  refine hr_aload_n o 0 dL_law_663 rfl ?_
  refine hr_iload_n o 3 dL_law_664 rfl ?_
  refine hr_iconst o (1 : Int32) dL_law_665 (by decide) ?_
  refine hr_iadd o dL_law_666 ?_
  refine hx_paild o (by simp [hf_tys]) dL_law_667 (fun x1 => ?_)
  refine hr_aload_n o 0 dL_law_668 rfl ?_
  refine hr_iload_n o 3 dL_law_669 rfl ?_
  refine hr_iconst o (2 : Int32) dL_law_670 (by decide) ?_
  refine hr_iadd o dL_law_671 ?_
  refine hx_paild o (by simp [hf_tys]) dL_law_672 (fun x2 => ?_)
  refine hx_callVI (q := (RX0, TX0, 23)) o og mvL_82 dL_law_673 1 0 rfl [.int x1, .int x2] (fun zr zg ze => mtX0_with l1 x1 x2 V0 zr zg ze) rfl rfl (Nat.le_of_ble_eq_true rfl) ⟨by decide, by decide⟩ (fun x4 g3 => ?_)
  refine hr_aload_n o 2 dL_law_676 rfl ?_
  refine hr_aload_n o 0 dL_law_677 rfl ?_
  refine hr_iload_n o 3 dL_law_678 rfl ?_
  refine hr_iconst o (1 : Int32) dL_law_679 (by decide) ?_
  refine hr_iadd o dL_law_680 ?_
  refine hx_paild o (by simp [hf_tys]) dL_law_681 (fun x5 => ?_)
  refine hr_aload_n o 0 dL_law_682 rfl ?_
  refine hr_iload_n o 3 dL_law_683 rfl ?_
  refine hr_iconst o (2 : Int32) dL_law_684 (by decide) ?_
  refine hr_iadd o dL_law_685 ?_
  refine hx_paild o (by simp [hf_tys]) dL_law_686 (fun x6 => ?_)
  refine hL_callM (dv := fun r => .int r) o mvL_85 dL_law_687 [.int x5, .int x6] (fun zV zr zW ze => mtX4_with x5 x6 zV zr zW ze) rfl rfl (Nat.le_of_ble_eq_true rfl) ⟨by decide, by decide⟩ (fun x7 g8 => ?_)
  refine hr_icmp_eq o 1137 dL_law_690 (by decide) (fun _ => ?_) (fun _ => ?_)
  · exact nlL_law_1137 o og oL k18 hk18 l0 l1 l2 l3 g8
  refine hr_iconst o (0 : Int32) dL_law_693 (by decide) ?_
  exact hr_none
def ndL_law_695 (gs : hf_gs) (N : Nat × Nat) (k18 : Nat → Nat → Nat → Int32 → hf_H → Option hf_H) (l0 : Nat) (l1 : Nat) (l2 : Nat) (l3 : Int32) (V0 : hf_H) : Option hf_H :=
  (hf_pai .int V0 l0 (l3 + (1 : Int32))).bind fun x1 =>
  (hf_pai .int V0 l0 (l3 + (2 : Int32))).bind fun x2 =>
  (hf_ob 1 0 V0 l1).bind fun _ =>
  hf_b2 (spX0_walk l1 x1 x2 V0) fun x4 g3 =>
  (hf_pai .int g3 l0 (l3 + (1 : Int32))).bind fun x5 =>
  (hf_pai .int g3 l0 (l3 + (2 : Int32))).bind fun x6 =>
  hf_cm g3 l2 (fun zV => spX4_walk x5 x6 zV) fun x7 g8 =>
  if x4 = x7 then (ndL_law_1137 gs N k18 l0 l1 l2 l3 g8) else
  none
theorem nlL_law_695 {C : hf_X} {gs : hf_gs} {N : Nat × Nat} (o : hf_In C cL_law RL 4 (some .boolean) 8192 100000) (og : hf_G C gs) (oL : hf_Lw C) (k18 : Nat → Nat → Nat → Int32 → hf_H → Option hf_H) (hk18 : ∀ (l0 : Nat) (l1 : Nat) (l2 : Nat) (l3 : Int32) (V0 : hf_H), hf_J C (hf_dL N) (k18 l0 l1 l2 l3 V0) V0 18 [(0, .ref l0), (1, .ref l1), (2, .ref l2), (3, .int l3)] []) (l0 : Nat) (l1 : Nat) (l2 : Nat) (l3 : Int32) (V0 : hf_H) : hf_J C (hf_dL N) (ndL_law_695 gs N k18 l0 l1 l2 l3 V0) V0 695 [(0, .ref l0), (1, .ref l1), (2, .ref l2), (3, .int l3)] [] := by
  refine hr_aload_n o 1 dL_law_695 rfl ?_
  refine hr_aload_n o 0 dL_law_696 rfl ?_
  refine hr_iload_n o 3 dL_law_697 rfl ?_
  refine hr_iconst o (1 : Int32) dL_law_698 (by decide) ?_
  refine hr_iadd o dL_law_699 ?_
  refine hx_paild o (by simp [hf_tys]) dL_law_700 (fun x1 => ?_)
  refine hr_aload_n o 0 dL_law_701 rfl ?_
  refine hr_iload_n o 3 dL_law_702 rfl ?_
  refine hr_iconst o (2 : Int32) dL_law_703 (by decide) ?_
  refine hr_iadd o dL_law_704 ?_
  refine hx_paild o (by simp [hf_tys]) dL_law_705 (fun x2 => ?_)
  refine hx_callVI (q := (RX0, TX0, 23)) o og mvL_86 dL_law_706 1 0 rfl [.int x1, .int x2] (fun zr zg ze => mtX0_walk l1 x1 x2 V0 zr zg ze) rfl rfl (Nat.le_of_ble_eq_true rfl) ⟨by decide, by decide⟩ (fun x4 g3 => ?_)
  refine hr_aload_n o 2 dL_law_709 rfl ?_
  refine hr_aload_n o 0 dL_law_710 rfl ?_
  refine hr_iload_n o 3 dL_law_711 rfl ?_
  refine hr_iconst o (1 : Int32) dL_law_712 (by decide) ?_
  refine hr_iadd o dL_law_713 ?_
  refine hx_paild o (by simp [hf_tys]) dL_law_714 (fun x5 => ?_)
  refine hr_aload_n o 0 dL_law_715 rfl ?_
  refine hr_iload_n o 3 dL_law_716 rfl ?_
  refine hr_iconst o (2 : Int32) dL_law_717 (by decide) ?_
  refine hr_iadd o dL_law_718 ?_
  refine hx_paild o (by simp [hf_tys]) dL_law_719 (fun x6 => ?_)
  refine hL_callM (dv := fun r => .int r) o mvL_89 dL_law_720 [.int x5, .int x6] (fun zV zr zW ze => mtX4_walk x5 x6 zV zr zW ze) rfl rfl (Nat.le_of_ble_eq_true rfl) ⟨by decide, by decide⟩ (fun x7 g8 => ?_)
  refine hr_icmp_eq o 1137 dL_law_723 (by decide) (fun _ => ?_) (fun _ => ?_)
  · exact nlL_law_1137 o og oL k18 hk18 l0 l1 l2 l3 g8
  refine hr_iconst o (0 : Int32) dL_law_726 (by decide) ?_
  exact hr_none
def ndL_law_728 (gs : hf_gs) (N : Nat × Nat) (k18 : Nat → Nat → Nat → Int32 → hf_H → Option hf_H) (l0 : Nat) (l1 : Nat) (l2 : Nat) (l3 : Int32) (V0 : hf_H) : Option hf_H :=
  (hf_pai .int V0 l0 (l3 + (1 : Int32))).bind fun x1 =>
  (hf_pai .int V0 l0 (l3 + (2 : Int32))).bind fun x2 =>
  (hf_pai .int V0 l0 (l3 + (3 : Int32))).bind fun x3 =>
  (hf_ob 1 0 V0 l1).bind fun _ =>
  hf_b2 (spX0_chance l1 x1 x2 x3 V0) fun x5 g4 =>
  (hf_pai .int g4 l0 (l3 + (1 : Int32))).bind fun x6 =>
  (hf_pai .int g4 l0 (l3 + (2 : Int32))).bind fun x7 =>
  (hf_pai .int g4 l0 (l3 + (3 : Int32))).bind fun x8 =>
  hf_cm g4 l2 (fun zV => spX4_chance x6 x7 x8 zV) fun x9 g10 =>
  if x5 = x9 then (ndL_law_1137 gs N k18 l0 l1 l2 l3 g10) else
  none
theorem nlL_law_728 {C : hf_X} {gs : hf_gs} {N : Nat × Nat} (o : hf_In C cL_law RL 4 (some .boolean) 8192 100000) (og : hf_G C gs) (oL : hf_Lw C) (k18 : Nat → Nat → Nat → Int32 → hf_H → Option hf_H) (hk18 : ∀ (l0 : Nat) (l1 : Nat) (l2 : Nat) (l3 : Int32) (V0 : hf_H), hf_J C (hf_dL N) (k18 l0 l1 l2 l3 V0) V0 18 [(0, .ref l0), (1, .ref l1), (2, .ref l2), (3, .int l3)] []) (l0 : Nat) (l1 : Nat) (l2 : Nat) (l3 : Int32) (V0 : hf_H) : hf_J C (hf_dL N) (ndL_law_728 gs N k18 l0 l1 l2 l3 V0) V0 728 [(0, .ref l0), (1, .ref l1), (2, .ref l2), (3, .int l3)] [] := by
  refine hr_aload_n o 1 dL_law_728 rfl ?_
  refine hr_aload_n o 0 dL_law_729 rfl ?_
  refine hr_iload_n o 3 dL_law_730 rfl ?_
  refine hr_iconst o (1 : Int32) dL_law_731 (by decide) ?_
  refine hr_iadd o dL_law_732 ?_
  refine hx_paild o (by simp [hf_tys]) dL_law_733 (fun x1 => ?_)
  refine hr_aload_n o 0 dL_law_734 rfl ?_
  refine hr_iload_n o 3 dL_law_735 rfl ?_
  refine hr_iconst o (2 : Int32) dL_law_736 (by decide) ?_
  refine hr_iadd o dL_law_737 ?_
  refine hx_paild o (by simp [hf_tys]) dL_law_738 (fun x2 => ?_)
  refine hr_aload_n o 0 dL_law_739 rfl ?_
  refine hr_iload_n o 3 dL_law_740 rfl ?_
  refine hr_iconst o (3 : Int32) dL_law_741 (by decide) ?_
  refine hr_iadd o dL_law_742 ?_
  refine hx_paild o (by simp [hf_tys]) dL_law_743 (fun x3 => ?_)
  refine hx_callVI (q := (RX0, TX0, 23)) o og mvL_90 dL_law_744 1 0 rfl [.int x1, .int x2, .int x3] (fun zr zg ze => mtX0_chance l1 x1 x2 x3 V0 zr zg ze) rfl rfl (Nat.le_of_ble_eq_true rfl) ⟨by decide, by decide⟩ (fun x5 g4 => ?_)
  refine hr_aload_n o 2 dL_law_747 rfl ?_
  refine hr_aload_n o 0 dL_law_748 rfl ?_
  refine hr_iload_n o 3 dL_law_749 rfl ?_
  refine hr_iconst o (1 : Int32) dL_law_750 (by decide) ?_
  refine hr_iadd o dL_law_751 ?_
  refine hx_paild o (by simp [hf_tys]) dL_law_752 (fun x6 => ?_)
  refine hr_aload_n o 0 dL_law_753 rfl ?_
  refine hr_iload_n o 3 dL_law_754 rfl ?_
  refine hr_iconst o (2 : Int32) dL_law_755 (by decide) ?_
  refine hr_iadd o dL_law_756 ?_
  refine hx_paild o (by simp [hf_tys]) dL_law_757 (fun x7 => ?_)
  refine hr_aload_n o 0 dL_law_758 rfl ?_
  refine hr_iload_n o 3 dL_law_759 rfl ?_
  refine hr_iconst o (3 : Int32) dL_law_760 (by decide) ?_
  refine hr_iadd o dL_law_761 ?_
  refine hx_paild o (by simp [hf_tys]) dL_law_762 (fun x8 => ?_)
  refine hL_callM (dv := fun r => .int r) o mvL_94 dL_law_763 [.int x6, .int x7, .int x8] (fun zV zr zW ze => mtX4_chance x6 x7 x8 zV zr zW ze) rfl rfl (Nat.le_of_ble_eq_true rfl) ⟨by decide, by decide⟩ (fun x9 g10 => ?_)
  refine hr_icmp_eq o 1137 dL_law_766 (by decide) (fun _ => ?_) (fun _ => ?_)
  · exact nlL_law_1137 o og oL k18 hk18 l0 l1 l2 l3 g10
  refine hr_iconst o (0 : Int32) dL_law_769 (by decide) ?_
  exact hr_none
def ndL_law_771 (gs : hf_gs) (N : Nat × Nat) (k18 : Nat → Nat → Nat → Int32 → hf_H → Option hf_H) (l0 : Nat) (l1 : Nat) (l2 : Nat) (l3 : Int32) (V0 : hf_H) : Option hf_H :=
  (hf_pai .int V0 l0 (l3 + (1 : Int32))).bind fun x1 =>
  (hf_pai .int V0 l0 (l3 + (2 : Int32))).bind fun x2 =>
  (hf_pai .int V0 l0 (l3 + (3 : Int32))).bind fun x3 =>
  (hf_pai .int V0 l0 (l3 + (4 : Int32))).bind fun x4 =>
  (hf_pai .int V0 l0 (l3 + (5 : Int32))).bind fun x5 =>
  (hf_ob 1 0 V0 l1).bind fun _ =>
  hf_b2 (spX0_yields l1 x1 x2 x3 x4 x5 V0) fun x7 g6 =>
  (hf_pai .int g6 l0 (l3 + (1 : Int32))).bind fun x8 =>
  (hf_pai .int g6 l0 (l3 + (2 : Int32))).bind fun x9 =>
  (hf_pai .int g6 l0 (l3 + (3 : Int32))).bind fun x10 =>
  (hf_pai .int g6 l0 (l3 + (4 : Int32))).bind fun x11 =>
  (hf_pai .int g6 l0 (l3 + (5 : Int32))).bind fun x12 =>
  hf_cm g6 l2 (fun zV => spX4_yields x8 x9 x10 x11 x12 zV) fun x13 g14 =>
  if x7 = x13 then (ndL_law_1137 gs N k18 l0 l1 l2 l3 g14) else
  none
theorem nlL_law_771 {C : hf_X} {gs : hf_gs} {N : Nat × Nat} (o : hf_In C cL_law RL 4 (some .boolean) 8192 100000) (og : hf_G C gs) (oL : hf_Lw C) (k18 : Nat → Nat → Nat → Int32 → hf_H → Option hf_H) (hk18 : ∀ (l0 : Nat) (l1 : Nat) (l2 : Nat) (l3 : Int32) (V0 : hf_H), hf_J C (hf_dL N) (k18 l0 l1 l2 l3 V0) V0 18 [(0, .ref l0), (1, .ref l1), (2, .ref l2), (3, .int l3)] []) (l0 : Nat) (l1 : Nat) (l2 : Nat) (l3 : Int32) (V0 : hf_H) : hf_J C (hf_dL N) (ndL_law_771 gs N k18 l0 l1 l2 l3 V0) V0 771 [(0, .ref l0), (1, .ref l1), (2, .ref l2), (3, .int l3)] [] := by
  refine hr_aload_n o 1 dL_law_771 rfl ?_
  refine hr_aload_n o 0 dL_law_772 rfl ?_
  refine hr_iload_n o 3 dL_law_773 rfl ?_
  refine hr_iconst o (1 : Int32) dL_law_774 (by decide) ?_
  refine hr_iadd o dL_law_775 ?_
  refine hx_paild o (by simp [hf_tys]) dL_law_776 (fun x1 => ?_)
  refine hr_aload_n o 0 dL_law_777 rfl ?_
  refine hr_iload_n o 3 dL_law_778 rfl ?_
  refine hr_iconst o (2 : Int32) dL_law_779 (by decide) ?_
  refine hr_iadd o dL_law_780 ?_
  refine hx_paild o (by simp [hf_tys]) dL_law_781 (fun x2 => ?_)
  refine hr_aload_n o 0 dL_law_782 rfl ?_
  refine hr_iload_n o 3 dL_law_783 rfl ?_
  refine hr_iconst o (3 : Int32) dL_law_784 (by decide) ?_
  refine hr_iadd o dL_law_785 ?_
  refine hx_paild o (by simp [hf_tys]) dL_law_786 (fun x3 => ?_)
  refine hr_aload_n o 0 dL_law_787 rfl ?_
  refine hr_iload_n o 3 dL_law_788 rfl ?_
  refine hr_iconst o (4 : Int32) dL_law_789 (by decide) ?_
  refine hr_iadd o dL_law_790 ?_
  refine hx_paild o (by simp [hf_tys]) dL_law_791 (fun x4 => ?_)
  refine hr_aload_n o 0 dL_law_792 rfl ?_
  refine hr_iload_n o 3 dL_law_793 rfl ?_
  refine hr_iconst o (5 : Int32) dL_law_794 (by decide) ?_
  refine hr_iadd o dL_law_795 ?_
  refine hx_paild o (by simp [hf_tys]) dL_law_796 (fun x5 => ?_)
  refine hx_callVI (q := (RX0, TX0, 23)) o og mvL_95 dL_law_797 1 0 rfl [.int x1, .int x2, .int x3, .int x4, .int x5] (fun zr zg ze => mtX0_yields l1 x1 x2 x3 x4 x5 V0 zr zg ze) rfl rfl (Nat.le_of_ble_eq_true rfl) ⟨by decide, by decide⟩ (fun x7 g6 => ?_)
  refine hr_aload_n o 2 dL_law_800 rfl ?_
  refine hr_aload_n o 0 dL_law_801 rfl ?_
  refine hr_iload_n o 3 dL_law_802 rfl ?_
  refine hr_iconst o (1 : Int32) dL_law_803 (by decide) ?_
  refine hr_iadd o dL_law_804 ?_
  refine hx_paild o (by simp [hf_tys]) dL_law_805 (fun x8 => ?_)
  refine hr_aload_n o 0 dL_law_806 rfl ?_
  refine hr_iload_n o 3 dL_law_807 rfl ?_
  refine hr_iconst o (2 : Int32) dL_law_808 (by decide) ?_
  refine hr_iadd o dL_law_809 ?_
  refine hx_paild o (by simp [hf_tys]) dL_law_810 (fun x9 => ?_)
  refine hr_aload_n o 0 dL_law_811 rfl ?_
  refine hr_iload_n o 3 dL_law_812 rfl ?_
  refine hr_iconst o (3 : Int32) dL_law_813 (by decide) ?_
  refine hr_iadd o dL_law_814 ?_
  refine hx_paild o (by simp [hf_tys]) dL_law_815 (fun x10 => ?_)
  refine hr_aload_n o 0 dL_law_816 rfl ?_
  refine hr_iload_n o 3 dL_law_817 rfl ?_
  refine hr_iconst o (4 : Int32) dL_law_818 (by decide) ?_
  refine hr_iadd o dL_law_819 ?_
  refine hx_paild o (by simp [hf_tys]) dL_law_820 (fun x11 => ?_)
  refine hr_aload_n o 0 dL_law_821 rfl ?_
  refine hr_iload_n o 3 dL_law_822 rfl ?_
  refine hr_iconst o (5 : Int32) dL_law_823 (by decide) ?_
  refine hr_iadd o dL_law_824 ?_
  refine hx_paild o (by simp [hf_tys]) dL_law_825 (fun x12 => ?_)
  refine hL_callM (dv := fun r => .int r) o mvL_98 dL_law_826 [.int x8, .int x9, .int x10, .int x11, .int x12] (fun zV zr zW ze => mtX4_yields x8 x9 x10 x11 x12 zV zr zW ze) rfl rfl (Nat.le_of_ble_eq_true rfl) ⟨by decide, by decide⟩ (fun x13 g14 => ?_)
  refine hr_icmp_eq o 1137 dL_law_829 (by decide) (fun _ => ?_) (fun _ => ?_)
  · exact nlL_law_1137 o og oL k18 hk18 l0 l1 l2 l3 g14
  refine hr_iconst o (0 : Int32) dL_law_832 (by decide) ?_
  exact hr_none
def ndL_law_834 (gs : hf_gs) (N : Nat × Nat) (k18 : Nat → Nat → Nat → Int32 → hf_H → Option hf_H) (l0 : Nat) (l1 : Nat) (l2 : Nat) (l3 : Int32) (V0 : hf_H) : Option hf_H :=
  (hf_pai .int V0 l0 (l3 + (1 : Int32))).bind fun x1 =>
  (hf_pai .int V0 l0 (l3 + (2 : Int32))).bind fun x2 =>
  (hf_ob 1 0 V0 l1).bind fun _ =>
  hf_b2 (spX0_cry l1 x1 x2 V0) fun x4 g3 =>
  (hf_pai .int g3 l0 (l3 + (1 : Int32))).bind fun x5 =>
  (hf_pai .int g3 l0 (l3 + (2 : Int32))).bind fun x6 =>
  hf_cm g3 l2 (fun zV => spX4_cry x5 x6 zV) fun x7 g8 =>
  if x4 = x7 then (ndL_law_1137 gs N k18 l0 l1 l2 l3 g8) else
  none
theorem nlL_law_834 {C : hf_X} {gs : hf_gs} {N : Nat × Nat} (o : hf_In C cL_law RL 4 (some .boolean) 8192 100000) (og : hf_G C gs) (oL : hf_Lw C) (k18 : Nat → Nat → Nat → Int32 → hf_H → Option hf_H) (hk18 : ∀ (l0 : Nat) (l1 : Nat) (l2 : Nat) (l3 : Int32) (V0 : hf_H), hf_J C (hf_dL N) (k18 l0 l1 l2 l3 V0) V0 18 [(0, .ref l0), (1, .ref l1), (2, .ref l2), (3, .int l3)] []) (l0 : Nat) (l1 : Nat) (l2 : Nat) (l3 : Int32) (V0 : hf_H) : hf_J C (hf_dL N) (ndL_law_834 gs N k18 l0 l1 l2 l3 V0) V0 834 [(0, .ref l0), (1, .ref l1), (2, .ref l2), (3, .int l3)] [] := by
  refine hr_aload_n o 1 dL_law_834 rfl ?_
  refine hr_aload_n o 0 dL_law_835 rfl ?_
  refine hr_iload_n o 3 dL_law_836 rfl ?_
  refine hr_iconst o (1 : Int32) dL_law_837 (by decide) ?_
  refine hr_iadd o dL_law_838 ?_
  refine hx_paild o (by simp [hf_tys]) dL_law_839 (fun x1 => ?_)
  refine hr_aload_n o 0 dL_law_840 rfl ?_
  refine hr_iload_n o 3 dL_law_841 rfl ?_
  refine hr_iconst o (2 : Int32) dL_law_842 (by decide) ?_
  refine hr_iadd o dL_law_843 ?_
  refine hx_paild o (by simp [hf_tys]) dL_law_844 (fun x2 => ?_)
  refine hx_callVI (q := (RX0, TX0, 23)) o og mvL_99 dL_law_845 1 0 rfl [.int x1, .int x2] (fun zr zg ze => mtX0_cry l1 x1 x2 V0 zr zg ze) rfl rfl (Nat.le_of_ble_eq_true rfl) ⟨by decide, by decide⟩ (fun x4 g3 => ?_)
  refine hr_aload_n o 2 dL_law_848 rfl ?_
  refine hr_aload_n o 0 dL_law_849 rfl ?_
  refine hr_iload_n o 3 dL_law_850 rfl ?_
  refine hr_iconst o (1 : Int32) dL_law_851 (by decide) ?_
  refine hr_iadd o dL_law_852 ?_
  refine hx_paild o (by simp [hf_tys]) dL_law_853 (fun x5 => ?_)
  refine hr_aload_n o 0 dL_law_854 rfl ?_
  refine hr_iload_n o 3 dL_law_855 rfl ?_
  refine hr_iconst o (2 : Int32) dL_law_856 (by decide) ?_
  refine hr_iadd o dL_law_857 ?_
  refine hx_paild o (by simp [hf_tys]) dL_law_858 (fun x6 => ?_)
  refine hL_callM (dv := fun r => .int r) o mvL_102 dL_law_859 [.int x5, .int x6] (fun zV zr zW ze => mtX4_cry x5 x6 zV zr zW ze) rfl rfl (Nat.le_of_ble_eq_true rfl) ⟨by decide, by decide⟩ (fun x7 g8 => ?_)
  refine hr_icmp_eq o 1137 dL_law_862 (by decide) (fun _ => ?_) (fun _ => ?_)
  · exact nlL_law_1137 o og oL k18 hk18 l0 l1 l2 l3 g8
  refine hr_iconst o (0 : Int32) dL_law_865 (by decide) ?_
  exact hr_none
def ndL_law_867 (gs : hf_gs) (N : Nat × Nat) (k18 : Nat → Nat → Nat → Int32 → hf_H → Option hf_H) (l0 : Nat) (l1 : Nat) (l2 : Nat) (l3 : Int32) (V0 : hf_H) : Option hf_H :=
  (hf_pai .int V0 l0 (l3 + (1 : Int32))).bind fun x1 =>
  (hf_pai .int V0 l0 (l3 + (2 : Int32))).bind fun x2 =>
  (hf_pai .int V0 l0 (l3 + (3 : Int32))).bind fun x3 =>
  (hf_ob 1 0 V0 l1).bind fun _ =>
  hf_b2 (spX0_bring l1 x1 x2 x3 V0) fun x5 g4 =>
  (hf_pai .int g4 l0 (l3 + (1 : Int32))).bind fun x6 =>
  (hf_pai .int g4 l0 (l3 + (2 : Int32))).bind fun x7 =>
  (hf_pai .int g4 l0 (l3 + (3 : Int32))).bind fun x8 =>
  hf_cm g4 l2 (fun zV => spX4_bring x6 x7 x8 zV) fun x9 g10 =>
  if x5 = x9 then (ndL_law_1137 gs N k18 l0 l1 l2 l3 g10) else
  none
theorem nlL_law_867 {C : hf_X} {gs : hf_gs} {N : Nat × Nat} (o : hf_In C cL_law RL 4 (some .boolean) 8192 100000) (og : hf_G C gs) (oL : hf_Lw C) (k18 : Nat → Nat → Nat → Int32 → hf_H → Option hf_H) (hk18 : ∀ (l0 : Nat) (l1 : Nat) (l2 : Nat) (l3 : Int32) (V0 : hf_H), hf_J C (hf_dL N) (k18 l0 l1 l2 l3 V0) V0 18 [(0, .ref l0), (1, .ref l1), (2, .ref l2), (3, .int l3)] []) (l0 : Nat) (l1 : Nat) (l2 : Nat) (l3 : Int32) (V0 : hf_H) : hf_J C (hf_dL N) (ndL_law_867 gs N k18 l0 l1 l2 l3 V0) V0 867 [(0, .ref l0), (1, .ref l1), (2, .ref l2), (3, .int l3)] [] := by
  refine hr_aload_n o 1 dL_law_867 rfl ?_
  refine hr_aload_n o 0 dL_law_868 rfl ?_
  refine hr_iload_n o 3 dL_law_869 rfl ?_
  refine hr_iconst o (1 : Int32) dL_law_870 (by decide) ?_
  refine hr_iadd o dL_law_871 ?_
  refine hx_paild o (by simp [hf_tys]) dL_law_872 (fun x1 => ?_)
  refine hr_aload_n o 0 dL_law_873 rfl ?_
  refine hr_iload_n o 3 dL_law_874 rfl ?_
  refine hr_iconst o (2 : Int32) dL_law_875 (by decide) ?_
  refine hr_iadd o dL_law_876 ?_
  refine hx_paild o (by simp [hf_tys]) dL_law_877 (fun x2 => ?_)
  refine hr_aload_n o 0 dL_law_878 rfl ?_
  refine hr_iload_n o 3 dL_law_879 rfl ?_
  refine hr_iconst o (3 : Int32) dL_law_880 (by decide) ?_
  refine hr_iadd o dL_law_881 ?_
  refine hx_paild o (by simp [hf_tys]) dL_law_882 (fun x3 => ?_)
  refine hx_callVI (q := (RX0, TX0, 23)) o og mvL_103 dL_law_883 1 0 rfl [.int x1, .int x2, .int x3] (fun zr zg ze => mtX0_bring l1 x1 x2 x3 V0 zr zg ze) rfl rfl (Nat.le_of_ble_eq_true rfl) ⟨by decide, by decide⟩ (fun x5 g4 => ?_)
  refine hr_aload_n o 2 dL_law_886 rfl ?_
  refine hr_aload_n o 0 dL_law_887 rfl ?_
  refine hr_iload_n o 3 dL_law_888 rfl ?_
  refine hr_iconst o (1 : Int32) dL_law_889 (by decide) ?_
  refine hr_iadd o dL_law_890 ?_
  refine hx_paild o (by simp [hf_tys]) dL_law_891 (fun x6 => ?_)
  refine hr_aload_n o 0 dL_law_892 rfl ?_
  refine hr_iload_n o 3 dL_law_893 rfl ?_
  refine hr_iconst o (2 : Int32) dL_law_894 (by decide) ?_
  refine hr_iadd o dL_law_895 ?_
  refine hx_paild o (by simp [hf_tys]) dL_law_896 (fun x7 => ?_)
  refine hr_aload_n o 0 dL_law_897 rfl ?_
  refine hr_iload_n o 3 dL_law_898 rfl ?_
  refine hr_iconst o (3 : Int32) dL_law_899 (by decide) ?_
  refine hr_iadd o dL_law_900 ?_
  refine hx_paild o (by simp [hf_tys]) dL_law_901 (fun x8 => ?_)
  refine hL_callM (dv := fun r => .int r) o mvL_106 dL_law_902 [.int x6, .int x7, .int x8] (fun zV zr zW ze => mtX4_bring x6 x7 x8 zV zr zW ze) rfl rfl (Nat.le_of_ble_eq_true rfl) ⟨by decide, by decide⟩ (fun x9 g10 => ?_)
  refine hr_icmp_eq o 1137 dL_law_905 (by decide) (fun _ => ?_) (fun _ => ?_)
  · exact nlL_law_1137 o og oL k18 hk18 l0 l1 l2 l3 g10
  refine hr_iconst o (0 : Int32) dL_law_908 (by decide) ?_
  exact hr_none
def ndL_law_961 (gs : hf_gs) (N : Nat × Nat) (k18 : Nat → Nat → Nat → Int32 → hf_H → Option hf_H) (l0 : Nat) (l1 : Nat) (l2 : Nat) (l3 : Int32) (s0 : Int32) (s1 : Nat) (s2 : Int32) (s3 : Int32) (s4 : Int32) (V0 : hf_H) : Option hf_H :=
  hf_cm V0 s1 (fun zV => spX4_trial s2 s3 s4 zV) fun x1 g2 =>
  if s0 = x1 then (ndL_law_1137 gs N k18 l0 l1 l2 l3 g2) else
  none
theorem nlL_law_961 {C : hf_X} {gs : hf_gs} {N : Nat × Nat} (o : hf_In C cL_law RL 4 (some .boolean) 8192 100000) (og : hf_G C gs) (oL : hf_Lw C) (k18 : Nat → Nat → Nat → Int32 → hf_H → Option hf_H) (hk18 : ∀ (l0 : Nat) (l1 : Nat) (l2 : Nat) (l3 : Int32) (V0 : hf_H), hf_J C (hf_dL N) (k18 l0 l1 l2 l3 V0) V0 18 [(0, .ref l0), (1, .ref l1), (2, .ref l2), (3, .int l3)] []) (l0 : Nat) (l1 : Nat) (l2 : Nat) (l3 : Int32) (s0 : Int32) (s1 : Nat) (s2 : Int32) (s3 : Int32) (s4 : Int32) (V0 : hf_H) : hf_J C (hf_dL N) (ndL_law_961 gs N k18 l0 l1 l2 l3 s0 s1 s2 s3 s4 V0) V0 961 [(0, .ref l0), (1, .ref l1), (2, .ref l2), (3, .int l3)] [.int s4, .int s3, .int s2, .ref s1, .int s0] := by
  refine hL_callM (dv := fun r => .int r) o mvL_111 dL_law_961 [.int s2, .int s3, .int s4] (fun zV zr zW ze => mtX4_trial s2 s3 s4 zV zr zW ze) rfl rfl (Nat.le_of_ble_eq_true rfl) ⟨by decide, by decide⟩ (fun x1 g2 => ?_)
  refine hr_icmp_eq o 1137 dL_law_964 (by decide) (fun _ => ?_) (fun _ => ?_)
  · exact nlL_law_1137 o og oL k18 hk18 l0 l1 l2 l3 g2
  refine hr_iconst o (0 : Int32) dL_law_967 (by decide) ?_
  exact hr_none
def ndL_law_934 (gs : hf_gs) (N : Nat × Nat) (k18 : Nat → Nat → Nat → Int32 → hf_H → Option hf_H) (l0 : Nat) (l1 : Nat) (l2 : Nat) (l3 : Int32) (s0 : Nat) (s1 : Int32) (s2 : Int32) (s3 : Int32) (V0 : hf_H) : Option hf_H :=
  (hf_ob 1 0 V0 s0).bind fun _ =>
  hf_b2 (spX0_trial s0 s1 s2 s3 V0) fun x2 g1 =>
  (hf_pai .int g1 l0 (l3 + (1 : Int32))).bind fun x3 =>
  (hf_pai .int g1 l0 (l3 + (2 : Int32))).bind fun x4 =>
  (hf_pai .int g1 l0 (l3 + (3 : Int32))).bind fun x5 =>
  if x5 = 0 then (ndL_law_961 gs N k18 l0 l1 l2 l3 x2 l2 x3 x4 (0 : Int32) g1) else
  ndL_law_961 gs N k18 l0 l1 l2 l3 x2 l2 x3 x4 (1 : Int32) g1
theorem nlL_law_934 {C : hf_X} {gs : hf_gs} {N : Nat × Nat} (o : hf_In C cL_law RL 4 (some .boolean) 8192 100000) (og : hf_G C gs) (oL : hf_Lw C) (k18 : Nat → Nat → Nat → Int32 → hf_H → Option hf_H) (hk18 : ∀ (l0 : Nat) (l1 : Nat) (l2 : Nat) (l3 : Int32) (V0 : hf_H), hf_J C (hf_dL N) (k18 l0 l1 l2 l3 V0) V0 18 [(0, .ref l0), (1, .ref l1), (2, .ref l2), (3, .int l3)] []) (l0 : Nat) (l1 : Nat) (l2 : Nat) (l3 : Int32) (s0 : Nat) (s1 : Int32) (s2 : Int32) (s3 : Int32) (V0 : hf_H) : hf_J C (hf_dL N) (ndL_law_934 gs N k18 l0 l1 l2 l3 s0 s1 s2 s3 V0) V0 934 [(0, .ref l0), (1, .ref l1), (2, .ref l2), (3, .int l3)] [.int s3, .int s2, .int s1, .ref s0] := by
  refine hx_callVI (q := (RX0, TX0, 23)) o og mvL_107 dL_law_934 1 0 rfl [.int s1, .int s2, .int s3] (fun zr zg ze => mtX0_trial s0 s1 s2 s3 V0 zr zg ze) rfl rfl (Nat.le_of_ble_eq_true rfl) ⟨by decide, by decide⟩ (fun x2 g1 => ?_)
  refine hr_aload_n o 2 dL_law_937 rfl ?_
  refine hr_aload_n o 0 dL_law_938 rfl ?_
  refine hr_iload_n o 3 dL_law_939 rfl ?_
  refine hr_iconst o (1 : Int32) dL_law_940 (by decide) ?_
  refine hr_iadd o dL_law_941 ?_
  refine hx_paild o (by simp [hf_tys]) dL_law_942 (fun x3 => ?_)
  refine hr_aload_n o 0 dL_law_943 rfl ?_
  refine hr_iload_n o 3 dL_law_944 rfl ?_
  refine hr_iconst o (2 : Int32) dL_law_945 (by decide) ?_
  refine hr_iadd o dL_law_946 ?_
  refine hx_paild o (by simp [hf_tys]) dL_law_947 (fun x4 => ?_)
  refine hr_aload_n o 0 dL_law_948 rfl ?_
  refine hr_iload_n o 3 dL_law_949 rfl ?_
  refine hr_iconst o (3 : Int32) dL_law_950 (by decide) ?_
  refine hr_iadd o dL_law_951 ?_
  refine hx_paild o (by simp [hf_tys]) dL_law_952 (fun x5 => ?_)
  refine hr_if_eq o 960 dL_law_953 (by decide) (fun _ => ?_) (fun _ => ?_)
  · refine hr_iconst o (0 : Int32) dL_law_960 (by decide) ?_
    exact nlL_law_961 o og oL k18 hk18 l0 l1 l2 l3 x2 l2 x3 x4 (0 : Int32) g1
  refine hr_iconst o (1 : Int32) dL_law_956 (by decide) ?_
  refine hr_goto o 961 dL_law_957 (by decide) ?_
  exact nlL_law_961 o og oL k18 hk18 l0 l1 l2 l3 x2 l2 x3 x4 (1 : Int32) g1
def ndL_law_910 (gs : hf_gs) (N : Nat × Nat) (k18 : Nat → Nat → Nat → Int32 → hf_H → Option hf_H) (l0 : Nat) (l1 : Nat) (l2 : Nat) (l3 : Int32) (V0 : hf_H) : Option hf_H :=
  (hf_pai .int V0 l0 (l3 + (1 : Int32))).bind fun x1 =>
  (hf_pai .int V0 l0 (l3 + (2 : Int32))).bind fun x2 =>
  (hf_pai .int V0 l0 (l3 + (3 : Int32))).bind fun x3 =>
  if x3 = 0 then (ndL_law_934 gs N k18 l0 l1 l2 l3 l1 x1 x2 (0 : Int32) V0) else
  ndL_law_934 gs N k18 l0 l1 l2 l3 l1 x1 x2 (1 : Int32) V0
theorem nlL_law_910 {C : hf_X} {gs : hf_gs} {N : Nat × Nat} (o : hf_In C cL_law RL 4 (some .boolean) 8192 100000) (og : hf_G C gs) (oL : hf_Lw C) (k18 : Nat → Nat → Nat → Int32 → hf_H → Option hf_H) (hk18 : ∀ (l0 : Nat) (l1 : Nat) (l2 : Nat) (l3 : Int32) (V0 : hf_H), hf_J C (hf_dL N) (k18 l0 l1 l2 l3 V0) V0 18 [(0, .ref l0), (1, .ref l1), (2, .ref l2), (3, .int l3)] []) (l0 : Nat) (l1 : Nat) (l2 : Nat) (l3 : Int32) (V0 : hf_H) : hf_J C (hf_dL N) (ndL_law_910 gs N k18 l0 l1 l2 l3 V0) V0 910 [(0, .ref l0), (1, .ref l1), (2, .ref l2), (3, .int l3)] [] := by
  refine hr_aload_n o 1 dL_law_910 rfl ?_
  refine hr_aload_n o 0 dL_law_911 rfl ?_
  refine hr_iload_n o 3 dL_law_912 rfl ?_
  refine hr_iconst o (1 : Int32) dL_law_913 (by decide) ?_
  refine hr_iadd o dL_law_914 ?_
  refine hx_paild o (by simp [hf_tys]) dL_law_915 (fun x1 => ?_)
  refine hr_aload_n o 0 dL_law_916 rfl ?_
  refine hr_iload_n o 3 dL_law_917 rfl ?_
  refine hr_iconst o (2 : Int32) dL_law_918 (by decide) ?_
  refine hr_iadd o dL_law_919 ?_
  refine hx_paild o (by simp [hf_tys]) dL_law_920 (fun x2 => ?_)
  refine hr_aload_n o 0 dL_law_921 rfl ?_
  refine hr_iload_n o 3 dL_law_922 rfl ?_
  refine hr_iconst o (3 : Int32) dL_law_923 (by decide) ?_
  refine hr_iadd o dL_law_924 ?_
  refine hx_paild o (by simp [hf_tys]) dL_law_925 (fun x3 => ?_)
  refine hr_if_eq o 933 dL_law_926 (by decide) (fun _ => ?_) (fun _ => ?_)
  · refine hr_iconst o (0 : Int32) dL_law_933 (by decide) ?_
    exact nlL_law_934 o og oL k18 hk18 l0 l1 l2 l3 l1 x1 x2 (0 : Int32) V0
  refine hr_iconst o (1 : Int32) dL_law_929 (by decide) ?_
  refine hr_goto o 934 dL_law_930 (by decide) ?_
  exact nlL_law_934 o og oL k18 hk18 l0 l1 l2 l3 l1 x1 x2 (1 : Int32) V0
def ndL_law_969 (gs : hf_gs) (N : Nat × Nat) (k18 : Nat → Nat → Nat → Int32 → hf_H → Option hf_H) (l0 : Nat) (l1 : Nat) (l2 : Nat) (l3 : Int32) (V0 : hf_H) : Option hf_H :=
  (hf_pai .int V0 l0 (l3 + (1 : Int32))).bind fun x1 =>
  (hf_ob 1 0 V0 l1).bind fun _ =>
  hf_b2 (spX0_forgers l1 x1 V0) fun x3 g2 =>
  (hf_pai .int g2 l0 (l3 + (1 : Int32))).bind fun x4 =>
  hf_cm g2 l2 (fun zV => spX4_forgers x4 zV) fun x5 g6 =>
  if x3 = x5 then (ndL_law_1137 gs N k18 l0 l1 l2 l3 g6) else
  none
theorem nlL_law_969 {C : hf_X} {gs : hf_gs} {N : Nat × Nat} (o : hf_In C cL_law RL 4 (some .boolean) 8192 100000) (og : hf_G C gs) (oL : hf_Lw C) (k18 : Nat → Nat → Nat → Int32 → hf_H → Option hf_H) (hk18 : ∀ (l0 : Nat) (l1 : Nat) (l2 : Nat) (l3 : Int32) (V0 : hf_H), hf_J C (hf_dL N) (k18 l0 l1 l2 l3 V0) V0 18 [(0, .ref l0), (1, .ref l1), (2, .ref l2), (3, .int l3)] []) (l0 : Nat) (l1 : Nat) (l2 : Nat) (l3 : Int32) (V0 : hf_H) : hf_J C (hf_dL N) (ndL_law_969 gs N k18 l0 l1 l2 l3 V0) V0 969 [(0, .ref l0), (1, .ref l1), (2, .ref l2), (3, .int l3)] [] := by
  refine hr_aload_n o 1 dL_law_969 rfl ?_
  refine hr_aload_n o 0 dL_law_970 rfl ?_
  refine hr_iload_n o 3 dL_law_971 rfl ?_
  refine hr_iconst o (1 : Int32) dL_law_972 (by decide) ?_
  refine hr_iadd o dL_law_973 ?_
  refine hx_paild o (by simp [hf_tys]) dL_law_974 (fun x1 => ?_)
  refine hx_callVI (q := (RX0, TX0, 23)) o og mvL_112 dL_law_975 1 0 rfl [.int x1] (fun zr zg ze => mtX0_forgers l1 x1 V0 zr zg ze) rfl rfl (Nat.le_of_ble_eq_true rfl) ⟨by decide, by decide⟩ (fun x3 g2 => ?_)
  refine hr_aload_n o 2 dL_law_978 rfl ?_
  refine hr_aload_n o 0 dL_law_979 rfl ?_
  refine hr_iload_n o 3 dL_law_980 rfl ?_
  refine hr_iconst o (1 : Int32) dL_law_981 (by decide) ?_
  refine hr_iadd o dL_law_982 ?_
  refine hx_paild o (by simp [hf_tys]) dL_law_983 (fun x4 => ?_)
  refine hL_callM (dv := fun r => .int r) o mvL_115 dL_law_984 [.int x4] (fun zV zr zW ze => mtX4_forgers x4 zV zr zW ze) rfl rfl (Nat.le_of_ble_eq_true rfl) ⟨by decide, by decide⟩ (fun x5 g6 => ?_)
  refine hr_icmp_eq o 1137 dL_law_987 (by decide) (fun _ => ?_) (fun _ => ?_)
  · exact nlL_law_1137 o og oL k18 hk18 l0 l1 l2 l3 g6
  refine hr_iconst o (0 : Int32) dL_law_990 (by decide) ?_
  exact hr_none
def ndL_law_992 (gs : hf_gs) (N : Nat × Nat) (k18 : Nat → Nat → Nat → Int32 → hf_H → Option hf_H) (l0 : Nat) (l1 : Nat) (l2 : Nat) (l3 : Int32) (V0 : hf_H) : Option hf_H :=
  (hf_pai .int V0 l0 (l3 + (1 : Int32))).bind fun x1 =>
  (hf_ob 1 0 V0 l1).bind fun _ =>
  hf_b2 (spX0_seed l1 x1 V0) fun x3 g2 =>
  (hf_pai .int g2 l0 (l3 + (1 : Int32))).bind fun x4 =>
  hf_cm g2 l2 (fun zV => spX4_seed x4 zV) fun x5 g6 =>
  if x3 = x5 then (ndL_law_1137 gs N k18 l0 l1 l2 l3 g6) else
  none
theorem nlL_law_992 {C : hf_X} {gs : hf_gs} {N : Nat × Nat} (o : hf_In C cL_law RL 4 (some .boolean) 8192 100000) (og : hf_G C gs) (oL : hf_Lw C) (k18 : Nat → Nat → Nat → Int32 → hf_H → Option hf_H) (hk18 : ∀ (l0 : Nat) (l1 : Nat) (l2 : Nat) (l3 : Int32) (V0 : hf_H), hf_J C (hf_dL N) (k18 l0 l1 l2 l3 V0) V0 18 [(0, .ref l0), (1, .ref l1), (2, .ref l2), (3, .int l3)] []) (l0 : Nat) (l1 : Nat) (l2 : Nat) (l3 : Int32) (V0 : hf_H) : hf_J C (hf_dL N) (ndL_law_992 gs N k18 l0 l1 l2 l3 V0) V0 992 [(0, .ref l0), (1, .ref l1), (2, .ref l2), (3, .int l3)] [] := by
  refine hr_aload_n o 1 dL_law_992 rfl ?_
  refine hr_aload_n o 0 dL_law_993 rfl ?_
  refine hr_iload_n o 3 dL_law_994 rfl ?_
  refine hr_iconst o (1 : Int32) dL_law_995 (by decide) ?_
  refine hr_iadd o dL_law_996 ?_
  refine hx_paild o (by simp [hf_tys]) dL_law_997 (fun x1 => ?_)
  refine hx_callVI (q := (RX0, TX0, 23)) o og mvL_116 dL_law_998 1 0 rfl [.int x1] (fun zr zg ze => mtX0_seed l1 x1 V0 zr zg ze) rfl rfl (Nat.le_of_ble_eq_true rfl) ⟨by decide, by decide⟩ (fun x3 g2 => ?_)
  refine hr_aload_n o 2 dL_law_1001 rfl ?_
  refine hr_aload_n o 0 dL_law_1002 rfl ?_
  refine hr_iload_n o 3 dL_law_1003 rfl ?_
  refine hr_iconst o (1 : Int32) dL_law_1004 (by decide) ?_
  refine hr_iadd o dL_law_1005 ?_
  refine hx_paild o (by simp [hf_tys]) dL_law_1006 (fun x4 => ?_)
  refine hL_callM (dv := fun r => .int r) o mvL_119 dL_law_1007 [.int x4] (fun zV zr zW ze => mtX4_seed x4 zV zr zW ze) rfl rfl (Nat.le_of_ble_eq_true rfl) ⟨by decide, by decide⟩ (fun x5 g6 => ?_)
  refine hr_icmp_eq o 1137 dL_law_1010 (by decide) (fun _ => ?_) (fun _ => ?_)
  · exact nlL_law_1137 o og oL k18 hk18 l0 l1 l2 l3 g6
  refine hr_iconst o (0 : Int32) dL_law_1013 (by decide) ?_
  exact hr_none
def ndL_law_1015 (gs : hf_gs) (N : Nat × Nat) (k18 : Nat → Nat → Nat → Int32 → hf_H → Option hf_H) (l0 : Nat) (l1 : Nat) (l2 : Nat) (l3 : Int32) (V0 : hf_H) : Option hf_H :=
  (hf_pai .int V0 l0 (l3 + (1 : Int32))).bind fun x1 =>
  (hf_pai .int V0 l0 (l3 + (2 : Int32))).bind fun x2 =>
  (hf_pai .int V0 l0 (l3 + (3 : Int32))).bind fun x3 =>
  (hf_pai .int V0 l0 (l3 + (4 : Int32))).bind fun x4 =>
  (hf_ob 1 0 V0 l1).bind fun _ =>
  hf_b2 (spX0_fairs l1 x1 x2 x3 x4 V0) fun x6 g5 =>
  (hf_pai .int g5 l0 (l3 + (1 : Int32))).bind fun x7 =>
  (hf_pai .int g5 l0 (l3 + (2 : Int32))).bind fun x8 =>
  (hf_pai .int g5 l0 (l3 + (3 : Int32))).bind fun x9 =>
  (hf_pai .int g5 l0 (l3 + (4 : Int32))).bind fun x10 =>
  hf_cm g5 l2 (fun zV => spX4_fairs x7 x8 x9 x10 zV) fun x11 g12 =>
  if x6 = x11 then (ndL_law_1137 gs N k18 l0 l1 l2 l3 g12) else
  none
theorem nlL_law_1015 {C : hf_X} {gs : hf_gs} {N : Nat × Nat} (o : hf_In C cL_law RL 4 (some .boolean) 8192 100000) (og : hf_G C gs) (oL : hf_Lw C) (k18 : Nat → Nat → Nat → Int32 → hf_H → Option hf_H) (hk18 : ∀ (l0 : Nat) (l1 : Nat) (l2 : Nat) (l3 : Int32) (V0 : hf_H), hf_J C (hf_dL N) (k18 l0 l1 l2 l3 V0) V0 18 [(0, .ref l0), (1, .ref l1), (2, .ref l2), (3, .int l3)] []) (l0 : Nat) (l1 : Nat) (l2 : Nat) (l3 : Int32) (V0 : hf_H) : hf_J C (hf_dL N) (ndL_law_1015 gs N k18 l0 l1 l2 l3 V0) V0 1015 [(0, .ref l0), (1, .ref l1), (2, .ref l2), (3, .int l3)] [] := by
  refine hr_aload_n o 1 dL_law_1015 rfl ?_
  refine hr_aload_n o 0 dL_law_1016 rfl ?_
  refine hr_iload_n o 3 dL_law_1017 rfl ?_
  refine hr_iconst o (1 : Int32) dL_law_1018 (by decide) ?_
  refine hr_iadd o dL_law_1019 ?_
  refine hx_paild o (by simp [hf_tys]) dL_law_1020 (fun x1 => ?_)
  refine hr_aload_n o 0 dL_law_1021 rfl ?_
  refine hr_iload_n o 3 dL_law_1022 rfl ?_
  refine hr_iconst o (2 : Int32) dL_law_1023 (by decide) ?_
  refine hr_iadd o dL_law_1024 ?_
  refine hx_paild o (by simp [hf_tys]) dL_law_1025 (fun x2 => ?_)
  refine hr_aload_n o 0 dL_law_1026 rfl ?_
  refine hr_iload_n o 3 dL_law_1027 rfl ?_
  refine hr_iconst o (3 : Int32) dL_law_1028 (by decide) ?_
  refine hr_iadd o dL_law_1029 ?_
  refine hx_paild o (by simp [hf_tys]) dL_law_1030 (fun x3 => ?_)
  refine hr_aload_n o 0 dL_law_1031 rfl ?_
  refine hr_iload_n o 3 dL_law_1032 rfl ?_
  refine hr_iconst o (4 : Int32) dL_law_1033 (by decide) ?_
  refine hr_iadd o dL_law_1034 ?_
  refine hx_paild o (by simp [hf_tys]) dL_law_1035 (fun x4 => ?_)
  refine hx_callVI (q := (RX0, TX0, 23)) o og mvL_120 dL_law_1036 1 0 rfl [.int x1, .int x2, .int x3, .int x4] (fun zr zg ze => mtX0_fairs l1 x1 x2 x3 x4 V0 zr zg ze) rfl rfl (Nat.le_of_ble_eq_true rfl) ⟨by decide, by decide⟩ (fun x6 g5 => ?_)
  refine hr_aload_n o 2 dL_law_1039 rfl ?_
  refine hr_aload_n o 0 dL_law_1040 rfl ?_
  refine hr_iload_n o 3 dL_law_1041 rfl ?_
  refine hr_iconst o (1 : Int32) dL_law_1042 (by decide) ?_
  refine hr_iadd o dL_law_1043 ?_
  refine hx_paild o (by simp [hf_tys]) dL_law_1044 (fun x7 => ?_)
  refine hr_aload_n o 0 dL_law_1045 rfl ?_
  refine hr_iload_n o 3 dL_law_1046 rfl ?_
  refine hr_iconst o (2 : Int32) dL_law_1047 (by decide) ?_
  refine hr_iadd o dL_law_1048 ?_
  refine hx_paild o (by simp [hf_tys]) dL_law_1049 (fun x8 => ?_)
  refine hr_aload_n o 0 dL_law_1050 rfl ?_
  refine hr_iload_n o 3 dL_law_1051 rfl ?_
  refine hr_iconst o (3 : Int32) dL_law_1052 (by decide) ?_
  refine hr_iadd o dL_law_1053 ?_
  refine hx_paild o (by simp [hf_tys]) dL_law_1054 (fun x9 => ?_)
  refine hr_aload_n o 0 dL_law_1055 rfl ?_
  refine hr_iload_n o 3 dL_law_1056 rfl ?_
  refine hr_iconst o (4 : Int32) dL_law_1057 (by decide) ?_
  refine hr_iadd o dL_law_1058 ?_
  refine hx_paild o (by simp [hf_tys]) dL_law_1059 (fun x10 => ?_)
  refine hL_callM (dv := fun r => .int r) o mvL_124 dL_law_1060 [.int x7, .int x8, .int x9, .int x10] (fun zV zr zW ze => mtX4_fairs x7 x8 x9 x10 zV zr zW ze) rfl rfl (Nat.le_of_ble_eq_true rfl) ⟨by decide, by decide⟩ (fun x11 g12 => ?_)
  refine hr_icmp_eq o 1137 dL_law_1063 (by decide) (fun _ => ?_) (fun _ => ?_)
  · exact nlL_law_1137 o og oL k18 hk18 l0 l1 l2 l3 g12
  refine hr_iconst o (0 : Int32) dL_law_1066 (by decide) ?_
  exact hr_none
def ndL_law_1068 (gs : hf_gs) (N : Nat × Nat) (k18 : Nat → Nat → Nat → Int32 → hf_H → Option hf_H) (l0 : Nat) (l1 : Nat) (l2 : Nat) (l3 : Int32) (V0 : hf_H) : Option hf_H :=
  (hf_pai .int V0 l0 (l3 + (1 : Int32))).bind fun x1 =>
  (hf_ob 1 0 V0 l1).bind fun _ =>
  hf_b2 (spX0_count l1 x1 V0) fun x3 g2 =>
  (hf_pai .int g2 l0 (l3 + (1 : Int32))).bind fun x4 =>
  hf_cm g2 l2 (fun zV => spX4_count x4 zV) fun x5 g6 =>
  if x3 = x5 then (ndL_law_1137 gs N k18 l0 l1 l2 l3 g6) else
  none
theorem nlL_law_1068 {C : hf_X} {gs : hf_gs} {N : Nat × Nat} (o : hf_In C cL_law RL 4 (some .boolean) 8192 100000) (og : hf_G C gs) (oL : hf_Lw C) (k18 : Nat → Nat → Nat → Int32 → hf_H → Option hf_H) (hk18 : ∀ (l0 : Nat) (l1 : Nat) (l2 : Nat) (l3 : Int32) (V0 : hf_H), hf_J C (hf_dL N) (k18 l0 l1 l2 l3 V0) V0 18 [(0, .ref l0), (1, .ref l1), (2, .ref l2), (3, .int l3)] []) (l0 : Nat) (l1 : Nat) (l2 : Nat) (l3 : Int32) (V0 : hf_H) : hf_J C (hf_dL N) (ndL_law_1068 gs N k18 l0 l1 l2 l3 V0) V0 1068 [(0, .ref l0), (1, .ref l1), (2, .ref l2), (3, .int l3)] [] := by
  refine hr_aload_n o 1 dL_law_1068 rfl ?_
  refine hr_aload_n o 0 dL_law_1069 rfl ?_
  refine hr_iload_n o 3 dL_law_1070 rfl ?_
  refine hr_iconst o (1 : Int32) dL_law_1071 (by decide) ?_
  refine hr_iadd o dL_law_1072 ?_
  refine hx_paild o (by simp [hf_tys]) dL_law_1073 (fun x1 => ?_)
  refine hx_callVI (q := (RX0, TX0, 23)) o og mvL_125 dL_law_1074 1 0 rfl [.int x1] (fun zr zg ze => mtX0_count l1 x1 V0 zr zg ze) rfl rfl (Nat.le_of_ble_eq_true rfl) ⟨by decide, by decide⟩ (fun x3 g2 => ?_)
  refine hr_aload_n o 2 dL_law_1077 rfl ?_
  refine hr_aload_n o 0 dL_law_1078 rfl ?_
  refine hr_iload_n o 3 dL_law_1079 rfl ?_
  refine hr_iconst o (1 : Int32) dL_law_1080 (by decide) ?_
  refine hr_iadd o dL_law_1081 ?_
  refine hx_paild o (by simp [hf_tys]) dL_law_1082 (fun x4 => ?_)
  refine hL_callM (dv := fun r => .int r) o mvL_128 dL_law_1083 [.int x4] (fun zV zr zW ze => mtX4_count x4 zV zr zW ze) rfl rfl (Nat.le_of_ble_eq_true rfl) ⟨by decide, by decide⟩ (fun x5 g6 => ?_)
  refine hr_icmp_eq o 1137 dL_law_1086 (by decide) (fun _ => ?_) (fun _ => ?_)
  · exact nlL_law_1137 o og oL k18 hk18 l0 l1 l2 l3 g6
  refine hr_iconst o (0 : Int32) dL_law_1089 (by decide) ?_
  exact hr_none
def ndL_law_1091 (gs : hf_gs) (N : Nat × Nat) (k18 : Nat → Nat → Nat → Int32 → hf_H → Option hf_H) (l0 : Nat) (l1 : Nat) (l2 : Nat) (l3 : Int32) (V0 : hf_H) : Option hf_H :=
  (hf_pai .int V0 l0 (l3 + (1 : Int32))).bind fun x1 =>
  (hf_ob 1 0 V0 l1).bind fun _ =>
  hf_b2 (spX0_image l1 x1 V0) fun x3 g2 =>
  (hf_pai .int g2 l0 (l3 + (1 : Int32))).bind fun x4 =>
  hf_cm g2 l2 (fun zV => spX4_image x4 zV) fun x5 g6 =>
  if x3 = x5 then (ndL_law_1137 gs N k18 l0 l1 l2 l3 g6) else
  none
theorem nlL_law_1091 {C : hf_X} {gs : hf_gs} {N : Nat × Nat} (o : hf_In C cL_law RL 4 (some .boolean) 8192 100000) (og : hf_G C gs) (oL : hf_Lw C) (k18 : Nat → Nat → Nat → Int32 → hf_H → Option hf_H) (hk18 : ∀ (l0 : Nat) (l1 : Nat) (l2 : Nat) (l3 : Int32) (V0 : hf_H), hf_J C (hf_dL N) (k18 l0 l1 l2 l3 V0) V0 18 [(0, .ref l0), (1, .ref l1), (2, .ref l2), (3, .int l3)] []) (l0 : Nat) (l1 : Nat) (l2 : Nat) (l3 : Int32) (V0 : hf_H) : hf_J C (hf_dL N) (ndL_law_1091 gs N k18 l0 l1 l2 l3 V0) V0 1091 [(0, .ref l0), (1, .ref l1), (2, .ref l2), (3, .int l3)] [] := by
  refine hr_aload_n o 1 dL_law_1091 rfl ?_
  refine hr_aload_n o 0 dL_law_1092 rfl ?_
  refine hr_iload_n o 3 dL_law_1093 rfl ?_
  refine hr_iconst o (1 : Int32) dL_law_1094 (by decide) ?_
  refine hr_iadd o dL_law_1095 ?_
  refine hx_paild o (by simp [hf_tys]) dL_law_1096 (fun x1 => ?_)
  refine hx_callVI (q := (RX0, TX0, 23)) o og mvL_129 dL_law_1097 1 0 rfl [.int x1] (fun zr zg ze => mtX0_image l1 x1 V0 zr zg ze) rfl rfl (Nat.le_of_ble_eq_true rfl) ⟨by decide, by decide⟩ (fun x3 g2 => ?_)
  refine hr_aload_n o 2 dL_law_1100 rfl ?_
  refine hr_aload_n o 0 dL_law_1101 rfl ?_
  refine hr_iload_n o 3 dL_law_1102 rfl ?_
  refine hr_iconst o (1 : Int32) dL_law_1103 (by decide) ?_
  refine hr_iadd o dL_law_1104 ?_
  refine hx_paild o (by simp [hf_tys]) dL_law_1105 (fun x4 => ?_)
  refine hL_callM (dv := fun r => .int r) o mvL_132 dL_law_1106 [.int x4] (fun zV zr zW ze => mtX4_image x4 zV zr zW ze) rfl rfl (Nat.le_of_ble_eq_true rfl) ⟨by decide, by decide⟩ (fun x5 g6 => ?_)
  refine hr_icmp_eq o 1137 dL_law_1109 (by decide) (fun _ => ?_) (fun _ => ?_)
  · exact nlL_law_1137 o og oL k18 hk18 l0 l1 l2 l3 g6
  refine hr_iconst o (0 : Int32) dL_law_1112 (by decide) ?_
  exact hr_none
def ndL_law_1114 (gs : hf_gs) (N : Nat × Nat) (k18 : Nat → Nat → Nat → Int32 → hf_H → Option hf_H) (l0 : Nat) (l1 : Nat) (l2 : Nat) (l3 : Int32) (V0 : hf_H) : Option hf_H :=
  (hf_pai .int V0 l0 (l3 + (1 : Int32))).bind fun x1 =>
  (hf_ob 1 0 V0 l1).bind fun _ =>
  hf_b2 (spX0_back l1 x1 V0) fun x3 g2 =>
  (hf_pai .int g2 l0 (l3 + (1 : Int32))).bind fun x4 =>
  hf_cm g2 l2 (fun zV => spX4_back x4 zV) fun x5 g6 =>
  if x3 = x5 then (ndL_law_1137 gs N k18 l0 l1 l2 l3 g6) else
  none
theorem nlL_law_1114 {C : hf_X} {gs : hf_gs} {N : Nat × Nat} (o : hf_In C cL_law RL 4 (some .boolean) 8192 100000) (og : hf_G C gs) (oL : hf_Lw C) (k18 : Nat → Nat → Nat → Int32 → hf_H → Option hf_H) (hk18 : ∀ (l0 : Nat) (l1 : Nat) (l2 : Nat) (l3 : Int32) (V0 : hf_H), hf_J C (hf_dL N) (k18 l0 l1 l2 l3 V0) V0 18 [(0, .ref l0), (1, .ref l1), (2, .ref l2), (3, .int l3)] []) (l0 : Nat) (l1 : Nat) (l2 : Nat) (l3 : Int32) (V0 : hf_H) : hf_J C (hf_dL N) (ndL_law_1114 gs N k18 l0 l1 l2 l3 V0) V0 1114 [(0, .ref l0), (1, .ref l1), (2, .ref l2), (3, .int l3)] [] := by
  refine hr_aload_n o 1 dL_law_1114 rfl ?_
  refine hr_aload_n o 0 dL_law_1115 rfl ?_
  refine hr_iload_n o 3 dL_law_1116 rfl ?_
  refine hr_iconst o (1 : Int32) dL_law_1117 (by decide) ?_
  refine hr_iadd o dL_law_1118 ?_
  refine hx_paild o (by simp [hf_tys]) dL_law_1119 (fun x1 => ?_)
  refine hx_callVI (q := (RX0, TX0, 23)) o og mvL_133 dL_law_1120 1 0 rfl [.int x1] (fun zr zg ze => mtX0_back l1 x1 V0 zr zg ze) rfl rfl (Nat.le_of_ble_eq_true rfl) ⟨by decide, by decide⟩ (fun x3 g2 => ?_)
  refine hr_aload_n o 2 dL_law_1123 rfl ?_
  refine hr_aload_n o 0 dL_law_1124 rfl ?_
  refine hr_iload_n o 3 dL_law_1125 rfl ?_
  refine hr_iconst o (1 : Int32) dL_law_1126 (by decide) ?_
  refine hr_iadd o dL_law_1127 ?_
  refine hx_paild o (by simp [hf_tys]) dL_law_1128 (fun x4 => ?_)
  refine hL_callM (dv := fun r => .int r) o mvL_136 dL_law_1129 [.int x4] (fun zV zr zW ze => mtX4_back x4 zV zr zW ze) rfl rfl (Nat.le_of_ble_eq_true rfl) ⟨by decide, by decide⟩ (fun x5 g6 => ?_)
  refine hr_icmp_eq o 1137 dL_law_1132 (by decide) (fun _ => ?_) (fun _ => ?_)
  · exact nlL_law_1137 o og oL k18 hk18 l0 l1 l2 l3 g6
  refine hr_iconst o (0 : Int32) dL_law_1135 (by decide) ?_
  exact hr_none
def ndL_law_18 (gs : hf_gs) (N : Nat × Nat) (k18 : Nat → Nat → Nat → Int32 → hf_H → Option hf_H) (l0 : Nat) (l1 : Nat) (l2 : Nat) (l3 : Int32) (V0 : hf_H) : Option hf_H :=
  (hf_pal .int V0 l0).bind fun x1 =>
  if (x1 - (6 : Int32)) < l3 then (if V0.2.1 ≤ N.1 ∧ V0.2.2 ≤ N.2 then some V0 else none) else
  (hf_pai .int V0 l0 l3).bind fun x2 =>
  hf_let (x2 &&& (31 : Int32)) fun x3 =>
  if x3 = (0 : Int32) then (ndL_law_164 gs N k18 l0 l1 l2 l3 V0) else
  if x3 = (1 : Int32) then (ndL_law_227 gs N k18 l0 l1 l2 l3 V0) else
  if x3 = (2 : Int32) then (ndL_law_250 gs N k18 l0 l1 l2 l3 V0) else
  if x3 = (3 : Int32) then (ndL_law_263 gs N k18 l0 l1 l2 l3 V0) else
  if x3 = (4 : Int32) then (ndL_law_276 gs N k18 l0 l1 l2 l3 V0) else
  if x3 = (5 : Int32) then (ndL_law_309 gs N k18 l0 l1 l2 l3 V0) else
  if x3 = (6 : Int32) then (ndL_law_342 gs N k18 l0 l1 l2 l3 V0) else
  if x3 = (7 : Int32) then (ndL_law_375 gs N k18 l0 l1 l2 l3 V0) else
  if x3 = (8 : Int32) then (ndL_law_408 gs N k18 l0 l1 l2 l3 V0) else
  if x3 = (9 : Int32) then (ndL_law_441 gs N k18 l0 l1 l2 l3 V0) else
  if x3 = (10 : Int32) then (ndL_law_474 gs N k18 l0 l1 l2 l3 V0) else
  if x3 = (11 : Int32) then (ndL_law_507 gs N k18 l0 l1 l2 l3 V0) else
  if x3 = (12 : Int32) then (ndL_law_560 gs N k18 l0 l1 l2 l3 V0) else
  if x3 = (13 : Int32) then (ndL_law_593 gs N k18 l0 l1 l2 l3 V0) else
  if x3 = (14 : Int32) then (ndL_law_606 gs N k18 l0 l1 l2 l3 V0) else
  if x3 = (15 : Int32) then (ndL_law_639 gs N k18 l0 l1 l2 l3 V0) else
  if x3 = (16 : Int32) then (ndL_law_662 gs N k18 l0 l1 l2 l3 V0) else
  if x3 = (17 : Int32) then (ndL_law_695 gs N k18 l0 l1 l2 l3 V0) else
  if x3 = (18 : Int32) then (ndL_law_728 gs N k18 l0 l1 l2 l3 V0) else
  if x3 = (19 : Int32) then (ndL_law_771 gs N k18 l0 l1 l2 l3 V0) else
  if x3 = (20 : Int32) then (ndL_law_834 gs N k18 l0 l1 l2 l3 V0) else
  if x3 = (21 : Int32) then (ndL_law_867 gs N k18 l0 l1 l2 l3 V0) else
  if x3 = (22 : Int32) then (ndL_law_910 gs N k18 l0 l1 l2 l3 V0) else
  if x3 = (23 : Int32) then (ndL_law_969 gs N k18 l0 l1 l2 l3 V0) else
  if x3 = (24 : Int32) then (ndL_law_992 gs N k18 l0 l1 l2 l3 V0) else
  if x3 = (25 : Int32) then (ndL_law_1015 gs N k18 l0 l1 l2 l3 V0) else
  if x3 = (26 : Int32) then (ndL_law_1068 gs N k18 l0 l1 l2 l3 V0) else
  if x3 = (27 : Int32) then (ndL_law_1091 gs N k18 l0 l1 l2 l3 V0) else
  if x3 = (28 : Int32) then (ndL_law_1114 gs N k18 l0 l1 l2 l3 V0) else
  ndL_law_1137 gs N k18 l0 l1 l2 l3 V0
theorem nlL_law_18 {C : hf_X} {gs : hf_gs} {N : Nat × Nat} (o : hf_In C cL_law RL 4 (some .boolean) 8192 100000) (og : hf_G C gs) (oL : hf_Lw C) (k18 : Nat → Nat → Nat → Int32 → hf_H → Option hf_H) (hk18 : ∀ (l0 : Nat) (l1 : Nat) (l2 : Nat) (l3 : Int32) (V0 : hf_H), hf_J C (hf_dL N) (k18 l0 l1 l2 l3 V0) V0 18 [(0, .ref l0), (1, .ref l1), (2, .ref l2), (3, .int l3)] []) (l0 : Nat) (l1 : Nat) (l2 : Nat) (l3 : Int32) (V0 : hf_H) : hf_J C (hf_dL N) (ndL_law_18 gs N k18 l0 l1 l2 l3 V0) V0 18 [(0, .ref l0), (1, .ref l1), (2, .ref l2), (3, .int l3)] [] := by
  refine hr_iload_n o 3 dL_law_18 rfl ?_
  refine hr_aload_n o 0 dL_law_19 rfl ?_
  refine hx_palen o .int (by simp [hf_tys]) dL_law_20 (fun x1 => ?_)
  refine hr_bipush o (6 : Int32) dL_law_21 (by decide) ?_
  refine hr_isub o dL_law_23 ?_
  refine hr_icmp_gt o 1143 dL_law_24 (by decide) (fun _ => ?_) (fun _ => ?_)
  · refine hr_iconst o (1 : Int32) dL_law_1143 (by decide) ?_
    exact hL_ret o oL
  refine hr_aload_n o 0 dL_law_27 rfl ?_
  refine hr_iload_n o 3 dL_law_28 rfl ?_
  refine hx_paild o (by simp [hf_tys]) dL_law_29 (fun x2 => ?_)
  refine hr_bipush o (31 : Int32) dL_law_30 (by decide) ?_
  refine hr_iand o dL_law_32 ?_
  refine hr_nmI (fun x3 => ?_)
  refine hr_tsw o (0 : Int32) 164 dL_law_33 (by decide) (by decide) rfl (by decide) (fun c_33_0 => ?_) (fun c_33_0 => ?_)
  · exact nlL_law_164 o og oL k18 hk18 l0 l1 l2 l3 V0
  refine hr_tsw o (1 : Int32) 227 dL_law_33 (by decide) (by decide) rfl (by decide) (fun c_33_1 => ?_) (fun c_33_1 => ?_)
  · exact nlL_law_227 o og oL k18 hk18 l0 l1 l2 l3 V0
  refine hr_tsw o (2 : Int32) 250 dL_law_33 (by decide) (by decide) rfl (by decide) (fun c_33_2 => ?_) (fun c_33_2 => ?_)
  · exact nlL_law_250 o og oL k18 hk18 l0 l1 l2 l3 V0
  refine hr_tsw o (3 : Int32) 263 dL_law_33 (by decide) (by decide) rfl (by decide) (fun c_33_3 => ?_) (fun c_33_3 => ?_)
  · exact nlL_law_263 o og oL k18 hk18 l0 l1 l2 l3 V0
  refine hr_tsw o (4 : Int32) 276 dL_law_33 (by decide) (by decide) rfl (by decide) (fun c_33_4 => ?_) (fun c_33_4 => ?_)
  · exact nlL_law_276 o og oL k18 hk18 l0 l1 l2 l3 V0
  refine hr_tsw o (5 : Int32) 309 dL_law_33 (by decide) (by decide) rfl (by decide) (fun c_33_5 => ?_) (fun c_33_5 => ?_)
  · exact nlL_law_309 o og oL k18 hk18 l0 l1 l2 l3 V0
  refine hr_tsw o (6 : Int32) 342 dL_law_33 (by decide) (by decide) rfl (by decide) (fun c_33_6 => ?_) (fun c_33_6 => ?_)
  · exact nlL_law_342 o og oL k18 hk18 l0 l1 l2 l3 V0
  refine hr_tsw o (7 : Int32) 375 dL_law_33 (by decide) (by decide) rfl (by decide) (fun c_33_7 => ?_) (fun c_33_7 => ?_)
  · exact nlL_law_375 o og oL k18 hk18 l0 l1 l2 l3 V0
  refine hr_tsw o (8 : Int32) 408 dL_law_33 (by decide) (by decide) rfl (by decide) (fun c_33_8 => ?_) (fun c_33_8 => ?_)
  · exact nlL_law_408 o og oL k18 hk18 l0 l1 l2 l3 V0
  refine hr_tsw o (9 : Int32) 441 dL_law_33 (by decide) (by decide) rfl (by decide) (fun c_33_9 => ?_) (fun c_33_9 => ?_)
  · exact nlL_law_441 o og oL k18 hk18 l0 l1 l2 l3 V0
  refine hr_tsw o (10 : Int32) 474 dL_law_33 (by decide) (by decide) rfl (by decide) (fun c_33_10 => ?_) (fun c_33_10 => ?_)
  · exact nlL_law_474 o og oL k18 hk18 l0 l1 l2 l3 V0
  refine hr_tsw o (11 : Int32) 507 dL_law_33 (by decide) (by decide) rfl (by decide) (fun c_33_11 => ?_) (fun c_33_11 => ?_)
  · exact nlL_law_507 o og oL k18 hk18 l0 l1 l2 l3 V0
  refine hr_tsw o (12 : Int32) 560 dL_law_33 (by decide) (by decide) rfl (by decide) (fun c_33_12 => ?_) (fun c_33_12 => ?_)
  · exact nlL_law_560 o og oL k18 hk18 l0 l1 l2 l3 V0
  refine hr_tsw o (13 : Int32) 593 dL_law_33 (by decide) (by decide) rfl (by decide) (fun c_33_13 => ?_) (fun c_33_13 => ?_)
  · exact nlL_law_593 o og oL k18 hk18 l0 l1 l2 l3 V0
  refine hr_tsw o (14 : Int32) 606 dL_law_33 (by decide) (by decide) rfl (by decide) (fun c_33_14 => ?_) (fun c_33_14 => ?_)
  · exact nlL_law_606 o og oL k18 hk18 l0 l1 l2 l3 V0
  refine hr_tsw o (15 : Int32) 639 dL_law_33 (by decide) (by decide) rfl (by decide) (fun c_33_15 => ?_) (fun c_33_15 => ?_)
  · exact nlL_law_639 o og oL k18 hk18 l0 l1 l2 l3 V0
  refine hr_tsw o (16 : Int32) 662 dL_law_33 (by decide) (by decide) rfl (by decide) (fun c_33_16 => ?_) (fun c_33_16 => ?_)
  · exact nlL_law_662 o og oL k18 hk18 l0 l1 l2 l3 V0
  refine hr_tsw o (17 : Int32) 695 dL_law_33 (by decide) (by decide) rfl (by decide) (fun c_33_17 => ?_) (fun c_33_17 => ?_)
  · exact nlL_law_695 o og oL k18 hk18 l0 l1 l2 l3 V0
  refine hr_tsw o (18 : Int32) 728 dL_law_33 (by decide) (by decide) rfl (by decide) (fun c_33_18 => ?_) (fun c_33_18 => ?_)
  · exact nlL_law_728 o og oL k18 hk18 l0 l1 l2 l3 V0
  refine hr_tsw o (19 : Int32) 771 dL_law_33 (by decide) (by decide) rfl (by decide) (fun c_33_19 => ?_) (fun c_33_19 => ?_)
  · exact nlL_law_771 o og oL k18 hk18 l0 l1 l2 l3 V0
  refine hr_tsw o (20 : Int32) 834 dL_law_33 (by decide) (by decide) rfl (by decide) (fun c_33_20 => ?_) (fun c_33_20 => ?_)
  · exact nlL_law_834 o og oL k18 hk18 l0 l1 l2 l3 V0
  refine hr_tsw o (21 : Int32) 867 dL_law_33 (by decide) (by decide) rfl (by decide) (fun c_33_21 => ?_) (fun c_33_21 => ?_)
  · exact nlL_law_867 o og oL k18 hk18 l0 l1 l2 l3 V0
  refine hr_tsw o (22 : Int32) 910 dL_law_33 (by decide) (by decide) rfl (by decide) (fun c_33_22 => ?_) (fun c_33_22 => ?_)
  · exact nlL_law_910 o og oL k18 hk18 l0 l1 l2 l3 V0
  refine hr_tsw o (23 : Int32) 969 dL_law_33 (by decide) (by decide) rfl (by decide) (fun c_33_23 => ?_) (fun c_33_23 => ?_)
  · exact nlL_law_969 o og oL k18 hk18 l0 l1 l2 l3 V0
  refine hr_tsw o (24 : Int32) 992 dL_law_33 (by decide) (by decide) rfl (by decide) (fun c_33_24 => ?_) (fun c_33_24 => ?_)
  · exact nlL_law_992 o og oL k18 hk18 l0 l1 l2 l3 V0
  refine hr_tsw o (25 : Int32) 1015 dL_law_33 (by decide) (by decide) rfl (by decide) (fun c_33_25 => ?_) (fun c_33_25 => ?_)
  · exact nlL_law_1015 o og oL k18 hk18 l0 l1 l2 l3 V0
  refine hr_tsw o (26 : Int32) 1068 dL_law_33 (by decide) (by decide) rfl (by decide) (fun c_33_26 => ?_) (fun c_33_26 => ?_)
  · exact nlL_law_1068 o og oL k18 hk18 l0 l1 l2 l3 V0
  refine hr_tsw o (27 : Int32) 1091 dL_law_33 (by decide) (by decide) rfl (by decide) (fun c_33_27 => ?_) (fun c_33_27 => ?_)
  · exact nlL_law_1091 o og oL k18 hk18 l0 l1 l2 l3 V0
  refine hr_tsw o (28 : Int32) 1114 dL_law_33 (by decide) (by decide) rfl (by decide) (fun c_33_28 => ?_) (fun c_33_28 => ?_)
  · exact nlL_law_1114 o og oL k18 hk18 l0 l1 l2 l3 V0
  refine hr_tswD o 1137 dL_law_33 (by have n0 := hf_nei (0) (by decide) c_33_0; have n1 := hf_nei (1) (by decide) c_33_1; have n2 := hf_nei (2) (by decide) c_33_2; have n3 := hf_nei (3) (by decide) c_33_3; have n4 := hf_nei (4) (by decide) c_33_4; have n5 := hf_nei (5) (by decide) c_33_5; have n6 := hf_nei (6) (by decide) c_33_6; have n7 := hf_nei (7) (by decide) c_33_7; have n8 := hf_nei (8) (by decide) c_33_8; have n9 := hf_nei (9) (by decide) c_33_9; have n10 := hf_nei (10) (by decide) c_33_10; have n11 := hf_nei (11) (by decide) c_33_11; have n12 := hf_nei (12) (by decide) c_33_12; have n13 := hf_nei (13) (by decide) c_33_13; have n14 := hf_nei (14) (by decide) c_33_14; have n15 := hf_nei (15) (by decide) c_33_15; have n16 := hf_nei (16) (by decide) c_33_16; have n17 := hf_nei (17) (by decide) c_33_17; have n18 := hf_nei (18) (by decide) c_33_18; have n19 := hf_nei (19) (by decide) c_33_19; have n20 := hf_nei (20) (by decide) c_33_20; have n21 := hf_nei (21) (by decide) c_33_21; have n22 := hf_nei (22) (by decide) c_33_22; have n23 := hf_nei (23) (by decide) c_33_23; have n24 := hf_nei (24) (by decide) c_33_24; have n25 := hf_nei (25) (by decide) c_33_25; have n26 := hf_nei (26) (by decide) c_33_26; have n27 := hf_nei (27) (by decide) c_33_27; have n28 := hf_nei (28) (by decide) c_33_28; omega) (by decide) ?_
  exact nlL_law_1137 o og oL k18 hk18 l0 l1 l2 l3 V0
def lpL_law_18 (gs : hf_gs) (N : Nat × Nat)  : Nat → Nat → Nat → Nat → Int32 → hf_H → Option hf_H
  | 0 => fun _ _ _ _ _ => none
  | n + 1 => fun l0 l1 l2 l3 V0 => ndL_law_18 gs N  (lpL_law_18 gs N  n) l0 l1 l2 l3 V0
theorem llL_law_18 {C : hf_X} {gs : hf_gs} {N : Nat × Nat} (o : hf_In C cL_law RL 4 (some .boolean) 8192 100000) (og : hf_G C gs) (oL : hf_Lw C)   (n : Nat) : ∀ (l0 : Nat) (l1 : Nat) (l2 : Nat) (l3 : Int32) (V0 : hf_H), hf_J C (hf_dL N) ((lpL_law_18 gs N  n) l0 l1 l2 l3 V0) V0 18 [(0, .ref l0), (1, .ref l1), (2, .ref l2), (3, .int l3)] [] := by
  induction n with
  | zero => exact fun _ _ _ _ _ => hr_none
  | succ n ih => exact fun l0 l1 l2 l3 V0 => nlL_law_18 o og oL  (lpL_law_18 gs N  n)  ih l0 l1 l2 l3 V0
def spL_law (gs : hf_gs) (N : Nat × Nat) (l0 : Nat) (V0 : hf_H) : Option hf_H :=
  hf_mk V0 (.inl (0, 0, hf_V0)) 23 fun x1 g2 =>
  (spX0_init gs x1 g2).bind fun g3 =>
  hf_mk g3 (.inl (0, 4, hf_V0)) 37 fun x4 g5 =>
  (spX4_init x4 g5).bind fun g6 =>
  lpL_law_18 gs N hf_N l0 x1 x4 (0 : Int32) g6
theorem jtL_law {C : hf_X} {gs : hf_gs} {N : Nat × Nat} (o : hf_In C cL_law RL 4 (some .boolean) 8192 100000) (og : hf_G C gs) (oL : hf_Lw C) (l0 : Nat) (V0 : hf_H) : hf_J C (hf_dL N) (spL_law gs N l0 V0) V0 0 [(0, .ref l0)] [] := by
  refine hx_new (ci := 0) (q := (RX0, TX0, 23)) o rfl q188 q189 q153 in_X0 tyX0_ok (hf_def (by decide) (by decide)) dL_law_0 (fun x1 g2 => ?_)
  refine hr_dup o dL_law_3 rfl ?_
  refine hx_callIV o og miL_9 dL_law_4 [] (fun zg ze => mtX0_init x1 g2 zg ze) rfl rfl (Nat.le_of_ble_eq_true rfl) ⟨by decide, by decide⟩ (fun g3 => ?_)
  refine hr_astore_n o [(1, .ref x1), (0, .ref l0)] dL_law_7 (by decide) rfl ?_
  refine hx_new (ci := 4) (q := (RX4, TX4, 37)) o rfl q1394 q1395 q162 in_X4 tyX4_ok (hf_def (by decide) (by decide)) dL_law_8 (fun x4 g5 => ?_)
  refine hr_dup o dL_law_11 rfl ?_
  refine hx_callIV o og miL_12 dL_law_12 [] (fun zg ze => mtX4_init x4 g5 zg ze) rfl rfl (Nat.le_of_ble_eq_true rfl) ⟨by decide, by decide⟩ (fun g6 => ?_)
  refine hr_astore_n o [(2, .ref x4), (1, .ref x1), (0, .ref l0)] dL_law_15 (by decide) rfl ?_
  refine hr_iconst o (0 : Int32) dL_law_16 (by decide) ?_
  refine hr_istore_n o [(3, .int (0 : Int32)), (2, .ref x4), (1, .ref x1), (0, .ref l0)] dL_law_17 (by decide) rfl ?_
  refine hr_sub [3, 2, 1, 0] rfl ?_
  exact llL_law_18 o og oL hf_N l0 x1 x4 (0 : Int32) g6
