set_option maxRecDepth 100000
set_option maxHeartbeats 1000000
/-! tape, trials -/
/-- both tapes are alike, T long -/
def hf_tp (XV V : hf_V) (T : Nat) : Prop := XV.1 6 = Int32.ofNat T ∧ V.1 1 = Int32.ofNat T ∧ ∀ k, k < 400 → XV.2.2.2.1 5 k = V.2.2.2.1 0 k ∧ hf_bz (V.2.2.2.1 0 k)
def hf_x56 (A B : hf_V) : Prop := B.2.2.1 = A.2.2.1 ∧ B.2.2.2.2.2 = A.2.2.2.2.2 ∧ (∀ k, k ≠ 6 → B.1 k = A.1 k) ∧ ∀ k, k ≠ 5 → B.2.2.2.1 k = A.2.2.2.1 k
def hf_m01 (A B : hf_V) : Prop := (∀ k, k ≠ 1 → B.1 k = A.1 k) ∧ ∀ k, k ≠ 0 → B.2.2.2.1 k = A.2.2.2.1 k
theorem hf_x56.trans {A B C : hf_V} (H : hf_x56 A B) (K : hf_x56 B C) : hf_x56 A C := ⟨K.1.trans H.1, K.2.1.trans H.2.1, fun k hk => (K.2.2.1 k hk).trans (H.2.2.1 k hk), fun k hk => (K.2.2.2 k hk).trans (H.2.2.2 k hk)⟩
theorem hf_m01.trans {A B C : hf_V} (H : hf_m01 A B) (K : hf_m01 B C) : hf_m01 A C := ⟨fun k hk => (K.1 k hk).trans (H.1 k hk), fun k hk => (K.2 k hk).trans (H.2 k hk)⟩
theorem zbyt_all : ∀ n, n < 256 → (Int8.ofNat n).toInt32 = zbyt n := by decide
theorem hf_bz_8 (i : Int8) : hf_bz i.toInt32 := by
  refine ⟨i.toBitVec.toNat, i.toBitVec.isLt, ?_⟩
  rw [← zbyt_all _ i.toBitVec.isLt]
  congr 1
  apply Int8.toBitVec_inj.mp
  rw [Int8.toBitVec_ofNat']
  simp
theorem hf_bz_nar (x : Int32) : hf_bz (vp_nar .byte x) := hf_bz_8 x.toInt8
section ZI
variable {g : hf_H} {o : Nat} {XV V : hf_V}
theorem xm_put1 {T : Nat} (R : hf_tp XV V T) (hT : T < 400) (kX : Nat → Int32 → Int32 → hf_H → Option hf_H) (kM : Int32 → Int32 → hf_V → Option hf_V) (a s : Int32) (hs : ¬ s < 0) : ∃ XV' V', ndX0_put_3 kX o a s (hf_xc g o XV) = kX o a (s + (-8 : Int32)) (hf_xc g o XV') ∧ ndX4_four_3 kM a s V = kM a (s + (-8 : Int32)) V' ∧ hf_tp XV' V' (T + 1) ∧ hf_x56 XV XV' ∧ hf_m01 V V' := by
  obtain ⟨r1, r2, r3⟩ := R
  refine ⟨hf_ui (hf_ua XV 5 T (vp_nar .byte (Int8.toInt32 (Int32.toInt8 (a >>> (s &&& 31)))))) 6 (Int32.ofNat (T + 1)), hf_ui (hf_ua V 0 T (vp_nar .byte (Int8.toInt32 (Int32.toInt8 (a >>> (s &&& 31)))))) 1 (Int32.ofNat (T + 1)), ?_, ?_, ⟨hf_ui_at _ _ _, hf_ui_at _ _ _, fun k hk => ?_⟩, ⟨rfl, rfl, fun k hk => hf_ui_ne _ hk _, fun k hk => hf_ua_ne _ hk _ _⟩, ⟨fun k hk => hf_ui_ne _ hk _, fun k hk => hf_ua_ne _ hk _ _⟩⟩
  · unfold ndX0_put_3
    have e := hf_ob_xc g o XV
    have a1 : Int32.ofNat T + (1 : Int32) = Int32.ofNat (T + 1) := z_add T 1
    have e2 : hf_ob 1 0 (hf_up (hf_xc g o XV) o (.inl (1, 0, hf_ua XV 5 T (vp_nar .byte (Int8.toInt32 (Int32.toInt8 (a >>> (s &&& 31)))))))) o = some (hf_ua XV 5 T (vp_nar .byte (Int8.toInt32 (Int32.toInt8 (a >>> (s &&& 31)))))) := hf_ob_up _ o 1 0 _
    have h6 : (hf_ua XV 5 T (vp_nar .byte (Int8.toInt32 (Int32.toInt8 (a >>> (s &&& 31)))))).1 6 = Int32.ofNat T := r1
    rw [if_neg hs, e, Option.bind_some, hf_gi_eq e, Option.bind_some, r1, hf_si_eq e 5 hT (by omega), Option.bind_some, hf_gi_eq e2, Option.bind_some, h6, a1, hf_pi_eq e2, Option.bind_some, hf_let_eq, hf_up_up]
    show kX o a (s + -8) (hf_xc (hf_xc g o XV) o _) = _
    rw [hf_xc_xc]
  · unfold ndX4_four_3
    have a1 : Int32.ofNat T + (1 : Int32) = Int32.ofNat (T + 1) := z_add T 1
    rw [if_neg hs, r2, z_sd hT (by omega), hf_let_eq, hf_let_eq]
    have h6 : (hf_ua V 0 T (vp_nar .byte (Int8.toInt32 (Int32.toInt8 (a >>> (s &&& 31)))))).1 1 = Int32.ofNat T := r2
    rw [h6, a1]
  · show (hf_ua XV 5 T _).2.2.2.1 5 k = (hf_ua V 0 T _).2.2.2.1 0 k ∧ hf_bz ((hf_ua V 0 T _).2.2.2.1 0 k)
    rw [hf_ua_at, hf_ua_at]
    by_cases ek : k = T
    · rw [if_pos ek, if_pos ek]
      exact ⟨rfl, hf_bz_nar _⟩
    · rw [if_neg ek, if_neg ek]
      exact r3 k hk
theorem xm_put {T : Nat} (R : hf_tp XV V T) (hT : T + 4 ≤ 400) (a : Int32) : ∃ XV' V', spX0_put o a (hf_xc g o XV) = some (hf_xc g o XV') ∧ spX4_four a V = some V' ∧ hf_tp XV' V' (T + 4) ∧ hf_x56 XV XV' ∧ hf_m01 V V' := by
  have key : ∀ n, ∃ XV' V', lpX0_put_3 (n + 5) o a (24 : Int32) (hf_xc g o XV) = some (hf_xc g o XV') ∧ lpX4_four_3 (n + 5) a (24 : Int32) V = some V' ∧ hf_tp XV' V' (T + 4) ∧ hf_x56 XV XV' ∧ hf_m01 V V' := by
    intro n
    obtain ⟨X1, V1, a1, b1, r1, x1, m1⟩ := xm_put1 (g := g) (o := o) R (by omega) (lpX0_put_3 (n + 4)) (lpX4_four_3 (n + 4)) a 24 (by decide)
    obtain ⟨X2, V2, a2, b2, r2, x2, m2⟩ := xm_put1 (g := g) (o := o) r1 (by omega) (lpX0_put_3 (n + 3)) (lpX4_four_3 (n + 3)) a (24 + (-8 : Int32)) (by decide)
    obtain ⟨X3, V3, a3, b3, r3, x3, m3⟩ := xm_put1 (g := g) (o := o) r2 (by omega) (lpX0_put_3 (n + 2)) (lpX4_four_3 (n + 2)) a (24 + (-8 : Int32) + (-8 : Int32)) (by decide)
    obtain ⟨X4, V4, a4, b4, r4, x4, m4⟩ := xm_put1 (g := g) (o := o) r3 (by omega) (lpX0_put_3 (n + 1)) (lpX4_four_3 (n + 1)) a (24 + (-8 : Int32) + (-8 : Int32) + (-8 : Int32)) (by decide)
    refine ⟨X4, V4, ?_, ?_, r4, ((x1.trans x2).trans x3).trans x4, ((m1.trans m2).trans m3).trans m4⟩
    · refine a1.trans (a2.trans (a3.trans (a4.trans ?_)))
      show ndX0_put_3 (lpX0_put_3 n) _ _ _ _ = _
      unfold ndX0_put_3
      rw [if_pos (by decide)]
    · refine b1.trans (b2.trans (b3.trans (b4.trans ?_)))
      show ndX4_four_3 (lpX4_four_3 n) _ _ _ = _
      unfold ndX4_four_3
      rw [if_pos (by decide)]
  have hN : hf_N = 4294967291 + 5 := rfl
  unfold spX0_put spX4_four
  rw [hN]
  exact key _
end ZI
section ZI
variable {P : Nat} {g g' : hf_H} {o f st kp rl rd : Nat} {V V' XV : hf_V} {ps ik sk : Nat → Nat} {v v' : Nat → Nat}
theorem op_feed (J : hf_INV P g o V) (a b c d e : Int32) : hf_OPr P g o (spX0_feed o a b c d e g) (spX4_feed a b c d e V) := by
  obtain ⟨XV, f, st, kp, rl, rd, ps, ik, sk, v, I⟩ := J
  obtain ⟨⟨T, t1, t2, t3⟩, d2, ⟨dr, e1, e2, e3⟩, d4⟩ := I.2.2.2.1
  unfold spX0_feed spX4_feed
  have a1 : Int32.ofNat T + (20 : Int32) = Int32.ofNat (T + 20) := z_add T 20
  rw [hf_gi_eq I.e, Option.bind_some, t2, t3, a1]
  by_cases h : T + 20 ≤ 400
  case neg =>
    have h' : ¬ Int32.ofNat (T + 20) ≤ 400 := z_nle (a := T + 20) (b := 400) (by omega) (by omega)
    rw [if_neg h', if_neg h']; exact I.same _
  have h' : Int32.ofNat (T + 20) ≤ 400 := z_yle (b := 400) h (by decide)
  rw [if_pos h', if_pos h']
  have R0 : hf_tp XV V T := ⟨t2, t3, d2⟩
  have hg : g = hf_xc g o XV := (hf_xc_self I.e).symm
  obtain ⟨X1, V1, a1, b1, r1, x1, m1⟩ := xm_put (g := g) (o := o) R0 (by omega) a
  obtain ⟨X2, V2, a2, b2, r2, x2, m2⟩ := xm_put (g := g) (o := o) r1 (by omega) b
  obtain ⟨X3, V3, a3, b3, r3, x3, m3⟩ := xm_put (g := g) (o := o) r2 (by omega) c
  obtain ⟨X4, V4, a4, b4, r4, x4, m4⟩ := xm_put (g := g) (o := o) r3 (by omega) d
  obtain ⟨X5, V5, a5, b5, r5, x5, m5⟩ := xm_put (g := g) (o := o) r4 (by omega) e
  rw [← hg] at a1
  have ob : ∀ X (K : Option (Int32 × hf_H)), ((hf_ob 1 0 (hf_xc g o X) o).bind fun _ => K) = K := fun X K => by rw [hf_ob_xc]; rfl
  have xx := (((x1.trans x2).trans x3).trans x4).trans x5
  have mm := (((m1.trans m2).trans m3).trans m4).trans m5
  rw [I.X.ob, a1, Option.bind_some, ob, a2, Option.bind_some, ob, a3, Option.bind_some, ob, a4, Option.bind_some, ob, a5, Option.bind_some, hf_gi_eq (hf_ob_xc g o X5), Option.bind_some, r5.1, b1, Option.bind_some, b2, Option.bind_some, b3, Option.bind_some, b4, Option.bind_some, b5, Option.bind_some, r5.2.1]
  refine ⟨_, _, _, rfl, rfl, (I.field (XV' := X5) (V' := V5) (v' := v) xx.1 xx.2.1 (fun k hk => xx.2.2.1 k (by omega)) (fun k hk => mm.1 k (by omega)) (fun k h0 _ => mm.2 k h0) (fun k => ⟨?_, (I.sv k).2⟩) (fun _ _ => rfl) ⟨⟨T + 4 + 4 + 4 + 4 + 4, by omega, r5.1, r5.2.1⟩, r5.2.2, ⟨dr, e1, (xx.2.2.1 11 (by decide)).trans e2, (mm.1 21 (by decide)).trans e3⟩, ?_⟩).inv, I.fk _⟩
  · rw [mm.2 20 (by decide)]; exact (I.sv k).1
  · rw [xx.2.2.2 7 (by decide), xx.2.2.2 8 (by decide), xx.2.2.2 9 (by decide), xx.2.2.1 10 (by decide)]; exact d4
theorem vp_nar01 : vp_nar .boolean 0 = 0 ∧ vp_nar .boolean 1 = 1 := by decide
theorem op_trial (J : hf_INV P g o V) (a b : Int32) (c : Nat) (hc : c ≤ 1) : hf_OPr P g o (spX0_trial o a b (Int32.ofNat c) g) (spX4_trial a b (Int32.ofNat c) V) := by
  obtain ⟨XV, f, st, kp, rl, rd, ps, ik, sk, v, I⟩ := J
  have q1 := I.W.v1
  obtain ⟨⟨T, t1, t2, t3⟩, d2, ⟨dr, e1, e2, e3⟩, ⟨n1, n2, n3⟩⟩ := I.2.2.2.1
  have hnb : vp_nar .boolean (Int32.ofNat c) = Int32.ofNat c := by
    rcases (show c = 0 ∨ c = 1 by omega) with rfl | rfl
    · exact vp_nar01.1
    · exact vp_nar01.2
  unfold spX0_trial spX4_trial
  by_cases h : a = -1
  · rw [if_pos h, if_pos h, hf_pi_eq I.e, Option.bind_some]
    have m122 : ∀ K : hf_V → Option (Int32 × hf_V), hf_sd 123 (122 : Int32) (fun j => hf_ua V 20 j (0 : Int32)) K = K (hf_sd20 V (zup v 122 0)) := fun K => by
      have := z_sd (n := 123) (i := 122) (x := fun j => hf_ua V 20 j (0 : Int32)) (K := K) (by decide) (by decide)
      refine this.trans ?_
      rw [show (0 : Int32) = Int32.ofNat 0 from rfl, I.sv.ua]
    rw [m122]
    have hv : ∀ k, zup v 122 0 k < 16777216 := fun k => by
      unfold zup
      split
      · decide
      · exact (I.sv k).2
    refine ⟨_, _, _, rfl, rfl, (I.field (XV' := hf_ui XV 10 0) (V' := hf_sd20 V (zup v 122 0)) (v' := zup v 122 0) rfl rfl (fun k hk => hf_ui_ne _ (by omega) _) (fun k hk => rfl) (fun k _ hk => hf_sa_ne V hk _) (hf_sd20_sv V hv) (fun k hk => zup_ne _ (by omega) _) ⟨⟨T, t1, t2, t3⟩, fun k hk => ?_, ⟨dr, e1, e2, e3⟩, ?_⟩).inv, I.fk _⟩
    · exact d2 k hk
    · refine ⟨?_, ?_, fun k hk => ?_⟩
      · rw [zup_at]; exact hf_ui_at _ _ _
      · rw [zup_at]; omega
      · rw [zup_at] at hk; omega
  rw [if_neg h, if_neg h, I.X.ob, x_isHalf I.X I.F I.W, hf_b2_some, m_isHalfZ I.sv, hf_b2_some]
  by_cases hz : zin a (v 1)
  case neg => rw [z1F hz, z1F hz]; exact I.same _
  rw [z1T hz, z1T hz, I.X.ob, x_isHalf I.X I.F I.W, hf_b2_some, m_isHalfZ I.sv, hf_b2_some]
  by_cases hw : zin b (v 1)
  case neg => rw [z1F hw, z1F hw]; exact I.same _
  rw [z1T hw, z1T hw]
  obtain ⟨i, hi, rfl⟩ := zin_ex hz (by omega)
  obtain ⟨k, hk, rfl⟩ := zin_ex hw (by omega)
  by_cases he : Int32.ofNat i = Int32.ofNat k
  case pos => rw [if_pos he, if_pos he]; exact I.same _
  rw [if_neg he, if_neg he, hf_gi_eq I.e, Option.bind_some, n1, Option.bind_some, I.sv.l122, Option.bind_some, Option.bind_some]
  by_cases h12 : v 122 = 12
  · rw [h12, if_pos (show Int32.ofNat 12 = 12 from rfl), if_pos (show Int32.ofNat 12 = 12 from rfl)]; exact I.same _
  have h12' : ¬ Int32.ofNat (v 122) = 12 := fun z => h12 ((z_eq (b := 12) (by omega) (by decide)).mp z)
  have a1 : Int32.ofNat (v 122) + (1 : Int32) = Int32.ofNat (v 122 + 1) := z_add _ 1
  obtain ⟨m, hm⟩ : ∃ m, m = v 122 := ⟨_, rfl⟩
  have hm12 : m < 12 := by omega
  obtain ⟨X1, hX1⟩ : ∃ X, X = hf_ui (hf_ua (hf_ua (hf_ua XV 7 m (Int32.ofNat i)) 8 m (Int32.ofNat k)) 9 m (Int32.ofNat c)) 10 (Int32.ofNat (m + 1)) := ⟨_, rfl⟩
  have hX : ((hf_ob 1 0 g o).bind fun _ => (hf_si 0 7 12 g o (Int32.ofNat m) (Int32.ofNat i)).bind fun g7 => (hf_ob 1 0 g7 o).bind fun _ => (hf_gi 1 0 10 g7 o).bind fun x8 => (hf_si 0 8 12 g7 o x8 (Int32.ofNat k)).bind fun g9 => (hf_ob 1 0 g9 o).bind fun _ => (hf_gi 1 0 10 g9 o).bind fun x10 => (hf_si 0 9 12 g9 o x10 (vp_nar .boolean (Int32.ofNat c))).bind fun g11 => (hf_gi 1 0 10 g11 o).bind fun x12 => (hf_pi 1 0 10 g11 o (x12 + (1 : Int32))).bind fun g13 => (hf_gi 1 0 10 g13 o).bind fun x14 => some (x14, g13)) = some (Int32.ofNat (m + 1), hf_xc g o X1) := by
    have f1 : ∀ (Y : hf_V), hf_ob 1 0 (hf_up g o (.inl (1, 0, Y))) o = some Y := fun Y => hf_ob_up g o 1 0 Y
    have g1 : (hf_ua XV 7 m (Int32.ofNat i)).1 10 = Int32.ofNat m := by rw [hm]; exact n1
    have g2 : (hf_ua (hf_ua XV 7 m (Int32.ofNat i)) 8 m (Int32.ofNat k)).1 10 = Int32.ofNat m := g1
    have g3 : (hf_ua (hf_ua (hf_ua XV 7 m (Int32.ofNat i)) 8 m (Int32.ofNat k)) 9 m (Int32.ofNat c)).1 10 = Int32.ofNat m := g1
    have a2 : Int32.ofNat m + (1 : Int32) = Int32.ofNat (m + 1) := z_add _ 1
    rw [hnb, I.X.ob, hf_si_eq I.e 7 hm12 (by omega), Option.bind_some, f1, Option.bind_some, hf_gi_eq (f1 _), Option.bind_some, g1, hf_si_eq (f1 _) 8 hm12 (by omega), Option.bind_some, hf_up_up, f1, Option.bind_some, hf_gi_eq (f1 _), Option.bind_some, g2, hf_si_eq (f1 _) 9 hm12 (by omega), Option.bind_some, hf_up_up, hf_gi_eq (f1 _), Option.bind_some, g3, a2, hf_pi_eq (f1 _), Option.bind_some, hf_up_up, hf_gi_eq (f1 _), Option.bind_some, hf_ui_at, hX1]
    rfl
  rw [if_neg h12', if_neg h12', ← hm, hX]
  obtain ⟨w, hwd⟩ : ∃ w, w = zup (zup (zup (zup v (86 + 3 * m) i) (86 + 3 * m + 1) k) (86 + 3 * m + 2) c) 122 (m + 1) := ⟨_, rfl⟩
  have hv : ∀ j, w j < 16777216 := fun j => by
    rw [hwd]
    unfold zup
    repeat' split
    all_goals first | omega | exact (I.sv j).2
  have p1 : (86 : Int32) + (3 : Int32) * Int32.ofNat m = Int32.ofNat (86 + 3 * m) := by rw [z_lit, z_lit, z_mul, z_add]
  have p2 : Int32.ofNat (86 + 3 * m) + (1 : Int32) = Int32.ofNat (86 + 3 * m + 1) := z_add _ 1
  have p3 : Int32.ofNat (86 + 3 * m) + (2 : Int32) = Int32.ofNat (86 + 3 * m + 2) := z_add _ 2
  have S3 : hf_sv (hf_sd20 V (zup (zup (zup v (86 + 3 * m) i) (86 + 3 * m + 1) k) (86 + 3 * m + 2) c)) (zup (zup (zup v (86 + 3 * m) i) (86 + 3 * m + 1) k) (86 + 3 * m + 2) c) := hf_sd20_sv V (fun j => by
    unfold zup
    repeat' split
    all_goals first | omega | exact (I.sv j).2)
  have S4 : hf_sv (hf_sd20 V w) w := hf_sd20_sv V hv
  have e122 : (zup (zup (zup v (86 + 3 * m) i) (86 + 3 * m + 1) k) (86 + 3 * m + 2) c) 122 = m := by rw [zup_ne _ (by omega), zup_ne _ (by omega), zup_ne _ (by omega), hm]
  have a2 : Int32.ofNat m + (1 : Int32) = Int32.ofNat (m + 1) := z_add _ 1
  have hM100 : ndX4_trial_100 (Int32.ofNat (86 + 3 * m + 2)) (Int32.ofNat c) (hf_sd20 V (zup (zup v (86 + 3 * m) i) (86 + 3 * m + 1) k)) = some (Int32.ofNat (m + 1), hf_sd20 V w) := by
    unfold ndX4_trial_100
    have m122 : ∀ K : hf_V → Option (Int32 × hf_V), hf_sd 123 (122 : Int32) (fun j => hf_ua (hf_sd20 V (zup (zup (zup v (86 + 3 * m) i) (86 + 3 * m + 1) k) (86 + 3 * m + 2) c)) 20 j (Int32.ofNat (m + 1))) K = K (hf_sd20 V w) := fun K => by
      have := z_sd (n := 123) (i := 122) (x := fun j => hf_ua (hf_sd20 V (zup (zup (zup v (86 + 3 * m) i) (86 + 3 * m + 1) k) (86 + 3 * m + 2) c)) 20 j (Int32.ofNat (m + 1))) (K := K) (by decide) (by decide)
      refine this.trans ?_
      rw [hf_sd20_ua, hwd]
    rw [z_sd (by omega) (by omega), hf_sd20_ua, S3.l122, Option.bind_some, e122, a2, m122, S4.l122, Option.bind_some, hwd, zup_at]
  rw [p1, hf_let_eq, z_sd (by omega) (by omega), I.sv.ua, p2, z_sd (by omega) (by omega), hf_sd20_ua, p3]
  have hM : (if Int32.ofNat c = 0 then (ndX4_trial_100 (Int32.ofNat (86 + 3 * m + 2)) (0 : Int32) (hf_sd20 V (zup (zup v (86 + 3 * m) i) (86 + 3 * m + 1) k))) else ndX4_trial_100 (Int32.ofNat (86 + 3 * m + 2)) (1 : Int32) (hf_sd20 V (zup (zup v (86 + 3 * m) i) (86 + 3 * m + 1) k))) = some (Int32.ofNat (m + 1), hf_sd20 V w) := by
    rw [← hM100]
    rcases (show c = 0 ∨ c = 1 by omega) with rfl | rfl
    · exact if_pos rfl
    · exact if_neg (by decide)
  rw [hM]
  have hlo : ∀ j, j < 86 → w j = v j := fun j hj => by rw [hwd, zup_ne _ (by omega), zup_ne _ (by omega), zup_ne _ (by omega), zup_ne _ (by omega)]
  have w122 : w 122 = m + 1 := by rw [hwd, zup_at]
  refine ⟨_, _, _, rfl, rfl, (I.field (XV' := X1) (V' := hf_sd20 V w) (v' := w) (by rw [hX1]; rfl) (by rw [hX1]; rfl) (fun k hk => by rw [hX1, hf_ui_ne _ (by omega)]; rfl) (fun k hk => rfl) (fun k _ hk => hf_sa_ne V hk _) S4 hlo ⟨⟨T, t1, by rw [hX1, hf_ui_ne _ (by decide)]; exact t2, t3⟩, fun j hj => ?_, ⟨dr, e1, by rw [hX1, hf_ui_ne _ (by decide)]; exact e2, e3⟩, ?_⟩).inv, I.fk _⟩
  · rw [hX1]
    exact d2 j hj
  · refine ⟨?_, by omega, fun j hj => ?_⟩
    · rw [hX1, w122]; exact hf_ui_at _ _ _
    · rw [w122] at hj
      have c7 : X1.2.2.2.1 7 j = if j = m then Int32.ofNat i else XV.2.2.2.1 7 j := by
        rw [hX1]
        show (hf_ua (hf_ua (hf_ua XV 7 m (Int32.ofNat i)) 8 m (Int32.ofNat k)) 9 m (Int32.ofNat c)).2.2.2.1 7 j = _
        rw [hf_ua_ne _ (by decide), hf_ua_ne _ (by decide), hf_ua_at]
      have c8 : X1.2.2.2.1 8 j = if j = m then Int32.ofNat k else XV.2.2.2.1 8 j := by
        rw [hX1]
        show (hf_ua (hf_ua (hf_ua XV 7 m (Int32.ofNat i)) 8 m (Int32.ofNat k)) 9 m (Int32.ofNat c)).2.2.2.1 8 j = _
        rw [hf_ua_ne _ (by decide), hf_ua_at, hf_ua_ne _ (by decide)]
      have c9 : X1.2.2.2.1 9 j = if j = m then Int32.ofNat c else XV.2.2.2.1 9 j := by
        rw [hX1]
        show (hf_ua (hf_ua (hf_ua XV 7 m (Int32.ofNat i)) 8 m (Int32.ofNat k)) 9 m (Int32.ofNat c)).2.2.2.1 9 j = _
        rw [hf_ua_at, hf_ua_ne _ (by decide), hf_ua_ne _ (by decide)]
      rw [c7, c8, c9, hlo 1 (by decide)]
      by_cases ej : j = m
      · subst ej
        have w0 : w (86 + 3 * j) = i := by rw [hwd, zup_ne _ (by omega), zup_ne _ (by omega), zup_ne _ (by omega), zup_at]
        have w1 : w (86 + 3 * j + 1) = k := by rw [hwd, zup_ne _ (by omega), zup_ne _ (by omega), zup_at]
        have w2 : w (86 + 3 * j + 2) = c := by rw [hwd, zup_ne _ (by omega), zup_at]
        rw [if_pos rfl, if_pos rfl, if_pos rfl, w0, w1, w2]
        exact ⟨rfl, hi, rfl, hk, rfl, hc⟩
      · have w0 : w (86 + 3 * j) = v (86 + 3 * j) := by rw [hwd, zup_ne _ (by omega), zup_ne _ (by omega), zup_ne _ (by omega), zup_ne _ (by omega)]
        have w1 : w (86 + 3 * j + 1) = v (86 + 3 * j + 1) := by rw [hwd, zup_ne _ (by omega), zup_ne _ (by omega), zup_ne _ (by omega), zup_ne _ (by omega)]
        have w2 : w (86 + 3 * j + 2) = v (86 + 3 * j + 2) := by rw [hwd, zup_ne _ (by omega), zup_ne _ (by omega), zup_ne _ (by omega), zup_ne _ (by omega)]
        rw [if_neg ej, if_neg ej, if_neg ej, w0, w1, w2]
        exact n3 j (by omega)
end ZI
set_option maxRecDepth 100000
set_option maxHeartbeats 1000000
/-! worths -/
theorem zTab_at (v : Nat → Nat) (s : Nat) : ∀ k j, s ≤ k → (zTab v (k + j)).1 s = (zTab v k).1 s ∧ (zTab v (k + j)).2 s = (zTab v k).2 s
  | k, 0, _ => ⟨rfl, rfl⟩
  | k, j + 1, h => by
    have h1 := zTab_at v s k j h
    have h2 := zTab_old v (k + j) s (by omega)
    exact ⟨h2.1.trans h1.1, h2.2.trans h1.2⟩
theorem zW_at (v : Nat → Nat) {s k : Nat} (h : s ≤ k) (hk : k < 2 ^ v 1) : (zTab v k).1 s = zW v s := by
  have := (zTab_at v s k (2 ^ v 1 - 1 - k) h).1
  rw [show k + (2 ^ v 1 - 1 - k) = 2 ^ v 1 - 1 by omega] at this
  exact this.symm
theorem zM_at (v : Nat → Nat) {s k : Nat} (h : s ≤ k) (hk : k < 2 ^ v 1) : (zTab v k).2 s = zM v s := by
  have := (zTab_at v s k (2 ^ v 1 - 1 - k) h).2
  rw [show k + (2 ^ v 1 - 1 - k) = 2 ^ v 1 - 1 by omega] at this
  exact this.symm
/-- what a mate would bring -/
def zcand (v W : Nat → Nat) (r h o : Nat) : Nat := if r.testBit o = true ∧ zfo v h o ≠ 0 then zpay (zfo v h o) + W (hf_nd r (1 <<< o)) else 0
theorem zinn_law (v W : Nat → Nat) (r h : Nat) : ∀ n, 9 + W r ≤ (zinn v W r h n).1 ∧ ((zinn v W r h n).2 = none → (zinn v W r h n).1 = 9 + W r) ∧ (∀ o, (zinn v W r h n).2 = some o → h + 1 ≤ o ∧ o < h + 1 + n ∧ (r.testBit o = true ∧ zfo v h o ≠ 0) ∧ zcand v W r h o = (zinn v W r h n).1 ∧ 9 + W r < (zinn v W r h n).1 ∧ ∀ q, h + 1 ≤ q → q < o → zcand v W r h q < (zinn v W r h n).1) ∧ ∀ q, h + 1 ≤ q → q < h + 1 + n → zcand v W r h q ≤ (zinn v W r h n).1
  | 0 => ⟨Nat.le_refl _, fun _ => rfl, fun o ho => (by cases ho), fun q h1 h2 => (by omega)⟩
  | n + 1 => by
    obtain ⟨a1, a2, a3, a4⟩ := zinn_law v W r h n
    have e : zinn v W r h (n + 1) = zstep v W r h (h + 1 + n) (zinn v W r h n) := rfl
    rw [e]
    generalize zinn v W r h n = bm at *
    unfold zstep
    by_cases c : r.testBit (h + 1 + n) = true ∧ zfo v h (h + 1 + n) ≠ 0
    · have hc : zcand v W r h (h + 1 + n) = zpay (zfo v h (h + 1 + n)) + W (hf_nd r (1 <<< (h + 1 + n))) := if_pos c
      rw [if_pos c]
      by_cases d : bm.1 < zpay (zfo v h (h + 1 + n)) + W (hf_nd r (1 <<< (h + 1 + n)))
      · rw [if_pos d]
        refine ⟨by show _ ≤ _ + _; omega, fun z => (by cases z), fun o ho => ?_, fun q h1 h2 => ?_⟩
        · cases ho
          refine ⟨by omega, by omega, c, hc, by show _ < _ + _; omega, fun q h1 h2 => ?_⟩
          have := a4 q h1 (by omega)
          show _ < _ + _
          omega
        · show _ ≤ _ + _
          by_cases eq : q = h + 1 + n
          · rw [eq, hc]; exact Nat.le_refl _
          · have := a4 q h1 (by omega); omega
      · rw [if_neg d]
        refine ⟨a1, a2, fun o ho => ?_, fun q h1 h2 => ?_⟩
        · obtain ⟨b1, b2, b3⟩ := a3 o ho
          exact ⟨b1, by omega, b3⟩
        · by_cases eq : q = h + 1 + n
          · rw [eq, hc]; omega
          · exact a4 q h1 (by omega)
    · rw [if_neg c]
      have hc : zcand v W r h (h + 1 + n) = 0 := if_neg c
      refine ⟨a1, a2, fun o ho => ?_, fun q h1 h2 => ?_⟩
      · obtain ⟨b1, b2, b3⟩ := a3 o ho
        exact ⟨b1, by omega, b3⟩
      · by_cases eq : q = h + 1 + n
        · rw [eq, hc]; omega
        · exact a4 q h1 (by omega)
section ZX
variable {h : hf_H} {o f s : Nat} {v : Nat → Nat} {XV : hf_V}
theorem x_pairOf (X : hf_XX h o f s) (F : hf_F h f v) (W : hf_wf v) {a b : Nat} (ha : a < v 1) (hb : b < v 1) : spX0_pairOf o (Int32.ofNat a) (Int32.ofNat b) h = some (Int32.ofNat (if zfo v a b = 0 then 0 else zpay (zfo v a b)), h) := by
  unfold spX0_pairOf
  rw [X.ob, x_fit2 X F W ha hb, hf_b2_some]
  have := zfo_le v a b
  rcases (show zfo v a b = 0 ∨ zfo v a b = 1 ∨ zfo v a b = 2 by omega) with e | e | e <;> rw [e] <;> rfl
theorem x_least {t : Nat} (hs : t < 4096) (h0 : t ≠ 0) : spX0_least (Int32.ofNat t) = some (Int32.ofNat (zlow t)) := by
  obtain ⟨a1, a2, a3⟩ := z_low hs h0
  unfold spX0_least
  refine hf_loop (fun n i => lpX0_least_2 n (Int32.ofNat t) (Int32.ofNat i)) (zlow t) _ (fun i n hi => ?_) (fun n => ?_) (fuel := hf_N) (by unfold hf_N; omega)
  · show ndX0_least_2 (lpX0_least_2 n) _ _ = _
    unfold ndX0_least_2
    rw [x_has (by omega) (by omega), Option.bind_some, a3 i hi]
    rw [if_pos (by decide), hf_let_eq, z_lit, z_add]
  · show ndX0_least_2 (lpX0_least_2 n) _ _ = _
    unfold ndX0_least_2
    rw [x_has (by omega) (by omega), Option.bind_some, a2]
    rw [if_neg (by decide)]
/-- HalfFair's worths, sets up to i filled -/
def zxW (XV : hf_V) (v : Nat → Nat) (i : Nat) : Nat → Int32 := fun s => if s ≤ i then Int32.ofNat ((zTab v i).1 s) else XV.2.2.2.1 12 s
theorem zxW_up (i : Nat) : zup (zxW XV v i) (i + 1) (Int32.ofNat (zent v (zTab v i).1 (i + 1)).1) = zxW XV v (i + 1) := by
  funext s
  unfold zup zxW
  by_cases e : s = i + 1
  · rw [if_pos e, e, if_pos (Nat.le_refl _), (zTab_new v i).1]
  · rw [if_neg e]
    by_cases h : s ≤ i
    · rw [if_pos h, if_pos (by omega), (zTab_old v i s h).1]
    · rw [if_neg h, if_neg (by omega)]
theorem z_nd1 {s k : Nat} (hk : k < 32) : Int32.ofNat s &&& (((1 : Int32) <<< (Int32.ofNat k &&& 31)) ^^^ (-1 : Int32)) = Int32.ofNat (hf_nd s (1 <<< k)) := by
  rw [z_sh1 hk, z_nd]
theorem x_fillsWorths (X : hf_XX h o f s) (F : hf_F h f v) (Wf : hf_wf v) (e : hf_ob 1 0 h o = some XV) : spX0_fillsWorths o h = some (hf_xc h o (hf_sa XV 12 (zxW XV v (2 ^ v 1 - 1)))) := by
  have hn := Wf.v1
  obtain ⟨p1, p2, p3⟩ := zpow12 hn
  have XA : ∀ A, hf_XX (hf_xc h o (hf_sa XV 12 A)) o f s := fun A => X.xc e rfl rfl
  have FA : ∀ A, hf_F (hf_xc h o (hf_sa XV 12 A)) f v := fun A => F.xc e _
  have ai : ∀ (A : Nat → Int32) (i : Nat), i < 4096 → hf_ai 0 12 4096 (hf_xc h o (hf_sa XV 12 A)) o (Int32.ofNat i) = some (A i) := fun A i hi => by
    rw [hf_ai_eq (hf_ob_xc h o _), z_ld hi (by omega), hf_sa_at]
  have si : ∀ (A : Nat → Int32) (i : Nat) (x : Int32), i < 4096 → hf_si 0 12 4096 (hf_xc h o (hf_sa XV 12 A)) o (Int32.ofNat i) x = some (hf_xc h o (hf_sa XV 12 (zup A i x))) := fun A i x hi => by
    rw [hf_si_eq (hf_ob_xc h o _) 12 hi (by omega), hf_ua_sa]
    exact congrArg some (hf_xc_xc h o _ _)
  have h0 : spX0_fillsWorths o h = lpX0_fillsWorths_9 hf_N o (Int32.ofNat (0 + 1)) (hf_xc h o (hf_sa XV 12 (zxW XV v 0))) := by
    have hst : h = hf_xc h o (hf_sa XV 12 (XV.2.2.2.1 12)) := by
      have : hf_sa XV 12 (XV.2.2.2.1 12) = XV := by
        unfold hf_sa
        refine Prod.ext rfl (Prod.ext rfl (Prod.ext rfl (Prod.ext ?_ rfl)))
        funext j
        by_cases e : j = 12 <;> simp [e]
      rw [this, hf_xc_self e]
    have e0 : zup (XV.2.2.2.1 12) 0 (Int32.ofNat 0) = zxW XV v 0 := by
      funext s
      unfold zup zxW
      by_cases e : s = 0
      · rw [if_pos e, if_pos (by omega), e]; rfl
      · rw [if_neg e, if_neg (by omega)]
    have h1 : ((hf_ob 1 0 h o).bind fun _ => (hf_si 0 12 4096 h o (Int32.ofNat 0) (Int32.ofNat 0)).bind fun g1 => lpX0_fillsWorths_9 hf_N o (Int32.ofNat (0 + 1)) g1) = lpX0_fillsWorths_9 hf_N o (Int32.ofNat (0 + 1)) (hf_xc h o (hf_sa XV 12 (zxW XV v 0))) := by
      rw [X.ob]
      have h2 := si (XV.2.2.2.1 12) 0 (Int32.ofNat 0) (by decide)
      rw [← hst, e0] at h2
      rw [h2, Option.bind_some]
    exact h1
  rw [h0]
  refine hf_loop (fun n i => lpX0_fillsWorths_9 n o (Int32.ofNat (i + 1)) (hf_xc h o (hf_sa XV 12 (zxW XV v i)))) (2 ^ v 1 - 1) _ (fun i n hi => ?_) (fun n => ?_) (fuel := hf_N) (by unfold hf_N; omega)
  · show ndX0_fillsWorths_9 (lpX0_fillsWorths_9 n) _ _ _ = _
    obtain ⟨l1, l2, l3⟩ := z_low (s := i + 1) (by omega) (by omega)
    have hr := hf_nd_lt l2
    have hlow : zlow (i + 1) < v 1 := by
      by_cases z : zlow (i + 1) < v 1
      · exact z
      · have h1 : (i + 1).testBit (zlow (i + 1)) = false := Nat.testBit_lt_two_pow (Nat.lt_of_lt_of_le (show i + 1 < 2 ^ v 1 by omega) (Nat.pow_le_pow_right (by decide) (by omega)))
        rw [l2] at h1
        cases h1
    unfold ndX0_fillsWorths_9
    have hN9 : 100 < hf_N := by unfold hf_N; omega
    generalize hf_N = N9 at hN9
    have hgt : ¬ Int32.ofNat (1 <<< v 1) ≤ Int32.ofNat (i + 1) := z_nle (by rw [p1]; omega) (by rw [p1]; omega)
    have a1 : Int32.ofNat (zlow (i + 1)) + (1 : Int32) = Int32.ofNat (zlow (i + 1) + 1) := z_add _ 1
    have hW : ∀ x, x < i + 1 → zxW XV v i x = Int32.ofNat ((zTab v i).1 x) := fun x hx => if_pos (by omega)
    have a9 : ∀ x, (9 : Int32) + Int32.ofNat x = Int32.ofNat (9 + x) := fun x => z_add 9 x
    rw [(XA _).ob, x_many (XA _) (FA _), hf_b2_some, z_sh1 (by omega), if_neg hgt, x_least (by omega) (by omega), Option.bind_some, z_nd1 (by omega), hf_let_eq, (XA _).ob, ai _ _ (by omega), Option.bind_some, hW _ (by omega), a9, hf_let_eq, a1, hf_let_eq]
    generalize hr2 : hf_nd (i + 1) (1 <<< zlow (i + 1)) = r at hr
    generalize hl2 : zlow (i + 1) = l at *
    have hTb : ∀ x, (zTab v i).1 x ≤ 1000000 := fun x => by
      have := zTab_le v i x
      omega
    refine (hf_loop (fun n' j => lpX0_fillsWorths_48 (lpX0_fillsWorths_9 n) n' o (Int32.ofNat (i + 1)) (Int32.ofNat l) (Int32.ofNat r) (Int32.ofNat (zinn v (zTab v i).1 r l j).1) (Int32.ofNat (l + 1 + j)) (hf_xc h o (hf_sa XV 12 (zxW XV v i)))) (v 1 - (l + 1)) (lpX0_fillsWorths_9 n o (Int32.ofNat (i + 1 + 1)) (hf_xc h o (hf_sa XV 12 (zxW XV v (i + 1))))) (fun j n' hj => ?_) (fun n' => ?_) (fuel := N9) (by omega))
    · show ndX0_fillsWorths_48 (lpX0_fillsWorths_9 n) (lpX0_fillsWorths_48 (lpX0_fillsWorths_9 n) n') _ _ _ _ _ _ _ = lpX0_fillsWorths_48 (lpX0_fillsWorths_9 n) n' o (Int32.ofNat (i + 1)) (Int32.ofNat l) (Int32.ofNat r) (Int32.ofNat (zstep v (zTab v i).1 r l (l + 1 + j) (zinn v (zTab v i).1 r l j)).1) (Int32.ofNat (l + 1 + (j + 1))) (hf_xc h o (hf_sa XV 12 (zxW XV v i)))
      have b3 := zinn_le v (zTab v i).1 1000000 hTb r l j
      generalize zinn v (zTab v i).1 r l j = bm at b3
      have b4 := hTb (hf_nd r (1 <<< (l + 1 + j)))
      have b5 := hf_nd_le r (1 <<< (l + 1 + j))
      have j104 : ∀ y, ndX0_fillsWorths_104 (lpX0_fillsWorths_9 n) (lpX0_fillsWorths_48 (lpX0_fillsWorths_9 n) n') o (Int32.ofNat (i + 1)) (Int32.ofNat l) (Int32.ofNat r) y (Int32.ofNat (l + 1 + j)) (hf_xc h o (hf_sa XV 12 (zxW XV v i))) = lpX0_fillsWorths_48 (lpX0_fillsWorths_9 n) n' o (Int32.ofNat (i + 1)) (Int32.ofNat l) (Int32.ofNat r) y (Int32.ofNat (l + 1 + (j + 1))) (hf_xc h o (hf_sa XV 12 (zxW XV v i))) := fun y => by
        unfold ndX0_fillsWorths_104
        rw [hf_let_eq, z_lit, z_add]
        rfl
      unfold ndX0_fillsWorths_48
      rw [(XA _).ob, x_many (XA _) (FA _), hf_b2_some, if_neg (z_nle (by omega) (by omega)), x_has (by omega) (by omega), Option.bind_some]
      unfold zstep
      by_cases c1 : r.testBit (l + 1 + j) = true
      case neg =>
        rw [if_neg c1, if_pos (by decide), j104, if_neg (fun z => c1 z.1)]
      rw [if_pos c1, if_neg (by decide), (XA _).ob, x_pairOf (XA _) (FA _) Wf hlow (by omega), hf_b2_some]
      have b6 : zpay (zfo v l (l + 1 + j)) ≤ 40 ∧ 20 ≤ zpay (zfo v l (l + 1 + j)) := by
        unfold zpay
        split <;> omega
      by_cases c2 : zfo v l (l + 1 + j) = 0
      · rw [if_pos c2, if_pos (show Int32.ofNat 0 ≤ 0 by decide), j104, if_neg (fun z => z.2 c2)]
      have hp : ¬ Int32.ofNat (zpay (zfo v l (l + 1 + j))) ≤ 0 := z_nle (b := 0) (by omega) (by omega)
      rw [if_neg c2, if_neg hp, (XA _).ob, x_pairOf (XA _) (FA _) Wf hlow (by omega), hf_b2_some, if_neg c2, (XA _).ob, z_nd1 (by omega), ai _ _ (by omega), Option.bind_some, hW _ (by omega), z_add, hf_let_eq, j104, if_pos (show r.testBit (l + 1 + j) = true ∧ zfo v l (l + 1 + j) ≠ 0 from ⟨c1, c2⟩)]
      by_cases c3 : bm.1 < zpay (zfo v l (l + 1 + j)) + (zTab v i).1 (hf_nd r (1 <<< (l + 1 + j)))
      · rw [if_pos c3, if_pos ((z_lt (by omega) (by omega)).mpr c3)]
      · rw [if_neg c3, if_neg (fun z => c3 ((z_lt (by omega) (by omega)).mp z))]
    · show ndX0_fillsWorths_48 (lpX0_fillsWorths_9 n) (lpX0_fillsWorths_48 (lpX0_fillsWorths_9 n) n') _ _ _ _ _ _ _ = _
      unfold ndX0_fillsWorths_48
      have a2 : Int32.ofNat (i + 1) + (1 : Int32) = Int32.ofNat (i + 1 + 1) := z_add _ 1
      rw [(XA _).ob, x_many (XA _) (FA _), hf_b2_some, if_pos (z_yle (by omega) (by omega)), (XA _).ob, si _ _ _ (by omega), Option.bind_some, a2, hf_let_eq]
      have e1 : zinn v (zTab v i).1 r l (v 1 - (l + 1)) = zent v (zTab v i).1 (i + 1) := by
        unfold zent
        rw [hl2, hr2]
      rw [e1, zxW_up]
  · show ndX0_fillsWorths_9 (lpX0_fillsWorths_9 n) _ _ _ = _
    unfold ndX0_fillsWorths_9
    rw [(XA _).ob, x_many (XA _) (FA _), hf_b2_some, z_sh1 (by omega), if_pos (z_yle (by rw [p1]; omega) (by omega))]
end ZX
section ZI
variable {P : Nat} {g g' : hf_H} {o f st kp rl rd : Nat} {V V' XV : hf_V} {ps ik sk : Nat → Nat} {v v' : Nat → Nat}
/-- worths are filled -/
theorem hf_I.fills (I : hf_I P g o V XV f st kp rl rd ps ik sk v) : ∃ XV', spX0_fillsWorths o g = some (hf_xc g o XV') ∧ hf_I P (hf_xc g o XV') o V XV' f st kp rl rd ps ik sk v ∧ ∀ s, s < 2 ^ v 1 → hf_ai 0 12 4096 (hf_xc g o XV') o (Int32.ofNat s) = some (Int32.ofNat (zW v s)) := by
  obtain ⟨p1, p2, p3⟩ := zpow12 I.W.v1
  refine ⟨_, x_fillsWorths I.X I.F I.W I.e, I.xc ⟨rfl, fun _ _ => rfl, fun k hk => hf_sa_ne XV (by omega) _, rfl⟩ (hf_mz.rfl_ V) I.sv, fun s hs => ?_⟩
  rw [hf_ai_eq (hf_ob_xc g o _), z_ld (by omega) (by omega), hf_sa_at]
  unfold zxW
  rw [if_pos (by omega)]
  rfl
theorem hf_I.mw (I : hf_I P g o V XV f st kp rl rd ps ik sk v) {s : Nat} (hs : s < 2 ^ v 1) : hf_ld 4096 (V.2.2.2.1 22) (Int32.ofNat s) = some (Int32.ofNat (zW v s)) := by
  obtain ⟨p1, p2, p3⟩ := zpow12 I.W.v1
  rw [z_ld (by omega) (by omega), (I.2.2.2.2.1 s hs).1]
theorem zhas_lt2 (v : Nat → Nat) (b : Nat) : zhas v b < 2 ^ v 1 := zset_lt _ _
theorem x_isSet (I : hf_I P g o V XV f st kp rl rd ps ik sk v) (x : Int32) : spX0_isSet o x g = some (if v 0 ≠ 0 ∧ zin x (2 ^ v 1) then Int32.ofNat 1 else Int32.ofNat 0, g) := by
  obtain ⟨p1, p2, p3⟩ := zpow12 I.W.v1
  have q1 := I.W.v1
  unfold spX0_isSet
  rw [I.X.ob, x_isFair I.X I.F I.W, hf_b2_some]
  by_cases h0 : v 0 = 0
  · rw [if_pos h0, if_pos (show Int32.ofNat 0 = 0 from rfl), if_neg (fun z => z.1 h0)]; rfl
  rw [if_neg h0, if_neg (show ¬ Int32.ofNat 1 = 0 by decide), I.X.ob, x_many I.X I.F, hf_b2_some, z_sh1 (by omega), p1, x_inn x (by omega), Option.bind_some]
  by_cases hz : zin x (2 ^ v 1)
  · rw [z1T hz, if_pos ⟨h0, hz⟩]; rfl
  · rw [z1F hz, if_neg (fun z => hz z.2)]; rfl
theorem m_isSet (I : hf_I P g o V XV f st kp rl rd ps ik sk v) (x : Int32) : spX4_isSet x V = some (if v 0 ≠ 0 ∧ zin x (2 ^ v 1) then Int32.ofNat 1 else Int32.ofNat 0, V) := by
  obtain ⟨p1, p2, p3⟩ := zpow12 I.W.v1
  have q1 := I.W.v1
  unfold spX4_isSet
  rw [m_isFair I.sv, hf_b2_some]
  by_cases h0 : v 0 = 0
  · rw [if_pos h0, if_pos (show Int32.ofNat 0 = 0 from rfl), if_neg (fun z => z.1 h0)]; rfl
  rw [if_neg h0, if_neg (show ¬ Int32.ofNat 1 = 0 by decide), I.sv.l1, Option.bind_some, z_sh1 (by omega), p1]
  by_cases hz : zin x (2 ^ v 1)
  · obtain ⟨k, hk, rfl⟩ := zin_ex hz (by omega)
    rw [if_neg (z_n0 k (by omega)), if_neg (z_nle hk (by omega)), if_pos (show v 0 ≠ 0 ∧ zin (Int32.ofNat k) (2 ^ v 1) from ⟨h0, hz⟩)]; rfl
  · rw [if_neg (show ¬ (v 0 ≠ 0 ∧ zin x (2 ^ v 1)) from fun z => hz z.2)]
    rcases zin_no hz with h1 | ⟨h1, h2⟩
    · rw [if_pos h1]; rfl
    · rw [if_neg h1, if_pos h2]; rfl
theorem op_worth (J : hf_INV P g o V) (a : Int32) : hf_OPr P g o (spX0_worth o a g) (spX4_worth a V) := by
  obtain ⟨XV, f, st, kp, rl, rd, ps, ik, sk, v, I⟩ := J
  obtain ⟨p1, p2, p3⟩ := zpow12 I.W.v1
  unfold spX0_worth spX4_worth spX0_worthOf
  rw [I.X.ob, x_isSet I, hf_b2_some, m_isSet I, hf_b2_some]
  by_cases h : v 0 ≠ 0 ∧ zin a (2 ^ v 1)
  case neg => rw [z1F h, z1F h]; exact I.same _
  obtain ⟨k, hk, rfl⟩ := zin_ex h.2 (by omega)
  obtain ⟨XV', w1, w2, w3⟩ := I.fills
  rw [z1T h, z1T h, I.X.ob, I.X.ob, w1, Option.bind_some, w2.X.ob, w3 k hk, Option.bind_some, hf_b2_some, I.mw hk, Option.bind_some]
  exact ⟨_, _, _, rfl, rfl, w2.inv, I.fk _⟩
theorem op_buyer (J : hf_INV P g o V) (a b : Int32) : hf_OPr P g o (spX0_buyer o a b g) (spX4_buyer a b V) := by
  obtain ⟨XV, f, st, kp, rl, rd, ps, ik, sk, v, I⟩ := J
  have q1 := I.W.v1
  have q2 := I.W.v2
  unfold spX0_buyer spX4_buyer ndX4_buyer_48
  rw [I.X.ob, x_isBuyer I.X I.F I.W, hf_b2_some, m_isBuyerZ I.sv, hf_b2_some]
  by_cases hz : zin a (v 2)
  case neg => rw [z1F hz, z1F hz]; exact I.same _
  obtain ⟨i, hi, rfl⟩ := zin_ex hz (by omega)
  have qi := I.W.buyer hi
  rw [z1T hz, z1T hz]
  by_cases h0 : b = 0
  · subst h0
    rw [if_pos rfl, if_pos rfl, I.X.st, Option.bind_some, I.S.ob, I.S.purse hi q2, Option.bind_some, m_buyer0 I.sv (by omega), hf_b2_some]; exact I.same _
  rw [if_neg h0, if_neg h0]
  by_cases h1 : b = 1
  · subst h1
    rw [if_pos rfl, if_pos rfl, I.X.st, Option.bind_some, I.S.ob, I.S.spot hi q2, Option.bind_some, m_buyer1 I.sv (by omega), hf_b2_some]; exact I.same _
  rw [if_neg h1, if_neg h1]
  by_cases h2 : b = 2
  · subst h2
    rw [if_pos rfl, if_pos rfl, I.X.st, Option.bind_some, I.X.fa, Option.bind_some, I.S.ob, x_halvesOf I.F I.S I.W (by omega), hf_b2_some, m_hasOf I.sv q1 (by omega), hf_b2_some]; exact I.same _
  rw [if_neg h2, if_neg h2]
  by_cases h3 : b = 3
  · subst h3
    rw [if_pos rfl, if_pos rfl, I.X.st, Option.bind_some, I.X.fa, Option.bind_some, I.S.ob, x_clubSaw I.F I.S I.W hi, hf_b2_some, m_sawOf I.sv q2 (by omega), hf_b2_some]; exact I.same _
  rw [if_neg h3, if_neg h3]
  by_cases h4 : b = 4
  · subst h4
    have hm : v (70 + 4 * i + 3) &&& (2 ^ v 2 - 1) = v (70 + 4 * i + 3) := Nat.and_two_pow_sub_one_of_lt_two_pow (I.W.club hi)
    have a1 : Int32.ofNat (1 <<< v 2) - (1 : Int32) = Int32.ofNat (2 ^ v 2 - 1) := by
      rw [Nat.one_shiftLeft]
      exact z_sub (b := 1) (Nat.two_pow_pos _)
    rw [if_pos rfl, if_pos rfl, I.X.fa, Option.bind_some, I.F.ob, I.F.club hi q2, Option.bind_some, I.X.ob, x_buyers I.X I.F, hf_b2_some, z_sh1 (by omega), a1, z_and, hm, m_buyer3 I.sv (by omega), hf_b2_some]; exact I.same _
  rw [if_neg h4, if_neg h4]
  by_cases h5 : b = 5
  · subst h5
    obtain ⟨XV', w1, w2, w3⟩ := I.fills
    unfold spX0_worthOf
    rw [if_pos rfl, if_pos rfl, I.X.st, Option.bind_some, I.X.fa, Option.bind_some, I.S.ob, x_halvesOf I.F I.S I.W (by omega), hf_b2_some, I.X.ob, I.X.ob, w1, Option.bind_some, w2.X.ob, w3 _ (zhas_lt2 v i), Option.bind_some, hf_b2_some, m_hasOf I.sv q1 (by omega), hf_b2_some, I.mw (zhas_lt2 v i), Option.bind_some]
    exact ⟨_, _, _, rfl, rfl, w2.inv, I.fk _⟩
  rw [if_neg h5, if_neg h5]
  exact I.same _
end ZI
set_option maxRecDepth 100000
set_option maxHeartbeats 1000000
/-! with, yields, chance -/
theorem hf_nd_nd (a b c : Nat) : hf_nd (hf_nd a b) c = hf_nd a (b ||| c) := by
  apply Nat.eq_of_testBit_eq
  intro i
  rw [hf_nd_bit, hf_nd_bit, hf_nd_bit, Nat.testBit_or]
  cases a.testBit i <;> cases b.testBit i <;> cases c.testBit i <;> rfl
theorem zlow_lt {s n : Nat} (hn : n ≤ 12) (hs : s < 2 ^ n) (h0 : s ≠ 0) : zlow s < n := by
  have h12 := (zpow12 hn).2.1
  have hl := z_low (s := s) (by omega) h0
  by_cases z : zlow s < n
  · exact z
  · have h1 : s.testBit (zlow s) = false := Nat.testBit_lt_two_pow (Nat.lt_of_lt_of_le hs (Nat.pow_le_pow_right (by decide) (by omega)))
    rw [hl.2.1] at h1
    cases h1
section ZI
variable {P : Nat} {g g' : hf_H} {o f st kp rl rd : Nat} {V V' XV : hf_V} {ps ik sk : Nat → Nat} {v v' : Nat → Nat}
theorem x_firstWith (I : hf_I P g o V XV f st kp rl rd ps ik sk v) (hW : ∀ s, s < 2 ^ v 1 → hf_ai 0 12 4096 g o (Int32.ofNat s) = some (Int32.ofNat (zW v s))) {s : Nat} (hs : s < 2 ^ v 1) (h0 : s ≠ 0) : spX0_firstWith o (Int32.ofNat s) g = some (zcode (zM v s), g) ∧ ∀ q, zM v s = some q → zlow s < q ∧ q < v 1 ∧ s.testBit q = true := by
  have q1 := I.W.v1
  obtain ⟨p1, p2, p3⟩ := zpow12 q1
  obtain ⟨l1, l2, l3⟩ := z_low (s := s) (by omega) h0
  have hlow := zlow_lt q1 hs h0
  have hr := hf_nd_lt l2
  obtain ⟨k, rfl⟩ : ∃ k, s = k + 1 := ⟨s - 1, by omega⟩
  have eW : zW v (k + 1) = (zent v (zTab v k).1 (k + 1)).1 := by rw [← zW_at v (Nat.le_refl _) hs, (zTab_new v k).1]
  have eM : zM v (k + 1) = (zent v (zTab v k).1 (k + 1)).2 := by rw [← zM_at v (Nat.le_refl _) hs, (zTab_new v k).2]
  have hT : ∀ x, x ≤ k → (zTab v k).1 x = zW v x := fun x hx => zW_at v hx (by omega)
  have law := zinn_law v (zTab v k).1 (hf_nd (k + 1) (1 <<< zlow (k + 1))) (zlow (k + 1)) (v 1 - (zlow (k + 1) + 1))
  have e1 : zinn v (zTab v k).1 (hf_nd (k + 1) (1 <<< zlow (k + 1))) (zlow (k + 1)) (v 1 - (zlow (k + 1) + 1)) = zent v (zTab v k).1 (k + 1) := rfl
  rw [e1, hT _ (by omega)] at law
  rw [← eW, ← eM] at law
  obtain ⟨a1, a2, a3, a4⟩ := law
  generalize hl2 : zlow (k + 1) = l at *
  generalize hr2 : hf_nd (k + 1) (1 <<< l) = r at *
  have hbit : ∀ q, r.testBit q = true → (k + 1).testBit q = true := fun q hq => by
    rw [← hr2, hf_nd_bit] at hq
    cases h : (k + 1).testBit q
    · rw [h] at hq; simp at hq
    · rfl
  refine ⟨?_, fun q hq => ?_⟩
  rotate_left
  · obtain ⟨b1, b2, b3, -⟩ := a3 q hq
    exact ⟨by omega, by omega, hbit q b3.1⟩
  have bW : ∀ x, zW v x ≤ 200000 := fun x => zW_le x q1
  unfold spX0_firstWith
  have a9 : (9 : Int32) + Int32.ofNat (zW v r) = Int32.ofNat (9 + zW v r) := z_add 9 _
  rw [x_least (by omega) (by omega), hl2, Option.bind_some, z_nd1 (by omega), hr2, hf_let_eq, I.X.ob, hW r (by omega), Option.bind_some, I.X.ob, hW (k + 1) hs, Option.bind_some, a9]
  by_cases c : 9 + zW v r = zW v (k + 1)
  · have hn : zM v (k + 1) = none := by
      cases hm : zM v (k + 1) with
      | none => rfl
      | some q => have := (a3 q hm).2.2.2.2.1; omega
    rw [hn, if_pos (by rw [c])]
    rfl
  have bWk := bW (k + 1)
  have bWr := bW r
  rw [if_neg (fun z => c ((z_eq (by omega) (by omega)).mp z))]
  cases hm : zM v (k + 1) with
  | none => exact absurd (a2 hm).symm c
  | some q =>
    obtain ⟨b1, b2, b3, b4, b5, b6⟩ := a3 q hm
    have a1' : Int32.ofNat l + (1 : Int32) = Int32.ofNat (l + 1) := z_add _ 1
    rw [a1', hf_let_eq]
    have hval : ∀ j, l + 1 ≤ j → j < v 1 → (r.testBit j = true ∧ zfo v l j ≠ 0) → zcand v (zTab v k).1 r l j = zpay (zfo v l j) + zW v (hf_nd r (1 <<< j)) := fun j h1 h2 h3 => by
      unfold zcand
      rw [if_pos h3, hT _ (by have := hf_nd_le r (1 <<< j); omega)]
    refine hf_loop (fun n i => lpX0_firstWith_38 n o (Int32.ofNat (k + 1)) (Int32.ofNat l) (Int32.ofNat r) (Int32.ofNat (l + 1 + i)) g) (q - (l + 1)) _ (fun i n hi => ?_) (fun n => ?_) (fuel := hf_N) (by unfold hf_N; omega)
    · show ndX0_firstWith_38 (lpX0_firstWith_38 n) _ _ _ _ _ _ = _
      have j99 : ndX0_firstWith_99 (lpX0_firstWith_38 n) o (Int32.ofNat (k + 1)) (Int32.ofNat l) (Int32.ofNat r) (Int32.ofNat (l + 1 + i)) g = lpX0_firstWith_38 n o (Int32.ofNat (k + 1)) (Int32.ofNat l) (Int32.ofNat r) (Int32.ofNat (l + 1 + (i + 1))) g := by
        unfold ndX0_firstWith_99
        rw [hf_let_eq, z_lit, z_add]
        rfl
      unfold ndX0_firstWith_38
      rw [I.X.ob, x_many I.X I.F, hf_b2_some, if_neg (z_nle (by omega) (by omega)), x_has (by omega) (by omega), Option.bind_some, j99]
      by_cases c1 : r.testBit (l + 1 + i) = true
      case neg => rw [if_neg c1, if_pos (by decide)]
      rw [if_pos c1, if_neg (by decide), I.X.ob, x_pairOf I.X I.F I.W hlow (by omega), hf_b2_some]
      by_cases c2 : zfo v l (l + 1 + i) = 0
      · rw [if_pos c2, if_pos (show Int32.ofNat 0 ≤ 0 by decide), j99]
      have b7 : zpay (zfo v l (l + 1 + i)) ≤ 40 ∧ 20 ≤ zpay (zfo v l (l + 1 + i)) := by
        unfold zpay
        split <;> omega
      have hp : ¬ Int32.ofNat (zpay (zfo v l (l + 1 + i))) ≤ 0 := z_nle (b := 0) (by omega) (by omega)
      have hx := hf_nd_le r (1 <<< (l + 1 + i))
      have bx := bW (hf_nd r (1 <<< (l + 1 + i)))
      have hv := hval (l + 1 + i) (by omega) (by omega) ⟨c1, c2⟩
      have hlt := b6 (l + 1 + i) (by omega) (by omega)
      rw [if_neg c2, if_neg hp, I.X.ob, x_pairOf I.X I.F I.W hlow (by omega), hf_b2_some, if_neg c2, I.X.ob, z_nd1 (by omega), hW _ (by omega), Option.bind_some, I.X.ob, hW (k + 1) hs, Option.bind_some, z_add, if_neg (fun z => by have := (z_eq (by omega) (by omega)).mp z; omega), j99]
    · show ndX0_firstWith_38 (lpX0_firstWith_38 n) _ _ _ _ _ _ = _
      have hq : l + 1 + (q - (l + 1)) = q := by omega
      rw [hq]
      unfold ndX0_firstWith_38
      have b7 : zpay (zfo v l q) ≤ 40 ∧ 20 ≤ zpay (zfo v l q) := by
        unfold zpay
        split <;> omega
      have hp : ¬ Int32.ofNat (zpay (zfo v l q)) ≤ 0 := z_nle (b := 0) (by omega) (by omega)
      have hx := hf_nd_le r (1 <<< q)
      have hv := hval q (by omega) (by omega) b3
      rw [I.X.ob, x_many I.X I.F, hf_b2_some, if_neg (z_nle (by omega) (by omega)), x_has (by omega) (by omega), Option.bind_some, b3.1]
      rw [if_pos rfl, if_neg (by decide), I.X.ob, x_pairOf I.X I.F I.W hlow (by omega), hf_b2_some, if_neg b3.2, if_neg hp, I.X.ob, x_pairOf I.X I.F I.W hlow (by omega), hf_b2_some, if_neg b3.2, I.X.ob, z_nd1 (by omega), hW _ (by omega), Option.bind_some, I.X.ob, hW (k + 1) hs, Option.bind_some, z_add, if_pos (by rw [← hv, b4])]
      rfl
theorem zcode_ge {m : Option Nat} (h : ∀ q, m = some q → q < 12) : ¬ zcode m = -2 ∧ (zcode m = -1 ↔ m = none) ∧ (0 ≤ zcode m ↔ m ≠ none) := by
  cases m with
  | none => exact ⟨by decide, by decide, by decide⟩
  | some q =>
    have hq := h q rfl
    have h0 : ¬ Int32.ofNat q < 0 := z_n0 q (by omega)
    refine ⟨fun z => ?_, ⟨fun z => ?_, fun z => by cases z⟩, ⟨fun _ z => (by cases z), fun _ => Int32.not_lt.mp h0⟩⟩
    · rw [show Int32.ofNat q = -2 from z] at h0; exact absurd (by decide) h0
    · rw [show Int32.ofNat q = -1 from z] at h0; exact absurd (by decide) h0
theorem op_with (J : hf_INV P g o V) (a b : Int32) : hf_OPr P g o (spX0_with o a b g) (spX4_with a b V) := by
  obtain ⟨XV0, f, st, kp, rl, rd, ps, ik, sk, v, I0⟩ := J
  have q1 := I0.W.v1
  obtain ⟨p1, p2, p3⟩ := zpow12 q1
  unfold spX0_with spX4_with
  rw [I0.X.ob, x_isSet I0, hf_b2_some, m_isSet I0, hf_b2_some]
  by_cases h : v 0 ≠ 0 ∧ zin a (2 ^ v 1)
  case neg => rw [z1F h, z1F h]; exact I0.same _
  rw [z1T h, z1T h, I0.X.ob, x_isHalf I0.X I0.F I0.W, hf_b2_some, m_isHalfZ I0.sv, hf_b2_some]
  by_cases hz : zin b (v 1)
  case neg => rw [z1F hz, z1F hz]; exact I0.same _
  obtain ⟨s, hs, rfl⟩ := zin_ex h.2 (by omega)
  obtain ⟨d, hd, rfl⟩ := zin_ex hz (by omega)
  rw [z1T hz, z1T hz, x_has (by omega) (by omega), Option.bind_some, m_isOf (by omega) (by omega), Option.bind_some]
  by_cases hb : s.testBit d = true
  case neg => rw [if_neg hb, if_pos (show Int32.ofNat 0 = 0 from rfl), if_pos (show Int32.ofNat 0 = 0 from rfl)]; exact I0.same _
  obtain ⟨XV, w1, I, hW⟩ := I0.fills
  rw [if_pos hb, if_neg (show ¬ Int32.ofNat 1 = 0 by decide), if_neg (show ¬ Int32.ofNat 1 = 0 by decide), I0.X.ob, w1, Option.bind_some]
  have hk := I0.fk XV
  generalize hf_xc g o XV = g1 at *
  have key : ∃ r, lpX0_with_37 hf_N o (Int32.ofNat d) (Int32.ofNat s) (-2 : Int32) g1 = some (r, g1) ∧ lpX4_with_29 hf_N (Int32.ofNat d) (Int32.ofNat s) V = some (r, V) := by
    refine hf_whileR2 (fun n (z : Nat × Option Int32) => lpX0_with_37 n o (Int32.ofNat d) (Int32.ofNat z.1) (z.2.getD (-2)) g1) (fun n (z : Nat × Option Int32) => match z.2 with | none => lpX4_with_29 n (Int32.ofNat d) (Int32.ofNat z.1) V | some r => some (r, V)) (fun z => 2 * z.1 + (match z.2 with | none => 1 | some _ => 0)) (fun z => z.1 < 2 ^ v 1 ∧ (z.2 = none → z.1.testBit d = true) ∧ z.2 ≠ some (-2)) (fun r1 r2 => ∃ r, r1 = some (r, g1) ∧ r2 = some (r, V)) (fun n z hP => ?_) (s, none) ⟨hs, fun _ => hb, fun z => by cases z⟩ (by show 2 * s + 1 < hf_N; unfold hf_N; omega)
    obtain ⟨t, m⟩ := z
    obtain ⟨t1, t2, t3⟩ := hP
    simp only at t1 t2 t3
    have nX : ∀ y, lpX0_with_37 (n + 1) o (Int32.ofNat d) (Int32.ofNat t) y g1 = ndX0_with_37 (lpX0_with_37 n) o (Int32.ofNat d) (Int32.ofNat t) y g1 := fun y => rfl
    have nM : lpX4_with_29 (n + 1) (Int32.ofNat d) (Int32.ofNat t) V = ndX4_with_29 (lpX4_with_29 n) (Int32.ofNat d) (Int32.ofNat t) V := rfl
    cases m with
    | some r =>
      left
      refine ⟨r, ?_, rfl⟩
      show lpX0_with_37 (n + 1) o (Int32.ofNat d) (Int32.ofNat t) r g1 = _
      rw [nX]
      unfold ndX0_with_37
      rw [if_neg (fun z => t3 (by rw [z]))]
    | none =>
      right
      have tb := t2 rfl
      have h0 : t ≠ 0 := fun z => by rw [z, Nat.zero_testBit] at tb; cases tb
      obtain ⟨fw, fw2⟩ := x_firstWith I hW t1 h0
      obtain ⟨l1, l2, l3⟩ := z_low (s := t) (by omega) h0
      have hlow := zlow_lt q1 t1 h0
      have hmt : V.2.2.2.1 23 t = zcode (zM v t) := (I.2.2.2.2.1 t t1).2 (by omega)
      have zc := zcode_ge (m := zM v t) (fun q hq => by have := fw2 q hq; omega)
      have hX : ndX0_with_37 (lpX0_with_37 n) o (Int32.ofNat d) (Int32.ofNat t) (-2) g1 = if Int32.ofNat (zlow t) = Int32.ofNat d then ndX0_with_69 (lpX0_with_37 n) o (Int32.ofNat d) (Int32.ofNat t) (Int32.ofNat (zlow t)) (zcode (zM v t)) g1 else if zcode (zM v t) = Int32.ofNat d then ndX0_with_69 (lpX0_with_37 n) o (Int32.ofNat d) (Int32.ofNat t) (Int32.ofNat (zlow t)) (zcode (zM v t)) g1 else ndX0_with_84 (lpX0_with_37 n) o (Int32.ofNat d) (Int32.ofNat t) (-2) (Int32.ofNat (zlow t)) (zcode (zM v t)) g1 := by
        unfold ndX0_with_37
        rw [if_pos rfl, x_least (by omega) h0, Option.bind_some, I.X.ob, fw, hf_b2_some]
      have hM : ndX4_with_29 (lpX4_with_29 n) (Int32.ofNat d) (Int32.ofNat t) V = if Int32.ofNat (zlow t) = Int32.ofNat d then some (zcode (zM v t), V) else if zcode (zM v t) = Int32.ofNat d then some (Int32.ofNat (zlow t), V) else if 0 ≤ zcode (zM v t) then ndX4_with_80 (lpX4_with_29 n) (Int32.ofNat d) (Int32.ofNat t) ((1 : Int32) <<< (Int32.ofNat (zlow t) &&& 31)) ((1 : Int32) <<< (zcode (zM v t) &&& 31)) V else ndX4_with_80 (lpX4_with_29 n) (Int32.ofNat d) (Int32.ofNat t) ((1 : Int32) <<< (Int32.ofNat (zlow t) &&& 31)) (0 : Int32) V := by
        unfold ndX4_with_29
        rw [m_leastOf (by omega) h0, hf_b2_some, z_ld (by omega) (by omega), Option.bind_some, hmt]
      -- what is left after these two
      have hleft : ∃ t', ndX0_with_84 (lpX0_with_37 n) o (Int32.ofNat d) (Int32.ofNat t) (-2) (Int32.ofNat (zlow t)) (zcode (zM v t)) g1 = lpX0_with_37 n o (Int32.ofNat d) (Int32.ofNat t') (-2) g1 ∧ (∀ y, ndX0_with_84 (lpX0_with_37 n) o (Int32.ofNat d) (Int32.ofNat t) y (Int32.ofNat (zlow t)) (zcode (zM v t)) g1 = lpX0_with_37 n o (Int32.ofNat d) (Int32.ofNat t') y g1) ∧ (if 0 ≤ zcode (zM v t) then ndX4_with_80 (lpX4_with_29 n) (Int32.ofNat d) (Int32.ofNat t) ((1 : Int32) <<< (Int32.ofNat (zlow t) &&& 31)) ((1 : Int32) <<< (zcode (zM v t) &&& 31)) V else ndX4_with_80 (lpX4_with_29 n) (Int32.ofNat d) (Int32.ofNat t) ((1 : Int32) <<< (Int32.ofNat (zlow t) &&& 31)) (0 : Int32) V) = lpX4_with_29 n (Int32.ofNat d) (Int32.ofNat t') V ∧ t' < t ∧ (d ≠ zlow t → zM v t ≠ some d → t'.testBit d = true) := by
        cases hm : zM v t with
        | none =>
          refine ⟨hf_nd t (1 <<< zlow t), ?_, fun y => ?_, ?_, hf_nd_lt l2, fun n1 _ => ?_⟩
          · unfold ndX0_with_84 ndX0_with_108
            rw [z_nd1 (by omega), hf_let_eq, if_pos (show zcode none = -1 from rfl)]
          · unfold ndX0_with_84 ndX0_with_108
            rw [z_nd1 (by omega), hf_let_eq, if_pos (show zcode none = -1 from rfl)]
          · rw [if_neg (by decide)]
            unfold ndX4_with_80
            have h00 : Int32.ofNat (1 <<< zlow t) ||| (0 : Int32) = Int32.ofNat (1 <<< zlow t) := by
              have := z_or (1 <<< zlow t) 0
              rw [Nat.or_zero] at this
              exact this
            rw [z_sh1 (by omega), h00, z_nd, hf_let_eq]
          · rw [hf_nd_bit, tb, zbit1]; simp [n1]
        | some q =>
          obtain ⟨f1, f2, f3⟩ := fw2 q hm
          have hqn : ¬ zcode (some q) = -1 := fun z => by
            have h0 : ¬ Int32.ofNat q < 0 := z_n0 q (by omega)
            rw [show Int32.ofNat q = -1 from z] at h0; exact absurd (by decide) h0
          refine ⟨hf_nd t (1 <<< zlow t ||| 1 <<< q), ?_, fun y => ?_, ?_, ?_, fun n1 n2 => ?_⟩
          · unfold ndX0_with_84 ndX0_with_108
            rw [z_nd1 (by omega), hf_let_eq, if_neg hqn]
            show hf_let (Int32.ofNat (hf_nd t (1 <<< zlow t)) &&& (((1 : Int32) <<< (Int32.ofNat q &&& 31)) ^^^ (-1 : Int32))) _ = _
            rw [z_nd1 (by omega), hf_let_eq, hf_nd_nd]
          · unfold ndX0_with_84 ndX0_with_108
            rw [z_nd1 (by omega), hf_let_eq, if_neg hqn]
            show hf_let (Int32.ofNat (hf_nd t (1 <<< zlow t)) &&& (((1 : Int32) <<< (Int32.ofNat q &&& 31)) ^^^ (-1 : Int32))) _ = _
            rw [z_nd1 (by omega), hf_let_eq, hf_nd_nd]
          · have h0 : (0 : Int32) ≤ zcode (some q) := Int32.not_lt.mp (z_n0 q (by omega))
            rw [if_pos h0]
            show ndX4_with_80 (lpX4_with_29 n) (Int32.ofNat d) (Int32.ofNat t) ((1 : Int32) <<< (Int32.ofNat (zlow t) &&& 31)) ((1 : Int32) <<< (Int32.ofNat q &&& 31)) V = _
            unfold ndX4_with_80
            rw [z_sh1 (by omega), z_sh1 (by omega), z_or, z_nd, hf_let_eq]
          · rw [← hf_nd_nd]
            exact Nat.lt_of_le_of_lt (hf_nd_le _ _) (hf_nd_lt l2)
          · have n3 : d ≠ q := fun z => n2 (by rw [z])
            rw [hf_nd_bit, tb, Nat.testBit_or, zbit1, zbit1]; simp [n1, n3]
      obtain ⟨t', e1, e2, e3, e4, e5⟩ := hleft
      show ∃ z' : Nat × Option Int32, lpX0_with_37 (n + 1) o (Int32.ofNat d) (Int32.ofNat t) (-2) g1 = lpX0_with_37 n o (Int32.ofNat d) (Int32.ofNat z'.1) (z'.2.getD (-2)) g1 ∧ lpX4_with_29 (n + 1) (Int32.ofNat d) (Int32.ofNat t) V = (match z'.2 with | none => lpX4_with_29 n (Int32.ofNat d) (Int32.ofNat z'.1) V | some r => some (r, V)) ∧ (z'.1 < 2 ^ v 1 ∧ (z'.2 = none → z'.1.testBit d = true) ∧ z'.2 ≠ some (-2)) ∧ 2 * z'.1 + (match z'.2 with | none => 1 | some _ => 0) < 2 * t + 1
      rw [nX, nM, hX, hM]
      have h69 : ∀ y, ndX0_with_69 (lpX0_with_37 n) o (Int32.ofNat d) (Int32.ofNat t) (Int32.ofNat (zlow t)) (zcode (zM v t)) g1 = (if zcode (zM v t) = Int32.ofNat d then ndX0_with_84 (lpX0_with_37 n) o (Int32.ofNat d) (Int32.ofNat t) (Int32.ofNat (zlow t)) (Int32.ofNat (zlow t)) (zcode (zM v t)) g1 else ndX0_with_84 (lpX0_with_37 n) o (Int32.ofNat d) (Int32.ofNat t) (zcode (zM v t)) (Int32.ofNat (zlow t)) (zcode (zM v t)) g1) ∨ y = 1 := fun y => Or.inl rfl
      have h69' := (h69 0).resolve_right (by decide)
      by_cases c1 : Int32.ofNat (zlow t) = Int32.ofNat d
      · have c1n : zlow t = d := (z_eq (by omega) (by omega)).mp c1
        have c2 : ¬ zcode (zM v t) = Int32.ofNat d := fun z => by
          cases hm : zM v t with
          | none =>
            rw [hm] at z
            have := (z_n0 d (by omega))
            rw [← z] at this
            exact this (by decide)
          | some q =>
            rw [hm] at z
            have h9 : q = d := (z_eq (by have := fw2 q hm; omega) (by omega)).mp z
            have := fw2 q hm
            omega
        rw [if_pos c1, if_pos c1, h69', if_neg c2, e2]
        exact ⟨(t', some (zcode (zM v t))), rfl, rfl, ⟨by show t' < _; omega, fun z => (by cases z), fun z => zc.1 (Option.some.inj z)⟩, by show 2 * t' + 0 < 2 * t + 1; omega⟩
      rw [if_neg c1, if_neg c1]
      by_cases c2 : zcode (zM v t) = Int32.ofNat d
      · rw [if_pos c2, if_pos c2, h69', if_pos c2, e2]
        refine ⟨(t', some (Int32.ofNat (zlow t))), rfl, rfl, ⟨by show t' < _; omega, fun z => (by cases z), fun z => ?_⟩, by show 2 * t' + 0 < 2 * t + 1; omega⟩
        have h9 : Int32.ofNat (zlow t) = -2 := Option.some.inj z
        have := z_n0 (zlow t) (by omega)
        rw [h9] at this
        exact this (by decide)
      rw [if_neg c2, if_neg c2, e1, e3]
      refine ⟨(t', none), rfl, rfl, ⟨by show t' < _; omega, fun _ => e5 (fun z => c1 (by rw [z])) (fun z => c2 (by rw [z]; rfl)), fun z => by cases z⟩, by show 2 * t' + 1 < 2 * t + 1; omega⟩
  obtain ⟨r, k1, k2⟩ := key
  rw [k1, k2]
  exact ⟨r, g1, V, rfl, rfl, I.inv, hk⟩
end ZI
