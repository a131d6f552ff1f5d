set_option maxRecDepth 100000
set_option maxHeartbeats 1000000
/-! texts: a rule's clause behind its word -/
theorem hf_gm.rfl_ {pa o : Nat} {g : hf_H} (N : hf_no g) : hf_gm pa o g g 0 := ⟨fun _ _ _ _ => rfl, Nat.le_refl _, Nat.le_refl _, Nat.le_refl _, N⟩
theorem hf_no.lt2 {g : hf_H} (N : hf_no g) {q md ci : Nat} {V : hf_V} (e : hf_ob md ci g q = some V) : q < g.2.1 := N.olt e
section ZM
variable {V : hf_V} {B : Nat → Nat} {T a : Nat}
theorem m_takesW (H : hf_mt V B T) (h8 : V.1 8 = Int32.ofNat a) (ha : a ≤ T) {i : Nat} (hi : i < 27) : spX4_takesWord (zwI i) V = some (Int32.ofNat (if zis B T a (zw i) then 1 else 0), hf_ui V 8 (Int32.ofNat (if zis B T a (zw i) then zwe B T (zsk B T a) else zsk B T a))) := by
  have s2 := (zsk_le (B := B) ha).2
  unfold spX4_takesWord
  rw [m_isW H h8 ha hi, hf_b2_some]
  by_cases e : zis B T a (zw i)
  · rw [if_pos e, if_pos e, if_neg zz10, m_passWord (H.ui (by decide) _) (hf_ui_at _ _ _) s2, Option.bind_some, hf_ui_ui]
    rfl
  · rw [if_neg e, if_neg e, if_pos zz00]
    rfl
end ZM
section ZQ
variable {gs : hf_gs} {pa o nm : Nat} {B : Nat → Nat} {T t : Nat} {g0 : hf_H}
theorem xm_doing {g : hf_H} {PV V Vp : hf_V} {a m L k ra l d n : Nat} {p : Nat → Nat} {bX s1 : Int32} (hpass : spX4_passWord Vp = some V) (hb : (bX = 1 ∧ s1 = 0) ∨ (bX = 0 ∧ s1 = 1)) (hk : k < 12) (R : zRS gs pa o nm B T t g PV V a m L (k + 1) k ra l d p) (K : hf_gm pa o g0 g n) (hl : g0.2.1 ≤ l) (hd : g0.2.1 ≤ d) : (∃ g' V', ndX5_clause_2_35 gs pa ra bX g = some (.inl (o + 19), g') ∧ spX4_isDoingHere s1 Vp = some (0, V') ∧ zrf g0 g' pa o (n + (T + 1 - a) + 1) V V' t) ∨ ∃ g' PV' V' a' m' L' d' p', ndX5_clause_2_35 gs pa ra bX g = some (.inr (), g') ∧ spX4_isDoingHere s1 Vp = some (1, V') ∧ zRS gs pa o nm B T t g' PV' V' a' m' L' (k + 1) (k + 1) ra l d' p' ∧ a < a' ∧ g0.2.1 ≤ d' ∧ hf_gm pa o g0 g' (n + (a' - a) + 2) ∧ zvr V V' t := by
  obtain ⟨S, TT, ⟨c2, c4, c5, c14⟩, ⟨hL, -⟩, h6, ⟨RV, r1, r2⟩, hLd, hT⟩ := R
  have S0 := S
  obtain ⟨N, P, p0, p1, p3, wo, mt, v8, v9, v12, ha, hm⟩ := S
  obtain ⟨WV, w3⟩ := P.w3
  obtain ⟨t1, t2, t3⟩ := id TT
  obtain ⟨x3, hx3⟩ : ∃ x3, x3 = 60 * t + 5 * k := ⟨_, rfl⟩
  obtain ⟨V4, hV4⟩ : ∃ y, y = hf_ua V 5 x3 s1 := ⟨_, rfl⟩
  obtain ⟨V6, hV6⟩ : ∃ y, y = hf_ua V4 5 (x3 + 1) (Int32.ofNat L) := ⟨_, rfl⟩
  have b0 : (60 : Int32) * Int32.ofNat t + 5 * Int32.ofNat k = Int32.ofNat x3 := by rw [z_lit, z_lit, z_mul, z_mul, z_add, hx3]
  have b1 : Int32.ofNat x3 + (1 : Int32) = Int32.ofNat (x3 + 1) := z_add _ 1
  have b2 : Int32.ofNat x3 + (2 : Int32) = Int32.ofNat (x3 + 2) := z_add _ 2
  have b3 : Int32.ofNat x3 + (3 : Int32) = Int32.ofNat (x3 + 3) := z_add _ 3
  have i6 : V6.1 = V.1 := by rw [hV6, hV4]; rfl
  have A6 : ∀ q, V6.2.2.2.1 5 q = if q = x3 + 1 then Int32.ofNat L else if q = x3 then s1 else V.2.2.2.1 5 q := fun q => by
    rw [hV6, hf_ua_at, hV4, hf_ua_at]
  have B6 : ∀ j, j ≠ 5 → V6.2.2.2.1 j = V.2.2.2.1 j := fun j hj => by
    rw [hV6, hf_ua_ne _ hj, hV4, hf_ua_ne _ hj]
  have S6 : hf_ps gs g pa o nm PV B T V6 a m := S0.v i6 (B6 0 (by decide))
  have T6 : hf_tt V6 t L := TT.v (by rw [i6]) (by rw [B6 4 (by decide)])
  have F6 : zvr V V6 t := by
    rw [hV6, hV4]
    exact ((zvr.rfl_ V t).ua5 (by omega) _).ua5 (by omega) _
  have hM1 : spX4_isDoingHere s1 Vp = hf_b2 (spX4_sum V6) fun x8 V7 =>
      if x8 = 0 then (some ((0 : Int32), V7)) else
      (hf_ld 7 (V7.2.2.2.1 4) (V7.1 11)).bind fun x9 =>
      hf_sd 360 (Int32.ofNat x3 + (2 : Int32)) (fun j => hf_ua V7 5 j x9) fun V10 =>
      hf_sd 360 (Int32.ofNat x3 + (3 : Int32)) (fun j => hf_ua V10 5 j (-1 : Int32)) fun V11 =>
      hf_b2 (spX4_takesWord (26982 : Int64) V11) fun x13 V12 =>
      if x13 = 0 then (ndX4_isDoingHere_119 (Int32.ofNat x3) V12) else
      (hf_ld 7 (V12.2.2.2.1 4) (V12.1 11)).bind fun x14 =>
      hf_sd 360 (Int32.ofNat x3 + (3 : Int32)) (fun j => hf_ua V12 5 j x14) fun V15 =>
      hf_b2 (spX4_tested V15) fun x17 V16 =>
      if x17 = 0 then (some ((0 : Int32), V16)) else
      ndX4_isDoingHere_119 (Int32.ofNat x3) V16 := by
    unfold spX4_isDoingHere
    have v411 : V4.1 11 = Int32.ofNat t := by rw [hV4]; exact t2
    have v44 : V4.2.2.2.1 4 t = Int32.ofNat L := by rw [hV4, hf_ua_ne _ (by decide)]; exact t3
    rw [hpass, Option.bind_some, t2, z_ld (by omega) (by omega), h6, Option.bind_some, b0, hf_let_eq, z_sd (by omega) (by omega), ← hV4, v411, z_ld (by omega) (by omega), v44, Option.bind_some, b1, z_sd (by omega) (by omega), ← hV6]
  unfold ndX5_clause_2_35
  rw [hM1, P.pob]
  rcases xm_psum g PV V6 a m L S6 T6 (by omega) with ⟨g', V', x1, x2, x3'⟩ | ⟨sv, g1, PV1, V7, a1, m1, cs, x1, x2, S1, y1, y2, y3, y4, y5, y6, y7, y8, y9, y10⟩
  · left
    obtain ⟨c, q1, q2, q3, q4, q5, q6⟩ := x3'
    rw [x1, hf_bT_inl, x2, hf_b2_some, if_pos rfl]
    exact ⟨g', V', rfl, rfl, c, q1, q2, q3, q4, (K.trans q5.gm).mono (by omega), F6.trans q6.w9.vr⟩
  have hkm : m < m1 := by
    rcases Nat.eq_zero_or_pos (m1 - m) with h | h
    · rw [h] at y8
      cases y8
    · omega
  rw [x1, hf_bT_inr, x2, hf_b2_some, if_neg (show ¬ (1 : Int32) = 0 by decide)]
  obtain ⟨N1, P1, z0, z1, z3, wo1, mt1, u8, u9, u12, ha1, hm1⟩ := id S1
  obtain ⟨L1, hL1⟩ : ∃ y, y = L + cs.length := ⟨_, rfl⟩
  rw [← hL1] at y6
  obtain ⟨-, d2, d3⟩ := id y6
  -- HalfFair: the clause's object
  have r1' : hf_ob 0 8 g1 ra = some RV := y3.ob N r1 (hf_ob_dif r1 P.2.1 (by decide)) (hf_ob_dif r1 w3 (by decide))
  rw [hf_ga_eq r1', r2, Option.bind_some, hf_mk_eq]
  obtain ⟨g5, hg5⟩ : ∃ y, y = hf_nw g1 (.inl (0, 13, hf_V0)) 3 := ⟨_, rfl⟩
  have P5 : hf_px g5 pa o PV1 B T := by rw [hg5]; exact P1.nw N1 _ _
  have K15 : hf_gk pa o g1 g5 1 := by rw [hg5]; exact hf_gk.nw N1 _ (by decide)
  have e5 : hf_ob 0 13 g5 g1.2.1 = some hf_V0 := by rw [hg5]; exact ob_new g1 0 13 hf_V0 3
  obtain ⟨WV1, w31⟩ := P1.w3
  have wo5 := K15.wo N1 P1.2.1 w31 wo1
  rw [← hg5, P5.pob]
  have xt := x_takes (gs := gs) P5 (wo5.2 26 (by decide)) (zw_ok 26 (by decide)) z1 ha1
  rw [xt, hf_b2_some]
  -- the model
  obtain ⟨V10, hV10⟩ : ∃ y, y = hf_ua V7 5 (x3 + 2) (Int32.ofNat L1) := ⟨_, rfl⟩
  obtain ⟨V11, hV11⟩ : ∃ y, y = hf_ua V10 5 (x3 + 3) (-1) := ⟨_, rfl⟩
  have i11 : V11.1 = V7.1 := by rw [hV11, hV10]; rfl
  have A11 : ∀ q, V11.2.2.2.1 5 q = if q = x3 + 3 then -1 else if q = x3 + 2 then Int32.ofNat L1 else V6.2.2.2.1 5 q := fun q => by
    rw [hV11, hf_ua_at, hV10, hf_ua_at, y5.2.1 5 (by decide) (by decide)]
  have B11 : ∀ j, j ≠ 5 → V11.2.2.2.1 j = V7.2.2.2.1 j := fun j hj => by
    rw [hV11, hf_ua_ne _ hj, hV10, hf_ua_ne _ hj]
  have S11 : hf_ps gs g1 pa o nm PV1 B T V11 a1 m1 := S1.v i11 (B11 0 (by decide))
  have T11 : hf_tt V11 t L1 := y6.v (by rw [i11]) (by rw [B11 4 (by decide)])
  have F11 : zvr V V11 t := by
    refine F6.trans (y5.wq.vr.trans ?_)
    rw [hV11, hV10]
    exact ((zvr.rfl_ V7 t).ua5 (by omega) _).ua5 (by omega) _
  rw [d2, z_ld (by omega) (by omega), d3, Option.bind_some, b2, z_sd (by omega) (by omega), ← hV10, b3, z_sd (by omega) (by omega), ← hV11]
  obtain ⟨-, -, -, -, -, -, mt11, e8, e9, e12, -, -⟩ := id S11
  have e26 : (26982 : Int64) = zwI 26 := zwI_26
  rw [e26, m_takesW mt11 e8 ha1 (by decide), hf_b2_some]
  obtain ⟨s1', s2⟩ := zsk_le (B := B) ha1
  have K1g : hf_gk pa o g g5 (a1 - a + 1) := y3.trans K15
  have g61 : V11.2.2.2.1 6 t = Int32.ofNat k := by rw [B11 6 (by decide), y5.2.1 6 (by decide) (by decide), B6 6 (by decide)]; exact h6
  have i14 : V11.1 14 = Int32.ofNat (k + 1) := by rw [i11, y5.1 14 (by decide) (by decide) (by decide), i6]; exact c14
  have hlt := hLd.lt N
  have l3 : ∀ j, j < 400 * t + L → V11.2.2.2.1 3 j = V.2.2.2.1 3 j := fun j hj => by
    rw [B11 3 (by decide), y5.2.2.1 j (Or.inl hj), B6 3 (by decide)]
  have z11 : zcds V11 t L cs := fun i hi => by
    rw [B11 3 (by decide)]
    exact y7 i hi
  have hpz : ∀ j, j ≠ 1 → j ≠ 3 → PV1.1 j = PV.1 j := y4.2
  by_cases hz : zis B T a1 (zw 26)
  case neg =>
    right
    rw [if_neg hz, if_neg hz, if_pos zz00, if_pos zz00]
    obtain ⟨p5, hp5⟩ : ∃ y, y = zsk B T a1 := ⟨_, rfl⟩
    rw [← hp5] at s1' s2 ⊢
    obtain ⟨PV6, hPV6⟩ : ∃ y, y = hf_ui PV1 1 (Int32.ofNat p5) := ⟨_, rfl⟩
    obtain ⟨g6, hg6⟩ : ∃ y, y = hf_pc g5 pa PV6 := ⟨_, rfl⟩
    obtain ⟨V12, hV12⟩ : ∃ y, y = hf_ui V11 8 (Int32.ofNat p5) := ⟨_, rfl⟩
    have S5 : hf_ps gs g5 pa o nm PV1 B T V11 a1 m1 := ⟨K15.no, P5, z0, z1, z3, wo5, mt11, e8, e9, e12, ha1, hm1⟩
    have S12 := S5.at_ (a' := p5) s2
    rw [← hPV6, ← hg6, ← hV12] at S12 ⊢
    have K56 : hf_gk pa o g5 g6 0 := by rw [hg6]; exact hf_gk.pc K15.no P5.2.1 _
    have Kg6 : hf_gk pa o g g6 (a1 - a + 1) := K1g.trans K56
    have e6 : hf_ob 0 13 g6 g1.2.1 = some hf_V0 := K56.ob K15.no e5 (hf_ob_dif e5 P5.2.1 (by decide)) (by
      obtain ⟨WV5, w35⟩ := P5.w3
      exact hf_ob_dif e5 w35 (by decide))
    have A12 : ∀ q, V12.2.2.2.1 5 q = V11.2.2.2.1 5 q := fun q => by rw [hV12]; rfl
    obtain ⟨g8, V8, d', t1', t2', t3', t4', t5', t6'⟩ := xm_told (g0 := g0) (n := n + (a1 - a) + 1) (x4 := g1.2.1) (sv := sv) (b := L) (cs := cs) (bX := bX) (s1 := s1) (oc := none) (ra := ra) (l := l) (d := d) (p := p) hb hk S12 (by rw [hV12]; exact T11.ui (by decide) _) ⟨by rw [hPV6, hf_ui_ne _ (by decide), hpz 2 (by decide) (by decide)]; exact c2, by rw [hPV6, hf_ui_ne _ (by decide), hpz 4 (by decide) (by decide)]; exact c4, by rw [hPV6, hf_ui_ne _ (by decide), hpz 5 (by decide) (by decide)]; exact c5, by rw [hV12, hf_ui_ne _ (by decide)]; exact i14⟩ (by omega) (by rw [hV12]; exact g61) ⟨RV, Kg6.ob N r1 (hf_ob_dif r1 P.2.1 (by decide)) (hf_ob_dif r1 w3 (by decide)), r2⟩ (Kg6.gm.Ld N P.2.1 w3 hLd) (fun j hj => (hT j hj).mv (hf_gk.kv Kg6 N P.2.1 w3) (fun i hi => by rw [hV12]; exact l3 i hi) (fun i hi => by rw [A12, A11, if_neg (by omega), if_neg (by omega), A6, if_neg (by omega), if_neg (by omega)]) (by omega)) e6 (by
        have h1 : hf_Val 64 g1 sv cs := hf_Val.mono _ _ _ _ _ (by omega) y8
        exact hf_Val.kv (hf_gk.kv (K15.trans K56) N1 P1.2.1 w31) _ _ _ h1) (by omega) (by rw [hV12]; exact z11) (by omega) (by rw [← hx3, A12, A11, if_neg (by omega), if_neg (by omega), A6, if_neg (by omega), if_pos rfl]) (by rw [← hx3, A12, A11, if_neg (by omega), if_neg (by omega), A6, if_pos rfl]) (by rw [← hx3, A12, A11, if_neg (by omega), if_pos rfl, hL1]) (Or.inl ⟨rfl, by rw [← hx3, A12, A11, if_pos rfl]⟩) ((K.trans Kg6.gm).mono (by omega)) hl hd (by
        have h1 := K.2.1
        have h2 := y3.2.1
        omega)
    rw [← hx3] at t2'
    exact ⟨g8, PV6, V8, p5, m1, L1, d', _, t1', t2', t3', by omega, t4', t5'.mono (by omega), F11.trans ((by rw [hV12]; exact (zvr.rfl_ V11 t).ui (by omega) _ : zvr V11 V12 t).trans t6')⟩
  -- if
  have hwe := zis.we hz (zw_ok 26 (by decide)) ha1
  have hw2 : (zw 26).length = 2 := rfl
  rw [if_pos hz, if_pos hz, if_neg zz10, if_neg zz10]
  obtain ⟨p5, hp5⟩ : ∃ y, y = zwe B T (zsk B T a1) := ⟨_, rfl⟩
  rw [← hp5] at hwe ⊢
  have hp5T : p5 ≤ T := by omega
  obtain ⟨PV6, hPV6⟩ : ∃ y, y = hf_ui PV1 1 (Int32.ofNat p5) := ⟨_, rfl⟩
  obtain ⟨g6, hg6⟩ : ∃ y, y = hf_pc g5 pa PV6 := ⟨_, rfl⟩
  obtain ⟨V12, hV12⟩ : ∃ y, y = hf_ui V11 8 (Int32.ofNat p5) := ⟨_, rfl⟩
  have S5 : hf_ps gs g5 pa o nm PV1 B T V11 a1 m1 := ⟨K15.no, P5, z0, z1, z3, wo5, mt11, e8, e9, e12, ha1, hm1⟩
  have S12 := S5.at_ (a' := p5) hp5T
  rw [← hPV6, ← hg6, ← hV12] at S12 ⊢
  have K56 : hf_gk pa o g5 g6 0 := by rw [hg6]; exact hf_gk.pc K15.no P5.2.1 _
  have Kg6 : hf_gk pa o g g6 (a1 - a + 1) := K1g.trans K56
  obtain ⟨WV5, w35⟩ := P5.w3
  have e6 : hf_ob 0 13 g6 g1.2.1 = some hf_V0 := K56.ob K15.no e5 (hf_ob_dif e5 P5.2.1 (by decide)) (hf_ob_dif e5 w35 (by decide))
  have P6 := S12.2.1
  rw [P6.pob]
  obtain ⟨V15, hV15⟩ : ∃ y, y = hf_ua V12 5 (x3 + 3) (Int32.ofNat L1) := ⟨_, rfl⟩
  have v1211 : V12.1 11 = Int32.ofNat t := by rw [hV12, hf_ui_ne _ (by decide), i11]; exact d2
  have v124 : V12.2.2.2.1 4 t = Int32.ofNat L1 := by rw [hV12]; exact T11.2.2
  rw [v1211, z_ld (by omega) (by omega), v124, Option.bind_some, z_sd (by omega) (by omega), ← hV15]
  have i15 : V15.1 = V12.1 := by rw [hV15]; rfl
  have B15 : ∀ j, j ≠ 5 → V15.2.2.2.1 j = V12.2.2.2.1 j := fun j hj => by rw [hV15, hf_ua_ne _ hj]
  have A15 : ∀ q, V15.2.2.2.1 5 q = if q = x3 + 3 then Int32.ofNat L1 else V11.2.2.2.1 5 q := fun q => by
    rw [hV15, hf_ua_at, hV12]
    rfl
  have S15 : hf_ps gs g6 pa o nm PV6 B T V15 p5 m1 := S12.v i15 (B15 0 (by decide))
  have T12 : hf_tt V12 t L1 := by rw [hV12]; exact T11.ui (by decide) _
  have T15 : hf_tt V15 t L1 := T12.v (by rw [i15]) (by rw [B15 4 (by decide)])
  have F15 : zvr V V15 t := by
    refine F11.trans ?_
    rw [hV15, hV12]
    exact ((zvr.rfl_ V11 t).ui (by omega) _).ua5 (by omega) _
  have c26 : PV6.1 2 = 0 := by rw [hPV6, hf_ui_ne _ (by decide), hpz 2 (by decide) (by decide)]; exact c2
  rcases xm_tested g6 PV6 V15 p5 m1 L1 S15 T15 c26 (by omega) with ⟨g', V', w1, w2, w3'⟩ | ⟨cv, g8, PV8, V16, a8, m8, cs2, w1, w2, S8, w4, w5, w6, w7, w8, w9, w10, w11, w12, w13, w14⟩
  · left
    obtain ⟨c, q1, q2, q3, q4, q5, q6⟩ := w3'
    rw [w1, hf_bT_inl, w2, hf_b2_some, if_pos rfl]
    exact ⟨g', V', rfl, rfl, c, q1, q2, q3, q4, ((K.trans Kg6.gm).trans q5.gm).mono (by omega), F15.trans q6.vr⟩
  right
  rw [w1, hf_bT_inr, w2, hf_b2_some, if_neg (show ¬ (1 : Int32) = 0 by decide)]
  have Kg8 : hf_gk pa o g g8 (a1 - a + 1 + (a8 - p5)) := Kg6.trans w6
  have e8' : hf_ob 0 13 g8 g1.2.1 = some hf_V0 := w6.ob Kg6.no e6 (hf_ob_dif e6 P6.2.1 (by decide)) (by
    obtain ⟨WV6, w36⟩ := P6.w3
    exact hf_ob_dif e6 w36 (by decide))
  have A16 : ∀ q, V16.2.2.2.1 5 q = V15.2.2.2.1 5 q := fun q => congrFun (w9.2.1 5 (by decide) (by decide) (by decide)) q
  have z16 : zcds V16 t L cs := by
    have h12 : zcds V15 t L cs := fun i hi => by
      rw [B15 3 (by decide), hV12]
      exact z11 i hi
    exact h12.w0 w9.2 (by omega)
  have K18 : hf_gk pa o g1 g8 (1 + (a8 - p5)) := ((K15.trans K56).trans w6).mono (by omega)
  obtain ⟨g9, V9, d', t1', t2', t3', t4', t5', t6'⟩ := xm_told (g0 := g0) (n := n + (a8 - a) + 1) (x4 := g1.2.1) (sv := sv) (b := L) (cs := cs) (bX := bX) (s1 := s1) (oc := some cv) (ra := ra) (l := l) (d := d) (p := p) hb hk S8 w10 ⟨w8, by rw [w7.2 4 (by decide) (by decide) (by decide), hPV6, hf_ui_ne _ (by decide), hpz 4 (by decide) (by decide)]; exact c4, by rw [w7.2 5 (by decide) (by decide) (by decide), hPV6, hf_ui_ne _ (by decide), hpz 5 (by decide) (by decide)]; exact c5, by rw [w9.1 14 (by decide) (by decide) (by decide) (by decide) (by decide), i15, hV12, hf_ui_ne _ (by decide)]; exact i14⟩ (by omega) (by rw [w9.2.1 6 (by decide) (by decide) (by decide), B15 6 (by decide), hV12]; exact g61) ⟨RV, Kg8.ob N r1 (hf_ob_dif r1 P.2.1 (by decide)) (hf_ob_dif r1 w3 (by decide)), r2⟩ (Kg8.gm.Ld N P.2.1 w3 hLd) (fun j hj => (hT j hj).mv (hf_gk.kv Kg8 N P.2.1 w3) (fun i hi => by rw [w9.2.2.1 i (Or.inl (by omega)), B15 3 (by decide), hV12]; exact l3 i hi) (fun i hi => by rw [A16, A15, if_neg (by omega), A11, if_neg (by omega), if_neg (by omega), A6, if_neg (by omega), if_neg (by omega)]) (by omega)) e8' (by
      have h1 : hf_Val 64 g1 sv cs := hf_Val.mono _ _ _ _ _ (by omega) y8
      exact hf_Val.kv (hf_gk.kv K18 N1 P1.2.1 w31) _ _ _ h1) (by omega) z16 (by omega) (by rw [← hx3, A16, A15, if_neg (by omega), A11, if_neg (by omega), if_neg (by omega), A6, if_neg (by omega), if_pos rfl]) (by rw [← hx3, A16, A15, if_neg (by omega), A11, if_neg (by omega), if_neg (by omega), A6, if_pos rfl]) (by rw [← hx3, A16, A15, if_neg (by omega), A11, if_neg (by omega), if_pos rfl, hL1]) (Or.inr ⟨cv, cs2, L1, rfl, w12, w13, w11, rfl, by rw [← hx3, A16, A15, if_pos rfl]⟩) ((K.trans Kg8.gm).mono (by omega)) hl hd (by
      have h1 := K.2.1
      have h2 := y3.2.1
      omega)
  rw [← hx3] at t2'
  exact ⟨g9, PV8, V9, a8, m8, L1 + cs2.length, d', _, t1', t2', t3', by omega, t4', t5'.mono (by omega), F15.trans (w9.vr.trans t6')⟩
end ZQ
set_option maxRecDepth 100000
set_option maxHeartbeats 1000000
/-! texts: a rule's clause, all clauses -/
section ZQ
variable {gs : hf_gs} {pa o nm : Nat} {B : Nat → Nat} {T t : Nat} {g0 : hf_H}
theorem zRS.v8 {g : hf_H} {PV V : hf_V} {a m L kc k ra l d : Nat} {p : Nat → Nat} (R : zRS gs pa o nm B T t g PV V a m L kc k ra l d p) {a' kc' : Nat} (h : a' ≤ T) {PV' V' : hf_V} (hP : PV' = hf_ui (hf_ui PV 4 (Int32.ofNat kc')) 1 (Int32.ofNat a')) (hV : V' = hf_ui (hf_ui V 14 (Int32.ofNat kc')) 8 (Int32.ofNat a')) : zRS gs pa o nm B T t (hf_pc g pa PV') PV' V' a' m L kc' k ra l d p := by
  obtain ⟨S, TT, ⟨c2, c4, c5, c14⟩, h4, h6, ⟨RV, r1, r2⟩, hLd, hT⟩ := R
  obtain ⟨N, P, p0, p1, p3, wo, mt, v8, v9, v12, ha, hm⟩ := S
  obtain ⟨WV, w3⟩ := P.w3
  have K : hf_gk pa o g (hf_pc g pa PV') 0 := hf_gk.pc N P.2.1 _
  have i : ∀ j, j ≠ 14 → j ≠ 8 → V'.1 j = V.1 j := fun j h1 h2 => by rw [hV, hf_ui_ne _ h2, hf_ui_ne _ h1]
  have e : V'.2 = V.2 := by rw [hV]; rfl
  have ip : ∀ j, j ≠ 4 → j ≠ 1 → PV'.1 j = PV.1 j := fun j h1 h2 => by rw [hP, hf_ui_ne _ h2, hf_ui_ne _ h1]
  refine ⟨⟨K.no, P.pc (by rw [hP]; rfl), by rw [hP]; exact p0, by rw [hP, hf_ui_at], by rw [ip 3 (by decide) (by decide)]; exact p3, K.wo N P.2.1 w3 wo, ⟨mt.1, by rw [i 1 (by decide) (by decide)]; exact mt.2.1, fun k hk => by rw [e]; exact mt.2.2 k hk⟩, by rw [hV, hf_ui_at], by rw [i 9 (by decide) (by decide)]; exact v9, by rw [i 12 (by decide) (by decide)]; exact v12, h, hm⟩, TT.v (i 11 (by decide) (by decide)) (by rw [e]), ⟨by rw [ip 2 (by decide) (by decide)]; exact c2, by rw [hP, hf_ui_ne _ (by decide), hf_ui_at], by rw [ip 5 (by decide) (by decide)]; exact c5, by rw [hV, hf_ui_ne _ (by decide), hf_ui_at]⟩, h4, by rw [e]; exact h6, ⟨RV, K.ob N r1 (hf_ob_dif r1 P.2.1 (by decide)) (hf_ob_dif r1 w3 (by decide)), r2⟩, K.gm.Ld N P.2.1 w3 hLd, fun j hj => (hT j hj).mv (hf_gk.kv K N P.2.1 w3) (fun i _ => by rw [e]) (fun i _ => by rw [e]) (Nat.le_refl _)⟩
theorem xm_clauseR {g : hf_H} {PV V : hf_V} {a m L k ra l d n : Nat} {p : Nat → Nat} (R : zRS gs pa o nm B T t g PV V a m L k k ra l d p) (K : hf_gm pa o g0 g n) (hl : g0.2.1 ≤ l) (hd : g0.2.1 ≤ d) : (∃ g' V', spX5_clause_2 gs pa ra g = some (.inl (o + 19), g') ∧ spX4_clauseHere V = some (0, V') ∧ zrf g0 g' pa o (n + (T + 1 - a)) V V' t) ∨ ∃ g' PV' V' a' m' L' d' p', spX5_clause_2 gs pa ra g = some (.inr (), g') ∧ spX4_clauseHere V = some (1, V') ∧ zRS gs pa o nm B T t g' PV' V' a' m' L' (k + 1) (k + 1) ra l d' p' ∧ a < a' ∧ g0.2.1 ≤ d' ∧ hf_gm pa o g0 g' (n + (a' - a)) ∧ zvr V V' t := by
  have R0 := R
  obtain ⟨S, TT, ⟨c2, c4, c5, c14⟩, ⟨hL, hk12⟩, h6, ⟨RV, r1, r2⟩, hLd, hT⟩ := R
  obtain ⟨N, P, p0, p1, p3, wo, mt, v8, v9, v12, ha, hm⟩ := id S
  have hT4 := P.T4
  obtain ⟨s1, s2⟩ := zsk_le (B := B) ha
  have hpp : zsk B T (zsk B T a) = zsk B T a := zsk_idem B T _ a rfl ha
  have ms := m_see mt v8 ha
  obtain ⟨q, hq⟩ : ∃ q, q = zsk B T a := ⟨_, rfl⟩
  rw [← hq] at ms s1 s2 hpp
  obtain ⟨V1, hV1⟩ : ∃ x, x = hf_ui V 8 (Int32.ofNat q) := ⟨_, rfl⟩
  rw [← hV1] at ms
  have mt1 : hf_mt V1 B T := by rw [hV1]; exact mt.ui (by decide) _
  have w8 : V1.1 8 = Int32.ofNat q := by rw [hV1, hf_ui_at]
  have w9 : V1.1 9 = 0 := by rw [hV1, hf_ui_ne _ (by decide)]; exact v9
  have w11 : V1.1 11 = Int32.ofNat t := by rw [hV1, hf_ui_ne _ (by decide)]; exact TT.2.1
  have w14 : V1.1 14 = Int32.ofNat k := by rw [hV1, hf_ui_ne _ (by decide)]; exact c14
  have ht5 := TT.1
  have Q1 : zvr V V1 t := by rw [hV1]; exact (zvr.rfl_ V t).ui (by omega) _
  have mi : ∀ (U : hf_V), hf_mt U B T → U.1 8 = Int32.ofNat q → ∀ j, j < 27 → spX4_isWord (zwI j) U = some (Int32.ofNat (if zis B T a (zw j) then 1 else 0), U) := fun U hU h8 j hj => by
    have h1 := m_isW hU h8 s2 hj
    rw [hpp, hf_ui_self h8] at h1
    rw [h1]
    by_cases e : zis B T a (zw j)
    · rw [if_pos e, if_pos (by rw [hq]; exact (zis_sk ha _).mpr e)]
    · rw [if_neg e, if_neg (fun z => e (by rw [hq] at z; exact (zis_sk ha _).mp z))]
  have e24 : (6452601 : Int64) = zwI 24 := zwI_24
  have e25 : (26479 : Int64) = zwI 25 := zwI_25
  have n6 : ¬ (Int32.ofNat t = (6 : Int32)) := fun z => by
    have := (z_eq (b := 6) (by omega) (by decide)).mp z
    omega
  have hM : spX4_clauseHere V = if zis B T a (zw 24) then ndX4_clauseHere_66 (Int32.ofNat q) 0 V1 else if zis B T a (zw 25) then ndX4_clauseHere_66 (Int32.ofNat q) 0 V1 else ndX4_clauseHere_59 (Int32.ofNat q) V1 := by
    unfold spX4_clauseHere
    rw [ms, hf_b2_some, w8, hf_let_eq, w11, if_neg n6]
    unfold ndX4_clauseHere_24
    rw [if_pos rfl, e24, mi V1 mt1 w8 24 (by decide), hf_b2_some]
    by_cases e : zis B T a (zw 24)
    · rw [if_pos e, if_pos e, if_neg zz10]
    · rw [if_neg e, if_neg e, if_pos zz00, e25, mi V1 mt1 w8 25 (by decide), hf_b2_some]
      by_cases e2 : zis B T a (zw 25)
      · rw [if_pos e2, if_pos e2, if_neg zz10]
      · rw [if_neg e2, if_neg e2, if_pos zz00]
  have ekm : (Int32.ofNat k = (12 : Int32)) ↔ k = 12 := z_eq (b := 12) (by omega) (by decide)
  obtain ⟨V2, hV2⟩ : ∃ x, x = hf_ui V1 14 (Int32.ofNat (k + 1)) := ⟨_, rfl⟩
  have a14 : Int32.ofNat k + (1 : Int32) = Int32.ofNat (k + 1) := z_add k 1
  have h66 : ndX4_clauseHere_66 (Int32.ofNat q) 0 V1 = if k = 12 then some (0, hf_ui V1 9 (Int32.ofNat (1 + 8 * q + 4))) else if zis B T a (zw 24) then ndX4_clauseHere_129 0 V2 else ndX4_clauseHere_129 1 V2 := by
    unfold ndX4_clauseHere_66 ndX4_clauseHere_81
    rw [if_pos rfl, w14]
    by_cases e : k = 12
    · have hfl : spX4_fails (4 : Int32) (Int32.ofNat q) V1 = some (0, hf_ui V1 9 (Int32.ofNat (1 + 8 * q + 4))) := m_fails0 w9 4 q
      rw [if_pos (ekm.mpr e), if_pos e, hfl, hf_b2_some, if_pos (Or.inl rfl)]
    · rw [if_neg (fun z => e (ekm.mp z)), if_neg e, a14, hf_let_eq, ← hV2, if_pos rfl, e24, mi V2 (by rw [hV2]; exact mt1.ui (by decide) _) (by rw [hV2, hf_ui_ne _ (by decide)]; exact w8) 24 (by decide), hf_b2_some]
      by_cases e2 : zis B T a (zw 24)
      · rw [if_pos e2, if_pos e2, if_neg zz10]
      · rw [if_neg e2, if_neg e2, if_pos zz00]
  have mt2 : hf_mt V2 B T := by rw [hV2]; exact mt1.ui (by decide) _
  have v28 : V2.1 8 = Int32.ofNat q := by rw [hV2, hf_ui_ne _ (by decide)]; exact w8
  have mp := m_passWord mt2 v28 s2
  obtain ⟨WV, w3⟩ := P.w3
  have fin : ∀ (g2 g3 : hf_H) (V2 : hf_V) (c : Nat), hf_gk pa o g g2 0 → hf_wr g2 o c g3 → V2.1 9 = Int32.ofNat c → 1 ≤ c → c < 100000 → zvr V V2 t → zrf g0 g3 pa o (n + (T + 1 - a)) V V2 t := fun g2 g3 V2 c h1 h2 h3 h4 h5 h6 => ⟨c, h2.gi, h3, h4, h5, ((K.trans h1.gm).trans (hf_gk.wr h1.no h2).gm).mono (by omega), h6⟩
  -- behind the word
  have main : ∀ (i : Nat) (bX s1 : Int32) (X : hf_H → Option ((Nat ⊕ Unit) × hf_H)), (i = 24 ∧ bX = 1 ∧ s1 = 0) ∨ (i = 25 ∧ bX = 0 ∧ s1 = 1) → zis B T a (zw i) → k ≠ 12 → spX5_clause_2 gs pa ra g = ndX5_clause_2_35 gs pa ra bX (hf_pc g pa (hf_ui (hf_ui PV 4 (Int32.ofNat (k + 1))) 1 (Int32.ofNat (zwe B T q)))) → spX4_clauseHere V = ndX4_clauseHere_129 s1 V2 → (∃ g' V', spX5_clause_2 gs pa ra g = some (.inl (o + 19), g') ∧ spX4_clauseHere V = some (0, V') ∧ zrf g0 g' pa o (n + (T + 1 - a)) V V' t) ∨ ∃ g' PV' V' a' m' L' d' p', spX5_clause_2 gs pa ra g = some (.inr (), g') ∧ spX4_clauseHere V = some (1, V') ∧ zRS gs pa o nm B T t g' PV' V' a' m' L' (k + 1) (k + 1) ra l d' p' ∧ a < a' ∧ g0.2.1 ≤ d' ∧ hf_gm pa o g0 g' (n + (a' - a)) ∧ zvr V V' t := by
    intro i bX s1' X hi hz hk hX hM2
    have hi27 : i < 27 := by omega
    have hwe := zis.we hz (zw_ok i hi27) ha
    have hw2 : 2 ≤ (zw i).length := by
      rcases hi with ⟨rfl, _, _⟩ | ⟨rfl, _, _⟩ <;> decide
    rw [← hq] at hwe
    obtain ⟨e, he⟩ : ∃ e, e = zwe B T q := ⟨_, rfl⟩
    rw [← he] at hX mp hwe
    have R1 := R0.v8 (a' := e) (kc' := k + 1) (by omega) (PV' := hf_ui (hf_ui PV 4 (Int32.ofNat (k + 1))) 1 (Int32.ofNat e)) (V' := hf_ui V2 8 (Int32.ofNat e)) rfl (by
      rw [hV2, hV1]
      unfold hf_ui
      refine Prod.ext ?_ rfl
      funext j
      by_cases e8 : j = 8
      · simp [e8]
      · simp [e8])
    have K1 : hf_gm pa o g0 (hf_pc g pa (hf_ui (hf_ui PV 4 (Int32.ofNat (k + 1))) 1 (Int32.ofNat e))) n := (K.trans (hf_gk.pc N P.2.1 _).gm).mono (by omega)
    have Q2 : zvr V (hf_ui V2 8 (Int32.ofNat e)) t := by
      rw [hV2]
      exact (Q1.ui (by omega) _).ui (by omega) _
    rcases xm_doing (ra := ra) (bX := bX) (s1 := s1') mp (by
      rcases hi with ⟨_, h1, h2⟩ | ⟨_, h1, h2⟩
      · exact Or.inl ⟨h1, h2⟩
      · exact Or.inr ⟨h1, h2⟩) (by omega) R1 K1 hl hd with ⟨g', V', x1, x2, c, q1, q2, q3, q4, q5, q6⟩ | ⟨g', PV', V', a', m', L', d', p', x1, x2, x3, x4, x5, x6, x7⟩
    · left
      refine ⟨g', V', hX.trans x1, ?_, c, q1, q2, q3, q4, q5.mono (by omega), Q2.trans q6⟩
      rw [hM2]
      unfold ndX4_clauseHere_129
      rw [x2, hf_b2_some, if_pos (Or.inl rfl)]
    · right
      refine ⟨g', PV', V', a', m', L', d', p', hX.trans x1, ?_, x3, by omega, x5, x6.mono (by omega), Q2.trans x7⟩
      rw [hM2]
      unfold ndX4_clauseHere_129
      rw [x2, hf_b2_some, if_pos (Or.inr rfl)]
  obtain ⟨PV1, hPV1⟩ : ∃ x, x = hf_ui PV 1 (Int32.ofNat q) := ⟨_, rfl⟩
  obtain ⟨g1, hg1⟩ : ∃ x, x = hf_pc g pa PV1 := ⟨_, rfl⟩
  have P1 : hf_px g1 pa o PV1 B T := by rw [hg1]; exact P.pc (by rw [hPV1]; rfl)
  have K01 : hf_gk pa o g g1 0 := by rw [hg1]; exact hf_gk.pc N P.2.1 _
  have q1 : PV1.1 1 = Int32.ofNat q := by rw [hPV1, hf_ui_at]
  have q4 : PV1.1 4 = Int32.ofNat k := by rw [hPV1, hf_ui_ne _ (by decide)]; exact c4
  have q5 : PV1.1 5 = Int32.ofNat 12 := by rw [hPV1, hf_ui_ne _ (by decide)]; exact c5
  have hself : ∀ x y : Int32, hf_ui (hf_ui (hf_ui PV 1 (Int32.ofNat q)) 4 x) 1 y = hf_ui (hf_ui PV 4 x) 1 y := fun x y => by
    unfold hf_ui
    refine Prod.ext ?_ rfl
    funext j
    by_cases e : j = 1
    · simp [e]
    · simp [e]
  have xb := x_begins (gs := gs) (w := 24) (k := k) (most := 12) (may := 1) P (wo.2 24 (by decide)) (by decide) p1 ha c4 c5 (by omega) (by decide) (by decide)
  rw [← hq, ← hPV1, ← hg1] at xb
  have hone : (1 : Int32) = Int32.ofNat 1 := rfl
  rcases xb with ⟨z, x1⟩ | ⟨z, z2, g', x1, x2⟩ | ⟨z, z2, _, x1⟩
  · -- not 'buy'
    have xb2 := x_begins (gs := gs) (w := 25) (k := k) (most := 12) (may := 1) P1 (K01.sr N P.2.1 w3 (wo.2 25 (by decide))) (by decide) q1 s2 q4 q5 (by omega) (by decide) (by decide)
    have hz25 : zis B T q (zw 25) ↔ zis B T a (zw 25) := by rw [hq]; exact zis_sk ha _
    rw [hpp, hf_ui_self q1, P1.self] at xb2
    have hX1 : spX5_clause_2 gs pa ra g = hf_bT (spX5_begins gs pa (gs.2 25) (Int32.ofNat 1) g1) fun x4 g3 =>
        if x4 = 0 then ((hf_ga 0 5 6 g3 pa).bind fun x5 =>
        (hf_gi 0 5 1 g3 pa).bind fun x6 =>
        (hf_ob 1 0 g3 x5).bind fun _ =>
        hf_b2 (spX0_fails x5 (0 : Int32) x6 g3) fun x8 g7 =>
        (hf_ob 0 3 g7 x8).bind fun _ => some (.inl x8, g7)) else
        ndX5_clause_2_35 gs pa ra (0 : Int32) g3 := by
      unfold spX5_clause_2
      rw [P.pob, hone, x1, hf_bT_inr, if_pos rfl, P1.pob]
    rw [if_neg z] at hM h66
    rcases xb2 with ⟨y, y1⟩ | ⟨y, y2, g', y1, y3⟩ | ⟨y, y2, _, y1⟩
    · left
      rw [if_neg (fun w => y (hz25.mpr w))] at hM
      obtain ⟨g3, t1, t2⟩ := x_throw (τ := Unit) P1 0 q
      rw [P1.gio, Option.bind_some, P1.oob] at t1
      have hfl : spX4_fails (0 : Int32) (Int32.ofNat q) V1 = some (0, hf_ui V1 9 (Int32.ofNat (1 + 8 * q + 0))) := m_fails0 w9 0 q
      refine ⟨g3, _, ?_, hM.trans ?_, fin g1 g3 (hf_ui V1 9 (Int32.ofNat (1 + 8 * q + 0))) _ K01 t2 (hf_ui_at _ _ _) (by omega) (by omega) (Q1.ui (by omega) _)⟩
      · rw [hX1, y1, hf_bT_inr, if_pos rfl, P1.gio, Option.bind_some, P1.gi, Option.bind_some, q1, P1.oob]
        exact t1
      · unfold ndX4_clauseHere_59
        rw [hfl, hf_b2_some, if_pos (Or.inl rfl)]
    · left
      rw [if_pos (hz25.mp y), h66, if_pos (y2.resolve_right (by decide))] at hM
      exact ⟨g', _, by rw [hX1, y1, hf_bT_inl], hM, fin g1 g' _ _ K01 y3 (hf_ui_at _ _ _) (by omega) (by omega) (Q1.ui (by omega) _)⟩
    · rw [if_pos (hz25.mp y), h66, if_neg y2] at hM
      refine main 25 0 1 (fun _ => none) (Or.inr ⟨rfl, rfl, rfl⟩) (hz25.mp y) y2 ?_ hM
      rw [hX1, y1, hf_bT_inr, if_neg (by decide), hPV1, hself, hg1, hf_pc_pc]
  · left
    rw [if_pos z, h66, if_pos (z2.resolve_right (by decide))] at hM
    refine ⟨g', _, ?_, hM, fin g1 g' _ _ K01 x2 (hf_ui_at _ _ _) (by omega) (by omega) (Q1.ui (by omega) _)⟩
    unfold spX5_clause_2
    rw [P.pob, hone, x1, hf_bT_inl]
  · rw [if_pos z, h66, if_neg z2, if_pos z] at hM
    refine main 24 1 0 (fun _ => none) (Or.inl ⟨rfl, rfl, rfl⟩) z z2 ?_ hM
    unfold spX5_clause_2
    rw [P.pob, hone, x1, hf_bT_inr, if_neg (by decide), hPV1, hself]
    rfl
end ZQ
set_option maxRecDepth 100000
set_option maxHeartbeats 1000000
/-! texts: a rule, its clauses -/
/-- the rule is laid behind the others -/
def zRend (gs : hf_gs) (l0 l1 : Nat) (g1 : hf_H) : Option ((Nat ⊕ Int32) × hf_H) :=
  (hf_ga 0 5 6 g1 l0).bind fun x3 =>
  (hf_ga 1 0 3 g1 x3).bind fun x4 =>
  (hf_ob 0 19 g1 x4).bind fun _ =>
  hf_b2 (spJ2_add gs x4 l1 g1) fun x6 g5 =>
  (hf_ga 0 5 6 g5 l0).bind fun x7 =>
  (hf_ga 1 0 3 g5 x7).bind fun x8 =>
  (hf_ob 0 19 g5 x8).bind fun _ =>
  hf_b2 (spJ2_size x8 g5) fun x10 g9 =>
  some (.inr (x10 - (1 : Int32)), g9)
section ZM
variable {V : hf_V}
theorem m_readsEnd0 {c : Nat} (h9 : V.1 9 = Int32.ofNat c) (h1 : 1 ≤ c) (h2 : c < 100000) : ndX4_readsAll_88 V = some (0, hf_ui V 1 0) := by
  unfold ndX4_readsAll_88
  rw [hf_let_eq, hf_ui_ne _ (by decide), h9, if_neg (fun z => by
    have := (z_eq (b := 0) (by omega) (by decide)).mp z
    omega)]
theorem m_readsEnd1 (h9 : V.1 9 = 0) : ndX4_readsAll_88 V = some (1, hf_ui V 1 0) := by
  unfold ndX4_readsAll_88
  rw [hf_let_eq, hf_ui_ne _ (by decide), h9, if_pos rfl]
theorem m_readsFail {c : Nat} (h9 : V.1 9 = Int32.ofNat c) (h1 : 1 ≤ c) (h2 : c < 100000) (f : Nat) : lpX4_readsAll_35 (f + 1) 0 V = some (0, hf_ui V 1 0) := by
  show ndX4_readsAll_35 (lpX4_readsAll_35 f) 0 V = _
  unfold ndX4_readsAll_35 ndX4_readsAll_66
  rw [if_pos rfl, if_pos rfl, m_readsEnd0 h9 h1 h2]
end ZM
section ZQ
variable {gs : hf_gs} {pa o nm : Nat} {B : Nat → Nat} {T t : Nat} {g0 : hf_H}
theorem xm_clausesR : ∀ (fu : Nat) {g : hf_H} {PV V : hf_V} {a m L k ra l d n : Nat} {p : Nat → Nat}, T + 1 < fu + a → zRS gs pa o nm B T t g PV V a m L k k ra l d p → hf_gm pa o g0 g n → g0.2.1 ≤ l → g0.2.1 ≤ d → (∃ g' V', lpX5_rule_13 gs fu pa ra g = some (.inl (o + 19), g') ∧ lpX4_readsAll_35 fu 1 V = some (0, V') ∧ V'.1 1 = 0 ∧ zrf g0 g' pa o (n + (T + 1 - a)) V V' t) ∨ ∃ g' PV' V' a' m' L' k' d' p', lpX5_rule_13 gs fu pa ra g = zRend gs pa ra g' ∧ lpX4_readsAll_35 fu 1 V = some (1, hf_ui V' 1 0) ∧ zRS gs pa o nm B T t g' PV' V' a' m' L' k' k' ra l d' p' ∧ a ≤ a' ∧ g0.2.1 ≤ d' ∧ hf_gm pa o g0 g' (n + (a' - a)) ∧ zvr V V' t
  | 0, g, PV, V, a, m, L, k, ra, l, d, n, p, hf, R, K, hl, hd => by
    have := R.1.2.2.2.2.2.2.2.2.2.2.1
    omega
  | fu + 1, g, PV, V, a, m, L, k, ra, l, d, n, p, hf, R, K, hl, hd => by
    have R0 := R
    obtain ⟨S, TT, ⟨c2, c4, c5, c14⟩, ⟨hL, hk12⟩, h6, ⟨RV, r1, r2⟩, hLd, hT⟩ := R
    obtain ⟨N, P, p0, p1, p3, wo, mt, v8, v9, v12, ha, hm⟩ := id S
    have hT4 := P.T4
    obtain ⟨s1, s2⟩ := zsk_le (B := B) ha
    have hpp : zsk B T (zsk B T a) = zsk B T a := zsk_idem B T _ a rfl ha
    have ms := m_see mt v8 ha
    have xn := x_next P p1 ha
    obtain ⟨q, hq⟩ : ∃ q, q = zsk B T a := ⟨_, rfl⟩
    rw [← hq] at ms s1 s2 hpp xn
    obtain ⟨V1, hV1⟩ : ∃ x, x = hf_ui V 8 (Int32.ofNat q) := ⟨_, rfl⟩
    obtain ⟨PV1, hPV1⟩ : ∃ x, x = hf_ui PV 1 (Int32.ofNat q) := ⟨_, rfl⟩
    obtain ⟨g1, hg1⟩ : ∃ x, x = hf_pc g pa PV1 := ⟨_, rfl⟩
    rw [← hV1] at ms
    rw [← hPV1, ← hg1] at xn
    have mt1 : hf_mt V1 B T := by rw [hV1]; exact mt.ui (by decide) _
    have w8 : V1.1 8 = Int32.ofNat q := by rw [hV1, hf_ui_at]
    have w9 : V1.1 9 = 0 := by rw [hV1, hf_ui_ne _ (by decide)]; exact v9
    have P1 : hf_px g1 pa o PV1 B T := by rw [hg1]; exact P.pc (by rw [hPV1]; rfl)
    have K01 : hf_gk pa o g g1 0 := by rw [hg1]; exact hf_gk.pc N P.2.1 _
    have q1 : PV1.1 1 = Int32.ofNat q := by rw [hPV1, hf_ui_at]
    have Q1 : zvr V V1 t := by rw [hV1]; exact (zvr.rfl_ V t).ui (by omega) _
    have ms1 := m_see mt1 w8 s2
    rw [hpp, hf_ui_self w8] at ms1
    have hself : ∀ (a' : Nat), hf_ui (hf_ui PV 4 (Int32.ofNat k)) 1 (Int32.ofNat a') = hf_ui PV 1 (Int32.ofNat a') ∧ hf_ui (hf_ui V 14 (Int32.ofNat k)) 8 (Int32.ofNat a') = hf_ui V 8 (Int32.ofNat a') := fun a' => ⟨by rw [hf_ui_self c4], by rw [hf_ui_self c14]⟩
    have hb : q < T → B q < 256 := fun h => P.b (by omega)
    have hX : lpX5_rule_13 gs (fu + 1) pa ra g = ndX5_rule_13 gs (lpX5_rule_13 gs fu) pa ra g := rfl
    have hM : lpX4_readsAll_35 (fu + 1) 1 V = if zch B T q = (59 : Int32) then (hf_let (hf_ui V1 8 (Int32.ofNat q + (1 : Int32))) fun V3 => hf_b2 (spX4_clauseHere V3) fun x5 V4 => lpX4_readsAll_35 fu x5 V4) else if zch B T q = (-1 : Int32) then ndX4_readsAll_88 V1 else ndX4_readsAll_88 (hf_ui V1 9 (Int32.ofNat (1 + 8 * q + 0))) := by
      show ndX4_readsAll_35 (lpX4_readsAll_35 fu) 1 V = _
      unfold ndX4_readsAll_35 ndX4_readsAll_66
      have hfl : spX4_fails (0 : Int32) (Int32.ofNat q) V1 = some (0, hf_ui V1 9 (Int32.ofNat (1 + 8 * q + 0))) := m_fails0 w9 0 q
      rw [if_neg (by decide), ms, hf_b2_some, w8]
      by_cases c : zch B T q = (59 : Int32)
      · rw [if_pos c, if_pos c]
      · rw [if_neg c, if_neg c, if_neg (by decide), ms1, hf_b2_some, w8, hfl, hf_b2_some]
    have e59 : (zch B T q = (59 : Int32)) ↔ q < T ∧ B q = 59 := z_chz hb 59 (by decide)
    rw [hX, hM]
    unfold ndX5_rule_13 spX5_goesOn
    rw [P.pob, P.pob, xn, hf_b2_some]
    by_cases e1 : q < T
    case neg =>
      right
      have hz : zch B T q = (-1 : Int32) := if_neg e1
      rw [hz, if_pos rfl, hf_bT_inr, if_pos rfl, if_neg (by decide), if_pos rfl, m_readsEnd1 w9]
      have R1 := R0.v8 (a' := q) (kc' := k) s2 rfl rfl
      rw [(hself q).1, (hself q).2, ← hPV1, ← hV1, ← hg1] at R1
      exact ⟨g1, PV1, V1, q, m, L, k, d, p, rfl, rfl, R1, s1, hd, (K.trans K01.gm).mono (by omega), Q1⟩
    have hz1 : zch B T q ≠ (-1 : Int32) := by
      unfold zch
      rw [if_pos e1]
      intro z
      have h1 := congrArg Int32.toInt z
      have h2 : (Int32.ofNat (B q)).toInt = (B q : Int) := Int32.toInt_ofNat_of_lt (by have := hb e1; omega)
      have h3 : Int32.toInt (-1) = -1 := by decide
      rw [h2, h3] at h1
      omega
    rw [if_neg hz1, if_neg hz1]
    by_cases e2 : B q = 59
    case neg =>
      left
      rw [if_neg (fun z => e2 (e59.mp z).2), if_neg (fun z => e2 (e59.mp z).2)]
      obtain ⟨g3, t1, t2⟩ := x_throw (τ := Int32) P1 0 q
      rw [P1.gio, Option.bind_some, P1.oob] at t1
      rw [P1.gio, Option.bind_some, P1.gi, Option.bind_some, q1, P1.oob, m_readsEnd0 (hf_ui_at _ _ _) (by omega) (by omega)]
      have t1' : hf_b2 (spX0_fails o (0 : Int32) (Int32.ofNat q) g1) (fun x9 g8 => (hf_ob 0 3 g8 x9).bind fun _ => (some (.inl x9, g8) : Option ((Nat ⊕ Int32) × hf_H))) = some (.inl (o + 19), g3) := t1
      rw [t1', hf_bT_inl]
      exact ⟨g3, _, rfl, rfl, hf_ui_at _ _ _, 1 + 8 * q + 0, t2.gi, by rw [hf_ui_ne _ (by decide), hf_ui_at], by omega, by omega, ((K.trans K01.gm).trans (hf_gk.wr K01.no t2).gm).mono (by omega), (Q1.ui (by omega) _).ui (by omega) _⟩
    have a1 : Int32.ofNat q + (1 : Int32) = Int32.ofNat (q + 1) := z_add q 1
    rw [if_pos (e59.mpr ⟨e1, e2⟩), if_pos (e59.mpr ⟨e1, e2⟩), P1.gi, Option.bind_some, q1, a1, P1.pi, Option.bind_some, hf_bT_inr, if_neg (by decide), hf_let_eq]
    have R1 := R0.v8 (a' := q + 1) (kc' := k) (by omega) rfl rfl
    rw [(hself (q + 1)).1, (hself (q + 1)).2] at R1
    have hg2 : hf_pc g1 pa (hf_ui PV1 1 (Int32.ofNat (q + 1))) = hf_pc g pa (hf_ui PV 1 (Int32.ofNat (q + 1))) := by rw [hg1, hf_pc_pc, hPV1, hf_ui_ui]
    have hV2 : hf_ui V1 8 (Int32.ofNat (q + 1)) = hf_ui V 8 (Int32.ofNat (q + 1)) := by rw [hV1, hf_ui_ui]
    rw [hg2, hV2]
    obtain ⟨PV2, hPV2⟩ : ∃ x, x = hf_ui PV 1 (Int32.ofNat (q + 1)) := ⟨_, rfl⟩
    obtain ⟨V2, hV2'⟩ : ∃ x, x = hf_ui V 8 (Int32.ofNat (q + 1)) := ⟨_, rfl⟩
    obtain ⟨g2, hg2'⟩ : ∃ x, x = hf_pc g pa PV2 := ⟨_, rfl⟩
    rw [← hPV2, ← hV2', ← hg2'] at R1
    rw [← hPV2, ← hV2', ← hg2', R1.1.2.1.pob]
    have K02 : hf_gm pa o g0 g2 n := by
      rw [hg2']
      exact (K.trans (hf_gk.pc N P.2.1 _).gm).mono (by omega)
    have Q2 : zvr V V2 t := by rw [hV2']; exact (zvr.rfl_ V t).ui (by omega) _
    rcases xm_clauseR R1 K02 hl hd with ⟨g', V', x1, x2, c, y1, y2, y3, y4, y5, y6⟩ | ⟨g', PV', V', a', m', L', d', p', x1, x2, x3, x4, x5, x6, x7⟩
    · left
      rw [x1, hf_bT_inl, x2, hf_b2_some]
      obtain ⟨f', rfl⟩ : ∃ f', fu = f' + 1 := ⟨fu - 1, by omega⟩
      rw [m_readsFail y2 y3 y4]
      exact ⟨g', _, rfl, rfl, hf_ui_at _ _ _, c, y1, by rw [hf_ui_ne _ (by decide)]; exact y2, y3, y4, y5.mono (by omega), (Q2.trans y6).ui (by omega) _⟩
    · rw [x1, hf_bT_inr, x2, hf_b2_some]
      rcases xm_clausesR fu (by omega) x3 x6 hl x5 with ⟨g'', V'', y1, y2, y0, c, z1, z2, z3, z4, z5, z6⟩ | ⟨g'', PV'', V'', a'', m'', L'', k'', d'', p'', y1, y2, y3, y4, y5, y6, y7⟩
      · left
        have ha' := x3.1.2.2.2.2.2.2.2.2.2.2.1
        exact ⟨g'', V'', y1, y2, y0, c, z1, z2, z3, z4, z5.mono (by omega), (Q2.trans x7).trans z6⟩
      · right
        exact ⟨g'', PV'', V'', a'', m'', L'', k'', d'', p'', y1, y2, y3, by omega, y5, y6.mono (by omega), (Q2.trans x7).trans y7⟩
end ZQ
