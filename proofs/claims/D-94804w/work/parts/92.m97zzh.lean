set_option maxRecDepth 100000
set_option maxHeartbeats 1000000
/-! texts: a fair, whole -/
section ZQ
variable {gs : hf_gs} {pa o nm : Nat} {B : Nat → Nat} {T : Nat} {g0 : hf_H} {fa : Nat}
theorem xm_clausesF (hfa : g0.2.1 ≤ fa) : ∀ (fu : Nat) {g : hf_H} {PV V : hf_V} {a kc l1 d1 l2 d2 n : Nat} {p q : Nat → Nat} {v : Nat → Nat} {t5 t6 t8 : Bool}, T + 1 < fu + a → zFS gs pa o nm B T g PV V a kc fa l1 d1 l2 d2 p q v t5 t6 t8 → hf_gm pa o g0 g n → (g0.2.1 ≤ l1 ∧ g0.2.1 ≤ d1 ∧ g0.2.1 ≤ l2 ∧ g0.2.1 ≤ d2) → (∃ g' V', lpX5_fair_13 gs fu pa fa g = some (.inl (o + 19), g') ∧ lpX4_readsAll_35 fu 1 V = some (0, V') ∧ V'.1 1 = 0 ∧ zff g0 g' pa o (n + (T + 1 - a)) V V') ∨ ∃ g' PV' V' a' kc' l1 d1 l2 d2 p q v t5 t6 t8, lpX5_fair_13 gs fu pa fa g = some (.inr fa, g') ∧ lpX4_readsAll_35 fu 1 V = some (1, hf_ui V' 1 0) ∧ zFS gs pa o nm B T g' PV' V' a' kc' fa l1 d1 l2 d2 p q v t5 t6 t8 ∧ a ≤ a' ∧ (g0.2.1 ≤ l1 ∧ g0.2.1 ≤ d1 ∧ g0.2.1 ≤ l2 ∧ g0.2.1 ≤ d2) ∧ hf_gm pa o g0 g' (n + (a' - a)) ∧ zvf V V'
  | 0, g, PV, V, a, kc, l1, d1, l2, d2, n, p, q, v, t5, t6, t8, hf, R, K, hlt => by
    have := R.1.2.2.2.2.2.2.2.2.2.2.1
    omega
  | fu + 1, g, PV, V, a, kc, l1, d1, l2, d2, n, p, q, v, t5, t6, t8, hf, R, K, hlt => by
    have R0 := R
    obtain ⟨⟨N, P, p0, p1, p3, wo, mt, v8, v9, v12, ha, hm⟩, -, -, M, W⟩ := R
    have hT4 := P.T4
    obtain ⟨s1, s2⟩ := zsk_le (B := B) ha
    have hpp : zsk B T (zsk B T a) = zsk B T a := zsk_idem B T _ a rfl ha
    have ms := m_see mt v8 ha
    have xn := x_next P p1 ha
    obtain ⟨q', hq⟩ : ∃ q, q = zsk B T a := ⟨_, rfl⟩
    rw [← hq] at ms s1 s2 hpp xn
    have R1 := R0.at_ s2
    obtain ⟨V1, hV1⟩ : ∃ x, x = hf_ui V 8 (Int32.ofNat q') := ⟨_, rfl⟩
    obtain ⟨PV1, hPV1⟩ : ∃ x, x = hf_ui PV 1 (Int32.ofNat q') := ⟨_, rfl⟩
    obtain ⟨g1, hg1⟩ : ∃ x, x = hf_pc g pa PV1 := ⟨_, rfl⟩
    rw [← hV1] at ms
    rw [← hPV1, ← hg1] at xn
    rw [← hPV1, ← hV1, ← hg1] at R1
    have mt1 : hf_mt V1 B T := by rw [hV1]; exact mt.ui (by decide) _
    have w8 : V1.1 8 = Int32.ofNat q' := by rw [hV1, hf_ui_at]
    have w9 : V1.1 9 = 0 := by rw [hV1, hf_ui_ne _ (by decide)]; exact v9
    have P1 : hf_px g1 pa o PV1 B T := R1.1.2.1
    have K01 : hf_gk pa o g g1 0 := by rw [hg1]; exact hf_gk.pc N P.2.1 _
    have q1 : PV1.1 1 = Int32.ofNat q' := by rw [hPV1, hf_ui_at]
    have Q1 : zvf V V1 := by rw [hV1]; exact (zvf.rfl_ V).ui (by omega) _
    have h7 : zh7 V := M.h7 W
    have h71 : zh7 V1 := by
      intro k hk
      rw [hV1]
      exact h7 k hk
    have ms1 := m_see mt1 w8 s2
    rw [hpp, hf_ui_self w8] at ms1
    have hb : q' < T → B q' < 256 := fun h => P.b (by omega)
    have hX : lpX5_fair_13 gs (fu + 1) pa fa g = ndX5_fair_13 gs (lpX5_fair_13 gs fu) pa fa g := rfl
    have hM : lpX4_readsAll_35 (fu + 1) 1 V = if zch B T q' = (59 : Int32) then (hf_let (hf_ui V1 8 (Int32.ofNat q' + (1 : Int32))) fun V3 => hf_b2 (spX4_clauseHere V3) fun x5 V4 => lpX4_readsAll_35 fu x5 V4) else if zch B T q' = (-1 : Int32) then ndX4_readsAll_88 V1 else ndX4_readsAll_88 (hf_ui V1 9 (Int32.ofNat (1 + 8 * q' + 0))) := by
      show ndX4_readsAll_35 (lpX4_readsAll_35 fu) 1 V = _
      unfold ndX4_readsAll_35 ndX4_readsAll_66
      have hfl : spX4_fails (0 : Int32) (Int32.ofNat q') V1 = some (0, hf_ui V1 9 (Int32.ofNat (1 + 8 * q' + 0))) := m_fails0 w9 0 q'
      rw [if_neg (by decide), ms, hf_b2_some, w8]
      by_cases c : zch B T q' = (59 : Int32)
      · rw [if_pos c, if_pos c]
      · rw [if_neg c, if_neg c, if_neg (by decide), ms1, hf_b2_some, w8, hfl, hf_b2_some]
    have e59 : (zch B T q' = (59 : Int32)) ↔ q' < T ∧ B q' = 59 := z_chz hb 59 (by decide)
    rw [hX, hM]
    unfold ndX5_fair_13 spX5_goesOn
    rw [P.pob, P.pob, xn, hf_b2_some]
    by_cases e1 : q' < T
    case neg =>
      right
      have hz : zch B T q' = (-1 : Int32) := if_neg e1
      rw [hz, if_pos rfl, hf_bT_inr, if_pos rfl, if_neg (by decide), if_pos rfl, m_readsEnd1 w9]
      exact ⟨g1, PV1, V1, q', kc, l1, d1, l2, d2, p, q, v, t5, t6, t8, rfl, rfl, R1, s1, hlt, (K.trans K01.gm).mono (by omega), Q1⟩
    have hz1 : zch B T q' ≠ (-1 : Int32) := by
      unfold zch
      rw [if_pos e1]
      intro z
      have h1 := congrArg Int32.toInt z
      have h2 : (Int32.ofNat (B q')).toInt = (B q' : Int) := Int32.toInt_ofNat_of_lt (by have := hb e1; omega)
      have h3 : Int32.toInt (-1) = -1 := by decide
      rw [h2, h3] at h1
      omega
    rw [if_neg hz1, if_neg hz1]
    by_cases e2 : B q' = 59
    case neg =>
      left
      rw [if_neg (fun z => e2 (e59.mp z).2), if_neg (fun z => e2 (e59.mp z).2)]
      obtain ⟨g3, t1, t2⟩ := x_throw (τ := Int32) P1 0 q'
      rw [P1.gio, Option.bind_some, P1.oob] at t1
      rw [P1.gio, Option.bind_some, P1.gi, Option.bind_some, q1, P1.oob, m_readsEnd0 (hf_ui_at _ _ _) (by omega) (by omega)]
      have t1' : hf_b2 (spX0_fails o (0 : Int32) (Int32.ofNat q') g1) (fun x9 g8 => (hf_ob 0 3 g8 x9).bind fun _ => (some (.inl x9, g8) : Option ((Nat ⊕ Int32) × hf_H))) = some (.inl (o + 19), g3) := t1
      rw [t1', hf_bT_inl]
      exact ⟨g3, _, rfl, rfl, hf_ui_at _ _ _, 1 + 8 * q' + 0, t2.gi, by rw [hf_ui_ne _ (by decide), hf_ui_at], by omega, by omega, ((K.trans K01.gm).trans (hf_gk.wr K01.no t2).gm).mono (by omega), (Q1.ui (by omega) _).ui (by omega) _, h71⟩
    have a1 : Int32.ofNat q' + (1 : Int32) = Int32.ofNat (q' + 1) := z_add q' 1
    rw [if_pos (e59.mpr ⟨e1, e2⟩), if_pos (e59.mpr ⟨e1, e2⟩), P1.gi, Option.bind_some, q1, a1, P1.pi, Option.bind_some, hf_bT_inr, if_neg (by decide), hf_let_eq]
    have R2 := R0.at_ (a' := q' + 1) (by omega)
    have hg2 : hf_pc g1 pa (hf_ui PV1 1 (Int32.ofNat (q' + 1))) = hf_pc g pa (hf_ui PV 1 (Int32.ofNat (q' + 1))) := by rw [hg1, hf_pc_pc, hPV1, hf_ui_ui]
    have hV2 : hf_ui V1 8 (Int32.ofNat (q' + 1)) = hf_ui V 8 (Int32.ofNat (q' + 1)) := by rw [hV1, hf_ui_ui]
    rw [hg2, hV2]
    obtain ⟨PV2, hPV2⟩ : ∃ x, x = hf_ui PV 1 (Int32.ofNat (q' + 1)) := ⟨_, rfl⟩
    obtain ⟨V2, hV2'⟩ : ∃ x, x = hf_ui V 8 (Int32.ofNat (q' + 1)) := ⟨_, rfl⟩
    obtain ⟨g2, hg2'⟩ : ∃ x, x = hf_pc g pa PV2 := ⟨_, rfl⟩
    rw [← hPV2, ← hV2', ← hg2'] at R2
    rw [← hPV2, ← hV2', ← hg2', R2.1.2.1.pob]
    have K02 : hf_gm pa o g0 g2 n := by
      rw [hg2']
      exact (K.trans (hf_gk.pc N P.2.1 _).gm).mono (by omega)
    have Q2 : zvf V V2 := by rw [hV2']; exact (zvf.rfl_ V).ui (by omega) _
    obtain ⟨kc', hC⟩ := xm_clauseF R2 K02 hfa hlt
    rcases hC with ⟨g', V', x1, x2, c, y1, y2, y3, y4, y5, y6, y7⟩ | ⟨g', PV', V', a', l1', d1', l2', d2', p', q'', v', t5', t6', t8', x1, x2, x3, x4, x5, x6, x7⟩
    · left
      rw [x1, hf_bT_inl, x2, hf_b2_some]
      obtain ⟨f', rfl⟩ : ∃ f', fu = f' + 1 := ⟨fu - 1, by omega⟩
      rw [m_readsFail y2 y3 y4]
      exact ⟨g', _, rfl, rfl, hf_ui_at _ _ _, c, y1, by rw [hf_ui_ne _ (by decide)]; exact y2, y3, y4, y5.mono (by omega), (Q2.trans y6).ui (by omega) _, y7⟩
    · rw [x1, hf_bT_inr, x2, hf_b2_some]
      rcases xm_clausesF hfa fu (by omega) x3 x6 x5 with ⟨g'', V'', y1, y2, y0, c, z1, z2, z3, z4, z5, z6, z7⟩ | ⟨g'', PV'', V'', a'', kc'', l1'', d1'', l2'', d2'', p'', q3, v'', t5'', t6'', t8'', y1, y2, y3, y4, y5, y6, y7⟩
      · left
        have ha' := x3.1.2.2.2.2.2.2.2.2.2.2.1
        exact ⟨g'', V'', y1, y2, y0, c, z1, z2, z3, z4, z5.mono (by omega), (Q2.trans x7).trans z6, z7⟩
      · right
        exact ⟨g'', PV'', V'', a'', kc'', l1'', d1'', l2'', d2'', p'', q3, v'', t5'', t6'', t8'', y1, y2, y3, by omega, y5, y6.mono (by omega), (Q2.trans x7).trans y7⟩
theorem xm_fairT {g : hf_H} {PV V : hf_V} {w : Nat → Nat} (N : hf_no g) (P : hf_px g pa o PV B T) (p0 : PV.2.2.1 0 = some nm) (p1 : PV.1 1 = 0) (p2 : PV.1 2 = 0) (p3 : PV.1 3 = 0) (p4 : PV.1 4 = 0) (p5 : PV.1 5 = 40) (wo : hf_wo g gs nm) (mt : hf_mt V B T) (v11 : V.1 11 = 6) (hw : ∀ k, 9 ≤ k → V.2.2.2.1 7 k = Int32.ofNat (w k) ∧ w k < 16777216) (h5 : ∀ k, k < 5 → V.2.2.2.1 7 k = 0) (h9 : ∀ k, 5 ≤ k → k < 9 → V.2.2.2.1 7 k = -1) : ∃ Vb : hf_V, (∀ j, j ≠ 14 → j ≠ 8 → j ≠ 9 → j ≠ 12 → Vb.1 j = V.1 j) ∧ (∀ j, j ≠ 4 → Vb.2.2.2.1 j = V.2.2.2.1 j) ∧ ((∃ g' V', spX5_fair gs pa g = some (.inl (o + 19), g') ∧ spX4_readsAll V = some (0, V') ∧ V'.1 1 = 0 ∧ zff g g' pa o (T + 7) Vb V') ∨ ∃ g' PV' V' a' kc' l1 d1 l2 d2 p q v t5 t6 t8, spX5_fair gs pa g = some (.inr g.2.1, g') ∧ spX4_readsAll V = some (1, hf_ui V' 1 0) ∧ zFS gs pa o nm B T g' PV' V' a' kc' g.2.1 l1 d1 l2 d2 p q v t5 t6 t8 ∧ (g.2.1 ≤ l1 ∧ g.2.1 ≤ d1 ∧ g.2.1 ≤ l2 ∧ g.2.1 ≤ d2) ∧ hf_gm pa o g g' (T + 7) ∧ zvf Vb V') := by
  have hT4 := P.T4
  obtain ⟨g3, FV, x1, x2, x3, x4, x5, x6, x7, x8, x9, x10, x11, x12, x13, x14, x15⟩ := x_fairNew (gs := gs) N
  obtain ⟨WV, w3⟩ := P.w3
  obtain ⟨⟨_, _, ⟨XV, y1, -⟩, -⟩, y2, -⟩ := id P
  have P3 : hf_px g3 pa o PV B T := P.eq (x12 _ (N.olt y1)) (x12 _ (N.olt y2)) (x12 _ (N.olt w3))
  have wo3 : hf_wo g3 gs nm := wo.eq (fun q x e => by
    rw [x12 q (N.lt e)]
    exact e)
  have K3 : hf_gm pa o g g3 6 := ⟨fun q hq _ _ => x12 q hq, by omega, by omega, by omega, x15⟩
  obtain ⟨Va, hVa⟩ : ∃ y, y = hf_ua V 4 6 0 := ⟨_, rfl⟩
  obtain ⟨Vb, hVb⟩ : ∃ y, y = hf_ui (hf_ui (hf_ui (hf_ui Va 14 0) 8 0) 9 0) 12 0 := ⟨_, rfl⟩
  have ib : ∀ j, j ≠ 14 → j ≠ 8 → j ≠ 9 → j ≠ 12 → Vb.1 j = V.1 j := fun j h1 h2 h3 h4 => by
    rw [hVb, hf_ui_ne _ h4, hf_ui_ne _ h3, hf_ui_ne _ h2, hf_ui_ne _ h1, hVa]
    rfl
  have e2b : Vb.2 = Va.2 := by rw [hVb]; rfl
  have ab : ∀ j, j ≠ 4 → Vb.2.2.2.1 j = V.2.2.2.1 j := fun j hj => by rw [e2b, hVa, hf_ua_ne _ hj]
  refine ⟨Vb, ib, ab, ?_⟩
  have s6 : ∀ (τ : Type) (k : hf_V → Option τ), hf_sd 7 (6 : Int32) (fun j => hf_ua V 4 j 0) k = k (hf_ua V 4 6 0) := fun τ k => z_sd (i := 6) (by decide) (by decide)
  have hM : spX4_readsAll V = hf_b2 (spX4_clauseHere Vb) fun x7 V6 => lpX4_readsAll_35 hf_N x7 V6 := by
    unfold spX4_readsAll
    rw [v11, s6, ← hVa, hf_let_eq, hf_let_eq, hf_let_eq, hf_let_eq, ← hVb]
  have mtb : hf_mt Vb B T := ⟨mt.1, by rw [ib 1 (by decide) (by decide) (by decide) (by decide)]; exact mt.2.1, fun k hk => by
    rw [ab 0 (by decide)]
    exact mt.2.2 k hk⟩
  obtain ⟨v, hv⟩ : ∃ v : Nat → Nat, v = fun k => if k = 6 then 12 else if k = 7 then 5 else if k = 8 then 1 else if k < 9 then 0 else w k := ⟨_, rfl⟩
  have v0 : ∀ k, k < 6 → v k = 0 := fun k hk => by
    rw [hv]
    show (if k = 6 then 12 else if k = 7 then 5 else if k = 8 then 1 else if k < 9 then 0 else w k) = 0
    rw [if_neg (by omega), if_neg (by omega), if_neg (by omega), if_pos (by omega)]
  have v6 : v 6 = 12 := by rw [hv]; rfl
  have v7 : v 7 = 5 := by rw [hv]; rfl
  have v8 : v 8 = 1 := by rw [hv]; rfl
  have v9 : ∀ k, 9 ≤ k → v k = w k := fun k hk => by
    rw [hv]
    show (if k = 6 then 12 else if k = 7 then 5 else if k = 8 then 1 else if k < 9 then 0 else w k) = _
    rw [if_neg (by omega), if_neg (by omega), if_neg (by omega), if_neg (by omega)]
  have O3 : zFO g3 g.2.1 (g.2.1 + 1) (g.2.1 + 2) (g.2.1 + 3) (g.2.1 + 4) (fun _ => 0) (fun _ => 0) v false false false := by
    refine ⟨FV, x2, x3, x4, ⟨by omega, by omega⟩, by rw [v0 1 (by decide)]; exact x5 _, by rw [v0 2 (by decide)]; exact x6 _, fun k hk => ?_, fun b hb => ?_, ?_, fun b hb => ?_⟩
    · rw [v0 1 (by decide)] at hk
      omega
    · rw [v0 2 (by decide)] at hb
      omega
    · rw [v0 0 (by decide), v0 1 (by decide), v0 4 (by decide), v0 5 (by decide), v6, v7, v8]
      exact ⟨x7 3 (by decide) (by decide) (by decide), x7 4 (by decide) (by decide) (by decide), x7 5 (by decide) (by decide) (by decide), x8, x9, x10, x7 9 (by decide) (by decide) (by decide), x7 10 (by decide) (by decide) (by decide), x7 11 (by decide) (by decide) (by decide), x7 12 (by decide) (by decide) (by decide)⟩
    · rw [v0 2 (by decide), if_neg (by omega)]
      exact x11 b hb
  have M3 : zFM (Vb.2.2.2.1 7) v false false false := by
    rw [ab 7 (by decide)]
    refine ⟨fun k a b c d => ?_, h9 5 (by decide) (by decide), h9 6 (by decide) (by decide), h9 7 (by decide) (by decide), h9 8 (by decide) (by decide), fun _ => v0 5 (by decide), fun _ => ⟨v6, v7⟩, fun _ => v8⟩
    by_cases h : k < 5
    · rw [h5 k h, v0 k (by omega)]
      rfl
    · rw [v9 k (by omega)]
      exact (hw k (by omega)).1
  have W3 : zFW v := by
    refine ⟨⟨?_, fun k hk => ?_, fun b hb => ?_, fun k => ?_⟩, v0 3 (by decide), fun k hk => ?_, fun b hb => ?_⟩
    · rw [v0 0 (by decide), v0 1 (by decide), v0 2 (by decide), v0 3 (by decide), v0 4 (by decide), v0 5 (by decide), v6, v7, v8]
      decide
    · rw [v0 1 (by decide)] at hk
      omega
    · rw [v0 2 (by decide)] at hb
      omega
    · by_cases h : k < 9
      · rcases (show k < 6 ∨ k = 6 ∨ k = 7 ∨ k = 8 by omega) with h | h | h | h
        · rw [v0 k h]; decide
        · rw [h, v6]; decide
        · rw [h, v7]; decide
        · rw [h, v8]; decide
      · rw [v9 k (by omega)]
        exact (hw k (by omega)).2
    · rw [v0 1 (by decide)] at hk
      omega
    · rw [v0 2 (by decide)] at hb
      omega
  have R3 : zFS gs pa o nm B T g3 PV Vb 0 0 g.2.1 (g.2.1 + 1) (g.2.1 + 2) (g.2.1 + 3) (g.2.1 + 4) (fun _ => 0) (fun _ => 0) v false false false := ⟨⟨x15, P3, p0, p1, p3, wo3, mtb, by rw [hVb, hf_ui_ne _ (by decide), hf_ui_ne _ (by decide), hf_ui_at]; rfl, by rw [hVb, hf_ui_ne _ (by decide), hf_ui_at], by rw [hVb, hf_ui_at]; rfl, Nat.zero_le _, Nat.zero_le _⟩, ⟨p4, p5, by rw [hVb, hf_ui_ne _ (by decide), hf_ui_ne _ (by decide), hf_ui_ne _ (by decide), hf_ui_at]; rfl, by rw [ib 11 (by decide) (by decide) (by decide) (by decide)]; exact v11, by decide⟩, O3, M3, W3⟩
  unfold spX5_fair
  rw [hM, hf_mk_eq, x1, Option.bind_some, P3.pob]
  obtain ⟨kc', hC⟩ := xm_clauseF R3 K3 (Nat.le_refl _) ⟨by omega, by omega, by omega, by omega⟩
  rcases hC with ⟨g', V', z1, z2, c, q1, q2, q3, q4, q5, q6, q7⟩ | ⟨g', PV', V', a', l1', d1', l2', d2', p', q'', v', t5', t6', t8', z1, z2, z3, z4, z5, z6, z7⟩
  · left
    rw [z1, hf_bT_inl, z2, hf_b2_some]
    exact ⟨g', _, rfl, m_readsFail q2 q3 q4 (hf_N - 1), hf_ui_at _ _ _, c, q1, by rw [hf_ui_ne _ (by decide)]; exact q2, q3, q4, q5.mono (by omega), q6.ui (by omega) _, q7⟩
  · rw [z1, hf_bT_inr, z2, hf_b2_some]
    have ha' := z3.1.2.2.2.2.2.2.2.2.2.2.1
    rcases xm_clausesF (Nat.le_refl g.2.1) hf_N (by unfold hf_N; omega) z3 z6 z5 with ⟨g'', V'', u1, u2, u0, c, q1, q2, q3, q4, q5, q6, q7⟩ | ⟨g'', PV'', V'', a'', kc'', l1'', d1'', l2'', d2'', p'', q3, v'', t5'', t6'', t8'', u1, u2, u3, u4, u5, u6, u7⟩
    · left
      exact ⟨g'', V'', u1, u2, u0, c, q1, q2, q3, q4, q5.mono (by omega), z7.trans q6, q7⟩
    · right
      have ha'' := u3.1.2.2.2.2.2.2.2.2.2.2.1
      exact ⟨g'', PV'', V'', a'', kc'', l1'', d1'', l2'', d2'', p'', q3, v'', t5'', t6'', t8'', u1, u2, u3, u5, u6.mono (by omega), z7.trans u7⟩
end ZQ
set_option maxRecDepth 100000
set_option maxHeartbeats 1000000
/-! the act: fair; its state begins; the model's said and read -/
section ZX
variable {h : hf_H} {st fa l1 d1 l2 d2 : Nat} {SV0 : hf_V} {p q : Nat → Nat} {v : Nat → Nat} {t5 t6 t8 : Bool}
theorem x_beginL (e : hf_ob 1 2 h st = some SV0) (O : zFO h fa l1 d1 l2 d2 p q v t5 t6 t8) (w1 : v 1 ≤ 12) (w2 : v 2 ≤ 4) (z3 : v 3 = 0) (zb : ∀ b, b < v 2 → v (70 + 4 * b + 2) = 0) : ∃ SV1, spX2_begin st fa h = ((spX2_sees st fa (hf_sc h st SV1)).bind fun g5 => some g5) ∧ hf_S2 SV1 v := by
  obtain ⟨FV, f1, f2, f3, f4, f5, f6, f7, f8, f9, f10⟩ := O
  have hself : hf_sc h st SV0 = h := hf_up_self e
  have fo : ∀ Y : hf_V, hf_ob 1 2 (hf_sc h st Y) st = some Y := fun Y => hf_ob_up h st 1 2 Y
  have ff : ∀ Y : hf_V, hf_ob 1 1 (hf_sc h st Y) fa = some FV := fun Y => by
    unfold hf_sc
    rw [hf_ob_ne (hf_ob_dif f1 e (by decide))]
    exact f1
  have L1 : ∀ Y : hf_V, hf_L (hf_sc h st Y) l1 (v 1) p := fun Y => (f5.up (V' := Y) e (by decide)).L
  have L2 : ∀ Y : hf_V, hf_L (hf_sc h st Y) l2 (v 2) q := fun Y => (f6.up (V' := Y) e (by decide)).L
  have scc : ∀ Y Z : hf_V, hf_up (hf_sc h st Y) st (.inl (1, 2, Z)) = hf_sc h st Z := fun Y Z => hf_up_up h st _ _
  have buyers : ∀ (SV : hf_V), (∀ k, k < v 1 → SV.2.2.2.1 0 k = Int32.ofNat (v (10 + 5 * k + 3))) → ∃ SV1, lpX2_begin_41 hf_N st fa (Int32.ofNat 0) (hf_sc h st SV) = ((spX2_sees st fa (hf_sc h st SV1)).bind fun g5 => some g5) ∧ hf_S2 SV1 v := by
    intro SV hSV
    refine hf_loopR (fun n i Y => lpX2_begin_41 n st fa (Int32.ofNat i) (hf_sc h st Y)) (fun i Y => (∀ k, k < v 1 → Y.2.2.2.1 0 k = Int32.ofNat (v (10 + 5 * k + 3))) ∧ ∀ b, b < i → Y.2.2.2.1 1 b = Int32.ofNat (v (70 + 4 * b)) ∧ Y.2.2.2.1 2 b = Int32.ofNat (v (70 + 4 * b + 1)) ∧ Y.2.2.2.1 3 b = Int32.ofNat (v (70 + 4 * b + 2))) (v 2) (fun r => ∃ SV1, r = ((spX2_sees st fa (hf_sc h st SV1)).bind fun g5 => some g5) ∧ hf_S2 SV1 v) (fun i n Y hi hP => ?_) (fun n Y hP => ?_) SV ⟨hSV, fun b hb => by omega⟩ (fuel := hf_N) (by unfold hf_N; omega)
    · obtain ⟨y1, y2⟩ := hP
      obtain ⟨QV, u1, u2, u3⟩ := f8 i hi
      have oq : ∀ Y : hf_V, hf_ob 0 7 (hf_sc h st Y) (q i) = some QV := fun Y => by
        unfold hf_sc
        rw [hf_ob_ne (hf_ob_dif u1 e (by decide))]
        exact u1
      have a1 : Int32.ofNat i + (1 : Int32) = Int32.ofNat (i + 1) := z_add i 1
      refine ⟨hf_ua (hf_ua (hf_ua Y 1 i (Int32.ofNat (v (70 + 4 * i)))) 2 i (Int32.ofNat (v (70 + 4 * i + 1)))) 3 i 0, ?_, fun k hk => ?_, fun b hb => ?_⟩
      · show ndX2_begin_41 (lpX2_begin_41 n) _ _ _ _ = _
        unfold ndX2_begin_41
        rw [hf_ga_eq (ff _), f3, Option.bind_some, (L2 _).ob, (L2 _).size, hf_b2_some, if_neg (z_nle hi (by omega)), fo, Option.bind_some, hf_ga_eq (ff _), f3, Option.bind_some, (L2 _).ob, (L2 _).get hi (by omega), hf_b2_some, oq, Option.bind_some, hf_gi_eq (oq _), u2, Option.bind_some, hf_si_eq (fo _) 1 (by omega) (by omega), Option.bind_some, scc, fo, Option.bind_some, hf_ga_eq (ff _), f3, Option.bind_some, (L2 _).ob, (L2 _).get hi (by omega), hf_b2_some, oq, Option.bind_some, hf_gi_eq (oq _), u3, Option.bind_some, hf_si_eq (fo _) 2 (by omega) (by omega), Option.bind_some, scc, fo, Option.bind_some, hf_si_eq (fo _) 3 (by omega) (by omega), Option.bind_some, scc, hf_let_eq, a1]
      · rw [hf_ua_ne _ (by decide), hf_ua_ne _ (by decide), hf_ua_ne _ (by decide)]
        exact y1 k hk
      · rw [hf_ua_ne _ (show (1 : Nat) ≠ 3 by decide), hf_ua_ne _ (show (1 : Nat) ≠ 2 by decide), hf_ua_at, hf_ua_ne _ (show (2 : Nat) ≠ 3 by decide), hf_ua_at, hf_ua_ne _ (show (2 : Nat) ≠ 1 by decide), hf_ua_at, hf_ua_ne _ (show (3 : Nat) ≠ 2 by decide), hf_ua_ne _ (show (3 : Nat) ≠ 1 by decide)]
        by_cases c : b = i
        · rw [if_pos c, if_pos c, if_pos c, c, zb i hi]
          exact ⟨rfl, rfl, rfl⟩
        · rw [if_neg c, if_neg c, if_neg c]
          exact y2 b (by omega)
    · obtain ⟨y1, y2⟩ := hP
      refine ⟨hf_ui Y 4 0, ?_, y1, y2, by rw [hf_ui_at, z3]; rfl⟩
      show ndX2_begin_41 (lpX2_begin_41 n) _ _ _ _ = _
      unfold ndX2_begin_41
      rw [hf_ga_eq (ff _), f3, Option.bind_some, (L2 _).ob, (L2 _).size, hf_b2_some, if_pos (z_yle (Nat.le_refl _) (by omega)), hf_pi_eq (fo _), Option.bind_some, scc, fo, Option.bind_some]
  have key : ∃ SV1, lpX2_begin_2 hf_N st fa (Int32.ofNat 0) (hf_sc h st SV0) = ((spX2_sees st fa (hf_sc h st SV1)).bind fun g5 => some g5) ∧ hf_S2 SV1 v := by
    refine hf_loopR (fun n i Y => lpX2_begin_2 n st fa (Int32.ofNat i) (hf_sc h st Y)) (fun i Y => ∀ k, k < i → Y.2.2.2.1 0 k = Int32.ofNat (v (10 + 5 * k + 3))) (v 1) (fun r => ∃ SV1, r = ((spX2_sees st fa (hf_sc h st SV1)).bind fun g5 => some g5) ∧ hf_S2 SV1 v) (fun i n Y hi hP => ?_) (fun n Y hP => ?_) SV0 (fun k hk => by omega) (fuel := hf_N) (by unfold hf_N; omega)
    · obtain ⟨HV, u1, u2, u3⟩ := f7 i hi
      have oq : ∀ Y : hf_V, hf_ob 0 6 (hf_sc h st Y) (p i) = some HV := fun Y => by
        unfold hf_sc
        rw [hf_ob_ne (hf_ob_dif u1 e (by decide))]
        exact u1
      have a1 : Int32.ofNat i + (1 : Int32) = Int32.ofNat (i + 1) := z_add i 1
      refine ⟨hf_ua Y 0 i (Int32.ofNat (v (10 + 5 * i + 3))), ?_, fun k hk => ?_⟩
      · show ndX2_begin_2 (lpX2_begin_2 n) _ _ _ _ = _
        unfold ndX2_begin_2
        rw [hf_ga_eq (ff _), f2, Option.bind_some, (L1 _).ob, (L1 _).size, hf_b2_some, if_neg (z_nle hi (by omega)), fo, Option.bind_some, hf_ga_eq (ff _), f2, Option.bind_some, (L1 _).ob, (L1 _).get hi (by omega), hf_b2_some, oq, Option.bind_some, hf_gi_eq (oq _), u2, Option.bind_some, hf_si_eq (fo _) 0 (by omega) (by omega), Option.bind_some, scc, hf_let_eq, a1]
      · rw [hf_ua_at]
        by_cases c : k = i
        · rw [if_pos c, c]
        · rw [if_neg c]
          exact hP k (by omega)
    · obtain ⟨SV1, s1, s2⟩ := buyers Y hP
      refine ⟨SV1, ?_, s2⟩
      rw [← s1]
      show ndX2_begin_2 (lpX2_begin_2 n) _ _ _ _ = _
      unfold ndX2_begin_2
      rw [hf_ga_eq (ff _), f2, Option.bind_some, (L1 _).ob, (L1 _).size, hf_b2_some, if_pos (z_yle (Nat.le_refl _) (by omega))]
      rfl
  rw [hself] at key
  exact key
end ZX
section ZM
variable {V : hf_V}
theorem m_fairHead (V : hf_V) : ∃ W : hf_V, (spX4_fair V = hf_b2 (spX4_readsAll W) fun x2 V1 => if x2 = 0 then (some (((-2 : Int32) - (V1.1 9)), V1)) else lpX4_fair_64 hf_N (0 : Int32) V1) ∧ W.1 11 = 6 ∧ (∀ j, j ≠ 11 → W.1 j = V.1 j) ∧ (∀ j, j ≠ 7 → W.2.2.2.1 j = V.2.2.2.1 j) ∧ (∀ k, k < 5 → W.2.2.2.1 7 k = 0) ∧ (∀ k, 5 ≤ k → k < 9 → W.2.2.2.1 7 k = -1) ∧ ∀ k, 9 ≤ k → W.2.2.2.1 7 k = V.2.2.2.1 7 k := by
  obtain ⟨U, hU⟩ : ∃ U, U = hf_ui V 11 6 := ⟨_, rfl⟩
  obtain ⟨W, hW⟩ : ∃ W, W = hf_sa U 7 (fun j => if j < 5 then 0 else if j < 9 then -1 else U.2.2.2.1 7 j) := ⟨_, rfl⟩
  have second : ∀ N, 4 < N → lpX4_fair_28 N (Int32.ofNat (5 + 0)) (hf_sa U 7 (fun j => if j < 5 then 0 else if j < 5 + 0 then -1 else U.2.2.2.1 7 j)) = hf_b2 (spX4_readsAll W) fun x2 V1 => if x2 = 0 then (some (((-2 : Int32) - (V1.1 9)), V1)) else lpX4_fair_64 hf_N (0 : Int32) V1 := by
    intro N hN
    refine hf_loop (fun n i => lpX4_fair_28 n (Int32.ofNat (5 + i)) (hf_sa U 7 (fun j => if j < 5 then 0 else if j < 5 + i then -1 else U.2.2.2.1 7 j))) 4 _ (fun i n hi => ?_) (fun n => ?_) hN
    · show ndX4_fair_28 (lpX4_fair_28 n) _ _ = _
      unfold ndX4_fair_28
      have a1 : Int32.ofNat (5 + i) + (1 : Int32) = Int32.ofNat (5 + (i + 1)) := z_add _ 1
      rw [if_neg (show ¬ (9 : Int32) ≤ Int32.ofNat (5 + i) from z_nle (a := 9) (by omega) (by decide)), z_sd (by omega) (by omega), hf_ua_sa, hf_let_eq, a1]
      congr 2
      funext j
      unfold zup
      dsimp only
      by_cases c : j = 5 + i
      · rw [if_pos c, if_neg (by omega), if_pos (by omega)]
      · rw [if_neg c]
        by_cases d : j < 5
        · rw [if_pos d, if_pos d]
        · rw [if_neg d, if_neg d]
          by_cases f : j < 5 + i
          · rw [if_pos f, if_pos (by omega)]
          · rw [if_neg f, if_neg (by omega)]
    · show ndX4_fair_28 (lpX4_fair_28 n) _ _ = _
      unfold ndX4_fair_28
      rw [if_pos (by decide), hW]
  have first : ∀ N, 5 < N → lpX4_fair_8 N (Int32.ofNat 0) (hf_sa U 7 (fun j => if j < 0 then 0 else U.2.2.2.1 7 j)) = hf_b2 (spX4_readsAll W) fun x2 V1 => if x2 = 0 then (some (((-2 : Int32) - (V1.1 9)), V1)) else lpX4_fair_64 hf_N (0 : Int32) V1 := by
    intro N hN
    refine hf_loop (fun n i => lpX4_fair_8 n (Int32.ofNat i) (hf_sa U 7 (fun j => if j < i then 0 else U.2.2.2.1 7 j))) 5 _ (fun i n hi => ?_) (fun n => ?_) hN
    · show ndX4_fair_8 (lpX4_fair_8 n) _ _ = _
      unfold ndX4_fair_8
      have a1 : Int32.ofNat i + (1 : Int32) = Int32.ofNat (i + 1) := z_add _ 1
      rw [if_neg (show ¬ (5 : Int32) ≤ Int32.ofNat i from z_nle (a := 5) (by omega) (by decide)), z_sd (by omega) (by omega), hf_ua_sa, hf_let_eq, a1]
      congr 2
      funext j
      unfold zup
      dsimp only
      by_cases c : j = i
      · rw [if_pos c, if_pos (by omega)]
      · rw [if_neg c]
        by_cases d : j < i
        · rw [if_pos d, if_pos (by omega)]
        · rw [if_neg d, if_neg (by omega)]
    · show ndX4_fair_8 (lpX4_fair_8 n) _ _ = _
      unfold ndX4_fair_8
      rw [if_pos (by decide), ← second hf_N (by unfold hf_N; omega)]
      have : (fun j => if j < 5 then (0 : Int32) else U.2.2.2.1 7 j) = fun j => if j < 5 then 0 else if j < 5 + 0 then -1 else U.2.2.2.1 7 j := by
        funext j
        by_cases c : j < 5
        · rw [if_pos c, if_pos c]
        · rw [if_neg c, if_neg c, if_neg c]
      rw [this]
      rfl
  have hU0 : hf_sa U 7 (fun j => if j < 0 then 0 else U.2.2.2.1 7 j) = U := by
    unfold hf_sa
    refine Prod.ext rfl (Prod.ext rfl (Prod.ext rfl (Prod.ext ?_ rfl)))
    funext j
    by_cases c : j = 7
    · simp [c]
    · simp [c]
  refine ⟨W, ?_, by rw [hW]; show U.1 11 = 6; rw [hU, hf_ui_at], fun j hj => by rw [hW]; show U.1 j = _; rw [hU, hf_ui_ne _ hj], fun j hj => by rw [hW, hf_sa_ne _ hj, hU]; rfl, fun k hk => by rw [hW, hf_sa_at, if_pos hk], fun k h1 h2 => by rw [hW, hf_sa_at, if_neg (by omega), if_pos h2], fun k hk => by rw [hW, hf_sa_at, if_neg (by omega), if_neg (by omega), hU]; rfl⟩
  unfold spX4_fair
  have := first hf_N (by unfold hf_N; omega)
  rw [hU0] at this
  rw [hf_let_eq, ← hU]
  exact this
end ZM
set_option maxRecDepth 100000
set_option maxHeartbeats 1000000
/-! the act: fair; what the model has said -/
def zvn (v vo : Nat → Nat) : Nat → Nat := fun i => if i < 86 then v i else if i < 123 then 0 else vo i
theorem zvn_lo (v vo : Nat → Nat) {i : Nat} (h : i < 86) : zvn v vo i = v i := if_pos h
theorem zvn_mid (v vo : Nat → Nat) {i : Nat} (h : 86 ≤ i) (h2 : i < 123) : zvn v vo i = 0 := by
  unfold zvn
  rw [if_neg (by omega), if_pos h2]
section ZM
variable {V : hf_V} {v vo : Nat → Nat} {t5 t6 t8 : Bool}
theorem zvn_wf (W : zFW v) (hb : ∀ k, vo k < 16777216) : hf_wf (zvn v vo) := by
  obtain ⟨⟨⟨w0, w1, w2, w3, w4, w5, w6, w7, w8, w9⟩, wh, wb, wk⟩, z3, zh, zb⟩ := W
  have e : ∀ j, j < 86 → zvn v vo j = v j := fun j hj => zvn_lo v vo hj
  refine ⟨?_, fun k hk => ?_, fun b hb' => ?_, fun k => ?_⟩
  · rw [e 0 (by omega), e 1 (by omega), e 2 (by omega), e 3 (by omega), e 4 (by omega), e 5 (by omega), e 6 (by omega), e 7 (by omega), e 8 (by omega)]
    exact ⟨w0, w1, w2, w3, w4, w5, w6, w7, w8, w9⟩
  · rw [e 1 (by omega)] at hk
    rw [e 0 (by omega), e _ (by omega), e _ (by omega), e _ (by omega), e _ (by omega), e _ (by omega)]
    exact wh k hk
  · rw [e 2 (by omega)] at hb'
    rw [e 0 (by omega), e 2 (by omega), e _ (by omega), e _ (by omega), e _ (by omega), e _ (by omega)]
    exact wb b hb'
  · unfold zvn
    split
    · exact wk k
    · split
      · decide
      · exact hb k
theorem m_fairTail (M : zFM (V.2.2.2.1 7) v t5 t6 t8) (W : zFW v) (S0 : hf_sv V vo) : ∃ V', lpX4_fair_64 hf_N (0 : Int32) V = some (Int32.ofNat (v 1), V') ∧ V'.1 25 = 0 ∧ (∀ j, j ≠ 25 → V'.1 j = V.1 j) ∧ (∀ j, j ≠ 20 → j ≠ 22 → j ≠ 23 → V'.2.2.2.1 j = V.2.2.2.1 j) ∧ hf_sv V' (zsee (zvn v vo) (zvn v vo 2)) ∧ hf_IW V' (zsee (zvn v vo) (zvn v vo 2)) := by
  have Wf := zvn_wf (vo := vo) W (fun k => (S0 k).2)
  obtain ⟨vn, hvn⟩ : ∃ y, y = zvn v vo := ⟨_, rfl⟩
  rw [← hvn] at Wf ⊢
  have e : ∀ j, j < 86 → vn j = v j := fun j hj => by rw [hvn]; exact zvn_lo v vo hj
  have wk := W.1.2.2.2
  obtain ⟨m0, m5, m6, m7, m8, k5, k6, k8⟩ := M
  obtain ⟨F, hF⟩ : ∃ F : Nat → Nat → Int32, F = fun i j => if j < i then (if j < 86 then V.2.2.2.1 7 j else 0) else V.2.2.2.1 20 j := ⟨_, rfl⟩
  have Fa : ∀ i j, F i j = if j < i then (if j < 86 then V.2.2.2.1 7 j else 0) else V.2.2.2.1 20 j := fun i j => by rw [hF]
  have l20 : ∀ (H : Nat → Int32) (k : Nat), k < 123 → hf_ld 123 ((hf_sa V 20 H).2.2.2.1 20) (Int32.ofNat k) = some (H k) := fun H k hk => by rw [z_ld hk (by omega), hf_sa_at]
  have le0 : ∀ n : Nat, n < 16777216 → (0 : Int32) ≤ Int32.ofNat n := fun n hn => z_yle (a := 0) (Nat.zero_le _) (by omega)
  have nle : ¬ (0 : Int32) ≤ -1 := by decide
  have sd : ∀ (H : Nat → Int32) (k : Nat) (x : Int32) (τ : Type) (K : hf_V → Option τ), k < 123 → hf_sd 123 (Int32.ofNat k) (fun j => hf_ua (hf_sa V 20 H) 20 j x) K = K (hf_sa V 20 (zup H k x)) := fun H k x τ K hk => by rw [z_sd hk (by omega), hf_ua_sa]
  -- the told once
  obtain ⟨H5, hH5⟩ : ∃ H5 : Nat → Int32, H5 = fun j => if j = 5 then Int32.ofNat (v 5) else F 123 j := ⟨_, rfl⟩
  obtain ⟨H6, hH6⟩ : ∃ H6 : Nat → Int32, H6 = fun j => if j = 6 then Int32.ofNat (v 6) else if j = 7 then Int32.ofNat (v 7) else H5 j := ⟨_, rfl⟩
  obtain ⟨H8, hH8⟩ : ∃ H8 : Nat → Int32, H8 = fun j => if j = 8 then Int32.ofNat (v 8) else H6 j := ⟨_, rfl⟩
  have F5 : F 123 5 = V.2.2.2.1 7 5 := by rw [Fa]; rfl
  have F6 : H5 6 = V.2.2.2.1 7 6 := by
    rw [hH5]
    show (if 6 = 5 then Int32.ofNat (v 5) else F 123 6) = _
    rw [if_neg (by decide), Fa]
    rfl
  have F7 : H5 7 = V.2.2.2.1 7 7 := by
    rw [hH5]
    show (if 7 = 5 then Int32.ofNat (v 5) else F 123 7) = _
    rw [if_neg (by decide), Fa]
    rfl
  have F8 : H6 8 = V.2.2.2.1 7 8 := by
    rw [hH6]
    show (if 8 = 6 then Int32.ofNat (v 6) else if 8 = 7 then Int32.ofNat (v 7) else H5 8) = _
    rw [if_neg (by decide), if_neg (by decide), hH5]
    show (if 8 = 5 then Int32.ofNat (v 5) else F 123 8) = _
    rw [if_neg (by decide), Fa]
    rfl
  have s8 : ndX4_fair_141 (hf_sa V 20 H6) = ndX4_fair_159 (hf_sa V 20 H8) := by
    unfold ndX4_fair_141
    have l := l20 H6 8 (by decide)
    have l' : hf_ld 123 ((hf_sa V 20 H6).2.2.2.1 20) (8 : Int32) = _ := l
    have d := sd H6 8 1
    have d' : ∀ (τ : Type) (K : hf_V → Option τ), hf_sd 123 (8 : Int32) (fun j => hf_ua (hf_sa V 20 H6) 20 j 1) K = K (hf_sa V 20 (zup H6 8 1)) := fun τ K => d τ K (by decide)
    rw [l', F8, m8, Option.bind_some]
    cases t8 with
    | true =>
      have : H6 = H8 := by
        funext j
        rw [hH8]
        show H6 j = if j = 8 then Int32.ofNat (v 8) else H6 j
        by_cases c : j = 8
        · rw [if_pos c, c, F8, m8]
          rfl
        · rw [if_neg c]
      rw [if_pos (show true = true from rfl), if_pos (le0 _ (wk 8)), this]
    | false =>
      have : zup H6 8 1 = H8 := by
        funext j
        rw [hH8]
        show zup H6 8 1 j = if j = 8 then Int32.ofNat (v 8) else H6 j
        unfold zup
        by_cases c : j = 8
        · rw [if_pos c, if_pos c, k8 rfl]
          rfl
        · rw [if_neg c, if_neg c]
      rw [if_neg (show ¬ (false = true) by decide), if_neg nle, d', this]
  have s6 : ndX4_fair_114 (hf_sa V 20 H5) = ndX4_fair_141 (hf_sa V 20 H6) := by
    unfold ndX4_fair_114
    have l := l20 H5 6 (by decide)
    have l' : hf_ld 123 ((hf_sa V 20 H5).2.2.2.1 20) (6 : Int32) = _ := l
    have d' : ∀ (τ : Type) (K : hf_V → Option τ), hf_sd 123 (6 : Int32) (fun j => hf_ua (hf_sa V 20 H5) 20 j 12) K = K (hf_sa V 20 (zup H5 6 12)) := fun τ K => sd H5 6 12 τ K (by decide)
    have d7 : ∀ (τ : Type) (K : hf_V → Option τ), hf_sd 123 (7 : Int32) (fun j => hf_ua (hf_sa V 20 (zup H5 6 12)) 20 j 5) K = K (hf_sa V 20 (zup (zup H5 6 12) 7 5)) := fun τ K => sd (zup H5 6 12) 7 5 τ K (by decide)
    rw [l', F6, m6, Option.bind_some]
    cases t6 with
    | true =>
      have : H5 = H6 := by
        funext j
        rw [hH6]
        show H5 j = if j = 6 then Int32.ofNat (v 6) else if j = 7 then Int32.ofNat (v 7) else H5 j
        by_cases c : j = 6
        · rw [if_pos c, c, F6, m6]
          rfl
        · rw [if_neg c]
          by_cases c2 : j = 7
          · rw [if_pos c2, c2, F7, m7]
            rfl
          · rw [if_neg c2]
      rw [if_pos (show true = true from rfl), if_pos (le0 _ (wk 6)), this]
    | false =>
      have : zup (zup H5 6 12) 7 5 = H6 := by
        funext j
        rw [hH6]
        show zup (zup H5 6 12) 7 5 j = if j = 6 then Int32.ofNat (v 6) else if j = 7 then Int32.ofNat (v 7) else H5 j
        unfold zup
        by_cases c : j = 6
        · rw [if_neg (by omega), if_pos c, if_pos c, (k6 rfl).1]
          rfl
        · by_cases c2 : j = 7
          · rw [if_pos c2, if_neg c, if_pos c2, (k6 rfl).2]
            rfl
          · rw [if_neg c2, if_neg c, if_neg c, if_neg c2]
      rw [if_neg (show ¬ (false = true) by decide), if_neg nle, d', d7, this]
  have s5 : ∀ n, lpX4_fair_64 (n + 1) (Int32.ofNat 123) (hf_sa V 20 (F 123)) = ndX4_fair_114 (hf_sa V 20 H5) := fun n => by
    show ndX4_fair_64 (lpX4_fair_64 n) _ _ = _
    unfold ndX4_fair_64
    have l' : hf_ld 123 ((hf_sa V 20 (F 123)).2.2.2.1 20) (5 : Int32) = _ := l20 (F 123) 5 (by decide)
    have d' : ∀ (τ : Type) (K : hf_V → Option τ), hf_sd 123 (5 : Int32) (fun j => hf_ua (hf_sa V 20 (F 123)) 20 j 0) K = K (hf_sa V 20 (zup (F 123) 5 0)) := fun τ K => sd (F 123) 5 0 τ K (by decide)
    rw [if_pos (show (123 : Int32) ≤ Int32.ofNat 123 by decide), l', F5, m5, Option.bind_some]
    cases t5 with
    | true =>
      have : F 123 = H5 := by
        funext j
        rw [hH5]
        show F 123 j = if j = 5 then Int32.ofNat (v 5) else F 123 j
        by_cases c : j = 5
        · rw [if_pos c, c, F5, m5]
          rfl
        · rw [if_neg c]
      rw [if_pos (show true = true from rfl), if_pos (le0 _ (wk 5)), this]
    | false =>
      have : zup (F 123) 5 0 = H5 := by
        funext j
        rw [hH5]
        show zup (F 123) 5 0 j = if j = 5 then Int32.ofNat (v 5) else F 123 j
        unfold zup
        by_cases c : j = 5
        · rw [if_pos c, if_pos c, k5 rfl]
          rfl
        · rw [if_neg c, if_neg c]
      rw [if_neg (show ¬ (false = true) by decide), if_neg nle, d', this]
  have hH8n : H8 = fun j => Int32.ofNat (vn j) := by
    funext j
    have h8 : H8 j = if j = 8 then Int32.ofNat (v 8) else H6 j := by rw [hH8]
    have h6 : H6 j = if j = 6 then Int32.ofNat (v 6) else if j = 7 then Int32.ofNat (v 7) else H5 j := by rw [hH6]
    have h5 : H5 j = if j = 5 then Int32.ofNat (v 5) else F 123 j := by rw [hH5]
    show H8 j = Int32.ofNat (vn j)
    rw [h8]
    by_cases c8 : j = 8
    · rw [if_pos c8, c8, e 8 (by decide)]
    rw [if_neg c8, h6]
    by_cases c6 : j = 6
    · rw [if_pos c6, c6, e 6 (by decide)]
    rw [if_neg c6]
    by_cases c7 : j = 7
    · rw [if_pos c7, c7, e 7 (by decide)]
    rw [if_neg c7, h5]
    by_cases c5 : j = 5
    · rw [if_pos c5, c5, e 5 (by decide)]
    rw [if_neg c5, Fa]
    by_cases c : j < 86
    · rw [if_pos (by omega), if_pos c, m0 j c5 c6 c7 c8, e j c]
    · by_cases c2 : j < 123
      · rw [if_pos c2, if_neg c, hvn, zvn_mid v vo (by omega) c2]
        rfl
      · rw [if_neg c2, hvn]
        unfold zvn
        rw [if_neg c, if_neg c2]
        exact (S0 j).1
  obtain ⟨U, hU⟩ : ∃ U, U = hf_sa V 20 H8 := ⟨_, rfl⟩
  have SU : hf_sv U vn := fun k => ⟨by rw [hU, hf_sa_at, hH8n], Wf.2.2.2 k⟩
  obtain ⟨U1, hU1⟩ : ∃ U1, U1 = hf_ui U 25 0 := ⟨_, rfl⟩
  have SU1 : hf_sv U1 vn := by rw [hU1]; exact SU.ui_ 25 _
  have hv1 : vn 1 ≤ 12 := Wf.1.2.1
  have see := m_allSee SU1 hv1 Wf.1.2.2.1 Wf.1.1 (by have := Wf.1.2.2.2.1; omega) (by have := Wf.1.2.2.2.2.1; omega) (fun b hb => (Wf.2.2.1 b hb).2.1)
  obtain ⟨w, hw⟩ : ∃ w, w = zsee vn (vn 2) := ⟨_, rfl⟩
  rw [← hw] at see ⊢
  have wb : ∀ k, w k < 16777216 := fun k => by rw [hw]; exact zsee_b hv1 Wf.2.2.2 _ k
  obtain ⟨U2, hU2⟩ : ∃ U2, U2 = hf_sd20 U1 w := ⟨_, rfl⟩
  have SU2 : hf_sv U2 w := by rw [hU2]; exact hf_sd20_sv U1 wb
  have w1 : w 1 = v 1 := by
    rw [hw, zsee_ot vn (vn 2) 1 (fun b _ => by omega)]
    exact e 1 (by decide)
  have mf := m_fillsWorth SU2 (by rw [w1, ← e 1 (by decide)]; exact hv1)
  have S3 := (SU2.sa (k := 22) (by decide) (zfW U2 w (2 ^ w 1 - 1))).sa (k := 23) (by decide) (zfM U2 w (2 ^ w 1 - 1))
  obtain ⟨U3, hU3⟩ : ∃ U3, U3 = hf_sa (hf_sa U2 22 (zfW U2 w (2 ^ w 1 - 1))) 23 (zfM U2 w (2 ^ w 1 - 1)) := ⟨_, rfl⟩
  rw [← hU3] at mf S3
  have s9 : ndX4_fair_159 U = some (Int32.ofNat (v 1), U3) := by
    unfold ndX4_fair_159
    have l1 : hf_ld 123 (U3.2.2.2.1 20) (1 : Int32) = some (Int32.ofNat (w 1)) := S3.ld (i := 1) (by decide)
    rw [hf_let_eq, ← hU1, see, Option.bind_some, ← hU2, mf, Option.bind_some, l1, Option.bind_some, w1]
  have key : ∀ N9, 123 < N9 → lpX4_fair_64 N9 (Int32.ofNat 0) (hf_sa V 20 (F 0)) = some (Int32.ofNat (v 1), U3) := by
    intro N9 hN9
    refine hf_loop (fun n i => lpX4_fair_64 n (Int32.ofNat i) (hf_sa V 20 (F i))) 123 _ (fun i n hi => ?_) (fun n => ?_) hN9
    · show ndX4_fair_64 (lpX4_fair_64 n) _ _ = _
      unfold ndX4_fair_64 ndX4_fair_91
      have a1 : Int32.ofNat i + (1 : Int32) = Int32.ofNat (i + 1) := z_add i 1
      have hz : ∀ x, (x = if i < 86 then V.2.2.2.1 7 i else 0) → zup (F i) i x = F (i + 1) := fun x hx => by
        funext j
        rw [Fa]
        unfold zup
        by_cases c : j = i
        · rw [if_pos c, if_pos (by omega), c, hx]
        · rw [if_neg c, Fa]
          by_cases d : j < i
          · rw [if_pos d, if_pos (show j < i + 1 by omega)]
          · rw [if_neg d, if_neg (show ¬ j < i + 1 by omega)]
      rw [if_neg (show ¬ (123 : Int32) ≤ Int32.ofNat i from z_nle (a := 123) (by omega) (by decide))]
      by_cases c : 86 ≤ i
      · rw [if_pos (show (86 : Int32) ≤ Int32.ofNat i from z_yle (a := 86) c (by omega)), sd _ _ _ _ _ hi, hf_let_eq, a1, hz 0 (by rw [if_neg (by omega)])]
      · have l7 : hf_ld 86 ((hf_sa V 20 (F i)).2.2.2.1 7) (Int32.ofNat i) = some (V.2.2.2.1 7 i) := by rw [z_ld (by omega) (by omega), hf_sa_ne _ (by decide)]
        rw [if_neg (show ¬ (86 : Int32) ≤ Int32.ofNat i from z_nle (a := 86) (by omega) (by decide)), l7, Option.bind_some, sd _ _ _ _ _ hi, hf_let_eq, a1, hz _ (by rw [if_pos (by omega)])]
    · show lpX4_fair_64 (n + 1) (Int32.ofNat 123) _ = _
      rw [s5, s6, s8, ← hU, s9]
  have hst : hf_sa V 20 (F 0) = V := by
    unfold hf_sa
    refine Prod.ext rfl (Prod.ext rfl (Prod.ext rfl (Prod.ext ?_ rfl)))
    funext j
    by_cases c : j = 20
    · subst c
      show (if 20 = 20 then F 0 else V.2.2.2.1 20) = _
      rw [if_pos rfl]
      funext k
      rw [Fa, if_neg (by omega)]
    · show (if j = 20 then F 0 else V.2.2.2.1 j) = _
      rw [if_neg c]
  have key' := key hf_N (by unfold hf_N; omega)
  rw [hst] at key'
  have iU3 : U3.1 = U1.1 := by rw [hU3, hU2]; rfl
  refine ⟨U3, key', by rw [iU3, hU1, hf_ui_at], fun j hj => by rw [iU3, hU1, hf_ui_ne _ hj, hU]; rfl, fun j h20 h22 h23 => ?_, S3, fun s hs => ⟨?_, fun h0 => ?_⟩⟩
  · rw [hU3, hf_sa_ne _ h23, hf_sa_ne _ h22, hU2]
    unfold hf_sd20
    rw [hf_sa_ne _ h20, hU1, hU]
    show (hf_sa V 20 H8).2.2.2.1 j = _
    rw [hf_sa_ne _ h20]
  · rw [hU3, hf_sa_ne _ (by decide), hf_sa_at]
    exact zfW_at hs
  · rw [hU3, hf_sa_at]
    exact zfM_at hs h0
end ZM
