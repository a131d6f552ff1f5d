set_option maxRecDepth 100000
set_option maxHeartbeats 1000000
/-! the act: fair -/
theorem zFO.congr {g : hf_H} {fa l1 d1 l2 d2 : Nat} {p q : Nat → Nat} {v v' : Nat → Nat} {t5 t6 t8 : Bool} (H : zFO g fa l1 d1 l2 d2 p q v t5 t6 t8) (e : ∀ j, j < 86 → v' j = v j) (w1 : v 1 ≤ 12) (w2 : v 2 ≤ 4) : zFO g fa l1 d1 l2 d2 p q v' t5 t6 t8 := by
  obtain ⟨FV, f1, f2, f3, f4, f5, f6, f7, f8, f9, f10⟩ := H
  have hz : zset (fun k => v' (10 + 5 * k + 4) == 1) (v 1) = zset (fun k => v (10 + 5 * k + 4) == 1) (v 1) := zset_congr _ (fun k hk => by
    show (v' (10 + 5 * k + 4) == 1) = _
    rw [e _ (by omega)])
  refine ⟨FV, f1, f2, f3, f4, by rw [e 1 (by decide)]; exact f5, by rw [e 2 (by decide)]; exact f6, fun k hk => ?_, fun b hb => ?_, ?_, fun b hb => ?_⟩
  · rw [e 1 (by decide)] at hk
    rw [e _ (by omega), e _ (by omega), e _ (by omega), e _ (by omega)]
    exact f7 k hk
  · rw [e 2 (by decide)] at hb
    rw [e _ (by omega), e _ (by omega)]
    exact f8 b hb
  · rw [e 0 (by decide), e 1 (by decide), e 4 (by decide), e 5 (by decide), e 6 (by decide), e 7 (by decide), e 8 (by decide), hz]
    exact f9
  · rw [f10 b hb, e 2 (by decide)]
    by_cases c : b < v 2
    · rw [if_pos c, if_pos c, e _ (by omega)]
    · rw [if_neg c, if_neg c]
theorem zFO.Fs {g : hf_H} {fa l1 d1 l2 d2 : Nat} {p q : Nat → Nat} {v : Nat → Nat} {t5 t6 t8 : Bool} (H : zFO g fa l1 d1 l2 d2 p q v t5 t6 t8) (w2 : v 2 ≤ 4) (Rg : Nat → Prop) (h1 : ¬ Rg l1) (h2 : ¬ Rg d1) (h3 : ¬ Rg l2) (h4 : ¬ Rg d2) : hf_Fs Rg g fa v := by
  obtain ⟨FV, f1, f2, f3, f4, f5, f6, f7, f8, f9, f10⟩ := H
  have hc : ∀ k, ∃ HV : hf_V, k < v 1 → hf_ob 0 6 g (p k) = some HV ∧ HV.1 1 = Int32.ofNat (v (10 + 5 * k + 0)) ∧ HV.1 2 = Int32.ofNat (v (10 + 5 * k + 1)) ∧ HV.1 3 = Int32.ofNat (v (10 + 5 * k + 2)) := fun k => by
    by_cases c : k < v 1
    · obtain ⟨HV, u1, u2, u3, u4, u5⟩ := f7 k c
      exact ⟨HV, fun _ => ⟨u1, u3, u4, u5⟩⟩
    · exact ⟨hf_V0, fun z => absurd z c⟩
  refine ⟨FV, l1, l2, p, q, fun k => Classical.choose (hc k), f1, f2, f3, ⟨h1, d1, h2, f5⟩, ⟨h3, d2, h4, f6⟩, fun k hk => Classical.choose_spec (hc k) hk, f9.1, fun _ => ⟨f9.2.1, f9.2.2.1, f9.2.2.2.1, f9.2.2.2.2.1, f9.2.2.2.2.2.1, f9.2.2.2.2.2.2.1⟩, fun b hb => ?_⟩
  rw [f10 b (by omega), if_pos hb]
/-- the cells that a fair changes -/
def zDf (o st : Nat) : Nat → Prop := fun a => a = o ∨ a = o + 19 ∨ a = st
section ZI
variable {P : Nat} {g g' : hf_H} {o f st kp rl rd : Nat} {V XV WV SV : hf_V} {ps ik sk : Nat → Nat} {v : Nat → Nat}
theorem zDf_dirt (Rg : Nat → Prop) (e : hf_ob 1 0 g o = some XV) (w3 : hf_ob 0 3 g (o + 19) = some WV) (s : hf_ob 1 2 g st = some SV) : hf_dirt Rg (zDf o st) g := fun a ha => by
  rcases ha with rfl | rfl | rfl
  · exact Or.inr ⟨1, 0, XV, e, Or.inl (by decide)⟩
  · exact Or.inr ⟨0, 3, WV, w3, Or.inr rfl⟩
  · exact Or.inr ⟨1, 2, SV, s, Or.inl (by decide)⟩
theorem zDf_kf (e : hf_ob 1 0 g o = some XV) (w3 : hf_ob 0 3 g (o + 19) = some WV) (s : hf_ob 1 2 g st = some SV) (K : hf_kp (zDf o st) g g') (w3' : ∃ W, hf_ob 0 3 g' (o + 19) = some W) (h1 : g'.2.1 ≤ g.2.1 + 18000) (h2 : g'.2.2 ≤ g.2.2 + 84000) : hf_kf g g' := by
  refine ⟨fun a V ea => K.ob ea (fun ha => ?_), fun a x ea => K a _ ea (fun ha => ?_), h1, h2, fun a V ea => ?_⟩
  · rcases ha with h | h | h
    · exact hf_ob_dif ea e (by decide) h
    · exact hf_ob_dif ea w3 (by decide) h
    · exact hf_ob_dif ea s (by decide) h
  · rcases ha with rfl | rfl | rfl
    · rw [hf_ob_spec e] at ea
      cases ea
    · rw [hf_ob_spec w3] at ea
      cases ea
    · rw [hf_ob_spec s] at ea
      cases ea
  · by_cases c : a = o + 19
    · rw [c]
      exact w3'
    · refine ⟨V, K.ob ea (fun ha => ?_)⟩
      rcases ha with h | h | h
      · exact hf_ob_dif ea e (by decide) h
      · exact c h
      · exact hf_ob_dif ea s (by decide) h
end ZI
section ZI
variable {P : Nat} {g : hf_H} {o : Nat} {V : hf_V} {gs : hf_gs} {nm : Nat}
theorem op_fair (J : hf_INV P g o V) (hP : 999 ≤ P) (hn : gs.1 0 = some nm) (wo : hf_wo g gs nm) (hw : ∃ WV, hf_ob 0 3 g (o + 19) = some WV) : hf_OPr P g o (spX0_fair gs o g) (spX4_fair V) := by
  obtain ⟨XV, f, st, kp, rl, rd, ps, ik, sk, v0, I⟩ := J
  have I0 := I
  obtain ⟨⟨a1, a2, a3, a4, ⟨a5, a5'⟩, ⟨KV, a6⟩, a7, a8⟩, ⟨b1, ⟨SV0, b2, b2'⟩, b3, b4⟩, ⟨nr, pr, c1, c2, c3, c4⟩, d, i5, ⟨u, pa, u1, u2, u3, u4, u5, u6⟩, i7, i8, i9⟩ := I
  have No : hf_no g := i8
  obtain ⟨WV, w3⟩ := hw
  obtain ⟨T, B, hT, t2, t3, hB⟩ := d.bytes
  obtain ⟨W, hMh, w11, wi, wa, w5, w59, wr⟩ := m_fairHead V
  have wv : ∀ k, ∃ n, 9 ≤ k → V.2.2.2.1 7 k = Int32.ofNat n ∧ n < 16777216 := fun k => by
    by_cases c : 9 ≤ k
    · obtain ⟨n, n1, n2⟩ := i9 k (Or.inr c)
      exact ⟨n, fun _ => ⟨n2, n1⟩⟩
    · exact ⟨0, fun z => absurd z c⟩
  obtain ⟨g7, PV, x1, N7, P7, p0, p1, p2, p3, p4, p5, wo7, k7, s7, s7'⟩ := x_parser (nm := nm) (most := 40) No a1 w3 a5' hT t2 (fun k hk => (hB k hk).1) wo
  have x1' : spX5_init g.2.1 o nm (40 : Int32) (hf_nw g (.inl (0, 5, hf_V0)) 7) = some g7 := x1
  have pob7 : ∀ (τ : Type) (K : Option τ), ((hf_ob 0 5 g7 g.2.1).bind fun _ => K) = K := fun τ K => P7.pob K
  have mtW : hf_mt W B T := ⟨hT, by rw [wi 1 (by decide)]; exact t3, fun k hk => ⟨by rw [wa 0 (by decide)]; exact (hB k hk).2, (hB k hk).1.2⟩⟩
  have hlt := c1.lt No
  have holt := No.olt a1
  have hwlt := No.olt w3
  have hslt := No.olt b2
  have low : ∀ (g' : hf_H) (n : Nat), hf_gm g.2.1 o g7 g' n → ∀ q, q < g.2.1 → q ≠ o + 19 → g'.1 q = g.1 q := fun g' n K q hq h => by
    rw [K.1 q (by omega) (by omega) h, k7 q hq]
  obtain ⟨Vb, ib, ab, H⟩ := xm_fairT (gs := gs) (w := fun k => Classical.choose (wv k)) N7 P7 p0 p1 p2 p3 p4 p5 wo7 mtW w11 (fun k hk => by
    rw [wr k hk]
    exact Classical.choose_spec (wv k) hk) w5 w59
  have hfi : ∀ (V' : hf_V), zvf Vb V' → ∀ j, j ≠ 1 → j ≠ 8 → j ≠ 9 → j ≠ 10 → j ≠ 11 → j ≠ 12 → j ≠ 14 → V'.1 j = V.1 j := fun V' Z j h1 h8 h9 h10 h11 h12 h14 => by
    rw [Z.1 j h1 h8 h9 h10 h14, ib j h14 h8 h9 h12, wi j h11]
  have hfa : ∀ (V' : hf_V), zvf Vb V' → ∀ j, j ≠ 4 → j ≠ 7 → V'.2.2.2.1 j = V.2.2.2.1 j := fun V' Z j h4 h7 => by
    rw [Z.2 j h7, ab j h4, wa j h7]
  unfold spX0_fair
  rw [hf_mk_eq, hn, Option.bind_some, x1', Option.bind_some, pob7, hMh]
  rcases H with ⟨g', V', z1, z2, z3, c, q1, q2, q3, q4, q5, q6, q7⟩ | ⟨g', PV', V', a', kc', l1, d1, l2, d2, p, q, v, t5, t6, t8, z1, z2, z3, z4, z5, z6⟩
  · -- wrong
    have hD := zDr_dirt a1 w3 c1
    have nSt : ∀ s ci SV, ci = 2 ∨ ci = 18 → hf_ob 1 ci g s = some SV → ¬ zDr o rl rd s := fun s ci SV hc e => zDr_no a1 w3 c1 e (by omega) (by omega) (by omega)
    have eo : hf_ob 1 0 g' o = some XV := hf_ob_eq a1 (low g' _ q5 o holt (by omega))
    obtain ⟨g14, hg14⟩ : ∃ y, y = hf_up g' o (.inl (1, 0, hf_ui XV 6 0)) := ⟨_, rfl⟩
    have K14 : hf_kp (zDr o rl rd) g g14 := fun q x e n => by
      have n1 : q ≠ o := fun z => n (Or.inl z)
      have n2 : q ≠ o + 19 := fun z => n (Or.inr (Or.inl z))
      rw [hg14, up_ne _ n1, low g' _ q5 q (No.lt e) n2]
      exact e
    have w14 : ∃ W, hf_ob 0 3 g14 (o + 19) = some W := by
      unfold hf_gi at q1
      cases hW : hf_ob 0 3 g' (o + 19) with
      | none =>
        rw [hW] at q1
        cases q1
      | some W => exact ⟨W, by rw [hg14, hf_ob_ne (by omega)]; exact hW⟩
    have N14 : hf_no g14 := by rw [hg14]; exact q5.no.up eo _
    have hs14 : g14.2 = g'.2 := by rw [hg14]; rfl
    have ldl : hf_Ld g' rl rd nr pr := by
      obtain ⟨LV, N, B', y1, y2, y3, y4, y5, y6⟩ := c1
      refine ⟨LV, N, B', hf_ob_eq y1 (low g' _ q5 _ hlt.1 (hf_ob_dif y1 w3 (by decide))), y2, y3, ?_, y5, y6⟩
      unfold hf_Ar at y4 ⊢
      rw [low g' _ q5 rd hlt.2 (fun z => by
        rw [z, hf_ob_spec w3] at y4
        cases y4)]
      exact y4
    have I14 : hf_I P g14 o V' (hf_ui XV 6 (Int32.ofNat 0)) f st kp rl rd ps ik sk v0 := I0.read K14 hD (by rw [hg14]; exact hf_ob_up _ _ _ _ _) rfl (by decide) (by rw [z3]; rfl) (hfi V' q6 21 (by decide) (by decide) (by decide) (by decide) (by decide) (by decide) (by decide)) (hfi V' q6 25 (by decide) (by decide) (by decide) (by decide) (by decide) (by decide) (by decide)) (fun j _ h4 _ _ h7 _ => hfa V' q6 j h4 h7) q7 ⟨nr, pr, by rw [hg14]; exact ldl.up eo (by decide), c2, by rw [hfi V' q6 2 (by decide) (by decide) (by decide) (by decide) (by decide) (by decide) (by decide)]; exact c3, fun t ht => ((c4 t ht).kp K14 hD).tx ⟨hfa V' q6 3 (by decide) (by decide), hfa V' q6 5 (by decide) (by decide), hfa V' q6 6 (by decide) (by decide)⟩⟩ (Or.inl rfl) nSt N14
    refine ⟨-2 - Int32.ofNat c, g14, V', ?_, ?_, I14.inv, zDr_kf a1 w3 c1 K14 w14 ?_ ?_⟩
    · rw [z1]
      show ((hf_gi 0 3 6 g' (o + 19)).bind fun x12 => _) = _
      rw [q1, Option.bind_some, hf_let_eq, hf_pi_eq eo, Option.bind_some, ← hg14]
    · rw [z2, hf_b2_some, if_pos rfl, q2]
    · have := q5.2.2.1
      rw [hs14]
      omega
    · have := q5.2.2.2.1
      rw [hs14]
      omega
  -- a new fair
  obtain ⟨S', -, O', M', W'⟩ := id z3
  have N' := S'.1
  have P' := S'.2.1
  obtain ⟨fa, hfa'⟩ : ∃ y, y = g7.2.1 := ⟨_, rfl⟩
  rw [← hfa'] at z1 O' z4
  have w1 := W'.1.1.2.1
  have w2 := W'.1.1.2.2.1
  have eo : hf_ob 1 0 g' o = some XV := hf_ob_eq a1 (low g' _ z5 o holt (by omega))
  have hso : st ≠ o := hf_ob_dif b2 a1 (by decide)
  have hsw : st ≠ o + 19 := hf_ob_dif b2 w3 (by decide)
  have es : hf_ob 1 2 g' st = some SV0 := hf_ob_eq b2 (low g' _ z5 st hslt hsw)
  -- the model
  obtain ⟨V1, hV1⟩ : ∃ y, y = hf_ui V' 1 0 := ⟨_, rfl⟩
  have S1 : hf_sv V1 v0 := fun k => by
    rw [hV1]
    show V'.2.2.2.1 20 k = _ ∧ _
    rw [hfa V' z6 20 (by decide) (by decide)]
    exact b4 k
  obtain ⟨V3, m1, m2, m3, m4, m5, m6⟩ := m_fairTail (V := V1) (vo := v0) (by rw [hV1]; exact M') W' S1
  obtain ⟨vn, hvn⟩ : ∃ y, y = zvn v v0 := ⟨_, rfl⟩
  have Wn : hf_wf vn := by rw [hvn]; exact zvn_wf W' (fun k => (b4 k).2)
  have en : ∀ j, j < 86 → vn j = v j := fun j hj => by rw [hvn]; exact zvn_lo v v0 hj
  rw [← hvn] at m5 m6
  obtain ⟨w, hw'⟩ : ∃ y, y = zsee vn (vn 2) := ⟨_, rfl⟩
  rw [← hw'] at m5 m6
  obtain ⟨Ef, Ww⟩ := zsee_fe Wn (vn 2) (Nat.le_refl _)
  rw [← hw'] at Ef Ww
  -- HalfFair
  obtain ⟨XA, hXA⟩ : ∃ y, y = hf_uq XV 0 (some fa) := ⟨_, rfl⟩
  have A0 : XA.2.2.1 0 = some fa := by
    rw [hXA]
    unfold hf_uq
    simp
  have Aj : ∀ j, j ≠ 0 → XA.2.2.1 j = XV.2.2.1 j := fun j hj => by
    rw [hXA]
    unfold hf_uq
    simp [hj]
  obtain ⟨g12, hg12⟩ : ∃ y, y = hf_up g' o (.inl (1, 0, XA)) := ⟨_, rfl⟩
  have o12 : hf_ob 1 0 g12 o = some XA := by rw [hg12]; exact hf_ob_up _ _ _ _ _
  have s12 : hf_ob 1 2 g12 st = some SV0 := by rw [hg12, hf_ob_ne hso]; exact es
  have On : zFO g' fa l1 d1 l2 d2 p q vn t5 t6 t8 := O'.congr en w1 w2
  have upO : ∀ (G G' : hf_H), (∀ z, z ≠ o → z ≠ st → G'.1 z = G.1 z) → (∃ X, hf_ob 1 0 G o = some X) → (∃ X, hf_ob 1 2 G st = some X) → zFO G fa l1 d1 l2 d2 p q vn t5 t6 t8 → zFO G' fa l1 d1 l2 d2 p q vn t5 t6 t8 := fun G G' h1 h2 h3 O => by
    obtain ⟨X2, h2⟩ := h2
    obtain ⟨X3, h3⟩ := h3
    refine O.eq (fun md ci z U e hc => hf_ob_eq e (h1 z (hf_ob_dif e h2 (by omega)) (hf_ob_dif e h3 (by omega)))) (fun d N B e => ?_)
    unfold hf_Ar at e ⊢
    rw [h1 d (fun y => by
      subst y
      rw [hf_ob_spec h2] at e
      cases e) (fun y => by
      subst y
      rw [hf_ob_spec h3] at e
      cases e)]
    exact e
  have O12 : zFO g12 fa l1 d1 l2 d2 p q vn t5 t6 t8 := upO g' g12 (fun z h1 _ => by rw [hg12, up_ne _ h1]) ⟨_, eo⟩ ⟨_, es⟩ On
  obtain ⟨SV1, y1, y2⟩ := x_beginL s12 O12 (by rw [en 1 (by decide)]; exact w1) (by rw [en 2 (by decide)]; exact w2) (by rw [en 3 (by decide)]; exact W'.2.1) (fun b hb => by
    rw [en 2 (by decide)] at hb
    rw [en _ (by omega)]
    exact (W'.2.2.2 b hb).2)
  have w2n : vn 2 ≤ 4 := by rw [en 2 (by decide)]; exact w2
  have O13 : zFO (hf_sc g12 st SV1) fa l1 d1 l2 d2 p q vn t5 t6 t8 := upO g12 _ (fun z _ h2 => up_ne _ h2) ⟨_, o12⟩ ⟨_, s12⟩ O12
  have hnr : ∀ z, g.2.1 ≤ z → ¬ hf_rg rl rd z := fun z hz => by
    unfold hf_rg
    omega
  have hz4 : g.2.1 ≤ l1 ∧ g.2.1 ≤ d1 ∧ g.2.1 ≤ l2 ∧ g.2.1 ≤ d2 := by omega
  have F13 : hf_F (hf_sc g12 st SV1) fa vn := (O13.Fs w2n (hf_rg rl rd) (hnr _ hz4.1) (hnr _ hz4.2.1) (hnr _ hz4.2.2.1) (hnr _ hz4.2.2.2)).F
  obtain ⟨SV2, y3, y4⟩ := x_sees F13 (hf_SS.sc g12 st y2) Wn
  rw [← hw'] at y4
  have y3' : spX2_sees st fa (hf_sc g12 st SV1) = some (hf_sc g12 st SV2) := by rw [y3, hf_sc_sc]
  obtain ⟨g15, hg15⟩ : ∃ y, y = hf_sc g12 st SV2 := ⟨_, rfl⟩
  have hbeg : spX2_begin st fa g12 = some g15 := by rw [y1, y3', Option.bind_some, hg15]
  have o15 : hf_ob 1 0 g15 o = some XA := by
    rw [hg15]
    unfold hf_sc
    rw [hf_ob_ne hso.symm]
    exact o12
  obtain ⟨XF, hXF⟩ : ∃ y, y = hf_ui (hf_ui (hf_ui XA 10 0) 14 0) 6 0 := ⟨_, rfl⟩
  have Fr : XF.2 = XA.2 := by rw [hXF]; rfl
  have Fi : ∀ k, k ≠ 6 → k ≠ 10 → k ≠ 14 → XF.1 k = XV.1 k := fun k h6 h10 h14 => by
    rw [hXF, hf_ui_ne _ h6, hf_ui_ne _ h14, hf_ui_ne _ h10, hXA]
    rfl
  obtain ⟨g17, hg17⟩ : ∃ y, y = hf_up g15 o (.inl (1, 0, hf_ui (hf_ui XA 10 0) 14 0)) := ⟨_, rfl⟩
  obtain ⟨g20, hg20⟩ : ∃ y, y = hf_up g15 o (.inl (1, 0, XF)) := ⟨_, rfl⟩
  have o17 : hf_ob 1 0 g17 o = some (hf_ui (hf_ui XA 10 0) 14 0) := by rw [hg17]; exact hf_ob_up _ _ _ _ _
  have s15 : hf_ob 1 2 g15 st = some SV2 := by rw [hg15]; exact hf_ob_up _ _ _ _ _
  have O17 : zFO g17 fa l1 d1 l2 d2 p q vn t5 t6 t8 := upO g12 _ (fun z h1 h2 => by rw [hg17, up_ne _ h1, hg15]; exact up_ne _ h2) ⟨_, o12⟩ ⟨_, s12⟩ O12
  have hX : (hf_pq 1 0 0 g' o (some fa)).bind (fun g12 => (hf_ga 1 0 1 g12 o).bind fun x13 => (hf_ga 1 0 0 g12 o).bind fun x14 => (hf_ob 1 2 g12 x13).bind fun _ => (spX2_begin x13 x14 g12).bind fun g15 => (hf_pi 1 0 10 g15 o (0 : Int32)).bind fun g16 => (hf_ob 1 0 g16 o).bind fun _ => (spX0_forgets o g16).bind fun g17 => (hf_ob 1 0 g17 o).bind fun _ => hf_b2 (spX0_many o g17) fun x19 g18 => (hf_pi 1 0 6 g18 o (0 : Int32)).bind fun g20 => some (x19, g20)) = some (Int32.ofNat (v 1), g20) := by
    obtain ⟨FV17, f1, f2, f3, f4, f5, _⟩ := id O17
    have o16 : hf_ob 1 0 (hf_up g15 o (.inl (1, 0, hf_ui XA 10 0))) o = some (hf_ui XA 10 0) := hf_ob_up _ _ _ _ _
    have hfor : spX0_forgets o (hf_up g15 o (.inl (1, 0, hf_ui XA 10 0))) = some g17 := by
      unfold spX0_forgets
      rw [hf_pi_eq o16, Option.bind_some, hf_up_up, hg17]
    have hmany : spX0_many o g17 = some (Int32.ofNat (v 1), g17) := by
      unfold spX0_many
      have ob1 : ∀ (τ : Type) (K : Option τ), ((hf_ob 0 19 g17 l1).bind fun _ => K) = K := fun τ K => f5.L.ob K
      have g0 : (hf_ui (hf_ui XA 10 0) 14 0).2.2.1 0 = some fa := A0
      rw [hf_ga_eq o17, g0, Option.bind_some, hf_ga_eq f1, f2, Option.bind_some, ob1, f5.L.size, hf_b2_some, en 1 (by decide)]
    rw [hf_pq_eq eo, Option.bind_some, ← hXA, ← hg12, hf_ga_eq o12, Aj 1 (by decide), a3, Option.bind_some, hf_ga_eq o12, A0, Option.bind_some, s12, Option.bind_some, hbeg, Option.bind_some, hf_pi_eq o15, Option.bind_some, o16, Option.bind_some, hfor, Option.bind_some, o17, Option.bind_some, hmany, hf_b2_some, hf_pi_eq o17, Option.bind_some, hg17, hf_up_up, hg20, hXF]
  -- the heap at the end
  have k20 : ∀ z, z ≠ o → z ≠ st → g20.1 z = g'.1 z := fun z h1 h2 => by
    rw [hg20, up_ne _ h1, hg15]
    unfold hf_sc
    rw [up_ne _ h2, hg12, up_ne _ h1]
  have o20 : hf_ob 1 0 g20 o = some XF := by rw [hg20]; exact hf_ob_up _ _ _ _ _
  have s20 : hf_ob 1 2 g20 st = some SV2 := by rw [hg20, hf_ob_ne hso]; exact s15
  have O20 : zFO g20 fa l1 d1 l2 d2 p q vn t5 t6 t8 := upO g' g20 k20 ⟨_, eo⟩ ⟨_, es⟩ On
  have K20 : hf_kp (zDf o st) g g20 := fun z x e n => by
    have n1 : z ≠ o := fun y => n (Or.inl y)
    have n2 : z ≠ o + 19 := fun y => n (Or.inr (Or.inl y))
    have n3 : z ≠ st := fun y => n (Or.inr (Or.inr y))
    rw [k20 z n1 n3, low g' _ z5 z (No.lt e) n2]
    exact e
  have hD := zDf_dirt (hf_rg rl rd) a1 w3 b2
  have sz20 : g20.2 = g'.2 := by rw [hg20, hg15, hg12]; rfl
  have N20 : hf_no g20 := fun z hz => by
    rw [sz20] at hz
    have h1 := z5.2.1
    have h2 : g.2.1 < g'.2.1 := by omega
    rw [k20 z (by omega) (by omega)]
    exact N' z hz
  have w20 : ∃ W, hf_ob 0 3 g20 (o + 19) = some W := by
    obtain ⟨W, hW⟩ := P'.w3
    exact ⟨W, hf_ob_eq hW (k20 _ (by omega) hsw.symm)⟩
  have obk : ∀ s ci U, (ci = 2 ∨ ci = 18) → hf_ob 1 ci g s = some U → s ≠ st → hf_ob 1 ci g20 s = some U := fun s ci U hc e hs => K20.ob e (fun ha => by
    rcases ha with h | h | h
    · exact hf_ob_dif e a1 (by omega) h
    · exact hf_ob_dif e w3 (by omega) h
    · exact hs h)
  -- the model's fields
  have v1f : ∀ j, j ≠ 1 → V1.1 j = V'.1 j := fun j hj => by rw [hV1, hf_ui_ne _ hj]
  have v3f : ∀ j, j ≠ 1 → j ≠ 8 → j ≠ 9 → j ≠ 10 → j ≠ 11 → j ≠ 12 → j ≠ 14 → j ≠ 25 → V3.1 j = V.1 j := fun j h1 h8 h9 h10 h11 h12 h14 h25 => by
    rw [m3 j h25, v1f j h1, hfi V' z6 j h1 h8 h9 h10 h11 h12 h14]
  have v3a : ∀ j, j ≠ 4 → j ≠ 7 → j ≠ 20 → j ≠ 22 → j ≠ 23 → V3.2.2.2.1 j = V.2.2.2.1 j := fun j h4 h7 h20 h22 h23 => by
    rw [m4 j h20 h22 h23, hV1]
    exact hfa V' z6 j h4 h7
  have wlo : ∀ j, (∀ b, b < vn 2 → j ≠ 70 + 4 * b + 2) → w j = vn j := fun j hj => by rw [hw']; exact zsee_ot vn (vn 2) j hj
  have w122 : w 122 = 0 := by
    rw [wlo 122 (fun b hb => by omega), hvn]
    exact zvn_mid v v0 (by decide) (by decide)
  refine ⟨Int32.ofNat (v 1), g20, V3, ?_, ?_, ⟨XF, fa, st, kp, rl, rd, ps, ik, sk, w, ⟨o20, by rw [Fr]; exact A0, by rw [Fr, Aj 1 (by decide)]; exact a3, by rw [Fr, Aj 2 (by decide)]; exact a4, ⟨by rw [Fr, Aj 3 (by decide)]; exact a5, by rw [Fr, Aj 4 (by decide)]; exact a5'⟩, ⟨KV, obk _ 2 _ (Or.inl rfl) a6 (Ne.symm a7)⟩, a7, fun j hj => ?_⟩, ⟨(O20.Fs w2n (hf_rg rl rd) (hnr _ hz4.1) (hnr _ hz4.2.1) (hnr _ hz4.2.2.1) (hnr _ hz4.2.2.2)).fe Ef, ⟨SV2, s20, y4⟩, ⟨Ww, fun b hb => ?_⟩, m5⟩, ⟨nr, pr, ?_, c2, by rw [v3f 2 (by decide) (by decide) (by decide) (by decide) (by decide) (by decide) (by decide) (by decide)]; exact c3, fun t ht => ((c4 t ht).kp K20 hD).tx ⟨v3a 3 (by decide) (by decide) (by decide) (by decide) (by decide), v3a 5 (by decide) (by decide) (by decide) (by decide) (by decide), v3a 6 (by decide) (by decide) (by decide) (by decide) (by decide)⟩⟩, ⟨⟨0, Nat.zero_le _, by rw [hXF, hf_ui_at]; rfl, by rw [m3 1 (by decide), hV1, hf_ui_at]; rfl⟩, fun j hj => ?_, ?_, ?_⟩, m6, ⟨0, pa, Nat.zero_le _, u2, by rw [hXF, hf_ui_ne _ (by decide), hf_ui_at]; rfl, by rw [m2]; rfl, by rw [Fi 15 (by decide) (by decide) (by decide)]; exact u5, fun j hj => absurd hj (Nat.not_lt_zero _)⟩, fun j hj => ?_, N20, fun j hj => ?_⟩, zDf_kf a1 w3 b2 K20 w20 ?_ ?_⟩
  · rw [z1]
    exact hX
  · rw [z2, hf_b2_some, if_neg (by decide), ← hV1, m1]
  · obtain ⟨r1, ⟨PV2, r2⟩, r3, r4, r5⟩ := a8 j hj
    rw [Fr, hXA]
    exact ⟨r1, ⟨PV2, obk _ 2 _ (Or.inl rfl) r2 r3⟩, r3, r4, r5⟩
  · have hw2 : w 2 = vn 2 := wlo 2 (fun b _ => by omega)
    rw [hw2, en 2 (by decide)] at hb
    rw [wlo (70 + 4 * b) (fun b _ => by omega), en _ (by omega)]
    exact Nat.le_trans (W'.2.2.2 b hb).1 hP
  · obtain ⟨LV, N, B', q1, q2, q3, q4, q5, q6⟩ := c1
    refine ⟨LV, N, B', K20.ob q1 (fun ha => ?_), q2, q3, K20 rd _ q4 (fun ha => ?_), q5, q6⟩
    · rcases ha with h | h | h
      · exact hf_ob_dif q1 a1 (by decide) h
      · exact hf_ob_dif q1 w3 (by decide) h
      · exact hf_ob_dif q1 b2 (by decide) h
    · unfold hf_Ar at q4
      rcases ha with h | h | h
      · rw [h, hf_ob_spec a1] at q4
        cases q4
      · rw [h, hf_ob_spec w3] at q4
        cases q4
      · rw [h, hf_ob_spec b2] at q4
        cases q4
  · rw [Fr, hXA, v3a 0 (by decide) (by decide) (by decide) (by decide) (by decide)]
    exact d.2.1 j hj
  · obtain ⟨dd, e1, e2, e3⟩ := d.2.2.1
    exact ⟨dd, e1, by rw [Fi 11 (by decide) (by decide) (by decide)]; exact e2, by rw [v3f 21 (by decide) (by decide) (by decide) (by decide) (by decide) (by decide) (by decide) (by decide)]; exact e3⟩
  · refine ⟨by rw [hXF, hf_ui_ne _ (by decide), hf_ui_ne _ (by decide), hf_ui_at, w122]; rfl, by omega, fun k hk => ?_⟩
    rw [w122] at hk
    omega
  · rw [Fr, hXA, v3a 36 (by decide) (by decide) (by decide) (by decide) (by decide)]
    rcases i7 j hj with y | ⟨q1, q2, ⟨IV, fk, ww, dk, r1, r2, r3, r4, r5, ⟨QV, r6, r6'⟩, r7, r8, r9, r10, r11, r12⟩, q4, q5, q6, q7⟩
    · exact Or.inl y
    · refine Or.inr ⟨q1, q2, ⟨IV, fk, ww, dk, obk _ 18 _ (Or.inr rfl) r1 (hf_ob_dif r1 b2 (by decide)), r2, r3, r4, r5.kp K20 hD, ⟨QV, obk _ 2 _ (Or.inl rfl) r6 q4, r6'⟩, r7, fun i hi => ?_, r9, r10, r11, ?_⟩, q4, q5, q6, q7⟩
      · rw [v3a 34 (by decide) (by decide) (by decide) (by decide) (by decide)]
        exact r8 i hi
      · rw [v3a 35 (by decide) (by decide) (by decide) (by decide) (by decide)]
        exact r12
  · rw [m4 7 (by decide) (by decide) (by decide), hV1]
    exact (M'.h7 W') j hj
  · have h1 := z5.2.2.1
    rw [sz20]
    omega
  · have h1 := z5.2.2.2.1
    rw [sz20]
    omega
end ZI
