set_option maxRecDepth 100000
set_option maxHeartbeats 1000000
/-! the act: rule, on -/
section ZI
variable {P : Nat} {g : hf_H} {o : Nat} {V : hf_V} {gs : hf_gs} {nm : Nat}
theorem op_rule (J : hf_INV P g o V) (hn : gs.1 0 = some nm) (wo : hf_wo g gs nm) (hw : ∃ WV, hf_ob 0 3 g (o + 19) = some WV) : hf_OPr P g o (spX0_rule gs o g) (spX4_rule V) := by
  have J0 := J
  obtain ⟨XV, f, st, kp, rl, rd, ps, ik, sk, v, I⟩ := J
  have I0 := I
  obtain ⟨⟨a1, a2, a3, a4, ⟨a5, a5'⟩, a6⟩, ⟨b1, b2, b3, b4⟩, ⟨nr, p, c1, c2, c3, c4⟩, d, i5, i6, i7, i8, i9⟩ := I
  have No : hf_no g := i8
  obtain ⟨WV, w3⟩ := hw
  obtain ⟨T, B, hT, t2, t3, hB⟩ := d.bytes
  have obl : ∀ (τ : Type) (K : Option τ), ((hf_ob 0 19 g rl).bind fun _ => K) = K := fun τ K => c1.L.ob K
  unfold spX0_rule spX4_rule
  rw [hf_ga_eq a1, a5, Option.bind_some, obl, c1.L.size, hf_b2_some, c3]
  have e6 : (Int32.ofNat nr = (6 : Int32)) ↔ nr = 6 := z_eq (b := 6) (by omega) (by decide)
  by_cases h6 : nr = 6
  · rw [if_pos (e6.mpr h6), if_pos (e6.mpr h6)]
    exact ⟨-1, g, V, rfl, rfl, J0, hf_kf.rfl_ g⟩
  rw [if_neg (fun z => h6 (e6.mp z)), if_neg (fun z => h6 (e6.mp z)), hf_mk_eq, hn, Option.bind_some]
  obtain ⟨g7, PV, x1, N7, P7, p0, p1, p2, p3, p4, p5, wo7, k7, s7, s7'⟩ := x_parser (nm := nm) (most := 12) No a1 w3 a5' hT t2 (fun k hk => (hB k hk).1) wo
  have x1' : spX5_init g.2.1 o nm (12 : Int32) (hf_nw g (.inl (0, 5, hf_V0)) 7) = some g7 := x1
  have pob7 : ∀ (τ : Type) (K : Option τ), ((hf_ob 0 5 g7 g.2.1).bind fun _ => K) = K := fun τ K => P7.pob K
  rw [x1', Option.bind_some, pob7]
  -- the model
  obtain ⟨Va, hVa⟩ : ∃ y, y = hf_ui V 11 (Int32.ofNat nr) := ⟨_, rfl⟩
  obtain ⟨V2, hV2⟩ : ∃ y, y = hf_ua Va 6 nr 0 := ⟨_, rfl⟩
  have va11 : Va.1 11 = Int32.ofNat nr := by rw [hVa, hf_ui_at]
  have i2 : ∀ j, j ≠ 11 → V2.1 j = V.1 j := fun j hj => by
    rw [hV2]
    show Va.1 j = _
    rw [hVa, hf_ui_ne _ hj]
  have mt2 : hf_mt V2 B T := ⟨hT, by rw [i2 1 (by decide)]; exact t3, fun k hk => ⟨by
    rw [hV2, hf_ua_ne _ (by decide), hVa]
    exact (hB k hk).2, (hB k hk).1.2⟩⟩
  rw [hf_let_eq, ← hVa, va11, z_sd (by omega) (by omega), ← hV2]
  have txa : hf_txq V Va := by rw [hVa]; exact ⟨rfl, rfl, rfl⟩
  have Qa : zvr Va V2 nr := by rw [hV2]; exact (zvr.rfl_ Va nr).ua6 _
  have hlt := c1.lt No
  have holt := No.olt a1
  have hwlt := No.olt w3
  have hD := zDr_dirt a1 w3 c1
  have nSt : ∀ s ci SV, ci = 2 ∨ ci = 18 → hf_ob 1 ci g s = some SV → ¬ zDr o rl rd s := fun s ci SV hc e => zDr_no a1 w3 c1 e (by omega) (by omega) (by omega)
  -- the rules that are there stay
  have rules : ∀ (g' : hf_H) (V' : hf_V), hf_kp (zDr o rl rd) g g' → zvr V2 V' nr → ∀ t, t < nr → hf_Rs (hf_rg rl rd) g' (p t) V' t := fun g' V' K Q t ht => (((c4 t ht).kp K hD).tx txa).vr (Qa.trans Q) (by omega)
  have harr : ∀ (V' : hf_V), zvr V2 V' nr → ∀ j, j ≠ 3 → j ≠ 4 → j ≠ 5 → j ≠ 6 → j ≠ 7 → j ≠ 15 → V'.2.2.2.1 j = V.2.2.2.1 j := fun V' Q j h3 h4 h5 h6 h7 h15 => by
    rw [Q.2.1 j h3 h4 h5 h6 h15, hV2, hf_ua_ne _ h6, hVa]
    rfl
  have h7a : ∀ (V' : hf_V), zvr V2 V' nr → ∀ k, (k < 5 ∨ 9 ≤ k) → ∃ n, n < 16777216 ∧ V'.2.2.2.1 7 k = Int32.ofNat n := fun V' Q k hk => by
    rw [Q.2.1 7 (by decide) (by decide) (by decide) (by decide) (by decide), hV2, hf_ua_ne _ (by decide), hVa]
    exact i9 k hk
  -- cells below
  have low : ∀ (g' : hf_H) (n : Nat), hf_gm g.2.1 o g7 g' n → ∀ q, q < g.2.1 → q ≠ o + 19 → g'.1 q = g.1 q := fun g' n K q hq h => by
    rw [K.1 q (by omega) (by omega) h, k7 q hq]
  have ldl : ∀ (g' : hf_H) (n : Nat), hf_gm g.2.1 o g7 g' n → hf_Ld g' rl rd nr p := fun g' n K => by
    obtain ⟨LV, N, B', y1, y2, y3, y4, y5, y6⟩ := c1
    refine ⟨LV, N, B', hf_ob_eq y1 (low g' n K _ hlt.1 (hf_ob_dif y1 w3 (by decide))), y2, y3, ?_, y5, y6⟩
    unfold hf_Ar at y4 ⊢
    rw [low g' n K rd hlt.2 (fun z => by
      rw [z, hf_ob_spec w3] at y4
      cases y4)]
    exact y4
  rcases xm_ruleT (t := nr) N7 P7 p0 p1 p2 p3 p4 p5 wo7 mt2 (by omega) (by rw [hV2]; exact va11) (by rw [hV2, hf_ua_at, if_pos rfl]) with ⟨g', V', z1, z2, z3, c, q1, q2, q3, q4, q5, q6⟩ | ⟨g', PV', V', a', m', L', k, d', p', z1, z2, z3, z4, z5, z6⟩
  · -- wrong
    have eo : hf_ob 1 0 g' o = some XV := hf_ob_eq a1 (low g' _ q5 o holt (by omega))
    obtain ⟨g14, hg14⟩ : ∃ y, y = hf_up g' o (.inl (1, 0, hf_ui XV 6 0)) := ⟨_, rfl⟩
    have K14 : hf_kp (zDr o rl rd) g g14 := fun q x e n => by
      have n1 : q ≠ o := fun z => n (Or.inl z)
      have n2 : q ≠ o + 19 := fun z => n (Or.inr (Or.inl z))
      rw [hg14, up_ne _ n1, low g' _ q5 q (No.lt e) n2]
      exact e
    have w14 : ∃ W, hf_ob 0 3 g14 (o + 19) = some W := by
      unfold hf_gi at q1
      cases hW : hf_ob 0 3 g' (o + 19) with
      | none =>
        rw [hW] at q1
        cases q1
      | some W => exact ⟨W, by rw [hg14, hf_ob_ne (by omega)]; exact hW⟩
    have N14 : hf_no g14 := by rw [hg14]; exact q5.no.up eo _
    have hs14 : g14.2 = g'.2 := by rw [hg14]; rfl
    have I14 : hf_I P g14 o V' (hf_ui XV 6 (Int32.ofNat 0)) f st kp rl rd ps ik sk v := I0.read K14 hD (by rw [hg14]; exact hf_ob_up _ _ _ _ _) rfl (by decide) (by rw [z3]; rfl) (by rw [q6.1 21 (by decide) (by decide) (by decide) (by decide) (by decide) (by decide) (by decide) (by decide), i2 21 (by decide)]) (by rw [q6.1 25 (by decide) (by decide) (by decide) (by decide) (by decide) (by decide) (by decide) (by decide), i2 25 (by decide)]) (harr V' q6) (h7a V' q6) ⟨nr, p, by rw [hg14]; exact (ldl g' _ q5).up eo (by decide), c2, by rw [q6.1 2 (by decide) (by decide) (by decide) (by decide) (by decide) (by decide) (by decide) (by decide), i2 2 (by decide)]; exact c3, rules g14 V' K14 q6⟩ (Or.inl rfl) nSt N14
    refine ⟨-2 - Int32.ofNat c, g14, V', ?_, ?_, I14.inv, zDr_kf a1 w3 c1 K14 w14 ?_ ?_⟩
    · rw [z1]
      show ((hf_gi 0 3 6 g' (o + 19)).bind fun x12 => _) = _
      rw [q1, Option.bind_some, hf_let_eq, hf_pi_eq eo, Option.bind_some, ← hg14]
    · rw [z2, hf_b2_some, if_pos rfl, q2]
    · have := q5.2.2.1
      rw [hs14]
      omega
    · have := q5.2.2.2.1
      rw [hs14]
      omega
  · -- a rule more
    obtain ⟨⟨N', P', -⟩, -, -, ⟨-, k12⟩, r6, ⟨RV, r1, r2⟩, Ld', told⟩ := id z3
    have eo : hf_ob 1 0 g' o = some XV := hf_ob_eq a1 (low g' _ z5 o holt (by omega))
    have Lr := ldl g' _ z5
    have okp : ∀ t, t < nr → hf_okv g' (p t) = true := fun t ht => by
      obtain ⟨_, RV', _, _, _, e1, _⟩ := c4 t ht
      exact okv_ob (hf_ob_eq e1 (low g' _ z5 _ (No.olt e1) (hf_ob_dif e1 w3 (by decide)))) (by decide)
    obtain ⟨g5, rd', y1, y2, y3, y4, y5⟩ := x_add (gs := gs) Lr N' (by omega) okp (okv_ob r1 (by decide))
    have eo5 : hf_ob 1 0 g5 o = some XV := hf_ob_eq eo (y3.at_ N' Lr eo (by decide))
    have ep5 : hf_ob 0 5 g5 g.2.1 = some PV' := hf_ob_eq P'.2.1 (y3.at_ N' Lr P'.2.1 (by decide))
    have N5 : hf_no g5 := y3.2.2.2.2
    have hg'1 : g.2.1 + 1 ≤ g'.2.1 := by
      have := z5.2.1
      omega
    have hend : zRend gs g.2.1 g7.2.1 g' = some (.inr (Int32.ofNat nr), g5) := by
      unfold zRend
      have s1 : Int32.ofNat (nr + 1) - (1 : Int32) = Int32.ofNat nr := z_sub (a := nr + 1) (b := 1) (by omega)
      have ob1 : ∀ (τ : Type) (K : Option τ), ((hf_ob 0 19 g' rl).bind fun _ => K) = K := fun τ K => Lr.L.ob K
      have ob2 : ∀ (τ : Type) (K : Option τ), ((hf_ob 0 19 g5 rl).bind fun _ => K) = K := fun τ K => y2.L.ob K
      rw [P'.gio, Option.bind_some, hf_ga_eq eo, a5, Option.bind_some, ob1, y1, hf_b2_some, hf_ga_eq ep5, P'.2.2, Option.bind_some, hf_ga_eq eo5, a5, Option.bind_some, ob2, y2.L.size, hf_b2_some, s1]
    obtain ⟨g15, hg15⟩ : ∃ y, y = hf_up g5 o (.inl (1, 0, hf_ui XV 6 0)) := ⟨_, rfl⟩
    have lrl := Lr.lt N'
    have K15 : hf_kp (zDr o rl rd) g g15 := fun q x e n => by
      have n1 : q ≠ o := fun z => n (Or.inl z)
      have n2 : q ≠ o + 19 := fun z => n (Or.inr (Or.inl z))
      have n3 : q ≠ rl := fun z => n (Or.inr (Or.inr (Or.inl z)))
      have n4 : q ≠ rd := fun z => n (Or.inr (Or.inr (Or.inr z)))
      have hq := No.lt e
      rw [hg15, up_ne _ n1, y3.1 q (by omega) n3 n4, low g' _ z5 q hq n2]
      exact e
    have w15 : ∃ W, hf_ob 0 3 g15 (o + 19) = some W := by
      obtain ⟨W, hW⟩ := P'.w3
      exact ⟨W, by rw [hg15, hf_ob_ne (by omega)]; exact hf_ob_eq hW (y3.at_ N' Lr hW (by decide))⟩
    have N15 : hf_no g15 := by rw [hg15]; exact N5.up eo5 _
    have hs15 : g15.2 = g5.2 := by rw [hg15]; rfl
    obtain ⟨Vb, hVb⟩ : ∃ y, y = hf_ui V' 1 0 := ⟨_, rfl⟩
    obtain ⟨Vc, hVc⟩ : ∃ y, y = hf_ui Vb 2 (Int32.ofNat (nr + 1)) := ⟨_, rfl⟩
    have Qb : zvr V2 Vb nr := by rw [hVb]; exact z6.ui (by omega) _
    have vb2 : Vb.1 2 = Int32.ofNat nr := by
      rw [Qb.1 2 (by decide) (by decide) (by decide) (by decide) (by decide) (by decide) (by decide) (by decide), i2 2 (by decide)]
      exact c3
    have e2c : Vc.2 = Vb.2 := by rw [hVc]; rfl
    have e2b : Vb.2 = V'.2 := by rw [hVb]; rfl
    have ic : ∀ j, j ≠ 2 → Vc.1 j = Vb.1 j := fun j hj => by rw [hVc, hf_ui_ne _ hj]
    have txc : hf_txq Vb Vc := ⟨by rw [e2c], by rw [e2c], by rw [e2c]⟩
    have hd'l := Ld'.lt N'
    have h71 := s7
    -- the new rule
    have kv15 : hf_kv g' g15 := fun a ci U h1 h2 e => by
      have e5 := (y3.kv N' Lr) a ci U h1 h2 e
      rw [hg15, hf_ob_ne (hf_ob_dif e5 eo5 (by omega))]
      exact e5
    have r15 : hf_ob 0 8 g15 g7.2.1 = some RV := by
      rw [hg15, hf_ob_ne (by omega)]
      exact hf_ob_eq r1 (y3.at_ N' Lr r1 (by decide))
    have ld15 : hf_Ld g15 (g7.2.1 + 1) d' k p' := by
      have h5 : hf_Ld g5 (g7.2.1 + 1) d' k p' := by
        obtain ⟨LV, N, B', u1, u2, u3, u4, u5, u6⟩ := Ld'
        refine ⟨LV, N, B', hf_ob_eq u1 (y3.1 _ hd'l.1 (by omega) (by omega)), u2, u3, ?_, u5, u6⟩
        unfold hf_Ar at u4 ⊢
        rw [y3.1 d' hd'l.2 (by omega) (by omega)]
        exact u4
      rw [hg15]
      exact h5.up eo5 (by decide)
    have hnew : hf_Rs (hf_rg rl rd') g15 g7.2.1 Vc nr := by
      refine ⟨by omega, RV, g7.2.1 + 1, k, p', r15, r2, ⟨?_, d', ?_, ld15⟩, k12, by rw [e2c, e2b]; exact r6, fun j hj => ?_⟩
      · unfold hf_rg
        omega
      · unfold hf_rg
        omega
      · have h1 := (told j hj).told (by
          have := z3.2.2.2.1.1
          have := z3.1.2.2.2.2.2.2.2.2.2.2.2
          omega)
        exact (h1.kv kv15).tx ⟨by rw [e2c, e2b], by rw [e2c, e2b], by rw [e2c, e2b]⟩
    have I15 : hf_I P g15 o Vc (hf_ui XV 6 (Int32.ofNat 0)) f st kp rl rd' ps ik sk v := by
      refine I0.read K15 hD (by rw [hg15]; exact hf_ob_up _ _ _ _ _) rfl (by decide) (by rw [ic 1 (by decide), hVb, hf_ui_at]; rfl) (by rw [ic 21 (by decide), Qb.1 21 (by decide) (by decide) (by decide) (by decide) (by decide) (by decide) (by decide) (by decide), i2 21 (by decide)]) (by rw [ic 25 (by decide), Qb.1 25 (by decide) (by decide) (by decide) (by decide) (by decide) (by decide) (by decide) (by decide), i2 25 (by decide)]) (fun j h3 h4 h5 h6 h7 h15 => by rw [e2c]; exact harr Vb Qb j h3 h4 h5 h6 h7 h15) (fun k hk => by rw [e2c]; exact h7a Vb Qb k hk) ⟨nr + 1, fun k => if k = nr then g7.2.1 else p k, by rw [hg15]; exact y2.up eo5 (by decide), by omega, by rw [hVc, hf_ui_at], fun t ht => ?_⟩ (by omega) nSt N15
      show hf_Rs (hf_rg rl rd') g15 (if t = nr then g7.2.1 else p t) Vc t
      by_cases e : t = nr
      · rw [if_pos e, e]
        exact hnew
      · rw [if_neg e]
        have h1 := (rules g15 Vb K15 Qb t (by omega)).tx txc
        obtain ⟨ht5, RV', l0, n0, p0', e1, e2, ⟨e3, dd, e3', e3''⟩, e4⟩ := h1
        have h2 := c4 t (by omega)
        obtain ⟨_, RV2, l2, n2, p2', f1, f2, ⟨f3, d2, f3', f3''⟩, f4⟩ := h2
        have hRV : RV' = RV2 := by
          have h3 := K15.ob f1 (zDr_no a1 w3 c1 f1 (by decide) (by decide) (by decide))
          have h4 := (hf_ob_spec h3).symm.trans (hf_ob_spec e1)
          cases h4
          rfl
        have hl02 : l0 = l2 := by
          rw [hRV, f2] at e2
          cases e2
          rfl
        have hl2 := f3''.lt No
        have hdd : dd = d2 := by
          obtain ⟨LV, N, B', u1, u2, u3, u4, u5, u6⟩ := e3''
          obtain ⟨LV2, N2, B2, w1, w2, w3', w4, w5, w6⟩ := f3''
          have h3 : hf_ob 0 19 g15 l2 = some LV2 := K15.ob w1 (hD.nli w1 f3)
          rw [hl02] at u1
          have h4 := (hf_ob_spec h3).symm.trans (hf_ob_spec u1)
          cases h4
          rw [w3'] at u3
          cases u3
          rfl
        refine ⟨ht5, RV', l0, n0, p0', e1, e2, ⟨?_, dd, ?_, e3''⟩, e4⟩
        · unfold hf_rg at e3 ⊢
          omega
        · unfold hf_rg at e3' ⊢
          omega
    refine ⟨Int32.ofNat nr, g15, Vc, ?_, ?_, I15.inv, zDr_kf a1 w3 c1 K15 w15 ?_ ?_⟩
    · rw [z1, hend]
      show ((hf_pi 1 0 6 g5 o 0).bind fun g15 => some (Int32.ofNat nr, g15)) = _
      rw [hf_pi_eq eo5, Option.bind_some, ← hg15]
    · have s2 : Int32.ofNat nr + (1 : Int32) = Int32.ofNat (nr + 1) := z_add nr 1
      have s1 : Int32.ofNat (nr + 1) - (1 : Int32) = Int32.ofNat nr := z_sub (a := nr + 1) (b := 1) (by omega)
      rw [z2, hf_b2_some, if_neg (by decide), ← hVb, vb2, s2, hf_let_eq, ← hVc]
      have : Vc.1 2 = Int32.ofNat (nr + 1) := by rw [hVc, hf_ui_at]
      rw [this, s1]
    · have h1 := z5.2.2.1
      have h2 := y3.2.2.1
      rw [hs15]
      omega
    · have h1 := z5.2.2.2.1
      have h2 := y3.2.2.2.1
      rw [hs15]
      omega
end ZI
set_option maxRecDepth 100000
set_option maxHeartbeats 1000000
/-! texts: a fair, its state -/
/-- what reading a fair changes of the model -/
def zvf (A B : hf_V) : Prop := (∀ k, k ≠ 1 → k ≠ 8 → k ≠ 9 → k ≠ 10 → k ≠ 14 → B.1 k = A.1 k) ∧ ∀ j, j ≠ 7 → B.2.2.2.1 j = A.2.2.2.1 j
def zh7 (V : hf_V) : Prop := ∀ k, (k < 5 ∨ 9 ≤ k) → ∃ n, n < 16777216 ∧ V.2.2.2.1 7 k = Int32.ofNat n
section ZV
variable {A B C : hf_V}
theorem zvf.rfl_ (A : hf_V) : zvf A A := ⟨fun _ _ _ _ _ _ => rfl, fun _ _ => rfl⟩
theorem zvf.trans (H : zvf A B) (K : zvf B C) : zvf A C := ⟨fun k a b c d e => (K.1 k a b c d e).trans (H.1 k a b c d e), fun j h => (K.2 j h).trans (H.2 j h)⟩
theorem zvf.ui (H : zvf A B) {k : Nat} (hk : k = 1 ∨ k = 8 ∨ k = 9 ∨ k = 10 ∨ k = 14) (x : Int32) : zvf A (hf_ui B k x) := ⟨fun j a b c d e => by rw [hf_ui_ne _ (by omega)]; exact H.1 j a b c d e, H.2⟩
theorem zvf.ua (H : zvf A B) (i : Nat) (x : Int32) : zvf A (hf_ua B 7 i x) := ⟨H.1, fun j h => by rw [hf_ua_ne _ h]; exact H.2 j h⟩
theorem zh7.ua {V : hf_V} (H : zh7 V) (i : Nat) {n : Nat} (hn : n < 16777216) : zh7 (hf_ua V 7 i (Int32.ofNat n)) := fun k hk => by
  rw [hf_ua_at]
  by_cases e : k = i
  · exact ⟨n, hn, if_pos e⟩
  · rw [if_neg e]
    exact H k hk
end ZV
def zff (g0 g' : hf_H) (pa o n : Nat) (V V' : hf_V) : Prop := ∃ c, hf_gi 0 3 6 g' (o + 19) = some (Int32.ofNat c) ∧ V'.1 9 = Int32.ofNat c ∧ 1 ≤ c ∧ c < 100000 ∧ hf_gm pa o g0 g' n ∧ zvf V V' ∧ zh7 V'
def zbi (t : Bool) : Int32 := if t then 1 else 0
/-- HalfFair's fair at fa, as told by v -/
def zFO (g : hf_H) (fa l1 d1 l2 d2 : Nat) (p q : Nat → Nat) (v : Nat → Nat) (t5 t6 t8 : Bool) : Prop := ∃ FV, hf_ob 1 1 g fa = some FV ∧ FV.2.2.1 0 = some l1 ∧ FV.2.2.1 1 = some l2 ∧ (l1 ≠ l2 ∧ d1 ≠ d2) ∧ hf_Ld g l1 d1 (v 1) p ∧ hf_Ld g l2 d2 (v 2) q ∧ (∀ k, k < v 1 → ∃ HV, hf_ob 0 6 g (p k) = some HV ∧ HV.1 0 = Int32.ofNat (v (10 + 5 * k + 3)) ∧ HV.1 1 = Int32.ofNat (v (10 + 5 * k + 0)) ∧ HV.1 2 = Int32.ofNat (v (10 + 5 * k + 1)) ∧ HV.1 3 = Int32.ofNat (v (10 + 5 * k + 2))) ∧ (∀ b, b < v 2 → ∃ QV, hf_ob 0 7 g (q b) = some QV ∧ QV.1 0 = Int32.ofNat (v (70 + 4 * b)) ∧ QV.1 1 = Int32.ofNat (v (70 + 4 * b + 1))) ∧ (FV.1 3 = Int32.ofNat (v 0) ∧ FV.1 4 = Int32.ofNat (v 4) ∧ FV.1 5 = Int32.ofNat (v 5) ∧ FV.1 6 = Int32.ofNat (v 6) ∧ FV.1 7 = Int32.ofNat (v 7) ∧ FV.1 8 = Int32.ofNat (v 8) ∧ FV.1 9 = Int32.ofNat (zset (fun k => v (10 + 5 * k + 4) == 1) (v 1)) ∧ FV.1 10 = zbi t5 ∧ FV.1 11 = zbi t6 ∧ FV.1 12 = zbi t8) ∧ ∀ b, b < 4 → FV.2.2.2.1 2 b = Int32.ofNat (if b < v 2 then v (70 + 4 * b + 3) else 1 <<< b)
/-- the model's cells, as told by v -/
def zFM (R : Nat → Int32) (v : Nat → Nat) (t5 t6 t8 : Bool) : Prop := (∀ k, k ≠ 5 → k ≠ 6 → k ≠ 7 → k ≠ 8 → R k = Int32.ofNat (v k)) ∧ R 5 = (if t5 then Int32.ofNat (v 5) else -1) ∧ R 6 = (if t6 then Int32.ofNat (v 6) else -1) ∧ R 7 = (if t6 then Int32.ofNat (v 7) else -1) ∧ R 8 = (if t8 then Int32.ofNat (v 8) else -1) ∧ (t5 = false → v 5 = 0) ∧ (t6 = false → v 6 = 12 ∧ v 7 = 5) ∧ (t8 = false → v 8 = 1)
/-- well told so far -/
def zFW (v : Nat → Nat) : Prop := hf_wf v ∧ v 3 = 0 ∧ (∀ k, k < v 1 → v (10 + 5 * k + 3) < v 0) ∧ ∀ b, b < v 2 → v (70 + 4 * b) ≤ 999 ∧ v (70 + 4 * b + 2) = 0
def zFS (gs : hf_gs) (pa o nm : Nat) (B : Nat → Nat) (T : Nat) (g : hf_H) (PV V : hf_V) (a kc fa l1 d1 l2 d2 : Nat) (p q : Nat → Nat) (v : Nat → Nat) (t5 t6 t8 : Bool) : Prop := hf_ps gs g pa o nm PV B T V a 0 ∧ (PV.1 4 = Int32.ofNat kc ∧ PV.1 5 = 40 ∧ V.1 14 = Int32.ofNat kc ∧ V.1 11 = 6 ∧ kc ≤ 40) ∧ zFO g fa l1 d1 l2 d2 p q v t5 t6 t8 ∧ zFM (V.2.2.2.1 7) v t5 t6 t8 ∧ zFW v
theorem zFM.h7 {V : hf_V} {v : Nat → Nat} {t5 t6 t8 : Bool} (H : zFM (V.2.2.2.1 7) v t5 t6 t8) (W : zFW v) : zh7 V := fun k hk => ⟨v k, W.1.2.2.2 k, H.1 k (by omega) (by omega) (by omega) (by omega)⟩
theorem zFO.eq {g g' : hf_H} {fa l1 d1 l2 d2 : Nat} {p q : Nat → Nat} {v : Nat → Nat} {t5 t6 t8 : Bool} (H : zFO g fa l1 d1 l2 d2 p q v t5 t6 t8) (K : ∀ md ci z V, hf_ob md ci g z = some V → (ci = 1 ∨ ci = 6 ∨ ci = 7 ∨ ci = 19) → hf_ob md ci g' z = some V) (A : ∀ d N B, hf_Ar g d N B → hf_Ar g' d N B) : zFO g' fa l1 d1 l2 d2 p q v t5 t6 t8 := by
  obtain ⟨FV, f1, f2, f3, f4, f5, f6, f7, f8, f9⟩ := H
  have hl : ∀ {l d n p}, hf_Ld g l d n p → hf_Ld g' l d n p := fun ⟨LV, N, B, e1, e2, e3, e4, e5⟩ => ⟨LV, N, B, K 0 19 _ _ e1 (by omega), e2, e3, A _ _ _ e4, e5⟩
  refine ⟨FV, K 1 1 _ _ f1 (by omega), f2, f3, f4, hl f5, hl f6, fun k hk => ?_, fun b hb => ?_, f9⟩
  · obtain ⟨HV, h1, h2⟩ := f7 k hk
    exact ⟨HV, K 0 6 _ _ h1 (by omega), h2⟩
  · obtain ⟨QV, h1, h2⟩ := f8 b hb
    exact ⟨QV, K 0 7 _ _ h1 (by omega), h2⟩
theorem zFO.gk {g g' : hf_H} {pa o n fa l1 d1 l2 d2 : Nat} {p q : Nat → Nat} {v : Nat → Nat} {t5 t6 t8 : Bool} (H : zFO g fa l1 d1 l2 d2 p q v t5 t6 t8) (K : hf_gk pa o g g' n) (N : hf_no g) {PV WV : hf_V} (e5 : hf_ob 0 5 g pa = some PV) (e3 : hf_ob 0 3 g (o + 19) = some WV) : zFO g' fa l1 d1 l2 d2 p q v t5 t6 t8 := H.eq (fun md ci z V e hc => K.ob N e (hf_ob_dif e e5 (by omega)) (hf_ob_dif e e3 (by omega))) (fun d N' B e => by
  unfold hf_Ar at e ⊢
  rw [K.1 d (N.lt e) (fun z => by
    subst z
    rw [hf_ob_spec e5] at e
    cases e) (fun z => by
    rw [z, hf_ob_spec e3] at e
    cases e)]
  exact e)
section ZQ
variable {gs : hf_gs} {pa o nm : Nat} {B : Nat → Nat} {T : Nat}
/-- a number in both -/
theorem xm_num {g : hf_H} {PV V : hf_V} {a m : Nat} (S : hf_ps gs g pa o nm PV B T V a m) (lo hi : Int32) : (∃ g' V' c, spX5_number pa lo hi g = some (.inl (o + 19), g') ∧ spX4_numberHere lo hi V = some (0, V') ∧ hf_gi 0 3 6 g' (o + 19) = some (Int32.ofNat c) ∧ V'.1 9 = Int32.ofNat c ∧ 1 ≤ c ∧ c < 100000 ∧ hf_gk pa o g g' 0 ∧ zvf V V' ∧ V'.2.2.2.1 = V.2.2.2.1) ∨ ∃ n a', spX5_number pa lo hi g = some (.inr (Int32.ofNat n), hf_pc g pa (hf_ui PV 1 (Int32.ofNat a'))) ∧ spX4_numberHere lo hi V = some (1, hf_ui (hf_ui V 8 (Int32.ofNat a')) 10 (Int32.ofNat n)) ∧ lo ≤ Int32.ofNat n ∧ Int32.ofNat n ≤ hi ∧ n < 100000 ∧ a < a' ∧ a' ≤ T ∧ hf_ps gs (hf_pc g pa (hf_ui PV 1 (Int32.ofNat a'))) pa o nm (hf_ui PV 1 (Int32.ofNat a')) B T (hf_ui (hf_ui V 8 (Int32.ofNat a')) 10 (Int32.ofNat n)) a' m := by
  obtain ⟨N, P, p0, p1, p3, wo, mt, v8, v9, v12, ha, hm⟩ := id S
  have hT := P.T4
  obtain ⟨s1, s2⟩ := zsk_le (B := B) ha
  have mn := m_numberHere mt v8 v9 ha lo hi
  rcases x_number P p1 ha lo hi with ⟨c1, c2, c3⟩ | ⟨c1, c2, g', c3, c4⟩ | ⟨c1, g', c3, c4⟩
  · right
    obtain ⟨d1, d2⟩ := zde_le (B := B) (T := T) s2
    have d3 : zsk B T a < zde B T (zsk B T a) := by
      rw [zde_step c1.1, if_pos c1.2]
      exact Nat.lt_of_lt_of_le (Nat.lt_succ_self _) (zde_le (B := B) (T := T) (show zsk B T a + 1 ≤ T from c1.1)).1
    have hv : znm B T (zsk B T a) < 100000 := by
      have hdig := zde_in (B := B) (T := T) (T - zsk B T a) (zsk B T a) rfl s2
      have := zdv_lt B (zsk B T a) (min 5 (zde B T (zsk B T a) - zsk B T a)) (fun k hk => (hdig.1 (zsk B T a + k) (by omega) (by omega)).2.2)
      have h5 : (10 : Nat) ^ min 5 (zde B T (zsk B T a) - zsk B T a) ≤ 10 ^ 5 := Nat.pow_le_pow_right (by decide) (by omega)
      unfold znm
      omega
    unfold znok at c2
    rw [if_pos c1, if_pos c2] at mn
    have S1 := S.at_ (a' := zde B T (zsk B T a)) d2
    obtain ⟨N', P', q0, q1, q3, wo', mt', w8, w9, w12, ha', hm'⟩ := S1
    exact ⟨_, _, c3, mn, c2.2.1, c2.2.2, hv, by omega, d2, N', P', q0, q1, q3, wo', mt'.ui (by decide) _, by rw [hf_ui_ne _ (by decide)]; exact w8, by rw [hf_ui_ne _ (by decide)]; exact w9, by rw [hf_ui_ne _ (by decide)]; exact w12, ha', hm'⟩
  · left
    unfold znok at c2
    rw [if_pos c1, if_neg c2] at mn
    have K := hf_gk.pc (o := o) N P.2.1 (hf_ui PV 1 (Int32.ofNat (zde B T (zsk B T a))))
    exact ⟨g', _, _, c3, mn, c4.gi, hf_ui_at _ _ _, by omega, by omega, (K.trans (hf_gk.wr K.no c4)).mono (by omega), (((zvf.rfl_ V).ui (by omega) _).ui (by omega) _).ui (by omega) _, rfl⟩
  · left
    rw [if_neg c1] at mn
    have K := hf_gk.pc (o := o) N P.2.1 (hf_ui PV 1 (Int32.ofNat (zsk B T a)))
    exact ⟨g', _, _, c3, mn, c4.gi, hf_ui_at _ _ _, by omega, by omega, (K.trans (hf_gk.wr K.no c4)).mono (by omega), ((zvf.rfl_ V).ui (by omega) _).ui (by omega) _, rfl⟩
end ZQ
set_option maxRecDepth 100000
set_option maxHeartbeats 1000000
/-! texts: a fair, its state changes -/
/-- a cell that no count covers yet -/
def zfree (v : Nat → Nat) (i : Nat) : Prop := (v 1 < 12 ∧ 10 + 5 * v 1 ≤ i ∧ i < 10 + 5 * v 1 + 5) ∨ (v 2 < 4 ∧ 70 + 4 * v 2 ≤ i ∧ i < 70 + 4 * v 2 + 4)
theorem zfree.lt {v : Nat → Nat} {i : Nat} (F : zfree v i) : i < 86 := by
  rcases F with h | h <;> omega
section ZF
variable {v : Nat → Nat} {i x : Nat}
theorem zfree.ne (F : zfree v i) (j : Nat) (h : j < 10 ∨ (∃ k, k < v 1 ∧ 10 + 5 * k ≤ j ∧ j < 10 + 5 * k + 5 ∧ v 1 ≤ 12) ∨ (∃ b, b < v 2 ∧ 70 + 4 * b ≤ j ∧ j < 70 + 4 * b + 4 ∧ v 2 ≤ 4)) : zup v i x j = v j := by
  refine zup_ne _ (fun z => ?_) _
  rcases F with ⟨f1, f2, f3⟩ | ⟨f1, f2, f3⟩ <;> rcases h with h | ⟨k, h1, h2, h3, h4⟩ | ⟨b, h1, h2, h3, h4⟩ <;> omega
theorem zFW.free (W : zFW v) (F : zfree v i) (hx : x < 16777216) : zFW (zup v i x) := by
  obtain ⟨⟨⟨w0, w1, w2, w3, w4, w5, w6, w7, w8, w9⟩, wh, wb, wk⟩, z3, zh, zb⟩ := W
  have e : ∀ j, j < 10 → zup v i x j = v j := fun j hj => F.ne j (Or.inl hj)
  have eh : ∀ k j, k < v 1 → j < 5 → zup v i x (10 + 5 * k + j) = v (10 + 5 * k + j) := fun k j hk hj => F.ne _ (Or.inr (Or.inl ⟨k, hk, by omega, by omega, w1⟩))
  have eb : ∀ b j, b < v 2 → j < 4 → zup v i x (70 + 4 * b + j) = v (70 + 4 * b + j) := fun b j hb hj => F.ne _ (Or.inr (Or.inr ⟨b, hb, by omega, by omega, w2⟩))
  have eb0 : ∀ b, b < v 2 → zup v i x (70 + 4 * b) = v (70 + 4 * b) := fun b hb => eb b 0 hb (by decide)
  refine ⟨⟨?_, fun k hk => ?_, fun b hb => ?_, fun k => ?_⟩, ?_, fun k hk => ?_, fun b hb => ?_⟩
  · rw [e 0 (by decide), e 1 (by decide), e 2 (by decide), e 3 (by decide), e 4 (by decide), e 5 (by decide), e 6 (by decide), e 7 (by decide), e 8 (by decide)]
    exact ⟨w0, w1, w2, w3, w4, w5, w6, w7, w8, w9⟩
  · rw [e 1 (by decide)] at hk
    rw [eh k 0 hk (by decide), eh k 1 hk (by decide), eh k 2 hk (by decide), eh k 3 hk (by decide), eh k 4 hk (by decide), e 0 (by decide)]
    exact wh k hk
  · rw [e 2 (by decide)] at hb
    rw [eb0 b hb, eb b 1 hb (by decide), eb b 2 hb (by decide), eb b 3 hb (by decide), e 0 (by decide), e 2 (by decide)]
    exact wb b hb
  · unfold zup
    split
    · exact hx
    · exact wk k
  · rw [e 3 (by decide)]
    exact z3
  · rw [e 1 (by decide)] at hk
    rw [eh k 3 hk (by decide), e 0 (by decide)]
    exact zh k hk
  · rw [e 2 (by decide)] at hb
    rw [eb0 b hb, eb b 2 hb (by decide)]
    exact zb b hb
theorem zFO.free {g : hf_H} {fa l1 d1 l2 d2 : Nat} {p q : Nat → Nat} {t5 t6 t8 : Bool} (H : zFO g fa l1 d1 l2 d2 p q v t5 t6 t8) (W : zFW v) (F : zfree v i) : zFO g fa l1 d1 l2 d2 p q (zup v i x) t5 t6 t8 := by
  have w1 := W.1.1.2.1
  have w2 := W.1.1.2.2.1
  have e : ∀ j, j < 10 → zup v i x j = v j := fun j hj => F.ne j (Or.inl hj)
  have eh : ∀ k j, k < v 1 → j < 5 → zup v i x (10 + 5 * k + j) = v (10 + 5 * k + j) := fun k j hk hj => F.ne _ (Or.inr (Or.inl ⟨k, hk, by omega, by omega, w1⟩))
  have eb : ∀ b j, b < v 2 → j < 4 → zup v i x (70 + 4 * b + j) = v (70 + 4 * b + j) := fun b j hb hj => F.ne _ (Or.inr (Or.inr ⟨b, hb, by omega, by omega, w2⟩))
  have eb0 : ∀ b, b < v 2 → zup v i x (70 + 4 * b) = v (70 + 4 * b) := fun b hb => eb b 0 hb (by decide)
  obtain ⟨FV, f1, f2, f3, f4, f5, f6, f7, f8, f9, f10⟩ := H
  have hz : zset (fun k => zup v i x (10 + 5 * k + 4) == 1) (v 1) = zset (fun k => v (10 + 5 * k + 4) == 1) (v 1) := zset_congr _ (fun k hk => by
    show (zup v i x (10 + 5 * k + 4) == 1) = _
    rw [eh k 4 hk (by decide)])
  refine ⟨FV, f1, f2, f3, f4, by rw [e 1 (by decide)]; exact f5, by rw [e 2 (by decide)]; exact f6, fun k hk => ?_, fun b hb => ?_, ?_, fun b hb => ?_⟩
  · rw [e 1 (by decide)] at hk
    rw [eh k 0 hk (by decide), eh k 1 hk (by decide), eh k 2 hk (by decide), eh k 3 hk (by decide)]
    exact f7 k hk
  · rw [e 2 (by decide)] at hb
    rw [eb0 b hb, eb b 1 hb (by decide)]
    exact f8 b hb
  · rw [e 0 (by decide), e 1 (by decide), e 4 (by decide), e 5 (by decide), e 6 (by decide), e 7 (by decide), e 8 (by decide), hz]
    exact f9
  · rw [f10 b hb, e 2 (by decide)]
    by_cases c : b < v 2
    · rw [if_pos c, if_pos c, eb b 3 c (by decide)]
    · rw [if_neg c, if_neg c]
theorem zFM.free {R R' : Nat → Int32} {t5 t6 t8 : Bool} (H : zFM R v t5 t6 t8) (F : zfree v i) (hR : ∀ j, R' j = if j = i then Int32.ofNat x else R j) : zFM R' (zup v i x) t5 t6 t8 := by
  obtain ⟨h, h5, h6, h7, h8, k5, k6, k8⟩ := H
  have e : ∀ j, j < 10 → zup v i x j = v j := fun j hj => F.ne j (Or.inl hj)
  have hi : 10 ≤ i := by
    rcases F with f | f <;> omega
  refine ⟨fun k a b c d => ?_, ?_, ?_, ?_, ?_, ?_, ?_, ?_⟩
  · rw [hR]
    by_cases c : k = i
    · rw [if_pos c, c, zup_at]
    · rw [if_neg c, zup_ne _ c]
      exact h k a b (by assumption) d
  · rw [hR, if_neg (by omega), e 5 (by decide)]; exact h5
  · rw [hR, if_neg (by omega), e 6 (by decide)]; exact h6
  · rw [hR, if_neg (by omega), e 7 (by decide)]; exact h7
  · rw [hR, if_neg (by omega), e 8 (by decide)]; exact h8
  · rw [e 5 (by decide)]; exact k5
  · rw [e 6 (by decide), e 7 (by decide)]; exact k6
  · rw [e 8 (by decide)]; exact k8
end ZF
section ZQ
variable {gs : hf_gs} {pa o nm : Nat} {B : Nat → Nat} {T : Nat} {g : hf_H} {PV V : hf_V} {a kc fa l1 d1 l2 d2 : Nat} {p q : Nat → Nat} {v : Nat → Nat} {t5 t6 t8 : Bool}
theorem zFS.num (R : zFS gs pa o nm B T g PV V a kc fa l1 d1 l2 d2 p q v t5 t6 t8) {n a' : Nat} (S' : hf_ps gs (hf_pc g pa (hf_ui PV 1 (Int32.ofNat a'))) pa o nm (hf_ui PV 1 (Int32.ofNat a')) B T (hf_ui (hf_ui V 8 (Int32.ofNat a')) 10 (Int32.ofNat n)) a' 0) : zFS gs pa o nm B T (hf_pc g pa (hf_ui PV 1 (Int32.ofNat a'))) (hf_ui PV 1 (Int32.ofNat a')) (hf_ui (hf_ui V 8 (Int32.ofNat a')) 10 (Int32.ofNat n)) a' kc fa l1 d1 l2 d2 p q v t5 t6 t8 := by
  obtain ⟨S, ⟨c4, c5, c14, c11, hk⟩, O, M, W⟩ := R
  obtain ⟨WV, w3⟩ := S.2.1.w3
  exact ⟨S', ⟨by rw [hf_ui_ne _ (by decide)]; exact c4, by rw [hf_ui_ne _ (by decide)]; exact c5, by rw [hf_ui_ne _ (by decide), hf_ui_ne _ (by decide)]; exact c14, by rw [hf_ui_ne _ (by decide), hf_ui_ne _ (by decide)]; exact c11, hk⟩, O.gk (hf_gk.pc S.1 S.2.1.2.1 _) S.1 S.2.1.2.1 w3, M, W⟩
theorem zFS.free (R : zFS gs pa o nm B T g PV V a kc fa l1 d1 l2 d2 p q v t5 t6 t8) {i x : Nat} (F : zfree v i) (hx : x < 16777216) : zFS gs pa o nm B T g PV (hf_ua V 7 i (Int32.ofNat x)) a kc fa l1 d1 l2 d2 p q (zup v i x) t5 t6 t8 := by
  obtain ⟨S, c, O, M, W⟩ := R
  exact ⟨S.v rfl (hf_ua_ne _ (by decide) _ _), c, O.free W F, M.free F (fun j => hf_ua_at _ _ _ _ _), W.free F hx⟩
/-- one number is both read and kept in a free cell -/
theorem xm_cell (R : zFS gs pa o nm B T g PV V a kc fa l1 d1 l2 d2 p q v t5 t6 t8) {i : Nat} (F : zfree v i) (lo hi : Int32) : (∃ g' V' c, spX5_number pa lo hi g = some (.inl (o + 19), g') ∧ spX4_cellHere (Int32.ofNat i) lo hi V = some (0, V') ∧ hf_gi 0 3 6 g' (o + 19) = some (Int32.ofNat c) ∧ V'.1 9 = Int32.ofNat c ∧ 1 ≤ c ∧ c < 100000 ∧ hf_gk pa o g g' 0 ∧ zvf V V' ∧ zh7 V') ∨ ∃ n a' g' PV' V', spX5_number pa lo hi g = some (.inr (Int32.ofNat n), g') ∧ spX4_cellHere (Int32.ofNat i) lo hi V = some (1, V') ∧ lo ≤ Int32.ofNat n ∧ Int32.ofNat n ≤ hi ∧ n < 100000 ∧ a < a' ∧ a' ≤ T ∧ g' = hf_pc g pa PV' ∧ hf_gk pa o g g' 0 ∧ zvf V V' ∧ zFS gs pa o nm B T g' PV' V' a' kc fa l1 d1 l2 d2 p q (zup v i n) t5 t6 t8 := by
  have hi86 := F.lt
  unfold spX4_cellHere
  rcases xm_num R.1 lo hi with ⟨g', V', c, x1, x2, x3, x4, x5, x6, x7, x8, x9⟩ | ⟨n, a', x1, x2, x3, x4, x5, x6, x7, x8⟩
  · left
    rw [x2, hf_b2_some, if_pos rfl]
    refine ⟨g', V', c, x1, rfl, x3, x4, x5, x6, x7, x8, fun k hk => ?_⟩
    rw [x9]
    exact (R.2.2.2.1.h7 R.2.2.2.2) k hk
  · right
    have R1 := R.num x8
    rw [x2, hf_b2_some, if_neg (by decide), z_sd (by omega) (by omega), hf_ui_at]
    exact ⟨n, a', _, _, _, x1, rfl, x3, x4, x5, x6, x7, rfl, hf_gk.pc R.1.1 R.1.2.1.2.1 _, (((zvf.rfl_ V).ui (by omega) _).ui (by omega) _).ua _ _, R1.free F (by omega)⟩
/-- the fair's fields change, a cell of the model too -/
theorem zFS.upd (R : zFS gs pa o nm B T g PV V a kc fa l1 d1 l2 d2 p q v t5 t6 t8) {FV FV' V' : hf_V} {v' : Nat → Nat} {s5 s6 s8 : Bool} (e : hf_ob 1 1 g fa = some FV) (er : FV'.2.2.1 = FV.2.2.1) (h1 : v' 1 = v 1) (h2 : v' 2 = v 2) (hh : ∀ k j, k < v 1 → j < 4 → v' (10 + 5 * k + j) = v (10 + 5 * k + j)) (hb : ∀ b j, b < v 2 → j < 2 → v' (70 + 4 * b + j) = v (70 + 4 * b + j)) (hf : FV'.1 3 = Int32.ofNat (v' 0) ∧ FV'.1 4 = Int32.ofNat (v' 4) ∧ FV'.1 5 = Int32.ofNat (v' 5) ∧ FV'.1 6 = Int32.ofNat (v' 6) ∧ FV'.1 7 = Int32.ofNat (v' 7) ∧ FV'.1 8 = Int32.ofNat (v' 8) ∧ FV'.1 9 = Int32.ofNat (zset (fun k => v' (10 + 5 * k + 4) == 1) (v 1)) ∧ FV'.1 10 = zbi s5 ∧ FV'.1 11 = zbi s6 ∧ FV'.1 12 = zbi s8) (hc : ∀ b, b < 4 → FV'.2.2.2.1 2 b = Int32.ofNat (if b < v 2 then v' (70 + 4 * b + 3) else 1 <<< b)) (hV : V'.1 = V.1) (h0 : V'.2.2.2.1 0 = V.2.2.2.1 0) (M' : zFM (V'.2.2.2.1 7) v' s5 s6 s8) (W' : zFW v') : zFS gs pa o nm B T (hf_up g fa (.inl (1, 1, FV'))) PV V' a kc fa l1 d1 l2 d2 p q v' s5 s6 s8 := by
  obtain ⟨S, ⟨c4, c5, c14, c11, hk⟩, ⟨FV2, f1, f2, f3, f4, f5, f6, f7, f8, f9, f10⟩, M, W⟩ := R
  obtain ⟨N, P, p0, p1, p3, wo, mt, v8, v9, v12, ha, hm⟩ := S
  have hFV : FV2 = FV := Option.some.inj (f1.symm.trans e)
  subst hFV
  obtain ⟨WV, w3⟩ := P.w3
  obtain ⟨⟨_, _, ⟨XV, y1, -⟩, -⟩, y2, -⟩ := id P
  obtain ⟨G, hG⟩ : ∃ G, G = hf_up g fa (.inl (1, 1, FV')) := ⟨_, rfl⟩
  have ne : ∀ z md ci U, hf_ob md ci g z = some U → ¬ (md = 1 ∧ ci = 1) → G.1 z = g.1 z := fun z md ci U ez hn => by
    rw [hG, up_ne _ (hf_ob_dif ez e hn)]
  have P' : hf_px G pa o PV B T := P.eq (ne _ _ _ _ y1 (by decide)) (ne _ _ _ _ y2 (by decide)) (ne _ _ _ _ w3 (by decide))
  have wo' : hf_wo G gs nm := wo.eq (fun z x ez => by
    rw [hG, up_ne _ (fun y => by
      subst y
      rw [hf_ob_spec e] at ez
      cases ez)]
    exact ez)
  have N' : hf_no G := by rw [hG]; exact N.up e _
  have S' : hf_ps gs G pa o nm PV B T V a 0 := ⟨N', P', p0, p1, p3, wo', mt, v8, v9, v12, ha, hm⟩
  have hob : ∀ md ci z U, hf_ob md ci g z = some U → ¬ (md = 1 ∧ ci = 1) → hf_ob md ci G z = some U := fun md ci z U ez hn => hf_ob_eq ez (ne _ _ _ _ ez hn)
  have L5 : hf_Ld G l1 d1 (v 1) p := by rw [hG]; exact f5.up e (by decide)
  have L6 : hf_Ld G l2 d2 (v 2) q := by rw [hG]; exact f6.up e (by decide)
  rw [← hG]
  refine ⟨S'.v hV h0, ⟨c4, c5, by rw [hV]; exact c14, by rw [hV]; exact c11, hk⟩, ⟨FV', by rw [hG]; exact hf_ob_up _ _ _ _ _, by rw [er]; exact f2, by rw [er]; exact f3, f4, by rw [h1]; exact L5, by rw [h2]; exact L6, fun k hk' => ?_, fun b hb' => ?_, ?_, fun b hb' => ?_⟩, M', W'⟩
  · rw [h1] at hk'
    obtain ⟨HV, u1, u2⟩ := f7 k hk'
    rw [hh k 0 hk' (by decide), hh k 1 hk' (by decide), hh k 2 hk' (by decide), hh k 3 hk' (by decide)]
    exact ⟨HV, hob 0 6 _ _ u1 (by decide), u2⟩
  · rw [h2] at hb'
    obtain ⟨QV, u1, u2⟩ := f8 b hb'
    have hb0 := hb b 0 hb' (by decide)
    rw [Nat.add_zero] at hb0
    rw [hb0, hb b 1 hb' (by decide)]
    exact ⟨QV, hob 0 7 _ _ u1 (by decide), u2⟩
  · rw [h1]
    exact hf
  · rw [h2]
    exact hc b hb'
end ZQ
