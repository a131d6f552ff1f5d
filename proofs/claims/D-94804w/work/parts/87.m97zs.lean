set_option maxRecDepth 100000
set_option maxHeartbeats 1000000
/-! what stays true where a text is read -/
theorem hf_kp.trans {D E : Nat → Prop} {h g k : hf_H} (A : hf_kp D h g) (C : hf_kp E g k) (hE : ∀ a, E a → ¬ D a → h.1 a = none) : hf_kp D h k := fun a x e n => C a x (A a x e n) (fun z => by
  have := hE a z n
  rw [e] at this
  cases this)
section ZI
variable {rl rd rd' : Nat} {g : hf_H}
theorem hf_Ls.rg {l n : Nat} {p : Nat → Nat} (L : hf_Ls (hf_rg rl rd) g l n p) (N : hf_no g) (h : rd' = rd ∨ g.2.1 ≤ rd') : hf_Ls (hf_rg rl rd') g l n p := by
  obtain ⟨h1, d, h2, L⟩ := L
  obtain ⟨q1, q2⟩ := L.lt N
  unfold hf_rg at h1 h2 ⊢
  exact ⟨by omega, d, by omega, L⟩
theorem hf_Fs.rg {f : Nat} {v : Nat → Nat} (F : hf_Fs (hf_rg rl rd) g f v) (N : hf_no g) (h : rd' = rd ∨ g.2.1 ≤ rd') : hf_Fs (hf_rg rl rd') g f v := by
  obtain ⟨FV, l, m, p, q, HV, f1, f2, f3, f4, f5, f6⟩ := F
  exact ⟨FV, l, m, p, q, HV, f1, f2, f3, f4.rg N h, f5.rg N h, f6⟩
theorem hf_Rs.rg {a t : Nat} {V : hf_V} (R : hf_Rs (hf_rg rl rd) g a V t) (N : hf_no g) (h : rd' = rd ∨ g.2.1 ≤ rd') : hf_Rs (hf_rg rl rd') g a V t := by
  obtain ⟨ht, RV, l, n, p, e1, e2, e3, e4⟩ := R
  exact ⟨ht, RV, l, n, p, e1, e2, e3.rg N h, e4⟩
end ZI
/-- rule k's codes are not where text t is read -/
theorem hf_Told.vr {h : hf_H} {a t k t' : Nat} {V V' : hf_V} (H : hf_Told h a V t k) (K : zvr V V' t') (hne : t ≠ t') (hk : k < 12) : hf_Told h a V' t k := by
  obtain ⟨TV, sv, c, b, e1, e2, e3, e4, e5, e6, e7, e8, e9, e10⟩ := H
  have C : ∀ i, i < 5 → V'.2.2.2.1 5 (60 * t + 5 * k + i) = V.2.2.2.1 5 (60 * t + 5 * k + i) := fun i hi => K.2.2.2.1 _ (by omega)
  have C0 := C 0 (by decide)
  rw [Nat.add_zero] at C0
  have Z : ∀ {b c}, zcds V t b c → b + c.length ≤ 400 → zcds V' t b c := fun H hb i hi => by
    rw [K.2.2.1 _ (by omega)]
    exact H i hi
  refine ⟨TV, sv, c, b, e1, e2, e3, e4, Z e5 e6, e6, by rw [C 1 (by decide)]; exact e7, by rw [C 2 (by decide)]; exact e8, by rw [C0]; exact e9, ?_⟩
  rcases e10 with ⟨h1, h2⟩ | ⟨cv, c', b', g1, g2, g3, g4, g5, g6, g7⟩
  · exact Or.inl ⟨h1, by rw [C 3 (by decide)]; exact h2⟩
  · exact Or.inr ⟨cv, c', b', g1, g2, g3, Z g4 g5, g5, by rw [C 3 (by decide)]; exact g6, by rw [C 4 (by decide)]; exact g7⟩
theorem hf_Rs.vr {Rg : Nat → Prop} {h : hf_H} {a t t' : Nat} {V V' : hf_V} (R : hf_Rs Rg h a V t) (K : zvr V V' t') (hne : t ≠ t') : hf_Rs Rg h a V' t := by
  obtain ⟨ht, RV, l, n, p, e1, e2, e3, e4, e5, e6⟩ := R
  exact ⟨ht, RV, l, n, p, e1, e2, e3, e4, by rw [K.2.2.2.2 t hne]; exact e5, fun k hk => (e6 k hk).vr K hne (by omega)⟩
section ZI
variable {P : Nat} {g g' : hf_H} {o f st kp rl rd rd' T' : Nat} {V V' XV XV' : hf_V} {ps ik sk : Nat → Nat} {v : Nat → Nat} {D : Nat → Prop}
theorem hf_I.read (I : hf_I P g o V XV f st kp rl rd ps ik sk v) (K : hf_kp D g g') (hD : hf_dirt (hf_rg rl rd) D g) (ho : hf_ob 1 0 g' o = some XV') (hx : XV' = hf_ui XV 6 (Int32.ofNat T')) (hT : T' ≤ 400) (h1 : V'.1 1 = Int32.ofNat T') (h21 : V'.1 21 = V.1 21) (h25 : V'.1 25 = V.1 25) (ha : ∀ j, j ≠ 3 → j ≠ 4 → j ≠ 5 → j ≠ 6 → j ≠ 7 → j ≠ 15 → V'.2.2.2.1 j = V.2.2.2.1 j) (h7 : ∀ k, (k < 5 ∨ 9 ≤ k) → ∃ n, n < 16777216 ∧ V'.2.2.2.1 7 k = Int32.ofNat n) (hR : hf_IR (hf_rg rl rd') g' rl rd' V') (hrd : rd' = rd ∨ g.2.1 ≤ rd') (nSt : ∀ s ci SV, ci = 2 ∨ ci = 18 → hf_ob 1 ci g s = some SV → ¬ D s) (hn : hf_no g') : hf_I P g' o V' XV' f st kp rl rd' ps ik sk v := by
  obtain ⟨⟨a1, a2, a3, a4, a5, a6, a7, a8⟩, ⟨b1, b2, b3, b4⟩, c, ⟨d1, d2, d3, d4⟩, i5, ⟨u, pa, u1, u2, u3, u4, u5, u6⟩, i7, i8, i9⟩ := I
  have No : hf_no g := i8
  have xr : XV'.2 = XV.2 := by rw [hx]; rfl
  have xi : ∀ k, k ≠ 6 → XV'.1 k = XV.1 k := fun k hk => by rw [hx, hf_ui_ne _ hk]
  have hob2 : ∀ s ci SV, ci = 2 ∨ ci = 18 → hf_ob 1 ci g s = some SV → hf_ob 1 ci g' s = some SV := fun s ci SV hc e => K.ob e (nSt s ci SV hc e)
  have hSS : ∀ s w, hf_SS g s w → hf_SS g' s w := fun s w ⟨SV, e1, e2⟩ => ⟨SV, hob2 s 2 SV (Or.inl rfl) e1, e2⟩
  have hls : ∀ (l n : Nat) (p : Nat → Nat), hf_Ls (hf_rg rl rd) g l n p → hf_Ls (hf_rg rl rd') g' l n p := fun l n p ⟨w1, d, w2, w3⟩ => by
    obtain ⟨z1, z2⟩ := w3.lt No
    have hdd : hf_Ld g' l d n p := by
      obtain ⟨LV, N, B, y1, y2, y3, y4, y5, y6⟩ := w3
      exact ⟨LV, N, B, K.ob y1 (hD.nli y1 w1), y2, y3, K d _ y4 (hD.npa y4.pa w2), y5, y6⟩
    unfold hf_rg at w1 w2 ⊢
    exact ⟨by omega, d, by omega, hdd⟩
  have hFs : ∀ q w, hf_Fs (hf_rg rl rd) g q w → hf_Fs (hf_rg rl rd') g' q w := fun q w F => by
    obtain ⟨FV3, l3, m3, p3, q3, HV3, k1, k2, k3, k4, k5, k6⟩ := F
    exact ⟨FV3, l3, m3, p3, q3, HV3, K.ob k1 (hD.nob k1 (by decide) (Or.inr rfl)), k2, k3, hls _ _ _ k4, hls _ _ _ k5, fun k hk => ⟨K.ob (k6.1 k hk).1 (hD.nob (k6.1 k hk).1 (by decide) (Or.inl rfl)), (k6.1 k hk).2⟩, k6.2⟩
  refine ⟨⟨ho, by rw [xr]; exact a2, by rw [xr]; exact a3, by rw [xr]; exact a4, by rw [xr]; exact a5, ?_, a7, fun k hk => ?_⟩, ⟨hFs _ _ b1, hSS _ _ b2, b3, fun k => ?_⟩, hR, ⟨⟨T', hT, by rw [hx, hf_ui_at], h1⟩, fun k hk => ?_, ?_, ?_⟩, fun s hs => ?_, ⟨u, pa, u1, u2, by rw [xi 14 (by decide)]; exact u3, by rw [h25]; exact u4, by rw [xi 15 (by decide)]; exact u5, fun j hj => ?_⟩, fun k hk => ?_, hn, h7⟩
  · obtain ⟨KV, k1⟩ := a6
    exact ⟨KV, hob2 _ 2 _ (Or.inl rfl) k1⟩
  · obtain ⟨q1, ⟨PV, q2⟩, q3⟩ := a8 k hk
    rw [xr]
    exact ⟨q1, ⟨PV, hob2 _ 2 _ (Or.inl rfl) q2⟩, q3⟩
  · rw [ha 20 (by decide) (by decide) (by decide) (by decide) (by decide) (by decide)]
    exact b4 k
  · rw [xr, ha 0 (by decide) (by decide) (by decide) (by decide) (by decide) (by decide)]
    exact d2 k hk
  · obtain ⟨d, t1, t2, t3⟩ := d3
    exact ⟨d, t1, by rw [xi 11 (by decide)]; exact t2, by rw [h21]; exact t3⟩
  · rw [xr, xi 10 (by decide)]
    exact d4
  · rw [ha 22 (by decide) (by decide) (by decide) (by decide) (by decide) (by decide), ha 23 (by decide) (by decide) (by decide) (by decide) (by decide) (by decide)]
    exact i5 s hs
  · obtain ⟨w, w1, w2, w3, w4⟩ := u6 j hj
    refine ⟨w, w1, w2, fun k hk => ?_, hSS _ _ w4⟩
    rw [ha 24 (by decide) (by decide) (by decide) (by decide) (by decide) (by decide)]
    exact w3 k hk
  · rw [xr, ha 36 (by decide) (by decide) (by decide) (by decide) (by decide) (by decide)]
    rcases i7 k hk with q | ⟨q1, q2, ⟨IV, fk, w, d, r1, r2, r3, r4, r5, r6, r7, r8, r9, r10, r11, r12⟩, q4⟩
    · exact Or.inl q
    · refine Or.inr ⟨q1, q2, ⟨IV, fk, w, d, hob2 _ 18 _ (Or.inr rfl) r1, r2, r3, r4, hFs _ _ r5, hSS _ _ r6, r7, fun i hi => ?_, r9, r10, r11, ?_⟩, q4⟩
      · rw [ha 34 (by decide) (by decide) (by decide) (by decide) (by decide) (by decide)]
        exact r8 i hi
      · rw [ha 35 (by decide) (by decide) (by decide) (by decide) (by decide) (by decide)]
        exact r12
end ZI
set_option maxRecDepth 100000
set_option maxHeartbeats 1000000
/-! texts: a rule, whole -/
section ZX
variable {gs : hf_gs} {h : hf_H} {l : Nat}
theorem x_list0 (N : hf_no h) (e : hf_ob 0 19 h l = some hf_V0) : ∃ g, spJ2_init gs l 2 h = some g ∧ (∀ p, hf_Ld g l h.2.1 0 p) ∧ (∀ q, q < h.2.1 → q ≠ l → g.1 q = h.1 q) ∧ g.2.1 = h.2.1 + 1 ∧ g.2.2 = h.2.2 + 2 ∧ hf_no g := by
  have hlt := N.olt e
  have c2 : (2 : Int32).toNatClampNeg = 2 := by decide
  obtain ⟨LV, hLV⟩ : ∃ y, y = hf_ui hf_V0 0 (0 : Int32) := ⟨_, rfl⟩
  obtain ⟨g1, hg1⟩ : ∃ y, y = hf_up h l (.inl (0, 19, LV)) := ⟨_, rfl⟩
  have e1 : hf_ob 0 19 g1 l = some LV := by rw [hg1]; exact hf_ob_up _ _ _ _ _
  have N1 : hf_no g1 := by rw [hg1]; exact N.up e _
  have s1 : g1.2 = h.2 := by rw [hg1]; rfl
  obtain ⟨g2, hg2⟩ : ∃ y, y = hf_nw g1 (.inr (.inl (0, .object "java/lang/Object", 2, .inr (.inr fun _ => none)))) 2 := ⟨_, rfl⟩
  have e2 : hf_ob 0 19 g2 l = some LV := by rw [hg2]; exact ob_nw N1 e1 _ _
  have h12 : g1.2.1 = h.2.1 := by rw [s1]
  refine ⟨hf_up g2 l (.inl (0, 19, hf_uq LV 1 (some h.2.1))), ?_, fun p => ⟨hf_uq LV 1 (some h.2.1), 2, fun _ => none, hf_ob_up _ _ _ _ _, by rw [hLV]; rfl, rfl, ?_, ⟨by omega, by omega, by omega⟩, fun k hk => absurd hk (Nat.not_lt_zero _)⟩, fun q hq hl => ?_, ?_, ?_, ?_⟩
  · unfold spJ2_init spJ1_init spJ0_init
    rw [Option.bind_some, hf_pi_eq e, Option.bind_some, Option.bind_some, ← hLV, ← hg1, if_neg (by decide), c2, if_neg (by decide), hf_mk_eq, ← hg2, hf_pq_eq e2, Option.bind_some, h12]
  · unfold hf_Ar
    rw [up_ne _ (by omega), hg2, ← h12, nw_at]
  · rw [up_ne _ hl, hg2, nw_lt _ _ (by omega), hg1, up_ne _ hl]
  · show g2.2.1 = _
    rw [hg2]
    show g1.2.1 + 1 = _
    omega
  · show g2.2.2 = _
    rw [hg2]
    show g1.2.2 + 2 = _
    rw [s1]
  · refine hf_no.up (fun q hq => ?_) e2 _
    rw [hg2] at hq ⊢
    have hq2 : g1.2.1 + 1 ≤ q := hq
    show (if q = g1.2.1 then _ else g1.1 q) = none
    rw [if_neg (by omega)]
    exact N1 q (by omega)
theorem hf_no.nw (N : hf_no h) (x : hf_C) (n : Nat) : hf_no (hf_nw h x n) := fun q hq => by
  have hq2 : h.2.1 + 1 ≤ q := hq
  show (if q = h.2.1 then _ else h.1 q) = none
  rw [if_neg (by omega)]
  exact N q (by omega)
theorem x_rule0 (N : hf_no h) : ∃ g, spX8_init gs h.2.1 (hf_nw h (.inl (0, 8, hf_V0)) 1) = some g ∧ (∃ RV, hf_ob 0 8 g h.2.1 = some RV ∧ RV.2.2.1 0 = some (h.2.1 + 1)) ∧ (∀ p, hf_Ld g (h.2.1 + 1) (h.2.1 + 2) 0 p) ∧ (∀ q, q < h.2.1 → g.1 q = h.1 q) ∧ g.2.1 = h.2.1 + 3 ∧ g.2.2 = h.2.2 + 6 ∧ hf_no g := by
  obtain ⟨g1, hg1⟩ : ∃ y, y = hf_nw h (.inl (0, 8, hf_V0)) 1 := ⟨_, rfl⟩
  have N1 : hf_no g1 := by rw [hg1]; exact N.nw _ _
  have e1 : hf_ob 0 8 g1 h.2.1 = some hf_V0 := by rw [hg1]; exact ob_new h 0 8 hf_V0 1
  have s1 : g1.2.1 = h.2.1 + 1 := by rw [hg1]; rfl
  have s1' : g1.2.2 = h.2.2 + 1 := by rw [hg1]; rfl
  obtain ⟨g2, hg2⟩ : ∃ y, y = hf_nw g1 (.inl (0, 19, hf_V0)) 3 := ⟨_, rfl⟩
  have N2 : hf_no g2 := by rw [hg2]; exact N1.nw _ _
  have e2 : hf_ob 0 19 g2 (h.2.1 + 1) = some hf_V0 := by rw [hg2, ← s1]; exact ob_new g1 0 19 hf_V0 3
  have s2 : g2.2.1 = h.2.1 + 2 := by
    rw [hg2]
    show g1.2.1 + 1 = _
    omega
  have s2' : g2.2.2 = h.2.2 + 4 := by
    rw [hg2]
    show g1.2.2 + 3 = _
    omega
  obtain ⟨g3, x1, x2, x3, x4, x5, x6⟩ := x_list0 (gs := gs) N2 e2
  have e3 : hf_ob 0 8 g3 h.2.1 = some hf_V0 := by
    refine hf_ob_eq ?_ (x3 h.2.1 (by omega) (by omega))
    rw [hg2]
    exact ob_nw N1 e1 _ _
  refine ⟨hf_up g3 h.2.1 (.inl (0, 8, hf_uq hf_V0 0 (some (h.2.1 + 1)))), ?_, ⟨_, hf_ob_up _ _ _ _ _, rfl⟩, fun p => ?_, fun q hq => ?_, ?_, ?_, x6.up e3 _⟩
  · unfold spX8_init
    rw [← hg1, hf_mk_eq, ← hg2, s1, x1, Option.bind_some, hf_pq_eq e3, Option.bind_some]
  · have := x2 p
    rw [s2] at this
    exact this.up e3 (by decide)
  · rw [up_ne _ (by omega), x3 q (by omega) (by omega), hg2, nw_lt _ _ (by omega), hg1, nw_lt _ _ hq]
  · show g3.2.1 = _
    omega
  · show g3.2.2 = _
    omega
end ZX
section ZQ
variable {gs : hf_gs} {pa o nm : Nat} {B : Nat → Nat} {T t : Nat}
theorem xm_ruleT {g : hf_H} {PV V : hf_V} (N : hf_no g) (P : hf_px g pa o PV B T) (p0 : PV.2.2.1 0 = some nm) (p1 : PV.1 1 = 0) (p2 : PV.1 2 = 0) (p3 : PV.1 3 = 0) (p4 : PV.1 4 = 0) (p5 : PV.1 5 = 12) (wo : hf_wo g gs nm) (mt : hf_mt V B T) (ht : t ≤ 5) (v11 : V.1 11 = Int32.ofNat t) (v6 : V.2.2.2.1 6 t = 0) : (∃ g' V', spX5_rule gs pa g = some (.inl (o + 19), g') ∧ spX4_readsAll V = some (0, V') ∧ V'.1 1 = 0 ∧ zrf g g' pa o (T + 4) V V' t) ∨ ∃ g' PV' V' a' m' L' k d' p', spX5_rule gs pa g = zRend gs pa g.2.1 g' ∧ spX4_readsAll V = some (1, hf_ui V' 1 0) ∧ zRS gs pa o nm B T t g' PV' V' a' m' L' k k g.2.1 (g.2.1 + 1) d' p' ∧ g.2.1 ≤ d' ∧ hf_gm pa o g g' (T + 4) ∧ zvr V V' t := by
  have hT4 := P.T4
  obtain ⟨g3, x1, x2, x3, x4, x5, x6, x7⟩ := x_rule0 (gs := gs) N
  obtain ⟨WV, w3⟩ := P.w3
  obtain ⟨⟨_, _, ⟨XV, y1, -⟩, -⟩, y2, -⟩ := id P
  have P3 : hf_px g3 pa o PV B T := P.eq (x4 _ (N.olt y1)) (x4 _ (N.olt y2)) (x4 _ (N.olt w3))
  have wo3 : hf_wo g3 gs nm := wo.eq (fun q x e => by
    rw [x4 q (N.lt e)]
    exact e)
  have K3 : hf_gm pa o g g3 3 := ⟨fun q hq _ _ => x4 q hq, by omega, by omega, by omega, x7⟩
  obtain ⟨Va, hVa⟩ : ∃ y, y = hf_ua V 4 t 0 := ⟨_, rfl⟩
  obtain ⟨Vb, hVb⟩ : ∃ y, y = hf_ui (hf_ui (hf_ui (hf_ui Va 14 0) 8 0) 9 0) 12 0 := ⟨_, rfl⟩
  have Qb : zvr V Vb t := by
    rw [hVb, hVa]
    exact ((((((zvr.rfl_ V t).ua4 t 0).ui (by omega) _).ui (by omega) _).ui (by omega) _).ui (by omega) _)
  have ib : ∀ j, j ≠ 14 → j ≠ 8 → j ≠ 9 → j ≠ 12 → Vb.1 j = V.1 j := fun j h1 h2 h3 h4 => by
    rw [hVb, hf_ui_ne _ h4, hf_ui_ne _ h3, hf_ui_ne _ h2, hf_ui_ne _ h1, hVa]
    rfl
  have e2b : Vb.2 = Va.2 := by rw [hVb]; rfl
  have hM : spX4_readsAll V = hf_b2 (spX4_clauseHere Vb) fun x7 V6 => lpX4_readsAll_35 hf_N x7 V6 := by
    unfold spX4_readsAll
    rw [v11, z_sd (by omega) (by omega), ← hVa, hf_let_eq, hf_let_eq, hf_let_eq, hf_let_eq, ← hVb]
  have mtb : hf_mt Vb B T := ⟨mt.1, by rw [ib 1 (by decide) (by decide) (by decide) (by decide)]; exact mt.2.1, fun k hk => by
    rw [e2b, hVa, hf_ua_ne _ (by decide)]
    exact mt.2.2 k hk⟩
  have R3 : zRS gs pa o nm B T t g3 PV Vb 0 0 0 0 0 g.2.1 (g.2.1 + 1) (g.2.1 + 2) (fun _ => 0) := ⟨⟨x7, P3, p0, p1, p3, wo3, mtb, by rw [hVb, hf_ui_ne _ (by decide), hf_ui_ne _ (by decide), hf_ui_at]; rfl, by rw [hVb, hf_ui_ne _ (by decide), hf_ui_at], by rw [hVb, hf_ui_at]; rfl, Nat.zero_le _, Nat.zero_le _⟩, ⟨ht, by rw [ib 11 (by decide) (by decide) (by decide) (by decide)]; exact v11, by
    rw [e2b, hVa, hf_ua_at, if_pos rfl]
    rfl⟩, ⟨p2, p4, p5, by rw [hVb, hf_ui_ne _ (by decide), hf_ui_ne _ (by decide), hf_ui_ne _ (by decide), hf_ui_at]; rfl⟩, ⟨Nat.zero_le _, Nat.zero_le _⟩, by
    rw [e2b, hVa, hf_ua_ne _ (by decide), v6]
    rfl, x2, x3 _, fun j hj => absurd hj (Nat.not_lt_zero _)⟩
  unfold spX5_rule
  rw [hM, hf_mk_eq, x1, Option.bind_some, P3.pob]
  rcases xm_clauseR R3 K3 (by omega) (by omega) with ⟨g', V', z1, z2, c, q1, q2, q3, q4, q5, q6⟩ | ⟨g', PV', V', a', m', L', d', p', z1, z2, z3, z4, z5, z6, z7⟩
  · left
    rw [z1, hf_bT_inl, z2, hf_b2_some]
    exact ⟨g', _, rfl, m_readsFail q2 q3 q4 (hf_N - 1), hf_ui_at _ _ _, c, q1, by rw [hf_ui_ne _ (by decide)]; exact q2, q3, q4, q5.mono (by omega), (Qb.trans q6).ui (by omega) _⟩
  · rw [z1, hf_bT_inr, z2, hf_b2_some]
    have ha' := z3.1.2.2.2.2.2.2.2.2.2.2.1
    rcases xm_clausesR hf_N (by unfold hf_N; omega) z3 z6 (by omega) z5 with ⟨g'', V'', u1, u2, u0, c, q1, q2, q3, q4, q5, q6⟩ | ⟨g'', PV'', V'', a'', m'', L'', k'', d'', p'', u1, u2, u3, u4, u5, u6, u7⟩
    · left
      exact ⟨g'', V'', u1, u2, u0, c, q1, q2, q3, q4, q5.mono (by omega), (Qb.trans z7).trans q6⟩
    · right
      have ha'' := u3.1.2.2.2.2.2.2.2.2.2.2.1
      exact ⟨g'', PV'', V'', a'', m'', L'', k'', d'', p'', u1, u2, u3, u5, u6.mono (by omega), (Qb.trans z7).trans u7⟩
end ZQ
set_option maxRecDepth 100000
set_option maxHeartbeats 1000000
/-! the act: rule -/
/-- the cells that a read text may change -/
def zDr (o rl rd : Nat) : Nat → Prop := fun a => a = o ∨ a = o + 19 ∨ a = rl ∨ a = rd
section ZI
variable {P : Nat} {g g' : hf_H} {o f st kp rl rd : Nat} {V XV WV : hf_V} {ps ik sk : Nat → Nat} {v : Nat → Nat}
theorem zDr_dirt {nr : Nat} {p : Nat → Nat} (e : hf_ob 1 0 g o = some XV) (w3 : hf_ob 0 3 g (o + 19) = some WV) (L : hf_Ld g rl rd nr p) : hf_dirt (hf_rg rl rd) (zDr o rl rd) g := fun a ha => by
  obtain ⟨LV, N, B, y1, y2, y3, y4, y5, y6⟩ := L
  rcases ha with rfl | rfl | rfl | rfl
  · exact Or.inr ⟨1, 0, XV, e, Or.inl (by decide)⟩
  · exact Or.inr ⟨0, 3, WV, w3, Or.inr rfl⟩
  · refine Or.inl ⟨Or.inl rfl, fun md ci V e2 => ?_⟩
    have := (hf_ob_spec y1).symm.trans (hf_ob_spec e2)
    cases this
    rfl
  · refine Or.inl ⟨Or.inr rfl, fun md ci V e2 => ?_⟩
    unfold hf_Ar at y4
    rw [hf_ob_spec e2] at y4
    cases y4
theorem zDr_no {nr : Nat} {p : Nat → Nat} (e : hf_ob 1 0 g o = some XV) (w3 : hf_ob 0 3 g (o + 19) = some WV) (L : hf_Ld g rl rd nr p) {a md ci : Nat} {U : hf_V} (ea : hf_ob md ci g a = some U) (h0 : ¬ (md = 1 ∧ ci = 0)) (h3 : ¬ (md = 0 ∧ ci = 3)) (h19 : ci ≠ 19) : ¬ zDr o rl rd a := fun ha => by
  rcases ha with h | h | h | h
  · exact hf_ob_dif ea e h0 h
  · exact hf_ob_dif ea w3 h3 h
  · exact L.nl ea h19 h
  · exact L.nd ea h
theorem zDr_st {nr : Nat} {p : Nat → Nat} (e : hf_ob 1 0 g o = some XV) (w3 : hf_ob 0 3 g (o + 19) = some WV) (L : hf_Ld g rl rd nr p) {a : Nat} {x : hf_S} (ea : g.1 a = some (.inr (.inr x))) : ¬ zDr o rl rd a := fun ha => by
  obtain ⟨LV, N, B, y1, y2, y3, y4, y5, y6⟩ := L
  unfold hf_Ar at y4
  rcases ha with rfl | rfl | rfl | rfl
  · rw [hf_ob_spec e] at ea
    cases ea
  · rw [hf_ob_spec w3] at ea
    cases ea
  · rw [hf_ob_spec y1] at ea
    cases ea
  · rw [y4] at ea
    cases ea
theorem zDr_kf {nr : Nat} {p : Nat → Nat} (e : hf_ob 1 0 g o = some XV) (w3 : hf_ob 0 3 g (o + 19) = some WV) (L : hf_Ld g rl rd nr p) (K : hf_kp (zDr o rl rd) g g') (w3' : ∃ W, hf_ob 0 3 g' (o + 19) = some W) (h1 : g'.2.1 ≤ g.2.1 + 18000) (h2 : g'.2.2 ≤ g.2.2 + 84000) : hf_kf g g' := by
  refine ⟨fun a V ea => K.ob ea (zDr_no e w3 L ea (by decide) (by decide) (by decide)), fun a x ea => K a _ ea (zDr_st e w3 L ea), h1, h2, fun a V ea => ?_⟩
  by_cases c : a = o + 19
  · rw [c]
    exact w3'
  · refine ⟨V, K.ob ea (fun ha => ?_)⟩
    rcases ha with h | h | h | h
    · exact hf_ob_dif ea e (by decide) h
    · exact c h
    · exact L.nl ea (by decide) h
    · exact L.nd ea h
/-- the parser is made -/
theorem x_parser {gs : hf_gs} {nm most T : Nat} {B : Nat → Nat} (N : hf_no g) (e : hf_ob 1 0 g o = some XV) (w3 : hf_ob 0 3 g (o + 19) = some WV) (x4 : XV.2.2.1 4 = some (o + 19)) (hT : T ≤ 400) (x6 : XV.1 6 = Int32.ofNat T) (hB : ∀ k, k < 400 → XV.2.2.2.1 5 k = zbyt (B k) ∧ B k < 256) (wo : hf_wo g gs nm) : ∃ g' PV, spX5_init g.2.1 o nm (Int32.ofNat most) (hf_nw g (.inl (0, 5, hf_V0)) 7) = some g' ∧ hf_no g' ∧ hf_px g' g.2.1 o PV B T ∧ PV.2.2.1 0 = some nm ∧ PV.1 1 = 0 ∧ PV.1 2 = 0 ∧ PV.1 3 = 0 ∧ PV.1 4 = 0 ∧ PV.1 5 = Int32.ofNat most ∧ hf_wo g' gs nm ∧ (∀ q, q < g.2.1 → g'.1 q = g.1 q) ∧ g'.2.1 = g.2.1 + 1 ∧ g'.2.2 = g.2.2 + 7 := by
  obtain ⟨g1, hg1⟩ : ∃ y, y = hf_nw g (.inl (0, 5, hf_V0)) 7 := ⟨_, rfl⟩
  have N1 : hf_no g1 := by rw [hg1]; exact N.nw _ _
  have e1 : hf_ob 0 5 g1 g.2.1 = some hf_V0 := by rw [hg1]; exact ob_new g 0 5 hf_V0 7
  obtain ⟨PV, hPV⟩ : ∃ y, y = hf_ui (hf_uq (hf_uq hf_V0 6 (some o)) 0 (some nm)) 5 (Int32.ofNat most) := ⟨_, rfl⟩
  obtain ⟨g2, hg2⟩ : ∃ y, y = hf_up g1 g.2.1 (.inl (0, 5, PV)) := ⟨_, rfl⟩
  have k2 : ∀ q, q < g.2.1 → g2.1 q = g.1 q := fun q hq => by rw [hg2, up_ne _ (by omega), hg1, nw_lt _ _ hq]
  have i2 : ∀ j, j ≠ 5 → PV.1 j = 0 := fun j hj => by
    rw [hPV, hf_ui_ne _ hj]
    rfl
  have N2 : hf_no g2 := by rw [hg2]; exact N1.up e1 _
  refine ⟨g2, PV, ?_, N2, ⟨⟨hT, fun k hk => (hB k hk).2, ⟨XV, hf_ob_eq e (k2 _ (N.olt e)), x6, fun k hk => (hB k hk).1, x4⟩, WV, hf_ob_eq w3 (k2 _ (N.olt w3))⟩, by rw [hg2]; exact hf_ob_up _ _ _ _ _, by rw [hPV]; rfl⟩, by rw [hPV]; rfl, i2 1 (by decide), i2 2 (by decide), i2 3 (by decide), i2 4 (by decide), by rw [hPV, hf_ui_at], wo.eq (fun q x ex => by rw [k2 q (N.lt ex)]; exact ex), k2, ?_, ?_⟩
  · unfold spX5_init
    rw [← hg1, hf_pq_eq e1, Option.bind_some, hf_pq_eq (hf_ob_up _ _ _ _ _), Option.bind_some, hf_up_up, hf_pi_eq (hf_ob_up _ _ _ _ _), Option.bind_some, hf_up_up, hg2, hPV]
  · rw [hg2]
    show g1.2.1 = _
    rw [hg1]
    rfl
  · rw [hg2]
    show g1.2.2 = _
    rw [hg1]
    rfl
theorem hf_IT.bytes {V : hf_V} (H : hf_IT XV V v) : ∃ (T : Nat) (B : Nat → Nat), T ≤ 400 ∧ XV.1 6 = Int32.ofNat T ∧ V.1 1 = Int32.ofNat T ∧ ∀ k, k < 400 → (XV.2.2.2.1 5 k = zbyt (B k) ∧ B k < 256) ∧ V.2.2.2.1 0 k = zbyt (B k) := by
  obtain ⟨⟨T, t1, t2, t3⟩, d2, _⟩ := H
  have h : ∀ k, ∃ n, k < 400 → n < 256 ∧ V.2.2.2.1 0 k = zbyt n := fun k => by
    by_cases c : k < 400
    · obtain ⟨n, n1, n2⟩ := (d2 k c).2
      exact ⟨n, fun _ => ⟨n1, n2⟩⟩
    · exact ⟨0, fun z => absurd z c⟩
  refine ⟨T, fun k => Classical.choose (h k), t1, t2, t3, fun k hk => ?_⟩
  obtain ⟨n1, n2⟩ := Classical.choose_spec (h k) hk
  exact ⟨⟨(d2 k hk).1.trans n2, n1⟩, n2⟩
end ZI
