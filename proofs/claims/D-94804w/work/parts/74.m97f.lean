set_option maxRecDepth 100000
set_option maxHeartbeats 1000000
/-! image, the rest -/
section ZI
variable {P : Nat} {g : hf_H} {o f st kp rl rd : Nat} {V XV : hf_V} {ps ik sk : Nat → Nat} {v : Nat → Nat}
theorem op_imageT {k qi qs : Nat} {IV QV : hf_V} (aH : hf_IH g o XV f st kp rl ps) (aF : hf_Fs (hf_rg rl rd) g f v ∧ hf_SS g st v ∧ hf_wp P v ∧ hf_sv V v) (aR : hf_IR (hf_rg rl rd) g rl rd V) (aT : hf_IT XV V v) (aW : hf_IW V v) (aU : hf_IU P g XV V v ps) (hk : k < 4) (aI : ∀ k', k' < 4 → k' ≠ k → (XV.2.2.2.2.2 22 k' = none ∧ V.2.2.2.1 36 k' = 0) ∨ (XV.2.2.2.2.2 22 k' = some (ik k') ∧ V.2.2.2.1 36 k' = 1 ∧ hf_im P (hf_rg rl rd) g o V k' (ik k') (sk k') ∧ sk k' ≠ st ∧ sk k' ≠ kp ∧ (∀ j, j < 20 → sk k' ≠ ps j) ∧ (∀ k'', k'' < 4 → k'' ≠ k' → k'' ≠ k → XV.2.2.2.2.2 22 k'' ≠ none → ik k'' ≠ ik k' ∧ sk k'' ≠ sk k') ∧ qi ≠ ik k' ∧ qs ≠ sk k')) (hq : XV.2.2.2.2.2 22 k = some qi) (ei : hf_ob 1 18 g qi = some IV) (i7 : IV.2.2.1 7 = some o) (i1 : IV.2.2.1 1 = some qs) (es : hf_ob 1 2 g qs = some QV) (n1 : qs ≠ st) (n2 : qs ≠ kp) (n3 : ∀ j, j < 20 → qs ≠ ps j) (a8 : ∀ a, g.2.1 ≤ a → g.1 a = none) (a9 : ∀ k, (k < 5 ∨ 9 ≤ k) → ∃ n, n < 16777216 ∧ V.2.2.2.1 7 k = Int32.ofNat n) : ∃ g' V', ndX0_image_37 o (Int32.ofNat k) g = some (Int32.ofNat (v 3), g') ∧ spX4_image (Int32.ofNat k) V = some (Int32.ofNat (v 3), V') ∧ hf_INV P g' o V' ∧ hf_kq g g' ∧ g'.2 = g.2 := by
  obtain ⟨eo, h0, h1, h2, h3, ⟨KV, hk1⟩, hkn, hps⟩ := aH
  obtain ⟨f1, ⟨SV, s1, s2⟩, f3, f4⟩ := aF
  obtain ⟨V', m1, m2, m3, m4, m5, m6, m7⟩ := m_image f4 hk
  have hoq : o ≠ qi := hf_ob_dif eo ei (by decide)
  have hos : o ≠ qs := hf_ob_dif eo es (by decide)
  have hiq : qi ≠ qs := hf_ob_dif ei es (by decide)
  have hsq : st ≠ qi := hf_ob_dif s1 ei (by decide)
  obtain ⟨A, hA⟩ : ∃ A, A = hf_uq IV 0 (some f) := ⟨_, rfl⟩
  have A7 : A.2.2.1 7 = some o := by rw [hA]; exact i7
  have A1 : A.2.2.1 1 = some qs := by rw [hA]; exact i1
  have A0 : A.2.2.1 0 = some f := by
    rw [hA]
    unfold hf_uq
    simp
  have s1' : hf_ob 1 2 (hf_up g qi (.inl (1, 18, A))) st = some SV := by rw [hf_ob_ne hsq]; exact s1
  have es' : hf_ob 1 2 (hf_up g qi (.inl (1, 18, A))) qs = some QV := by rw [hf_ob_ne hiq.symm]; exact es
  have eo' : hf_ob 1 0 (hf_up g qi (.inl (1, 18, A))) o = some XV := by rw [hf_ob_ne hoq]; exact eo
  have ei' : hf_ob 1 18 (hf_up g qi (.inl (1, 18, A))) qi = some A := hf_ob_up g qi 1 18 A
  obtain ⟨DV, d1, d2⟩ := x_copyFrom s1' es' (Ne.symm n1)
  have eo2 : hf_ob 1 0 (hf_sc (hf_up g qi (.inl (1, 18, A))) qs DV) o = some XV := by
    unfold hf_sc
    rw [hf_ob_ne hos]; exact eo'
  have ei2 : hf_ob 1 18 (hf_sc (hf_up g qi (.inl (1, 18, A))) qs DV) qi = some A := by
    unfold hf_sc
    rw [hf_ob_ne hiq]; exact ei'
  obtain ⟨B, b1, b2, b3, b4, b5⟩ := x_keepL eo2 ei2 A7
  have hg' : hf_up (hf_sc (hf_up g qi (.inl (1, 18, A))) qs DV) qi (.inl (1, 18, B)) = hf_sc (hf_up g qi (.inl (1, 18, B))) qs DV := by
    unfold hf_sc
    rw [hf_up_comm _ hiq.symm, hf_up_up]
  rw [hg'] at b1
  obtain ⟨g', hgg⟩ : ∃ x, x = hf_sc (hf_up g qi (.inl (1, 18, B))) qs DV := ⟨_, rfl⟩
  rw [← hgg] at b1
  have ob : ∀ s md ci W, hf_ob md ci g s = some W → s ≠ qi → s ≠ qs → hf_ob md ci g' s = some W := fun s md ci W e m1 m2 => by
    rw [hgg]
    unfold hf_sc
    rw [hf_ob_ne m2, hf_ob_ne m1]
    exact e
  have K : hf_kq g g' := by
    rw [hgg]
    refine (hf_kq.up ei (Or.inr (Or.inr rfl)) _).trans (hf_kq.up (V := QV) (ci := 2) ?_ (Or.inr (Or.inl rfl)) _)
    rw [hf_ob_ne hiq.symm]
    exact es
  have eo3 := ob o 1 0 XV eo hoq hos
  have st3 : ∀ s W, hf_ob 1 2 g s = some W → s ≠ qs → hf_ob 1 2 g' s = some W := fun s W e m => ob s 1 2 W e (hf_ob_dif e ei (by decide)) m
  have SS3 : ∀ s w, hf_SS g s w → s ≠ qs → hf_SS g' s w := fun s w ⟨W, e1, e2⟩ m => ⟨W, st3 s W e1 m, e2⟩
  have qs3 : hf_SS g' qs v := by
    rw [hgg]
    exact hf_SS.sc _ qs (s2.cp f3.1 d2)
  have qi3 : hf_ob 1 18 g' qi = some B := by
    rw [hgg]
    unfold hf_sc
    rw [hf_ob_ne hiq]
    exact hf_ob_up g qi 1 18 B
  have rf : B.2.2.1 = A.2.2.1 := b2
  refine ⟨g', V', ?_, m1, ⟨XV, f, st, kp, rl, rd, ps, zup ik k qi, zup sk k qs, v, ⟨eo3, h0, h1, h2, h3, ⟨KV, st3 kp KV hk1 (Ne.symm n2)⟩, hkn, fun j hj => ?_⟩, ⟨f1.kq K, SS3 st v ⟨SV, s1, s2⟩ (Ne.symm n1), f3, fun j => ?_⟩, ?_, ?_, ?_, ?_, fun j hj => ?_, fun a ha => ?_, fun j hj => ?_⟩, K, by rw [hgg]; rfl⟩
  · unfold ndX0_image_37 spX18_keep
    have r7 : hf_ga 1 18 7 g qi = some o := by rw [hf_ga_eq ei, i7]
    have g7 : hf_ga 1 18 7 (hf_up g qi (.inl (1, 18, A))) qi = some o := by rw [hf_ga_eq ei', A7]
    have g1 : hf_ga 1 18 1 (hf_up g qi (.inl (1, 18, A))) qi = some qs := by rw [hf_ga_eq ei', A1]
    have g0 : hf_ga 1 0 0 g o = some f := by rw [hf_ga_eq eo, h0]
    have gs : hf_ga 1 0 1 (hf_up g qi (.inl (1, 18, A))) o = some st := by rw [hf_ga_eq eo', h1]
    have gs3 : hf_ga 1 0 1 g' o = some st := by rw [hf_ga_eq eo3, h1]
    have gn : hf_gi 1 2 4 g' st = some (Int32.ofNat (v 3)) := by rw [hf_gi_eq (st3 st SV s1 (Ne.symm n1)), s2.2.2]
    rw [eo, Option.bind_some, hf_aq_eq eo, z_ld hk (by omega), hq, hf_nn_some, Option.bind_some, ei, Option.bind_some, r7, Option.bind_some, g0, Option.bind_some, hf_pq_eq ei, Option.bind_some, ← hA, g1, Option.bind_some, g7, Option.bind_some, gs, Option.bind_some, es', Option.bind_some, d1, Option.bind_some]
    have b1' : lpX18_keep_27 hf_N qi (0 : Int32) (hf_sc (hf_up g qi (.inl (1, 18, A))) qs DV) = some g' := b1
    rw [b1', Option.bind_some, gs3, Option.bind_some, gn, Option.bind_some]
  · obtain ⟨r1, ⟨PV, r2⟩, r3, r4, r5⟩ := hps j hj
    exact ⟨r1, ⟨PV, st3 _ PV r2 (Ne.symm (n3 j hj))⟩, r3, r4, r5⟩
  · rw [m3 20 (by decide) (by decide) (by decide)]
    exact f4 j
  · obtain ⟨nr, p, c1, c2, c3, c4⟩ := aR
    exact ⟨nr, p, c1.kq K, c2, by rw [m2]; exact c3, fun t ht => ((c4 t ht).kq K).tx ⟨m3 3 (by decide) (by decide) (by decide), m3 5 (by decide) (by decide) (by decide), m3 6 (by decide) (by decide) (by decide)⟩⟩
  · obtain ⟨⟨T, t1, t2, t3⟩, d2, ⟨dr, e1, e2, e3⟩, d4⟩ := aT
    exact ⟨⟨T, t1, t2, by rw [m2]; exact t3⟩, fun j hj => by rw [m3 0 (by decide) (by decide) (by decide)]; exact d2 j hj, ⟨dr, e1, e2, by rw [m2]; exact e3⟩, d4⟩
  · exact aW.fe (hf_fe.rfl_ v) f3.1.v1 (m3 22 (by decide) (by decide) (by decide)) (m3 23 (by decide) (by decide) (by decide))
  · obtain ⟨u, pa, u1, u2, u3, u4, u5, u6⟩ := aU
    refine ⟨u, pa, u1, u2, u3, by rw [m2]; exact u4, u5, fun j hj => ?_⟩
    obtain ⟨w, w1, w2, w3, w4⟩ := u6 j hj
    have hm : (pa + 20 - u + j) % 20 < 20 := Nat.mod_lt _ (by decide)
    exact ⟨w, w1, w2, fun i hi => by rw [m3 24 (by decide) (by decide) (by decide)]; exact w3 i hi, SS3 _ w w4 (Ne.symm (n3 _ hm))⟩
  · by_cases e : j = k
    · subst e
      right
      obtain ⟨⟨T, t1, t2, t3⟩, d2', ⟨dr, e1, e2, e3⟩, ⟨q1, q2, q3⟩⟩ := aT
      refine ⟨by rw [zup_at]; exact hq, by rw [m7, if_pos rfl], ?_, by rw [zup_at]; exact n1, by rw [zup_at]; exact n2, fun i hi => by rw [zup_at]; exact n3 i hi, fun j' hj' hne hmade => ?_⟩
      · rw [zup_at, zup_at]
        refine ⟨B, f, v, dr, qi3, by rw [rf]; exact A7, by rw [rf]; exact A0, by rw [rf]; exact A1, f1.kq K, qs3, f3, m4, ⟨by rw [b4]; exact q1, q2, fun i hi => ?_⟩, e1, by rw [b5]; exact e2, by rw [m6, if_pos rfl]; exact e3⟩
        obtain ⟨x1, x2, x3, x4, x5, x6⟩ := q3 i hi
        obtain ⟨y1, y2, y3⟩ := b3 i (by omega)
        refine ⟨by rw [y1]; exact x1, x2, by rw [y2]; exact x3, x4, ?_, x6⟩
        rw [y3, x5]
        rcases (show v (86 + 3 * i + 2) = 0 ∨ v (86 + 3 * i + 2) = 1 by omega) with e | e <;> rw [e]
        · exact vp_nar01.1
        · exact vp_nar01.2
      · rcases aI j' hj' hne with ⟨z1, z2⟩ | ⟨z1, z2, z3, z4, z5, z6, z7, z8, z9⟩
        · exact absurd z1 hmade
        · rw [zup_ne _ hne, zup_ne _ hne, zup_at, zup_at]
          exact ⟨Ne.symm z8, Ne.symm z9⟩
    · rw [m7, if_neg e]
      rcases aI j hj e with ⟨z1, z2⟩ | ⟨z1, z2, ⟨IV', fk, w, d, r1, r2, r3, r4, r5, r6, r7, r8, r9, r10, r11, r12⟩, z4, z5, z6, z7, z8, z9⟩
      · exact Or.inl ⟨z1, z2⟩
      · right
        rw [zup_ne _ e, zup_ne _ e]
        refine ⟨z1, z2, ⟨IV', fk, w, d, ob _ 1 18 IV' r1 (Ne.symm z8) (hf_ob_dif r1 es (by decide)), r2, r3, r4, r5.kq K, SS3 _ w r6 (Ne.symm z9), r7, fun i hi => ?_, r9, r10, r11, by rw [m6, if_neg e]; exact r12⟩, z4, z5, z6, fun j' hj' hne hmade => ?_⟩
        · rw [m5 _ (by omega)]
          exact r8 i hi
        · by_cases e' : j' = k
          · subst e'
            rw [zup_at, zup_at]
            exact ⟨z8, z9⟩
          · rw [zup_ne _ e', zup_ne _ e']
            exact z7 j' hj' hne e' hmade
  · have ha2 : g.2.1 ≤ a := by
      have : g'.2 = g.2 := by rw [hgg]; rfl
      rw [this] at ha
      exact ha
    have h9 := a8 a ha2
    have x1 : a ≠ qi := fun z => by
      subst z
      rw [hf_ob_spec ei] at h9
      cases h9
    have x2 : a ≠ qs := fun z => by
      subst z
      rw [hf_ob_spec es] at h9
      cases h9
    rw [hgg]
    unfold hf_sc hf_up
    simp only [if_neg x1, if_neg x2]
    exact h9
  · rw [m3 7 (by decide) (by decide) (by decide)]
    exact a9 j hj
theorem op_image (J : hf_INV P g o V) (a : Int32) : hf_OPr P g o (spX0_image o a g) (spX4_image a V) := by
  obtain ⟨XV, f, st, kp, rl, rd, ps, ik, sk, v, I⟩ := J
  have m3 : ∀ x : Int32, spX4_in x.toInt64 (0 : Int64) (3 : Int64) = some (if zin x 4 then Int32.ofNat 1 else Int32.ofNat 0) := fun x => m_inl x (n := 3) (by decide)
  have x3 : spX0_in a.toInt64 (0 : Int64) (3 : Int64) = some (if zin a 4 then Int32.ofNat 1 else Int32.ofNat 0) := m3 a
  by_cases hz : zin a 4
  case neg =>
    unfold spX0_image spX4_image
    rw [x3, Option.bind_some, m3, Option.bind_some, z1F hz, z1F hz]
    exact I.same _
  obtain ⟨k, hk, rfl⟩ := zin_ex hz (by decide)
  unfold spX0_image
  rw [x3, Option.bind_some, z1T hz, I.X.ob, hf_aq_eq I.e, z_ld hk (by omega), Option.bind_some]
  have aI7 := I.2.2.2.2.2.2.1
  have aH := I.1
  rcases aI7 k hk with ⟨q1, q2⟩ | ⟨q1, q2, ⟨IV, fk, w, d, r1, r2, r3, r4, r5, r6, r7, r8⟩, q4, q5, q6, q7⟩
  · rw [q1, if_pos rfl, I.X.ob]
    obtain ⟨IV, SV, i1, i2, i3⟩ := x_imgInit g o
    obtain ⟨g2, hg2⟩ : ∃ x, x = hf_ol g [some (.inl (1, 18, IV)), some (.inl (1, 2, SV)), none, none, none, none, none, none, none] 73 := ⟨_, rfl⟩
    rw [← hg2] at i1
    have a8 := I.2.2.2.2.2.2.2.1
    have lo : ∀ q x, g.1 q = some x → q < g.2.1 := fun q x e => by
      by_cases z : q < g.2.1
      · exact z
      · have := a8 q (by omega)
        rw [this] at e
        cases e
    have keep : ∀ q x, g.1 q = some x → g2.1 q = some x := fun q x e => by
      rw [hg2, ol_lo g _ _ (lo q x e)]
      exact e
    have obk : ∀ s md ci W, hf_ob md ci g s = some W → hf_ob md ci g2 s = some W := fun s md ci W e => by
      have h1 := keep _ _ (hf_ob_spec e)
      unfold hf_ob
      rw [h1]
      simp
    have K2 : hf_kq g g2 := fun a x e _ => keep a x e
    have e18 : hf_ob 1 18 g2 g.2.1 = some IV := by
      rw [hg2]
      exact ol_ob (k := 0) (Nat.le_of_ble_eq_true rfl) rfl
    have e2s : hf_ob 1 2 g2 (g.2.1 + 1) = some SV := by
      rw [hg2]
      exact ol_ob (k := 1) (Nat.le_of_ble_eq_true rfl) rfl
    have n2 : ∀ a, g2.2.1 ≤ a → g2.1 a = none := fun a ha => by
      have h1 : g2.2.1 = g.2.1 + 9 := by rw [hg2]; rfl
      have h2 := a8 a (by omega)
      rw [hg2]
      unfold hf_ol
      show (if a < g.2.1 then g.1 a else if a < g.2.1 + 9 then _ else g.1 a) = none
      rw [if_neg (by omega), if_neg (by omega)]
      exact h2
    have I2 : hf_I P g2 o V XV f st kp rl rd ps ik sk v := by
      obtain ⟨SW, sw1, sw2⟩ := I.S
      obtain ⟨KV, kv1⟩ := I.1.2.2.2.2.2.1
      exact I.act K2 (obk o 1 0 XV I.e) (hf_xz.rfl_ XV) (hf_mz.rfl_ V) ⟨SW, obk st 1 2 SW sw1, sw2⟩ I.Wp (hf_fe.rfl_ v) I.sv (fun _ _ => rfl) (fun s W _ _ e => obk s 1 2 W e) ⟨KV, obk kp 1 2 KV kv1⟩ (fun i W e => obk i 1 18 W e) n2
    -- the new image is put at its place
    obtain ⟨XV', hX'⟩ : ∃ X, X = hf_uQ XV 22 k (some g.2.1) := ⟨_, rfl⟩
    have x22 : ∀ j, XV'.2.2.2.2.2 22 j = if j = k then some g.2.1 else XV.2.2.2.2.2 22 j := fun j => by
      rw [hX']
      unfold hf_uQ
      simp
    have x13 : XV'.2.2.2.2.2 13 = XV.2.2.2.2.2 13 := by
      rw [hX']
      unfold hf_uQ
      simp
    have xr : XV'.2.2.1 = XV.2.2.1 := by rw [hX']; rfl
    have xa : XV'.2.2.2.1 = XV.2.2.2.1 := by rw [hX']; rfl
    have xi : XV'.1 = XV.1 := by rw [hX']; rfl
    obtain ⟨g3, hg3⟩ : ∃ x, x = hf_xc g2 o XV' := ⟨_, rfl⟩
    have K3 : hf_kq g2 g3 := by rw [hg3]; exact hf_kq.up I2.e (Or.inl rfl) _
    have ob3 : ∀ s md ci W, hf_ob md ci g2 s = some W → s ≠ o → hf_ob md ci g3 s = some W := fun s md ci W e n => by
      rw [hg3]
      unfold hf_xc
      rw [hf_ob_ne n]
      exact e
    have st3 : ∀ s W, hf_ob 1 2 g2 s = some W → hf_ob 1 2 g3 s = some W := fun s W e => ob3 s 1 2 W e (hf_ob_dif e I2.e (by decide))
    have SS3 : ∀ s w, hf_SS g2 s w → hf_SS g3 s w := fun s w ⟨W, e1, e2⟩ => ⟨W, st3 s W e1, e2⟩
    have lts : ∀ s W, hf_ob 1 2 g s = some W → g.2.1 + 1 ≠ s := fun s W e => by
      have := lo _ _ (hf_ob_spec e)
      omega
    obtain ⟨⟨b1, b2, b3, b4, b5, ⟨KV, b6⟩, b7, b8⟩, ⟨f1, f2, f3, f4⟩, ⟨nr, p, c1, c2, c3, c4⟩, ⟨t1, t2, t3, t4⟩, i5, ⟨u, pa, u1, u2, u3, u4, u5, u6⟩, i7, i8, i9⟩ := I2
    obtain ⟨SW, sw1, sw2⟩ := I.S
    obtain ⟨KV0, kv1⟩ := I.1.2.2.2.2.2.1
    obtain ⟨g', V', y1, y2, y3, y4, y5⟩ := op_imageT (g := g3) (o := o) (f := f) (st := st) (kp := kp) (rl := rl) (rd := rd) (V := V) (XV := XV') (ps := ps) (ik := ik) (sk := sk) (v := v) (P := P) (k := k) (qi := g.2.1) (qs := g.2.1 + 1) (IV := IV) (QV := SV) ⟨by rw [hg3]; exact hf_ob_xc g2 o XV', by rw [xr]; exact b2, by rw [xr]; exact b3, by rw [xr]; exact b4, by rw [xr]; exact b5, ⟨KV, st3 kp KV b6⟩, b7, fun j hj => by
        obtain ⟨z1, ⟨PV, z2⟩, z3, z4, z5⟩ := b8 j hj
        rw [x13]
        exact ⟨z1, ⟨PV, st3 _ PV z2⟩, z3, z4, z5⟩⟩ ⟨f1.kq K3, SS3 st v f2, f3, f4⟩ ⟨nr, p, c1.kq K3, c2, c3, fun t ht => (c4 t ht).kq K3⟩ ⟨by rw [xi]; exact t1, by rw [xa]; exact t2, by rw [xi]; exact t3, by rw [xa, xi]; exact t4⟩ i5 ⟨u, pa, u1, u2, by rw [xi]; exact u3, u4, by rw [xi]; exact u5, fun j hj => by
          obtain ⟨w, w1, w2, w3, w4⟩ := u6 j hj
          exact ⟨w, w1, w2, w3, SS3 _ w w4⟩⟩ hk (fun k' hk' hne => by
          rw [x22, if_neg hne]
          rcases aI7 k' hk' with z | ⟨z1, z2, ⟨IV', fk, w, d, r1, r2, r3, r4, r5, r6, r7⟩, z4, z5, z6, z7⟩
          · exact Or.inl z
          · right
            refine ⟨z1, z2, ⟨IV', fk, w, d, ob3 _ 1 18 IV' (obk _ 1 18 IV' r1) (hf_ob_dif (obk _ 1 18 IV' r1) b1 (by decide)), r2, r3, r4, (r5.kq K2).kq K3, ?_, r7⟩, z4, z5, z6, fun k'' hk'' h1 h2 h3 => ?_, ?_, ?_⟩
            · obtain ⟨W, e1, e2⟩ := r6
              exact ⟨W, st3 _ W (obk _ 1 2 W e1), e2⟩
            · rw [x22, if_neg h2] at h3
              exact z7 k'' hk'' h1 h3
            · have := lo _ _ (hf_ob_spec r1)
              omega
            · obtain ⟨W, e1, e2⟩ := r6
              exact lts _ W e1) (by rw [x22, if_pos rfl]) (ob3 _ 1 18 IV e18 (hf_ob_dif e18 b1 (by decide))) i2 i3 (st3 _ SV e2s) (lts st SW sw1) (lts kp KV0 kv1) (fun j hj => by
          obtain ⟨z1, ⟨PV, z2⟩, -⟩ := aH.2.2.2.2.2.2.2 j hj
          exact lts _ PV z2) (fun a ha => by
          have ha2 : g2.2.1 ≤ a := by
            have : g3.2 = g2.2 := by rw [hg3]; rfl
            rw [this] at ha
            exact ha
          have h1 := n2 a ha2
          have h2 : a ≠ o := fun z => by
            subst z
            rw [hf_ob_spec b1] at h1
            cases h1
          rw [hg3]
          unfold hf_xc hf_up
          simp only [if_neg h2]
          exact h1) i9
    have sq : hf_sq 0 22 4 g2 o (Int32.ofNat k) (some g.2.1) = some g3 := by
      rw [hf_sq_eq b1 22 hk (by omega), hg3, hX']
      rfl
    have hmk : ∀ K : Nat → hf_H → Option (Int32 × hf_H), hf_mk g (.inl (0, 18, hf_V0)) 8 (fun x3 g4 => (spX18_init x3 o g4).bind fun g5 => K x3 g5) = K g.2.1 g2 := fun K => by
      unfold hf_mk
      show Option.bind (spX18_init g.2.1 o (hf_nw g (.inl (0, 18, hf_V0)) 8)) (fun g5 => K g.2.1 g5) = _
      rw [i1]
      rfl
    have hall := hmk (fun x3 g5 => (hf_ob 1 18 g5 x3).bind fun _ => (hf_sq 0 22 4 g5 o (Int32.ofNat k) (some x3)).bind fun g6 => ndX0_image_37 o (Int32.ofNat k) g6)
    rw [e18, Option.bind_some, sq, Option.bind_some, y1] at hall
    refine ⟨_, g', V', hall, y2, y3, ?_⟩
    have Kall := (K2.trans K3).trans y4
    refine ⟨fun a V e => Kall.ob e (Or.inr (by decide)), fun a x e => Kall a _ e (fun ci V hx => by cases hx), ?_, ?_, fun a V e => ⟨V, Kall.ob e (Or.inl rfl)⟩⟩
    · rw [y5, hg3]
      show g2.2.1 ≤ _
      rw [hg2]
      show g.2.1 + 9 ≤ _
      omega
    · rw [y5, hg3]
      show g2.2.2 ≤ _
      rw [hg2]
      show g.2.2 + 73 ≤ _
      omega
  · rw [q1, if_neg (fun z => by cases z)]
    obtain ⟨QV, qv1, qv2⟩ := r6
    obtain ⟨b1, b2, b3, b4, b5, b6, b7, b8, b9⟩ := I
    obtain ⟨g', V', y1, y2, y3, y4, y5⟩ := op_imageT b1 b2 b3 b4 b5 b6 hk (fun k' hk' hne => by
      rcases b7 k' hk' with z | ⟨z1, z2, z3, z4, z5, z6, z7⟩
      · exact Or.inl z
      · right
        have h9 := z7 k hk (Ne.symm hne) (by rw [q1]; exact fun z => by cases z)
        exact ⟨z1, z2, z3, z4, z5, z6, fun k'' hk'' h1 _ h3 => z7 k'' hk'' h1 h3, h9⟩) q1 r1 r2 r4 qv1 q4 q5 q6 b8 b9
    rw [y1, y2]
    exact ⟨_, g', V', rfl, rfl, y3, y4.kf y5⟩
end ZI
set_option maxRecDepth 100000
set_option maxHeartbeats 1000000
/-! back -/
theorem x_backL {g : hf_H} {o ik : Nat} {XV IV : hf_V} (eo : hf_ob 1 0 g o = some XV) (ei : hf_ob 1 18 g ik = some IV) (hr : IV.2.2.1 7 = some o) : ∃ XV', lpX18_back_27 hf_N ik (Int32.ofNat 0) g = some (hf_up g o (.inl (1, 0, XV'))) ∧ XV'.2.2.1 = XV.2.2.1 ∧ XV'.2.2.2.2.2 = XV.2.2.2.2.2 ∧ XV'.2.2.2.1 5 = XV.2.2.2.1 5 ∧ (∀ k, k < 12 → XV'.2.2.2.1 7 k = IV.2.2.2.1 2 k ∧ XV'.2.2.2.1 8 k = IV.2.2.2.1 3 k ∧ XV'.2.2.2.1 9 k = vp_nar .boolean (IV.2.2.2.1 4 k)) ∧ (∀ k, k ≠ 10 → k ≠ 11 → k ≠ 14 → XV'.1 k = XV.1 k) ∧ XV'.1 10 = IV.1 5 ∧ XV'.1 11 = IV.1 6 ∧ XV'.1 14 = 0 := by
  have hne : ik ≠ o := hf_ob_dif ei eo (by decide)
  have hst : g = hf_up g o (.inl (1, 0, XV)) := (hf_up_self eo).symm
  have key : ∃ XV', lpX18_back_27 hf_N ik (Int32.ofNat 0) (hf_up g o (.inl (1, 0, XV))) = some (hf_up g o (.inl (1, 0, XV'))) ∧ XV'.2.2.1 = XV.2.2.1 ∧ XV'.2.2.2.2.2 = XV.2.2.2.2.2 ∧ XV'.2.2.2.1 5 = XV.2.2.2.1 5 ∧ (∀ k, k < 12 → XV'.2.2.2.1 7 k = IV.2.2.2.1 2 k ∧ XV'.2.2.2.1 8 k = IV.2.2.2.1 3 k ∧ XV'.2.2.2.1 9 k = vp_nar .boolean (IV.2.2.2.1 4 k)) ∧ (∀ k, k ≠ 10 → k ≠ 11 → k ≠ 14 → XV'.1 k = XV.1 k) ∧ XV'.1 10 = IV.1 5 ∧ XV'.1 11 = IV.1 6 ∧ XV'.1 14 = 0 := by
    refine hf_loopR (fun n i Y => lpX18_back_27 n ik (Int32.ofNat i) (hf_up g o (.inl (1, 0, Y)))) (fun i Y => Y.2.2.1 = XV.2.2.1 ∧ Y.2.2.2.2.2 = XV.2.2.2.2.2 ∧ Y.1 = XV.1 ∧ Y.2.2.2.1 5 = XV.2.2.2.1 5 ∧ ∀ k, k < i → Y.2.2.2.1 7 k = IV.2.2.2.1 2 k ∧ Y.2.2.2.1 8 k = IV.2.2.2.1 3 k ∧ Y.2.2.2.1 9 k = vp_nar .boolean (IV.2.2.2.1 4 k)) 12 (fun r => ∃ XV', r = some (hf_up g o (.inl (1, 0, XV'))) ∧ XV'.2.2.1 = XV.2.2.1 ∧ XV'.2.2.2.2.2 = XV.2.2.2.2.2 ∧ XV'.2.2.2.1 5 = XV.2.2.2.1 5 ∧ (∀ k, k < 12 → XV'.2.2.2.1 7 k = IV.2.2.2.1 2 k ∧ XV'.2.2.2.1 8 k = IV.2.2.2.1 3 k ∧ XV'.2.2.2.1 9 k = vp_nar .boolean (IV.2.2.2.1 4 k)) ∧ (∀ k, k ≠ 10 → k ≠ 11 → k ≠ 14 → XV'.1 k = XV.1 k) ∧ XV'.1 10 = IV.1 5 ∧ XV'.1 11 = IV.1 6 ∧ XV'.1 14 = 0) (fun i n Y hi hP => ?_) (fun n Y hP => ?_) XV ⟨rfl, rfl, rfl, rfl, fun k hk => by omega⟩ (fuel := hf_N) (by unfold hf_N; omega)
    · have fo : ∀ Y : hf_V, hf_ob 1 0 (hf_up g o (.inl (1, 0, Y))) o = some Y := fun Y => hf_ob_up g o 1 0 Y
      have fi : ∀ Y : hf_V, hf_ob 1 18 (hf_up g o (.inl (1, 0, Y))) ik = some IV := fun Y => by rw [hf_ob_ne hne]; exact ei
      have r7 : ∀ Y : hf_V, hf_ga 1 18 7 (hf_up g o (.inl (1, 0, Y))) ik = some o := fun Y => by rw [hf_ga_eq (fi Y), hr]
      refine ⟨hf_ua (hf_ua (hf_ua Y 7 i (IV.2.2.2.1 2 i)) 8 i (IV.2.2.2.1 3 i)) 9 i (vp_nar .boolean (IV.2.2.2.1 4 i)), ?_, hP.1, hP.2.1, hP.2.2.1, ?_, fun k hk => ?_⟩
      · show ndX18_back_27 (lpX18_back_27 n) _ _ _ = _
        unfold ndX18_back_27
        rw [z_lit, if_neg (z_nle (a := 12) (by omega) (by decide)), r7, Option.bind_some, fo, Option.bind_some, fi, Option.bind_some, hf_ai_eq (fi _), z_ld hi (by omega), Option.bind_some, hf_si_eq (fo _) 7 hi (by omega), Option.bind_some, hf_up_up, r7, Option.bind_some, fo, Option.bind_some, fi, Option.bind_some, hf_ai_eq (fi _), z_ld hi (by omega), Option.bind_some, hf_si_eq (fo _) 8 hi (by omega), Option.bind_some, hf_up_up, r7, Option.bind_some, fo, Option.bind_some, fi, Option.bind_some, hf_ai_eq (fi _), z_ld hi (by omega), Option.bind_some, hf_si_eq (fo _) 9 hi (by omega), Option.bind_some, hf_up_up, hf_let_eq, z_lit, z_add]
      · rw [hf_ua_ne _ (by decide), hf_ua_ne _ (by decide), hf_ua_ne _ (by decide)]; exact hP.2.2.2.1
      · rw [hf_ua_ne _ (by decide), hf_ua_ne _ (by decide), hf_ua_at, hf_ua_ne _ (by decide), hf_ua_at, hf_ua_ne _ (by decide), hf_ua_at, hf_ua_ne _ (by decide), hf_ua_ne _ (by decide)]
        by_cases e : k = i
        · subst e; rw [if_pos rfl, if_pos rfl, if_pos rfl]; exact ⟨rfl, rfl, rfl⟩
        · rw [if_neg e, if_neg e, if_neg e]; exact hP.2.2.2.2 k (by omega)
    · have fo : ∀ Y : hf_V, hf_ob 1 0 (hf_up g o (.inl (1, 0, Y))) o = some Y := fun Y => hf_ob_up g o 1 0 Y
      have fi : ∀ Y : hf_V, hf_ob 1 18 (hf_up g o (.inl (1, 0, Y))) ik = some IV := fun Y => by rw [hf_ob_ne hne]; exact ei
      have r7 : ∀ Y : hf_V, hf_ga 1 18 7 (hf_up g o (.inl (1, 0, Y))) ik = some o := fun Y => by rw [hf_ga_eq (fi Y), hr]
      obtain ⟨p1, p2, p3, p4, p5⟩ := hP
      refine ⟨hf_ui (hf_ui (hf_ui Y 10 (IV.1 5)) 11 (IV.1 6)) 14 0, ?_, p1, p2, p4, p5, fun k h1 h2 h3 => ?_, ?_, ?_, hf_ui_at _ _ _⟩
      · show ndX18_back_27 (lpX18_back_27 n) _ _ _ = _
        unfold ndX18_back_27 spX0_forgets
        rw [z_lit, if_pos (z_yle (a := 12) (by decide) (by decide)), r7, Option.bind_some, hf_gi_eq (fi _), Option.bind_some, hf_pi_eq (fo _), Option.bind_some, hf_up_up, r7, Option.bind_some, hf_gi_eq (fi _), Option.bind_some, hf_pi_eq (fo _), Option.bind_some, hf_up_up, r7, Option.bind_some, fo, Option.bind_some, hf_pi_eq (fo _), Option.bind_some, Option.bind_some, hf_up_up]
      · rw [hf_ui_ne _ h3, hf_ui_ne _ h2, hf_ui_ne _ h1, p3]
      · rw [hf_ui_ne _ (by decide), hf_ui_ne _ (by decide), hf_ui_at]
      · rw [hf_ui_ne _ (by decide), hf_ui_at]
  rw [← hst] at key
  exact key
section ZM
variable {V : hf_V} {v : Nat → Nat}
theorem m_backL (S : hf_sv V v) {k : Nat} (hk : k < 4) {w : Nat → Nat} (hw : ∀ i, i < 123 → V.2.2.2.1 34 (123 * k + i) = Int32.ofNat (w i)) (Wf : hf_wf w) : ∃ V', lpX4_back_40 hf_N (Int32.ofNat k) (Int32.ofNat 0) V = some (Int32.ofNat (w 3), V') ∧ V'.1 = V.1 ∧ (∀ j, j ≠ 20 → j ≠ 22 → j ≠ 23 → V'.2.2.2.1 j = V.2.2.2.1 j) ∧ hf_sv V' (fun i => if i < 123 then w i else v i) ∧ hf_IW V' (fun i => if i < 123 then w i else v i) := by
  have hvb : ∀ k, (fun i => if i < 123 then w i else v i) k < 16777216 := fun k => by
    show (if k < 123 then w k else v k) < 16777216
    split
    · exact Wf.b k
    · exact (S k).2
  have hst : V = hf_sd20 V (fun i => if i < 0 then w i else v i) := by
    have e : (fun i => if i < 0 then w i else v i) = v := by
      funext k
      rw [if_neg (by omega)]
    rw [e, S.self]
  obtain ⟨V2, hV2⟩ : ∃ V2, V2 = hf_sd20 V (fun i => if i < 123 then w i else v i) := ⟨_, rfl⟩
  have S2 : hf_sv V2 (fun i => if i < 123 then w i else v i) := by rw [hV2]; exact hf_sd20_sv V hvb
  have h1 : (fun i => if i < 123 then w i else v i) 1 = w 1 := if_pos (by decide)
  have mf := m_fillsWorth S2 (h1 ▸ Wf.v1 : (fun i => if i < 123 then w i else v i) 1 ≤ 12)
  have key : ∀ N9, 123 < N9 → lpX4_back_40 N9 (Int32.ofNat k) (Int32.ofNat 0) (hf_sd20 V (fun i => if i < 0 then w i else v i)) = (spX4_fillsWorth V2).bind fun V1 => some (Int32.ofNat (w 3), V1) := by
    intro N9 hN9
    refine hf_loop (fun n i => lpX4_back_40 n (Int32.ofNat k) (Int32.ofNat i) (hf_sd20 V (fun j => if j < i then w j else v j))) 123 _ (fun i n hi => ?_) (fun n => ?_) hN9
    · show ndX4_back_40 (lpX4_back_40 n) _ _ _ = _
      unfold ndX4_back_40
      have h2 : (hf_sd20 V (fun j => if j < i then w j else v j)).2.2.2.1 34 = V.2.2.2.1 34 := hf_sa_ne V (by decide) _
      have a1 : (123 : Int32) * Int32.ofNat k + Int32.ofNat i = Int32.ofNat (123 * k + i) := by rw [z_lit, z_mul, z_add]
      rw [a1, h2, z_lit, if_neg (z_nle (a := 123) (by omega) (by decide)), z_ld (by omega) (by omega), Option.bind_some, hw i hi, z_sd (by omega) (by omega), hf_sd20_ua, hf_let_eq, z_lit, z_add]
      congr 2
      funext j
      unfold zup
      by_cases e : j = i
      · rw [if_pos e, if_pos (by omega), e]
      · rw [if_neg e]
        show (if j < i then w j else v j) = _
        by_cases e2 : j < i
        · rw [if_pos e2, if_pos (by omega)]
        · rw [if_neg e2, if_neg (by omega)]
    · show ndX4_back_40 (lpX4_back_40 n) _ _ _ = _
      unfold ndX4_back_40
      rw [z_lit, if_pos (z_yle (a := 123) (by decide) (by decide)), ← hV2, mf, Option.bind_some, Option.bind_some]
      have h3 := (S2.sa (k := 22) (by decide) (zfW V2 (fun i => if i < 123 then w i else v i) (2 ^ (fun i => if i < 123 then w i else v i) 1 - 1))).sa (k := 23) (by decide) (zfM V2 (fun i => if i < 123 then w i else v i) (2 ^ (fun i => if i < 123 then w i else v i) 1 - 1))
      rw [h3.l3, Option.bind_some]
      rfl
  rw [← hst] at key
  refine ⟨_, (key hf_N (by unfold hf_N; omega)).trans (by rw [mf, Option.bind_some]), by rw [hV2]; rfl, fun j h20 h22 h23 => ?_, (S2.sa (by decide) _).sa (by decide) _, fun s hs => ⟨?_, fun h0 => ?_⟩⟩
  · rw [hf_sa_ne _ h23, hf_sa_ne _ h22, hV2]
    exact hf_sa_ne _ h20 _
  · rw [hf_sa_ne _ (by decide), hf_sa_at]
    exact zfW_at hs
  · rw [hf_sa_at]
    exact zfM_at hs h0
end ZM
section ZI
variable {P : Nat} {g : hf_H} {o f st kp rl rd : Nat} {V XV : hf_V} {ps ik sk : Nat → Nat} {v : Nat → Nat}
theorem op_back (J : hf_INV P g o V) (a : Int32) : hf_OPr P g o (spX0_back o a g) (spX4_back a V) := by
  obtain ⟨XV, f, st, kp, rl, rd, ps, ik, sk, v, I⟩ := J
  have m3 : ∀ x : Int32, spX4_in x.toInt64 (0 : Int64) (3 : Int64) = some (if zin x 4 then Int32.ofNat 1 else Int32.ofNat 0) := fun x => m_inl x (n := 3) (by decide)
  have x3 : spX0_in a.toInt64 (0 : Int64) (3 : Int64) = some (if zin a 4 then Int32.ofNat 1 else Int32.ofNat 0) := m3 a
  unfold spX0_back spX4_back
  rw [x3, Option.bind_some, m3, Option.bind_some]
  by_cases hz : zin a 4
  case neg =>
    rw [z1F hz, z1F hz]
    exact I.same _
  obtain ⟨k, hk, rfl⟩ := zin_ex hz (by decide)
  rw [z1T hz, z1T hz, I.X.ob, hf_aq_eq I.e, z_ld hk (by omega), Option.bind_some, z_ld hk (by omega), Option.bind_some]
  have I0 := I
  obtain ⟨⟨a1, a2, a3, a4, a5, ⟨KV, a6⟩, a7, a8⟩, ⟨b1, ⟨SV, b2, b2'⟩, b3, b4⟩, ⟨nr, p, c1, c2, c3, c4⟩, ⟨⟨T, t1, t2, t3⟩, d2, ⟨dr, e1, e2, e3⟩, d4⟩, i5, i6, i7, i8, i9⟩ := I
  rcases i7 k hk with ⟨q1, q2⟩ | ⟨q1, q2, ⟨IV, fk, w, d, r1, r2, r3, r4, r5, ⟨QV, r6, r6'⟩, r7, r8, r9, r10, r11, r12⟩, q4, q5, q6, q7⟩
  · rw [q1, q2, if_pos rfl, if_pos rfl]
    exact I0.same _
  rw [q1, q2, if_neg (show ¬ (some (ik k) = none) from fun z => by cases z), if_neg (show ¬ ((1 : Int32) = 0) by decide), I0.X.ob, hf_nn_some, Option.bind_some, r1, Option.bind_some, z_ld hk (by omega), Option.bind_some, r12, hf_let_eq, hf_let_eq]
  have n1 : ik k ≠ o := hf_ob_dif r1 a1 (by decide)
  have n2 : st ≠ o := hf_ob_dif b2 a1 (by decide)
  have n3 : sk k ≠ o := hf_ob_dif r6 a1 (by decide)
  have n4 : ik k ≠ st := hf_ob_dif r1 b2 (by decide)
  obtain ⟨XA, hXA⟩ : ∃ X, X = hf_uq XV 0 (some fk) := ⟨_, rfl⟩
  have A0 : XA.2.2.1 0 = some fk := by
    rw [hXA]
    unfold hf_uq
    simp
  have Aj : ∀ j, j ≠ 0 → XA.2.2.1 j = XV.2.2.1 j := fun j hj => by
    rw [hXA]
    unfold hf_uq
    simp [hj]
  obtain ⟨g1, hg1⟩ : ∃ x, x = hf_up g o (.inl (1, 0, XA)) := ⟨_, rfl⟩
  have o1 : hf_ob 1 0 g1 o = some XA := by rw [hg1]; exact hf_ob_up g o 1 0 XA
  have ob1 : ∀ s md ci W, hf_ob md ci g s = some W → s ≠ o → hf_ob md ci g1 s = some W := fun s md ci W e n => by
    rw [hg1, hf_ob_ne n]
    exact e
  have r1' := ob1 _ _ _ _ r1 n1
  have b2q := ob1 _ _ _ _ b2 n2
  have r6q := ob1 _ _ _ _ r6 n3
  obtain ⟨DV, y1, y2⟩ := x_copyFrom r6q b2q q4
  obtain ⟨g2, hg2⟩ : ∃ x, x = hf_sc g1 st DV := ⟨_, rfl⟩
  have ob2 : ∀ s md ci W, hf_ob md ci g1 s = some W → s ≠ st → hf_ob md ci g2 s = some W := fun s md ci W e n => by
    rw [hg2]
    unfold hf_sc
    rw [hf_ob_ne n]
    exact e
  have o2 := ob2 _ _ _ _ o1 (Ne.symm n2)
  have r2' := ob2 _ _ _ _ r1' n4
  obtain ⟨XB, x1, x2, xq, x4, x5, x6, x7, x8, x9⟩ := x_backL o2 r2' r2
  have x1' : lpX18_back_27 hf_N (ik k) (0 : Int32) g2 = _ := x1
  obtain ⟨g', hgg⟩ : ∃ x, x = hf_up g2 o (.inl (1, 0, XB)) := ⟨_, rfl⟩
  have ob3 : ∀ s md ci W, hf_ob md ci g2 s = some W → s ≠ o → hf_ob md ci g' s = some W := fun s md ci W e n => by
    rw [hgg, hf_ob_ne n]
    exact e
  have o3 : hf_ob 1 0 g' o = some XB := by rw [hgg]; exact hf_ob_up g2 o 1 0 XB
  have oball : ∀ s md ci W, hf_ob md ci g s = some W → s ≠ o → s ≠ st → hf_ob md ci g' s = some W := fun s md ci W e h1 h2 => ob3 _ _ _ _ (ob2 _ _ _ _ (ob1 _ _ _ _ e h1) h2) h1
  have ss3 : hf_ob 1 2 g' st = some DV := by
    refine ob3 _ _ _ _ ?_ n2
    rw [hg2]
    exact hf_ob_up g1 st 1 2 DV
  have K : hf_kq g g' := by
    have k1 : hf_kq g g1 := by rw [hg1]; exact hf_kq.up a1 (Or.inl rfl) _
    have k2 : hf_kq g1 g2 := by rw [hg2]; exact hf_kq.up b2q (Or.inr (Or.inl rfl)) _
    have k3 : hf_kq g2 g' := by rw [hgg]; exact hf_kq.up o2 (Or.inl rfl) _
    exact (k1.trans k2).trans k3
  have hX : (spX18_back (ik k) g).bind (fun g4 => (hf_ga 1 0 1 g4 o).bind fun x5 => (hf_gi 1 2 4 g4 x5).bind fun x6 => some (x6, g4)) = some (Int32.ofNat (w 3), g') := by
    unfold spX18_back
    have e1 : hf_pq 1 0 0 g o (some fk) = some g1 := by rw [hf_pq_eq a1, hg1, hXA]
    rw [hf_ga_eq r1, r2, Option.bind_some, hf_ga_eq r1, r3, Option.bind_some, e1, Option.bind_some, hf_ga_eq r1', r2, Option.bind_some, hf_ga_eq o1, Aj 1 (by decide), a3, Option.bind_some, hf_ga_eq r1', r4, Option.bind_some, b2q, Option.bind_some, y1, Option.bind_some, ← hg2, x1', ← hgg, Option.bind_some, hf_ga_eq o3, x2, Aj 1 (by decide), a3, Option.bind_some, hf_gi_eq ss3, y2.2.2, r6'.2.2, Option.bind_some]
  obtain ⟨V', m1, m2, m3', m4, m5⟩ := m_backL (V := hf_ui (hf_ui V 21 (Int32.ofNat d)) 25 0) ((b4.ui_ 21 _).ui_ 25 _) hk (w := w) r8 r7.1
  have m1' : lpX4_back_40 hf_N (Int32.ofNat k) (0 : Int32) (hf_ui (hf_ui V 21 (Int32.ofNat d)) 25 (0 : Int32)) = _ := m1
  rw [hX, m1']
  obtain ⟨vn, hvn⟩ : ∃ u : Nat → Nat, u = fun i => if i < 123 then w i else v i := ⟨_, rfl⟩
  rw [← hvn] at m4 m5
  have hlo : ∀ i, i < 123 → vn i = w i := fun i hi => by rw [hvn]; exact if_pos hi
  have hlo8 : ∀ i, i < 86 → vn i = w i := fun i hi => hlo i (by omega)
  have Wn : hf_wf vn := r7.1.lo hlo8 (fun i => (m4 i).2)
  have En : hf_fe w vn := (hf_fe.rfl_ w).lo r7.1 hlo8
  have Wp : hf_wp P vn := ⟨Wn, fun b hb => by
    rw [hlo 2 (by decide)] at hb
    have := r7.1.v2
    rw [hlo (70 + 4 * b) (by omega)]
    exact r7.2 b hb⟩
  have hi : ∀ j, j ≠ 21 → j ≠ 25 → V'.1 j = V.1 j := fun j h1 h2 => by rw [m2, hf_ui_ne _ h2, hf_ui_ne _ h1]
  have h21 : V'.1 21 = Int32.ofNat d := by rw [m2, hf_ui_ne _ (by decide), hf_ui_at]
  have h25 : V'.1 25 = 0 := by rw [m2, hf_ui_at]
  have har : ∀ j, j ≠ 20 → j ≠ 22 → j ≠ 23 → V'.2.2.2.1 j = V.2.2.2.1 j := m3'
  obtain ⟨u, pa, u1, u2, u3, u4, u5, u6⟩ := i6
  refine ⟨_, g', V', rfl, rfl, ⟨XB, fk, st, kp, rl, rd, ps, ik, sk, vn, ⟨o3, by rw [x2]; exact A0, by rw [x2, Aj 1 (by decide)]; exact a3, by rw [x2, Aj 2 (by decide)]; exact a4, by rw [x2, Aj 3 (by decide), Aj 4 (by decide)]; exact a5, ⟨KV, oball _ _ _ _ a6 (hf_ob_dif a6 a1 (by decide)) (Ne.symm a7)⟩, a7, fun j hj => ?_⟩, ⟨(r5.kq K).fe En, ⟨DV, ss3, (r6'.cp r7.1 y2).lo r7.1 hlo8⟩, Wp, m4⟩, ⟨nr, p, c1.kq K, c2, by rw [hi 2 (by decide) (by decide)]; exact c3, fun t ht => ((c4 t ht).kq K).tx ⟨har 3 (by decide) (by decide) (by decide), har 5 (by decide) (by decide) (by decide), har 6 (by decide) (by decide) (by decide)⟩⟩, ⟨⟨T, t1, ?_, ?_⟩, fun j hj => ?_, ⟨d, r10, by rw [x8]; exact r11, h21⟩, ?_⟩, m5, ⟨0, pa, by omega, u2, x9, h25, ?_, fun j hj => by omega⟩, fun j hj => ?_, fun a ha => ?_, fun j hj => ?_⟩, K.kf (by rw [hgg, hg2, hg1]; rfl)⟩
  · obtain ⟨z1, ⟨PV, z2⟩, z3, z4, z5⟩ := a8 j hj
    rw [xq, hXA]
    exact ⟨z1, ⟨PV, oball _ _ _ _ z2 (hf_ob_dif z2 a1 (by decide)) z3⟩, z3, z4, z5⟩
  · rw [x6 6 (by decide) (by decide) (by decide), hXA]; exact t2
  · rw [hi 1 (by decide) (by decide)]; exact t3
  · rw [x4, hXA, har 0 (by decide) (by decide) (by decide)]; exact d2 j hj
  · obtain ⟨h1, h2, h3⟩ := r9
    have g3 := hlo 122 (by decide)
    refine ⟨by rw [x7, g3]; exact h1, by rw [g3]; exact h2, fun j hj => ?_⟩
    rw [g3] at hj
    obtain ⟨z1, z2, z3, z4, z5, z6⟩ := h3 j hj
    obtain ⟨w1, w2, w3⟩ := x5 j (by omega)
    rw [hlo (86 + 3 * j) (by omega), hlo (86 + 3 * j + 1) (by omega), hlo (86 + 3 * j + 2) (by omega), hlo 1 (by decide), w1, w2, w3]
    refine ⟨z1, z2, z3, z4, ?_, z6⟩
    rw [z5]
    rcases (show w (86 + 3 * j + 2) = 0 ∨ w (86 + 3 * j + 2) = 1 by omega) with e | e <;> rw [e]
    · exact vp_nar01.1
    · exact vp_nar01.2
  · rw [x6 15 (by decide) (by decide) (by decide), hXA]; exact u5
  · rw [xq, hXA, har 36 (by decide) (by decide) (by decide)]
    rcases i7 j hj with z | ⟨z1, z2, ⟨IV', fk', w', d', s1, s2, s3, s4, s5, ⟨QV', s6, s6'⟩, s7, s8, s9, s10, s11, s12⟩, z4, z5, z6, z7⟩
    · exact Or.inl z
    · right
      refine ⟨z1, z2, ⟨IV', fk', w', d', oball _ _ _ _ s1 (hf_ob_dif s1 a1 (by decide)) (hf_ob_dif s1 b2 (by decide)), s2, s3, s4, s5.kq K, ⟨QV', oball _ _ _ _ s6 (hf_ob_dif s6 a1 (by decide)) z4, s6'⟩, s7, fun i hi' => ?_, s9, s10, s11, ?_⟩, z4, z5, z6, z7⟩
      · rw [har 34 (by decide) (by decide) (by decide)]; exact s8 i hi'
      · rw [har 35 (by decide) (by decide) (by decide)]; exact s12
  · have ha2 : g.2.1 ≤ a := by
      have : g'.2 = g.2 := by rw [hgg, hg2, hg1]; rfl
      rw [this] at ha
      exact ha
    have h1 := i8 a ha2
    have m1 : a ≠ st := fun z => by
      subst z
      rw [hf_ob_spec b2] at h1
      cases h1
    have m2 : a ≠ o := fun z => by
      subst z
      rw [hf_ob_spec a1] at h1
      cases h1
    rw [hgg, hg2, hg1]
    unfold hf_sc hf_up
    simp only [if_neg m1, if_neg m2]
    exact h1
  · rw [har 7 (by decide) (by decide) (by decide)]
    exact i9 j hj
end ZI
set_option maxRecDepth 100000
set_option maxHeartbeats 1000000
/-! walks: what can be bought where one is -/
def zcost (v : Nat → Nat) (n S : Nat) : Nat := zsum (fun k => if S.testBit k then v (10 + 5 * k + 2) else 0) n
theorem zcost_le (v : Nat → Nat) (S : Nat) : ∀ n, (∀ k, k < n → v (10 + 5 * k + 2) ≤ 99) → zcost v n S ≤ 99 * n
  | 0, _ => Nat.zero_le _
  | n + 1, h => by
    have h1 := zcost_le v S n (fun k hk => h k (by omega))
    have h2 := h n (by omega)
    show zsum _ n + (if S.testBit n then v (10 + 5 * n + 2) else 0) ≤ _
    unfold zcost at h1
    split <;> omega
/-- the can's array stands well -/
def hf_cz (c : Nat → Int32) : Prop := ∀ i, i < 32768 → c i = 0 ∨ c i = 1
/-- the same but for the walk's arrays -/
def hf_wz (A B : hf_V) : Prop := B.2.2.1 = A.2.2.1 ∧ B.1 = A.1 ∧ B.2.2.2.2 = A.2.2.2.2 ∧ ∀ j, j ≠ 17 → j ≠ 18 → B.2.2.2.1 j = A.2.2.2.1 j
theorem hf_wz.rfl_ (A : hf_V) : hf_wz A A := ⟨rfl, rfl, rfl, fun _ _ _ => rfl⟩
theorem hf_wz.trans {A B C : hf_V} (H : hf_wz A B) (K : hf_wz B C) : hf_wz A C := ⟨K.1.trans H.1, K.2.1.trans H.2.1, K.2.2.1.trans H.2.2.1, fun j a b => (K.2.2.2 j a b).trans (H.2.2.2 j a b)⟩
theorem hf_wz.ua {A B : hf_V} (H : hf_wz A B) {k : Nat} (hk : k = 17 ∨ k = 18) (i : Nat) (x : Int32) : hf_wz A (hf_ua B k i x) := ⟨H.1, H.2.1, H.2.2.1, fun j a b => by rw [hf_ua_ne _ (by omega)]; exact H.2.2.2 j a b⟩
theorem hf_cz.ua {c : Nat → Int32} (H : hf_cz c) {B : hf_V} (e : B.2.2.2.1 17 = c) (i : Nat) : hf_cz ((hf_ua B 17 i 1).2.2.2.1 17) := fun j hj => by
  rw [hf_ua_at, e]
  by_cases h : j = i
  · rw [if_pos h]; exact Or.inr rfl
  · rw [if_neg h]; exact H j hj
theorem z_row (p S : Nat) : (4096 : Int32) * Int32.ofNat p + Int32.ofNat S = Int32.ofNat (4096 * p + S) := by rw [z_lit, z_mul, z_add]
theorem z_lt_or {S k : Nat} (h : S.testBit k = false) : S < S ||| 1 <<< k := by
  have h1 : S ≤ S ||| 1 <<< k := Nat.left_le_or
  have h2 : S ≠ S ||| 1 <<< k := fun e => by
    have h3 : (S ||| 1 <<< k).testBit k = true := by rw [Nat.testBit_or, zbit1]; simp
    rw [← e, h] at h3
    cases h3
  omega
/-- one more half can be bought where one is -/
def zpk (v : Nat → Nat) (q t p S k : Nat) : Prop := ((zat v (zst v p t)).testBit k = true ∧ S.testBit k = false) ∧ zcost v (v 1) (S ||| 1 <<< k) ≤ q
def zcl (v : Nat → Nat) (q t p S0 S : Nat) : Prop := ∀ Q : Nat → Prop, Q S0 → (∀ S' k, Q S' → k < v 1 → zpk v q t p S' k → Q (S' ||| 1 <<< k)) → Q S
theorem zcl.rfl_ {v : Nat → Nat} {q t p : Nat} (S : Nat) : zcl v q t p S S := fun _ h _ => h
theorem zcl.step {v : Nat → Nat} {q t p : Nat} (S S' k : Nat) (H : zcl v q t p S S') (h1 : k < v 1) (h2 : zpk v q t p S' k) : zcl v q t p S (S' ||| 1 <<< k) := fun Q a b => b S' k (H Q a b) h1 h2
section ZX
variable {h : hf_H} {o f s : Nat} {v : Nat → Nat}
theorem x_costOf (X : hf_XX h o f s) (F : hf_F h f v) (W : hf_wf v) {S : Nat} (hS : S < 4096) : spX0_costOf o (Int32.ofNat S) h = some (Int32.ofNat (zcost v (v 1) S), h) := by
  have q1 := W.v1
  unfold spX0_costOf
  refine hf_loop (fun n i => lpX0_costOf_4 n o (Int32.ofNat S) (Int32.ofNat (zcost v i S)) (Int32.ofNat i) h) (v 1) _ (fun i n hi => ?_) (fun n => ?_) (fuel := hf_N) (by unfold hf_N; omega)
  · show ndX0_costOf_4 (lpX0_costOf_4 n) _ _ _ _ _ = _
    unfold ndX0_costOf_4 ndX0_costOf_42
    rw [X.ob, x_many X F, hf_b2_some, if_neg (z_nle hi (by omega)), x_has (by omega) (by omega), Option.bind_some]
    have e : zcost v (i + 1) S = zcost v i S + (if S.testBit i then v (10 + 5 * i + 2) else 0) := rfl
    by_cases hb : S.testBit i = true
    · rw [if_pos hb, if_neg (show ¬ (Int32.ofNat 1 = 0) by decide), X.fa, Option.bind_some, F.price W hi, hf_let_eq, hf_let_eq, z_lit, z_add, z_add, e, if_pos hb]
    · rw [if_neg hb, if_pos (show Int32.ofNat 0 = 0 from rfl), hf_let_eq, hf_let_eq, z_lit, z_lit, z_add, z_add, e, if_neg hb]
  · show ndX0_costOf_4 (lpX0_costOf_4 n) _ _ _ _ _ = _
    unfold ndX0_costOf_4
    rw [X.ob, x_many X F, hf_b2_some, if_pos (z_yle (Nat.le_refl _) (by omega))]
end ZX
section ZW
variable {g : hf_H} {o f st : Nat} {v : Nat → Nat} {XV : hf_V}
theorem x_wb3 (e : hf_ob 1 0 g o = some XV) (X : hf_XX g o f st) (F : hf_F g f v) (W : hf_wf v) {k2 : Nat → Int32 → Int32 → Int32 → hf_H → Option hf_H} {k38 : Nat → Int32 → Int32 → Int32 → Int32 → Int32 → hf_H → Option hf_H} {t q p S : Nat} {a : Int32} (hq : q < 1000000) (hp : p < 8) (hS : S < 2 ^ v 1) {Y0 : hf_V} (Z0 : hf_wz XV Y0) (C0 : hf_cz (Y0.2.2.2.1 17)) : ∃ Y, lpX0_buysAll_71 k2 k38 hf_N o a (Int32.ofNat q) (Int32.ofNat p) (Int32.ofNat (zat v (zst v p t))) (Int32.ofNat S) (Int32.ofNat 0) (hf_xc g o Y0) = k38 o a (Int32.ofNat q) (Int32.ofNat p) (Int32.ofNat (zat v (zst v p t))) (Int32.ofNat (S + 1)) (hf_xc g o Y) ∧ hf_wz XV Y ∧ hf_cz (Y.2.2.2.1 17) ∧ (∀ i, Y0.2.2.2.1 17 i = 1 → Y.2.2.2.1 17 i = 1) ∧ (∀ i, Y.2.2.2.1 17 i = 1 → Y0.2.2.2.1 17 i = 1 ∨ ∃ k, k < v 1 ∧ zpk v q t p S k ∧ i = 4096 * p + (S ||| 1 <<< k)) ∧ ∀ k, k < v 1 → zpk v q t p S k → Y.2.2.2.1 17 (4096 * p + (S ||| 1 <<< k)) = 1 := by
  have q1 := W.v1
  obtain ⟨p1, p2, p3⟩ := zpow12 q1
  have hat := zat_lt v (zst v p t) q1
  refine hf_loopR (fun n i Y => lpX0_buysAll_71 k2 k38 n o a (Int32.ofNat q) (Int32.ofNat p) (Int32.ofNat (zat v (zst v p t))) (Int32.ofNat S) (Int32.ofNat i) (hf_xc g o Y)) (fun i Y => hf_wz XV Y ∧ hf_cz (Y.2.2.2.1 17) ∧ (∀ j, Y0.2.2.2.1 17 j = 1 → Y.2.2.2.1 17 j = 1) ∧ (∀ j, Y.2.2.2.1 17 j = 1 → Y0.2.2.2.1 17 j = 1 ∨ ∃ k, k < v 1 ∧ zpk v q t p S k ∧ j = 4096 * p + (S ||| 1 <<< k)) ∧ ∀ k, k < i → zpk v q t p S k → Y.2.2.2.1 17 (4096 * p + (S ||| 1 <<< k)) = 1) (v 1) (fun r => ∃ Y, r = k38 o a (Int32.ofNat q) (Int32.ofNat p) (Int32.ofNat (zat v (zst v p t))) (Int32.ofNat (S + 1)) (hf_xc g o Y) ∧ hf_wz XV Y ∧ hf_cz (Y.2.2.2.1 17) ∧ (∀ i, Y0.2.2.2.1 17 i = 1 → Y.2.2.2.1 17 i = 1) ∧ (∀ i, Y.2.2.2.1 17 i = 1 → Y0.2.2.2.1 17 i = 1 ∨ ∃ k, k < v 1 ∧ zpk v q t p S k ∧ i = 4096 * p + (S ||| 1 <<< k)) ∧ ∀ k, k < v 1 → zpk v q t p S k → Y.2.2.2.1 17 (4096 * p + (S ||| 1 <<< k)) = 1) (fun i n Y hi hP => ?_) (fun n Y hP => ?_) Y0 ⟨Z0, C0, fun _ h => h, fun _ h => Or.inl h, fun k hk => by omega⟩ (fuel := hf_N) (by unfold hf_N; omega)
  · obtain ⟨z1, z2, z3, z4, z5⟩ := hP
    have XY : hf_XX (hf_xc g o Y) o f st := X.xc e (by rw [z1.1]) (by rw [z1.1])
    have FY : hf_F (hf_xc g o Y) f v := F.xc e Y
    have eY : hf_ob 1 0 (hf_xc g o Y) o = some Y := hf_ob_xc g o Y
    have hSk : S ||| 1 <<< i < 2 ^ v 1 := z_or1b hS hi
    have hc := zcost_le v (S ||| 1 <<< i) (v 1) (fun k hk => (W.2.1 k hk).2.2.1)
    by_cases hz : zpk v q t p S i
    · refine ⟨hf_ua Y 17 (4096 * p + (S ||| 1 <<< i)) 1, ?_, z1.ua (Or.inl rfl) _ _, z2.ua rfl _, fun j hj => ?_, fun j hj => ?_, fun k hk hz' => ?_⟩
      · show ndX0_buysAll_71 k2 k38 (lpX0_buysAll_71 k2 k38 n) _ _ _ _ _ _ _ _ = _
        unfold ndX0_buysAll_71 ndX0_buysAll_129
        have hb : (hf_nd (zat v (zst v p t)) S).testBit i = true := by rw [hf_nd_bit, hz.1.1, hz.1.2]; rfl
        rw [XY.ob, x_many XY FY, hf_b2_some, if_neg (z_nle hi (by omega)), z_nd, x_has (Nat.lt_of_le_of_lt (hf_nd_le _ _) (by omega)) (by omega), Option.bind_some, if_pos hb, if_neg (show ¬ (Int32.ofNat 1 = 0) by decide), XY.ob, z_sh1 (by omega), z_or, x_costOf XY FY W (by omega), hf_b2_some, if_neg (fun z => by
          rw [z_lt (by omega) (by omega)] at z
          have := hz.2
          omega), XY.ob, z_row, vp_nar01.2, hf_si_eq eY 17 (by omega) (by omega), Option.bind_some, hf_let_eq, z_lit, z_add]
        unfold hf_xc
        rw [hf_up_up]
      · rw [hf_ua_at]
        split
        · rfl
        · exact z3 j hj
      · rw [hf_ua_at] at hj
        by_cases ej : j = 4096 * p + (S ||| 1 <<< i)
        · exact Or.inr ⟨i, hi, hz, ej⟩
        · rw [if_neg ej] at hj
          exact z4 j hj
      · rw [hf_ua_at]
        split
        · rfl
        · rename_i ne
          by_cases ek : k = i
          · subst ek
            exact absurd rfl ne
          · exact z5 k (by omega) hz'
    · refine ⟨Y, ?_, z1, z2, z3, z4, fun k hk hz' => ?_⟩
      · show ndX0_buysAll_71 k2 k38 (lpX0_buysAll_71 k2 k38 n) _ _ _ _ _ _ _ _ = _
        unfold ndX0_buysAll_71 ndX0_buysAll_129
        rw [XY.ob, x_many XY FY, hf_b2_some, if_neg (z_nle hi (by omega)), z_nd, x_has (Nat.lt_of_le_of_lt (hf_nd_le _ _) (by omega)) (by omega), Option.bind_some]
        by_cases hb : (hf_nd (zat v (zst v p t)) S).testBit i = true
        · have hb2 := hb
          rw [hf_nd_bit, Bool.and_eq_true] at hb2
          rw [if_pos hb, if_neg (show ¬ (Int32.ofNat 1 = 0) by decide), XY.ob, z_sh1 (by omega), z_or, x_costOf XY FY W (by omega), hf_b2_some, if_pos (by
            rw [z_lt (by omega) (by omega)]
            refine Nat.lt_of_not_le (fun hle => hz ⟨⟨hb2.1, by simpa using hb2.2⟩, hle⟩)), hf_let_eq, z_lit, z_add]
        · rw [if_neg hb, if_pos (show Int32.ofNat 0 = 0 from rfl), hf_let_eq, z_lit, z_add]
      · by_cases ek : k = i
        · subst ek; exact absurd hz' hz
        · exact z5 k (by omega) hz'
  · obtain ⟨z1, z2, z3, z4, z5⟩ := hP
    have XY : hf_XX (hf_xc g o Y) o f st := X.xc e (by rw [z1.1]) (by rw [z1.1])
    have FY : hf_F (hf_xc g o Y) f v := F.xc e Y
    refine ⟨Y, ?_, z1, z2, z3, z4, z5⟩
    show ndX0_buysAll_71 k2 k38 (lpX0_buysAll_71 k2 k38 n) _ _ _ _ _ _ _ _ = _
    unfold ndX0_buysAll_71 ndX0_buysAll_135
    rw [XY.ob, x_many XY FY, hf_b2_some, if_pos (z_yle (Nat.le_refl _) (by omega)), hf_let_eq, z_lit, z_add]
end ZW
