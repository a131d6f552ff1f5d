set_option maxRecDepth 100000
set_option maxHeartbeats 1000000
/-! fairs -/
section ZI
variable {P : Nat} {g : hf_H} {o f st kp rl rd : Nat} {V V' XV : hf_V} {ps ik sk : Nat → Nat} {v : Nat → Nat} {a t : Nat}
theorem hf_I.mv (I : hf_I P g o V XV f st kp rl rd ps ik sk v) (mz : hf_mz V V') (sv : hf_sv V' v) : hf_I P g o V' XV f st kp rl rd ps ik sk v := by
  have := I.xc (hf_xz.rfl_ XV) mz sv
  rw [hf_xc_self I.e] at this
  exact this
theorem hf_I.BN (I : hf_I P g o V XV f st kp rl rd ps ik sk v) (R : hf_Rul g a V t) : hf_BN g o f st kp XV V v a t := fun n => by
  obtain ⟨KV, k1⟩ := I.1.2.2.2.2.2.1
  refine ⟨I.X.xc I.e rfl rfl, I.F.xc I.e _, hf_ob_xc g o _, ⟨KV, ?_⟩, (R.up I.e (by decide)).tx ⟨rfl, rfl, rfl⟩⟩
  unfold hf_xc
  rw [hf_ob_ne (hf_ob_dif k1 I.e (by decide))]
  exact k1
/-- between fairs: the draw n, any kept state -/
def hf_QN (g : hf_H) (o kp : Nat) (XV V : hf_V) (v : Nat → Nat) (n : Nat) (g1 : hf_H) (V1 : hf_V) : Prop := ∃ (W : Nat → Int64) (SV : hf_V), g1 = hf_sc (hf_xc (hf_xc g o (hf_ui XV 11 (Int32.ofNat n))) o (hf_xw (hf_ui XV 11 (Int32.ofNat n)) W)) kp SV ∧ hf_sv V1 v ∧ hf_mq (hf_ul V 33 (Int64.ofNat n)) V1
theorem hf_ul_mz (V : hf_V) (k : Nat) (x : Int64) : hf_mz V (hf_ul V k x) := ⟨fun _ _ => rfl, fun _ _ _ _ _ => rfl⟩
theorem op_fairs (J : hf_INV P g o V) (ra b c d : Int32) : hf_OPr P g o (spX0_fairs o ra b c d g) (spX4_fairs ra b c d V) := by
  obtain ⟨XV0, f, st, kp, rl, rd, ps, ik, sk, v, I0⟩ := J
  obtain ⟨nr, p, c1, c2, c3, c4⟩ := I0.2.2.1
  obtain ⟨dr, dr1, dr2, dr3⟩ := I0.2.2.2.1.2.2.1
  have q1 := I0.W.v1
  have q2 := I0.W.v2
  have q3 := I0.W.v3
  have q6 := I0.W.v6
  have hzl : zleft v ≤ 24 := by unfold zleft; omega
  unfold spX0_fairs spX4_fairs
  rw [I0.X.ob, x_isFair I0.X I0.F I0.W, hf_b2_some, m_isFair I0.sv, hf_b2_some]
  by_cases h0 : v 0 = 0
  · rw [if_pos h0, if_pos (show Int32.ofNat 0 = 0 from rfl), if_pos (show Int32.ofNat 0 = 0 from rfl)]; exact I0.same _
  rw [if_neg h0, if_neg (show ¬ Int32.ofNat 1 = 0 by decide), if_neg (show ¬ Int32.ofNat 1 = 0 by decide), I0.X.ob, x_isRule I0 c1 c2, hf_b2_some, m_isRule c3 c2, hf_b2_some]
  by_cases hz : zin ra nr
  case neg => rw [z1F hz, z1F hz]; exact I0.same _
  have xb : spX0_in b.toInt64 (1 : Int64) (10 : Int64) = some (if 1 ≤ b ∧ b ≤ 10 then Int32.ofNat 1 else Int32.ofNat 0) := z_in3 b 1 10
  have mb : spX4_in b.toInt64 (1 : Int64) (10 : Int64) = some (if 1 ≤ b ∧ b ≤ 10 then Int32.ofNat 1 else Int32.ofNat 0) := xb
  rw [z1T hz, z1T hz, xb, Option.bind_some, mb, Option.bind_some]
  by_cases hb : 1 ≤ b ∧ b ≤ 10
  case neg => rw [z1F hb, z1F hb]; exact I0.same _
  have xp : spX0_in c.toInt64 (0 : Int64) (100 : Int64) = some (if zin c 101 then Int32.ofNat 1 else Int32.ofNat 0) := x_inl c (n := 100) (by decide)
  have mp : spX4_in c.toInt64 (0 : Int64) (100 : Int64) = some (if zin c 101 then Int32.ofNat 1 else Int32.ofNat 0) := xp
  rw [z1T hb, z1T hb, xp, Option.bind_some, mp, Option.bind_some]
  by_cases hc : zin c 101
  case neg => rw [z1F hc, z1F hc]; exact I0.same _
  have xe : spX0_in d.toInt64 (0 : Int64) (1 : Int64) = some (if zin d 2 then Int32.ofNat 1 else Int32.ofNat 0) := x_inl d (n := 1) (by decide)
  have me : spX4_in d.toInt64 (0 : Int64) (1 : Int64) = some (if zin d 2 then Int32.ofNat 1 else Int32.ofNat 0) := xe
  rw [z1T hc, z1T hc, xe, Option.bind_some, me, Option.bind_some]
  by_cases hd : zin d 2
  case neg => rw [z1F hd, z1F hd]; exact I0.same _
  rw [z1T hd, z1T hd]
  obtain ⟨t, ht, rfl⟩ := zin_ex hz (by omega)
  obtain ⟨m, hm1, hm2, rfl⟩ : ∃ n, 1 ≤ n ∧ n ≤ 48 ∧ b = Int32.ofNat n := zin_48 ⟨hb.1, Int32.le_trans hb.2 (by decide)⟩
  obtain ⟨XV, w1, w2, w3⟩ := I0.fills
  have kf0 := I0.fk XV
  have Kf : hf_kq g (hf_xc g o XV) := hf_kq.up I0.e (Or.inl rfl) _
  have hX11 : XV.1 11 = Int32.ofNat dr := by
    obtain ⟨dr', e1, e2, e3⟩ := w2.2.2.2.1.2.2.1
    rw [e2, ← e3, dr3]
  have l0 : (V.1 21).toInt64 = Int64.ofNat dr := by rw [dr3, zl_ofNat dr1]
  rw [hf_gi_eq I0.e, Option.bind_some, dr2, I0.X.ob, w1, Option.bind_some, l0, hf_let_eq, hf_let_eq]
  generalize hgb : hf_xc g o XV = gb at *
  have I9 : hf_I P gb o (hf_ui (hf_ul V 33 (Int64.ofNat dr)) 26 0) XV f st kp rl rd ps ik sk v := w2.mv (V' := hf_ui (hf_ul V 33 (Int64.ofNat dr)) 26 0) ⟨fun k hk => hf_ui_ne (hf_ul V 33 (Int64.ofNat dr)) (by omega) 0, fun _ _ _ _ _ => rfl⟩ (I0.sv.ui 26 0)
  obtain ⟨V1, k1, I1, k2, k3, k4, k5⟩ := I9.mkeeps
  rw [m_hoursAhead I9.sv I9.W, hf_b2_some, k1, Option.bind_some]
  have L1 := c1.kq Kf
  have R1 : hf_Rul gb (p t) V1 t := ((c4 t ht).kq Kf).R.tx k3
  have BN := I1.BN R1
  have hV33 : V1.2.1 33 = Int64.ofNat dr := by
    rw [k5]
    unfold hf_ui hf_ul
    simp
  have hV26 : V1.1 26 = 0 := by
    rw [k4]
    exact hf_ui_at _ _ _
  have hul : hf_ul V1 33 (Int64.ofNat dr) = V1 := by
    unfold hf_ul
    refine Prod.ext rfl (Prod.ext ?_ rfl)
    funext j
    by_cases e : j = 33
    · subst e; simp [hV33]
    · simp [e]
  have hui : hf_ui XV 11 (Int32.ofNat dr) = XV := by
    unfold hf_ui
    refine Prod.ext ?_ rfl
    funext j
    by_cases e : j = 11
    · subst e; simp [hX11]
    · simp [e]
  obtain ⟨KV, kv1⟩ := I1.1.2.2.2.2.2.1
  have hkn := I1.1.2.2.2.2.2.2.1
  obtain ⟨SVs, ss1, ss2⟩ := I1.S
  have Q0 : hf_QN gb o kp XV V1 v dr gb V1 := by
    refine ⟨XV.2.2.2.2.1 16, KV, ?_, I1.sv, ?_⟩
    · rw [hui, hf_xw_self, hf_xc_self I1.e, hf_xc_self I1.e, hf_SS.self kv1]
    · rw [hul]; exact hf_mq.rfl_ V1
  -- what holds at any of these heaps
  have rd2 : ∀ n W SV, hf_ga 1 0 2 (hf_sc (hf_xc (hf_xc gb o (hf_ui XV 11 (Int32.ofNat n))) o (hf_xw (hf_ui XV 11 (Int32.ofNat n)) W)) kp SV) o = some kp := fun n W SV => by
    rw [hf_ga_eq (hf_JJ.oo (BN n) W SV)]
    exact I1.1.2.2.2.1
  have rd3 : ∀ n W SV, hf_ga 1 0 3 (hf_sc (hf_xc (hf_xc gb o (hf_ui XV 11 (Int32.ofNat n))) o (hf_xw (hf_ui XV 11 (Int32.ofNat n)) W)) kp SV) o = some rl := fun n W SV => by
    rw [hf_ga_eq (hf_JJ.oo (BN n) W SV)]
    exact I1.1.2.2.2.2.1.1
  have rw12 : ∀ n W SV s, s < 2 ^ v 1 → hf_ai 0 12 4096 (hf_sc (hf_xc (hf_xc gb o (hf_ui XV 11 (Int32.ofNat n))) o (hf_xw (hf_ui XV 11 (Int32.ofNat n)) W)) kp SV) o (Int32.ofNat s) = some (Int32.ofNat (zW v s)) := fun n W SV s hs => by
    have h1 := w3 s hs
    rw [hf_ai_eq I1.e] at h1
    rw [hf_ai_eq (hf_JJ.oo (BN n) W SV)]
    exact h1
  have rst : ∀ n W SV, hf_ob 1 2 (hf_sc (hf_xc (hf_xc gb o (hf_ui XV 11 (Int32.ofNat n))) o (hf_xw (hf_ui XV 11 (Int32.ofNat n)) W)) kp SV) st = some SVs := fun n W SV => by
    have hno : st ≠ o := hf_ob_dif ss1 I1.e (by decide)
    unfold hf_sc hf_xc
    rw [hf_ob_ne hkn, hf_ob_ne hno, hf_ob_ne hno]
    exact ss1
  have kqn : ∀ n W SV, hf_kq gb (hf_sc (hf_xc (hf_xc gb o (hf_ui XV 11 (Int32.ofNat n))) o (hf_xw (hf_ui XV 11 (Int32.ofNat n)) W)) kp SV) := fun n W SV => by
    obtain ⟨S1, e1⟩ := hf_JJ.s1 (BN n) W
    exact ((hf_kq.up I1.e (Or.inl rfl) _).trans (hf_kq.up (hf_ob_xc gb o _) (Or.inl rfl) _)).trans (hf_kq.up e1 (Or.inr (Or.inl rfl)) _)
  have key : ∃ r g' V', lpX0_fairs_71 hf_N o (Int32.ofNat t) (Int32.ofNat m) c d (Int32.ofNat dr) (0 : Int32) (0 : Int32) (Int32.ofNat 0) gb = some (r, g') ∧ lpX4_fairs_82 hf_N (Int32.ofNat t) (Int32.ofNat m) c d (0 : Int32) (Int32.ofNat (zleft v)) (Int32.ofNat 0) V1 = some (r, V') ∧ hf_INV P g' o V' ∧ hf_kq gb g' ∧ g'.2 = gb.2 := by
    refine hf_loopR2 (fun n i (z : Int32 × Int32 × hf_H × hf_V × Nat) => lpX0_fairs_71 n o (Int32.ofNat t) (Int32.ofNat m) c d (Int32.ofNat dr) z.1 z.2.1 (Int32.ofNat i) z.2.2.1) (fun n i (z : Int32 × Int32 × hf_H × hf_V × Nat) => lpX4_fairs_82 n (Int32.ofNat t) (Int32.ofNat m) c d z.2.1 (Int32.ofNat (zleft v)) (Int32.ofNat i) z.2.2.2.1) (fun i z => z.2.2.2.2 < 2147483648 ∧ hf_QN gb o kp XV V1 v z.2.2.2.2 z.2.2.1 z.2.2.2.1 ∧ z.2.2.2.1.1 26 = z.1) m (fun r1 r2 => ∃ r g' V', r1 = some (r, g') ∧ r2 = some (r, V') ∧ hf_INV P g' o V' ∧ hf_kq gb g' ∧ g'.2 = gb.2) (fun i n z hi hP => ?_) (fun n z hP => ?_) ((0 : Int32), (0 : Int32), gb, V1, dr) ⟨dr1, Q0, hV26⟩ (fuel := hf_N) (by unfold hf_N; omega)
    · obtain ⟨bo, al, g1, Va, na⟩ := z
      obtain ⟨p1, pq, p4⟩ := hP
      simp only at p1 pq p4
      obtain ⟨W, SV, rfl, p2, p3⟩ := pq
      right
      -- the state is copied
      obtain ⟨DV, d1, d2⟩ := x_copyFrom (rst na W SV) (hf_ob_sc _ kp SV) hkn
      rw [hf_sc_sc] at d1
      have hS2 := ss2.cp I1.W d2
      have JN0 : hf_JN gb o kp XV V1 v na (hf_sc (hf_xc (hf_xc gb o (hf_ui XV 11 (Int32.ofNat na))) o (hf_xw (hf_ui XV 11 (Int32.ofNat na)) W)) kp DV) Va v := ⟨W, DV, rfl, hS2, I1.W, hf_fe.rfl_ v, p2, p3⟩
      obtain ⟨X2, F2, S2, _, Sv2, _, _⟩ := hf_JJ.x2 (BN na) JN0
      have hnow : hf_gi 1 2 4 (hf_sc (hf_xc (hf_xc gb o (hf_ui XV 11 (Int32.ofNat na))) o (hf_xw (hf_ui XV 11 (Int32.ofNat na)) W)) kp DV) st = some (Int32.ofNat (v 3)) := by rw [hf_gi_eq (rst na W DV), ss2.2.2]
      -- the hours
      have hours : ∃ bo' n' g' V' v', lpX0_fairs_112 (lpX0_fairs_71 n) hf_N o (Int32.ofNat t) (Int32.ofNat m) c d (Int32.ofNat dr) bo al (Int32.ofNat i) (Int32.ofNat (zleft v)) (Int32.ofNat 0) (hf_sc (hf_xc (hf_xc gb o (hf_ui XV 11 (Int32.ofNat na))) o (hf_xw (hf_ui XV 11 (Int32.ofNat na)) W)) kp DV) = lpX0_fairs_153 (lpX0_fairs_71 n) hf_N o (Int32.ofNat t) (Int32.ofNat m) c d (Int32.ofNat dr) bo' al (Int32.ofNat i) (0 : Int32) g' ∧ lpX4_fairs_91 (lpX4_fairs_82 n) hf_N (Int32.ofNat t) (Int32.ofNat m) c d al (Int32.ofNat (zleft v)) (Int32.ofNat i) (Int32.ofNat 0) Va = lpX4_fairs_113 (lpX4_fairs_82 n) hf_N (Int32.ofNat t) (Int32.ofNat m) c d al (Int32.ofNat (zleft v)) (Int32.ofNat i) (0 : Int32) V' ∧ n' < 2147483648 ∧ hf_JN gb o kp XV V1 v n' g' V' v' ∧ (∀ k, 86 ≤ k → v' k = v k) ∧ V'.1 26 = bo' := by
        refine hf_loopR2 (fun n2 j (z : Int32 × hf_H × hf_V × (Nat → Nat) × Nat) => lpX0_fairs_112 (lpX0_fairs_71 n) n2 o (Int32.ofNat t) (Int32.ofNat m) c d (Int32.ofNat dr) z.1 al (Int32.ofNat i) (Int32.ofNat (zleft v)) (Int32.ofNat j) z.2.1) (fun n2 j (z : Int32 × hf_H × hf_V × (Nat → Nat) × Nat) => lpX4_fairs_91 (lpX4_fairs_82 n) n2 (Int32.ofNat t) (Int32.ofNat m) c d al (Int32.ofNat (zleft v)) (Int32.ofNat i) (Int32.ofNat j) z.2.2.1) (fun j z => z.2.2.2.2 < 2147483648 ∧ hf_JN gb o kp XV V1 v z.2.2.2.2 z.2.1 z.2.2.1 z.2.2.2.1 ∧ z.2.2.2.1 3 = v 3 + j ∧ (∀ k, 86 ≤ k → z.2.2.2.1 k = v k) ∧ z.2.2.1.1 26 = z.1) (zleft v) (fun r1 r2 => ∃ bo' n' g' V' v', r1 = lpX0_fairs_153 (lpX0_fairs_71 n) hf_N o (Int32.ofNat t) (Int32.ofNat m) c d (Int32.ofNat dr) bo' al (Int32.ofNat i) (0 : Int32) g' ∧ r2 = lpX4_fairs_113 (lpX4_fairs_82 n) hf_N (Int32.ofNat t) (Int32.ofNat m) c d al (Int32.ofNat (zleft v)) (Int32.ofNat i) (0 : Int32) V' ∧ n' < 2147483648 ∧ hf_JN gb o kp XV V1 v n' g' V' v' ∧ (∀ k, 86 ≤ k → v' k = v k) ∧ V'.1 26 = bo') (fun j n2 z hj hP => ?_) (fun n2 z hP => ?_) (bo, _, Va, v, na) ⟨p1, JN0, rfl, fun _ _ => rfl, p4⟩ (fuel := hf_N) (by unfold hf_N; omega)
        · obtain ⟨bo2, g2, V2, v2, n3⟩ := z
          obtain ⟨r1, r2, r3, r4, r5⟩ := hP
          simp only at r1 r2 r3 r4 r5
          right
          obtain ⟨X3, F3, S3, Wf3, Sv3, E3, R3⟩ := hf_JJ.x2 (BN n3) r2
          obtain ⟨cc, n', g', V', v', y1, y2, y3, y4, y5, y6, y7⟩ := xm_drawn BN r1 r2 (by unfold zleft at hj; omega) c
          have hob8 : ∀ K : Option (Int32 × hf_H), ((hf_ob 0 8 g2 (p t)).bind fun _ => K) = K := fun K => by
            obtain ⟨_, RV, l, nn, pp, e1, -⟩ := R3
            rw [e1]; rfl
          have L2 : hf_Ld g2 rl rd nr p := by
            obtain ⟨W2, SV2, rfl, -⟩ := r2
            exact L1.kq (kqn n3 W2 SV2)
          have hk2 : hf_ga 1 0 2 g2 o = some kp ∧ hf_ga 1 0 3 g2 o = some rl := by
            obtain ⟨W2, SV2, rfl, -⟩ := r2
            exact ⟨rd2 n3 W2 SV2, rd3 n3 W2 SV2⟩
          have a9 : Int32.ofNat j + (1 : Int32) = Int32.ofNat (j + 1) := z_add _ 1
          refine ⟨(bo2 + cc, g', V', v', n'), ?_, ?_, y3, y4, by show v' 3 = v 3 + (j + 1); omega, fun k hk => (y6 k hk).trans (r4 k hk), by show V'.1 26 = bo2 + cc; rw [y7, r5]⟩
          · show ndX0_fairs_112 (lpX0_fairs_71 n) (lpX0_fairs_112 (lpX0_fairs_71 n) n2) _ _ _ _ _ _ _ _ _ _ _ _ = _
            unfold ndX0_fairs_112
            rw [if_neg (z_nle hj (by omega)), hk2.1, Option.bind_some, hk2.2, Option.bind_some, L2.L.ob, L2.L.get ht (by omega), hf_b2_some, hob8, X3.ob, y1, hf_b2_some, hf_let_eq, hf_let_eq, a9]
          · show ndX4_fairs_91 (lpX4_fairs_82 n) (lpX4_fairs_91 (lpX4_fairs_82 n) n2) _ _ _ _ _ _ _ _ _ = _
            unfold ndX4_fairs_91
            rw [if_neg (z_nle hj (by omega)), y2, Option.bind_some, hf_let_eq, a9]
        · obtain ⟨bo2, g2, V2, v2, n3⟩ := z
          obtain ⟨r1, r2, r3, r4, r5⟩ := hP
          simp only at r1 r2 r3 r4 r5
          refine ⟨bo2, n3, g2, V2, v2, ?_, ?_, r1, r2, r4, r5⟩
          · show ndX0_fairs_112 (lpX0_fairs_71 n) (lpX0_fairs_112 (lpX0_fairs_71 n) n2) _ _ _ _ _ _ _ _ _ _ _ _ = _
            unfold ndX0_fairs_112
            rw [if_pos (z_yle (Nat.le_refl _) (by omega))]
          · show ndX4_fairs_91 (lpX4_fairs_82 n) (lpX4_fairs_91 (lpX4_fairs_82 n) n2) _ _ _ _ _ _ _ _ _ = _
            unfold ndX4_fairs_91
            rw [if_pos (z_yle (Nat.le_refl _) (by omega))]
      obtain ⟨bo', n', g', V', v', y1, y2, y3, y4, y5, y6⟩ := hours
      obtain ⟨X4, F4, S4, Wf4, Sv4, E4, R4⟩ := hf_JJ.x2 (BN n') y4
      have e41 : v' 1 = v 1 := E4.2.1
      have e42 : v' 2 = v 2 := E4.2.2.1
      have M4 : hf_mq (hf_ul V1 33 (Int64.ofNat n')) V' := by
        obtain ⟨W2, SV2, _, _, _, _, _, M⟩ := y4
        exact M
      have hk4 : hf_ga 1 0 2 g' o = some kp ∧ ∀ s, s < 2 ^ v 1 → hf_ai 0 12 4096 g' o (Int32.ofNat s) = some (Int32.ofNat (zW v s)) := by
        obtain ⟨W2, SV2, rfl, -⟩ := y4
        exact ⟨rd2 n' W2 SV2, rw12 n' W2 SV2⟩
      have hkt : hf_kt V' v := fun k hk => by
        rw [M4.2.2.2.1 32 (by decide)]
        exact k2 k hk
      have hw22 : ∀ s, s < 2 ^ v 1 → hf_ld 4096 (V'.2.2.2.1 22) (Int32.ofNat s) = some (Int32.ofNat (zW v s)) := fun s hs => by
        rw [M4.2.2.2.1 22 (by decide)]
        exact I1.mw hs
      -- what all have
      have sums : ∃ al', lpX0_fairs_153 (lpX0_fairs_71 n) hf_N o (Int32.ofNat t) (Int32.ofNat m) c d (Int32.ofNat dr) bo' al (Int32.ofNat i) (Int32.ofNat 0) g' = lpX0_fairs_71 n o (Int32.ofNat t) (Int32.ofNat m) c d (Int32.ofNat dr) bo' al' (Int32.ofNat (i + 1)) g' ∧ lpX4_fairs_113 (lpX4_fairs_82 n) hf_N (Int32.ofNat t) (Int32.ofNat m) c d al (Int32.ofNat (zleft v)) (Int32.ofNat i) (Int32.ofNat 0) V' = lpX4_fairs_82 n (Int32.ofNat t) (Int32.ofNat m) c d al' (Int32.ofNat (zleft v)) (Int32.ofNat (i + 1)) (hf_sd20 V' v) := by
        have ai : Int32.ofNat i + (1 : Int32) = Int32.ofNat (i + 1) := z_add _ 1
        refine hf_loopR2 (fun n2 j (z : Int32) => lpX0_fairs_153 (lpX0_fairs_71 n) n2 o (Int32.ofNat t) (Int32.ofNat m) c d (Int32.ofNat dr) bo' z (Int32.ofNat i) (Int32.ofNat j) g') (fun n2 j (z : Int32) => lpX4_fairs_113 (lpX4_fairs_82 n) n2 (Int32.ofNat t) (Int32.ofNat m) c d z (Int32.ofNat (zleft v)) (Int32.ofNat i) (Int32.ofNat j) V') (fun j z => True) (v 2) (fun r1 r2 => ∃ al', r1 = lpX0_fairs_71 n o (Int32.ofNat t) (Int32.ofNat m) c d (Int32.ofNat dr) bo' al' (Int32.ofNat (i + 1)) g' ∧ r2 = lpX4_fairs_82 n (Int32.ofNat t) (Int32.ofNat m) c d al' (Int32.ofNat (zleft v)) (Int32.ofNat (i + 1)) (hf_sd20 V' v)) (fun j n2 z hj _ => ?_) (fun n2 z _ => ?_) al trivial (fuel := hf_N) (by unfold hf_N; omega)
        · right
          have hsl : zhas v' j < 2 ^ v 1 := by rw [← e41]; exact zhas_lt2 v' j
          have a9 : Int32.ofNat j + (1 : Int32) = Int32.ofNat (j + 1) := z_add _ 1
          refine ⟨z + Int32.ofNat (zW v (zhas v' j)), ?_, ?_, trivial⟩
          · show ndX0_fairs_153 (lpX0_fairs_71 n) (lpX0_fairs_153 (lpX0_fairs_71 n) n2) _ _ _ _ _ _ _ _ _ _ _ = _
            unfold ndX0_fairs_153
            rw [X4.ob, x_buyers X4 F4, hf_b2_some, e42, if_neg (z_nle hj (by omega)), X4.ob, hk4.1, Option.bind_some, X4.fa, Option.bind_some, S4.ob, x_halvesOf F4 S4 Wf4 (by omega), hf_b2_some, hk4.2 _ hsl, Option.bind_some, hf_let_eq, hf_let_eq, a9]
          · show ndX4_fairs_113 (lpX4_fairs_82 n) (lpX4_fairs_113 (lpX4_fairs_82 n) n2) _ _ _ _ _ _ _ _ _ = _
            unfold ndX4_fairs_113
            rw [Sv4.l2, Option.bind_some, e42, if_neg (z_nle hj (by omega)), m_hasOf Sv4 (by omega) (by omega), hf_b2_some, hw22 _ hsl, Option.bind_some, hf_let_eq, hf_let_eq, a9]
        · refine ⟨z, ?_, ?_⟩
          · show ndX0_fairs_153 (lpX0_fairs_71 n) (lpX0_fairs_153 (lpX0_fairs_71 n) n2) _ _ _ _ _ _ _ _ _ _ _ = _
            unfold ndX0_fairs_153
            rw [X4.ob, x_buyers X4 F4, hf_b2_some, e42, if_pos (z_yle (Nat.le_refl _) (by omega)), hf_let_eq, ai]
          · show ndX4_fairs_113 (lpX4_fairs_82 n) (lpX4_fairs_113 (lpX4_fairs_82 n) n2) _ _ _ _ _ _ _ _ _ = _
            unfold ndX4_fairs_113
            rw [Sv4.l2, Option.bind_some, e42, if_pos (z_yle (Nat.le_refl _) (by omega)), m_putsBack Sv4 hkt I1.W.b y5, Option.bind_some, hf_let_eq, ai]
      obtain ⟨al', u1, u2⟩ := sums
      refine ⟨(bo', al', g', hf_sd20 V' v, n'), ?_, ?_, y3, ?_, y6⟩
      · show ndX0_fairs_71 (lpX0_fairs_71 n) o (Int32.ofNat t) (Int32.ofNat m) c d (Int32.ofNat dr) bo al (Int32.ofNat i) (hf_sc (hf_xc (hf_xc gb o (hf_ui XV 11 (Int32.ofNat na))) o (hf_xw (hf_ui XV 11 (Int32.ofNat na)) W)) kp SV) = _
        have X0' := hf_JJ.xx (BN na) W SV
        unfold ndX0_fairs_71
        rw [if_neg (z_nle hi (by omega)), rd2, Option.bind_some, X0'.st, Option.bind_some, hf_ob_sc, Option.bind_some, d1, Option.bind_some, X2.fa, Option.bind_some, X2.st, Option.bind_some, hnow, Option.bind_some, F2.ob, x_left F2 I1.W (by omega), hf_b2_some, z_min24 hzl, hf_let_eq]
        exact y1.trans u1
      · show ndX4_fairs_82 (lpX4_fairs_82 n) (Int32.ofNat t) (Int32.ofNat m) c d al (Int32.ofNat (zleft v)) (Int32.ofNat i) Va = _
        unfold ndX4_fairs_82
        rw [if_neg (z_nle hi (by omega))]
        exact y2.trans u2
      · obtain ⟨W2, SV2, z1, z2, z3, z4, z5, z6⟩ := y4
        exact ⟨W2, SV2, z1, hf_sd20_sv V' I1.W.b, z6.trans (hf_mq.sd20 V' v)⟩
    · obtain ⟨bo, al, g1, Va, na⟩ := z
      obtain ⟨p1, pq, p4⟩ := hP
      simp only at p1 pq p4
      obtain ⟨W, SV, rfl, p2, p3⟩ := pq
      have e1 := hf_JJ.oo (BN na) W SV
      have hne := (BN na).ne
      have hend : hf_up (hf_sc (hf_xc (hf_xc gb o (hf_ui XV 11 (Int32.ofNat na))) o (hf_xw (hf_ui XV 11 (Int32.ofNat na)) W)) kp SV) o (.inl (1, 0, hf_ui (hf_xw (hf_ui XV 11 (Int32.ofNat na)) W) 11 (Int32.ofNat dr))) = hf_sc (hf_xc gb o (hf_xw XV W)) kp SV := by
        have h1 : hf_ui (hf_xw (hf_ui XV 11 (Int32.ofNat na)) W) 11 (Int32.ofNat dr) = hf_xw (hf_ui XV 11 (Int32.ofNat dr)) W := by
          unfold hf_ui hf_xw
          refine Prod.ext ?_ rfl
          funext j
          by_cases e : j = 11 <;> simp [e]
        rw [h1, hui]
        unfold hf_xc hf_sc
        rw [hf_up_comm _ hne.symm, hf_up_up, hf_up_up]
      have IE := (I1.xc (hf_xz.xw XV W) (hf_mz.rfl_ V1) I1.sv).kc ((hf_ul_mz V1 33 _).trans p3.mz) SV p2
      have kqE : hf_kq gb (hf_sc (hf_xc gb o (hf_xw XV W)) kp SV) := by
        have h2 : hf_ob 1 2 (hf_xc gb o (hf_xw XV W)) kp = some KV := by
          unfold hf_xc
          rw [hf_ob_ne (hf_ob_dif kv1 I1.e (by decide))]
          exact kv1
        exact (hf_kq.up I1.e (Or.inl rfl) _).trans (hf_kq.up h2 (Or.inr (Or.inl rfl)) _)
      refine ⟨if d = 0 then bo else al, _, Va, ?_, ?_, IE.inv, kqE, rfl⟩
      · show ndX0_fairs_71 (lpX0_fairs_71 n) _ _ _ _ _ _ _ _ _ _ = _
        unfold ndX0_fairs_71
        rw [if_pos (z_yle (Nat.le_refl _) (by omega)), hf_pi_eq e1, Option.bind_some, hend]
        by_cases e : d = 0
        · rw [if_pos e, if_pos e]
        · rw [if_neg e, if_neg e]
      · show ndX4_fairs_82 (lpX4_fairs_82 n) _ _ _ _ _ _ _ _ = _
        unfold ndX4_fairs_82
        rw [if_pos (z_yle (Nat.le_refl _) (by omega)), p4]
        by_cases e : d = 0
        · rw [if_pos e, if_pos e]
        · rw [if_neg e, if_neg e]
  obtain ⟨r, g', V', y1, y2, y3, y4, y5⟩ := key
  refine ⟨r, g', V', y1, y2, y3, (Kf.trans y4).kf ?_⟩
  rw [y5, ← hgb]
  rfl
end ZI
set_option maxRecDepth 100000
set_option maxHeartbeats 1000000
/-! new cells, laid over a heap -/
def hf_ol (h : hf_H) (l : List (Option hf_C)) (n : Nat) : hf_H := (fun q => if q < h.2.1 then h.1 q else if q < h.2.1 + l.length then l.getD (q - h.2.1) none else h.1 q, h.2.1 + l.length, h.2.2 + n)
theorem ol_0 (h : hf_H) : hf_ol h [] 0 = h := by
  unfold hf_ol
  refine Prod.ext ?_ rfl
  funext q
  by_cases e : q < h.2.1
  · simp [e]
  · simp [e]
theorem ol_nw (h : hf_H) (l : List (Option hf_C)) (n m : Nat) (x : hf_C) : hf_nw (hf_ol h l n) x m = hf_ol h (l ++ [some x]) (n + m) := by
  unfold hf_nw hf_ol
  refine Prod.ext ?_ (Prod.ext ?_ ?_)
  · funext q
    simp only [List.length_append, List.length_singleton]
    by_cases e : q = h.2.1 + l.length
    · subst e
      rw [if_pos rfl, if_neg (by omega), if_pos (by omega), Nat.add_sub_cancel_left]
      simp [List.getD_eq_getElem?_getD]
    · rw [if_neg e]
      by_cases e2 : q < h.2.1
      · rw [if_pos e2, if_pos e2]
      · rw [if_neg e2, if_neg e2]
        by_cases e3 : q < h.2.1 + l.length
        · rw [if_pos e3, if_pos (by omega), List.getD_eq_getElem?_getD, List.getD_eq_getElem?_getD, List.getElem?_append_left (by omega)]
        · rw [if_neg e3, if_neg (by omega)]
  · show h.2.1 + l.length + 1 = h.2.1 + (l ++ [some x]).length
    rw [List.length_append]
    rfl
  · show h.2.2 + n + m = h.2.2 + (n + m)
    omega
theorem ol_nw0 (h : hf_H) (m : Nat) (x : hf_C) : hf_nw h x m = hf_ol h [some x] m := by
  have := ol_nw h [] 0 m x
  rw [ol_0] at this
  simpa using this
theorem ol_at (h : hf_H) (l : List (Option hf_C)) (n : Nat) {k : Nat} (hk : k < l.length) : (hf_ol h l n).1 (h.2.1 + k) = l.getD k none := by
  unfold hf_ol
  show (if h.2.1 + k < h.2.1 then _ else if h.2.1 + k < h.2.1 + l.length then _ else _) = _
  rw [if_neg (by omega), if_pos (by omega), Nat.add_sub_cancel_left]
theorem ol_lo (h : hf_H) (l : List (Option hf_C)) (n : Nat) {q : Nat} (hq : q < h.2.1) : (hf_ol h l n).1 q = h.1 q := if_pos hq
theorem ol_ob {h : hf_H} {l : List (Option hf_C)} {n k md ci : Nat} {V : hf_V} (hk : k < l.length) (e : l.getD k none = some (.inl (md, ci, V))) : hf_ob md ci (hf_ol h l n) (h.2.1 + k) = some V := by
  unfold hf_ob
  rw [ol_at h l n hk, e]
  simp
theorem ol_up {h : hf_H} {l : List (Option hf_C)} {n k : Nat} (x : hf_C) (hk : k < l.length) : hf_up (hf_ol h l n) (h.2.1 + k) x = hf_ol h (l.set k (some x)) n := by
  unfold hf_up hf_ol
  refine Prod.ext ?_ (Prod.ext ?_ rfl)
  · funext q
    simp only [List.length_set]
    by_cases e : q = h.2.1 + k
    · subst e
      rw [if_pos rfl, if_neg (by omega), if_pos (by omega), Nat.add_sub_cancel_left]
      simp [List.getD_eq_getElem?_getD, hk]
    · rw [if_neg e]
      by_cases e2 : q < h.2.1
      · rw [if_pos e2, if_pos e2]
      · rw [if_neg e2, if_neg e2]
        by_cases e3 : q < h.2.1 + l.length
        · rw [if_pos e3, if_pos e3, List.getD_eq_getElem?_getD, List.getD_eq_getElem?_getD, List.getElem?_set_ne (by omega)]
        · rw [if_neg e3, if_neg e3]
  · show h.2.1 + l.length = h.2.1 + (l.set k (some x)).length
    rw [List.length_set]
theorem ol_pq {h : hf_H} {l : List (Option hf_C)} {n k md ci j : Nat} {V : hf_V} (x : Option Nat) (hk : k < l.length) (e : l.getD k none = some (.inl (md, ci, V))) : hf_pq md ci j (hf_ol h l n) (h.2.1 + k) x = some (hf_ol h (l.set k (some (.inl (md, ci, hf_uq V j x)))) n) := by
  rw [hf_pq_eq (ol_ob hk e), ol_up _ hk]
/-- the list after an object takes its arrays in -/
def zfl (ci k : Nat) (TV : hf_V) (l : List (Option hf_C)) : List (Option hf_C) := (List.range l.length).map fun i => if i = k then some (.inl (1, ci, TV)) else if (hf_own ci).any (fun j => decide (i = k + (hf_of ci j).1)) then none else l.getD i none
theorem ol_fold {h : hf_H} {l : List (Option hf_C)} {n k ci : Nat} {V : hf_V} (hk : k < l.length) (e : l.getD k none = some (.inl (0, ci, V))) (hc : ∀ j, j ∈ hf_own ci → k + (hf_of ci j).1 < l.length ∧ V.2.2.1 j = some (h.2.1 + k + (hf_of ci j).1) ∧ hf_isA (hf_ol h l n) (h.2.1 + k + (hf_of ci j).1) (hf_el (hf_ty ci j)) (hf_of ci j).2 = true) : hf_fold ci (hf_ol h l n) (h.2.1 + k) = some (hf_ol h (zfl ci k (hf_tk (hf_ol h l n) (h.2.1 + k) ci V) l) n) := by
  unfold hf_fold
  rw [ol_ob hk e, Option.bind_some, if_pos]
  · congr 1
    generalize hf_tk (hf_ol h l n) (h.2.1 + k) ci V = TV
    have hlen : (zfl ci k TV l).length = l.length := by unfold zfl; simp
    unfold hf_ol
    refine Prod.ext ?_ (Prod.ext ?_ rfl)
    · funext q
      simp only [hlen]
      by_cases e1 : q = h.2.1 + k
      · subst e1
        rw [if_pos rfl, if_neg (by omega), if_pos (by omega), Nat.add_sub_cancel_left]
        unfold zfl
        simp [List.getD_eq_getElem?_getD, hk]
      · rw [if_neg e1]
        have hany : (hf_own ci).any (fun j => decide (q = h.2.1 + k + (hf_of ci j).1)) = true → h.2.1 ≤ q ∧ q < h.2.1 + l.length := fun ha => by
          obtain ⟨j, hj, hq⟩ := List.any_eq_true.mp ha
          have := (hc j hj).1
          have hq2 : q = h.2.1 + k + (hf_of ci j).1 := of_decide_eq_true hq
          omega
        by_cases e2 : q < h.2.1
        · have : ¬ (hf_own ci).any (fun j => decide (q = h.2.1 + k + (hf_of ci j).1)) = true := fun z => by
            have := hany z
            omega
          rw [if_neg this, if_pos e2, if_pos e2]
        · by_cases e3 : q < h.2.1 + l.length
          · rw [if_neg e2, if_neg e2, if_pos e3, if_pos e3]
            obtain ⟨i, rfl⟩ : ∃ i, q = h.2.1 + i := ⟨q - h.2.1, by omega⟩
            rw [Nat.add_sub_cancel_left]
            have hi : i < l.length := by omega
            have hik : ¬ i = k := fun z => e1 (by rw [z])
            have ha2 : (hf_own ci).any (fun j => decide (h.2.1 + i = h.2.1 + k + (hf_of ci j).1)) = (hf_own ci).any (fun j => decide (i = k + (hf_of ci j).1)) := by
              congr 1
              funext j
              exact decide_eq_decide.mpr (by omega)
            rw [ha2]
            unfold zfl
            simp only [List.getD_eq_getElem?_getD, List.getElem?_map, List.getElem?_range hi, Option.map_some, Option.getD_some, if_neg hik]
          · have : ¬ (hf_own ci).any (fun j => decide (q = h.2.1 + k + (hf_of ci j).1)) = true := fun z => by
              have := hany z
              omega
            rw [if_neg this, if_neg e2, if_neg e2, if_neg e3, if_neg e3]
    · show h.2.1 + l.length = h.2.1 + (zfl ci k TV l).length
      rw [hlen]
  · rw [List.all_eq_true]
    intro j hj
    obtain ⟨h1, h2, h3⟩ := hc j hj
    rw [h2, h3]
    simp
theorem ol_isA {h : hf_H} {l : List (Option hf_C)} {n k : Nat} {ty : FieldType} {m : Nat} (hk : k < l.length) (e : l.getD k none = some (.inr (.inl (0, ty, m, hf_z ty)))) (hty : ty = .int ∨ ty = .long ∨ ty = .byte ∨ ty = .boolean ∨ ∃ s, ty = .object s) : hf_isA (hf_ol h l n) (h.2.1 + k) ty m = true := by
  unfold hf_isA
  rw [ol_at h l n hk, e]
  rcases hty with rfl | rfl | rfl | rfl | ⟨s, rfl⟩ <;> simp [hf_z]
theorem ol_mk {τ : Type} (h : hf_H) (l : List (Option hf_C)) (n m : Nat) (x : hf_C) (K : Nat → hf_H → Option τ) : hf_mk (hf_ol h l n) x m K = K (h.2.1 + l.length) (hf_ol h (l ++ [some x]) (n + m)) := by
  unfold hf_mk
  rw [ol_nw]
  rfl
theorem x_stInit (h : hf_H) : ∃ SV, spX2_init h.2.1 (hf_nw h (.inl (0, 2, hf_V0)) 5) = some (hf_ol h [some (.inl (1, 2, SV)), none, none, none, none] 29) ∧ SV.1 4 = 0 := by
  have c12 : (12 : Int32).toNatClampNeg = 12 := by decide
  have c4 : (4 : Int32).toNatClampNeg = 4 := by decide
  have ad0 : h.2.1 = h.2.1 + 0 := rfl
  unfold spX2_init
  rw [ol_nw0]
  simp only [c12, c4, show ¬ ((12 : Int32) < 0 ∨ 536870912 < 12 * 8) by decide, show ¬ ((4 : Int32) < 0 ∨ 536870912 < 4 * 8) by decide, if_false, ol_mk]
  have pq : ∀ (l : List (Option hf_C)) (n j : Nat) (V : hf_V) (x : Option Nat), 0 < l.length → l.getD 0 none = some (.inl (0, 2, V)) → hf_pq 0 2 j (hf_ol h l n) h.2.1 x = some (hf_ol h (l.set 0 (some (.inl (0, 2, hf_uq V j x)))) n) := fun l n j V x hk e => ol_pq (h := h) (k := 0) x hk e
  rw [pq _ _ 0 hf_V0 _ (by simp) rfl, Option.bind_some, ol_mk, pq _ _ 1 _ _ (by simp) rfl, Option.bind_some, ol_mk, pq _ _ 2 _ _ (by simp) rfl, Option.bind_some, ol_mk, pq _ _ 3 _ _ (by simp) rfl, Option.bind_some]
  obtain ⟨TV, fd, h4⟩ : ∃ TV, hf_fold 2 (hf_ol h [some (.inl (0, 2, hf_uq (hf_uq (hf_uq (hf_uq hf_V0 0 (some (h.2.1 + 1))) 1 (some (h.2.1 + 2))) 2 (some (h.2.1 + 3))) 3 (some (h.2.1 + 4)))), some (.inr (.inl (0, .int, 12, hf_z .int))), some (.inr (.inl (0, .int, 4, hf_z .int))), some (.inr (.inl (0, .int, 4, hf_z .int))), some (.inr (.inl (0, .int, 4, hf_z .int)))] 29) (h.2.1 + 0) = some (hf_ol h (zfl 2 0 TV [some (.inl (0, 2, hf_uq (hf_uq (hf_uq (hf_uq hf_V0 0 (some (h.2.1 + 1))) 1 (some (h.2.1 + 2))) 2 (some (h.2.1 + 3))) 3 (some (h.2.1 + 4)))), some (.inr (.inl (0, .int, 12, hf_z .int))), some (.inr (.inl (0, .int, 4, hf_z .int))), some (.inr (.inl (0, .int, 4, hf_z .int))), some (.inr (.inl (0, .int, 4, hf_z .int)))]) 29) ∧ TV.1 4 = 0 := ⟨_, ol_fold (h := h) (l := [some (.inl (0, 2, hf_uq (hf_uq (hf_uq (hf_uq hf_V0 0 (some (h.2.1 + 1))) 1 (some (h.2.1 + 2))) 2 (some (h.2.1 + 3))) 3 (some (h.2.1 + 4)))), some (.inr (.inl (0, .int, 12, hf_z .int))), some (.inr (.inl (0, .int, 4, hf_z .int))), some (.inr (.inl (0, .int, 4, hf_z .int))), some (.inr (.inl (0, .int, 4, hf_z .int)))]) (n := 29) (k := 0) (ci := 2) (V := hf_uq (hf_uq (hf_uq (hf_uq hf_V0 0 (some (h.2.1 + 1))) 1 (some (h.2.1 + 2))) 2 (some (h.2.1 + 3))) 3 (some (h.2.1 + 4))) (Nat.le_of_ble_eq_true rfl) rfl (fun j hj => by
    have hj2 : j = 0 ∨ j = 1 ∨ j = 2 ∨ j = 3 := by
      have : j ∈ [0, 1, 2, 3] := hj
      simpa using this
    rcases hj2 with rfl | rfl | rfl | rfl
    · exact ⟨Nat.le_of_ble_eq_true rfl, rfl, ol_isA (k := 1) (Nat.le_of_ble_eq_true rfl) rfl (Or.inl rfl)⟩
    · exact ⟨Nat.le_of_ble_eq_true rfl, rfl, ol_isA (k := 2) (Nat.le_of_ble_eq_true rfl) rfl (Or.inl rfl)⟩
    · exact ⟨Nat.le_of_ble_eq_true rfl, rfl, ol_isA (k := 3) (Nat.le_of_ble_eq_true rfl) rfl (Or.inl rfl)⟩
    · exact ⟨Nat.le_of_ble_eq_true rfl, rfl, ol_isA (k := 4) (Nat.le_of_ble_eq_true rfl) rfl (Or.inl rfl)⟩), rfl⟩
  exact ⟨TV, (congrArg (fun z => Option.bind z fun g13 => some g13) fd).trans rfl, h4⟩
set_option maxRecDepth 100000
set_option maxHeartbeats 1000000
/-! image -/
theorem ol_ol (h : hf_H) (l l' : List (Option hf_C)) (n n' : Nat) : hf_ol (hf_ol h l n) l' n' = hf_ol h (l ++ l') (n + n') := by
  have e1 : (hf_ol h l n).2.1 = h.2.1 + l.length := rfl
  have e2 : (hf_ol h l n).2.2 = h.2.2 + n := rfl
  unfold hf_ol at e1 e2 ⊢
  refine Prod.ext ?_ (Prod.ext ?_ ?_)
  · funext q
    simp only [List.length_append]
    by_cases c1 : q < h.2.1
    · rw [if_pos (by omega), if_pos c1]
      simp [c1]
    · by_cases c2 : q < h.2.1 + l.length
      · rw [if_pos c2, if_neg c1, if_neg c1, if_pos c2, if_pos (by omega), List.getD_eq_getElem?_getD, List.getD_eq_getElem?_getD, List.getElem?_append_left (by omega)]
      · rw [if_neg c2, if_neg c1]
        by_cases c3 : q < h.2.1 + l.length + l'.length
        · rw [if_pos c3, if_pos (show q < h.2.1 + (l.length + l'.length) by omega), List.getD_eq_getElem?_getD, List.getD_eq_getElem?_getD, List.getElem?_append_right (by omega), show q - h.2.1 - l.length = q - (h.2.1 + l.length) by omega, if_neg c1]
        · rw [if_neg c3, if_neg c1, if_neg c2, if_neg (by omega)]
  · show h.2.1 + l.length + l'.length = h.2.1 + (l ++ l').length
    rw [List.length_append]; omega
  · show h.2.2 + n + n' = h.2.2 + (n + n')
    omega
theorem x_imgInit (h : hf_H) (o : Nat) : ∃ IV SV, spX18_init h.2.1 o (hf_nw h (.inl (0, 18, hf_V0)) 8) = some (hf_ol h [some (.inl (1, 18, IV)), some (.inl (1, 2, SV)), none, none, none, none, none, none, none] 73) ∧ IV.2.2.1 7 = some o ∧ IV.2.2.1 1 = some (h.2.1 + 1) := by
  have c12 : (12 : Int32).toNatClampNeg = 12 := by decide
  have pq : ∀ (l : List (Option hf_C)) (n j : Nat) (V : hf_V) (x : Option Nat), 0 < l.length → l.getD 0 none = some (.inl (0, 18, V)) → hf_pq 0 18 j (hf_ol h l n) h.2.1 x = some (hf_ol h (l.set 0 (some (.inl (0, 18, hf_uq V j x)))) n) := fun l n j V x hk e => ol_pq (h := h) (k := 0) x hk e
  unfold spX18_init
  rw [ol_nw0]
  simp only [c12, show ¬ ((12 : Int32) < 0 ∨ 536870912 < 12 * 8) by decide, if_false]
  obtain ⟨SV, sv1, sv2⟩ := x_stInit (hf_ol h [some (.inl (0, 18, hf_uq hf_V0 7 (some o)))] 8)
  have st : ∀ K : Nat → hf_H → Option hf_H, (hf_mk (hf_ol h [some (.inl (0, 18, hf_uq hf_V0 7 (some o)))] 8) (.inl (0, 2, hf_V0)) 5 fun x2 g3 => (spX2_init x2 g3).bind fun g4 => K x2 g4) = K (h.2.1 + 1) (hf_ol h [some (.inl (0, 18, hf_uq hf_V0 7 (some o))), some (.inl (1, 2, SV)), none, none, none, none] 37) := fun K => by
    unfold hf_mk
    show Option.bind (spX2_init (hf_ol h [some (.inl (0, 18, hf_uq hf_V0 7 (some o)))] 8).2.1 (hf_nw (hf_ol h [some (.inl (0, 18, hf_uq hf_V0 7 (some o)))] 8) (.inl (0, 2, hf_V0)) 5)) (fun g4 => K (h.2.1 + 1) g4) = _
    rw [sv1, Option.bind_some, ol_ol]
    rfl
  rw [pq _ _ 7 hf_V0 _ (by simp) rfl, Option.bind_some]
  refine Exists.elim (show ∃ IV, _ ∧ _ from ?_) (fun IV hIV => ⟨IV, SV, hIV⟩)
  have e1 := st (fun x2 g4 => (hf_pq 0 18 1 g4 h.2.1 (some x2)).bind fun g5 => hf_mk g5 (.inr (.inl (0, .int, 12, hf_z .int))) 12 fun x6 g7 => (hf_pq 0 18 2 g7 h.2.1 (some x6)).bind fun g8 => hf_mk g8 (.inr (.inl (0, .int, 12, hf_z .int))) 12 fun x9 g10 => (hf_pq 0 18 3 g10 h.2.1 (some x9)).bind fun g11 => hf_mk g11 (.inr (.inl (0, .boolean, 12, hf_z .boolean))) 12 fun x12 g13 => (hf_pq 0 18 4 g13 h.2.1 (some x12)).bind fun g14 => (hf_fold 18 g14 h.2.1).bind fun g15 => some g15)
  conv at e1 =>
    rhs
    rw [pq _ _ 1 _ _ (by simp) rfl, Option.bind_some, ol_mk, pq _ _ 2 _ _ (by simp) rfl, Option.bind_some, ol_mk, pq _ _ 3 _ _ (by simp) rfl, Option.bind_some, ol_mk, pq _ _ 4 _ _ (by simp) rfl, Option.bind_some]
  obtain ⟨TV, fd, h7, h1⟩ : ∃ TV, hf_fold 18 (hf_ol h [some (.inl (0, 18, hf_uq (hf_uq (hf_uq (hf_uq (hf_uq hf_V0 7 (some o)) 1 (some (h.2.1 + 1))) 2 (some (h.2.1 + 6))) 3 (some (h.2.1 + 7))) 4 (some (h.2.1 + 8)))), some (.inl (1, 2, SV)), none, none, none, none, some (.inr (.inl (0, .int, 12, hf_z .int))), some (.inr (.inl (0, .int, 12, hf_z .int))), some (.inr (.inl (0, .boolean, 12, hf_z .boolean)))] 73) (h.2.1 + 0) = some (hf_ol h (zfl 18 0 TV [some (.inl (0, 18, hf_uq (hf_uq (hf_uq (hf_uq (hf_uq hf_V0 7 (some o)) 1 (some (h.2.1 + 1))) 2 (some (h.2.1 + 6))) 3 (some (h.2.1 + 7))) 4 (some (h.2.1 + 8)))), some (.inl (1, 2, SV)), none, none, none, none, some (.inr (.inl (0, .int, 12, hf_z .int))), some (.inr (.inl (0, .int, 12, hf_z .int))), some (.inr (.inl (0, .boolean, 12, hf_z .boolean)))]) 73) ∧ TV.2.2.1 7 = some o ∧ TV.2.2.1 1 = some (h.2.1 + 1) := ⟨_, ol_fold (Nat.le_of_ble_eq_true rfl) rfl (fun j hj => by
    have hj2 : j = 2 ∨ j = 3 ∨ j = 4 := by
      have : j ∈ [2, 3, 4] := hj
      simpa using this
    rcases hj2 with rfl | rfl | rfl
    · exact ⟨Nat.le_of_ble_eq_true rfl, rfl, ol_isA (k := 6) (Nat.le_of_ble_eq_true rfl) rfl (Or.inl rfl)⟩
    · exact ⟨Nat.le_of_ble_eq_true rfl, rfl, ol_isA (k := 7) (Nat.le_of_ble_eq_true rfl) rfl (Or.inl rfl)⟩
    · exact ⟨Nat.le_of_ble_eq_true rfl, rfl, ol_isA (k := 8) (Nat.le_of_ble_eq_true rfl) rfl (Or.inr (Or.inr (Or.inr (Or.inl rfl))))⟩), rfl, rfl⟩
  refine ⟨TV, ?_, h7, h1⟩
  refine e1.trans ?_
  exact (congrArg (fun z => Option.bind z fun g13 => some g13) fd).trans rfl
section ZM
variable {V : hf_V} {v : Nat → Nat}
theorem m_imageL (S : hf_sv V v) {k : Nat} (hk : k < 4) : ∃ G, lpX4_image_33 hf_N (Int32.ofNat k) (Int32.ofNat 0) V = some (Int32.ofNat (v 3), hf_sa V 34 G) ∧ (∀ i, i < 123 → G (123 * k + i) = Int32.ofNat (v i)) ∧ ∀ j, (j < 123 * k ∨ 123 * k + 123 ≤ j) → G j = V.2.2.2.1 34 j := by
  have hst : V = hf_sa V 34 (V.2.2.2.1 34) := by
    unfold hf_sa
    refine Prod.ext rfl (Prod.ext rfl (Prod.ext rfl (Prod.ext ?_ rfl)))
    funext j
    by_cases e : j = 34 <;> simp [e]
  have key : ∃ G, lpX4_image_33 hf_N (Int32.ofNat k) (Int32.ofNat 0) (hf_sa V 34 (V.2.2.2.1 34)) = some (Int32.ofNat (v 3), hf_sa V 34 G) ∧ (∀ i, i < 123 → G (123 * k + i) = Int32.ofNat (v i)) ∧ ∀ j, (j < 123 * k ∨ 123 * k + 123 ≤ j) → G j = V.2.2.2.1 34 j := by
    refine hf_loopR (fun n i G => lpX4_image_33 n (Int32.ofNat k) (Int32.ofNat i) (hf_sa V 34 G)) (fun i G => (∀ j, j < i → G (123 * k + j) = Int32.ofNat (v j)) ∧ ∀ j, (j < 123 * k ∨ 123 * k + 123 ≤ j) → G j = V.2.2.2.1 34 j) 123 (fun r => ∃ G, r = some (Int32.ofNat (v 3), hf_sa V 34 G) ∧ (∀ i, i < 123 → G (123 * k + i) = Int32.ofNat (v i)) ∧ ∀ j, (j < 123 * k ∨ 123 * k + 123 ≤ j) → G j = V.2.2.2.1 34 j) (fun i n G hi hP => ?_) (fun n G hP => ?_) (V.2.2.2.1 34) ⟨fun j hj => by omega, fun j _ => rfl⟩ (fuel := hf_N) (by unfold hf_N; omega)
    · have S2 : hf_sv (hf_sa V 34 G) v := S.sa (by decide) G
      refine ⟨zup G (123 * k + i) (Int32.ofNat (v i)), ?_, fun j hj => ?_, fun j hj => ?_⟩
      · show ndX4_image_33 (lpX4_image_33 n) _ _ _ = _
        unfold ndX4_image_33
        have a1 : (123 : Int32) * Int32.ofNat k + Int32.ofNat i = Int32.ofNat (123 * k + i) := by rw [z_lit, z_mul, z_add]
        rw [a1, z_lit, if_neg (z_nle (a := 123) (by omega) (by decide)), S2.ld hi, Option.bind_some, z_sd (by omega) (by omega), hf_ua_sa, hf_let_eq, z_lit, z_add]
      · by_cases e : j = i
        · rw [e, zup_at]
        · rw [zup_ne _ (by omega)]; exact hP.1 j (by omega)
      · rw [zup_ne _ (by omega)]; exact hP.2 j hj
    · refine ⟨G, ?_, hP.1, hP.2⟩
      have S2 : hf_sv (hf_sa V 34 G) v := S.sa (by decide) G
      show ndX4_image_33 (lpX4_image_33 n) _ _ _ = _
      unfold ndX4_image_33
      rw [z_lit, if_pos (z_yle (a := 123) (by decide) (by decide)), S2.l3, Option.bind_some]
  rw [← hst] at key
  exact key
theorem m_image (S : hf_sv V v) {k : Nat} (hk : k < 4) : ∃ V', spX4_image (Int32.ofNat k) V = some (Int32.ofNat (v 3), V') ∧ V'.1 = V.1 ∧ (∀ j, j ≠ 34 → j ≠ 35 → j ≠ 36 → V'.2.2.2.1 j = V.2.2.2.1 j) ∧ (∀ i, i < 123 → V'.2.2.2.1 34 (123 * k + i) = Int32.ofNat (v i)) ∧ (∀ j, (j < 123 * k ∨ 123 * k + 123 ≤ j) → V'.2.2.2.1 34 j = V.2.2.2.1 34 j) ∧ (∀ j, V'.2.2.2.1 35 j = if j = k then V.1 21 else V.2.2.2.1 35 j) ∧ ∀ j, V'.2.2.2.1 36 j = if j = k then 1 else V.2.2.2.1 36 j := by
  have S2 : hf_sv (hf_ua (hf_ua V 36 k 1) 35 k (V.1 21)) v := fun j => by
    rw [hf_ua_ne _ (by decide), hf_ua_ne _ (by decide)]
    exact S j
  obtain ⟨G, g1, g2, g3⟩ := m_imageL S2 hk
  have m3 : spX4_in (Int32.ofNat k).toInt64 (0 : Int64) (3 : Int64) = some (if zin (Int32.ofNat k) 4 then Int32.ofNat 1 else Int32.ofNat 0) := m_inl (Int32.ofNat k) (n := 3) (by decide)
  refine ⟨hf_sa (hf_ua (hf_ua V 36 k 1) 35 k (V.1 21)) 34 G, ?_, rfl, fun j h1 h2 h3 => ?_, fun i hi => ?_, fun j hj => ?_, fun j => ?_, fun j => ?_⟩
  · unfold spX4_image
    rw [m3, Option.bind_some, z1T (zin_of hk (by decide)), vp_nar01.2, z_sd hk (by omega), z_sd hk (by omega)]
    exact g1
  · rw [hf_sa_ne _ h1, hf_ua_ne _ h2, hf_ua_ne _ h3]
  · rw [hf_sa_at]; exact g2 i hi
  · rw [hf_sa_at, g3 j hj, hf_ua_ne _ (by decide), hf_ua_ne _ (by decide)]
  · rw [hf_sa_ne _ (by decide), hf_ua_at, hf_ua_ne _ (by decide)]
  · rw [hf_sa_ne _ (by decide), hf_ua_ne _ (by decide), hf_ua_at]
end ZM
/-- an image keeps trials -/
theorem x_keepL {g : hf_H} {o ik : Nat} {XV IV : hf_V} (eo : hf_ob 1 0 g o = some XV) (ei : hf_ob 1 18 g ik = some IV) (hr : IV.2.2.1 7 = some o) : ∃ IV', lpX18_keep_27 hf_N ik (Int32.ofNat 0) g = some (hf_up g ik (.inl (1, 18, IV'))) ∧ IV'.2.2.1 = IV.2.2.1 ∧ (∀ k, k < 12 → IV'.2.2.2.1 2 k = XV.2.2.2.1 7 k ∧ IV'.2.2.2.1 3 k = XV.2.2.2.1 8 k ∧ IV'.2.2.2.1 4 k = vp_nar .boolean (XV.2.2.2.1 9 k)) ∧ IV'.1 5 = XV.1 10 ∧ IV'.1 6 = XV.1 11 := by
  have hne : o ≠ ik := hf_ob_dif eo ei (by decide)
  have hst : g = hf_up g ik (.inl (1, 18, IV)) := (hf_up_self ei).symm
  have key : ∃ IV', lpX18_keep_27 hf_N ik (Int32.ofNat 0) (hf_up g ik (.inl (1, 18, IV))) = some (hf_up g ik (.inl (1, 18, IV'))) ∧ IV'.2.2.1 = IV.2.2.1 ∧ (∀ k, k < 12 → IV'.2.2.2.1 2 k = XV.2.2.2.1 7 k ∧ IV'.2.2.2.1 3 k = XV.2.2.2.1 8 k ∧ IV'.2.2.2.1 4 k = vp_nar .boolean (XV.2.2.2.1 9 k)) ∧ IV'.1 5 = XV.1 10 ∧ IV'.1 6 = XV.1 11 := by
    refine hf_loopR (fun n i IV1 => lpX18_keep_27 n ik (Int32.ofNat i) (hf_up g ik (.inl (1, 18, IV1)))) (fun i IV1 => IV1.2.2.1 = IV.2.2.1 ∧ ∀ k, k < i → IV1.2.2.2.1 2 k = XV.2.2.2.1 7 k ∧ IV1.2.2.2.1 3 k = XV.2.2.2.1 8 k ∧ IV1.2.2.2.1 4 k = vp_nar .boolean (XV.2.2.2.1 9 k)) 12 (fun r => ∃ IV', r = some (hf_up g ik (.inl (1, 18, IV'))) ∧ IV'.2.2.1 = IV.2.2.1 ∧ (∀ k, k < 12 → IV'.2.2.2.1 2 k = XV.2.2.2.1 7 k ∧ IV'.2.2.2.1 3 k = XV.2.2.2.1 8 k ∧ IV'.2.2.2.1 4 k = vp_nar .boolean (XV.2.2.2.1 9 k)) ∧ IV'.1 5 = XV.1 10 ∧ IV'.1 6 = XV.1 11) (fun i n IV1 hi hP => ?_) (fun n IV1 hP => ?_) IV ⟨rfl, fun k hk => by omega⟩ (fuel := hf_N) (by unfold hf_N; omega)
    · have fo : ∀ Y : hf_V, hf_ob 1 0 (hf_up g ik (.inl (1, 18, Y))) o = some XV := fun Y => by rw [hf_ob_ne hne]; exact eo
      have fi : ∀ Y : hf_V, hf_ob 1 18 (hf_up g ik (.inl (1, 18, Y))) ik = some Y := fun Y => hf_ob_up g ik 1 18 Y
      refine ⟨hf_ua (hf_ua (hf_ua IV1 2 i (XV.2.2.2.1 7 i)) 3 i (XV.2.2.2.1 8 i)) 4 i (vp_nar .boolean (XV.2.2.2.1 9 i)), ?_, hP.1, fun k hk => ?_⟩
      · show ndX18_keep_27 (lpX18_keep_27 n) _ _ _ = _
        have r7 : ∀ Y : hf_V, Y.2.2.1 = IV.2.2.1 → hf_ga 1 18 7 (hf_up g ik (.inl (1, 18, Y))) ik = some o := fun Y hY => by rw [hf_ga_eq (fi Y), hY, hr]
        unfold ndX18_keep_27
        rw [z_lit, if_neg (z_nle (a := 12) (by omega) (by decide)), fi, Option.bind_some, r7 _ hP.1, Option.bind_some, fo, Option.bind_some, hf_ai_eq (fo _), z_ld hi (by omega), Option.bind_some, hf_si_eq (fi _) 2 hi (by omega), Option.bind_some, hf_up_up, fi, Option.bind_some, r7 (hf_ua IV1 2 i (XV.2.2.2.1 7 i)) hP.1, Option.bind_some, fo, Option.bind_some, hf_ai_eq (fo _), z_ld hi (by omega), Option.bind_some, hf_si_eq (fi _) 3 hi (by omega), Option.bind_some, hf_up_up, fi, Option.bind_some, r7 (hf_ua (hf_ua IV1 2 i (XV.2.2.2.1 7 i)) 3 i (XV.2.2.2.1 8 i)) hP.1, Option.bind_some, fo, Option.bind_some, hf_ai_eq (fo _), z_ld hi (by omega), Option.bind_some, hf_si_eq (fi _) 4 hi (by omega), Option.bind_some, hf_up_up, hf_let_eq, z_lit, z_add]
      · rw [hf_ua_ne _ (by decide), hf_ua_ne _ (by decide), hf_ua_at, hf_ua_ne _ (by decide), hf_ua_at, hf_ua_ne _ (by decide), hf_ua_at, hf_ua_ne _ (by decide), hf_ua_ne _ (by decide)]
        by_cases e : k = i
        · subst e; rw [if_pos rfl, if_pos rfl, if_pos rfl]; exact ⟨rfl, rfl, rfl⟩
        · rw [if_neg e, if_neg e, if_neg e]; exact hP.2 k (by omega)
    · have fo : ∀ Y : hf_V, hf_ob 1 0 (hf_up g ik (.inl (1, 18, Y))) o = some XV := fun Y => by rw [hf_ob_ne hne]; exact eo
      have fi : ∀ Y : hf_V, hf_ob 1 18 (hf_up g ik (.inl (1, 18, Y))) ik = some Y := fun Y => hf_ob_up g ik 1 18 Y
      have r7 : ∀ Y : hf_V, Y.2.2.1 = IV.2.2.1 → hf_ga 1 18 7 (hf_up g ik (.inl (1, 18, Y))) ik = some o := fun Y hY => by rw [hf_ga_eq (fi Y), hY, hr]
      refine ⟨hf_ui (hf_ui IV1 5 (XV.1 10)) 6 (XV.1 11), ?_, hP.1, hP.2, ?_, hf_ui_at _ _ _⟩
      · show ndX18_keep_27 (lpX18_keep_27 n) _ _ _ = _
        unfold ndX18_keep_27
        rw [z_lit, if_pos (z_yle (a := 12) (by decide) (by decide)), r7 _ hP.1, Option.bind_some, hf_gi_eq (fo _), Option.bind_some, hf_pi_eq (fi _), Option.bind_some, hf_up_up, r7 (hf_ui IV1 5 (XV.1 10)) hP.1, Option.bind_some, hf_gi_eq (fo _), Option.bind_some, hf_pi_eq (fi _), Option.bind_some, hf_up_up]
      · rw [hf_ui_ne _ (by decide), hf_ui_at]
  rw [← hst] at key
  exact key
