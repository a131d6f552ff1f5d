set_option maxRecDepth 100000
set_option maxHeartbeats 1000000
/-! both pass an hour by a rule -/
theorem zgo_ot (v : Nat → Nat) (b w j : Nat) (hj : j ≠ 70 + 4 * b + 1) : zgo v b w j = v j := zup_ne _ hj _
theorem zhour_3 (v : Nat → Nat) : zhour v 3 = v 3 + 1 := by
  unfold zhour
  rw [zsee_ot _ _ 3 (fun b _ => by omega), zup_at]
theorem zhour_wh (v : Nat → Nat) (j : Nat) (hj : j < 12) : zhour v (10 + 5 * j + 3) = v (10 + 5 * j + 3) := by
  unfold zhour
  rw [zsee_ot _ _ _ (fun b _ => by omega), zup_ne _ (by omega)]
theorem zhour_pu (v : Nat → Nat) (b : Nat) : zhour v (70 + 4 * b) = v (70 + 4 * b) := by
  unfold zhour
  rw [zsee_ot _ _ _ (fun b _ => by omega), zup_ne _ (by omega)]
section ZX
variable {h : hf_H} {o f s s' : Nat} {v : Nat → Nat} {XV V : hf_V} {a t : Nat}
theorem xm_goes1 (B : hf_BB h o f s s' XV V v a t) {v' : Nat → Nat} {g : hf_H} {V' : hf_V} (J : hf_JJ h o s' XV V v g V' v') {b w : Nat} (hb : b < v' 2) (hw : w < 3) : ∃ g2, spX2_goes s' f (Int32.ofNat b) (zway w) g = some g2 ∧ spX4_goes (Int32.ofNat b) (zway w) V' = some (hf_sd20 V' (zgo v' b w)) ∧ hf_JJ h o s' XV V v g2 (hf_sd20 V' (zgo v' b w)) (zgo v' b w) := by
  obtain ⟨W, SV, rfl, j2, Wf, E, Sv, M⟩ := J
  have q2 := Wf.v2
  have F := hf_JJ.ff B W SV E
  have S : hf_SS (hf_sc (hf_xc h o (hf_xw XV W)) s' SV) s' v' := hf_SS.sc _ s' j2
  obtain ⟨SV2, x1, x2⟩ := x_goes F S Wf hb hw
  rw [hf_sc_sc] at x1
  obtain ⟨E2, W2⟩ := zgo_wf Wf (w := w) hb
  exact ⟨_, x1, m_goes Sv (by omega) (Wf.b0 hb) (by omega), W, SV2, rfl, x2, W2, E.trans E2, hf_sd20_sv V' W2.b, M.trans (hf_mq.sd20 V' _)⟩
theorem xm_pass1 (B : hf_BB h o f s s' XV V v a t) {v' : Nat → Nat} {g : hf_H} {V' : hf_V} (J : hf_JJ h o s' XV V v g V' v') (h3 : v' 3 < 99) : ∃ g2, spX2_passes s' f g = some g2 ∧ spX4_hourComes V' = some (hf_sd20 V' (zhour v')) ∧ hf_JJ h o s' XV V v g2 (hf_sd20 V' (zhour v')) (zhour v') := by
  obtain ⟨W, SV, rfl, j2, Wf, E, Sv, M⟩ := J
  have q2 := Wf.v2
  have q4 := Wf.v4
  have F := hf_JJ.ff B W SV E
  have S : hf_SS (hf_sc (hf_xc h o (hf_xw XV W)) s' SV) s' v' := hf_SS.sc _ s' j2
  obtain ⟨SV2, x1, x2⟩ := x_passes F S Wf h3
  rw [hf_sc_sc] at x1
  obtain ⟨E2, W2⟩ := zhour_wf Wf h3
  exact ⟨_, x1, m_hourComes Sv Wf.v1 q2 Wf.v0 (by omega) (by omega) (fun b hb => (Wf.buyer hb).2.1), W, SV2, rfl, x2, W2, E.trans E2, hf_sd20_sv V' W2.b, M.trans (hf_mq.sd20 V' _)⟩
theorem xm_way (B : hf_BB h o f s s' XV V v a t) {v' : Nat → Nat} {g : hf_H} {V' : hf_V} (J : hf_JJ h o s' XV V v g V' v') {b : Nat} (hb : b < v' 2) : ∃ (w : Nat) (g2 : hf_H) (V2 : hf_V), w < 3 ∧ spX0_wayBy o s' (Int32.ofNat b) a g = some (zway w, g2) ∧ spX4_goingBy (Int32.ofNat t) (Int32.ofNat b) V' = some (zway w, V2) ∧ hf_JJ h o s' XV V v g2 V2 v' ∧ V2.1 26 = V'.1 26 := by
  obtain ⟨W, SV, rfl, j2, Wf, E, Sv, M⟩ := J
  have X := hf_JJ.xx B W SV
  have F := hf_JJ.ff B W SV E
  have S : hf_SS (hf_sc (hf_xc h o (hf_xw XV W)) s' SV) s' v' := hf_SS.sc _ s' j2
  have e := hf_JJ.oo B W SV
  obtain ⟨W1, w1, w2⟩ := x_asks X F S Wf e hb (q := none) (fun k hk => by cases hk)
  obtain ⟨U, u1, u2⟩ := m_wordsOf Sv Wf hb
  rw [hf_JJ.xc B] at w1
  have w1' : spX0_asks o s' (Int32.ofNat b) (-1 : Int32) (hf_sc (hf_xc h o (hf_xw XV W)) s' SV) = some (hf_sc (hf_xc h o (hf_xw XV W1)) s' SV) := w1
  have X1 := hf_JJ.xx B W1 SV
  have M1 : hf_mq V (hf_wv V' U) := M.trans (hf_mq.wv V' U)
  have R1 := hf_JJ.rr B W1 SV M1.tx
  have D1 : hf_wd (hf_sc (hf_xc h o (hf_xw XV W1)) s' SV) o ((hf_wv V' U).2.2.2.2.1 19) := ⟨hf_xw XV W1, hf_JJ.oo B W1 SV, fun k hk => by
    show W1 k = U k
    rw [w2 k hk, u2 k hk]⟩
  have hob8 : ∀ K : Option (Int32 × hf_H), ((hf_ob 0 8 (hf_sc (hf_xc h o (hf_xw XV W1)) s' SV) a).bind fun _ => K) = K := fun K => by
    obtain ⟨_, RV, l, nn, p, r1, -⟩ := R1
    rw [r1]; rfl
  obtain ⟨x, A, y, s1, s2⟩ := xm_sum R1 D1 (q := 1) (by decide)
  have s1' : spX8_sum a (0 : Int32) o (hf_sc (hf_xc h o (hf_xw XV W1)) s' SV) = some (x, hf_sc (hf_xc h o (hf_xw XV W1)) s' SV) := s1
  have s2' : spX4_summedBy (Int32.ofNat t) (1 : Int32) (hf_wv V' U) = some (x, hf_skx (hf_wv V' U) A y) := s2
  have M2 : hf_mq V (hf_skx (hf_wv V' U) A y) := M1.trans (hf_mq.skx _ A y)
  have J2 : hf_JJ h o s' XV V v (hf_sc (hf_xc h o (hf_xw XV W1)) s' SV) (hf_skx (hf_wv V' U) A y) v' := ⟨W1, SV, rfl, j2, Wf, E, (Sv.wv U).skx A y, M2⟩
  have hX : spX0_wayBy o s' (Int32.ofNat b) a (hf_sc (hf_xc h o (hf_xw XV W)) s' SV) = if x = 1 then some (Int64.toInt32 x, hf_sc (hf_xc h o (hf_xw XV W1)) s' SV) else if x = -1 then some (Int64.toInt32 x, hf_sc (hf_xc h o (hf_xw XV W1)) s' SV) else some ((0 : Int32), hf_sc (hf_xc h o (hf_xw XV W1)) s' SV) := by
    unfold spX0_wayBy ndX0_wayBy_34
    rw [X.ob, w1', Option.bind_some, X1.ob, hob8, s1', hf_b2_some]
    simp only [lg_cmp_eq]
  have hM : spX4_goingBy (Int32.ofNat t) (Int32.ofNat b) V' = if x = 1 then some ((1 : Int32), hf_skx (hf_wv V' U) A y) else if x = -1 then some ((-1 : Int32), hf_skx (hf_wv V' U) A y) else some ((0 : Int32), hf_skx (hf_wv V' U) A y) := by
    unfold spX4_goingBy
    rw [u1, Option.bind_some, s2', hf_b2_some]
    simp only [lg_cmp_eq]
  rw [hX, hM]
  by_cases e1 : x = 1
  · rw [if_pos e1, if_pos e1, e1]
    exact ⟨2, _, _, by decide, rfl, rfl, J2, rfl⟩
  · rw [if_neg e1, if_neg e1]
    by_cases e2 : x = -1
    · rw [if_pos e2, if_pos e2, e2]
      exact ⟨0, _, _, by decide, rfl, rfl, J2, rfl⟩
    · rw [if_neg e2, if_neg e2]
      exact ⟨1, _, _, by decide, rfl, rfl, J2, rfl⟩
theorem xm_hour (B : hf_BB h o f s s' XV V v a t) {v' : Nat → Nat} {g : hf_H} {V' : hf_V} (J : hf_JJ h o s' XV V v g V' v') (h3 : v' 3 < 99) : ∃ (S : Nat) (g2 : hf_H) (V2 : hf_V) (v2 : Nat → Nat), spX0_hourBy o s' a g = some (Int32.ofNat S, g2) ∧ spX4_passes (Int32.ofNat t) V' = some V2 ∧ hf_JJ h o s' XV V v g2 V2 v2 ∧ hf_fe v' v2 ∧ zbt v' v2 S ∧ v2 3 = v' 3 + 1 := by
  obtain ⟨X, F, S, Wf, Sv, E, R⟩ := J.x2 B
  have q1 := Wf.v1
  have q2 := Wf.v2
  unfold spX0_hourBy spX4_passes
  refine hf_loopR2 (fun n i (z : Nat × hf_H × hf_V × (Nat → Nat)) => lpX0_hourBy_5 n o s' a (Int32.ofNat z.1) (Int32.ofNat i) z.2.1) (fun n i (z : Nat × hf_H × hf_V × (Nat → Nat)) => lpX4_passes_2 n (Int32.ofNat t) (Int32.ofNat i) z.2.2.1) (fun i z => hf_JJ h o s' XV V v z.2.1 z.2.2.1 z.2.2.2 ∧ hf_fe v' z.2.2.2 ∧ zbt v' z.2.2.2 z.1 ∧ z.2.2.2 3 = v' 3) (v' 2) (fun r1 r2 => ∃ (S : Nat) (g2 : hf_H) (V2 : hf_V) (v2 : Nat → Nat), r1 = some (Int32.ofNat S, g2) ∧ r2 = some V2 ∧ hf_JJ h o s' XV V v g2 V2 v2 ∧ hf_fe v' v2 ∧ zbt v' v2 S ∧ v2 3 = v' 3 + 1) (fun i n z hi hP => ?_) (fun n z hP => ?_) (0, g, V', v') ⟨J, hf_fe.rfl_ v', zbt.same (fun _ _ => rfl) (fun _ => Nat.le_refl _), rfl⟩ (fuel := hf_N) (by unfold hf_N; omega)
  · obtain ⟨S1, g1, V1, v1⟩ := z
    obtain ⟨p1, p2, p3, p4⟩ := hP
    simp only at p1 p2 p3 p4
    right
    obtain ⟨X1, F1, SS1, Wf1, Sv1, E1, R1⟩ := p1.x2 B
    have e2 : v1 2 = v' 2 := p2.2.2.1
    have e1 : v1 1 = v' 1 := p2.2.1
    obtain ⟨S2, g2, V2, v2, b1, b2, b3, b4, b5, b6, b7⟩ := xm_buysAll B p1 (b := i) (by omega)
    obtain ⟨X2, F2, SS2, Wf2, Sv2, E2, R2⟩ := b3.x2 B
    have e22 : v2 2 = v1 2 := b4.2.2.1
    have e21 : v2 1 = v1 1 := b4.2.1
    obtain ⟨w, g3, V3, hw, c1, c2, c3, c4⟩ := xm_way B b3 (b := i) (by omega)
    obtain ⟨X3, F3, SS3, Wf3, Sv3, E3, R3⟩ := c3.x2 B
    obtain ⟨g4, d1, d2, d3⟩ := xm_goes1 B c3 (b := i) (w := w) (by omega) hw
    obtain ⟨E4, Wf4⟩ := zgo_wf Wf2 (b := i) (w := w) (by omega)
    refine ⟨(S1 ||| S2, g4, hf_sd20 V3 (zgo v2 i w), zgo v2 i w), ?_, ?_, d3, (p2.trans b4).trans E4, ?_, ?_⟩
    · show ndX0_hourBy_5 (lpX0_hourBy_5 n) o s' a (Int32.ofNat S1) (Int32.ofNat i) g1 = lpX0_hourBy_5 n o s' a (Int32.ofNat (S1 ||| S2)) (Int32.ofNat (i + 1)) g4
      unfold ndX0_hourBy_5
      rw [X1.ob, x_buyers X1 F1, hf_b2_some, if_neg (z_nle (by omega) (by omega)), X1.ob, b1, hf_b2_some, hf_let_eq, X2.fa, Option.bind_some, X2.ob, c1, hf_b2_some, SS3.ob, d1, Option.bind_some, hf_let_eq, z_or, z_lit, z_add]
    · show ndX4_passes_2 (lpX4_passes_2 n) (Int32.ofNat t) (Int32.ofNat i) V1 = lpX4_passes_2 n (Int32.ofNat t) (Int32.ofNat (i + 1)) (hf_sd20 V3 (zgo v2 i w))
      unfold ndX4_passes_2
      rw [z_lit, Sv1.ld (i := 2) (by decide), Option.bind_some, if_neg (z_nle (by omega) (by omega)), b2, Option.bind_some, c2, hf_b2_some, d2, Option.bind_some, hf_let_eq, z_lit, z_add]
    · have h0 : zbt v2 (zgo v2 i w) 0 := zbt.same (fun k hk => zgo_ot v2 i w _ (by have := Wf2.v1; omega)) (fun b => Nat.le_of_eq (zgo_ot v2 i w _ (by omega)))
      have := (p3.trans e1 b5).trans (show v2 1 = v' 1 by omega) h0
      rw [Nat.or_zero] at this
      exact this
    · show zgo v2 i w 3 = v' 3
      rw [zgo_ot v2 i w 3 (by omega), b7, p4]
  · obtain ⟨S1, g1, V1, v1⟩ := z
    obtain ⟨p1, p2, p3, p4⟩ := hP
    simp only at p1 p2 p3 p4
    obtain ⟨X1, F1, SS1, Wf1, Sv1, E1, R1⟩ := p1.x2 B
    have e2 : v1 2 = v' 2 := p2.2.2.1
    have e1 : v1 1 = v' 1 := p2.2.1
    obtain ⟨g2, d1, d2, d3⟩ := xm_pass1 B p1 (by omega)
    obtain ⟨E4, Wf4⟩ := zhour_wf Wf1 (by omega)
    refine ⟨S1, g2, hf_sd20 V1 (zhour v1), zhour v1, ?_, ?_, d3, p2.trans E4, ?_, ?_⟩
    · show ndX0_hourBy_5 (lpX0_hourBy_5 n) o s' a (Int32.ofNat S1) (Int32.ofNat (v' 2)) g1 = _
      unfold ndX0_hourBy_5
      rw [X1.ob, x_buyers X1 F1, hf_b2_some, e2, if_pos (z_yle (Nat.le_refl _) (by omega)), X1.fa, Option.bind_some, SS1.ob, d1, Option.bind_some]
    · show ndX4_passes_2 (lpX4_passes_2 n) (Int32.ofNat t) (Int32.ofNat (v' 2)) V1 = _
      unfold ndX4_passes_2
      rw [z_lit, Sv1.ld (i := 2) (by decide), Option.bind_some, e2, if_pos (z_yle (Nat.le_refl _) (by omega)), d2, Option.bind_some]
    · have h0 : zbt v1 (zhour v1) 0 := zbt.same (fun k hk => zhour_wh v1 k (by have := Wf1.v1; omega)) (fun b => Nat.le_of_eq (zhour_pu v1 b))
      have := p3.trans e1 h0
      rw [Nat.or_zero] at this
      exact this
    · rw [zhour_3, p4]
end ZX
