set_option maxRecDepth 100000
set_option maxHeartbeats 1000000
/-! both by a rule, in step: what stays -/
/-- the model but for its stack, words, said, what was bought -/
def hf_mq (V V' : hf_V) : Prop := (∀ k, k ≠ 18 → k ≠ 26 → V'.1 k = V.1 k) ∧ V'.2.1 = V.2.1 ∧ V'.2.2.1 = V.2.2.1 ∧ (∀ k, k ≠ 20 → V'.2.2.2.1 k = V.2.2.2.1 k) ∧ V'.2.2.2.2.2 = V.2.2.2.2.2
theorem hf_mq.rfl_ (V : hf_V) : hf_mq V V := ⟨fun _ _ _ => rfl, rfl, rfl, fun _ _ => rfl, rfl⟩
theorem hf_mq.trans {A B C : hf_V} (H : hf_mq A B) (K : hf_mq B C) : hf_mq A C := ⟨fun k a b => (K.1 k a b).trans (H.1 k a b), K.2.1.trans H.2.1, K.2.2.1.trans H.2.2.1, fun k a => (K.2.2.2.1 k a).trans (H.2.2.2.1 k a), K.2.2.2.2.trans H.2.2.2.2⟩
theorem hf_mq.wv (V : hf_V) (W : Nat → Int64) : hf_mq V (hf_wv V W) := ⟨fun _ _ _ => rfl, rfl, rfl, fun _ _ => rfl, rfl⟩
theorem hf_mq.skx (V : hf_V) (A : Nat → Int64) (x : Int32) : hf_mq V (hf_skx V A x) := ⟨fun k a _ => if_neg a, rfl, rfl, fun _ _ => rfl, rfl⟩
theorem hf_mq.sd20 (V : hf_V) (v : Nat → Nat) : hf_mq V (hf_sd20 V v) := ⟨fun _ _ _ => rfl, rfl, rfl, fun k a => hf_sa_ne V a _, rfl⟩
theorem hf_mq.ui26 (V : hf_V) (x : Int32) : hf_mq V (hf_ui V 26 x) := ⟨fun k _ a => if_neg a, rfl, rfl, fun _ _ => rfl, rfl⟩
theorem hf_mq.tx {V V' : hf_V} (H : hf_mq V V') : hf_txq V V' := ⟨H.2.2.2.1 3 (by decide), H.2.2.2.1 5 (by decide), H.2.2.2.1 6 (by decide)⟩
theorem hf_sv.skx {V : hf_V} {v : Nat → Nat} (S : hf_sv V v) (A : Nat → Int64) (x : Int32) : hf_sv (hf_skx V A x) v := S
theorem hf_sv.ui {V : hf_V} {v : Nat → Nat} (S : hf_sv V v) (k : Nat) (x : Int32) : hf_sv (hf_ui V k x) v := S
/-- trees are as they were -/
def hf_kv (h h' : hf_H) : Prop := ∀ a ci V, 10 ≤ ci → ci ≤ 17 → hf_ob 0 ci h a = some V → hf_ob 0 ci h' a = some V
theorem hf_Val.kv {h h' : hf_H} (K : hf_kv h h') : ∀ (d a : Nat) (c : List Nat), hf_Val d h a c → hf_Val d h' a c
  | 0, _, _, H => by cases H
  | d + 1, a, c, H => by
    rcases H with ⟨V, k, e1, e2⟩ | ⟨V, k, e1, e2⟩ | ⟨V, a1, a2, c1, c2, s, e1, e2, e3, e4, e5, e6⟩
    · exact Or.inl ⟨V, k, K a 10 V (by decide) (by decide) e1, e2⟩
    · exact Or.inr (Or.inl ⟨V, k, K a 11 V (by decide) (by decide) e1, e2⟩)
    · exact Or.inr (Or.inr ⟨V, a1, a2, c1, c2, s, K a 12 V (by decide) (by decide) e1, e2, e3, hf_Val.kv K d a1 c1 e4, hf_Val.kv K d a2 c2 e5, e6⟩)
theorem hf_Cnd.kv {h h' : hf_H} (K : hf_kv h h') : ∀ (d a : Nat) (c : List Nat), hf_Cnd d h a c → hf_Cnd d h' a c
  | 0, _, _, H => by cases H
  | d + 1, a, c, H => by
    rcases H with ⟨V, a1, c1, e1, e2, e3, e4⟩ | ⟨V, a1, a2, c1, c2, s, e1, e2, e3, e4, e5, e6⟩ | ⟨V, a1, a2, c1, c2, s, e1, e2, e3, e4, e5, e6⟩
    · exact Or.inl ⟨V, a1, c1, K a 15 V (by decide) (by decide) e1, e2, hf_Cnd.kv K d a1 c1 e3, e4⟩
    · exact Or.inr (Or.inl ⟨V, a1, a2, c1, c2, s, K a 16 V (by decide) (by decide) e1, e2, e3, hf_Val.kv K 64 a1 c1 e4, hf_Val.kv K 64 a2 c2 e5, e6⟩)
    · exact Or.inr (Or.inr ⟨V, a1, a2, c1, c2, s, K a 17 V (by decide) (by decide) e1, e2, e3, hf_Cnd.kv K d a1 c1 e4, hf_Cnd.kv K d a2 c2 e5, e6⟩)
theorem hf_Told.kv {h h' : hf_H} (K : hf_kv h h') {a t k : Nat} {V : hf_V} (H : hf_Told h a V t k) : hf_Told h' a V t k := by
  obtain ⟨TV, sv, c, b, e1, e2, e3, e4, e5, e6, e7, e8, e9, e10⟩ := H
  refine ⟨TV, sv, c, b, K a 13 TV (by decide) (by decide) e1, e2, e3.kv K 64 sv c, e4, e5, e6, e7, e8, e9, ?_⟩
  rcases e10 with g | ⟨cv, c', b', g1, g2, g3⟩
  · exact Or.inl g
  · exact Or.inr ⟨cv, c', b', g1, g2.kv K 64 cv c', g3⟩
theorem hf_kv.up {h : hf_H} {a md ci : Nat} {V V' : hf_V} (ha : hf_ob md ci h a = some V) (hne : ci < 10 ∨ 17 < ci) : hf_kv h (hf_up h a (.inl (md, ci, V'))) := fun b cj U h1 h2 hb => by
  rw [hf_ob_ne (hf_ob_dif hb ha (fun z => by have := z.2; omega))]
  exact hb
theorem hf_Rul.up {h : hf_H} {a t : Nat} {V : hf_V} (H : hf_Rul h a V t) {b md ci : Nat} {U U' : hf_V} (hb : hf_ob md ci h b = some U) (hne : ci < 8) : hf_Rul (hf_up h b (.inl (md, ci, U'))) a V t := by
  obtain ⟨ht, RV, l, n, p, r1, r2, r3, r4, r5, r6⟩ := H
  refine ⟨ht, RV, l, n, p, ?_, r2, r3.up hb (by omega), r4, r5, fun k hk => (r6 k hk).kv (hf_kv.up hb (by omega))⟩
  rw [hf_ob_ne (hf_ob_dif r1 hb (fun z => by have := z.2; omega))]
  exact r1
/-- where both began -/
def hf_BB (h : hf_H) (o f s s' : Nat) (XV V : hf_V) (v : Nat → Nat) (a t : Nat) : Prop := hf_XX h o f s ∧ hf_F h f v ∧ hf_ob 1 0 h o = some XV ∧ (∃ SV, hf_ob 1 2 h s' = some SV) ∧ hf_Rul h a V t
/-- where both stand -/
def hf_JJ (h : hf_H) (o s' : Nat) (XV V : hf_V) (v : Nat → Nat) (g : hf_H) (V' : hf_V) (v' : Nat → Nat) : Prop := ∃ (W : Nat → Int64) (SV : hf_V), g = hf_sc (hf_xc h o (hf_xw XV W)) s' SV ∧ hf_S2 SV v' ∧ hf_wf v' ∧ hf_fe v v' ∧ hf_sv V' v' ∧ hf_mq V V'
section ZX
variable {h g : hf_H} {o f s s' : Nat} {v v' : Nat → Nat} {XV V V' : hf_V} {a t : Nat}
theorem hf_BB.ne (B : hf_BB h o f s s' XV V v a t) : o ≠ s' := by
  obtain ⟨X, F, e, ⟨SV, es⟩, R⟩ := B
  exact hf_ob_dif e es (by decide)
theorem hf_JJ.s1 (B : hf_BB h o f s s' XV V v a t) (W : Nat → Int64) : ∃ SV, hf_ob 1 2 (hf_xc h o (hf_xw XV W)) s' = some SV := by
  have hne := B.ne
  obtain ⟨X, F, e, ⟨SV, es⟩, R⟩ := B
  refine ⟨SV, ?_⟩
  unfold hf_xc
  rw [hf_ob_ne hne.symm]
  exact es
theorem hf_JJ.xx (B : hf_BB h o f s s' XV V v a t) (W : Nat → Int64) (SV : hf_V) : hf_XX (hf_sc (hf_xc h o (hf_xw XV W)) s' SV) o f s := by
  obtain ⟨S1, e1⟩ := hf_JJ.s1 B W
  obtain ⟨X, F, e, es, R⟩ := B
  obtain ⟨XV0, x1, x2⟩ := X.xc (XV' := hf_xw XV W) e rfl rfl
  refine ⟨XV0, ?_, x2⟩
  unfold hf_sc
  rw [hf_ob_ne (hf_ob_dif x1 e1 (by decide))]
  exact x1
theorem hf_JJ.ff (B : hf_BB h o f s s' XV V v a t) (W : Nat → Int64) (SV : hf_V) (E : hf_fe v v') : hf_F (hf_sc (hf_xc h o (hf_xw XV W)) s' SV) f v' := by
  obtain ⟨S1, e1⟩ := hf_JJ.s1 B W
  obtain ⟨X, F, e, es, R⟩ := B
  exact ((F.xc e (hf_xw XV W)).up e1 (by decide)).fe E
theorem hf_JJ.rr (B : hf_BB h o f s s' XV V v a t) (W : Nat → Int64) (SV : hf_V) (T : hf_txq V V') : hf_Rul (hf_sc (hf_xc h o (hf_xw XV W)) s' SV) a V' t := by
  obtain ⟨S1, e1⟩ := hf_JJ.s1 B W
  obtain ⟨X, F, e, es, R⟩ := B
  exact ((R.up (U' := hf_xw XV W) e (by decide)).up e1 (by decide)).tx T
theorem hf_JJ.oo (B : hf_BB h o f s s' XV V v a t) (W : Nat → Int64) (SV : hf_V) : hf_ob 1 0 (hf_sc (hf_xc h o (hf_xw XV W)) s' SV) o = some (hf_xw XV W) := by
  unfold hf_sc
  rw [hf_ob_ne B.ne]
  exact hf_ob_xc h o _
theorem hf_JJ.xc (B : hf_BB h o f s s' XV V v a t) (W W' : Nat → Int64) (SV : hf_V) : hf_xc (hf_sc (hf_xc h o (hf_xw XV W)) s' SV) o (hf_xw (hf_xw XV W) W') = hf_sc (hf_xc h o (hf_xw XV W')) s' SV := by
  unfold hf_xc hf_sc
  rw [hf_up_comm _ B.ne.symm, hf_up_up, hf_xw_xw]
end ZX
section ZX
variable {h : hf_H} {o f s s' : Nat} {v : Nat → Nat} {XV V : hf_V} {a t : Nat}
/-- one can buy it -/
def zcb (v : Nat → Nat) (b k : Nat) : Prop := v (10 + 5 * k + 3) = zst v (v (70 + 4 * b + 1)) (v 3) ∧ zpr v k ≤ v (70 + 4 * b + 0)
theorem xm_wanted (B : hf_BB h o f s s' XV V v a t) {v' : Nat → Nat} {g : hf_H} {V' : hf_V} (J : hf_JJ h o s' XV V v g V' v') {b : Nat} (hb : b < v' 2) : ∃ (r : Option Nat) (g2 : hf_H) (V2 : hf_V), spX0_wanted o s' (Int32.ofNat b) a g = some (zhalf r, g2) ∧ spX4_nextFor (Int32.ofNat t) (Int32.ofNat b) V' = some (zhalf r, V2) ∧ hf_JJ h o s' XV V v g2 V2 v' ∧ V2.1 26 = V'.1 26 ∧ ∀ k, r = some k → k < v' 1 ∧ zcb v' b k := by
  obtain ⟨W0, SV, rfl, j2, Wf, E, Sv0, M0⟩ := J
  have q1 := Wf.v1
  have q2 := Wf.v2
  have ht : t ≤ 5 := B.2.2.2.2.1
  unfold spX0_wanted spX4_nextFor
  refine hf_loopR2 (fun n i (z : Option Nat × Int64 × (Nat → Int64) × hf_V) => lpX0_wanted_9 n o s' (Int32.ofNat b) a (zhalf z.1) z.2.1 (Int32.ofNat i) (hf_sc (hf_xc h o (hf_xw XV z.2.2.1)) s' SV)) (fun n i (z : Option Nat × Int64 × (Nat → Int64) × hf_V) => lpX4_nextFor_8 n (Int32.ofNat t) (Int32.ofNat b) (zhalf z.1) z.2.1 (Int32.ofNat i) z.2.2.2) (fun i z => hf_sv z.2.2.2 v' ∧ hf_mq V z.2.2.2 ∧ z.2.2.2.1 26 = V'.1 26 ∧ ∀ k, z.1 = some k → k < v' 1 ∧ zcb v' b k) (v' 1) (fun r1 r2 => ∃ (r : Option Nat) (g2 : hf_H) (V2 : hf_V), r1 = some (zhalf r, g2) ∧ r2 = some (zhalf r, V2) ∧ hf_JJ h o s' XV V v g2 V2 v' ∧ V2.1 26 = V'.1 26 ∧ ∀ k, r = some k → k < v' 1 ∧ zcb v' b k) (fun i n z hi hP => ?_) (fun n z hP => ?_) (none, 0, W0, V') ⟨Sv0, M0, rfl, fun k hk => by cases hk⟩ (fuel := hf_N) (by unfold hf_N; omega)
  · obtain ⟨best, most, W, V1⟩ := z
    obtain ⟨p1, p2, p3, p4⟩ := hP
    simp only at p1 p2 p3 p4
    right
    have X := hf_JJ.xx B W SV
    have F := hf_JJ.ff B W SV E
    have S : hf_SS (hf_sc (hf_xc h o (hf_xw XV W)) s' SV) s' v' := hf_SS.sc _ s' j2
    have e := hf_JJ.oo B W SV
    have nX : lpX0_wanted_9 (n + 1) o s' (Int32.ofNat b) a (zhalf best) most (Int32.ofNat i) (hf_sc (hf_xc h o (hf_xw XV W)) s' SV) = ndX0_wanted_9 (lpX0_wanted_9 n) o s' (Int32.ofNat b) a (zhalf best) most (Int32.ofNat i) (hf_sc (hf_xc h o (hf_xw XV W)) s' SV) := rfl
    have nM : lpX4_nextFor_8 (n + 1) (Int32.ofNat t) (Int32.ofNat b) (zhalf best) most (Int32.ofNat i) V1 = ndX4_nextFor_8 (lpX4_nextFor_8 n) (Int32.ofNat t) (Int32.ofNat b) (zhalf best) most (Int32.ofNat i) V1 := rfl
    have jX : ∀ be mo g, ndX0_wanted_73 (lpX0_wanted_9 n) o s' (Int32.ofNat b) a be mo (Int32.ofNat i) g = lpX0_wanted_9 n o s' (Int32.ofNat b) a be mo (Int32.ofNat (i + 1)) g := fun be mo g => by
      unfold ndX0_wanted_73
      rw [hf_let_eq, z_lit, z_add]
    have jM : ∀ be mo U, ndX4_nextFor_65 (lpX4_nextFor_8 n) (Int32.ofNat t) (Int32.ofNat b) be mo (Int32.ofNat i) U = lpX4_nextFor_8 n (Int32.ofNat t) (Int32.ofNat b) be mo (Int32.ofNat (i + 1)) U := fun be mo U => by
      unfold ndX4_nextFor_65
      rw [hf_let_eq, z_lit, z_add]
    show ∃ z' : Option Nat × Int64 × (Nat → Int64) × hf_V, lpX0_wanted_9 (n + 1) o s' (Int32.ofNat b) a (zhalf best) most (Int32.ofNat i) (hf_sc (hf_xc h o (hf_xw XV W)) s' SV) = lpX0_wanted_9 n o s' (Int32.ofNat b) a (zhalf z'.1) z'.2.1 (Int32.ofNat (i + 1)) (hf_sc (hf_xc h o (hf_xw XV z'.2.2.1)) s' SV) ∧ lpX4_nextFor_8 (n + 1) (Int32.ofNat t) (Int32.ofNat b) (zhalf best) most (Int32.ofNat i) V1 = lpX4_nextFor_8 n (Int32.ofNat t) (Int32.ofNat b) (zhalf z'.1) z'.2.1 (Int32.ofNat (i + 1)) z'.2.2.2 ∧ hf_sv z'.2.2.2 v' ∧ hf_mq V z'.2.2.2 ∧ z'.2.2.2.1 26 = V'.1 26 ∧ ∀ k, z'.1 = some k → k < v' 1 ∧ zcb v' b k
    rw [nX, nM]
    unfold ndX0_wanted_9 ndX4_nextFor_8
    have qv := Wf.v0
    have qt := Wf.v3
    have q4 := Wf.v4
    have qb := Wf.buyer hb
    rw [X.ob, x_many X F, hf_b2_some, if_neg (z_nle hi (by omega)), X.fa, Option.bind_some, S.ob, x_canBuy F S Wf hb hi, hf_b2_some]
    rw [z_lit, z_lit, p1.ld (i := 1) (by decide), Option.bind_some, if_neg (z_nle hi (by omega)), m_canBuy p1 (by omega) (by omega) qb.2.1 qv (by omega) (by omega), hf_b2_some]
    by_cases hc : zcb v' b i
    · have hc' : v' (10 + 5 * i + 3) = zst v' (v' (70 + 4 * b + 1)) (v' 3) ∧ zpr v' i ≤ v' (70 + 4 * b + 0) := hc
      rw [if_pos hc', if_neg (by decide), if_neg (by decide)]
      obtain ⟨W1, w1, w2⟩ := x_asks X F S Wf e hb (q := some i) (fun k hk => by cases hk; exact hi)
      obtain ⟨U, u1, u2⟩ := m_wordsFor p1 Wf hb hi
      rw [hf_JJ.xc B] at w1
      have w1' : spX0_asks o s' (Int32.ofNat b) (Int32.ofNat i) (hf_sc (hf_xc h o (hf_xw XV W)) s' SV) = some (hf_sc (hf_xc h o (hf_xw XV W1)) s' SV) := w1
      have X1 := hf_JJ.xx B W1 SV
      have M1 : hf_mq V (hf_wv V1 U) := p2.trans (hf_mq.wv V1 U)
      have R1 := hf_JJ.rr B W1 SV M1.tx
      have D1 : hf_wd (hf_sc (hf_xc h o (hf_xw XV W1)) s' SV) o ((hf_wv V1 U).2.2.2.2.1 19) := ⟨hf_xw XV W1, hf_JJ.oo B W1 SV, fun k hk => by
        show W1 k = U k
        rw [w2 k hk, u2 k hk]⟩
      have hob8 : ∀ K : Option (Int32 × hf_H), ((hf_ob 0 8 (hf_sc (hf_xc h o (hf_xw XV W1)) s' SV) a).bind fun _ => K) = K := fun K => by
        obtain ⟨_, RV, l, nn, p, r1, -⟩ := R1
        rw [r1]; rfl
      obtain ⟨x, A, y, s1, s2⟩ := xm_sum R1 D1 (q := 0) (by decide)
      have s1' : spX8_sum a (Int32.ofNat 1) o (hf_sc (hf_xc h o (hf_xw XV W1)) s' SV) = some (x, hf_sc (hf_xc h o (hf_xw XV W1)) s' SV) := s1
      have s2' : spX4_summedBy (Int32.ofNat t) (Int32.ofNat 0) (hf_wv V1 U) = some (x, hf_skx (hf_wv V1 U) A y) := s2
      have M2 : hf_mq V (hf_skx (hf_wv V1 U) A y) := M1.trans (hf_mq.skx _ A y)
      rw [X.ob, w1', Option.bind_some, X1.ob, hob8, s1', hf_b2_some, u1, Option.bind_some, s2', hf_b2_some]
      by_cases hm : Int32.ofNat 0 < lg_cmp x most
      · rw [if_pos hm, if_pos hm, jX, jM]
        exact ⟨(some i, x, W1, hf_skx (hf_wv V1 U) A y), rfl, rfl, (p1.wv U).skx A y, M2, p3, fun k hk => by cases hk; exact ⟨hi, hc⟩⟩
      · rw [if_neg hm, if_neg hm, jX, jM]
        exact ⟨(best, most, W1, hf_skx (hf_wv V1 U) A y), rfl, rfl, (p1.wv U).skx A y, M2, p3, p4⟩
    · have hc' : ¬ (v' (10 + 5 * i + 3) = zst v' (v' (70 + 4 * b + 1)) (v' 3) ∧ zpr v' i ≤ v' (70 + 4 * b + 0)) := hc
      rw [if_neg hc', if_pos (by decide), if_pos (by decide), jX, jM]
      exact ⟨(best, most, W, V1), rfl, rfl, p1, p2, p3, p4⟩
  · obtain ⟨best, most, W, V1⟩ := z
    obtain ⟨p1, p2, p3, p4⟩ := hP
    simp only at p1 p2 p3 p4
    have X := hf_JJ.xx B W SV
    have F := hf_JJ.ff B W SV E
    refine ⟨best, hf_sc (hf_xc h o (hf_xw XV W)) s' SV, V1, ?_, ?_, ⟨W, SV, rfl, j2, Wf, E, p1, p2⟩, p3, p4⟩
    · show ndX0_wanted_9 (lpX0_wanted_9 n) _ _ _ _ _ _ _ _ = _
      unfold ndX0_wanted_9
      rw [X.ob, x_many X F, hf_b2_some, if_pos (z_yle (Nat.le_refl _) (by omega))]
    · show ndX4_nextFor_8 (lpX4_nextFor_8 n) _ _ _ _ _ _ = _
      unfold ndX4_nextFor_8
      rw [z_lit, p1.ld (i := 1) (by decide), Option.bind_some, if_pos (z_yle (Nat.le_refl _) (by omega))]
end ZX
set_option maxRecDepth 100000
set_option maxHeartbeats 1000000
/-! both buy by a rule -/
theorem zsum_congr {f g : Nat → Nat} : ∀ n, (∀ k, k < n → f k = g k) → zsum f n = zsum g n
  | 0, _ => rfl
  | n + 1, H => by
    unfold zsum
    rw [zsum_congr n (fun k hk => H k (by omega)), H n (by omega)]
theorem zsum_one {f g : Nat → Nat} {k : Nat} (hk : f k = g k + 1) (ho : ∀ i, i ≠ k → f i = g i) : ∀ n, k < n → zsum f n = zsum g n + 1
  | 0, h => by omega
  | n + 1, h => by
    unfold zsum
    by_cases e : k = n
    · subst e
      rw [zsum_congr k (fun i hi => ho i (by omega)), hk]
      omega
    · rw [zsum_one hk ho n (by omega), ho n (fun z => e z.symm)]
      omega
theorem zbit1 (k i : Nat) : (1 <<< k).testBit i = decide (i = k) := by
  rw [Nat.testBit_shiftLeft]
  by_cases e : i = k
  · subst e; simp
  · by_cases h : k ≤ i
    · have : (1 : Nat).testBit (i - k) = false := Nat.testBit_lt_two_pow (Nat.lt_of_lt_of_le (by decide : 1 < 2 ^ 1) (Nat.pow_le_pow_right (by decide) (by omega)))
      simp [e, this]
    · simp [e, h]
theorem zpop_or {S k : Nat} (hk : k < 12) (h : S.testBit k = false) : zpop (S ||| 1 <<< k) = zpop S + 1 := by
  unfold zpop
  refine zsum_one (k := k) ?_ (fun i hi => ?_) 12 hk
  · rw [Nat.testBit_or, zbit1, h]; simp
  · rw [Nat.testBit_or, zbit1]; simp [hi]
/-- S: what went from stalls to buyers -/
def zbt (v v' : Nat → Nat) (S : Nat) : Prop := (∀ k, v 1 ≤ k → S.testBit k = false) ∧ (∀ k, k < v 1 → (S.testBit k = true ↔ v (10 + 5 * k + 3) < 100 ∧ 100 ≤ v' (10 + 5 * k + 3)) ∧ (100 ≤ v (10 + 5 * k + 3) → 100 ≤ v' (10 + 5 * k + 3))) ∧ (∀ b, v' (70 + 4 * b) ≤ v (70 + 4 * b)) ∧ ∀ k, 86 ≤ k → v' k = v k
theorem zbt.same {v v' : Nat → Nat} (H : ∀ k, k < v 1 → v' (10 + 5 * k + 3) = v (10 + 5 * k + 3)) (Hp : ∀ b, v' (70 + 4 * b) ≤ v (70 + 4 * b)) (Ht : ∀ k, 86 ≤ k → v' k = v k) : zbt v v' 0 := by
  refine ⟨fun k _ => Nat.zero_testBit k, fun k hk => ?_, Hp, Ht⟩
  rw [H k hk, Nat.zero_testBit]
  refine ⟨⟨fun z => by simp at z, fun z => by omega⟩, fun z => z⟩
theorem zbt.trans {v w u : Nat → Nat} {S T : Nat} (h1 : w 1 = v 1) (A : zbt v w S) (C : zbt w u T) : zbt v u (S ||| T) := by
  refine ⟨fun k hk => by rw [Nat.testBit_or, A.1 k hk, C.1 k (by omega)]; rfl, fun k hk => ?_, fun b => Nat.le_trans (C.2.2.1 b) (A.2.2.1 b), fun k hk => (C.2.2.2 k hk).trans (A.2.2.2 k hk)⟩
  obtain ⟨a1, a2⟩ := A.2.1 k hk
  obtain ⟨c1, c2⟩ := C.2.1 k (by omega)
  refine ⟨?_, fun z => c2 (a2 z)⟩
  rw [Nat.testBit_or, Bool.or_eq_true, a1, c1]
  constructor
  · rintro (⟨x, y⟩ | ⟨x, y⟩)
    · exact ⟨x, c2 y⟩
    · refine ⟨?_, y⟩
      by_cases z : v (10 + 5 * k + 3) < 100
      · exact z
      · have := a2 (by omega); omega
  · rintro ⟨x, y⟩
    by_cases z : w (10 + 5 * k + 3) < 100
    · exact Or.inr ⟨z, y⟩
    · exact Or.inl ⟨x, by omega⟩
theorem zbt.lt {v v' : Nat → Nat} {S : Nat} (A : zbt v v' S) (hn : v 1 ≤ 12) : S < 4096 := by
  have : S < 2 ^ 12 := Nat.lt_pow_two_of_testBit S (fun i hi => A.1 i (by omega))
  exact this
theorem zbuys_wh (v : Nat → Nat) (b k j : Nat) (hk : k < 12) (hj : j < 12) : zbuys v b k (10 + 5 * j + 3) = if j = k then 100 + b else v (10 + 5 * j + 3) := by
  unfold zbuys
  by_cases e : j = k
  · subst e; rw [zup_at, if_pos rfl]
  · rw [zup_ne _ (by omega), zup_ne _ (by omega), if_neg e]
theorem zbt.buys {v : Nat → Nat} (Wf : hf_wf v) {b k : Nat} (hb : b < v 2) (hk : k < v 1) (hc : zcb v b k) : zbt v (zbuys v b k) (1 <<< k) := by
  have q1 := Wf.v1
  have q0 := Wf.v0
  have hw : v (10 + 5 * k + 3) < 100 := by
    have := (z_st (v 3) (Wf.buyer hb).2.1).1
    rw [hc.1]
    omega
  refine ⟨fun j hj => ?_, fun j hj => ?_, fun c => ?_, fun j hj => ?_⟩
  rotate_left 2
  · unfold zbuys
    rw [zup_ne _ (by omega)]
    by_cases e : c = b
    · subst e; rw [zup_at]; omega
    · rw [zup_ne _ (by omega)]; omega
  · have q2 := Wf.v2
    unfold zbuys
    rw [zup_ne _ (by omega), zup_ne _ (by omega)]
  · rw [zbit1]; simp; omega
  · rw [zbuys_wh v b k j (by omega) (by omega), zbit1]
    by_cases e : j = k
    · subst e
      rw [if_pos rfl]
      exact ⟨⟨fun _ => ⟨hw, by omega⟩, fun _ => by simp⟩, fun _ => by omega⟩
    · rw [if_neg e]
      exact ⟨⟨fun z => by simp [e] at z, fun z => by omega⟩, fun z => z⟩
section ZX
variable {h : hf_H} {o f s s' : Nat} {v : Nat → Nat} {XV V : hf_V} {a t : Nat}
theorem xm_buys1 (B : hf_BB h o f s s' XV V v a t) {v' : Nat → Nat} {g : hf_H} {V' : hf_V} (J : hf_JJ h o s' XV V v g V' v') {b k : Nat} (hb : b < v' 2) (hk : k < v' 1) (hc : zcb v' b k) : ∃ g2, spX2_buys s' f (Int32.ofNat b) (Int32.ofNat k) g = some g2 ∧ spX4_buys (Int32.ofNat b) (Int32.ofNat k) V' = some (hf_sd20 V' (zbuys v' b k)) ∧ hf_JJ h o s' XV V v g2 (hf_sd20 V' (zbuys v' b k)) (zbuys v' b k) := by
  obtain ⟨W, SV, rfl, j2, Wf, E, Sv, M⟩ := J
  have q1 := Wf.v1
  have q2 := Wf.v2
  have F := hf_JJ.ff B W SV E
  have S : hf_SS (hf_sc (hf_xc h o (hf_xw XV W)) s' SV) s' v' := hf_SS.sc _ s' j2
  have hle : zpr v' k ≤ v' (70 + 4 * b) := hc.2
  obtain ⟨SV2, x1, x2⟩ := x_buys F S Wf hb hk hle
  rw [hf_sc_sc] at x1
  obtain ⟨E2, W2⟩ := zbuys_wf Wf hb hk
  exact ⟨_, x1, m_buys Sv (by omega) (by omega) hle, W, SV2, rfl, x2, W2, E.trans E2, hf_sd20_sv V' W2.b, M.trans (hf_mq.sd20 V' _)⟩
theorem hf_JJ.x2 (B : hf_BB h o f s s' XV V v a t) {v' : Nat → Nat} {g : hf_H} {V' : hf_V} (J : hf_JJ h o s' XV V v g V' v') : hf_XX g o f s ∧ hf_F g f v' ∧ hf_SS g s' v' ∧ hf_wf v' ∧ hf_sv V' v' ∧ hf_fe v v' ∧ hf_Rul g a V' t := by
  obtain ⟨W, SV, rfl, j2, Wf, E, Sv, M⟩ := J
  exact ⟨hf_JJ.xx B W SV, hf_JJ.ff B W SV E, hf_SS.sc _ s' j2, Wf, Sv, E, hf_JJ.rr B W SV M.tx⟩
theorem xm_buysAll (B : hf_BB h o f s s' XV V v a t) {v' : Nat → Nat} {g : hf_H} {V' : hf_V} (J : hf_JJ h o s' XV V v g V' v') {b : Nat} (hb : b < v' 2) : ∃ (S : Nat) (g2 : hf_H) (V2 : hf_V) (v2 : Nat → Nat), spX0_buysBy o s' (Int32.ofNat b) a g = some (Int32.ofNat S, g2) ∧ spX4_buysAll (Int32.ofNat t) (Int32.ofNat b) V' = some V2 ∧ hf_JJ h o s' XV V v g2 V2 v2 ∧ hf_fe v' v2 ∧ zbt v' v2 S ∧ V2.1 26 = V'.1 26 + Int32.ofNat (zpop S) ∧ v2 3 = v' 3 := by
  obtain ⟨X, F, S, Wf, Sv, E, R⟩ := J.x2 B
  have q1 := Wf.v1
  have q2 := Wf.v2
  obtain ⟨r, g1, V1, w1, w2, w3, w4, w5⟩ := xm_wanted B J hb
  unfold spX0_buysBy spX4_buysAll
  rw [X.ob, w1, hf_b2_some, w2, hf_b2_some]
  refine hf_whileR2 (fun n (z : Nat × Option Nat × hf_H × hf_V × (Nat → Nat)) => lpX0_buysBy_12 n o s' (Int32.ofNat b) a (Int32.ofNat z.1) (zhalf z.2.1) z.2.2.1) (fun n (z : Nat × Option Nat × hf_H × hf_V × (Nat → Nat)) => lpX4_buysAll_7 n (Int32.ofNat t) (Int32.ofNat b) (zhalf z.2.1) z.2.2.2.1) (fun z => zsum (fun k => if z.2.2.2.2 (10 + 5 * k + 3) < 100 then 1 else 0) 12) (fun z => hf_JJ h o s' XV V v z.2.2.1 z.2.2.2.1 z.2.2.2.2 ∧ hf_fe v' z.2.2.2.2 ∧ zbt v' z.2.2.2.2 z.1 ∧ z.2.2.2.1.1 26 = V'.1 26 + Int32.ofNat (zpop z.1) ∧ z.2.2.2.2 3 = v' 3 ∧ ∀ k, z.2.1 = some k → k < z.2.2.2.2 1 ∧ zcb z.2.2.2.2 b k) (fun r1 r2 => ∃ (S : Nat) (g2 : hf_H) (V2 : hf_V) (v2 : Nat → Nat), r1 = some (Int32.ofNat S, g2) ∧ r2 = some V2 ∧ hf_JJ h o s' XV V v g2 V2 v2 ∧ hf_fe v' v2 ∧ zbt v' v2 S ∧ V2.1 26 = V'.1 26 + Int32.ofNat (zpop S) ∧ v2 3 = v' 3) (fun n z hP => ?_) (0, r, g1, V1, v') ⟨w3, hf_fe.rfl_ v', zbt.same (fun _ _ => rfl) (fun _ => Nat.le_refl _) (fun _ _ => rfl), ?_, rfl, w5⟩ (fuel := hf_N) ?_
  · obtain ⟨S1, r1, g3, V3, v3⟩ := z
    obtain ⟨p1, p2, p3, p4, p5, p6⟩ := hP
    simp only at p1 p2 p3 p4 p5 p6
    obtain ⟨X3, F3, S3, Wf3, Sv3, E3, R3⟩ := p1.x2 B
    have e1 : v3 1 = v' 1 := p2.2.1
    have e2 : v3 2 = v' 2 := p2.2.2.1
    have nX : lpX0_buysBy_12 (n + 1) o s' (Int32.ofNat b) a (Int32.ofNat S1) (zhalf r1) g3 = ndX0_buysBy_12 (lpX0_buysBy_12 n) o s' (Int32.ofNat b) a (Int32.ofNat S1) (zhalf r1) g3 := rfl
    have nM : lpX4_buysAll_7 (n + 1) (Int32.ofNat t) (Int32.ofNat b) (zhalf r1) V3 = ndX4_buysAll_7 (lpX4_buysAll_7 n) (Int32.ofNat t) (Int32.ofNat b) (zhalf r1) V3 := rfl
    cases r1 with
    | none =>
      left
      refine ⟨S1, g3, V3, v3, ?_, ?_, p1, p2, p3, p4, p5⟩
      · show lpX0_buysBy_12 (n + 1) o s' (Int32.ofNat b) a (Int32.ofNat S1) (zhalf none) g3 = _
        rw [nX]
        unfold ndX0_buysBy_12
        rw [if_pos (show zhalf none = -1 from rfl)]
      · show lpX4_buysAll_7 (n + 1) (Int32.ofNat t) (Int32.ofNat b) (zhalf none) V3 = _
        rw [nM]
        unfold ndX4_buysAll_7
        rw [if_pos (by decide)]
    | some k =>
      right
      obtain ⟨hk, hc⟩ := p6 k rfl
      obtain ⟨g4, b1, b2, b3⟩ := xm_buys1 B p1 (b := b) (by omega) hk hc
      have b4 : hf_JJ h o s' XV V v g4 (hf_ui (hf_sd20 V3 (zbuys v3 b k)) 26 ((hf_sd20 V3 (zbuys v3 b k)).1 26 + 1)) (zbuys v3 b k) := by
        obtain ⟨W, SV, c1, c2, c3, c4, c5, c6⟩ := b3
        exact ⟨W, SV, c1, c2, c3, c4, c5.ui 26 _, c6.trans (hf_mq.ui26 _ _)⟩
      obtain ⟨E4, Wf4⟩ := zbuys_wf Wf3 (b := b) (k := k) (by omega) hk
      have e4 : zbuys v3 b k 2 = v3 2 := E4.2.2.1
      have e41 : zbuys v3 b k 1 = v3 1 := E4.2.1
      obtain ⟨X4, F4, S4, -⟩ := b4.x2 B
      obtain ⟨r5, g5, V5, c1, c2, c3, c4, c5⟩ := xm_wanted B b4 (b := b) (by omega)
      have q13 := Wf3.v1
      have hbit : S1.testBit k = false := by
        have h1 := (p3.2.1 k (by omega)).1
        have h2 : v3 (10 + 5 * k + 3) < 100 := by
          have := (z_st (v3 3) (Wf3.buyer (b := b) (by omega)).2.1).1
          have := Wf3.v0
          rw [hc.1]
          omega
        by_cases z : S1.testBit k = true
        · have := (h1.mp z).2; omega
        · exact Bool.eq_false_iff.mpr z
      refine ⟨(S1 ||| 1 <<< k, r5, g5, V5, zbuys v3 b k), ?_, ?_, ⟨c3, p2.trans E4, p3.trans e1 (zbt.buys Wf3 (by omega) hk hc), ?_, ?_, c5⟩, ?_⟩
      · show lpX0_buysBy_12 (n + 1) o s' (Int32.ofNat b) a (Int32.ofNat S1) (zhalf (some k)) g3 = lpX0_buysBy_12 n o s' (Int32.ofNat b) a (Int32.ofNat (S1 ||| 1 <<< k)) (zhalf r5) g5
        rw [nX]
        unfold ndX0_buysBy_12
        have hne : ¬ zhalf (some k) = -1 := fun z => by
          have h1 : ¬ Int32.ofNat k < 0 := z_n0 k (by omega)
          rw [show Int32.ofNat k = -1 from z] at h1
          exact h1 (by decide)
        rw [if_neg hne, X3.fa, Option.bind_some, S3.ob]
        simp only [show zhalf (some k) = Int32.ofNat k from rfl]
        rw [b1, Option.bind_some, hf_let_eq, X4.ob, z_sh1 (by omega), z_or, c1, hf_b2_some]
      · show lpX4_buysAll_7 (n + 1) (Int32.ofNat t) (Int32.ofNat b) (zhalf (some k)) V3 = lpX4_buysAll_7 n (Int32.ofNat t) (Int32.ofNat b) (zhalf r5) V5
        rw [nM]
        unfold ndX4_buysAll_7
        rw [if_neg (show ¬ zhalf (some k) < 0 from z_n0 k (by omega))]
        simp only [show zhalf (some k) = Int32.ofNat k from rfl]
        rw [b2, Option.bind_some, hf_let_eq, c2, hf_b2_some]
      · show V5.1 26 = V'.1 26 + Int32.ofNat (zpop (S1 ||| 1 <<< k))
        rw [c4, hf_ui_at, zpop_or (by omega) hbit]
        show V3.1 26 + 1 = _
        rw [p4, ← z_add, Int32.add_assoc]
        rfl
      · show zbuys v3 b k 3 = v' 3
        unfold zbuys
        rw [zup_ne _ (by omega), zup_ne _ (by omega)]
        exact p5
      · show zsum (fun j => if zbuys v3 b k (10 + 5 * j + 3) < 100 then 1 else 0) 12 < zsum (fun j => if v3 (10 + 5 * j + 3) < 100 then 1 else 0) 12
        have h2 : v3 (10 + 5 * k + 3) < 100 := by
          have := (z_st (v3 3) (Wf3.buyer (b := b) (by omega)).2.1).1
          have := Wf3.v0
          rw [hc.1]
          omega
        have h3 : zsum (fun j => if j < 12 then (if zbuys v3 b k (10 + 5 * j + 3) < 100 then 1 else 0) else 0) 12 = zsum (fun j => if zbuys v3 b k (10 + 5 * j + 3) < 100 then 1 else 0) 12 := zsum_congr 12 (fun j hj => if_pos hj)
        have h4 : zsum (fun j => if j < 12 then (if v3 (10 + 5 * j + 3) < 100 then 1 else 0) else 0) 12 = zsum (fun j => if v3 (10 + 5 * j + 3) < 100 then 1 else 0) 12 := zsum_congr 12 (fun j hj => if_pos hj)
        rw [← h3, ← h4]
        have := zsum_one (f := fun j => if j < 12 then (if v3 (10 + 5 * j + 3) < 100 then 1 else 0) else 0) (g := fun j => if j < 12 then (if zbuys v3 b k (10 + 5 * j + 3) < 100 then 1 else 0) else 0) (k := k) (by
          show (if k < 12 then (if v3 (10 + 5 * k + 3) < 100 then 1 else 0) else 0) = (if k < 12 then (if zbuys v3 b k (10 + 5 * k + 3) < 100 then 1 else 0) else 0) + 1
          rw [if_pos (show k < 12 by omega), if_pos h2, if_pos (show k < 12 by omega), zbuys_wh v3 b k k (by omega) (by omega), if_pos rfl, if_neg (by omega)]) (fun j hj => by
          show (if j < 12 then (if v3 (10 + 5 * j + 3) < 100 then 1 else 0) else 0) = (if j < 12 then (if zbuys v3 b k (10 + 5 * j + 3) < 100 then 1 else 0) else 0)
          by_cases hj2 : j < 12
          · rw [if_pos hj2, if_pos hj2, zbuys_wh v3 b k j (by omega) hj2, if_neg hj]
          · rw [if_neg hj2, if_neg hj2]) 12 (by omega)
        omega
  · show V1.1 26 = V'.1 26 + Int32.ofNat (zpop 0)
    rw [w4]
    have : Int32.ofNat (zpop 0) = 0 := by decide
    rw [this, Int32.add_zero]
  · have := zsum_le (fun k => if v' (10 + 5 * k + 3) < 100 then 1 else 0) 1 (fun i => by split <;> omega) 12
    show zsum (fun k => if v' (10 + 5 * k + 3) < 100 then 1 else 0) 12 < hf_N
    unfold hf_N
    omega
end ZX
set_option maxRecDepth 100000
set_option maxHeartbeats 1000000
/-! both pass an hour by a rule -/
theorem zgo_ot (v : Nat → Nat) (b w j : Nat) (hj : j ≠ 70 + 4 * b + 1) : zgo v b w j = v j := zup_ne _ hj _
theorem zhour_3 (v : Nat → Nat) : zhour v 3 = v 3 + 1 := by
  unfold zhour
  rw [zsee_ot _ _ 3 (fun b _ => by omega), zup_at]
theorem zhour_wh (v : Nat → Nat) (j : Nat) (hj : j < 12) : zhour v (10 + 5 * j + 3) = v (10 + 5 * j + 3) := by
  unfold zhour
  rw [zsee_ot _ _ _ (fun b _ => by omega), zup_ne _ (by omega)]
theorem zhour_pu (v : Nat → Nat) (b : Nat) : zhour v (70 + 4 * b) = v (70 + 4 * b) := by
  unfold zhour
  rw [zsee_ot _ _ _ (fun b _ => by omega), zup_ne _ (by omega)]
theorem zhour_hi (v : Nat → Nat) (h2 : v 2 ≤ 4) (k : Nat) (hk : 86 ≤ k) : zhour v k = v k := by
  unfold zhour
  rw [zsee_ot _ _ _ (fun b hb => by omega), zup_ne _ (by omega)]
section ZX
variable {h : hf_H} {o f s s' : Nat} {v : Nat → Nat} {XV V : hf_V} {a t : Nat}
theorem xm_goes1 (B : hf_BB h o f s s' XV V v a t) {v' : Nat → Nat} {g : hf_H} {V' : hf_V} (J : hf_JJ h o s' XV V v g V' v') {b w : Nat} (hb : b < v' 2) (hw : w < 3) : ∃ g2, spX2_goes s' f (Int32.ofNat b) (zway w) g = some g2 ∧ spX4_goes (Int32.ofNat b) (zway w) V' = some (hf_sd20 V' (zgo v' b w)) ∧ hf_JJ h o s' XV V v g2 (hf_sd20 V' (zgo v' b w)) (zgo v' b w) := by
  obtain ⟨W, SV, rfl, j2, Wf, E, Sv, M⟩ := J
  have q2 := Wf.v2
  have F := hf_JJ.ff B W SV E
  have S : hf_SS (hf_sc (hf_xc h o (hf_xw XV W)) s' SV) s' v' := hf_SS.sc _ s' j2
  obtain ⟨SV2, x1, x2⟩ := x_goes F S Wf hb hw
  rw [hf_sc_sc] at x1
  obtain ⟨E2, W2⟩ := zgo_wf Wf (w := w) hb
  exact ⟨_, x1, m_goes Sv (by omega) (Wf.b0 hb) (by omega), W, SV2, rfl, x2, W2, E.trans E2, hf_sd20_sv V' W2.b, M.trans (hf_mq.sd20 V' _)⟩
theorem xm_pass1 (B : hf_BB h o f s s' XV V v a t) {v' : Nat → Nat} {g : hf_H} {V' : hf_V} (J : hf_JJ h o s' XV V v g V' v') (h3 : v' 3 < 99) : ∃ g2, spX2_passes s' f g = some g2 ∧ spX4_hourComes V' = some (hf_sd20 V' (zhour v')) ∧ hf_JJ h o s' XV V v g2 (hf_sd20 V' (zhour v')) (zhour v') := by
  obtain ⟨W, SV, rfl, j2, Wf, E, Sv, M⟩ := J
  have q2 := Wf.v2
  have q4 := Wf.v4
  have F := hf_JJ.ff B W SV E
  have S : hf_SS (hf_sc (hf_xc h o (hf_xw XV W)) s' SV) s' v' := hf_SS.sc _ s' j2
  obtain ⟨SV2, x1, x2⟩ := x_passes F S Wf h3
  rw [hf_sc_sc] at x1
  obtain ⟨E2, W2⟩ := zhour_wf Wf h3
  exact ⟨_, x1, m_hourComes Sv Wf.v1 q2 Wf.v0 (by omega) (by omega) (fun b hb => (Wf.buyer hb).2.1), W, SV2, rfl, x2, W2, E.trans E2, hf_sd20_sv V' W2.b, M.trans (hf_mq.sd20 V' _)⟩
theorem xm_way (B : hf_BB h o f s s' XV V v a t) {v' : Nat → Nat} {g : hf_H} {V' : hf_V} (J : hf_JJ h o s' XV V v g V' v') {b : Nat} (hb : b < v' 2) : ∃ (w : Nat) (g2 : hf_H) (V2 : hf_V), w < 3 ∧ spX0_wayBy o s' (Int32.ofNat b) a g = some (zway w, g2) ∧ spX4_goingBy (Int32.ofNat t) (Int32.ofNat b) V' = some (zway w, V2) ∧ hf_JJ h o s' XV V v g2 V2 v' ∧ V2.1 26 = V'.1 26 := by
  obtain ⟨W, SV, rfl, j2, Wf, E, Sv, M⟩ := J
  have X := hf_JJ.xx B W SV
  have F := hf_JJ.ff B W SV E
  have S : hf_SS (hf_sc (hf_xc h o (hf_xw XV W)) s' SV) s' v' := hf_SS.sc _ s' j2
  have e := hf_JJ.oo B W SV
  obtain ⟨W1, w1, w2⟩ := x_asks X F S Wf e hb (q := none) (fun k hk => by cases hk)
  obtain ⟨U, u1, u2⟩ := m_wordsOf Sv Wf hb
  rw [hf_JJ.xc B] at w1
  have w1' : spX0_asks o s' (Int32.ofNat b) (-1 : Int32) (hf_sc (hf_xc h o (hf_xw XV W)) s' SV) = some (hf_sc (hf_xc h o (hf_xw XV W1)) s' SV) := w1
  have X1 := hf_JJ.xx B W1 SV
  have M1 : hf_mq V (hf_wv V' U) := M.trans (hf_mq.wv V' U)
  have R1 := hf_JJ.rr B W1 SV M1.tx
  have D1 : hf_wd (hf_sc (hf_xc h o (hf_xw XV W1)) s' SV) o ((hf_wv V' U).2.2.2.2.1 19) := ⟨hf_xw XV W1, hf_JJ.oo B W1 SV, fun k hk => by
    show W1 k = U k
    rw [w2 k hk, u2 k hk]⟩
  have hob8 : ∀ K : Option (Int32 × hf_H), ((hf_ob 0 8 (hf_sc (hf_xc h o (hf_xw XV W1)) s' SV) a).bind fun _ => K) = K := fun K => by
    obtain ⟨_, RV, l, nn, p, r1, -⟩ := R1
    rw [r1]; rfl
  obtain ⟨x, A, y, s1, s2⟩ := xm_sum R1 D1 (q := 1) (by decide)
  have s1' : spX8_sum a (0 : Int32) o (hf_sc (hf_xc h o (hf_xw XV W1)) s' SV) = some (x, hf_sc (hf_xc h o (hf_xw XV W1)) s' SV) := s1
  have s2' : spX4_summedBy (Int32.ofNat t) (1 : Int32) (hf_wv V' U) = some (x, hf_skx (hf_wv V' U) A y) := s2
  have M2 : hf_mq V (hf_skx (hf_wv V' U) A y) := M1.trans (hf_mq.skx _ A y)
  have J2 : hf_JJ h o s' XV V v (hf_sc (hf_xc h o (hf_xw XV W1)) s' SV) (hf_skx (hf_wv V' U) A y) v' := ⟨W1, SV, rfl, j2, Wf, E, (Sv.wv U).skx A y, M2⟩
  have hX : spX0_wayBy o s' (Int32.ofNat b) a (hf_sc (hf_xc h o (hf_xw XV W)) s' SV) = if x = 1 then some (Int64.toInt32 x, hf_sc (hf_xc h o (hf_xw XV W1)) s' SV) else if x = -1 then some (Int64.toInt32 x, hf_sc (hf_xc h o (hf_xw XV W1)) s' SV) else some ((0 : Int32), hf_sc (hf_xc h o (hf_xw XV W1)) s' SV) := by
    unfold spX0_wayBy ndX0_wayBy_34
    rw [X.ob, w1', Option.bind_some, X1.ob, hob8, s1', hf_b2_some]
    simp only [lg_cmp_eq]
  have hM : spX4_goingBy (Int32.ofNat t) (Int32.ofNat b) V' = if x = 1 then some ((1 : Int32), hf_skx (hf_wv V' U) A y) else if x = -1 then some ((-1 : Int32), hf_skx (hf_wv V' U) A y) else some ((0 : Int32), hf_skx (hf_wv V' U) A y) := by
    unfold spX4_goingBy
    rw [u1, Option.bind_some, s2', hf_b2_some]
    simp only [lg_cmp_eq]
  rw [hX, hM]
  by_cases e1 : x = 1
  · rw [if_pos e1, if_pos e1, e1]
    exact ⟨2, _, _, by decide, rfl, rfl, J2, rfl⟩
  · rw [if_neg e1, if_neg e1]
    by_cases e2 : x = -1
    · rw [if_pos e2, if_pos e2, e2]
      exact ⟨0, _, _, by decide, rfl, rfl, J2, rfl⟩
    · rw [if_neg e2, if_neg e2]
      exact ⟨1, _, _, by decide, rfl, rfl, J2, rfl⟩
theorem xm_hour (B : hf_BB h o f s s' XV V v a t) {v' : Nat → Nat} {g : hf_H} {V' : hf_V} (J : hf_JJ h o s' XV V v g V' v') (h3 : v' 3 < 99) : ∃ (S : Nat) (g2 : hf_H) (V2 : hf_V) (v2 : Nat → Nat), spX0_hourBy o s' a g = some (Int32.ofNat S, g2) ∧ spX4_passes (Int32.ofNat t) V' = some V2 ∧ hf_JJ h o s' XV V v g2 V2 v2 ∧ hf_fe v' v2 ∧ zbt v' v2 S ∧ v2 3 = v' 3 + 1 := by
  obtain ⟨X, F, S, Wf, Sv, E, R⟩ := J.x2 B
  have q1 := Wf.v1
  have q2 := Wf.v2
  unfold spX0_hourBy spX4_passes
  refine hf_loopR2 (fun n i (z : Nat × hf_H × hf_V × (Nat → Nat)) => lpX0_hourBy_5 n o s' a (Int32.ofNat z.1) (Int32.ofNat i) z.2.1) (fun n i (z : Nat × hf_H × hf_V × (Nat → Nat)) => lpX4_passes_2 n (Int32.ofNat t) (Int32.ofNat i) z.2.2.1) (fun i z => hf_JJ h o s' XV V v z.2.1 z.2.2.1 z.2.2.2 ∧ hf_fe v' z.2.2.2 ∧ zbt v' z.2.2.2 z.1 ∧ z.2.2.2 3 = v' 3) (v' 2) (fun r1 r2 => ∃ (S : Nat) (g2 : hf_H) (V2 : hf_V) (v2 : Nat → Nat), r1 = some (Int32.ofNat S, g2) ∧ r2 = some V2 ∧ hf_JJ h o s' XV V v g2 V2 v2 ∧ hf_fe v' v2 ∧ zbt v' v2 S ∧ v2 3 = v' 3 + 1) (fun i n z hi hP => ?_) (fun n z hP => ?_) (0, g, V', v') ⟨J, hf_fe.rfl_ v', zbt.same (fun _ _ => rfl) (fun _ => Nat.le_refl _) (fun _ _ => rfl), rfl⟩ (fuel := hf_N) (by unfold hf_N; omega)
  · obtain ⟨S1, g1, V1, v1⟩ := z
    obtain ⟨p1, p2, p3, p4⟩ := hP
    simp only at p1 p2 p3 p4
    right
    obtain ⟨X1, F1, SS1, Wf1, Sv1, E1, R1⟩ := p1.x2 B
    have e2 : v1 2 = v' 2 := p2.2.2.1
    have e1 : v1 1 = v' 1 := p2.2.1
    obtain ⟨S2, g2, V2, v2, b1, b2, b3, b4, b5, b6, b7⟩ := xm_buysAll B p1 (b := i) (by omega)
    obtain ⟨X2, F2, SS2, Wf2, Sv2, E2, R2⟩ := b3.x2 B
    have e22 : v2 2 = v1 2 := b4.2.2.1
    have e21 : v2 1 = v1 1 := b4.2.1
    obtain ⟨w, g3, V3, hw, c1, c2, c3, c4⟩ := xm_way B b3 (b := i) (by omega)
    obtain ⟨X3, F3, SS3, Wf3, Sv3, E3, R3⟩ := c3.x2 B
    obtain ⟨g4, d1, d2, d3⟩ := xm_goes1 B c3 (b := i) (w := w) (by omega) hw
    obtain ⟨E4, Wf4⟩ := zgo_wf Wf2 (b := i) (w := w) (by omega)
    refine ⟨(S1 ||| S2, g4, hf_sd20 V3 (zgo v2 i w), zgo v2 i w), ?_, ?_, d3, (p2.trans b4).trans E4, ?_, ?_⟩
    · show ndX0_hourBy_5 (lpX0_hourBy_5 n) o s' a (Int32.ofNat S1) (Int32.ofNat i) g1 = lpX0_hourBy_5 n o s' a (Int32.ofNat (S1 ||| S2)) (Int32.ofNat (i + 1)) g4
      unfold ndX0_hourBy_5
      rw [X1.ob, x_buyers X1 F1, hf_b2_some, if_neg (z_nle (by omega) (by omega)), X1.ob, b1, hf_b2_some, hf_let_eq, X2.fa, Option.bind_some, X2.ob, c1, hf_b2_some, SS3.ob, d1, Option.bind_some, hf_let_eq, z_or, z_lit, z_add]
    · show ndX4_passes_2 (lpX4_passes_2 n) (Int32.ofNat t) (Int32.ofNat i) V1 = lpX4_passes_2 n (Int32.ofNat t) (Int32.ofNat (i + 1)) (hf_sd20 V3 (zgo v2 i w))
      unfold ndX4_passes_2
      rw [z_lit, Sv1.ld (i := 2) (by decide), Option.bind_some, if_neg (z_nle (by omega) (by omega)), b2, Option.bind_some, c2, hf_b2_some, d2, Option.bind_some, hf_let_eq, z_lit, z_add]
    · have h0 : zbt v2 (zgo v2 i w) 0 := zbt.same (fun k hk => zgo_ot v2 i w _ (by have := Wf2.v1; omega)) (fun b => Nat.le_of_eq (zgo_ot v2 i w _ (by omega))) (fun k hk => zgo_ot v2 i w _ (by omega))
      have := (p3.trans e1 b5).trans (show v2 1 = v' 1 by omega) h0
      rw [Nat.or_zero] at this
      exact this
    · show zgo v2 i w 3 = v' 3
      rw [zgo_ot v2 i w 3 (by omega), b7, p4]
  · obtain ⟨S1, g1, V1, v1⟩ := z
    obtain ⟨p1, p2, p3, p4⟩ := hP
    simp only at p1 p2 p3 p4
    obtain ⟨X1, F1, SS1, Wf1, Sv1, E1, R1⟩ := p1.x2 B
    have e2 : v1 2 = v' 2 := p2.2.2.1
    have e1 : v1 1 = v' 1 := p2.2.1
    obtain ⟨g2, d1, d2, d3⟩ := xm_pass1 B p1 (by omega)
    obtain ⟨E4, Wf4⟩ := zhour_wf Wf1 (by omega)
    refine ⟨S1, g2, hf_sd20 V1 (zhour v1), zhour v1, ?_, ?_, d3, p2.trans E4, ?_, ?_⟩
    · show ndX0_hourBy_5 (lpX0_hourBy_5 n) o s' a (Int32.ofNat S1) (Int32.ofNat (v' 2)) g1 = _
      unfold ndX0_hourBy_5
      rw [X1.ob, x_buyers X1 F1, hf_b2_some, e2, if_pos (z_yle (Nat.le_refl _) (by omega)), X1.fa, Option.bind_some, SS1.ob, d1, Option.bind_some]
    · show ndX4_passes_2 (lpX4_passes_2 n) (Int32.ofNat t) (Int32.ofNat (v' 2)) V1 = _
      unfold ndX4_passes_2
      rw [z_lit, Sv1.ld (i := 2) (by decide), Option.bind_some, e2, if_pos (z_yle (Nat.le_refl _) (by omega)), d2, Option.bind_some]
    · have h0 : zbt v1 (zhour v1) 0 := zbt.same (fun k hk => zhour_wh v1 k (by have := Wf1.v1; omega)) (fun b => Nat.le_of_eq (zhour_pu v1 b)) (fun k hk => zhour_hi v1 (by omega) k hk)
      have := p3.trans e1 h0
      rw [Nat.or_zero] at this
      exact this
    · rw [zhour_3, p4]
end ZX
