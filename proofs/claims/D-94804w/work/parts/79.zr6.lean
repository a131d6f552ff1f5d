set_option maxRecDepth 100000
set_option maxHeartbeats 1000000
/-! both by a rule, in step: what stays -/
/-- the model but for its stack, words, said, what was bought -/
def hf_mq (V V' : hf_V) : Prop := (∀ k, k ≠ 18 → k ≠ 26 → V'.1 k = V.1 k) ∧ V'.2.1 = V.2.1 ∧ V'.2.2.1 = V.2.2.1 ∧ (∀ k, k ≠ 20 → V'.2.2.2.1 k = V.2.2.2.1 k) ∧ V'.2.2.2.2.2 = V.2.2.2.2.2
theorem hf_mq.rfl_ (V : hf_V) : hf_mq V V := ⟨fun _ _ _ => rfl, rfl, rfl, fun _ _ => rfl, rfl⟩
theorem hf_mq.trans {A B C : hf_V} (H : hf_mq A B) (K : hf_mq B C) : hf_mq A C := ⟨fun k a b => (K.1 k a b).trans (H.1 k a b), K.2.1.trans H.2.1, K.2.2.1.trans H.2.2.1, fun k a => (K.2.2.2.1 k a).trans (H.2.2.2.1 k a), K.2.2.2.2.trans H.2.2.2.2⟩
theorem hf_mq.wv (V : hf_V) (W : Nat → Int64) : hf_mq V (hf_wv V W) := ⟨fun _ _ _ => rfl, rfl, rfl, fun _ _ => rfl, rfl⟩
theorem hf_mq.skx (V : hf_V) (A : Nat → Int64) (x : Int32) : hf_mq V (hf_skx V A x) := ⟨fun k a _ => if_neg a, rfl, rfl, fun _ _ => rfl, rfl⟩
theorem hf_mq.sd20 (V : hf_V) (v : Nat → Nat) : hf_mq V (hf_sd20 V v) := ⟨fun _ _ _ => rfl, rfl, rfl, fun k a => hf_sa_ne V a _, rfl⟩
theorem hf_mq.ui26 (V : hf_V) (x : Int32) : hf_mq V (hf_ui V 26 x) := ⟨fun k _ a => if_neg a, rfl, rfl, fun _ _ => rfl, rfl⟩
theorem hf_mq.tx {V V' : hf_V} (H : hf_mq V V') : hf_txq V V' := ⟨H.2.2.2.1 3 (by decide), H.2.2.2.1 5 (by decide), H.2.2.2.1 6 (by decide)⟩
theorem hf_sv.skx {V : hf_V} {v : Nat → Nat} (S : hf_sv V v) (A : Nat → Int64) (x : Int32) : hf_sv (hf_skx V A x) v := S
theorem hf_sv.ui {V : hf_V} {v : Nat → Nat} (S : hf_sv V v) (k : Nat) (x : Int32) : hf_sv (hf_ui V k x) v := S
/-- trees are as they were -/
def hf_kv (h h' : hf_H) : Prop := ∀ a ci V, 10 ≤ ci → ci ≤ 17 → hf_ob 0 ci h a = some V → hf_ob 0 ci h' a = some V
theorem hf_Val.kv {h h' : hf_H} (K : hf_kv h h') : ∀ (d a : Nat) (c : List Nat), hf_Val d h a c → hf_Val d h' a c
  | 0, _, _, H => by cases H
  | d + 1, a, c, H => by
    rcases H with ⟨V, k, e1, e2⟩ | ⟨V, k, e1, e2⟩ | ⟨V, a1, a2, c1, c2, s, e1, e2, e3, e4, e5, e6⟩
    · exact Or.inl ⟨V, k, K a 10 V (by decide) (by decide) e1, e2⟩
    · exact Or.inr (Or.inl ⟨V, k, K a 11 V (by decide) (by decide) e1, e2⟩)
    · exact Or.inr (Or.inr ⟨V, a1, a2, c1, c2, s, K a 12 V (by decide) (by decide) e1, e2, e3, hf_Val.kv K d a1 c1 e4, hf_Val.kv K d a2 c2 e5, e6⟩)
theorem hf_Cnd.kv {h h' : hf_H} (K : hf_kv h h') : ∀ (d a : Nat) (c : List Nat), hf_Cnd d h a c → hf_Cnd d h' a c
  | 0, _, _, H => by cases H
  | d + 1, a, c, H => by
    rcases H with ⟨V, a1, c1, e1, e2, e3, e4⟩ | ⟨V, a1, a2, c1, c2, s, e1, e2, e3, e4, e5, e6⟩ | ⟨V, a1, a2, c1, c2, s, e1, e2, e3, e4, e5, e6⟩
    · exact Or.inl ⟨V, a1, c1, K a 15 V (by decide) (by decide) e1, e2, hf_Cnd.kv K d a1 c1 e3, e4⟩
    · exact Or.inr (Or.inl ⟨V, a1, a2, c1, c2, s, K a 16 V (by decide) (by decide) e1, e2, e3, hf_Val.kv K 64 a1 c1 e4, hf_Val.kv K 64 a2 c2 e5, e6⟩)
    · exact Or.inr (Or.inr ⟨V, a1, a2, c1, c2, s, K a 17 V (by decide) (by decide) e1, e2, e3, hf_Cnd.kv K d a1 c1 e4, hf_Cnd.kv K d a2 c2 e5, e6⟩)
theorem hf_Told.kv {h h' : hf_H} (K : hf_kv h h') {a t k : Nat} {V : hf_V} (H : hf_Told h a V t k) : hf_Told h' a V t k := by
  obtain ⟨TV, sv, c, b, e1, e2, e3, e4, e5, e6, e7, e8, e9, e10⟩ := H
  refine ⟨TV, sv, c, b, K a 13 TV (by decide) (by decide) e1, e2, e3.kv K 64 sv c, e4, e5, e6, e7, e8, e9, ?_⟩
  rcases e10 with g | ⟨cv, c', b', g1, g2, g3⟩
  · exact Or.inl g
  · exact Or.inr ⟨cv, c', b', g1, g2.kv K 64 cv c', g3⟩
theorem hf_kv.up {h : hf_H} {a md ci : Nat} {V V' : hf_V} (ha : hf_ob md ci h a = some V) (hne : ci < 10 ∨ 17 < ci) : hf_kv h (hf_up h a (.inl (md, ci, V'))) := fun b cj U h1 h2 hb => by
  rw [hf_ob_ne (hf_ob_dif hb ha (fun z => by have := z.2; omega))]
  exact hb
theorem hf_Rul.up {h : hf_H} {a t : Nat} {V : hf_V} (H : hf_Rul h a V t) {b md ci : Nat} {U U' : hf_V} (hb : hf_ob md ci h b = some U) (hne : ci < 8) : hf_Rul (hf_up h b (.inl (md, ci, U'))) a V t := by
  obtain ⟨ht, RV, l, n, p, r1, r2, r3, r4, r5, r6⟩ := H
  refine ⟨ht, RV, l, n, p, ?_, r2, r3.up hb (by omega), r4, r5, fun k hk => (r6 k hk).kv (hf_kv.up hb (by omega))⟩
  rw [hf_ob_ne (hf_ob_dif r1 hb (fun z => by have := z.2; omega))]
  exact r1
/-- where both began -/
def hf_BB (h : hf_H) (o f s s' : Nat) (XV V : hf_V) (v : Nat → Nat) (a t : Nat) : Prop := hf_XX h o f s ∧ hf_F h f v ∧ hf_ob 1 0 h o = some XV ∧ (∃ SV, hf_ob 1 2 h s' = some SV) ∧ hf_Rul h a V t
/-- where both stand -/
def hf_JJ (h : hf_H) (o s' : Nat) (XV V : hf_V) (v : Nat → Nat) (g : hf_H) (V' : hf_V) (v' : Nat → Nat) : Prop := ∃ (W : Nat → Int64) (SV : hf_V), g = hf_sc (hf_xc h o (hf_xw XV W)) s' SV ∧ hf_S2 SV v' ∧ hf_wf v' ∧ hf_fe v v' ∧ hf_sv V' v' ∧ hf_mq V V'
section ZX
variable {h g : hf_H} {o f s s' : Nat} {v v' : Nat → Nat} {XV V V' : hf_V} {a t : Nat}
theorem hf_BB.ne (B : hf_BB h o f s s' XV V v a t) : o ≠ s' := by
  obtain ⟨X, F, e, ⟨SV, es⟩, R⟩ := B
  exact hf_ob_dif e es (by decide)
theorem hf_JJ.s1 (B : hf_BB h o f s s' XV V v a t) (W : Nat → Int64) : ∃ SV, hf_ob 1 2 (hf_xc h o (hf_xw XV W)) s' = some SV := by
  have hne := B.ne
  obtain ⟨X, F, e, ⟨SV, es⟩, R⟩ := B
  refine ⟨SV, ?_⟩
  unfold hf_xc
  rw [hf_ob_ne hne.symm]
  exact es
theorem hf_JJ.xx (B : hf_BB h o f s s' XV V v a t) (W : Nat → Int64) (SV : hf_V) : hf_XX (hf_sc (hf_xc h o (hf_xw XV W)) s' SV) o f s := by
  obtain ⟨S1, e1⟩ := hf_JJ.s1 B W
  obtain ⟨X, F, e, es, R⟩ := B
  obtain ⟨XV0, x1, x2⟩ := X.xc (XV' := hf_xw XV W) e rfl rfl
  refine ⟨XV0, ?_, x2⟩
  unfold hf_sc
  rw [hf_ob_ne (hf_ob_dif x1 e1 (by decide))]
  exact x1
theorem hf_JJ.ff (B : hf_BB h o f s s' XV V v a t) (W : Nat → Int64) (SV : hf_V) (E : hf_fe v v') : hf_F (hf_sc (hf_xc h o (hf_xw XV W)) s' SV) f v' := by
  obtain ⟨S1, e1⟩ := hf_JJ.s1 B W
  obtain ⟨X, F, e, es, R⟩ := B
  exact ((F.xc e (hf_xw XV W)).up e1 (by decide)).fe E
theorem hf_JJ.rr (B : hf_BB h o f s s' XV V v a t) (W : Nat → Int64) (SV : hf_V) (T : hf_txq V V') : hf_Rul (hf_sc (hf_xc h o (hf_xw XV W)) s' SV) a V' t := by
  obtain ⟨S1, e1⟩ := hf_JJ.s1 B W
  obtain ⟨X, F, e, es, R⟩ := B
  exact ((R.up (U' := hf_xw XV W) e (by decide)).up e1 (by decide)).tx T
theorem hf_JJ.oo (B : hf_BB h o f s s' XV V v a t) (W : Nat → Int64) (SV : hf_V) : hf_ob 1 0 (hf_sc (hf_xc h o (hf_xw XV W)) s' SV) o = some (hf_xw XV W) := by
  unfold hf_sc
  rw [hf_ob_ne B.ne]
  exact hf_ob_xc h o _
theorem hf_JJ.xc (B : hf_BB h o f s s' XV V v a t) (W W' : Nat → Int64) (SV : hf_V) : hf_xc (hf_sc (hf_xc h o (hf_xw XV W)) s' SV) o (hf_xw (hf_xw XV W) W') = hf_sc (hf_xc h o (hf_xw XV W')) s' SV := by
  unfold hf_xc hf_sc
  rw [hf_up_comm _ B.ne.symm, hf_up_up, hf_xw_xw]
end ZX
section ZX
variable {h : hf_H} {o f s s' : Nat} {v : Nat → Nat} {XV V : hf_V} {a t : Nat}
/-- one can buy it -/
def zcb (v : Nat → Nat) (b k : Nat) : Prop := v (10 + 5 * k + 3) = zst v (v (70 + 4 * b + 1)) (v 3) ∧ zpr v k ≤ v (70 + 4 * b + 0)
theorem xm_wanted (B : hf_BB h o f s s' XV V v a t) {v' : Nat → Nat} {g : hf_H} {V' : hf_V} (J : hf_JJ h o s' XV V v g V' v') {b : Nat} (hb : b < v' 2) : ∃ (r : Option Nat) (g2 : hf_H) (V2 : hf_V), spX0_wanted o s' (Int32.ofNat b) a g = some (zhalf r, g2) ∧ spX4_nextFor (Int32.ofNat t) (Int32.ofNat b) V' = some (zhalf r, V2) ∧ hf_JJ h o s' XV V v g2 V2 v' ∧ V2.1 26 = V'.1 26 ∧ ∀ k, r = some k → k < v' 1 ∧ zcb v' b k := by
  obtain ⟨W0, SV, rfl, j2, Wf, E, Sv0, M0⟩ := J
  have q1 := Wf.v1
  have q2 := Wf.v2
  have ht : t ≤ 5 := B.2.2.2.2.1
  unfold spX0_wanted spX4_nextFor
  refine hf_loopR2 (fun n i (z : Option Nat × Int64 × (Nat → Int64) × hf_V) => lpX0_wanted_9 n o s' (Int32.ofNat b) a (zhalf z.1) z.2.1 (Int32.ofNat i) (hf_sc (hf_xc h o (hf_xw XV z.2.2.1)) s' SV)) (fun n i (z : Option Nat × Int64 × (Nat → Int64) × hf_V) => lpX4_nextFor_8 n (Int32.ofNat t) (Int32.ofNat b) (zhalf z.1) z.2.1 (Int32.ofNat i) z.2.2.2) (fun i z => hf_sv z.2.2.2 v' ∧ hf_mq V z.2.2.2 ∧ z.2.2.2.1 26 = V'.1 26 ∧ ∀ k, z.1 = some k → k < v' 1 ∧ zcb v' b k) (v' 1) (fun r1 r2 => ∃ (r : Option Nat) (g2 : hf_H) (V2 : hf_V), r1 = some (zhalf r, g2) ∧ r2 = some (zhalf r, V2) ∧ hf_JJ h o s' XV V v g2 V2 v' ∧ V2.1 26 = V'.1 26 ∧ ∀ k, r = some k → k < v' 1 ∧ zcb v' b k) (fun i n z hi hP => ?_) (fun n z hP => ?_) (none, 0, W0, V') ⟨Sv0, M0, rfl, fun k hk => by cases hk⟩ (fuel := hf_N) (by unfold hf_N; omega)
  · obtain ⟨best, most, W, V1⟩ := z
    obtain ⟨p1, p2, p3, p4⟩ := hP
    simp only at p1 p2 p3 p4
    right
    have X := hf_JJ.xx B W SV
    have F := hf_JJ.ff B W SV E
    have S : hf_SS (hf_sc (hf_xc h o (hf_xw XV W)) s' SV) s' v' := hf_SS.sc _ s' j2
    have e := hf_JJ.oo B W SV
    have nX : lpX0_wanted_9 (n + 1) o s' (Int32.ofNat b) a (zhalf best) most (Int32.ofNat i) (hf_sc (hf_xc h o (hf_xw XV W)) s' SV) = ndX0_wanted_9 (lpX0_wanted_9 n) o s' (Int32.ofNat b) a (zhalf best) most (Int32.ofNat i) (hf_sc (hf_xc h o (hf_xw XV W)) s' SV) := rfl
    have nM : lpX4_nextFor_8 (n + 1) (Int32.ofNat t) (Int32.ofNat b) (zhalf best) most (Int32.ofNat i) V1 = ndX4_nextFor_8 (lpX4_nextFor_8 n) (Int32.ofNat t) (Int32.ofNat b) (zhalf best) most (Int32.ofNat i) V1 := rfl
    have jX : ∀ be mo g, ndX0_wanted_73 (lpX0_wanted_9 n) o s' (Int32.ofNat b) a be mo (Int32.ofNat i) g = lpX0_wanted_9 n o s' (Int32.ofNat b) a be mo (Int32.ofNat (i + 1)) g := fun be mo g => by
      unfold ndX0_wanted_73
      rw [hf_let_eq, z_lit, z_add]
    have jM : ∀ be mo U, ndX4_nextFor_65 (lpX4_nextFor_8 n) (Int32.ofNat t) (Int32.ofNat b) be mo (Int32.ofNat i) U = lpX4_nextFor_8 n (Int32.ofNat t) (Int32.ofNat b) be mo (Int32.ofNat (i + 1)) U := fun be mo U => by
      unfold ndX4_nextFor_65
      rw [hf_let_eq, z_lit, z_add]
    show ∃ z' : Option Nat × Int64 × (Nat → Int64) × hf_V, lpX0_wanted_9 (n + 1) o s' (Int32.ofNat b) a (zhalf best) most (Int32.ofNat i) (hf_sc (hf_xc h o (hf_xw XV W)) s' SV) = lpX0_wanted_9 n o s' (Int32.ofNat b) a (zhalf z'.1) z'.2.1 (Int32.ofNat (i + 1)) (hf_sc (hf_xc h o (hf_xw XV z'.2.2.1)) s' SV) ∧ lpX4_nextFor_8 (n + 1) (Int32.ofNat t) (Int32.ofNat b) (zhalf best) most (Int32.ofNat i) V1 = lpX4_nextFor_8 n (Int32.ofNat t) (Int32.ofNat b) (zhalf z'.1) z'.2.1 (Int32.ofNat (i + 1)) z'.2.2.2 ∧ hf_sv z'.2.2.2 v' ∧ hf_mq V z'.2.2.2 ∧ z'.2.2.2.1 26 = V'.1 26 ∧ ∀ k, z'.1 = some k → k < v' 1 ∧ zcb v' b k
    rw [nX, nM]
    unfold ndX0_wanted_9 ndX4_nextFor_8
    have qv := Wf.v0
    have qt := Wf.v3
    have q4 := Wf.v4
    have qb := Wf.buyer hb
    rw [X.ob, x_many X F, hf_b2_some, if_neg (z_nle hi (by omega)), X.fa, Option.bind_some, S.ob, x_canBuy F S Wf hb hi, hf_b2_some]
    rw [z_lit, z_lit, p1.ld (i := 1) (by decide), Option.bind_some, if_neg (z_nle hi (by omega)), m_canBuy p1 (by omega) (by omega) qb.2.1 qv (by omega) (by omega), hf_b2_some]
    by_cases hc : zcb v' b i
    · have hc' : v' (10 + 5 * i + 3) = zst v' (v' (70 + 4 * b + 1)) (v' 3) ∧ zpr v' i ≤ v' (70 + 4 * b + 0) := hc
      rw [if_pos hc', if_neg (by decide), if_neg (by decide)]
      obtain ⟨W1, w1, w2⟩ := x_asks X F S Wf e hb (q := some i) (fun k hk => by cases hk; exact hi)
      obtain ⟨U, u1, u2⟩ := m_wordsFor p1 Wf hb hi
      rw [hf_JJ.xc B] at w1
      have w1' : spX0_asks o s' (Int32.ofNat b) (Int32.ofNat i) (hf_sc (hf_xc h o (hf_xw XV W)) s' SV) = some (hf_sc (hf_xc h o (hf_xw XV W1)) s' SV) := w1
      have X1 := hf_JJ.xx B W1 SV
      have M1 : hf_mq V (hf_wv V1 U) := p2.trans (hf_mq.wv V1 U)
      have R1 := hf_JJ.rr B W1 SV M1.tx
      have D1 : hf_wd (hf_sc (hf_xc h o (hf_xw XV W1)) s' SV) o ((hf_wv V1 U).2.2.2.2.1 19) := ⟨hf_xw XV W1, hf_JJ.oo B W1 SV, fun k hk => by
        show W1 k = U k
        rw [w2 k hk, u2 k hk]⟩
      have hob8 : ∀ K : Option (Int32 × hf_H), ((hf_ob 0 8 (hf_sc (hf_xc h o (hf_xw XV W1)) s' SV) a).bind fun _ => K) = K := fun K => by
        obtain ⟨_, RV, l, nn, p, r1, -⟩ := R1
        rw [r1]; rfl
      obtain ⟨x, A, y, s1, s2⟩ := xm_sum R1 D1 (q := 0) (by decide)
      have s1' : spX8_sum a (Int32.ofNat 1) o (hf_sc (hf_xc h o (hf_xw XV W1)) s' SV) = some (x, hf_sc (hf_xc h o (hf_xw XV W1)) s' SV) := s1
      have s2' : spX4_summedBy (Int32.ofNat t) (Int32.ofNat 0) (hf_wv V1 U) = some (x, hf_skx (hf_wv V1 U) A y) := s2
      have M2 : hf_mq V (hf_skx (hf_wv V1 U) A y) := M1.trans (hf_mq.skx _ A y)
      rw [X.ob, w1', Option.bind_some, X1.ob, hob8, s1', hf_b2_some, u1, Option.bind_some, s2', hf_b2_some]
      by_cases hm : Int32.ofNat 0 < lg_cmp x most
      · rw [if_pos hm, if_pos hm, jX, jM]
        exact ⟨(some i, x, W1, hf_skx (hf_wv V1 U) A y), rfl, rfl, (p1.wv U).skx A y, M2, p3, fun k hk => by cases hk; exact ⟨hi, hc⟩⟩
      · rw [if_neg hm, if_neg hm, jX, jM]
        exact ⟨(best, most, W1, hf_skx (hf_wv V1 U) A y), rfl, rfl, (p1.wv U).skx A y, M2, p3, p4⟩
    · have hc' : ¬ (v' (10 + 5 * i + 3) = zst v' (v' (70 + 4 * b + 1)) (v' 3) ∧ zpr v' i ≤ v' (70 + 4 * b + 0)) := hc
      rw [if_neg hc', if_pos (by decide), if_pos (by decide), jX, jM]
      exact ⟨(best, most, W, V1), rfl, rfl, p1, p2, p3, p4⟩
  · obtain ⟨best, most, W, V1⟩ := z
    obtain ⟨p1, p2, p3, p4⟩ := hP
    simp only at p1 p2 p3 p4
    have X := hf_JJ.xx B W SV
    have F := hf_JJ.ff B W SV E
    refine ⟨best, hf_sc (hf_xc h o (hf_xw XV W)) s' SV, V1, ?_, ?_, ⟨W, SV, rfl, j2, Wf, E, p1, p2⟩, p3, p4⟩
    · show ndX0_wanted_9 (lpX0_wanted_9 n) _ _ _ _ _ _ _ _ = _
      unfold ndX0_wanted_9
      rw [X.ob, x_many X F, hf_b2_some, if_pos (z_yle (Nat.le_refl _) (by omega))]
    · show ndX4_nextFor_8 (lpX4_nextFor_8 n) _ _ _ _ _ _ = _
      unfold ndX4_nextFor_8
      rw [z_lit, p1.ld (i := 1) (by decide), Option.bind_some, if_pos (z_yle (Nat.le_refl _) (by omega))]
end ZX
